set_option maxRecDepth 100000
def X_commutes (x1 : Int32) (x2 : Int32) (σ : XS) : Option (Int32 × XS) := ((X_isItem x1).bind fun q1 => (if q1 = 0 then some ((-1 : Int32), σ) else ((X_isItem x2).bind fun q2 => (if q2 = 0 then some ((-1 : Int32), σ) else ((X_make 0 x1 σ).bind fun q3 => ((X_make 1 x2 q3).bind fun q4 => ((X_join 2 0 1 q4).bind fun q5 => ((X_tellsPair 2 (zI q5 5 (nI 0))).bind fun q6 => ((X_join 2 1 0 q6).bind fun q7 => ((X_tellsPair 2 q7).bind fun q8 => (if (nI 0) < 0 ∨ 128 ≤ (nI 0).toNatClampNeg then none else (if (nI 2) < 0 ∨ 128 ≤ (nI 2).toNatClampNeg then none else (if (lg_cmp (xB q8 0 (nI 0).toNatClampNeg) (xB q8 0 (nI 2).toNatClampNeg)) = 0 then (if (nI 1) < 0 ∨ 128 ≤ (nI 1).toNatClampNeg then none else (if (nI 3) < 0 ∨ 128 ≤ (nI 3).toNatClampNeg then none else (if (lg_cmp (xB q8 0 (nI 1).toNatClampNeg) (xB q8 0 (nI 3).toNatClampNeg)) = 0 then some ((nI 1), q8) else some ((nI 0), q8)))) else some ((nI 0), q8))))))))))))))
def X_powers_136 (k81 : Int32 → Int32 → Int32 → XS → Option (Int32 × XS)) (x2 : Int32) (x3 : Int32) (x4 : Int32) (σ : XS) : Option (Int32 × XS) := k81 x2 x3 (x4 + (-1 : Int32)) σ
def X_powers_81 : Nat → Int32 → Int32 → Int32 → XS → Option (Int32 × XS)
  | 0, _, _, _, _ => none
  | n + 1, x2, x3, x4, σ => (if x4 < 0 then ((X_tellsPair 2 (zI σ 5 (nI 0))).bind fun q7 => some (x3, q7)) else ((X_join 2 2 2 σ).bind fun q8 => (if ((x2 >>> (x4 &&& 31)) &&& (nI 1)) = 0 then X_powers_136 (X_powers_81 n) x2 (x3 + (nI 1)) x4 q8 else ((X_join 2 2 0 q8).bind fun q9 => X_powers_136 (X_powers_81 n) x2 ((x3 + (nI 1)) + (nI 1)) x4 q9))))
def X_powers_66 (x2 : Int32) (σ : XS) : Option (Int32 × XS) := ((Xi_numberOfLeadingZeros (if (nI 1) < x2 then x2 else (nI 1))).bind fun q6 => X_powers_81 FU x2 (nI 0) ((nI 30) - q6) σ)
def X_powers (x1 : Int32) (x2 : Int32) (σ : XS) : Option (Int32 × XS) := ((X_isItem x1).bind fun q1 => (if q1 = 0 then some ((-1 : Int32), σ) else ((X_in (x2.toInt64) (lN 0) (1000000000 : Int64)).bind fun q2 => (if q2 = 0 then some ((-1 : Int32), σ) else ((X_make 0 x1 σ).bind fun q3 => (if x2 = 0 then ((X_empty 2 q3).bind fun q5 => X_powers_66 x2 q5) else (if 0 < xN q3 then (if 0 < xN q3 then (if 2 < xN q3 then ((Xp_is 2 (rP (xC q3 0)) (rQ (xC q3 0)) q3).bind fun q4 => X_powers_66 x2 q4) else none) else none) else none)))))))
def X_order_109 (k41 : Int32 → XS → Option (Int32 × XS)) (k50 : Int32 → Int32 → XS → Option (Int32 × XS)) (x2 : Int32) (x3 : Int32) (σ : XS) : Option (Int32 × XS) := k50 x2 (x3 + (nI 1)) σ
def X_order_50 (k41 : Int32 → XS → Option (Int32 × XS)) : Nat → Int32 → Int32 → XS → Option (Int32 × XS)
  | 0, _, _, _ => none
  | n + 1, x2, x3, σ => (if (x2 - (nI 1)) ≤ x3 then (if 2 < xN σ then (if (x2 - (nI 1)) < 0 ∨ 128 ≤ (x2 - (nI 1)).toNatClampNeg then none else (if 2 < xN (zB σ 1 (x2 - (nI 1)).toNatClampNeg (rP (xC σ 2))) then (if (x2 - (nI 1)) < 0 ∨ 128 ≤ (x2 - (nI 1)).toNatClampNeg then none else ((X_join 2 2 0 (zB (zB σ 1 (x2 - (nI 1)).toNatClampNeg (rP (xC σ 2))) 2 (x2 - (nI 1)).toNatClampNeg (rQ (xC (zB σ 1 (x2 - (nI 1)).toNatClampNeg (rP (xC σ 2))) 2)))).bind fun q4 => k41 (x2 + (nI 1)) q4)) else none)) else none) else (if x3 < 0 ∨ 128 ≤ x3.toNatClampNeg then none else (if 2 < xN σ then (if (lg_cmp (xB σ 1 x3.toNatClampNeg) (rP (xC σ 2))) = 0 then (if x3 < 0 ∨ 128 ≤ x3.toNatClampNeg then none else (if 2 < xN σ then (if (lg_cmp (xB σ 2 x3.toNatClampNeg) (rQ (xC σ 2))) = 0 then ((X_tells ((x3 + (nI 1)).toInt64) (zI σ 5 (nI 0))).bind fun q5 => some (x2, q5)) else X_order_109 k41 (X_order_50 k41 n) x2 x3 σ) else none)) else X_order_109 k41 (X_order_50 k41 n) x2 x3 σ) else none)))
def X_order_41 : Nat → Int32 → XS → Option (Int32 × XS)
  | 0, _, _ => none
  | n + 1, x2, σ => (if (nI 128) < x2 then some ((-2 : Int32), σ) else X_order_50 (X_order_41 n) FU x2 (nI 0) σ)
def X_order (x1 : Int32) (σ : XS) : Option (Int32 × XS) := ((X_isItem x1).bind fun q1 => (if q1 = 0 then some ((-1 : Int32), σ) else ((X_make 0 x1 σ).bind fun q2 => (if 0 < xN q2 then (if 0 < xN q2 then (if 2 < xN q2 then ((Xp_is 2 (rP (xC q2 0)) (rQ (xC q2 0)) q2).bind fun q3 => X_order_41 FU (nI 1) q3) else none) else none) else none))))
def X_undoes_108 (k33 : Nat → Int32 → XS → Nat → Nat → Option (Int32 × XS)) (i2 : Nat) (x3 : Int32) (σ : XS) (u : Nat) (v : Nat) : Option (Int32 × XS) := k33 i2 (x3 + (nI 1)) σ u v
def X_undoes_33 : Nat → Nat → Int32 → XS → Nat → Nat → Option (Int32 × XS)
  | 0, _, _, _, _, _ => none
  | n + 1, i2, x3, σ, u, v => (if (nI 10000) ≤ x3 then some ((-2 : Int32), σ) else ((X_make 1 x3 σ).bind fun q5 => ((X_join 2 0 1 q5).bind fun q6 => (if 2 < xN q6 then ((Xp_isLike 2 i2 q6).bind fun q7 => (if q7.1 = 0 then X_undoes_108 (X_undoes_33 n) i2 x3 q7.2 u v else ((X_join 2 1 0 q7.2).bind fun q8 => (if 2 < xN q8 then ((Xp_isLike 2 i2 q8).bind fun q9 => (if q9.1 = 0 then X_undoes_108 (X_undoes_33 n) i2 x3 q9.2 u v else some (x3, q9.2))) else none)))) else none))))
def X_undoes (x1 : Int32) (σ : XS) : Option (Int32 × XS) := ((X_isItem x1).bind fun q1 => (if q1 = 0 then some ((-1 : Int32), σ) else (if VX σ ∧ 0 + 1 ≤ 1 ∧ 0 + 2 ≤ 2 then ((X_empty (xN σ) (zN σ (false, lN 0, lN 0, nI 0, none, nI 0, nI 0))).bind fun q3 => ((X_make 0 x1 q3).bind fun q4 => X_undoes_33 FU (xN σ) (nI 0) q4 (0 + 1) (0 + 2))) else none)))
def Xl_put_70 (i0 : Nat) (x1 : Int32) (i3 : Nat) (σ : XS) (u : Nat) (v : Nat) : Option (XS) := (if x1 < 0 ∨ 2 ≤ x1.toNatClampNeg then none else (if cellOk σ (some i3) = true then (if x1 < 0 ∨ 2 ≤ x1.toNatClampNeg then none else (if x1 < 0 ∨ 2 ≤ x1.toNatClampNeg then none else some (zL (zA (zT σ i0 x1.toNatClampNeg (some i3)) (5 + i0) x1.toNatClampNeg ((xA (zT σ i0 x1.toNatClampNeg (some i3)) (5 + i0) x1.toNatClampNeg) + (nI 1))) 0 ((xL (zA (zT σ i0 x1.toNatClampNeg (some i3)) (5 + i0) x1.toNatClampNeg ((xA (zT σ i0 x1.toNatClampNeg (some i3)) (5 + i0) x1.toNatClampNeg) + (nI 1))) 0) + (lN 1))))) else none))
def Xl_put (i0 : Nat) (x1 : Int32) (x2 : Int32) (σ : XS) : Option (XS) := (if VX σ ∧ 0 + 1 ≤ 1 ∧ 0 + 6 ≤ 6 then (if x1 < 0 ∨ 2 ≤ x1.toNatClampNeg then none else (if (xN σ) < xN (zN σ (true, lN 0, lN 0, nI 0, none, nI 0, nI 0)) ∧ rK (xC (zN σ (true, lN 0, lN 0, nI 0, none, nI 0, nI 0)) (xN σ)) = true then ((X_make (xN σ) x2 (zC (zN σ (true, lN 0, lN 0, nI 0, none, nI 0, nI 0)) (xN σ) (uB (uI (xC (zN σ (true, lN 0, lN 0, nI 0, none, nI 0, nI 0)) (xN σ)) x2) (xT (zN σ (true, lN 0, lN 0, nI 0, none, nI 0, nI 0)) i0 x1.toNatClampNeg)))).bind fun q2 => (if x1 < 0 ∨ 2 ≤ x1.toNatClampNeg then none else (oc (xT q2 i0 x1.toNatClampNeg) (Xl_put_70 i0 x1 (xN σ) q2 (0 + 1) (0 + 6)) fun i3 => (if x1 = 0 then (if x1 < 0 ∨ 2 ≤ x1.toNatClampNeg then none else ((X_join (xN σ) (xN σ) i3 q2).bind fun q5 => Xl_put_70 i0 x1 (xN σ) q5 (0 + 1) (0 + 6))) else (if x1 < 0 ∨ 2 ≤ x1.toNatClampNeg then none else ((X_join (xN σ) i3 (xN σ) q2).bind fun q4 => Xl_put_70 i0 x1 (xN σ) q4 (0 + 1) (0 + 6))))))) else none)) else none)
def X_puts (x1 : Int32) (x2 : Int32) (x3 : Int32) (σ : XS) : Option (Int32 × XS) := ((X_isLine x1).bind fun q1 => (if q1 = 0 then some ((-1 : Int32), σ) else ((X_isEnd x2).bind fun q2 => (if q2 = 0 then some ((-1 : Int32), σ) else ((X_isItem x3).bind fun q3 => (if q3 = 0 then some ((-1 : Int32), σ) else (if x1 < 0 ∨ 4 ≤ x1.toNatClampNeg then none else ((Xl_size x1.toNatClampNeg σ).bind fun q5 => (if q5.1 = (nI 64) then some ((-3 : Int32), q5.2) else (if 0 + 1 ≤ 1 ∧ 0 + 6 ≤ 6 then ((Xl_put x1.toNatClampNeg x2 x3 q5.2).bind fun q6 => ((Xl_size x1.toNatClampNeg q6).bind fun q8 => some (q8.1, q8.2))) else none))))))))))
def Xl_lays_r0_36 : Nat → Nat → Int32 → Int32 → Int32 → XS → Nat → Nat → Option (XS)
  | 0, _, _, _, _, _, _, _ => none
  | n + 1, i0, x2, x3, x5, σ, u, v => (if x3 ≤ x5 then some σ else (if (x2 + x5) < 0 ∨ 64 ≤ (x2 + x5).toNatClampNeg then none else (if u + 1 ≤ 64 ∧ v + 6 ≤ 384 then ((Xl_put i0 (nI 1) (xA σ 3 (x2 + x5).toNatClampNeg) σ).bind fun q4 => Xl_lays_r0_36 n i0 x2 x3 (x5 + (nI 1)) q4 (u + 1) (v + 6)) else none)))
def Xl_lays_r0_10 : Nat → Nat → Int32 → Int32 → Int32 → Int32 → XS → Nat → Nat → Option (XS)
  | 0, _, _, _, _, _, _, _, _ => none
  | n + 1, i0, x2, x3, x4, x5, σ, u, v => (if x5 < 0 then Xl_lays_r0_36 FU i0 x2 x3 x4 σ u v else (if (x2 + x5) < 0 ∨ 64 ≤ (x2 + x5).toNatClampNeg then none else (if u + 1 ≤ 64 ∧ v + 6 ≤ 384 then ((Xl_put i0 (nI 0) (xA σ 3 (x2 + x5).toNatClampNeg) σ).bind fun q2 => Xl_lays_r0_10 n i0 x2 x3 x4 (x5 + (-1 : Int32)) q2 (u + 1) (v + 6)) else none)))
def Xl_lays_r0 (i0 : Nat) (x2 : Int32) (x3 : Int32) (x4 : Int32) (σ : XS) : Option (XS) := ((Xl_empties i0 σ).bind fun q1 => Xl_lays_r0_10 FU i0 x2 x3 x4 (x4 - (nI 1)) q1 0 0)
def Xl_lays_r1_36 : Nat → Nat → Int32 → Int32 → Int32 → XS → Nat → Nat → Option (XS)
  | 0, _, _, _, _, _, _, _ => none
  | n + 1, i0, x2, x3, x5, σ, u, v => (if x3 ≤ x5 then some σ else (if (x2 + x5) < 0 ∨ 64 ≤ (x2 + x5).toNatClampNeg then none else (if u + 1 ≤ 64 ∧ v + 6 ≤ 384 then ((Xl_put i0 (nI 1) (xA σ 4 (x2 + x5).toNatClampNeg) σ).bind fun q4 => Xl_lays_r1_36 n i0 x2 x3 (x5 + (nI 1)) q4 (u + 1) (v + 6)) else none)))
def Xl_lays_r1_10 : Nat → Nat → Int32 → Int32 → Int32 → Int32 → XS → Nat → Nat → Option (XS)
  | 0, _, _, _, _, _, _, _, _ => none
  | n + 1, i0, x2, x3, x4, x5, σ, u, v => (if x5 < 0 then Xl_lays_r1_36 FU i0 x2 x3 x4 σ u v else (if (x2 + x5) < 0 ∨ 64 ≤ (x2 + x5).toNatClampNeg then none else (if u + 1 ≤ 64 ∧ v + 6 ≤ 384 then ((Xl_put i0 (nI 0) (xA σ 4 (x2 + x5).toNatClampNeg) σ).bind fun q2 => Xl_lays_r1_10 n i0 x2 x3 x4 (x5 + (-1 : Int32)) q2 (u + 1) (v + 6)) else none)))
def Xl_lays_r1 (i0 : Nat) (x2 : Int32) (x3 : Int32) (x4 : Int32) (σ : XS) : Option (XS) := ((Xl_empties i0 σ).bind fun q1 => Xl_lays_r1_10 FU i0 x2 x3 x4 (x4 - (nI 1)) q1 0 0)
def Xl_anew (i0 : Nat) (x1 : Int32) (σ : XS) : Option (XS) := (if 0 + 6 ≤ 70 ∧ 0 + 150 ≤ 534 then ((Xl_lay_r0 i0 σ).bind fun q1 => (if (0 + 6) + 64 ≤ 70 ∧ (0 + 150) + 384 ≤ 534 then ((Xl_lays_r0 i0 (nI 0) q1.1 x1 q1.2).bind fun q3 => some q3) else none)) else none)
def Xl_take_50 (i0 : Nat) (x1 : Int32) (σ : XS) (u : Nat) (v : Nat) : Option (Int32 × XS) := (if x1 < 0 ∨ 2 ≤ x1.toNatClampNeg then none else (oc (xT σ i0 x1.toNatClampNeg) none fun i4 => (if i4 < xN σ ∧ rK (xC σ i4) = true then (if x1 < 0 ∨ 2 ≤ x1.toNatClampNeg then none else (if cellOk σ (rB (xC σ i4)) = true then (if x1 < 0 ∨ 2 ≤ x1.toNatClampNeg then none else (if x1 < 0 ∨ 2 ≤ x1.toNatClampNeg then none else (if i4 < xN (zA (zT σ i0 x1.toNatClampNeg (rB (xC σ i4))) (5 + i0) x1.toNatClampNeg ((xA (zT σ i0 x1.toNatClampNeg (rB (xC σ i4))) (5 + i0) x1.toNatClampNeg) - (nI 1))) ∧ rK (xC (zA (zT σ i0 x1.toNatClampNeg (rB (xC σ i4))) (5 + i0) x1.toNatClampNeg ((xA (zT σ i0 x1.toNatClampNeg (rB (xC σ i4))) (5 + i0) x1.toNatClampNeg) - (nI 1))) i4) = true then some ((rI (xC (zA (zT σ i0 x1.toNatClampNeg (rB (xC σ i4))) (5 + i0) x1.toNatClampNeg ((xA (zT σ i0 x1.toNatClampNeg (rB (xC σ i4))) (5 + i0) x1.toNatClampNeg) - (nI 1))) i4)), (zA (zT σ i0 x1.toNatClampNeg (rB (xC σ i4))) (5 + i0) x1.toNatClampNeg ((xA (zT σ i0 x1.toNatClampNeg (rB (xC σ i4))) (5 + i0) x1.toNatClampNeg) - (nI 1)))) else none))) else none)) else none)))
def Xl_take_47 (i0 : Nat) (x1 : Int32) (y0 : Int32) (is1 : Nat) (σ : XS) (u : Nat) (v : Nat) : Option (Int32 × XS) := (if u + 70 ≤ 70 ∧ v + 534 ≤ 534 then ((Xl_anew is1 y0 σ).bind fun q2 => Xl_take_50 i0 x1 q2 (u + 70) (v + 534)) else none)
def Xl_take (i0 : Nat) (x1 : Int32) (σ : XS) : Option (Int32 × XS) := (if x1 < 0 ∨ 2 ≤ x1.toNatClampNeg then none else (if (xA σ (5 + i0) x1.toNatClampNeg) = 0 then ((Xl_size i0 σ).bind fun q1 => (if x1 = 0 then (if (nI 2) = 0 then none else Xl_take_47 i0 x1 ((q1.1 + (nI 1)) / (nI 2)) i0 (zI q1.2 3 ((xI q1.2 3) + (nI 1))) 0 0) else (if (nI 2) = 0 then none else Xl_take_47 i0 x1 (q1.1 - ((q1.1 + (nI 1)) / (nI 2))) i0 (zI q1.2 3 ((xI q1.2 3) + (nI 1))) 0 0))) else Xl_take_50 i0 x1 σ 0 0))
def X_takes (x1 : Int32) (x2 : Int32) (σ : XS) : Option (Int32 × XS) := ((X_isLine x1).bind fun q1 => (if q1 = 0 then some ((-1 : Int32), σ) else ((X_isEnd x2).bind fun q2 => (if q2 = 0 then some ((-1 : Int32), σ) else (if x1 < 0 ∨ 4 ≤ x1.toNatClampNeg then none else ((Xl_size x1.toNatClampNeg σ).bind fun q4 => (if q4.1 = 0 then some ((-2 : Int32), q4.2) else (if 0 + 70 ≤ 70 ∧ 0 + 534 ≤ 534 then ((Xl_take x1.toNatClampNeg x2 q4.2).bind fun q5 => ((X_tells ((xL (zI q5.2 5 (nI 0)) 0) - (xL q4.2 0)) (zI q5.2 5 (nI 0))).bind fun q7 => some (q5.1, q7))) else none))))))))
def X_joins_76 : Nat → Nat → Int64 → XS → Nat → Nat → Option (Int32 × XS)
  | 0, _, _, _, _, _ => none
  | n + 1, i3, x4, σ, u, v => ((Xl_size 4 σ).bind fun q8 => (if q8.1 ≤ 0 then ((X_tells ((xL (zI q8.2 5 (nI 0)) 0) - x4) (zI q8.2 5 (nI 0))).bind fun q9 => ((Xl_size i3 q9).bind fun q10 => some (q10.1, q10.2))) else (if u + 70 ≤ 4544 ∧ v + 534 ≤ 34560 then ((Xl_take 4 (nI 0) q8.2).bind fun q11 => (if (u + 70) + 1 ≤ 4544 ∧ (v + 534) + 6 ≤ 34560 then ((Xl_put i3 (nI 1) q11.1 q11.2).bind fun q13 => X_joins_76 n i3 x4 q13 ((u + 70) + 1) ((v + 534) + 6)) else none)) else none)))
def X_joins (x1 : Int32) (x2 : Int32) (σ : XS) : Option (Int32 × XS) := ((X_isLine x1).bind fun q1 => (if q1 = 0 then some ((-1 : Int32), σ) else ((X_isLine x2).bind fun q2 => (if q2 = 0 then some ((-1 : Int32), σ) else (if x1 < 0 ∨ 4 ≤ x1.toNatClampNeg then none else (if x2 < 0 ∨ 4 ≤ x2.toNatClampNeg then none else ((Xl_be 4 x2.toNatClampNeg σ).bind fun q5 => ((Xl_size x1.toNatClampNeg q5).bind fun q6 => ((Xl_size 4 q6.2).bind fun q7 => (if (q6.1 + q7.1) ≤ (nI 64) then X_joins_76 FU x1.toNatClampNeg (xL q7.2 0) q7.2 0 0 else some ((-3 : Int32), q7.2)))))))))))
def X_parts (x1 : Int32) (x2 : Int32) (x3 : Int32) (σ : XS) : Option (Int32 × XS) := ((X_isLine x1).bind fun q1 => (if q1 = 0 then some ((-1 : Int32), σ) else ((X_isLine x3).bind fun q2 => (if q2 = 0 then some ((-1 : Int32), σ) else (if 0 ≤ x2 then (if x1 = x3 then some ((-2 : Int32), σ) else (if x1 < 0 ∨ 4 ≤ x1.toNatClampNeg then none else ((Xl_size x1.toNatClampNeg σ).bind fun q4 => (if x2 ≤ q4.1 then (if 0 + 6 ≤ 134 ∧ 0 + 150 ≤ 918 then ((Xl_lay_r1 x1.toNatClampNeg q4.2).bind fun q5 => (if (nI 2) = 0 then none else (if (0 + 6) + 64 ≤ 134 ∧ (0 + 150) + 384 ≤ 918 then ((Xl_lays_r1 x1.toNatClampNeg (nI 0) x2 ((x2 + (nI 1)) / (nI 2)) q5.2).bind fun q7 => (if x3 < 0 ∨ 4 ≤ x3.toNatClampNeg then none else (if (nI 2) = 0 then none else (if ((0 + 6) + 64) + 64 ≤ 134 ∧ ((0 + 150) + 384) + 384 ≤ 918 then ((Xl_lays_r1 x3.toNatClampNeg x2 (q5.1 - x2) (((q5.1 - x2) + (nI 1)) / (nI 2)) q7).bind fun q10 => some ((q5.1 - x2), q10)) else none)))) else none))) else none) else some ((-3 : Int32), q4.2))))) else some ((-1 : Int32), σ))))))
def X_goesRound_19 : Nat → Nat → Int32 → Int32 → Int32 → XS → Nat → Nat → Option (Int32 × XS)
  | 0, _, _, _, _, _, _, _ => none
  | n + 1, i1, x2, x3, x4, σ, u, v => (if x2 ≤ x4 then (if u + 64 ≤ 70 ∧ v + 384 ≤ 534 then ((Xl_lays_r1 i1 (nI 0) x2 x3 σ).bind fun q3 => some (x2, q3)) else none) else (if ((x2 - (nI 1)) - x4) < 0 ∨ 64 ≤ ((x2 - (nI 1)) - x4).toNatClampNeg then none else (if x4 < 0 ∨ 64 ≤ x4.toNatClampNeg then none else X_goesRound_19 n i1 x2 x3 (x4 + (nI 1)) (zA σ 4 x4.toNatClampNeg (xA σ 3 ((x2 - (nI 1)) - x4).toNatClampNeg)) u v)))
def X_goesRound (i1 : Nat) (σ : XS) : Option (Int32 × XS) := (if 0 + 6 ≤ 70 ∧ 0 + 150 ≤ 534 then ((Xl_lay_r0 i1 σ).bind fun q1 => (if (nI 1) < 0 ∨ 2 ≤ (nI 1).toNatClampNeg then none else X_goesRound_19 FU i1 q1.1 (xA q1.2 (5 + i1) (nI 1).toNatClampNeg) (nI 0) q1.2 (0 + 6) (0 + 150))) else none)
def X_reverses (x1 : Int32) (σ : XS) : Option (Int32 × XS) := ((X_isLine x1).bind fun q1 => (if q1 = 0 then some ((-1 : Int32), σ) else (if x1 < 0 ∨ 4 ≤ x1.toNatClampNeg then none else (if 0 + 70 ≤ 70 ∧ 0 + 534 ≤ 534 then ((X_goesRound x1.toNatClampNeg σ).bind fun q3 => some (q3.1, q3.2)) else none))))
def Xl_puts0_r1_5 : Nat → Nat → Int32 → Int32 → XS → Nat → Nat → Option (XS)
  | 0, _, _, _, _, _, _ => none
  | n + 1, i0, x1, x4, σ, u, v => (if x4 < 0 then some σ else (if x4 < 0 ∨ 64 ≤ x4.toNatClampNeg then none else (if u + 1 ≤ 64 ∧ v + 6 ≤ 384 then ((Xl_put i0 x1 (xA σ 4 x4.toNatClampNeg) σ).bind fun q1 => Xl_puts0_r1_5 n i0 x1 (x4 + (-1 : Int32)) q1 (u + 1) (v + 6)) else none)))
def Xl_puts0_r1 (i0 : Nat) (x1 : Int32) (x2 : Int32) (σ : XS) : Option (XS) := Xl_puts0_r1_5 FU i0 x1 (x2 - (nI 1)) σ 0 0
def Xl_alters_110 (i0 : Nat) (x5 : Int32) (x6 : Int32) (x7 : Int32) (σ : XS) (u : Nat) (v : Nat) : Option (Int32 × XS) := (if u + 64 ≤ 65 ∧ v + 384 ≤ 390 then ((Xl_puts0_r1 i0 x5 x6 σ).bind fun q7 => some (x7, q7)) else none)
def Xl_alters_98 (i0 : Nat) (x3 : Int32) (x4 : Int32) (x5 : Int32) (x6 : Int32) (x7 : Int32) (σ : XS) (u : Nat) (v : Nat) : Option (Int32 × XS) := (if x3 = 0 then Xl_alters_110 i0 x5 x6 x7 σ u v else (if u + 1 ≤ 65 ∧ v + 6 ≤ 390 then ((Xl_put i0 x5 x4 σ).bind fun q5 => Xl_alters_110 i0 x5 x6 x7 q5 (u + 1) (v + 6)) else none))
def Xl_alters_34 (i0 : Nat) (x2 : Int32) (x3 : Int32) (x4 : Int32) (x5 : Int32) (y0 : Int32) (σ : XS) (u : Nat) (v : Nat) : Option (Int32 × XS) := ((Xl_lifts_r1 i0 x5 y0 σ).bind fun q3 => (if x2 = 0 then Xl_alters_98 i0 x3 x4 x5 y0 (-1 : Int32) q3 u v else (if x5 < 0 ∨ 2 ≤ x5.toNatClampNeg then none else (oc (xT q3 i0 x5.toNatClampNeg) none fun i4 => (if i4 < xN q3 ∧ rK (xC q3 i4) = true then (if x5 < 0 ∨ 2 ≤ x5.toNatClampNeg then none else (if i4 < xN q3 ∧ rK (xC q3 i4) = true then (if x5 < 0 ∨ 2 ≤ x5.toNatClampNeg then none else (if cellOk q3 (rB (xC q3 i4)) = true then (if x5 < 0 ∨ 2 ≤ x5.toNatClampNeg then none else (if x5 < 0 ∨ 2 ≤ x5.toNatClampNeg then none else Xl_alters_98 i0 x3 x4 x5 y0 (rI (xC q3 i4)) (zA (zT q3 i0 x5.toNatClampNeg (rB (xC q3 i4))) (5 + i0) x5.toNatClampNeg ((xA (zT q3 i0 x5.toNatClampNeg (rB (xC q3 i4))) (5 + i0) x5.toNatClampNeg) - (nI 1))) u v)) else none)) else none)) else none)))))
def Xl_alters_33 (i0 : Nat) (x2 : Int32) (x3 : Int32) (x4 : Int32) (x5 : Int32) (y0 : Int32) (y1 : Int32) (σ : XS) (u : Nat) (v : Nat) : Option (Int32 × XS) := Xl_alters_34 i0 x2 x3 x4 x5 (y1 + y0) σ u v
def Xl_alters (i0 : Nat) (x1 : Int32) (x2 : Int32) (x3 : Int32) (x4 : Int32) (σ : XS) : Option (Int32 × XS) := ((Xl_endOf i0 x1 σ).bind fun q1 => (if q1.1 = 0 then Xl_alters_34 i0 x2 x3 x4 q1.1 x1 q1.2 0 0 else ((Xl_size i0 q1.2).bind fun q2 => (if x2 = 0 then Xl_alters_33 i0 x2 x3 x4 q1.1 (nI 1) ((q2.1 - (nI 1)) - x1) q2.2 0 0 else Xl_alters_33 i0 x2 x3 x4 q1.1 (nI 0) ((q2.1 - (nI 1)) - x1) q2.2 0 0))))
def X_changes (x1 : Int32) (x2 : Int32) (x3 : Int32) (σ : XS) : Option (Int32 × XS) := ((X_isLine x1).bind fun q1 => (if q1 = 0 then some ((-1 : Int32), σ) else ((X_isItem x3).bind fun q2 => (if q2 = 0 then some ((-1 : Int32), σ) else (if x1 < 0 ∨ 4 ≤ x1.toNatClampNeg then none else ((Xl_size x1.toNatClampNeg σ).bind fun q4 => ((X_in (x2.toInt64) (lN 0) ((q4.1 - (nI 1)).toInt64)).bind fun q5 => (if q5 = 0 then some ((-2 : Int32), q4.2) else (if 0 + 6 ≤ 71 ∧ 0 + 150 ≤ 540 then ((Xl_lay_r0 x1.toNatClampNeg q4.2).bind fun q6 => (if x2 < 0 ∨ 64 ≤ x2.toNatClampNeg then none else (if (xA q6.2 3 x2.toNatClampNeg) = x3 then some ((-4 : Int32), q6.2) else (if (0 + 6) + 65 ≤ 71 ∧ (0 + 150) + 390 ≤ 540 then ((Xl_alters x1.toNatClampNeg x2 (nI 1) (nI 1) x3 q6.2).bind fun q8 => ((X_tellsWork (xL q6.2 0) q8.2).bind fun q10 => some (q8.1, q10))) else none)))) else none)))))))))
def X_slips (x1 : Int32) (x2 : Int32) (x3 : Int32) (σ : XS) : Option (Int32 × XS) := ((X_isLine x1).bind fun q1 => (if q1 = 0 then some ((-1 : Int32), σ) else ((X_isItem x3).bind fun q2 => (if q2 = 0 then some ((-1 : Int32), σ) else (if x1 < 0 ∨ 4 ≤ x1.toNatClampNeg then none else ((Xl_size x1.toNatClampNeg σ).bind fun q4 => ((X_in (x2.toInt64) (lN 0) (q4.1.toInt64)).bind fun q5 => (if q5 = 0 then some ((-2 : Int32), q4.2) else ((Xl_size x1.toNatClampNeg q4.2).bind fun q6 => (if q6.1 = (nI 64) then some ((-3 : Int32), q6.2) else (if 0 + 65 ≤ 65 ∧ 0 + 390 ≤ 390 then ((Xl_alters x1.toNatClampNeg x2 (nI 0) (nI 1) x3 q6.2).bind fun q7 => ((X_tellsWork (xL q6.2 0) q7.2).bind fun q9 => ((Xl_size x1.toNatClampNeg q9).bind fun q10 => some (q10.1, q10.2)))) else none)))))))))))
def X_drops (x1 : Int32) (x2 : Int32) (σ : XS) : Option (Int32 × XS) := ((X_isLine x1).bind fun q1 => (if q1 = 0 then some ((-1 : Int32), σ) else (if x1 < 0 ∨ 4 ≤ x1.toNatClampNeg then none else ((Xl_size x1.toNatClampNeg σ).bind fun q3 => ((X_in (x2.toInt64) (lN 0) ((q3.1 - (nI 1)).toInt64)).bind fun q4 => (if q4 = 0 then some ((-2 : Int32), q3.2) else (if 0 + 65 ≤ 65 ∧ 0 + 390 ≤ 390 then ((Xl_alters x1.toNatClampNeg x2 (nI 1) (nI 0) (nI 0) q3.2).bind fun q5 => ((X_tellsWork (xL q3.2 0) q5.2).bind fun q7 => some (q5.1, q7))) else none)))))))
def Xl_sums_75 (i0 : Nat) (i1 : Nat) (σ : XS) : Option (XS) := (if (nI 1) < 0 ∨ 2 ≤ (nI 1).toNatClampNeg then none else (oc (xT σ i0 (nI 1).toNatClampNeg) (some σ) fun i7 => (if (nI 1) < 0 ∨ 2 ≤ (nI 1).toNatClampNeg then none else (if i7 < xN σ ∧ rK (xC σ i7) = true then (if (nI 1) < 0 ∨ 2 ≤ (nI 1).toNatClampNeg then none else (if i7 < xN σ ∧ rK (xC σ i7) = true then (if i1 < xN σ then ((Xp_is i1 (rP (xC σ i7)) (rQ (xC σ i7)) σ).bind fun q8 => some q8) else none) else none)) else none))))
def Xl_sums_39 (i0 : Nat) (i1 : Nat) (σ : XS) : Option (XS) := (if (nI 1) < 0 ∨ 2 ≤ (nI 1).toNatClampNeg then none else (oc (xT σ i0 (nI 1).toNatClampNeg) (Xl_sums_75 i0 i1 σ) fun i4 => (if (nI 0) < 0 ∨ 2 ≤ (nI 0).toNatClampNeg then none else (oc (xT σ i0 (nI 0).toNatClampNeg) (Xl_sums_75 i0 i1 σ) fun i5 => (if (nI 1) < 0 ∨ 2 ≤ (nI 1).toNatClampNeg then none else ((X_join i1 i1 i4 σ).bind fun q6 => some q6))))))
def Xl_sums (i0 : Nat) (i1 : Nat) (σ : XS) : Option (XS) := ((X_empty i1 σ).bind fun q1 => (if (nI 0) < 0 ∨ 2 ≤ (nI 0).toNatClampNeg then none else (oc (xT q1 i0 (nI 0).toNatClampNeg) (Xl_sums_39 i0 i1 q1) fun i2 => (if (nI 0) < 0 ∨ 2 ≤ (nI 0).toNatClampNeg then none else (if i2 < xN q1 ∧ rK (xC q1 i2) = true then (if (nI 0) < 0 ∨ 2 ≤ (nI 0).toNatClampNeg then none else (if i2 < xN q1 ∧ rK (xC q1 i2) = true then (if i1 < xN q1 then ((Xp_is i1 (rP (xC q1 i2)) (rQ (xC q1 i2)) q1).bind fun q3 => Xl_sums_39 i0 i1 q3) else none) else none)) else none)))))
def X_shifts_63 : Nat → Int32 → Int32 → Nat → Int64 → Int32 → XS → Nat → Nat → Option (Int32 × XS)
  | 0, _, _, _, _, _, _, _, _ => none
  | n + 1, x2, x3, i4, x5, x7, σ, u, v => (if x3 ≤ x7 then ((Xl_sums i4 2 σ).bind fun q6 => ((X_tellsPair 2 (zI q6 5 (nI 0))).bind fun q7 => some ((((xL q7 0) - x5).toInt32), q7))) else (if u + 70 ≤ 4544 ∧ v + 534 ≤ 34560 then ((Xl_take i4 x2 σ).bind fun q8 => (if (u + 70) + 1 ≤ 4544 ∧ (v + 534) + 6 ≤ 34560 then ((Xl_put i4 ((nI 1) - x2) q8.1 q8.2).bind fun q10 => X_shifts_63 n x2 x3 i4 x5 (x7 + (nI 1)) q10 ((u + 70) + 1) ((v + 534) + 6)) else none)) else none))
def X_shifts (x1 : Int32) (x2 : Int32) (x3 : Int32) (σ : XS) : Option (Int32 × XS) := ((X_isLine x1).bind fun q1 => (if q1 = 0 then some ((-1 : Int32), σ) else ((X_isEnd x2).bind fun q2 => (if q2 = 0 then some ((-1 : Int32), σ) else ((X_in (x3.toInt64) (lN 1) (64 : Int64)).bind fun q3 => (if q3 = 0 then some ((-1 : Int32), σ) else (if x1 < 0 ∨ 4 ≤ x1.toNatClampNeg then none else ((Xl_size x1.toNatClampNeg σ).bind fun q5 => (if q5.1 = 0 then some ((-2 : Int32), q5.2) else X_shifts_63 FU x2 x3 x1.toNatClampNeg (xL q5.2 0) (nI 0) q5.2 0 0)))))))))
def X_does_59 (x3 : Int32) (y0 : Int32) (is1 : Nat) (σ : XS) (u : Nat) (v : Nat) : Option (Int32 × XS) := (if u + 1 ≤ 70 ∧ v + 6 ≤ 534 then ((Xl_put is1 y0 x3 σ).bind fun q7 => some ((nI 1), q7)) else none)
def X_does_36 (i1 : Nat) (x2 : Int32) (x3 : Int32) (σ : XS) (u : Nat) (v : Nat) : Option (Int32 × XS) := ((Xl_size i1 σ).bind fun q6 => (if q6.1 = (nI 64) then some ((nI 0), q6.2) else (if x2 = (nI 102) then X_does_59 x3 (nI 0) i1 q6.2 u v else X_does_59 x3 (nI 1) i1 q6.2 u v)))
def X_does_94 (y0 : Int32) (is1 : Nat) (σ : XS) (u : Nat) (v : Nat) : Option (Int32 × XS) := (if u + 70 ≤ 70 ∧ v + 534 ≤ 534 then ((Xl_take is1 y0 σ).bind fun q4 => some ((nI 1), q4.2)) else none)
def X_does (i1 : Nat) (x2 : Int32) (x3 : Int32) (σ : XS) : Option (Int32 × XS) := (if x2 = (nI 98) then X_does_36 i1 x2 x3 σ 0 0 else (if x2 = (nI 102) then X_does_36 i1 x2 x3 σ 0 0 else (if x2 = (nI 114) then (if 0 + 70 ≤ 70 ∧ 0 + 534 ≤ 534 then ((X_goesRound i1 σ).bind fun q1 => some ((nI 1), q1.2)) else none) else ((Xl_size i1 σ).bind fun q3 => (if q3.1 = 0 then some ((nI 0), q3.2) else (if x2 = (nI 70) then X_does_94 (nI 0) i1 q3.2 0 0 else X_does_94 (nI 1) i1 q3.2 0 0))))))
def X_sum (x1 : Int32) (σ : XS) : Option (Int32 × XS) := ((X_isLine x1).bind fun q1 => (if q1 = 0 then some ((-1 : Int32), σ) else (if x1 < 0 ∨ 4 ≤ x1.toNatClampNeg then none else ((Xl_sums x1.toNatClampNeg 2 σ).bind fun q3 => ((X_tellsPair 2 (zI q3 5 (nI 0))).bind fun q4 => (if x1 < 0 ∨ 4 ≤ x1.toNatClampNeg then none else ((Xl_size x1.toNatClampNeg q4).bind fun q6 => some (q6.1, q6.2))))))))
def X_folds_r0_8 : Nat → Nat → Int32 → Int32 → XS → Option (XS)
  | 0, _, _, _, _ => none
  | n + 1, i1, x4, x5, σ => (if x4 ≤ x5 then some σ else (if x5 < 0 ∨ 64 ≤ x5.toNatClampNeg then none else ((X_make 0 (xA σ 3 x5.toNatClampNeg) σ).bind fun q2 => ((X_join i1 i1 0 q2).bind fun q3 => X_folds_r0_8 n i1 x4 (x5 + (nI 1)) q3))))
def X_folds_r0 (i1 : Nat) (x3 : Int32) (x4 : Int32) (σ : XS) : Option (XS) := ((X_empty i1 σ).bind fun q1 => X_folds_r0_8 FU i1 x4 x3 q1)
def X_part (x1 : Int32) (x2 : Int32) (x3 : Int32) (σ : XS) : Option (Int32 × XS) := ((X_isLine x1).bind fun q1 => (if q1 = 0 then some ((-1 : Int32), σ) else (if x2 < 0 then some ((-2 : Int32), σ) else (if x3 < x2 then some ((-2 : Int32), σ) else (if x1 < 0 ∨ 4 ≤ x1.toNatClampNeg then none else ((Xl_size x1.toNatClampNeg σ).bind fun q3 => (if x3 ≤ q3.1 then (if x1 < 0 ∨ 4 ≤ x1.toNatClampNeg then none else (if 0 + 6 ≤ 6 ∧ 0 + 150 ≤ 150 then ((Xl_lay_r0 x1.toNatClampNeg q3.2).bind fun q5 => ((X_folds_r0 2 x2 x3 q5.2).bind fun q7 => ((X_tellsPair 2 (zI q7 5 (nI 0))).bind fun q8 => some ((x3 - x2), q8)))) else none)) else some ((-2 : Int32), q3.2))))))))
def X_windows_147 (k73 : Int32 → Int32 → Int64 → Int32 → Int32 → XS → Nat → Nat → Option (Int32 × XS)) (x2 : Int32) (x3 : Int32) (x4 : Int64) (x6 : Int32) (x7 : Int32) (σ : XS) (u : Nat) (v : Nat) : Option (Int32 × XS) := k73 x2 x3 x4 x6 (x7 + (nI 1)) σ u v
def X_windows_114 (k73 : Int32 → Int32 → Int64 → Int32 → Int32 → XS → Nat → Nat → Option (Int32 × XS)) (x2 : Int32) (x3 : Int32) (x4 : Int64) (x6 : Int32) (x7 : Int32) (σ : XS) (u : Nat) (v : Nat) : Option (Int32 × XS) := ((Xl_size 4 σ).bind fun q12 => (if x2 ≤ q12.1 then ((Xl_sums 4 2 q12.2).bind fun q13 => ((X_tellsPair 2 q13).bind fun q14 => X_windows_147 k73 x2 x3 x4 x6 x7 q14 u v)) else X_windows_147 k73 x2 x3 x4 x6 x7 q12.2 u v))
def X_windows_73 : Nat → Int32 → Int32 → Int64 → Int32 → Int32 → XS → Nat → Nat → Option (Int32 × XS)
  | 0, _, _, _, _, _, _, _, _ => none
  | n + 1, x2, x3, x4, x6, x7, σ, u, v => (if x3 ≤ x7 then some (((x3 - x2) + (nI 1)), (zI (zL σ 0 x4) 3 x6)) else (if x7 < 0 ∨ 64 ≤ x7.toNatClampNeg then none else (if u + 1 ≤ 4560 ∧ v + 6 ≤ 34800 then ((Xl_put 4 (nI 1) (xA σ 4 x7.toNatClampNeg) σ).bind fun q7 => ((Xl_size 4 q7).bind fun q9 => (if q9.1 ≤ x2 then X_windows_114 (X_windows_73 n) x2 x3 x4 x6 x7 q9.2 (u + 1) (v + 6) else (if (u + 1) + 70 ≤ 4560 ∧ (v + 6) + 534 ≤ 34800 then ((Xl_take 4 (nI 0) q9.2).bind fun q10 => X_windows_114 (X_windows_73 n) x2 x3 x4 x6 x7 q10.2 ((u + 1) + 70) ((v + 6) + 534)) else none)))) else none)))
def X_windows (x1 : Int32) (x2 : Int32) (σ : XS) : Option (Int32 × XS) := ((X_isLine x1).bind fun q1 => (if q1 = 0 then some ((-1 : Int32), σ) else ((X_isWindow x2 σ).bind fun q2 => (if q2.1 = 0 then some ((-1 : Int32), q2.2) else (if x1 < 0 ∨ 4 ≤ x1.toNatClampNeg then none else (if 0 + 6 ≤ 4560 ∧ 0 + 150 ≤ 34800 then ((Xl_lay_r1 x1.toNatClampNeg q2.2).bind fun q4 => (if x2 ≤ q4.1 then ((Xl_empties 4 q4.2).bind fun q6 => X_windows_73 FU x2 q4.1 (xL q4.2 0) (xI q4.2 3) (nI 0) (zI q6 5 (nI 0)) (0 + 6) (0 + 150)) else some ((-2 : Int32), q4.2))) else none))))))
def X_first_41 : Nat → Int32 → Int32 → Int32 → XS → Nat → Nat → Option (Int32 × XS)
  | 0, _, _, _, _, _, _ => none
  | n + 1, x2, x3, x4, σ, u, v => (if x3 ≤ x4 then some ((-2 : Int32), σ) else (if x4 < 0 ∨ 64 ≤ x4.toNatClampNeg then none else ((X_make 0 (xA σ 3 x4.toNatClampNeg) σ).bind fun q6 => ((X_join 2 2 0 q6).bind fun q7 => (if 2 < xN q7 then (if 0 ≤ (lg_cmp (rP (xC q7 2)) (x2.toInt64)) then ((X_tellsPair 2 (zI q7 5 (nI 0))).bind fun q8 => some ((x4 + (nI 1)), q8)) else X_first_41 n x2 x3 (x4 + (nI 1)) q7 u v) else none)))))
def X_first (x1 : Int32) (x2 : Int32) (σ : XS) : Option (Int32 × XS) := ((X_isLine x1).bind fun q1 => (if q1 = 0 then some ((-1 : Int32), σ) else (if x1 < 0 ∨ 4 ≤ x1.toNatClampNeg then none else (if 0 + 6 ≤ 6 ∧ 0 + 150 ≤ 150 then ((Xl_lay_r0 x1.toNatClampNeg σ).bind fun q3 => ((X_empty 2 q3.2).bind fun q5 => X_first_41 FU x2 q3.1 (nI 0) q5 (0 + 6) (0 + 150))) else none))))
def X_longest_135 (k39 : Int32 → Int32 → Int32 → Int32 → Int32 → XS → Nat → Nat → Option (Int32 × XS)) (k57 : Int32 → Int32 → Int32 → Int32 → Int32 → Int32 → XS → Nat → Nat → Option (Int32 × XS)) (x2 : Int32) (x3 : Int32) (x4 : Int32) (x5 : Int32) (x6 : Int32) (x7 : Int32) (σ : XS) (u : Nat) (v : Nat) : Option (Int32 × XS) := k57 x2 x3 x4 x5 x6 (x7 + (nI 1)) σ u v
def X_longest_57 (k39 : Int32 → Int32 → Int32 → Int32 → Int32 → XS → Nat → Nat → Option (Int32 × XS)) : Nat → Int32 → Int32 → Int32 → Int32 → Int32 → Int32 → XS → Nat → Nat → Option (Int32 × XS)
  | 0, _, _, _, _, _, _, _, _, _ => none
  | n + 1, x2, x3, x4, x5, x6, x7, σ, u, v => (if x3 ≤ x7 then k39 x2 x3 x4 x5 (x6 + (nI 1)) σ u v else (if x7 < 0 ∨ 64 ≤ x7.toNatClampNeg then none else ((X_make 0 (xA σ 3 x7.toNatClampNeg) σ).bind fun q7 => ((X_join 2 2 0 q7).bind fun q8 => (if 2 < xN q8 then (if 0 < (lg_cmp (rP (xC q8 2)) (x2.toInt64)) then X_longest_135 k39 (X_longest_57 k39 n) x2 x3 x4 x5 x6 x7 q8 u v else (if x4 < ((x7 + (nI 1)) - x6) then X_longest_135 k39 (X_longest_57 k39 n) x2 x3 ((x7 + (nI 1)) - x6) x6 x6 x7 q8 u v else X_longest_135 k39 (X_longest_57 k39 n) x2 x3 x4 x5 x6 x7 q8 u v)) else none)))))
def X_longest_39 : Nat → Int32 → Int32 → Int32 → Int32 → Int32 → XS → Nat → Nat → Option (Int32 × XS)
  | 0, _, _, _, _, _, _, _, _ => none
  | n + 1, x2, x3, x4, x5, x6, σ, u, v => (if x3 ≤ x6 then ((X_tells (x5.toInt64) (zI σ 5 (nI 0))).bind fun q5 => some (x4, q5)) else ((X_empty 2 σ).bind fun q6 => X_longest_57 (X_longest_39 n) FU x2 x3 x4 x5 x6 x6 q6 u v))
def X_longest (x1 : Int32) (x2 : Int32) (σ : XS) : Option (Int32 × XS) := ((X_isLine x1).bind fun q1 => (if q1 = 0 then some ((-1 : Int32), σ) else (if x1 < 0 ∨ 4 ≤ x1.toNatClampNeg then none else (if 0 + 6 ≤ 6 ∧ 0 + 150 ≤ 150 then ((Xl_lay_r0 x1.toNatClampNeg σ).bind fun q3 => X_longest_39 FU x2 q3.1 (nI 0) (-1 : Int32) (nI 0) q3.2 (0 + 6) (0 + 150)) else none))))
def X_greatest_116 (k55 : Int32 → Int32 → Int32 → Int64 → Int32 → XS → Nat → Nat → Option (Int32 × XS)) (x2 : Int32) (x3 : Int32) (x4 : Int32) (x5 : Int64) (x7 : Int32) (σ : XS) (u : Nat) (v : Nat) : Option (Int32 × XS) := k55 x2 x3 x4 x5 (x7 + (nI 1)) σ u v
def X_greatest_103 (k55 : Int32 → Int32 → Int32 → Int64 → Int32 → XS → Nat → Nat → Option (Int32 × XS)) (x2 : Int32) (x3 : Int32) (x7 : Int32) (σ : XS) (u : Nat) (v : Nat) : Option (Int32 × XS) := (if 2 < xN σ then X_greatest_116 k55 x2 x3 x7 (rQ (xC σ 2)) x7 σ u v else none)
def X_greatest_55 : Nat → Int32 → Int32 → Int32 → Int64 → Int32 → XS → Nat → Nat → Option (Int32 × XS)
  | 0, _, _, _, _, _, _, _, _ => none
  | n + 1, x2, x3, x4, x5, x7, σ, u, v => (if x3 < (x7 + x2) then ((X_folds_r0 2 x4 (x4 + x2) σ).bind fun q6 => ((X_tellsPair 2 (zI q6 5 (nI 0))).bind fun q7 => some (x4, q7))) else ((X_folds_r0 2 x7 (x7 + x2) σ).bind fun q8 => (if x4 = (-1 : Int32) then X_greatest_103 (X_greatest_55 n) x2 x3 x7 q8 u v else (if 2 < xN q8 then (if 0 < (lg_cmp (rQ (xC q8 2)) x5) then X_greatest_103 (X_greatest_55 n) x2 x3 x7 q8 u v else X_greatest_116 (X_greatest_55 n) x2 x3 x4 x5 x7 q8 u v) else none))))
def X_greatest (x1 : Int32) (x2 : Int32) (σ : XS) : Option (Int32 × XS) := ((X_isLine x1).bind fun q1 => (if q1 = 0 then some ((-1 : Int32), σ) else ((X_isWindow x2 σ).bind fun q2 => (if q2.1 = 0 then some ((-1 : Int32), q2.2) else (if x1 < 0 ∨ 4 ≤ x1.toNatClampNeg then none else (if 0 + 6 ≤ 6 ∧ 0 + 150 ≤ 150 then ((Xl_lay_r0 x1.toNatClampNeg q2.2).bind fun q4 => (if x2 ≤ q4.1 then X_greatest_55 FU x2 q4.1 (-1 : Int32) (lN 0) (nI 0) q4.2 (0 + 6) (0 + 150) else some ((-2 : Int32), q4.2))) else none))))))
def X_finds_125 (k34 : Int32 → Int32 → Int32 → Int32 → XS → Nat → Nat → Option (Int32 × XS)) (k50 : Int32 → Int32 → Int32 → Int32 → Int32 → Int32 → Int32 → XS → Nat → Nat → Option (Int32 × XS)) (x2 : Int32) (x3 : Int32) (x4 : Int32) (x5 : Int32) (x6 : Int32) (x7 : Int32) (x8 : Int32) (σ : XS) (u : Nat) (v : Nat) : Option (Int32 × XS) := k50 x2 x3 x4 x5 x6 x7 (x8 + (nI 1)) σ u v
def X_finds_120 (k34 : Int32 → Int32 → Int32 → Int32 → XS → Nat → Nat → Option (Int32 × XS)) (k50 : Int32 → Int32 → Int32 → Int32 → Int32 → Int32 → Int32 → XS → Nat → Nat → Option (Int32 × XS)) (x2 : Int32) (x3 : Int32) (x4 : Int32) (x5 : Int32) (x7 : Int32) (x8 : Int32) (y0 : Int32) (σ : XS) (u : Nat) (v : Nat) : Option (Int32 × XS) := X_finds_125 k34 k50 x2 x3 x4 x5 y0 (x7 + (nI 1)) x8 σ u v
def X_finds_50 (k34 : Int32 → Int32 → Int32 → Int32 → XS → Nat → Nat → Option (Int32 × XS)) : Nat → Int32 → Int32 → Int32 → Int32 → Int32 → Int32 → Int32 → XS → Nat → Nat → Option (Int32 × XS)
  | 0, _, _, _, _, _, _, _, _, _, _ => none
  | n + 1, x2, x3, x4, x5, x6, x7, x8, σ, u, v => (if x4 < (x8 + x5) then (if x7 = 0 then k34 x2 x3 x4 (x5 + (nI 1)) σ u v else ((X_tells (x6.toInt64) (zI σ 5 (nI 0))).bind fun q5 => ((X_tells (x7.toInt64) q5).bind fun q6 => some (x5, q6)))) else ((X_folds_r0 2 x8 (x8 + x5) σ).bind fun q7 => (if 2 < xN q7 then (if (lg_cmp (rP (xC q7 2)) (x2.toInt64)) = 0 then (if 2 < xN q7 then (if (lg_cmp (rQ (xC q7 2)) (x3.toInt64)) = 0 then (if x7 = 0 then X_finds_120 k34 (X_finds_50 k34 n) x2 x3 x4 x5 x7 x8 x8 q7 u v else X_finds_120 k34 (X_finds_50 k34 n) x2 x3 x4 x5 x7 x8 x6 q7 u v) else X_finds_125 k34 (X_finds_50 k34 n) x2 x3 x4 x5 x6 x7 x8 q7 u v) else none) else X_finds_125 k34 (X_finds_50 k34 n) x2 x3 x4 x5 x6 x7 x8 q7 u v) else none)))
def X_finds_34 : Nat → Int32 → Int32 → Int32 → Int32 → XS → Nat → Nat → Option (Int32 × XS)
  | 0, _, _, _, _, _, _, _ => none
  | n + 1, x2, x3, x4, x5, σ, u, v => (if x4 < x5 then some ((-2 : Int32), σ) else X_finds_50 (X_finds_34 n) FU x2 x3 x4 x5 (-1 : Int32) (nI 0) (nI 0) σ u v)
def X_finds (x1 : Int32) (x2 : Int32) (x3 : Int32) (σ : XS) : Option (Int32 × XS) := ((X_isLine x1).bind fun q1 => (if q1 = 0 then some ((-1 : Int32), σ) else (if x1 < 0 ∨ 4 ≤ x1.toNatClampNeg then none else (if 0 + 6 ≤ 6 ∧ 0 + 150 ≤ 150 then ((Xl_lay_r0 x1.toNatClampNeg σ).bind fun q3 => X_finds_34 FU x2 x3 q3.1 (nI 1) q3.2 (0 + 6) (0 + 150)) else none))))
def X_unlike_198 (k118 : Int32 → Int32 → Int32 → Int32 → Int32 → XS → Nat → Nat → Option (Int32 × XS)) (k133 : Int32 → Int32 → Int32 → Int32 → Int32 → Int32 → Int32 → Int32 → XS → Nat → Nat → Option (Int32 × XS)) (x2 : Int32) (x3 : Int32) (x4 : Int32) (x5 : Int32) (x6 : Int32) (x7 : Int32) (x8 : Int32) (x9 : Int32) (σ : XS) (u : Nat) (v : Nat) : Option (Int32 × XS) := k133 x2 x3 x4 x5 x6 x7 x8 (x9 + (nI 1)) σ u v
def X_unlike_195 (k118 : Int32 → Int32 → Int32 → Int32 → Int32 → XS → Nat → Nat → Option (Int32 × XS)) (k133 : Int32 → Int32 → Int32 → Int32 → Int32 → Int32 → Int32 → Int32 → XS → Nat → Nat → Option (Int32 × XS)) (x2 : Int32) (x3 : Int32) (x4 : Int32) (x5 : Int32) (x6 : Int32) (x8 : Int32) (x9 : Int32) (y0 : Int32) (y1 : Int32) (σ : XS) (u : Nat) (v : Nat) : Option (Int32 × XS) := X_unlike_198 k118 k133 x2 x3 x4 x5 x6 (y1 + y0) x8 x9 σ u v
def X_unlike_235 (k118 : Int32 → Int32 → Int32 → Int32 → Int32 → XS → Nat → Nat → Option (Int32 × XS)) (x2 : Int32) (x3 : Int32) (x4 : Int32) (x5 : Int32) (x6 : Int32) (σ : XS) (u : Nat) (v : Nat) : Option (Int32 × XS) := k118 x2 x3 x4 x5 (x6 + (nI 1)) σ u v
def X_unlike_215 (k118 : Int32 → Int32 → Int32 → Int32 → Int32 → XS → Nat → Nat → Option (Int32 × XS)) (x2 : Int32) (x4 : Int32) (x5 : Int32) (x6 : Int32) (x8 : Int32) (y0 : Int32) (y1 : Int32) (σ : XS) (u : Nat) (v : Nat) : Option (Int32 × XS) := (if x5 < x8 then X_unlike_235 k118 x2 (y1 + y0) x6 x8 x6 σ u v else X_unlike_235 k118 x2 (y1 + y0) x4 x5 x6 σ u v)
def X_unlike_133 (k118 : Int32 → Int32 → Int32 → Int32 → Int32 → XS → Nat → Nat → Option (Int32 × XS)) : Nat → Int32 → Int32 → Int32 → Int32 → Int32 → Int32 → Int32 → Int32 → XS → Nat → Nat → Option (Int32 × XS)
  | 0, _, _, _, _, _, _, _, _, _, _, _ => none
  | n + 1, x2, x3, x4, x5, x6, x7, x8, x9, σ, u, v => (if x2 ≤ x9 then (if x7 = 0 then X_unlike_215 k118 x2 x4 x5 x6 x8 (nI 1) x3 σ u v else X_unlike_215 k118 x2 x4 x5 x6 x8 (nI 0) x3 σ u v) else (if x9 < 0 ∨ 64 ≤ x9.toNatClampNeg then none else (if x6 < 0 ∨ 64 ≤ x6.toNatClampNeg then none else (if (lg_cmp (xB σ 3 x9.toNatClampNeg) (xB σ 3 x6.toNatClampNeg)) = 0 then (if x9 < 0 ∨ 64 ≤ x9.toNatClampNeg then none else (if x6 < 0 ∨ 64 ≤ x6.toNatClampNeg then none else (if (lg_cmp (xB σ 4 x9.toNatClampNeg) (xB σ 4 x6.toNatClampNeg)) = 0 then (if x6 ≤ x9 then X_unlike_195 k118 (X_unlike_133 k118 n) x2 x3 x4 x5 x6 (x8 + (nI 1)) x9 (nI 0) x7 σ u v else X_unlike_195 k118 (X_unlike_133 k118 n) x2 x3 x4 x5 x6 (x8 + (nI 1)) x9 (nI 1) x7 σ u v) else X_unlike_198 k118 (X_unlike_133 k118 n) x2 x3 x4 x5 x6 x7 x8 x9 σ u v))) else X_unlike_198 k118 (X_unlike_133 k118 n) x2 x3 x4 x5 x6 x7 x8 x9 σ u v))))
def X_unlike_118 : Nat → Int32 → Int32 → Int32 → Int32 → Int32 → XS → Nat → Nat → Option (Int32 × XS)
  | 0, _, _, _, _, _, _, _, _ => none
  | n + 1, x2, x3, x4, x5, x6, σ, u, v => (if x2 ≤ x6 then (if x2 = 0 then some ((nI 0), (zI σ 5 (nI 0))) else (if x4 < 0 ∨ 64 ≤ x4.toNatClampNeg then none else ((X_tells (xB (zI σ 5 (nI 0)) 3 x4.toNatClampNeg) (zI σ 5 (nI 0))).bind fun q8 => (if x4 < 0 ∨ 64 ≤ x4.toNatClampNeg then none else ((X_tells (xB q8 4 x4.toNatClampNeg) q8).bind fun q9 => ((X_tells (x5.toInt64) q9).bind fun q10 => some (x3, q10))))))) else X_unlike_133 (X_unlike_118 n) FU x2 x3 x4 x5 x6 (nI 0) (nI 0) (nI 0) σ u v)
def X_unlike_40 : Nat → Int32 → Int32 → XS → Nat → Nat → Option (Int32 × XS)
  | 0, _, _, _, _, _ => none
  | n + 1, x2, x3, σ, u, v => (if x2 ≤ x3 then X_unlike_118 FU x2 (nI 0) (-1 : Int32) (nI 0) (nI 0) σ u v else (if x3 < 0 ∨ 64 ≤ x3.toNatClampNeg then none else ((X_make 0 (xA σ 3 x3.toNatClampNeg) σ).bind fun q6 => ((X_join 2 2 0 q6).bind fun q7 => (if 2 < xN q7 then (if x3 < 0 ∨ 64 ≤ x3.toNatClampNeg then none else (if 2 < xN (zB q7 3 x3.toNatClampNeg (rP (xC q7 2))) then (if x3 < 0 ∨ 64 ≤ x3.toNatClampNeg then none else X_unlike_40 n x2 (x3 + (nI 1)) (zB (zB q7 3 x3.toNatClampNeg (rP (xC q7 2))) 4 x3.toNatClampNeg (rQ (xC (zB q7 3 x3.toNatClampNeg (rP (xC q7 2))) 2))) u v) else none)) else none)))))
def X_unlike (x1 : Int32) (σ : XS) : Option (Int32 × XS) := ((X_isLine x1).bind fun q1 => (if q1 = 0 then some ((-1 : Int32), σ) else (if x1 < 0 ∨ 4 ≤ x1.toNatClampNeg then none else (if 0 + 6 ≤ 6 ∧ 0 + 150 ≤ 150 then ((Xl_lay_r0 x1.toNatClampNeg σ).bind fun q3 => ((X_empty 2 q3.2).bind fun q5 => X_unlike_40 FU q3.1 (nI 0) q5 (0 + 6) (0 + 150))) else none))))
def X_same_113 (k79 : Int32 → Int32 → Nat → Nat → Int32 → Int32 → Int32 → XS → Nat → Nat → Option (Int32 × XS)) (x1 : Int32) (x2 : Int32) (i3 : Nat) (i4 : Nat) (x5 : Int32) (x7 : Int32) (y0 : Int32) (σ : XS) (u : Nat) (v : Nat) : Option (Int32 × XS) := k79 x1 x2 i3 i4 x5 y0 (x7 + (nI 1)) σ u v
def X_same_194 (x6 : Int32) (x8 : Int32) (y0 : Int64) (σ : XS) (u : Nat) (v : Nat) : Option (Int32 × XS) := ((X_tells y0 σ).bind fun q15 => ((X_tells (x8.toInt64) q15).bind fun q16 => (if x6 = 0 then some ((nI 0), q16) else some ((nI 1), q16))))
def X_same_176 (x6 : Int32) (x7 : Int32) (y0 : Int32) (σ : XS) (u : Nat) (v : Nat) : Option (Int32 × XS) := (if x7 = 0 then X_same_194 x6 y0 (lN 0) (zI σ 5 (nI 0)) u v else X_same_194 x6 y0 (lN 1) (zI σ 5 (nI 0)) u v)
def X_same_121 (x1 : Int32) (x2 : Int32) (i3 : Nat) (i4 : Nat) (x5 : Int32) (x6 : Int32) (σ : XS) (u : Nat) (v : Nat) : Option (Int32 × XS) := ((Xl_sums i3 2 σ).bind fun q9 => ((Xl_sums i4 1 q9).bind fun q10 => (if 2 < xN q10 then ((Xp_isLike 2 1 q10).bind fun q11 => ((X_begins q11.2).bind fun q12 => ((X_meets x1 q12).bind fun q13 => (if x1 = x2 then X_same_176 x6 q11.1 x5 q13.2 u v else ((X_meets x2 q13.2).bind fun q14 => X_same_176 x6 q11.1 q14.1 q14.2 u v))))) else none)))
def X_same_79 : Nat → Int32 → Int32 → Nat → Nat → Int32 → Int32 → Int32 → XS → Nat → Nat → Option (Int32 × XS)
  | 0, _, _, _, _, _, _, _, _, _, _ => none
  | n + 1, x1, x2, i3, i4, x5, x6, x7, σ, u, v => (if x5 ≤ x7 then X_same_121 x1 x2 i3 i4 x5 x6 σ u v else (if x6 = 0 then X_same_121 x1 x2 i3 i4 x5 x6 σ u v else (if x7 < 0 ∨ 64 ≤ x7.toNatClampNeg then none else (if x7 < 0 ∨ 64 ≤ x7.toNatClampNeg then none else (if (xA σ 3 x7.toNatClampNeg) = (xA σ 4 x7.toNatClampNeg) then X_same_113 (X_same_79 n) x1 x2 i3 i4 x5 x7 (nI 1) σ u v else X_same_113 (X_same_79 n) x1 x2 i3 i4 x5 x7 (nI 0) σ u v)))))
def X_same_74 (x1 : Int32) (x2 : Int32) (i3 : Nat) (i4 : Nat) (x5 : Int32) (y0 : Int32) (σ : XS) (u : Nat) (v : Nat) : Option (Int32 × XS) := X_same_79 FU x1 x2 i3 i4 x5 y0 (nI 0) σ u v
def X_same (x1 : Int32) (x2 : Int32) (σ : XS) : Option (Int32 × XS) := ((X_isLine x1).bind fun q1 => (if q1 = 0 then some ((-1 : Int32), σ) else ((X_isLine x2).bind fun q2 => (if q2 = 0 then some ((-1 : Int32), σ) else (if x1 < 0 ∨ 4 ≤ x1.toNatClampNeg then none else (if x2 < 0 ∨ 4 ≤ x2.toNatClampNeg then none else (if 0 + 6 ≤ 12 ∧ 0 + 150 ≤ 300 then ((Xl_lay_r0 x1.toNatClampNeg σ).bind fun q5 => (if (0 + 6) + 6 ≤ 12 ∧ (0 + 150) + 150 ≤ 300 then ((Xl_lay_r1 x2.toNatClampNeg q5.2).bind fun q7 => (if q7.1 = q5.1 then X_same_74 x1 x2 x1.toNatClampNeg x2.toNatClampNeg q5.1 (nI 1) q7.2 ((0 + 6) + 6) ((0 + 150) + 150) else X_same_74 x1 x2 x1.toNatClampNeg x2.toNatClampNeg q5.1 (nI 0) q7.2 ((0 + 6) + 6) ((0 + 150) + 150))) else none)) else none)))))))
theorem bc30 : (Int8.ofInt 30).toInt32 = (nI 30) := by decide
theorem sc10000 : (Int16.ofInt 10000).toInt32 = (nI 10000) := by decide
section ZXW
variable {p : Program} {l : Launch} {e : Env} {s : State} {m : MethodId} {args : Array Value} {below : List Frame} {meth : Method} {c : Code} {D : va_G} {dA : Nat → ClassId} {G : Nat → Nat} {A : Nat → Prop}
theorem mw_X1_commutes : MwX yX1_commutes cX1_commutes 3 (some .int) RX1 2 := ⟨by decide +kernel, q1353, q1354, q85, q1355⟩
set_option maxHeartbeats 4000000 in
theorem m_X_commutes (l : Launch) (D : va_G) (dA : Nat → ClassId) (G : Nat → Nat) {x1 : Int32} {x2 : Int32} {σ : XS} (tb : Nat) (ad : Nat → Nat) {ρ : Int32 × XS} (h : X_commutes x1 x2 σ = some ρ) : CtX l yX1_commutes (ws_ yX1_commutes cX1_commutes 3 (some .int)) 44 0 0 D dA G [.ref (G 0), .int x1, .int x2] (WX dA G tb ad σ) (QgI D dA (fun _ : Unit => WX dA G tb ad ρ.2) ρ.1) := by
  refine zx_start (cc := cX1_commutes) (nL := 3) (ret := (some .int)) (own := RX1) (by decide) rfl rfl (Nat.le_of_ble_eq_true rfl) (fun p e s m args below meth c A hO hX hr _ _ => ?_)
  unfold X_commutes at h
  refine zg_sub (lv' := [(0, .ref (G 0)), (1, .int x1), (2, .int x2)]) [0, 1, 2] rfl ?_
  refine zg_iload_n hO 1 dX1_commutes_0 rfl rfl ?_
  refine zs_calli (As := [.int x1]) (rest := []) hO h (fun q hq => m_X_isItem l D dA hq) mw_X1_isItem q1356 ⟨Nat.le_of_ble_eq_true rfl, Nat.le_of_ble_eq_true rfl⟩ ⟨Nat.le_refl _, Nat.le_refl _⟩ rfl rfl (Nat.le_of_ble_eq_true rfl) dX1_commutes_1 (fun q1 h => ?_)
  refine zg_if_eq (tgt := 14) hO h dX1_commutes_4 (by decide) (fun h => ?_) (fun h => ?_)
  · refine zg_iconst hO dX1_commutes_14 icm1 ?_
    exact zy_iretF hO hr h ⟨Nat.le_refl _, Nat.le_refl _⟩ dX1_commutes_15
  · refine zg_iload_n hO 2 dX1_commutes_7 rfl rfl ?_
    refine zs_calli (As := [.int x2]) (rest := []) hO h (fun q hq => m_X_isItem l D dA hq) mw_X1_isItem q1356 ⟨Nat.le_of_ble_eq_true rfl, Nat.le_of_ble_eq_true rfl⟩ ⟨Nat.le_refl _, Nat.le_refl _⟩ rfl rfl (Nat.le_of_ble_eq_true rfl) dX1_commutes_8 (fun q2 h => ?_)
    refine zg_if_ne (tgt := 16) hO h dX1_commutes_11 (by decide) (fun h => ?_) (fun h => ?_)
    · refine zg_aload_n hO 0 dX1_commutes_16 rfl rfl ?_
      refine zg_aload_n hO 0 dX1_commutes_17 rfl rfl ?_
      refine xG_1_147 hO hX dX1_commutes_18 ?_
      refine zg_iload_n hO 1 dX1_commutes_21 rfl rfl ?_
      refine zy_callVvF (b := G 0) (As := [.ref (ad 0), .int x1]) (rest := []) hO hX h (fun q hq => m_X_make l D dA G tb ad hq) mw_X1_make q1360 ⟨Nat.le_of_ble_eq_true rfl, Nat.le_of_ble_eq_true rfl⟩ ⟨Nat.le_refl _, Nat.le_refl _⟩ rfl rfl (Nat.le_of_ble_eq_true rfl) ⟨0, 1, _, _, rfl, rfl, rfl⟩ dX1_commutes_22 (fun q3 h => ?_)
      refine zg_aload_n hO 0 dX1_commutes_25 rfl rfl ?_
      refine zg_aload_n hO 0 dX1_commutes_26 rfl rfl ?_
      refine xG_1_151 hO hX dX1_commutes_27 ?_
      refine zg_iload_n hO 2 dX1_commutes_30 rfl rfl ?_
      refine zy_callVvF (b := G 0) (As := [.ref (ad 1), .int x2]) (rest := []) hO hX h (fun q hq => m_X_make l D dA G tb ad hq) mw_X1_make q1360 ⟨Nat.le_of_ble_eq_true rfl, Nat.le_of_ble_eq_true rfl⟩ ⟨Nat.le_refl _, Nat.le_refl _⟩ rfl rfl (Nat.le_of_ble_eq_true rfl) ⟨0, 1, _, _, rfl, rfl, rfl⟩ dX1_commutes_31 (fun q4 h => ?_)
      refine zg_aload_n hO 0 dX1_commutes_34 rfl rfl ?_
      refine zg_aload_n hO 0 dX1_commutes_35 rfl rfl ?_
      refine xG_1_154 hO hX dX1_commutes_36 ?_
      refine zg_aload_n hO 0 dX1_commutes_39 rfl rfl ?_
      refine xG_1_147 hO hX dX1_commutes_40 ?_
      refine zg_aload_n hO 0 dX1_commutes_43 rfl rfl ?_
      refine xG_1_151 hO hX dX1_commutes_44 ?_
      refine zy_callVvF (b := G 0) (As := [.ref (ad 2), .ref (ad 0), .ref (ad 1)]) (rest := []) hO hX h (fun q hq => m_X_join l D dA G tb ad hq) mw_X1_join q1361 ⟨Nat.le_of_ble_eq_true rfl, Nat.le_of_ble_eq_true rfl⟩ ⟨Nat.le_refl _, Nat.le_refl _⟩ rfl rfl (Nat.le_of_ble_eq_true rfl) ⟨0, 1, _, _, rfl, rfl, rfl⟩ dX1_commutes_47 (fun q5 h => ?_)
      refine zg_aload_n hO 0 dX1_commutes_50 rfl rfl ?_
      refine zg_iconst hO dX1_commutes_51 ic0 ?_
      refine xP_1_199 hO hX dX1_commutes_52 ?_
      refine zg_aload_n hO 0 dX1_commutes_55 rfl rfl ?_
      refine zg_aload_n hO 0 dX1_commutes_56 rfl rfl ?_
      refine xG_1_154 hO hX dX1_commutes_57 ?_
      refine zy_callVvF (b := G 0) (As := [.ref (ad 2)]) (rest := []) hO hX h (fun q hq => m_X_tellsPair l D dA G tb ad hq) mw_X1_tellsPair q1362 ⟨Nat.le_of_ble_eq_true rfl, Nat.le_of_ble_eq_true rfl⟩ ⟨Nat.le_refl _, Nat.le_refl _⟩ rfl rfl (Nat.le_of_ble_eq_true rfl) ⟨0, 1, _, _, rfl, rfl, rfl⟩ dX1_commutes_60 (fun q6 h => ?_)
      refine zg_aload_n hO 0 dX1_commutes_63 rfl rfl ?_
      refine zg_aload_n hO 0 dX1_commutes_64 rfl rfl ?_
      refine xG_1_154 hO hX dX1_commutes_65 ?_
      refine zg_aload_n hO 0 dX1_commutes_68 rfl rfl ?_
      refine xG_1_151 hO hX dX1_commutes_69 ?_
      refine zg_aload_n hO 0 dX1_commutes_72 rfl rfl ?_
      refine xG_1_147 hO hX dX1_commutes_73 ?_
      refine zy_callVvF (b := G 0) (As := [.ref (ad 2), .ref (ad 1), .ref (ad 0)]) (rest := []) hO hX h (fun q hq => m_X_join l D dA G tb ad hq) mw_X1_join q1361 ⟨Nat.le_of_ble_eq_true rfl, Nat.le_of_ble_eq_true rfl⟩ ⟨Nat.le_refl _, Nat.le_refl _⟩ rfl rfl (Nat.le_of_ble_eq_true rfl) ⟨0, 1, _, _, rfl, rfl, rfl⟩ dX1_commutes_76 (fun q7 h => ?_)
      refine zg_aload_n hO 0 dX1_commutes_79 rfl rfl ?_
      refine zg_aload_n hO 0 dX1_commutes_80 rfl rfl ?_
      refine xG_1_154 hO hX dX1_commutes_81 ?_
      refine zy_callVvF (b := G 0) (As := [.ref (ad 2)]) (rest := []) hO hX h (fun q hq => m_X_tellsPair l D dA G tb ad hq) mw_X1_tellsPair q1362 ⟨Nat.le_of_ble_eq_true rfl, Nat.le_of_ble_eq_true rfl⟩ ⟨Nat.le_refl _, Nat.le_refl _⟩ rfl rfl (Nat.le_of_ble_eq_true rfl) ⟨0, 1, _, _, rfl, rfl, rfl⟩ dX1_commutes_84 (fun q8 h => ?_)
      refine zg_aload_n hO 0 dX1_commutes_87 rfl rfl ?_
      refine xG_1_180 hO hX dX1_commutes_88 ?_
      refine zg_iconst hO dX1_commutes_91 ic0 ?_
      refine xL_row hO h dX1_commutes_92 (fun h => ?_)
      refine zg_aload_n hO 0 dX1_commutes_93 rfl rfl ?_
      refine xG_1_180 hO hX dX1_commutes_94 ?_
      refine zg_iconst hO dX1_commutes_97 ic2 ?_
      refine xL_row hO h dX1_commutes_98 (fun h => ?_)
      refine zg_lcmp hO dX1_commutes_99 ?_
      refine zg_if_ne (tgt := 123) hO h dX1_commutes_100 (by decide) (fun h => ?_) (fun h => ?_)
      · refine zg_iconst hO dX1_commutes_123 ic0 ?_
        exact zy_iretF hO hr h ⟨Nat.le_refl _, Nat.le_refl _⟩ dX1_commutes_124
      · refine zg_aload_n hO 0 dX1_commutes_103 rfl rfl ?_
        refine xG_1_180 hO hX dX1_commutes_104 ?_
        refine zg_iconst hO dX1_commutes_107 ic1 ?_
        refine xL_row hO h dX1_commutes_108 (fun h => ?_)
        refine zg_aload_n hO 0 dX1_commutes_109 rfl rfl ?_
        refine xG_1_180 hO hX dX1_commutes_110 ?_
        refine zg_iconst hO dX1_commutes_113 ic3 ?_
        refine xL_row hO h dX1_commutes_114 (fun h => ?_)
        refine zg_lcmp hO dX1_commutes_115 ?_
        refine zg_if_ne (tgt := 123) hO h dX1_commutes_116 (by decide) (fun h => ?_) (fun h => ?_)
        · refine zg_iconst hO dX1_commutes_123 ic0 ?_
          exact zy_iretF hO hr h ⟨Nat.le_refl _, Nat.le_refl _⟩ dX1_commutes_124
        · refine zg_iconst hO dX1_commutes_119 ic1 ?_
          refine zg_goto (tgt := 124) hO dX1_commutes_120 (by decide) ?_
          exact zy_iretF hO hr h ⟨Nat.le_refl _, Nat.le_refl _⟩ dX1_commutes_124
    · refine zg_iconst hO dX1_commutes_14 icm1 ?_
      exact zy_iretF hO hr h ⟨Nat.le_refl _, Nat.le_refl _⟩ dX1_commutes_15
set_option maxHeartbeats 4000000 in
theorem w_X_powers_136 {tb : Nat} {ad : Nat → Nat} (hO : Ok p s m args meth c cX1_powers RX1 5 D dA A) (hX : XK dA G A s) (hr : meth.sig.returnType = (some .int)) {ρ : Int32 × XS} {k81 : Int32 → Int32 → Int32 → XS → Option (Int32 × XS)} (K81 : ∀ (x2 : Int32) (x3 : Int32) (x4 : Int32) (σ : XS), k81 x2 x3 x4 σ = some ρ → Go p l e (rmG 44 0 0) s m args below meth c D A 5 (MQ below ((QgI D dA (fun _ : Unit => WX dA G tb ad ρ.2) ρ.1) A) args s 0 0 A) (WX dA G tb ad σ) 0 0 81 [(0, .ref (G 0)), (2, .int x2), (3, .int x3), (4, .int x4)] []) : ∀ (x2 : Int32) (x3 : Int32) (x4 : Int32) (σ : XS), X_powers_136 k81 x2 x3 x4 σ = some ρ → Go p l e (rmG 44 0 0) s m args below meth c D A 5 (MQ below ((QgI D dA (fun _ : Unit => WX dA G tb ad ρ.2) ρ.1) A) args s 0 0 A) (WX dA G tb ad σ) 0 0 136 [(0, .ref (G 0)), (2, .int x2), (3, .int x3), (4, .int x4)] [] := by
  intro x2 x3 x4 σ h
  unfold X_powers_136 at h
  refine zg_iinc (k := 3) (lv' := [(4, .int (x4 + (-1 : Int32))), (0, .ref (G 0)), (2, .int x2), (3, .int x3)]) hO dX1_powers_136 rfl (zii icm1) (Nat.le_of_ble_eq_true rfl) rfl ?_
  refine zg_goto (tgt := 81) hO dX1_powers_139 (by decide) ?_
  exact zg_sub [1, 2, 3, 0] rfl (K81 _ _ _ _ h)
set_option maxHeartbeats 4000000 in
theorem w_X_powers_81 {tb : Nat} {ad : Nat → Nat} (hO : Ok p s m args meth c cX1_powers RX1 5 D dA A) (hX : XK dA G A s) (hr : meth.sig.returnType = (some .int)) {ρ : Int32 × XS} : ∀ (n : Nat) (x2 : Int32) (x3 : Int32) (x4 : Int32) (σ : XS), X_powers_81 n x2 x3 x4 σ = some ρ → Go p l e (rmG 44 0 0) s m args below meth c D A 5 (MQ below ((QgI D dA (fun _ : Unit => WX dA G tb ad ρ.2) ρ.1) A) args s 0 0 A) (WX dA G tb ad σ) 0 0 81 [(0, .ref (G 0)), (2, .int x2), (3, .int x3), (4, .int x4)] [] := by
  intro n
  induction n with
  | zero =>
    intro x2 x3 x4 σ h
    rw [X_powers_81] at h
    cases h
  | succ n ih =>
    intro x2 x3 x4 σ h
    rw [X_powers_81] at h
    refine zg_iload hO 3 dX1_powers_81 rfl ?_
    refine zg_if_lt (tgt := 142) hO h dX1_powers_83 (by decide) (fun h => ?_) (fun h => ?_)
    · refine zg_aload_n hO 0 dX1_powers_142 rfl rfl ?_
      refine zg_iconst hO dX1_powers_143 ic0 ?_
      refine xP_1_199 hO hX dX1_powers_144 ?_
      refine zg_aload_n hO 0 dX1_powers_147 rfl rfl ?_
      refine zg_aload_n hO 0 dX1_powers_148 rfl rfl ?_
      refine xG_1_154 hO hX dX1_powers_149 ?_
      refine zy_callVvF (b := G 0) (As := [.ref (ad 2)]) (rest := []) hO hX h (fun q hq => m_X_tellsPair l D dA G tb ad hq) mw_X1_tellsPair q1362 ⟨Nat.le_of_ble_eq_true rfl, Nat.le_of_ble_eq_true rfl⟩ ⟨Nat.le_refl _, Nat.le_refl _⟩ rfl rfl (Nat.le_of_ble_eq_true rfl) ⟨0, 1, _, _, rfl, rfl, rfl⟩ dX1_powers_152 (fun q7 h => ?_)
      refine zg_iload_n hO 2 dX1_powers_155 rfl rfl ?_
      exact zy_iretF hO hr h ⟨Nat.le_refl _, Nat.le_refl _⟩ dX1_powers_156
    · refine zg_aload_n hO 0 dX1_powers_86 rfl rfl ?_
      refine zg_aload_n hO 0 dX1_powers_87 rfl rfl ?_
      refine xG_1_154 hO hX dX1_powers_88 ?_
      refine zg_aload_n hO 0 dX1_powers_91 rfl rfl ?_
      refine xG_1_154 hO hX dX1_powers_92 ?_
      refine zg_aload_n hO 0 dX1_powers_95 rfl rfl ?_
      refine xG_1_154 hO hX dX1_powers_96 ?_
      refine zy_callVvF (b := G 0) (As := [.ref (ad 2), .ref (ad 2), .ref (ad 2)]) (rest := []) hO hX h (fun q hq => m_X_join l D dA G tb ad hq) mw_X1_join q1361 ⟨Nat.le_of_ble_eq_true rfl, Nat.le_of_ble_eq_true rfl⟩ ⟨Nat.le_refl _, Nat.le_refl _⟩ rfl rfl (Nat.le_of_ble_eq_true rfl) ⟨0, 1, _, _, rfl, rfl, rfl⟩ dX1_powers_99 (fun q8 h => ?_)
      refine zg_iinc (k := 2) (lv' := [(3, .int (x3 + (nI 1))), (0, .ref (G 0)), (2, .int x2), (4, .int x4)]) hO dX1_powers_102 rfl (zii ic1) (Nat.le_of_ble_eq_true rfl) rfl ?_
      refine zg_iload_n hO 2 dX1_powers_105 rfl rfl ?_
      refine zg_iload hO 3 dX1_powers_106 rfl ?_
      refine zg_ishr hO dX1_powers_108 ?_
      refine zg_iconst hO dX1_powers_109 ic1 ?_
      refine zg_iand hO dX1_powers_110 ?_
      refine zg_if_ne (tgt := 117) hO h dX1_powers_111 (by decide) (fun h => ?_) (fun h => ?_)
      · refine zg_aload_n hO 1 dX1_powers_117 rfl rfl ?_
        refine zg_aload_n hO 1 dX1_powers_118 rfl rfl ?_
        refine xG_1_154 hO hX dX1_powers_119 ?_
        refine zg_aload_n hO 1 dX1_powers_122 rfl rfl ?_
        refine xG_1_154 hO hX dX1_powers_123 ?_
        refine zg_aload_n hO 1 dX1_powers_126 rfl rfl ?_
        refine xG_1_147 hO hX dX1_powers_127 ?_
        refine zy_callVvF (b := G 0) (As := [.ref (ad 2), .ref (ad 2), .ref (ad 0)]) (rest := []) hO hX h (fun q hq => m_X_join l D dA G tb ad hq) mw_X1_join q1361 ⟨Nat.le_of_ble_eq_true rfl, Nat.le_of_ble_eq_true rfl⟩ ⟨Nat.le_refl _, Nat.le_refl _⟩ rfl rfl (Nat.le_of_ble_eq_true rfl) ⟨0, 1, _, _, rfl, rfl, rfl⟩ dX1_powers_130 (fun q9 h => ?_)
        refine zg_iinc (k := 0) (lv' := [(3, .int ((x3 + (nI 1)) + (nI 1))), (0, .ref (G 0)), (2, .int x2), (4, .int x4)]) hO dX1_powers_133 rfl (zii ic1) (Nat.le_of_ble_eq_true rfl) rfl ?_
        exact zg_sub [1, 2, 0, 3] rfl (w_X_powers_136 hO hX hr ih _ _ _ _ h)
      · refine zg_goto (tgt := 136) hO dX1_powers_114 (by decide) ?_
        exact zg_sub [1, 2, 0, 3] rfl (w_X_powers_136 hO hX hr ih _ _ _ _ h)
set_option maxHeartbeats 4000000 in
theorem w_X_powers_66 {tb : Nat} {ad : Nat → Nat} (hO : Ok p s m args meth c cX1_powers RX1 5 D dA A) (hX : XK dA G A s) (hr : meth.sig.returnType = (some .int)) {ρ : Int32 × XS} : ∀ (x2 : Int32) (σ : XS), X_powers_66 x2 σ = some ρ → Go p l e (rmG 44 0 0) s m args below meth c D A 5 (MQ below ((QgI D dA (fun _ : Unit => WX dA G tb ad ρ.2) ρ.1) A) args s 0 0 A) (WX dA G tb ad σ) 0 0 66 [(0, .ref (G 0)), (2, .int x2)] [] := by
  intro x2 σ h
  unfold X_powers_66 at h
  refine zg_iconst hO dX1_powers_66 ic0 ?_
  refine zg_istore_n (lv' := [(3, .int (nI 0)), (0, .ref (G 0)), (2, .int x2)]) hO dX1_powers_67 rfl (Nat.le_of_ble_eq_true rfl) rfl ?_
  refine zg_bipush hO dX1_powers_68 bc30 ?_
  refine zg_iconst hO dX1_powers_70 ic1 ?_
  refine zg_iload_n hO 2 dX1_powers_71 rfl rfl ?_
  refine zs_mmax (rest := [.int (nI 30)]) hO q508 (Nat.le_of_ble_eq_true rfl) (Nat.le_of_ble_eq_true rfl) ⟨Nat.le_refl _, Nat.le_refl _⟩ dX1_powers_72 ?_
  refine zs_calli (As := [.int (if (nI 1) < x2 then x2 else (nI 1))]) (rest := [.int (nI 30)]) hO h (fun q hq => m_Xi_numberOfLeadingZeros l D dA hq) mw_J13_numberOfLeadingZeros q1377 ⟨Nat.le_of_ble_eq_true rfl, Nat.le_of_ble_eq_true rfl⟩ ⟨Nat.le_refl _, Nat.le_refl _⟩ rfl rfl (Nat.le_of_ble_eq_true rfl) dX1_powers_75 (fun q6 h => ?_)
  refine zg_isub hO dX1_powers_78 ?_
  refine zg_istore (lv' := [(4, .int ((nI 30) - q6)), (3, .int (nI 0)), (0, .ref (G 0)), (2, .int x2)]) hO dX1_powers_79 (Nat.le_of_ble_eq_true rfl) rfl ?_
  exact zg_sub [2, 3, 1, 0] rfl (w_X_powers_81 hO hX hr _ _ _ _ _ h)
theorem mw_X1_powers : MwX yX1_powers cX1_powers 5 (some .int) RX1 2 := ⟨by decide +kernel, q1367, q1368, q85, q1369⟩
set_option maxHeartbeats 4000000 in
theorem m_X_powers (l : Launch) (D : va_G) (dA : Nat → ClassId) (G : Nat → Nat) {x1 : Int32} {x2 : Int32} {σ : XS} (tb : Nat) (ad : Nat → Nat) {ρ : Int32 × XS} (h : X_powers x1 x2 σ = some ρ) : CtX l yX1_powers (ws_ yX1_powers cX1_powers 5 (some .int)) 44 0 0 D dA G [.ref (G 0), .int x1, .int x2] (WX dA G tb ad σ) (QgI D dA (fun _ : Unit => WX dA G tb ad ρ.2) ρ.1) := by
  refine zx_start (cc := cX1_powers) (nL := 5) (ret := (some .int)) (own := RX1) (by decide) rfl rfl (Nat.le_of_ble_eq_true rfl) (fun p e s m args below meth c A hO hX hr _ _ => ?_)
  unfold X_powers at h
  refine zg_sub (lv' := [(0, .ref (G 0)), (1, .int x1), (2, .int x2)]) [0, 1, 2] rfl ?_
  refine zg_iload_n hO 1 dX1_powers_0 rfl rfl ?_
  refine zs_calli (As := [.int x1]) (rest := []) hO h (fun q hq => m_X_isItem l D dA hq) mw_X1_isItem q1356 ⟨Nat.le_of_ble_eq_true rfl, Nat.le_of_ble_eq_true rfl⟩ ⟨Nat.le_refl _, Nat.le_refl _⟩ rfl rfl (Nat.le_of_ble_eq_true rfl) dX1_powers_1 (fun q1 h => ?_)
  refine zg_if_eq (tgt := 19) hO h dX1_powers_4 (by decide) (fun h => ?_) (fun h => ?_)
  · refine zg_iconst hO dX1_powers_19 icm1 ?_
    exact zy_iretF hO hr h ⟨Nat.le_refl _, Nat.le_refl _⟩ dX1_powers_20
  · refine zg_iload_n hO 2 dX1_powers_7 rfl rfl ?_
    refine zg_i2l hO dX1_powers_8 ?_
    refine zg_lconst hO dX1_powers_9 lc0 ?_
    refine zg_ldc2 (x := 1000000000) hO q1370 dX1_powers_10 ?_
    refine zs_calli (As := [.long (x2.toInt64), .long (lN 0), .long (1000000000 : Int64)]) (rest := []) hO h (fun q hq => m_X_in l D dA hq) mw_X1_in q608 ⟨Nat.le_of_ble_eq_true rfl, Nat.le_of_ble_eq_true rfl⟩ ⟨Nat.le_refl _, Nat.le_refl _⟩ rfl rfl (Nat.le_of_ble_eq_true rfl) dX1_powers_13 (fun q2 h => ?_)
    refine zg_if_ne (tgt := 21) hO h dX1_powers_16 (by decide) (fun h => ?_) (fun h => ?_)
    · refine zg_aload_n hO 0 dX1_powers_21 rfl rfl ?_
      refine zg_aload_n hO 0 dX1_powers_22 rfl rfl ?_
      refine xG_1_147 hO hX dX1_powers_23 ?_
      refine zg_iload_n hO 1 dX1_powers_26 rfl rfl ?_
      refine zy_callVvF (b := G 0) (As := [.ref (ad 0), .int x1]) (rest := []) hO hX h (fun q hq => m_X_make l D dA G tb ad hq) mw_X1_make q1360 ⟨Nat.le_of_ble_eq_true rfl, Nat.le_of_ble_eq_true rfl⟩ ⟨Nat.le_refl _, Nat.le_refl _⟩ rfl rfl (Nat.le_of_ble_eq_true rfl) ⟨0, 1, _, _, rfl, rfl, rfl⟩ dX1_powers_27 (fun q3 h => ?_)
      refine zg_iload_n hO 2 dX1_powers_30 rfl rfl ?_
      refine zg_if_ne (tgt := 45) hO h dX1_powers_31 (by decide) (fun h => ?_) (fun h => ?_)
      · refine zg_aload_n hO 0 dX1_powers_45 rfl rfl ?_
        refine xG_1_154 hO hX dX1_powers_46 ?_
        refine zg_aload_n hO 0 dX1_powers_49 rfl rfl ?_
        refine xG_1_147 hO hX dX1_powers_50 ?_
        refine xG_1_23 hO hX h dX1_powers_53 (fun h => ?_)
        refine zg_aload_n hO 0 dX1_powers_56 rfl rfl ?_
        refine xG_1_147 hO hX dX1_powers_57 ?_
        refine xG_1_29 hO hX h dX1_powers_60 (fun h => ?_)
        refine zg_chk h (fun hp h => ?_)
        refine zy_callPv (As := [.long (rP (xC q3 0)), .long (rQ (xC q3 0))]) (rest := []) hO hX h hp (fun q hq => m_Xp_is l D dA G tb ad hq) mw_X2_isf mw_X2_ist q141 ⟨Nat.le_of_ble_eq_true rfl, Nat.le_of_ble_eq_true rfl⟩ ⟨Nat.le_refl _, Nat.le_refl _⟩ rfl rfl (Nat.le_of_ble_eq_true rfl) dX1_powers_63 (fun q4 h => ?_)
        exact zg_sub [0, 2] rfl (w_X_powers_66 hO hX hr _ _ h)
      · refine zg_aload_n hO 0 dX1_powers_34 rfl rfl ?_
        refine zg_aload_n hO 0 dX1_powers_35 rfl rfl ?_
        refine xG_1_154 hO hX dX1_powers_36 ?_
        refine zy_callVvF (b := G 0) (As := [.ref (ad 2)]) (rest := []) hO hX h (fun q hq => m_X_empty l D dA G tb ad hq) mw_X1_empty q1371 ⟨Nat.le_of_ble_eq_true rfl, Nat.le_of_ble_eq_true rfl⟩ ⟨Nat.le_refl _, Nat.le_refl _⟩ rfl rfl (Nat.le_of_ble_eq_true rfl) ⟨0, 1, _, _, rfl, rfl, rfl⟩ dX1_powers_39 (fun q5 h => ?_)
        refine zg_goto (tgt := 66) hO dX1_powers_42 (by decide) ?_
        exact zg_sub [0, 2] rfl (w_X_powers_66 hO hX hr _ _ h)
    · refine zg_iconst hO dX1_powers_19 icm1 ?_
      exact zy_iretF hO hr h ⟨Nat.le_refl _, Nat.le_refl _⟩ dX1_powers_20
set_option maxHeartbeats 4000000 in
theorem w_X_order_109 {tb : Nat} {ad : Nat → Nat} (hO : Ok p s m args meth c cX1_order RX1 4 D dA A) (hX : XK dA G A s) (hr : meth.sig.returnType = (some .int)) {ρ : Int32 × XS} {k41 : Int32 → XS → Option (Int32 × XS)} {k50 : Int32 → Int32 → XS → Option (Int32 × XS)} (K41 : ∀ (x2 : Int32) (σ : XS), k41 x2 σ = some ρ → Go p l e (rmG 44 0 0) s m args below meth c D A 4 (MQ below ((QgI D dA (fun _ : Unit => WX dA G tb ad ρ.2) ρ.1) A) args s 0 0 A) (WX dA G tb ad σ) 0 0 41 [(0, .ref (G 0)), (2, .int x2)] []) (K50 : ∀ (x2 : Int32) (x3 : Int32) (σ : XS), k50 x2 x3 σ = some ρ → Go p l e (rmG 44 0 0) s m args below meth c D A 4 (MQ below ((QgI D dA (fun _ : Unit => WX dA G tb ad ρ.2) ρ.1) A) args s 0 0 A) (WX dA G tb ad σ) 0 0 50 [(0, .ref (G 0)), (2, .int x2), (3, .int x3)] []) : ∀ (x2 : Int32) (x3 : Int32) (σ : XS), X_order_109 k41 k50 x2 x3 σ = some ρ → Go p l e (rmG 44 0 0) s m args below meth c D A 4 (MQ below ((QgI D dA (fun _ : Unit => WX dA G tb ad ρ.2) ρ.1) A) args s 0 0 A) (WX dA G tb ad σ) 0 0 109 [(0, .ref (G 0)), (2, .int x2), (3, .int x3)] [] := by
  intro x2 x3 σ h
  unfold X_order_109 at h
  refine zg_iinc (k := 2) (lv' := [(3, .int (x3 + (nI 1))), (0, .ref (G 0)), (2, .int x2)]) hO dX1_order_109 rfl (zii ic1) (Nat.le_of_ble_eq_true rfl) rfl ?_
  refine zg_goto (tgt := 50) hO dX1_order_112 (by decide) ?_
  exact zg_sub [1, 2, 0] rfl (K50 _ _ _ h)
set_option maxHeartbeats 4000000 in
theorem w_X_order_50 {tb : Nat} {ad : Nat → Nat} (hO : Ok p s m args meth c cX1_order RX1 4 D dA A) (hX : XK dA G A s) (hr : meth.sig.returnType = (some .int)) {ρ : Int32 × XS} {k41 : Int32 → XS → Option (Int32 × XS)} (K41 : ∀ (x2 : Int32) (σ : XS), k41 x2 σ = some ρ → Go p l e (rmG 44 0 0) s m args below meth c D A 4 (MQ below ((QgI D dA (fun _ : Unit => WX dA G tb ad ρ.2) ρ.1) A) args s 0 0 A) (WX dA G tb ad σ) 0 0 41 [(0, .ref (G 0)), (2, .int x2)] []) : ∀ (n : Nat) (x2 : Int32) (x3 : Int32) (σ : XS), X_order_50 k41 n x2 x3 σ = some ρ → Go p l e (rmG 44 0 0) s m args below meth c D A 4 (MQ below ((QgI D dA (fun _ : Unit => WX dA G tb ad ρ.2) ρ.1) A) args s 0 0 A) (WX dA G tb ad σ) 0 0 50 [(0, .ref (G 0)), (2, .int x2), (3, .int x3)] [] := by
  intro n
  induction n with
  | zero =>
    intro x2 x3 σ h
    rw [X_order_50] at h
    cases h
  | succ n ih =>
    intro x2 x3 σ h
    rw [X_order_50] at h
    refine zg_iload_n hO 2 dX1_order_50 rfl rfl ?_
    refine zg_iload_n hO 1 dX1_order_51 rfl rfl ?_
    refine zg_iconst hO dX1_order_52 ic1 ?_
    refine zg_isub hO dX1_order_53 ?_
    refine zg_icmp_ge (tgt := 115) hO h dX1_order_54 (by decide) (fun h => ?_) (fun h => ?_)
    · refine zg_aload_n hO 0 dX1_order_115 rfl rfl ?_
      refine xG_1_184 hO hX dX1_order_116 ?_
      refine zg_iload_n hO 1 dX1_order_119 rfl rfl ?_
      refine zg_iconst hO dX1_order_120 ic1 ?_
      refine zg_isub hO dX1_order_121 ?_
      refine zg_aload_n hO 0 dX1_order_122 rfl rfl ?_
      refine xG_1_154 hO hX dX1_order_123 ?_
      refine xG_1_23 hO hX h dX1_order_126 (fun h => ?_)
      refine xS_powersP hO h dX1_order_129 (fun h => ?_)
      refine zg_aload_n hO 0 dX1_order_130 rfl rfl ?_
      refine xG_1_187 hO hX dX1_order_131 ?_
      refine zg_iload_n hO 1 dX1_order_134 rfl rfl ?_
      refine zg_iconst hO dX1_order_135 ic1 ?_
      refine zg_isub hO dX1_order_136 ?_
      refine zg_aload_n hO 0 dX1_order_137 rfl rfl ?_
      refine xG_1_154 hO hX dX1_order_138 ?_
      refine xG_1_29 hO hX h dX1_order_141 (fun h => ?_)
      refine xS_powersQ hO h dX1_order_144 (fun h => ?_)
      refine zg_aload_n hO 0 dX1_order_145 rfl rfl ?_
      refine zg_aload_n hO 0 dX1_order_146 rfl rfl ?_
      refine xG_1_154 hO hX dX1_order_147 ?_
      refine zg_aload_n hO 0 dX1_order_150 rfl rfl ?_
      refine xG_1_154 hO hX dX1_order_151 ?_
      refine zg_aload_n hO 0 dX1_order_154 rfl rfl ?_
      refine xG_1_147 hO hX dX1_order_155 ?_
      refine zy_callVvF (b := G 0) (As := [.ref (ad 2), .ref (ad 2), .ref (ad 0)]) (rest := []) hO hX h (fun q hq => m_X_join l D dA G tb ad hq) mw_X1_join q1361 ⟨Nat.le_of_ble_eq_true rfl, Nat.le_of_ble_eq_true rfl⟩ ⟨Nat.le_refl _, Nat.le_refl _⟩ rfl rfl (Nat.le_of_ble_eq_true rfl) ⟨0, 1, _, _, rfl, rfl, rfl⟩ dX1_order_158 (fun q4 h => ?_)
      refine zg_iinc (k := 1) (lv' := [(2, .int (x2 + (nI 1))), (0, .ref (G 0)), (3, .int x3)]) hO dX1_order_161 rfl (zii ic1) (Nat.le_of_ble_eq_true rfl) rfl ?_
      refine zg_goto (tgt := 41) hO dX1_order_164 (by decide) ?_
      exact zg_sub [1, 0] rfl (K41 _ _ h)
    · refine zg_aload_n hO 0 dX1_order_57 rfl rfl ?_
      refine xG_1_184 hO hX dX1_order_58 ?_
      refine zg_iload_n hO 2 dX1_order_61 rfl rfl ?_
      refine xL_powersP hO h dX1_order_62 (fun h => ?_)
      refine zg_aload_n hO 0 dX1_order_63 rfl rfl ?_
      refine xG_1_154 hO hX dX1_order_64 ?_
      refine xG_1_23 hO hX h dX1_order_67 (fun h => ?_)
      refine zg_lcmp hO dX1_order_70 ?_
      refine zg_if_ne (tgt := 109) hO h dX1_order_71 (by decide) (fun h => ?_) (fun h => ?_)
      · exact zg_sub [0, 1, 2] rfl (w_X_order_109 hO hX hr K41 ih _ _ _ h)
      · refine zg_aload_n hO 0 dX1_order_74 rfl rfl ?_
        refine xG_1_187 hO hX dX1_order_75 ?_
        refine zg_iload_n hO 2 dX1_order_78 rfl rfl ?_
        refine xL_powersQ hO h dX1_order_79 (fun h => ?_)
        refine zg_aload_n hO 0 dX1_order_80 rfl rfl ?_
        refine xG_1_154 hO hX dX1_order_81 ?_
        refine xG_1_29 hO hX h dX1_order_84 (fun h => ?_)
        refine zg_lcmp hO dX1_order_87 ?_
        refine zg_if_eq (tgt := 94) hO h dX1_order_88 (by decide) (fun h => ?_) (fun h => ?_)
        · refine zg_aload_n hO 0 dX1_order_94 rfl rfl ?_
          refine zg_iconst hO dX1_order_95 ic0 ?_
          refine xP_1_199 hO hX dX1_order_96 ?_
          refine zg_aload_n hO 0 dX1_order_99 rfl rfl ?_
          refine zg_iload_n hO 2 dX1_order_100 rfl rfl ?_
          refine zg_iconst hO dX1_order_101 ic1 ?_
          refine zg_iadd hO dX1_order_102 ?_
          refine zg_i2l hO dX1_order_103 ?_
          refine zy_callVvF (b := G 0) (As := [.long ((x3 + (nI 1)).toInt64)]) (rest := []) hO hX h (fun q hq => m_X_tells l D dA G tb ad hq) mw_X1_tells q1272 ⟨Nat.le_of_ble_eq_true rfl, Nat.le_of_ble_eq_true rfl⟩ ⟨Nat.le_refl _, Nat.le_refl _⟩ rfl rfl (Nat.le_of_ble_eq_true rfl) ⟨0, 1, _, _, rfl, rfl, rfl⟩ dX1_order_104 (fun q5 h => ?_)
          refine zg_iload_n hO 1 dX1_order_107 rfl rfl ?_
          exact zy_iretF hO hr h ⟨Nat.le_refl _, Nat.le_refl _⟩ dX1_order_108
        · refine zg_goto (tgt := 109) hO dX1_order_91 (by decide) ?_
          exact zg_sub [0, 1, 2] rfl (w_X_order_109 hO hX hr K41 ih _ _ _ h)
set_option maxHeartbeats 4000000 in
theorem w_X_order_41 {tb : Nat} {ad : Nat → Nat} (hO : Ok p s m args meth c cX1_order RX1 4 D dA A) (hX : XK dA G A s) (hr : meth.sig.returnType = (some .int)) {ρ : Int32 × XS} : ∀ (n : Nat) (x2 : Int32) (σ : XS), X_order_41 n x2 σ = some ρ → Go p l e (rmG 44 0 0) s m args below meth c D A 4 (MQ below ((QgI D dA (fun _ : Unit => WX dA G tb ad ρ.2) ρ.1) A) args s 0 0 A) (WX dA G tb ad σ) 0 0 41 [(0, .ref (G 0)), (2, .int x2)] [] := by
  intro n
  induction n with
  | zero =>
    intro x2 σ h
    rw [X_order_41] at h
    cases h
  | succ n ih =>
    intro x2 σ h
    rw [X_order_41] at h
    refine zg_iload_n hO 1 dX1_order_41 rfl rfl ?_
    refine zg_sipush hO dX1_order_42 sc128 ?_
    refine zg_icmp_gt (tgt := 167) hO h dX1_order_45 (by decide) (fun h => ?_) (fun h => ?_)
    · refine zg_bipush hO dX1_order_167 bcm2 ?_
      exact zy_iretF hO hr h ⟨Nat.le_refl _, Nat.le_refl _⟩ dX1_order_169
    · refine zg_iconst hO dX1_order_48 ic0 ?_
      refine zg_istore_n (lv' := [(3, .int (nI 0)), (0, .ref (G 0)), (2, .int x2)]) hO dX1_order_49 rfl (Nat.le_of_ble_eq_true rfl) rfl ?_
      exact zg_sub [1, 2, 0] rfl (w_X_order_50 hO hX hr ih _ _ _ _ h)
theorem mw_X1_order : MwX yX1_order cX1_order 4 (some .int) RX1 1 := ⟨by decide +kernel, q1381, q1382, q85, q1383⟩
set_option maxHeartbeats 4000000 in
theorem m_X_order (l : Launch) (D : va_G) (dA : Nat → ClassId) (G : Nat → Nat) {x1 : Int32} {σ : XS} (tb : Nat) (ad : Nat → Nat) {ρ : Int32 × XS} (h : X_order x1 σ = some ρ) : CtX l yX1_order (ws_ yX1_order cX1_order 4 (some .int)) 44 0 0 D dA G [.ref (G 0), .int x1] (WX dA G tb ad σ) (QgI D dA (fun _ : Unit => WX dA G tb ad ρ.2) ρ.1) := by
  refine zx_start (cc := cX1_order) (nL := 4) (ret := (some .int)) (own := RX1) (by decide) rfl rfl (Nat.le_of_ble_eq_true rfl) (fun p e s m args below meth c A hO hX hr _ _ => ?_)
  unfold X_order at h
  refine zg_sub (lv' := [(0, .ref (G 0)), (1, .int x1)]) [0, 1] rfl ?_
  refine zg_iload_n hO 1 dX1_order_0 rfl rfl ?_
  refine zs_calli (As := [.int x1]) (rest := []) hO h (fun q hq => m_X_isItem l D dA hq) mw_X1_isItem q1356 ⟨Nat.le_of_ble_eq_true rfl, Nat.le_of_ble_eq_true rfl⟩ ⟨Nat.le_refl _, Nat.le_refl _⟩ rfl rfl (Nat.le_of_ble_eq_true rfl) dX1_order_1 (fun q1 h => ?_)
  refine zg_if_ne (tgt := 9) hO h dX1_order_4 (by decide) (fun h => ?_) (fun h => ?_)
  · refine zg_aload_n hO 0 dX1_order_9 rfl rfl ?_
    refine zg_aload_n hO 0 dX1_order_10 rfl rfl ?_
    refine xG_1_147 hO hX dX1_order_11 ?_
    refine zg_iload_n hO 1 dX1_order_14 rfl rfl ?_
    refine zy_callVvF (b := G 0) (As := [.ref (ad 0), .int x1]) (rest := []) hO hX h (fun q hq => m_X_make l D dA G tb ad hq) mw_X1_make q1360 ⟨Nat.le_of_ble_eq_true rfl, Nat.le_of_ble_eq_true rfl⟩ ⟨Nat.le_refl _, Nat.le_refl _⟩ rfl rfl (Nat.le_of_ble_eq_true rfl) ⟨0, 1, _, _, rfl, rfl, rfl⟩ dX1_order_15 (fun q2 h => ?_)
    refine zg_aload_n hO 0 dX1_order_18 rfl rfl ?_
    refine xG_1_154 hO hX dX1_order_19 ?_
    refine zg_aload_n hO 0 dX1_order_22 rfl rfl ?_
    refine xG_1_147 hO hX dX1_order_23 ?_
    refine xG_1_23 hO hX h dX1_order_26 (fun h => ?_)
    refine zg_aload_n hO 0 dX1_order_29 rfl rfl ?_
    refine xG_1_147 hO hX dX1_order_30 ?_
    refine xG_1_29 hO hX h dX1_order_33 (fun h => ?_)
    refine zg_chk h (fun hp h => ?_)
    refine zy_callPv (As := [.long (rP (xC q2 0)), .long (rQ (xC q2 0))]) (rest := []) hO hX h hp (fun q hq => m_Xp_is l D dA G tb ad hq) mw_X2_isf mw_X2_ist q141 ⟨Nat.le_of_ble_eq_true rfl, Nat.le_of_ble_eq_true rfl⟩ ⟨Nat.le_refl _, Nat.le_refl _⟩ rfl rfl (Nat.le_of_ble_eq_true rfl) dX1_order_36 (fun q3 h => ?_)
    refine zg_iconst hO dX1_order_39 ic1 ?_
    refine zg_istore_n (lv' := [(2, .int (nI 1)), (0, .ref (G 0)), (1, .int x1)]) hO dX1_order_40 rfl (Nat.le_of_ble_eq_true rfl) rfl ?_
    exact zg_sub [1, 0] rfl (w_X_order_41 hO hX hr _ _ _ h)
  · refine zg_iconst hO dX1_order_7 icm1 ?_
    exact zy_iretF hO hr h ⟨Nat.le_refl _, Nat.le_refl _⟩ dX1_order_8
set_option maxHeartbeats 4000000 in
theorem w_X_undoes_108 (hO : Ok p s m args meth c cX1_undoes RX1 4 D dA A) (hX : XK dA G A s) (hr : meth.sig.returnType = (some .int)) {ρ : Int32 × XS} {k33 : Nat → Int32 → XS → Nat → Nat → Option (Int32 × XS)} (K33 : ∀ (i2 : Nat) (x3 : Int32) (σ : XS) (u : Nat) (v : Nat) (huv : u ≤ 1 ∧ v ≤ 2) (tb : Nat) (ad : Nat → Nat), k33 i2 x3 σ u v = some ρ → Go p l e (rmG 44 1 2) s m args below meth c D A 4 (MQ below ((QgI D dA (fun z : (Nat → Nat) × Nat => WX dA G z.2 z.1 ρ.2) ρ.1) A) args s 1 2 A) (WX dA G tb ad σ) u v 33 [(0, .ref (G 0)), (2, .ref (ad i2)), (3, .int x3)] []) : ∀ (i2 : Nat) (x3 : Int32) (σ : XS) (u : Nat) (v : Nat) (huv : u ≤ 1 ∧ v ≤ 2) (tb : Nat) (ad : Nat → Nat), X_undoes_108 k33 i2 x3 σ u v = some ρ → Go p l e (rmG 44 1 2) s m args below meth c D A 4 (MQ below ((QgI D dA (fun z : (Nat → Nat) × Nat => WX dA G z.2 z.1 ρ.2) ρ.1) A) args s 1 2 A) (WX dA G tb ad σ) u v 108 [(0, .ref (G 0)), (2, .ref (ad i2)), (3, .int x3)] [] := by
  intro i2 x3 σ u v huv tb ad h
  unfold X_undoes_108 at h
  refine zg_iinc (k := 2) (lv' := [(3, .int (x3 + (nI 1))), (0, .ref (G 0)), (2, .ref (ad i2))]) hO dX1_undoes_108 rfl (zii ic1) (Nat.le_of_ble_eq_true rfl) rfl ?_
  refine zg_goto (tgt := 33) hO dX1_undoes_111 (by decide) ?_
  exact zg_sub [1, 2, 0] rfl (K33 _ _ _ _ _ huv tb ad h)
set_option maxHeartbeats 4000000 in
theorem w_X_undoes_33 (hO : Ok p s m args meth c cX1_undoes RX1 4 D dA A) (hX : XK dA G A s) (hr : meth.sig.returnType = (some .int)) {ρ : Int32 × XS} : ∀ (n : Nat) (i2 : Nat) (x3 : Int32) (σ : XS) (u : Nat) (v : Nat) (huv : u ≤ 1 ∧ v ≤ 2) (tb : Nat) (ad : Nat → Nat), X_undoes_33 n i2 x3 σ u v = some ρ → Go p l e (rmG 44 1 2) s m args below meth c D A 4 (MQ below ((QgI D dA (fun z : (Nat → Nat) × Nat => WX dA G z.2 z.1 ρ.2) ρ.1) A) args s 1 2 A) (WX dA G tb ad σ) u v 33 [(0, .ref (G 0)), (2, .ref (ad i2)), (3, .int x3)] [] := by
  intro n
  induction n with
  | zero =>
    intro i2 x3 σ u v huv tb ad h
    rw [X_undoes_33] at h
    cases h
  | succ n ih =>
    intro i2 x3 σ u v huv tb ad h
    rw [X_undoes_33] at h
    refine zg_iload_n hO 2 dX1_undoes_33 rfl rfl ?_
    refine zg_sipush hO dX1_undoes_34 sc10000 ?_
    refine zg_icmp_ge (tgt := 114) hO h dX1_undoes_37 (by decide) (fun h => ?_) (fun h => ?_)
    · refine zg_bipush hO dX1_undoes_114 bcm2 ?_
      exact zy_iretG hO hr h huv dX1_undoes_116
    · refine zg_aload_n hO 0 dX1_undoes_40 rfl rfl ?_
      refine zg_aload_n hO 0 dX1_undoes_41 rfl rfl ?_
      refine xG_1_151 hO hX dX1_undoes_42 ?_
      refine zg_iload_n hO 2 dX1_undoes_45 rfl rfl ?_
      refine zy_callVvF (b := G 0) (As := [.ref (ad 1), .int x3]) (rest := []) hO hX h (fun q hq => m_X_make l D dA G tb ad hq) mw_X1_make q1360 ⟨Nat.le_of_ble_eq_true rfl, Nat.le_of_ble_eq_true rfl⟩ huv rfl rfl (Nat.le_of_ble_eq_true rfl) ⟨0, 1, _, _, rfl, rfl, rfl⟩ dX1_undoes_46 (fun q5 h => ?_)
      refine zg_aload_n hO 0 dX1_undoes_49 rfl rfl ?_
      refine zg_aload_n hO 0 dX1_undoes_50 rfl rfl ?_
      refine xG_1_154 hO hX dX1_undoes_51 ?_
      refine zg_aload_n hO 0 dX1_undoes_54 rfl rfl ?_
      refine xG_1_147 hO hX dX1_undoes_55 ?_
      refine zg_aload_n hO 0 dX1_undoes_58 rfl rfl ?_
      refine xG_1_151 hO hX dX1_undoes_59 ?_
      refine zy_callVvF (b := G 0) (As := [.ref (ad 2), .ref (ad 0), .ref (ad 1)]) (rest := []) hO hX h (fun q hq => m_X_join l D dA G tb ad hq) mw_X1_join q1361 ⟨Nat.le_of_ble_eq_true rfl, Nat.le_of_ble_eq_true rfl⟩ huv rfl rfl (Nat.le_of_ble_eq_true rfl) ⟨0, 1, _, _, rfl, rfl, rfl⟩ dX1_undoes_62 (fun q6 h => ?_)
      refine zg_aload_n hO 0 dX1_undoes_65 rfl rfl ?_
      refine xG_1_154 hO hX dX1_undoes_66 ?_
      refine zg_aload_n hO 1 dX1_undoes_69 rfl rfl ?_
      refine zg_chk h (fun hp h => ?_)
      refine zy_callPi (As := [.ref (ad i2)]) (rest := []) hO hX h hp (fun q hq => m_Xp_isLike l D dA G tb ad hq) mw_X2_isLikef mw_X2_isLiket q1388 ⟨Nat.le_of_ble_eq_true rfl, Nat.le_of_ble_eq_true rfl⟩ huv rfl rfl (Nat.le_of_ble_eq_true rfl) dX1_undoes_70 (fun q7 h => ?_)
      refine zg_if_ne (tgt := 79) hO h dX1_undoes_73 (by decide) (fun h => ?_) (fun h => ?_)
      · refine zg_aload_n hO 0 dX1_undoes_79 rfl rfl ?_
        refine zg_aload_n hO 0 dX1_undoes_80 rfl rfl ?_
        refine xG_1_154 hO hX dX1_undoes_81 ?_
        refine zg_aload_n hO 0 dX1_undoes_84 rfl rfl ?_
        refine xG_1_151 hO hX dX1_undoes_85 ?_
        refine zg_aload_n hO 0 dX1_undoes_88 rfl rfl ?_
        refine xG_1_147 hO hX dX1_undoes_89 ?_
        refine zy_callVvF (b := G 0) (As := [.ref (ad 2), .ref (ad 1), .ref (ad 0)]) (rest := []) hO hX h (fun q hq => m_X_join l D dA G tb ad hq) mw_X1_join q1361 ⟨Nat.le_of_ble_eq_true rfl, Nat.le_of_ble_eq_true rfl⟩ huv rfl rfl (Nat.le_of_ble_eq_true rfl) ⟨0, 1, _, _, rfl, rfl, rfl⟩ dX1_undoes_92 (fun q8 h => ?_)
        refine zg_aload_n hO 0 dX1_undoes_95 rfl rfl ?_
        refine xG_1_154 hO hX dX1_undoes_96 ?_
        refine zg_aload_n hO 1 dX1_undoes_99 rfl rfl ?_
        refine zg_chk h (fun hp h => ?_)
        refine zy_callPi (As := [.ref (ad i2)]) (rest := []) hO hX h hp (fun q hq => m_Xp_isLike l D dA G tb ad hq) mw_X2_isLikef mw_X2_isLiket q1388 ⟨Nat.le_of_ble_eq_true rfl, Nat.le_of_ble_eq_true rfl⟩ huv rfl rfl (Nat.le_of_ble_eq_true rfl) dX1_undoes_100 (fun q9 h => ?_)
        refine zg_if_eq (tgt := 108) hO h dX1_undoes_103 (by decide) (fun h => ?_) (fun h => ?_)
        · exact zg_sub [0, 1, 2] rfl (w_X_undoes_108 hO hX hr ih _ _ _ _ _ huv tb ad h)
        · refine zg_iload_n hO 2 dX1_undoes_106 rfl rfl ?_
          exact zy_iretG hO hr h huv dX1_undoes_107
      · refine zg_goto (tgt := 108) hO dX1_undoes_76 (by decide) ?_
        exact zg_sub [0, 1, 2] rfl (w_X_undoes_108 hO hX hr ih _ _ _ _ _ huv tb ad h)
theorem mw_X1_undoes : MwX yX1_undoes cX1_undoes 4 (some .int) RX1 1 := ⟨by decide +kernel, q1385, q1386, q85, q1387⟩
set_option maxHeartbeats 4000000 in
theorem m_X_undoes (l : Launch) (D : va_G) (dA : Nat → ClassId) (G : Nat → Nat) {x1 : Int32} {σ : XS} (tb : Nat) (ad : Nat → Nat) {ρ : Int32 × XS} (h : X_undoes x1 σ = some ρ) : CtX l yX1_undoes (ws_ yX1_undoes cX1_undoes 4 (some .int)) 44 1 2 D dA G [.ref (G 0), .int x1] (WX dA G tb ad σ) (QgI D dA (fun z : (Nat → Nat) × Nat => WX dA G z.2 z.1 ρ.2) ρ.1) := by
  refine zx_start (cc := cX1_undoes) (nL := 4) (ret := (some .int)) (own := RX1) (by decide) rfl rfl (Nat.le_of_ble_eq_true rfl) (fun p e s m args below meth c A hO hX hr _ _ => ?_)
  unfold X_undoes at h
  refine zg_sub (lv' := [(0, .ref (G 0)), (1, .int x1)]) [0, 1] rfl ?_
  refine zg_iload_n hO 1 dX1_undoes_0 rfl rfl ?_
  refine zs_calli (As := [.int x1]) (rest := []) hO h (fun q hq => m_X_isItem l D dA hq) mw_X1_isItem q1356 ⟨Nat.le_of_ble_eq_true rfl, Nat.le_of_ble_eq_true rfl⟩ ⟨Nat.zero_le _, Nat.zero_le _⟩ rfl rfl (Nat.le_of_ble_eq_true rfl) dX1_undoes_1 (fun q1 h => ?_)
  refine zg_if_ne (tgt := 9) hO h dX1_undoes_4 (by decide) (fun h => ?_) (fun h => ?_)
  · refine zy_newP hO h dX1_undoes_9 (fun ad hc2 h => ?_)
    refine zg_dup hO dX1_undoes_12 rfl ?_
    refine zy_pinit (rest := [.ref (ad (xN σ))]) hO hX (Nat.le_of_ble_eq_true rfl) dX1_undoes_13 ?_ hc2
    refine zg_astore_n (lv' := [(2, .ref (ad (xN σ))), (0, .ref (G 0)), (1, .int x1)]) hO dX1_undoes_16 rfl (Nat.le_of_ble_eq_true rfl) rfl ?_
    refine zg_aload_n hO 1 dX1_undoes_17 rfl rfl ?_
    refine zg_aload_n hO 0 dX1_undoes_18 rfl rfl ?_
    refine zy_callVvF (b := G 0) (As := [.ref (ad (xN σ))]) (rest := []) hO hX h (fun q hq => m_X_empty l D dA G tb ad hq) mw_X1_empty q1371 ⟨Nat.le_of_ble_eq_true rfl, Nat.le_of_ble_eq_true rfl⟩ hc2 rfl rfl (Nat.le_of_ble_eq_true rfl) ⟨0, 1, _, _, rfl, rfl, rfl⟩ dX1_undoes_19 (fun q3 h => ?_)
    refine zg_aload_n hO 1 dX1_undoes_22 rfl rfl ?_
    refine zg_aload_n hO 1 dX1_undoes_23 rfl rfl ?_
    refine xG_1_147 hO hX dX1_undoes_24 ?_
    refine zg_iload_n hO 2 dX1_undoes_27 rfl rfl ?_
    refine zy_callVvF (b := G 0) (As := [.ref (ad 0), .int x1]) (rest := []) hO hX h (fun q hq => m_X_make l D dA G tb ad hq) mw_X1_make q1360 ⟨Nat.le_of_ble_eq_true rfl, Nat.le_of_ble_eq_true rfl⟩ hc2 rfl rfl (Nat.le_of_ble_eq_true rfl) ⟨0, 1, _, _, rfl, rfl, rfl⟩ dX1_undoes_28 (fun q4 h => ?_)
    refine zg_iconst hO dX1_undoes_31 ic0 ?_
    refine zg_istore_n (lv' := [(3, .int (nI 0)), (2, .ref (ad (xN σ))), (0, .ref (G 0)), (1, .int x1)]) hO dX1_undoes_32 rfl (Nat.le_of_ble_eq_true rfl) rfl ?_
    exact zg_sub [2, 1, 0] rfl (w_X_undoes_33 hO hX hr _ _ _ _ _ _ hc2 tb ad h)
  · refine zg_iconst hO dX1_undoes_7 icm1 ?_
    exact zy_iretG hO hr h ⟨Nat.zero_le _, Nat.zero_le _⟩ dX1_undoes_8
set_option maxHeartbeats 4000000 in
theorem w_Xl_put_70 (hO : Ok p s m args meth c cX3_put RX3 4 D dA A) (hX : XK dA G A s) (hr : meth.sig.returnType = none) {ρ : XS} : ∀ (i0 : Nat) (x1 : Int32) (i3 : Nat) (σ : XS) (u : Nat) (v : Nat) (hi0 : i0 < 5) (huv : u ≤ 1 ∧ v ≤ 6) (tb : Nat) (ad : Nat → Nat), Xl_put_70 i0 x1 i3 σ u v = some ρ → Go p l e (rmG 44 1 6) s m args below meth c D A 4 (MQ below ((QgV D dA (fun z : (Nat → Nat) × Nat => WX dA G z.2 z.1 ρ)) A) args s 1 6 A) (WX dA G tb ad σ) u v 70 [(0, .ref (G (48 + 3 * i0))), (1, .int x1), (3, .ref (ad i3))] [] := by
  intro i0 x1 i3 σ u v hi0 huv tb ad h
  unfold Xl_put_70 at h
  refine zg_aload_n hO 0 dX3_put_70 rfl rfl ?_
  refine xG_3_17 hO hX hi0 dX3_put_71 ?_
  refine zg_iload_n hO 1 dX3_put_74 rfl rfl ?_
  refine zg_aload_n hO 2 dX3_put_75 rfl rfl ?_
  refine xS_topS hO hi0 h dX3_put_76 (fun h => ?_)
  refine zg_aload_n hO 0 dX3_put_77 rfl rfl ?_
  refine xG_3_21 hO hX hi0 dX3_put_78 ?_
  refine zg_iload_n hO 1 dX3_put_81 rfl rfl ?_
  refine zg_dup2 hO dX3_put_82 rfl rfl ?_
  refine xL_many hO hi0 h dX3_put_83 (fun h => ?_)
  refine zg_iconst hO dX3_put_84 ic1 ?_
  refine zg_iadd hO dX3_put_85 ?_
  refine xS_many hO hi0 h dX3_put_86 (fun h => ?_)
  refine zg_aload_n hO 0 dX3_put_87 rfl rfl ?_
  refine xG_3_3 hO hX hi0 dX3_put_88 ?_
  refine zg_dup hO dX3_put_91 rfl ?_
  refine xG_3_36 hO hX dX3_put_92 ?_
  refine zg_lconst hO dX3_put_95 lc1 ?_
  refine zg_ladd hO dX3_put_96 ?_
  refine xP_3_36 hO hX dX3_put_97 ?_
  exact zy_vretG hO hr h huv dX3_put_100
theorem mw_X3_put : MwX yX3_put cX3_put 4 none RX3 2 := ⟨by decide +kernel, q1193, q1194, q88, q1195⟩
set_option maxHeartbeats 4000000 in
theorem m_Xl_put (l : Launch) (D : va_G) (dA : Nat → ClassId) (G : Nat → Nat) {i0 : Nat} {x1 : Int32} {x2 : Int32} {σ : XS} (hi0 : i0 < 5) (tb : Nat) (ad : Nat → Nat) {ρ : XS} (h : Xl_put i0 x1 x2 σ = some ρ) : CtX l yX3_put (ws_ yX3_put cX3_put 4 none) 44 1 6 D dA G [.ref (G (48 + 3 * i0)), .int x1, .int x2] (WX dA G tb ad σ) (QgV D dA (fun z : (Nat → Nat) × Nat => WX dA G z.2 z.1 ρ)) := by
  refine zx_start (cc := cX3_put) (nL := 4) (ret := none) (own := RX3) (by decide) rfl rfl (Nat.le_of_ble_eq_true rfl) (fun p e s m args below meth c A hO hX hr _ _ => ?_)
  unfold Xl_put at h
  refine zg_sub (lv' := [(0, .ref (G (48 + 3 * i0))), (1, .int x1), (2, .int x2)]) [0, 1, 2] rfl ?_
  refine zy_newC hO h dX3_put_0 (fun ad hc1 h => ?_)
  refine zg_dup hO dX3_put_3 rfl ?_
  refine zg_iload_n hO 2 dX3_put_4 rfl rfl ?_
  refine zg_aload_n hO 0 dX3_put_5 rfl rfl ?_
  refine xG_3_17 hO hX hi0 dX3_put_6 ?_
  refine zg_iload_n hO 1 dX3_put_9 rfl rfl ?_
  refine xL_top hO hi0 h dX3_put_10 (fun h => ?_)
  refine zy_cinit (rest := [.ref (ad (xN σ))]) hO hX h (Nat.le_of_ble_eq_true rfl) dX3_put_11 (fun h => ?_) hc1
  refine zg_astore_n (lv' := [(3, .ref (ad (xN σ))), (0, .ref (G (48 + 3 * i0))), (1, .int x1), (2, .int x2)]) hO dX3_put_14 rfl (Nat.le_of_ble_eq_true rfl) rfl ?_
  refine zg_aload_n hO 1 dX3_put_15 rfl rfl ?_
  refine xG_3_3 hO hX hi0 dX3_put_16 ?_
  refine zg_aload_n hO 0 dX3_put_19 rfl rfl ?_
  refine zg_iload_n hO 3 dX3_put_20 rfl rfl ?_
  refine zy_callNvF (b := G 0) (As := [.ref (ad (xN σ)), .int x2]) (rest := []) hO hX h (fun q hq => m_X_make l D dA G tb ad hq) mw_X1_make q1220 ⟨Nat.le_of_ble_eq_true rfl, Nat.le_of_ble_eq_true rfl⟩ hc1 rfl rfl (Nat.le_of_ble_eq_true rfl) ⟨0, 1, _, _, rfl, rfl, rfl⟩ dX3_put_21 (fun q2 h => ?_)
  refine zg_aload_n hO 1 dX3_put_24 rfl rfl ?_
  refine xG_3_17 hO hX hi0 dX3_put_25 ?_
  refine zg_iload_n hO 2 dX3_put_28 rfl rfl ?_
  refine xL_top hO hi0 h dX3_put_29 (fun h => ?_)
  refine zx_ifnull (tgt := 70) hO h dX3_put_30 (by decide) (fun hni3 h => ?_) (fun i3 hi3 h => ?_)
  · exact zg_sub [1, 2, 0] rfl (w_Xl_put_70 hO hX hr _ _ _ _ _ _ hi0 hc1 tb ad h)
  · refine zg_iload_n hO 2 dX3_put_33 rfl rfl ?_
    refine zg_if_ne (tgt := 55) hO h dX3_put_34 (by decide) (fun h => ?_) (fun h => ?_)
    · refine zg_aload_n hO 1 dX3_put_55 rfl rfl ?_
      refine xG_3_3 hO hX hi0 dX3_put_56 ?_
      refine zg_aload_n hO 0 dX3_put_59 rfl rfl ?_
      refine zg_aload_n hO 1 dX3_put_60 rfl rfl ?_
      refine xG_3_17 hO hX hi0 dX3_put_61 ?_
      refine zg_iload_n hO 2 dX3_put_64 rfl rfl ?_
      refine xL_top hO hi0 h dX3_put_65 (fun h => ?_)
      refine zx_top ad hi3 ?_
      refine zg_aload_n hO 0 dX3_put_66 rfl rfl ?_
      refine zy_callNvF (b := G 0) (As := [.ref (ad (xN σ)), .ref (ad i3), .ref (ad (xN σ))]) (rest := []) hO hX h (fun q hq => m_X_join l D dA G tb ad hq) mw_X1_join q1228 ⟨Nat.le_of_ble_eq_true rfl, Nat.le_of_ble_eq_true rfl⟩ hc1 rfl rfl (Nat.le_of_ble_eq_true rfl) ⟨0, 1, _, _, rfl, rfl, rfl⟩ dX3_put_67 (fun q4 h => ?_)
      exact zg_sub [1, 2, 0] rfl (w_Xl_put_70 hO hX hr _ _ _ _ _ _ hi0 hc1 tb ad h)
    · refine zg_aload_n hO 1 dX3_put_37 rfl rfl ?_
      refine xG_3_3 hO hX hi0 dX3_put_38 ?_
      refine zg_aload_n hO 0 dX3_put_41 rfl rfl ?_
      refine zg_aload_n hO 0 dX3_put_42 rfl rfl ?_
      refine zg_aload_n hO 1 dX3_put_43 rfl rfl ?_
      refine xG_3_17 hO hX hi0 dX3_put_44 ?_
      refine zg_iload_n hO 2 dX3_put_47 rfl rfl ?_
      refine xL_top hO hi0 h dX3_put_48 (fun h => ?_)
      refine zx_top ad hi3 ?_
      refine zy_callNvF (b := G 0) (As := [.ref (ad (xN σ)), .ref (ad (xN σ)), .ref (ad i3)]) (rest := []) hO hX h (fun q hq => m_X_join l D dA G tb ad hq) mw_X1_join q1228 ⟨Nat.le_of_ble_eq_true rfl, Nat.le_of_ble_eq_true rfl⟩ hc1 rfl rfl (Nat.le_of_ble_eq_true rfl) ⟨0, 1, _, _, rfl, rfl, rfl⟩ dX3_put_49 (fun q5 h => ?_)
      refine zg_goto (tgt := 70) hO dX3_put_52 (by decide) ?_
      exact zg_sub [1, 2, 0] rfl (w_Xl_put_70 hO hX hr _ _ _ _ _ _ hi0 hc1 tb ad h)
theorem mw_X1_puts : MwX yX1_puts cX1_puts 5 (some .int) RX1 3 := ⟨by decide +kernel, q1395, q1396, q85, q1397⟩
set_option maxHeartbeats 4000000 in
theorem m_X_puts (l : Launch) (D : va_G) (dA : Nat → ClassId) (G : Nat → Nat) {x1 : Int32} {x2 : Int32} {x3 : Int32} {σ : XS} (tb : Nat) (ad : Nat → Nat) {ρ : Int32 × XS} (h : X_puts x1 x2 x3 σ = some ρ) : CtX l yX1_puts (ws_ yX1_puts cX1_puts 5 (some .int)) 45 1 6 D dA G [.ref (G 0), .int x1, .int x2, .int x3] (WX dA G tb ad σ) (QgI D dA (fun z : (Nat → Nat) × Nat => WX dA G z.2 z.1 ρ.2) ρ.1) := by
  refine zx_start (cc := cX1_puts) (nL := 5) (ret := (some .int)) (own := RX1) (by decide) rfl rfl (Nat.le_of_ble_eq_true rfl) (fun p e s m args below meth c A hO hX hr _ _ => ?_)
  unfold X_puts at h
  refine zg_sub (lv' := [(0, .ref (G 0)), (1, .int x1), (2, .int x2), (3, .int x3)]) [0, 1, 2, 3] rfl ?_
  refine zg_iload_n hO 1 dX1_puts_0 rfl rfl ?_
  refine zs_calli (As := [.int x1]) (rest := []) hO h (fun q hq => m_X_isLine l D dA hq) mw_X1_isLine q1398 ⟨Nat.le_of_ble_eq_true rfl, Nat.le_of_ble_eq_true rfl⟩ ⟨Nat.zero_le _, Nat.zero_le _⟩ rfl rfl (Nat.le_of_ble_eq_true rfl) dX1_puts_1 (fun q1 h => ?_)
  refine zg_if_eq (tgt := 21) hO h dX1_puts_4 (by decide) (fun h => ?_) (fun h => ?_)
  · refine zg_iconst hO dX1_puts_21 icm1 ?_
    exact zy_iretG hO hr h ⟨Nat.zero_le _, Nat.zero_le _⟩ dX1_puts_22
  · refine zg_iload_n hO 2 dX1_puts_7 rfl rfl ?_
    refine zs_calli (As := [.int x2]) (rest := []) hO h (fun q hq => m_X_isEnd l D dA hq) mw_X1_isEnd q1402 ⟨Nat.le_of_ble_eq_true rfl, Nat.le_of_ble_eq_true rfl⟩ ⟨Nat.zero_le _, Nat.zero_le _⟩ rfl rfl (Nat.le_of_ble_eq_true rfl) dX1_puts_8 (fun q2 h => ?_)
    refine zg_if_eq (tgt := 21) hO h dX1_puts_11 (by decide) (fun h => ?_) (fun h => ?_)
    · refine zg_iconst hO dX1_puts_21 icm1 ?_
      exact zy_iretG hO hr h ⟨Nat.zero_le _, Nat.zero_le _⟩ dX1_puts_22
    · refine zg_iload_n hO 3 dX1_puts_14 rfl rfl ?_
      refine zs_calli (As := [.int x3]) (rest := []) hO h (fun q hq => m_X_isItem l D dA hq) mw_X1_isItem q1356 ⟨Nat.le_of_ble_eq_true rfl, Nat.le_of_ble_eq_true rfl⟩ ⟨Nat.zero_le _, Nat.zero_le _⟩ rfl rfl (Nat.le_of_ble_eq_true rfl) dX1_puts_15 (fun q3 h => ?_)
      refine zg_if_ne (tgt := 23) hO h dX1_puts_18 (by decide) (fun h => ?_) (fun h => ?_)
      · refine zg_aload_n hO 0 dX1_puts_23 rfl rfl ?_
        refine xG_1_162 hO hX dX1_puts_24 ?_
        refine zg_iload_n hO 1 dX1_puts_27 rfl rfl ?_
        refine zy_lget (rest := []) hO hX h q1406 (Nat.le_of_ble_eq_true rfl) dX1_puts_28 (fun hb4 h => ?_) ⟨Nat.zero_le _, Nat.zero_le _⟩
        refine zy_castL hO hb4 q231 dX1_puts_33 ?_
        refine zg_astore (lv' := [(4, .ref (G (48 + 3 * x1.toNatClampNeg))), (0, .ref (G 0)), (1, .int x1), (2, .int x2), (3, .int x3)]) hO dX1_puts_36 (Nat.le_of_ble_eq_true rfl) rfl ?_
        refine zg_aload hO 0 dX1_puts_38 rfl ?_
        refine zy_callViF (b := G (48 + 3 * x1.toNatClampNeg)) (As := []) (rest := []) hO hX h (fun q hq => m_Xl_size l D dA G hb4 tb ad hq) mw_X3_size q1407 ⟨Nat.le_of_ble_eq_true rfl, Nat.le_of_ble_eq_true rfl⟩ ⟨Nat.zero_le _, Nat.zero_le _⟩ rfl rfl (Nat.le_of_ble_eq_true rfl) ⟨40 + 3 * x1.toNatClampNeg, 2, _, _, wx_line hb4, rfl, rfl⟩ dX1_puts_40 (fun q5 h => ?_)
        refine zg_bipush hO dX1_puts_43 bc64 ?_
        refine zg_icmp_ne (tgt := 51) hO h dX1_puts_45 (by decide) (fun h => ?_) (fun h => ?_)
        · refine zg_aload hO 0 dX1_puts_51 rfl ?_
          refine zg_iload_n hO 3 dX1_puts_53 rfl rfl ?_
          refine zg_iload_n hO 4 dX1_puts_54 rfl rfl ?_
          refine zg_chk h (fun hc7 h => ?_)
          refine zy_callVvG (b := G (48 + 3 * x1.toNatClampNeg)) (As := [.int x2, .int x3]) (rest := []) hO hX h (fun q hq => m_Xl_put l D dA G hb4 tb ad hq) mw_X3_put q1411 ⟨Nat.le_of_ble_eq_true rfl, Nat.le_of_ble_eq_true rfl⟩ hc7 rfl rfl (Nat.le_of_ble_eq_true rfl) ⟨40 + 3 * x1.toNatClampNeg, 2, _, _, wx_line hb4, rfl, rfl⟩ dX1_puts_55 (fun q6 ad tb h => ?_)
          refine zg_aload hO 0 dX1_puts_58 rfl ?_
          refine zy_callViF (b := G (48 + 3 * x1.toNatClampNeg)) (As := []) (rest := []) hO hX h (fun q hq => m_Xl_size l D dA G hb4 tb ad hq) mw_X3_size q1407 ⟨Nat.le_of_ble_eq_true rfl, Nat.le_of_ble_eq_true rfl⟩ hc7 rfl rfl (Nat.le_of_ble_eq_true rfl) ⟨40 + 3 * x1.toNatClampNeg, 2, _, _, wx_line hb4, rfl, rfl⟩ dX1_puts_60 (fun q8 h => ?_)
          exact zy_iretG hO hr h hc7 dX1_puts_63
        · refine zg_bipush hO dX1_puts_48 bcm3 ?_
          exact zy_iretG hO hr h ⟨Nat.zero_le _, Nat.zero_le _⟩ dX1_puts_50
      · refine zg_iconst hO dX1_puts_21 icm1 ?_
        exact zy_iretG hO hr h ⟨Nat.zero_le _, Nat.zero_le _⟩ dX1_puts_22
set_option maxHeartbeats 4000000 in
theorem w_Xl_lays_r0_36 (hO : Ok p s m args meth c cX3_lays RX3 6 D dA A) (hX : XK dA G A s) (hr : meth.sig.returnType = none) {ρ : XS} : ∀ (n : Nat) (i0 : Nat) (x2 : Int32) (x3 : Int32) (x5 : Int32) (σ : XS) (u : Nat) (v : Nat) (hi0 : i0 < 5) (huv : u ≤ 64 ∧ v ≤ 384) (tb : Nat) (ad : Nat → Nat), Xl_lays_r0_36 n i0 x2 x3 x5 σ u v = some ρ → Go p l e (rmG 45 64 384) s m args below meth c D A 6 (MQ below ((QgV D dA (fun z : (Nat → Nat) × Nat => WX dA G z.2 z.1 ρ)) A) args s 64 384 A) (WX dA G tb ad σ) u v 36 [(0, .ref (G (48 + 3 * i0))), (1, .ref (G 63)), (2, .int x2), (3, .int x3), (5, .int x5)] [] := by
  intro n
  induction n with
  | zero =>
    intro i0 x2 x3 x5 σ u v hi0 huv tb ad h
    rw [Xl_lays_r0_36] at h
    cases h
  | succ n ih =>
    intro i0 x2 x3 x5 σ u v hi0 huv tb ad h
    rw [Xl_lays_r0_36] at h
    refine zg_iload hO 4 dX3_lays_36 rfl ?_
    refine zg_iload_n hO 3 dX3_lays_38 rfl rfl ?_
    refine zg_icmp_ge (tgt := 59) hO h dX3_lays_39 (by decide) (fun h => ?_) (fun h => ?_)
    · exact zy_vretG hO hr h huv dX3_lays_59
    · refine zg_aload_n hO 0 dX3_lays_42 rfl rfl ?_
      refine zg_iconst hO dX3_lays_43 ic1 ?_
      refine zg_aload_n hO 1 dX3_lays_44 rfl rfl ?_
      refine zg_iload_n hO 2 dX3_lays_45 rfl rfl ?_
      refine zg_iload hO 4 dX3_lays_46 rfl ?_
      refine zg_iadd hO dX3_lays_48 ?_
      refine xL_row0 hO h dX3_lays_49 (fun h => ?_)
      refine zg_chk h (fun hc5 h => ?_)
      refine zy_callVvG (b := G (48 + 3 * i0)) (As := [.int (nI 1), .int (xA σ 3 (x2 + x5).toNatClampNeg)]) (rest := []) hO hX h (fun q hq => m_Xl_put l D dA G hi0 tb ad hq) mw_X3_put q1192 ⟨Nat.le_of_ble_eq_true rfl, Nat.le_of_ble_eq_true rfl⟩ hc5 rfl rfl (Nat.le_of_ble_eq_true rfl) ⟨40 + 3 * i0, 2, _, _, wx_line hi0, rfl, rfl⟩ dX3_lays_50 (fun q4 ad tb h => ?_)
      refine zg_iinc (k := 4) (lv' := [(5, .int (x5 + (nI 1))), (0, .ref (G (48 + 3 * i0))), (1, .ref (G 63)), (2, .int x2), (3, .int x3)]) hO dX3_lays_53 rfl (zii ic1) (Nat.le_of_ble_eq_true rfl) rfl ?_
      refine zg_goto (tgt := 36) hO dX3_lays_56 (by decide) ?_
      exact zg_sub [1, 2, 3, 4, 0] rfl (ih _ _ _ _ _ _ _ hi0 hc5 tb ad h)
set_option maxHeartbeats 4000000 in
theorem w_Xl_lays_r0_10 (hO : Ok p s m args meth c cX3_lays RX3 6 D dA A) (hX : XK dA G A s) (hr : meth.sig.returnType = none) {ρ : XS} : ∀ (n : Nat) (i0 : Nat) (x2 : Int32) (x3 : Int32) (x4 : Int32) (x5 : Int32) (σ : XS) (u : Nat) (v : Nat) (hi0 : i0 < 5) (huv : u ≤ 64 ∧ v ≤ 384) (tb : Nat) (ad : Nat → Nat), Xl_lays_r0_10 n i0 x2 x3 x4 x5 σ u v = some ρ → Go p l e (rmG 45 64 384) s m args below meth c D A 6 (MQ below ((QgV D dA (fun z : (Nat → Nat) × Nat => WX dA G z.2 z.1 ρ)) A) args s 64 384 A) (WX dA G tb ad σ) u v 10 [(0, .ref (G (48 + 3 * i0))), (1, .ref (G 63)), (2, .int x2), (3, .int x3), (4, .int x4), (5, .int x5)] [] := by
  intro n
  induction n with
  | zero =>
    intro i0 x2 x3 x4 x5 σ u v hi0 huv tb ad h
    rw [Xl_lays_r0_10] at h
    cases h
  | succ n ih =>
    intro i0 x2 x3 x4 x5 σ u v hi0 huv tb ad h
    rw [Xl_lays_r0_10] at h
    refine zg_iload hO 5 dX3_lays_10 rfl ?_
    refine zg_if_lt (tgt := 32) hO h dX3_lays_12 (by decide) (fun h => ?_) (fun h => ?_)
    · refine zg_iload hO 4 dX3_lays_32 rfl ?_
      refine zg_istore (lv' := [(5, .int x4), (0, .ref (G (48 + 3 * i0))), (1, .ref (G 63)), (2, .int x2), (3, .int x3), (4, .int x4)]) hO dX3_lays_34 (Nat.le_of_ble_eq_true rfl) rfl ?_
      exact zg_sub [1, 2, 3, 4, 0] rfl (w_Xl_lays_r0_36 hO hX hr _ _ _ _ _ _ _ _ hi0 huv tb ad h)
    · refine zg_aload_n hO 0 dX3_lays_15 rfl rfl ?_
      refine zg_iconst hO dX3_lays_16 ic0 ?_
      refine zg_aload_n hO 1 dX3_lays_17 rfl rfl ?_
      refine zg_iload_n hO 2 dX3_lays_18 rfl rfl ?_
      refine zg_iload hO 5 dX3_lays_19 rfl ?_
      refine zg_iadd hO dX3_lays_21 ?_
      refine xL_row0 hO h dX3_lays_22 (fun h => ?_)
      refine zg_chk h (fun hc3 h => ?_)
      refine zy_callVvG (b := G (48 + 3 * i0)) (As := [.int (nI 0), .int (xA σ 3 (x2 + x5).toNatClampNeg)]) (rest := []) hO hX h (fun q hq => m_Xl_put l D dA G hi0 tb ad hq) mw_X3_put q1192 ⟨Nat.le_of_ble_eq_true rfl, Nat.le_of_ble_eq_true rfl⟩ hc3 rfl rfl (Nat.le_of_ble_eq_true rfl) ⟨40 + 3 * i0, 2, _, _, wx_line hi0, rfl, rfl⟩ dX3_lays_23 (fun q2 ad tb h => ?_)
      refine zg_iinc (k := 5) (lv' := [(5, .int (x5 + (-1 : Int32))), (0, .ref (G (48 + 3 * i0))), (1, .ref (G 63)), (2, .int x2), (3, .int x3), (4, .int x4)]) hO dX3_lays_26 rfl (zii icm1) (Nat.le_of_ble_eq_true rfl) rfl ?_
      refine zg_goto (tgt := 10) hO dX3_lays_29 (by decide) ?_
      exact zg_sub [1, 2, 3, 4, 5, 0] rfl (ih _ _ _ _ _ _ _ _ hi0 hc3 tb ad h)
theorem mw_X3_lays : MwX yX3_lays cX3_lays 6 none RX3 4 := ⟨by decide +kernel, q1185, q1186, q88, q1187⟩
set_option maxHeartbeats 4000000 in
theorem m_Xl_lays_r0 (l : Launch) (D : va_G) (dA : Nat → ClassId) (G : Nat → Nat) {i0 : Nat} {x2 : Int32} {x3 : Int32} {x4 : Int32} {σ : XS} (hi0 : i0 < 5) (tb : Nat) (ad : Nat → Nat) {ρ : XS} (h : Xl_lays_r0 i0 x2 x3 x4 σ = some ρ) : CtX l yX3_lays (ws_ yX3_lays cX3_lays 6 none) 45 64 384 D dA G [.ref (G (48 + 3 * i0)), .ref (G 63), .int x2, .int x3, .int x4] (WX dA G tb ad σ) (QgV D dA (fun z : (Nat → Nat) × Nat => WX dA G z.2 z.1 ρ)) := by
  refine zx_start (cc := cX3_lays) (nL := 6) (ret := none) (own := RX3) (by decide) rfl rfl (Nat.le_of_ble_eq_true rfl) (fun p e s m args below meth c A hO hX hr _ _ => ?_)
  unfold Xl_lays_r0 at h
  refine zg_sub (lv' := [(0, .ref (G (48 + 3 * i0))), (1, .ref (G 63)), (2, .int x2), (3, .int x3), (4, .int x4)]) [0, 1, 2, 3, 4] rfl ?_
  refine zg_aload_n hO 0 dX3_lays_0 rfl rfl ?_
  refine zy_callVvF (b := G (48 + 3 * i0)) (As := []) (rest := []) hO hX h (fun q hq => m_Xl_empties l D dA G hi0 tb ad hq) mw_X3_empties q1188 ⟨Nat.le_of_ble_eq_true rfl, Nat.le_of_ble_eq_true rfl⟩ ⟨Nat.zero_le _, Nat.zero_le _⟩ rfl rfl (Nat.le_of_ble_eq_true rfl) ⟨40 + 3 * i0, 2, _, _, wx_line hi0, rfl, rfl⟩ dX3_lays_1 (fun q1 h => ?_)
  refine zg_iload hO 4 dX3_lays_4 rfl ?_
  refine zg_iconst hO dX3_lays_6 ic1 ?_
  refine zg_isub hO dX3_lays_7 ?_
  refine zg_istore (lv' := [(5, .int (x4 - (nI 1))), (0, .ref (G (48 + 3 * i0))), (1, .ref (G 63)), (2, .int x2), (3, .int x3), (4, .int x4)]) hO dX3_lays_8 (Nat.le_of_ble_eq_true rfl) rfl ?_
  exact zg_sub [1, 2, 3, 4, 5, 0] rfl (w_Xl_lays_r0_10 hO hX hr _ _ _ _ _ _ _ _ _ hi0 ⟨Nat.zero_le _, Nat.zero_le _⟩ tb ad h)
set_option maxHeartbeats 4000000 in
theorem w_Xl_lays_r1_36 (hO : Ok p s m args meth c cX3_lays RX3 6 D dA A) (hX : XK dA G A s) (hr : meth.sig.returnType = none) {ρ : XS} : ∀ (n : Nat) (i0 : Nat) (x2 : Int32) (x3 : Int32) (x5 : Int32) (σ : XS) (u : Nat) (v : Nat) (hi0 : i0 < 5) (huv : u ≤ 64 ∧ v ≤ 384) (tb : Nat) (ad : Nat → Nat), Xl_lays_r1_36 n i0 x2 x3 x5 σ u v = some ρ → Go p l e (rmG 45 64 384) s m args below meth c D A 6 (MQ below ((QgV D dA (fun z : (Nat → Nat) × Nat => WX dA G z.2 z.1 ρ)) A) args s 64 384 A) (WX dA G tb ad σ) u v 36 [(0, .ref (G (48 + 3 * i0))), (1, .ref (G 64)), (2, .int x2), (3, .int x3), (5, .int x5)] [] := by
  intro n
  induction n with
  | zero =>
    intro i0 x2 x3 x5 σ u v hi0 huv tb ad h
    rw [Xl_lays_r1_36] at h
    cases h
  | succ n ih =>
    intro i0 x2 x3 x5 σ u v hi0 huv tb ad h
    rw [Xl_lays_r1_36] at h
    refine zg_iload hO 4 dX3_lays_36 rfl ?_
    refine zg_iload_n hO 3 dX3_lays_38 rfl rfl ?_
    refine zg_icmp_ge (tgt := 59) hO h dX3_lays_39 (by decide) (fun h => ?_) (fun h => ?_)
    · exact zy_vretG hO hr h huv dX3_lays_59
    · refine zg_aload_n hO 0 dX3_lays_42 rfl rfl ?_
      refine zg_iconst hO dX3_lays_43 ic1 ?_
      refine zg_aload_n hO 1 dX3_lays_44 rfl rfl ?_
      refine zg_iload_n hO 2 dX3_lays_45 rfl rfl ?_
      refine zg_iload hO 4 dX3_lays_46 rfl ?_
      refine zg_iadd hO dX3_lays_48 ?_
      refine xL_row1 hO h dX3_lays_49 (fun h => ?_)
      refine zg_chk h (fun hc5 h => ?_)
      refine zy_callVvG (b := G (48 + 3 * i0)) (As := [.int (nI 1), .int (xA σ 4 (x2 + x5).toNatClampNeg)]) (rest := []) hO hX h (fun q hq => m_Xl_put l D dA G hi0 tb ad hq) mw_X3_put q1192 ⟨Nat.le_of_ble_eq_true rfl, Nat.le_of_ble_eq_true rfl⟩ hc5 rfl rfl (Nat.le_of_ble_eq_true rfl) ⟨40 + 3 * i0, 2, _, _, wx_line hi0, rfl, rfl⟩ dX3_lays_50 (fun q4 ad tb h => ?_)
      refine zg_iinc (k := 4) (lv' := [(5, .int (x5 + (nI 1))), (0, .ref (G (48 + 3 * i0))), (1, .ref (G 64)), (2, .int x2), (3, .int x3)]) hO dX3_lays_53 rfl (zii ic1) (Nat.le_of_ble_eq_true rfl) rfl ?_
      refine zg_goto (tgt := 36) hO dX3_lays_56 (by decide) ?_
      exact zg_sub [1, 2, 3, 4, 0] rfl (ih _ _ _ _ _ _ _ hi0 hc5 tb ad h)
set_option maxHeartbeats 4000000 in
theorem w_Xl_lays_r1_10 (hO : Ok p s m args meth c cX3_lays RX3 6 D dA A) (hX : XK dA G A s) (hr : meth.sig.returnType = none) {ρ : XS} : ∀ (n : Nat) (i0 : Nat) (x2 : Int32) (x3 : Int32) (x4 : Int32) (x5 : Int32) (σ : XS) (u : Nat) (v : Nat) (hi0 : i0 < 5) (huv : u ≤ 64 ∧ v ≤ 384) (tb : Nat) (ad : Nat → Nat), Xl_lays_r1_10 n i0 x2 x3 x4 x5 σ u v = some ρ → Go p l e (rmG 45 64 384) s m args below meth c D A 6 (MQ below ((QgV D dA (fun z : (Nat → Nat) × Nat => WX dA G z.2 z.1 ρ)) A) args s 64 384 A) (WX dA G tb ad σ) u v 10 [(0, .ref (G (48 + 3 * i0))), (1, .ref (G 64)), (2, .int x2), (3, .int x3), (4, .int x4), (5, .int x5)] [] := by
  intro n
  induction n with
  | zero =>
    intro i0 x2 x3 x4 x5 σ u v hi0 huv tb ad h
    rw [Xl_lays_r1_10] at h
    cases h
  | succ n ih =>
    intro i0 x2 x3 x4 x5 σ u v hi0 huv tb ad h
    rw [Xl_lays_r1_10] at h
    refine zg_iload hO 5 dX3_lays_10 rfl ?_
    refine zg_if_lt (tgt := 32) hO h dX3_lays_12 (by decide) (fun h => ?_) (fun h => ?_)
    · refine zg_iload hO 4 dX3_lays_32 rfl ?_
      refine zg_istore (lv' := [(5, .int x4), (0, .ref (G (48 + 3 * i0))), (1, .ref (G 64)), (2, .int x2), (3, .int x3), (4, .int x4)]) hO dX3_lays_34 (Nat.le_of_ble_eq_true rfl) rfl ?_
      exact zg_sub [1, 2, 3, 4, 0] rfl (w_Xl_lays_r1_36 hO hX hr _ _ _ _ _ _ _ _ hi0 huv tb ad h)
    · refine zg_aload_n hO 0 dX3_lays_15 rfl rfl ?_
      refine zg_iconst hO dX3_lays_16 ic0 ?_
      refine zg_aload_n hO 1 dX3_lays_17 rfl rfl ?_
      refine zg_iload_n hO 2 dX3_lays_18 rfl rfl ?_
      refine zg_iload hO 5 dX3_lays_19 rfl ?_
      refine zg_iadd hO dX3_lays_21 ?_
      refine xL_row1 hO h dX3_lays_22 (fun h => ?_)
      refine zg_chk h (fun hc3 h => ?_)
      refine zy_callVvG (b := G (48 + 3 * i0)) (As := [.int (nI 0), .int (xA σ 4 (x2 + x5).toNatClampNeg)]) (rest := []) hO hX h (fun q hq => m_Xl_put l D dA G hi0 tb ad hq) mw_X3_put q1192 ⟨Nat.le_of_ble_eq_true rfl, Nat.le_of_ble_eq_true rfl⟩ hc3 rfl rfl (Nat.le_of_ble_eq_true rfl) ⟨40 + 3 * i0, 2, _, _, wx_line hi0, rfl, rfl⟩ dX3_lays_23 (fun q2 ad tb h => ?_)
      refine zg_iinc (k := 5) (lv' := [(5, .int (x5 + (-1 : Int32))), (0, .ref (G (48 + 3 * i0))), (1, .ref (G 64)), (2, .int x2), (3, .int x3), (4, .int x4)]) hO dX3_lays_26 rfl (zii icm1) (Nat.le_of_ble_eq_true rfl) rfl ?_
      refine zg_goto (tgt := 10) hO dX3_lays_29 (by decide) ?_
      exact zg_sub [1, 2, 3, 4, 5, 0] rfl (ih _ _ _ _ _ _ _ _ hi0 hc3 tb ad h)
set_option maxHeartbeats 4000000 in
theorem m_Xl_lays_r1 (l : Launch) (D : va_G) (dA : Nat → ClassId) (G : Nat → Nat) {i0 : Nat} {x2 : Int32} {x3 : Int32} {x4 : Int32} {σ : XS} (hi0 : i0 < 5) (tb : Nat) (ad : Nat → Nat) {ρ : XS} (h : Xl_lays_r1 i0 x2 x3 x4 σ = some ρ) : CtX l yX3_lays (ws_ yX3_lays cX3_lays 6 none) 45 64 384 D dA G [.ref (G (48 + 3 * i0)), .ref (G 64), .int x2, .int x3, .int x4] (WX dA G tb ad σ) (QgV D dA (fun z : (Nat → Nat) × Nat => WX dA G z.2 z.1 ρ)) := by
  refine zx_start (cc := cX3_lays) (nL := 6) (ret := none) (own := RX3) (by decide) rfl rfl (Nat.le_of_ble_eq_true rfl) (fun p e s m args below meth c A hO hX hr _ _ => ?_)
  unfold Xl_lays_r1 at h
  refine zg_sub (lv' := [(0, .ref (G (48 + 3 * i0))), (1, .ref (G 64)), (2, .int x2), (3, .int x3), (4, .int x4)]) [0, 1, 2, 3, 4] rfl ?_
  refine zg_aload_n hO 0 dX3_lays_0 rfl rfl ?_
  refine zy_callVvF (b := G (48 + 3 * i0)) (As := []) (rest := []) hO hX h (fun q hq => m_Xl_empties l D dA G hi0 tb ad hq) mw_X3_empties q1188 ⟨Nat.le_of_ble_eq_true rfl, Nat.le_of_ble_eq_true rfl⟩ ⟨Nat.zero_le _, Nat.zero_le _⟩ rfl rfl (Nat.le_of_ble_eq_true rfl) ⟨40 + 3 * i0, 2, _, _, wx_line hi0, rfl, rfl⟩ dX3_lays_1 (fun q1 h => ?_)
  refine zg_iload hO 4 dX3_lays_4 rfl ?_
  refine zg_iconst hO dX3_lays_6 ic1 ?_
  refine zg_isub hO dX3_lays_7 ?_
  refine zg_istore (lv' := [(5, .int (x4 - (nI 1))), (0, .ref (G (48 + 3 * i0))), (1, .ref (G 64)), (2, .int x2), (3, .int x3), (4, .int x4)]) hO dX3_lays_8 (Nat.le_of_ble_eq_true rfl) rfl ?_
  exact zg_sub [1, 2, 3, 4, 5, 0] rfl (w_Xl_lays_r1_10 hO hX hr _ _ _ _ _ _ _ _ _ hi0 ⟨Nat.zero_le _, Nat.zero_le _⟩ tb ad h)
theorem mw_X3_anew : MwX yX3_anew cX3_anew 3 none RX3 1 := ⟨by decide +kernel, q1103, q1104, q88, q1105⟩
set_option maxHeartbeats 4000000 in
theorem m_Xl_anew (l : Launch) (D : va_G) (dA : Nat → ClassId) (G : Nat → Nat) {i0 : Nat} {x1 : Int32} {σ : XS} (hi0 : i0 < 5) (tb : Nat) (ad : Nat → Nat) {ρ : XS} (h : Xl_anew i0 x1 σ = some ρ) : CtX l yX3_anew (ws_ yX3_anew cX3_anew 3 none) 46 70 534 D dA G [.ref (G (48 + 3 * i0)), .int x1] (WX dA G tb ad σ) (QgV D dA (fun z : (Nat → Nat) × Nat => WX dA G z.2 z.1 ρ)) := by
  refine zx_start (cc := cX3_anew) (nL := 3) (ret := none) (own := RX3) (by decide) rfl rfl (Nat.le_of_ble_eq_true rfl) (fun p e s m args below meth c A hO hX hr _ _ => ?_)
  unfold Xl_anew at h
  refine zg_sub (lv' := [(0, .ref (G (48 + 3 * i0))), (1, .int x1)]) [0, 1] rfl ?_
  refine zg_aload_n hO 0 dX3_anew_0 rfl rfl ?_
  refine zg_aload_n hO 0 dX3_anew_1 rfl rfl ?_
  refine xG_3_3 hO hX hi0 dX3_anew_2 ?_
  refine xG_3_76 hO hX dX3_anew_5 ?_
  refine zg_chk h (fun hc2 h => ?_)
  refine zy_callViF (b := G (48 + 3 * i0)) (As := [.ref (G 63)]) (rest := []) hO hX h (fun q hq => m_Xl_lay_r0 l D dA G hi0 tb ad hq) mw_X3_lay q1106 ⟨Nat.le_of_ble_eq_true rfl, Nat.le_of_ble_eq_true rfl⟩ hc2 rfl rfl (Nat.le_of_ble_eq_true rfl) ⟨40 + 3 * i0, 2, _, _, wx_line hi0, rfl, rfl⟩ dX3_anew_8 (fun q1 h => ?_)
  refine zg_istore_n (lv' := [(2, .int q1.1), (0, .ref (G (48 + 3 * i0))), (1, .int x1)]) hO dX3_anew_11 rfl (Nat.le_of_ble_eq_true rfl) rfl ?_
  refine zg_aload_n hO 1 dX3_anew_12 rfl rfl ?_
  refine zg_aload_n hO 1 dX3_anew_13 rfl rfl ?_
  refine xG_3_3 hO hX hi0 dX3_anew_14 ?_
  refine xG_3_76 hO hX dX3_anew_17 ?_
  refine zg_iconst hO dX3_anew_20 ic0 ?_
  refine zg_iload_n hO 0 dX3_anew_21 rfl rfl ?_
  refine zg_iload_n hO 2 dX3_anew_22 rfl rfl ?_
  refine zg_chk h (fun hc4 h => ?_)
  refine zy_callVvG (b := G (48 + 3 * i0)) (As := [.ref (G 63), .int (nI 0), .int q1.1, .int x1]) (rest := []) hO hX h (fun q hq => m_Xl_lays_r0 l D dA G hi0 tb ad hq) mw_X3_lays q1184 ⟨Nat.le_of_ble_eq_true rfl, Nat.le_of_ble_eq_true rfl⟩ hc4 rfl rfl (Nat.le_of_ble_eq_true rfl) ⟨40 + 3 * i0, 2, _, _, wx_line hi0, rfl, rfl⟩ dX3_anew_23 (fun q3 ad tb h => ?_)
  exact zy_vretG hO hr h hc4 dX3_anew_26
set_option maxHeartbeats 4000000 in
theorem w_Xl_take_50 (hO : Ok p s m args meth c cX3_take RX3 3 D dA A) (hX : XK dA G A s) (hr : meth.sig.returnType = (some .int)) {ρ : Int32 × XS} : ∀ (i0 : Nat) (x1 : Int32) (σ : XS) (u : Nat) (v : Nat) (hi0 : i0 < 5) (huv : u ≤ 70 ∧ v ≤ 534) (tb : Nat) (ad : Nat → Nat), Xl_take_50 i0 x1 σ u v = some ρ → Go p l e (rmG 47 70 534) s m args below meth c D A 3 (MQ below ((QgI D dA (fun z : (Nat → Nat) × Nat => WX dA G z.2 z.1 ρ.2) ρ.1) A) args s 70 534 A) (WX dA G tb ad σ) u v 50 [(0, .ref (G (48 + 3 * i0))), (1, .int x1)] [] := by
  intro i0 x1 σ u v hi0 huv tb ad h
  unfold Xl_take_50 at h
  refine zg_aload_n hO 0 dX3_take_50 rfl rfl ?_
  refine xG_3_17 hO hX hi0 dX3_take_51 ?_
  refine zg_iload_n hO 1 dX3_take_54 rfl rfl ?_
  refine xL_top hO hi0 h dX3_take_55 (fun h => ?_)
  refine zg_astoreO_n (lv' := [(2, va_rf (Option.map ad (xT σ i0 x1.toNatClampNeg))), (0, .ref (G (48 + 3 * i0))), (1, .int x1)]) hO dX3_take_56 rfl (Nat.le_of_ble_eq_true rfl) rfl ?_
  refine zg_aload_n hO 1 dX3_take_57 rfl rfl ?_
  refine xG_3_17 hO hX hi0 dX3_take_58 ?_
  refine zg_iload_n hO 2 dX3_take_61 rfl rfl ?_
  refine zg_aloadO_n hO 0 dX3_take_62 rfl rfl ?_
  refine zx_oc h (fun i4 hi4 h => ?_)
  refine zx_top ad hi4 ?_
  refine xG_3_44 hO hX h dX3_take_63 (fun h => ?_)
  refine xS_top hO hi0 h dX3_take_66 (fun h => ?_)
  refine zg_aload_n hO 1 dX3_take_67 rfl rfl ?_
  refine xG_3_21 hO hX hi0 dX3_take_68 ?_
  refine zg_iload_n hO 2 dX3_take_71 rfl rfl ?_
  refine zg_dup2 hO dX3_take_72 rfl rfl ?_
  refine xL_many hO hi0 h dX3_take_73 (fun h => ?_)
  refine zg_iconst hO dX3_take_74 ic1 ?_
  refine zg_isub hO dX3_take_75 ?_
  refine xS_many hO hi0 h dX3_take_76 (fun h => ?_)
  refine zg_aloadO_n hO 0 dX3_take_77 rfl rfl ?_
  refine zx_top ad hi4 ?_
  refine xG_3_40 hO hX h dX3_take_78 (fun h => ?_)
  exact zy_iretG hO hr h huv dX3_take_81
set_option maxHeartbeats 4000000 in
theorem w_Xl_take_47 (hO : Ok p s m args meth c cX3_take RX3 3 D dA A) (hX : XK dA G A s) (hr : meth.sig.returnType = (some .int)) {ρ : Int32 × XS} : ∀ (i0 : Nat) (x1 : Int32) (y0 : Int32) (is1 : Nat) (σ : XS) (u : Nat) (v : Nat) (hi0 : i0 < 5) (his1 : is1 < 5) (huv : u ≤ 70 ∧ v ≤ 534) (tb : Nat) (ad : Nat → Nat), Xl_take_47 i0 x1 y0 is1 σ u v = some ρ → Go p l e (rmG 47 70 534) s m args below meth c D A 3 (MQ below ((QgI D dA (fun z : (Nat → Nat) × Nat => WX dA G z.2 z.1 ρ.2) ρ.1) A) args s 70 534 A) (WX dA G tb ad σ) u v 47 [(0, .ref (G (48 + 3 * i0))), (1, .int x1)] [.int y0, .ref (G (48 + 3 * is1))] := by
  intro i0 x1 y0 is1 σ u v hi0 his1 huv tb ad h
  unfold Xl_take_47 at h
  refine zg_chk h (fun hc3 h => ?_)
  refine zy_callVvG (b := G (48 + 3 * is1)) (As := [.int y0]) (rest := []) hO hX h (fun q hq => m_Xl_anew l D dA G his1 tb ad hq) mw_X3_anew q1421 ⟨Nat.le_of_ble_eq_true rfl, Nat.le_of_ble_eq_true rfl⟩ hc3 rfl rfl (Nat.le_of_ble_eq_true rfl) ⟨40 + 3 * is1, 2, _, _, wx_line his1, rfl, rfl⟩ dX3_take_47 (fun q2 ad tb h => ?_)
  exact zg_sub [0, 1] rfl (w_Xl_take_50 hO hX hr _ _ _ _ _ hi0 hc3 tb ad h)
theorem mw_X3_take : MwX yX3_take cX3_take 3 (some .int) RX3 1 := ⟨by decide +kernel, q1417, q1418, q88, q1419⟩
set_option maxHeartbeats 4000000 in
theorem m_Xl_take (l : Launch) (D : va_G) (dA : Nat → ClassId) (G : Nat → Nat) {i0 : Nat} {x1 : Int32} {σ : XS} (hi0 : i0 < 5) (tb : Nat) (ad : Nat → Nat) {ρ : Int32 × XS} (h : Xl_take i0 x1 σ = some ρ) : CtX l yX3_take (ws_ yX3_take cX3_take 3 (some .int)) 47 70 534 D dA G [.ref (G (48 + 3 * i0)), .int x1] (WX dA G tb ad σ) (QgI D dA (fun z : (Nat → Nat) × Nat => WX dA G z.2 z.1 ρ.2) ρ.1) := by
  refine zx_start (cc := cX3_take) (nL := 3) (ret := (some .int)) (own := RX3) (by decide) rfl rfl (Nat.le_of_ble_eq_true rfl) (fun p e s m args below meth c A hO hX hr _ _ => ?_)
  unfold Xl_take at h
  refine zg_sub (lv' := [(0, .ref (G (48 + 3 * i0))), (1, .int x1)]) [0, 1] rfl ?_
  refine zg_aload_n hO 0 dX3_take_0 rfl rfl ?_
  refine xG_3_21 hO hX hi0 dX3_take_1 ?_
  refine zg_iload_n hO 1 dX3_take_4 rfl rfl ?_
  refine xL_many hO hi0 h dX3_take_5 (fun h => ?_)
  refine zg_if_ne (tgt := 50) hO h dX3_take_6 (by decide) (fun h => ?_) (fun h => ?_)
  · exact zg_sub [0, 1] rfl (w_Xl_take_50 hO hX hr _ _ _ _ _ hi0 ⟨Nat.zero_le _, Nat.zero_le _⟩ tb ad h)
  · refine zg_aload_n hO 0 dX3_take_9 rfl rfl ?_
    refine zy_callViF (b := G (48 + 3 * i0)) (As := []) (rest := []) hO hX h (fun q hq => m_Xl_size l D dA G hi0 tb ad hq) mw_X3_size q1420 ⟨Nat.le_of_ble_eq_true rfl, Nat.le_of_ble_eq_true rfl⟩ ⟨Nat.zero_le _, Nat.zero_le _⟩ rfl rfl (Nat.le_of_ble_eq_true rfl) ⟨40 + 3 * i0, 2, _, _, wx_line hi0, rfl, rfl⟩ dX3_take_10 (fun q1 h => ?_)
    refine zg_istore_n (lv' := [(2, .int q1.1), (0, .ref (G (48 + 3 * i0))), (1, .int x1)]) hO dX3_take_13 rfl (Nat.le_of_ble_eq_true rfl) rfl ?_
    refine zg_aload_n hO 1 dX3_take_14 rfl rfl ?_
    refine xG_3_3 hO hX hi0 dX3_take_15 ?_
    refine zg_dup hO dX3_take_18 rfl ?_
    refine xG_3_91 hO hX dX3_take_19 ?_
    refine zg_iconst hO dX3_take_22 ic1 ?_
    refine zg_iadd hO dX3_take_23 ?_
    refine xP_3_91 hO hX dX3_take_24 ?_
    refine zg_aload_n hO 1 dX3_take_27 rfl rfl ?_
    refine zg_iload_n hO 2 dX3_take_28 rfl rfl ?_
    refine zg_if_ne (tgt := 40) hO h dX3_take_29 (by decide) (fun h => ?_) (fun h => ?_)
    · refine zg_iload_n hO 0 dX3_take_40 rfl rfl ?_
      refine zg_iload_n hO 0 dX3_take_41 rfl rfl ?_
      refine zg_iconst hO dX3_take_42 ic1 ?_
      refine zg_iadd hO dX3_take_43 ?_
      refine zg_iconst hO dX3_take_44 ic2 ?_
      refine zg_idiv hO h dX3_take_45 (fun h => ?_)
      refine zg_isub hO dX3_take_46 ?_
      exact zg_sub [1, 2] rfl (w_Xl_take_47 hO hX hr _ _ _ _ _ _ _ hi0 hi0 ⟨Nat.zero_le _, Nat.zero_le _⟩ tb ad h)
    · refine zg_iload_n hO 0 dX3_take_32 rfl rfl ?_
      refine zg_iconst hO dX3_take_33 ic1 ?_
      refine zg_iadd hO dX3_take_34 ?_
      refine zg_iconst hO dX3_take_35 ic2 ?_
      refine zg_idiv hO h dX3_take_36 (fun h => ?_)
      refine zg_goto (tgt := 47) hO dX3_take_37 (by decide) ?_
      exact zg_sub [1, 2] rfl (w_Xl_take_47 hO hX hr _ _ _ _ _ _ _ hi0 hi0 ⟨Nat.zero_le _, Nat.zero_le _⟩ tb ad h)
theorem mw_X1_takes : MwX yX1_takes cX1_takes 7 (some .int) RX1 2 := ⟨by decide +kernel, q1413, q1414, q85, q1415⟩
set_option maxHeartbeats 4000000 in
theorem m_X_takes (l : Launch) (D : va_G) (dA : Nat → ClassId) (G : Nat → Nat) {x1 : Int32} {x2 : Int32} {σ : XS} (tb : Nat) (ad : Nat → Nat) {ρ : Int32 × XS} (h : X_takes x1 x2 σ = some ρ) : CtX l yX1_takes (ws_ yX1_takes cX1_takes 7 (some .int)) 48 70 534 D dA G [.ref (G 0), .int x1, .int x2] (WX dA G tb ad σ) (QgI D dA (fun z : (Nat → Nat) × Nat => WX dA G z.2 z.1 ρ.2) ρ.1) := by
  refine zx_start (cc := cX1_takes) (nL := 7) (ret := (some .int)) (own := RX1) (by decide) rfl rfl (Nat.le_of_ble_eq_true rfl) (fun p e s m args below meth c A hO hX hr _ _ => ?_)
  unfold X_takes at h
  refine zg_sub (lv' := [(0, .ref (G 0)), (1, .int x1), (2, .int x2)]) [0, 1, 2] rfl ?_
  refine zg_iload_n hO 1 dX1_takes_0 rfl rfl ?_
  refine zs_calli (As := [.int x1]) (rest := []) hO h (fun q hq => m_X_isLine l D dA hq) mw_X1_isLine q1398 ⟨Nat.le_of_ble_eq_true rfl, Nat.le_of_ble_eq_true rfl⟩ ⟨Nat.zero_le _, Nat.zero_le _⟩ rfl rfl (Nat.le_of_ble_eq_true rfl) dX1_takes_1 (fun q1 h => ?_)
  refine zg_if_eq (tgt := 14) hO h dX1_takes_4 (by decide) (fun h => ?_) (fun h => ?_)
  · refine zg_iconst hO dX1_takes_14 icm1 ?_
    exact zy_iretG hO hr h ⟨Nat.zero_le _, Nat.zero_le _⟩ dX1_takes_15
  · refine zg_iload_n hO 2 dX1_takes_7 rfl rfl ?_
    refine zs_calli (As := [.int x2]) (rest := []) hO h (fun q hq => m_X_isEnd l D dA hq) mw_X1_isEnd q1402 ⟨Nat.le_of_ble_eq_true rfl, Nat.le_of_ble_eq_true rfl⟩ ⟨Nat.zero_le _, Nat.zero_le _⟩ rfl rfl (Nat.le_of_ble_eq_true rfl) dX1_takes_8 (fun q2 h => ?_)
    refine zg_if_ne (tgt := 16) hO h dX1_takes_11 (by decide) (fun h => ?_) (fun h => ?_)
    · refine zg_aload_n hO 0 dX1_takes_16 rfl rfl ?_
      refine xG_1_162 hO hX dX1_takes_17 ?_
      refine zg_iload_n hO 1 dX1_takes_20 rfl rfl ?_
      refine zy_lget (rest := []) hO hX h q1406 (Nat.le_of_ble_eq_true rfl) dX1_takes_21 (fun hb3 h => ?_) ⟨Nat.zero_le _, Nat.zero_le _⟩
      refine zy_castL hO hb3 q231 dX1_takes_26 ?_
      refine zg_astore_n (lv' := [(3, .ref (G (48 + 3 * x1.toNatClampNeg))), (0, .ref (G 0)), (1, .int x1), (2, .int x2)]) hO dX1_takes_29 rfl (Nat.le_of_ble_eq_true rfl) rfl ?_
      refine zg_aload_n hO 0 dX1_takes_30 rfl rfl ?_
      refine zy_callViF (b := G (48 + 3 * x1.toNatClampNeg)) (As := []) (rest := []) hO hX h (fun q hq => m_Xl_size l D dA G hb3 tb ad hq) mw_X3_size q1407 ⟨Nat.le_of_ble_eq_true rfl, Nat.le_of_ble_eq_true rfl⟩ ⟨Nat.zero_le _, Nat.zero_le _⟩ rfl rfl (Nat.le_of_ble_eq_true rfl) ⟨40 + 3 * x1.toNatClampNeg, 2, _, _, wx_line hb3, rfl, rfl⟩ dX1_takes_31 (fun q4 h => ?_)
      refine zg_if_ne (tgt := 40) hO h dX1_takes_34 (by decide) (fun h => ?_) (fun h => ?_)
      · refine zg_aload_n hO 1 dX1_takes_40 rfl rfl ?_
        refine xG_1_315 hO hX dX1_takes_41 ?_
        refine zg_lstore (lv' := [(4, .long (xL q4.2 0)), (3, .ref (G (48 + 3 * x1.toNatClampNeg))), (0, .ref (G 0)), (1, .int x1), (2, .int x2)]) hO dX1_takes_44 (Nat.le_of_ble_eq_true rfl) rfl ?_
        refine zg_aload_n hO 1 dX1_takes_46 rfl rfl ?_
        refine zg_iload_n hO 4 dX1_takes_47 rfl rfl ?_
        refine zg_chk h (fun hc6 h => ?_)
        refine zy_callViG (b := G (48 + 3 * x1.toNatClampNeg)) (As := [.int x2]) (rest := []) hO hX h (fun q hq => m_Xl_take l D dA G hb3 tb ad hq) mw_X3_take q1416 ⟨Nat.le_of_ble_eq_true rfl, Nat.le_of_ble_eq_true rfl⟩ hc6 rfl rfl (Nat.le_of_ble_eq_true rfl) ⟨40 + 3 * x1.toNatClampNeg, 2, _, _, wx_line hb3, rfl, rfl⟩ dX1_takes_48 (fun q5 ad tb h => ?_)
        refine zg_istore (lv' := [(6, .int q5.1), (4, .long (xL q4.2 0)), (3, .ref (G (48 + 3 * x1.toNatClampNeg))), (0, .ref (G 0)), (1, .int x1), (2, .int x2)]) hO dX1_takes_51 (Nat.le_of_ble_eq_true rfl) rfl ?_
        refine zg_aload_n hO 3 dX1_takes_53 rfl rfl ?_
        refine zg_iconst hO dX1_takes_54 ic0 ?_
        refine xP_1_199 hO hX dX1_takes_55 ?_
        refine zg_aload_n hO 3 dX1_takes_58 rfl rfl ?_
        refine zg_aload_n hO 3 dX1_takes_59 rfl rfl ?_
        refine xG_1_315 hO hX dX1_takes_60 ?_
        refine zg_lload hO 1 dX1_takes_63 rfl ?_
        refine zg_lsub hO dX1_takes_65 ?_
        refine zy_callVvF (b := G 0) (As := [.long ((xL (zI q5.2 5 (nI 0)) 0) - (xL q4.2 0))]) (rest := []) hO hX h (fun q hq => m_X_tells l D dA G tb ad hq) mw_X1_tells q1272 ⟨Nat.le_of_ble_eq_true rfl, Nat.le_of_ble_eq_true rfl⟩ hc6 rfl rfl (Nat.le_of_ble_eq_true rfl) ⟨0, 1, _, _, rfl, rfl, rfl⟩ dX1_takes_66 (fun q7 h => ?_)
        refine zg_iload hO 0 dX1_takes_69 rfl ?_
        exact zy_iretG hO hr h hc6 dX1_takes_71
      · refine zg_bipush hO dX1_takes_37 bcm2 ?_
        exact zy_iretG hO hr h ⟨Nat.zero_le _, Nat.zero_le _⟩ dX1_takes_39
    · refine zg_iconst hO dX1_takes_14 icm1 ?_
      exact zy_iretG hO hr h ⟨Nat.zero_le _, Nat.zero_le _⟩ dX1_takes_15
set_option maxHeartbeats 4000000 in
theorem w_X_joins_76 (hO : Ok p s m args meth c cX1_joins RX1 6 D dA A) (hX : XK dA G A s) (hr : meth.sig.returnType = (some .int)) {ρ : Int32 × XS} : ∀ (n : Nat) (i3 : Nat) (x4 : Int64) (σ : XS) (u : Nat) (v : Nat) (hi3 : i3 < 5) (huv : u ≤ 4544 ∧ v ≤ 34560) (tb : Nat) (ad : Nat → Nat), X_joins_76 n i3 x4 σ u v = some ρ → Go p l e (rmG 48 4544 34560) s m args below meth c D A 6 (MQ below ((QgI D dA (fun z : (Nat → Nat) × Nat => WX dA G z.2 z.1 ρ.2) ρ.1) A) args s 4544 34560 A) (WX dA G tb ad σ) u v 76 [(0, .ref (G 0)), (3, .ref (G (48 + 3 * i3))), (4, .long x4)] [] := by
  intro n
  induction n with
  | zero =>
    intro i3 x4 σ u v hi3 huv tb ad h
    rw [X_joins_76] at h
    cases h
  | succ n ih =>
    intro i3 x4 σ u v hi3 huv tb ad h
    rw [X_joins_76] at h
    refine zg_aload_n hO 0 dX1_joins_76 rfl rfl ?_
    refine xG_1_166 hO hX dX1_joins_77 ?_
    refine zy_callViF (b := G (48 + 3 * 4)) (As := []) (rest := []) hO hX h (fun q hq => m_Xl_size l D dA G (show (4 : Nat) < 5 by decide) tb ad hq) mw_X3_size q1407 ⟨Nat.le_of_ble_eq_true rfl, Nat.le_of_ble_eq_true rfl⟩ huv rfl rfl (Nat.le_of_ble_eq_true rfl) ⟨40 + 3 * 4, 2, _, _, wx_line (show (4 : Nat) < 5 by decide), rfl, rfl⟩ dX1_joins_80 (fun q8 h => ?_)
    refine zg_if_le (tgt := 102) hO h dX1_joins_83 (by decide) (fun h => ?_) (fun h => ?_)
    · refine zg_aload_n hO 0 dX1_joins_102 rfl rfl ?_
      refine zg_iconst hO dX1_joins_103 ic0 ?_
      refine xP_1_199 hO hX dX1_joins_104 ?_
      refine zg_aload_n hO 0 dX1_joins_107 rfl rfl ?_
      refine zg_aload_n hO 0 dX1_joins_108 rfl rfl ?_
      refine xG_1_315 hO hX dX1_joins_109 ?_
      refine zg_lload hO 2 dX1_joins_112 rfl ?_
      refine zg_lsub hO dX1_joins_114 ?_
      refine zy_callVvF (b := G 0) (As := [.long ((xL (zI q8.2 5 (nI 0)) 0) - x4)]) (rest := []) hO hX h (fun q hq => m_X_tells l D dA G tb ad hq) mw_X1_tells q1272 ⟨Nat.le_of_ble_eq_true rfl, Nat.le_of_ble_eq_true rfl⟩ huv rfl rfl (Nat.le_of_ble_eq_true rfl) ⟨0, 1, _, _, rfl, rfl, rfl⟩ dX1_joins_115 (fun q9 h => ?_)
      refine zg_aload_n hO 1 dX1_joins_118 rfl rfl ?_
      refine zy_callViF (b := G (48 + 3 * i3)) (As := []) (rest := []) hO hX h (fun q hq => m_Xl_size l D dA G hi3 tb ad hq) mw_X3_size q1407 ⟨Nat.le_of_ble_eq_true rfl, Nat.le_of_ble_eq_true rfl⟩ huv rfl rfl (Nat.le_of_ble_eq_true rfl) ⟨40 + 3 * i3, 2, _, _, wx_line hi3, rfl, rfl⟩ dX1_joins_119 (fun q10 h => ?_)
      exact zy_iretG hO hr h huv dX1_joins_122
    · refine zg_aload_n hO 1 dX1_joins_86 rfl rfl ?_
      refine zg_iconst hO dX1_joins_87 ic1 ?_
      refine zg_aload_n hO 0 dX1_joins_88 rfl rfl ?_
      refine xG_1_166 hO hX dX1_joins_89 ?_
      refine zg_iconst hO dX1_joins_92 ic0 ?_
      refine zg_chk h (fun hc12 h => ?_)
      refine zy_callViG (b := G (48 + 3 * 4)) (As := [.int (nI 0)]) (rest := [.int (nI 1), .ref (G (48 + 3 * i3))]) hO hX h (fun q hq => m_Xl_take l D dA G (show (4 : Nat) < 5 by decide) tb ad hq) mw_X3_take q1416 ⟨Nat.le_of_ble_eq_true rfl, Nat.le_of_ble_eq_true rfl⟩ hc12 rfl rfl (Nat.le_of_ble_eq_true rfl) ⟨40 + 3 * 4, 2, _, _, wx_line (show (4 : Nat) < 5 by decide), rfl, rfl⟩ dX1_joins_93 (fun q11 ad tb h => ?_)
      refine zg_chk h (fun hc14 h => ?_)
      refine zy_callVvG (b := G (48 + 3 * i3)) (As := [.int (nI 1), .int q11.1]) (rest := []) hO hX h (fun q hq => m_Xl_put l D dA G hi3 tb ad hq) mw_X3_put q1411 ⟨Nat.le_of_ble_eq_true rfl, Nat.le_of_ble_eq_true rfl⟩ hc14 rfl rfl (Nat.le_of_ble_eq_true rfl) ⟨40 + 3 * i3, 2, _, _, wx_line hi3, rfl, rfl⟩ dX1_joins_96 (fun q13 ad tb h => ?_)
      refine zg_goto (tgt := 76) hO dX1_joins_99 (by decide) ?_
      exact zg_sub [0, 1, 2] rfl (ih _ _ _ _ _ hi3 hc14 tb ad h)
theorem mw_X1_joins : MwX yX1_joins cX1_joins 6 (some .int) RX1 2 := ⟨by decide +kernel, q1431, q1432, q85, q1433⟩
set_option maxHeartbeats 4000000 in
theorem m_X_joins (l : Launch) (D : va_G) (dA : Nat → ClassId) (G : Nat → Nat) {x1 : Int32} {x2 : Int32} {σ : XS} (tb : Nat) (ad : Nat → Nat) {ρ : Int32 × XS} (h : X_joins x1 x2 σ = some ρ) : CtX l yX1_joins (ws_ yX1_joins cX1_joins 6 (some .int)) 48 4544 34560 D dA G [.ref (G 0), .int x1, .int x2] (WX dA G tb ad σ) (QgI D dA (fun z : (Nat → Nat) × Nat => WX dA G z.2 z.1 ρ.2) ρ.1) := by
  refine zx_start (cc := cX1_joins) (nL := 6) (ret := (some .int)) (own := RX1) (by decide) rfl rfl (Nat.le_of_ble_eq_true rfl) (fun p e s m args below meth c A hO hX hr _ _ => ?_)
  unfold X_joins at h
  refine zg_sub (lv' := [(0, .ref (G 0)), (1, .int x1), (2, .int x2)]) [0, 1, 2] rfl ?_
  refine zg_iload_n hO 1 dX1_joins_0 rfl rfl ?_
  refine zs_calli (As := [.int x1]) (rest := []) hO h (fun q hq => m_X_isLine l D dA hq) mw_X1_isLine q1398 ⟨Nat.le_of_ble_eq_true rfl, Nat.le_of_ble_eq_true rfl⟩ ⟨Nat.zero_le _, Nat.zero_le _⟩ rfl rfl (Nat.le_of_ble_eq_true rfl) dX1_joins_1 (fun q1 h => ?_)
  refine zg_if_eq (tgt := 14) hO h dX1_joins_4 (by decide) (fun h => ?_) (fun h => ?_)
  · refine zg_iconst hO dX1_joins_14 icm1 ?_
    exact zy_iretG hO hr h ⟨Nat.zero_le _, Nat.zero_le _⟩ dX1_joins_15
  · refine zg_iload_n hO 2 dX1_joins_7 rfl rfl ?_
    refine zs_calli (As := [.int x2]) (rest := []) hO h (fun q hq => m_X_isLine l D dA hq) mw_X1_isLine q1398 ⟨Nat.le_of_ble_eq_true rfl, Nat.le_of_ble_eq_true rfl⟩ ⟨Nat.zero_le _, Nat.zero_le _⟩ rfl rfl (Nat.le_of_ble_eq_true rfl) dX1_joins_8 (fun q2 h => ?_)
    refine zg_if_ne (tgt := 16) hO h dX1_joins_11 (by decide) (fun h => ?_) (fun h => ?_)
    · refine zg_aload_n hO 0 dX1_joins_16 rfl rfl ?_
      refine xG_1_162 hO hX dX1_joins_17 ?_
      refine zg_iload_n hO 1 dX1_joins_20 rfl rfl ?_
      refine zy_lget (rest := []) hO hX h q1406 (Nat.le_of_ble_eq_true rfl) dX1_joins_21 (fun hb3 h => ?_) ⟨Nat.zero_le _, Nat.zero_le _⟩
      refine zy_castL hO hb3 q231 dX1_joins_26 ?_
      refine zg_astore_n (lv' := [(3, .ref (G (48 + 3 * x1.toNatClampNeg))), (0, .ref (G 0)), (1, .int x1), (2, .int x2)]) hO dX1_joins_29 rfl (Nat.le_of_ble_eq_true rfl) rfl ?_
      refine zg_aload_n hO 1 dX1_joins_30 rfl rfl ?_
      refine xG_1_166 hO hX dX1_joins_31 ?_
      refine zg_aload_n hO 1 dX1_joins_34 rfl rfl ?_
      refine xG_1_162 hO hX dX1_joins_35 ?_
      refine zg_iload_n hO 3 dX1_joins_38 rfl rfl ?_
      refine zy_lget (rest := [.ref (G (48 + 3 * 4))]) hO hX h q1406 (Nat.le_of_ble_eq_true rfl) dX1_joins_39 (fun hb4 h => ?_) ⟨Nat.zero_le _, Nat.zero_le _⟩
      refine zy_castL hO hb4 q231 dX1_joins_44 ?_
      refine zy_callVvF (b := G (48 + 3 * 4)) (As := [.ref (G (48 + 3 * x2.toNatClampNeg))]) (rest := []) hO hX h (fun q hq => m_Xl_be l D dA G (show (4 : Nat) < 5 by decide) hb4 tb ad hq) mw_X3_be q1426 ⟨Nat.le_of_ble_eq_true rfl, Nat.le_of_ble_eq_true rfl⟩ ⟨Nat.zero_le _, Nat.zero_le _⟩ rfl rfl (Nat.le_of_ble_eq_true rfl) ⟨40 + 3 * 4, 2, _, _, wx_line (show (4 : Nat) < 5 by decide), rfl, rfl⟩ dX1_joins_47 (fun q5 h => ?_)
      refine zg_aload_n hO 0 dX1_joins_50 rfl rfl ?_
      refine zy_callViF (b := G (48 + 3 * x1.toNatClampNeg)) (As := []) (rest := []) hO hX h (fun q hq => m_Xl_size l D dA G hb3 tb ad hq) mw_X3_size q1407 ⟨Nat.le_of_ble_eq_true rfl, Nat.le_of_ble_eq_true rfl⟩ ⟨Nat.zero_le _, Nat.zero_le _⟩ rfl rfl (Nat.le_of_ble_eq_true rfl) ⟨40 + 3 * x1.toNatClampNeg, 2, _, _, wx_line hb3, rfl, rfl⟩ dX1_joins_51 (fun q6 h => ?_)
      refine zg_aload_n hO 1 dX1_joins_54 rfl rfl ?_
      refine xG_1_166 hO hX dX1_joins_55 ?_
      refine zy_callViF (b := G (48 + 3 * 4)) (As := []) (rest := [.int q6.1]) hO hX h (fun q hq => m_Xl_size l D dA G (show (4 : Nat) < 5 by decide) tb ad hq) mw_X3_size q1407 ⟨Nat.le_of_ble_eq_true rfl, Nat.le_of_ble_eq_true rfl⟩ ⟨Nat.zero_le _, Nat.zero_le _⟩ rfl rfl (Nat.le_of_ble_eq_true rfl) ⟨40 + 3 * 4, 2, _, _, wx_line (show (4 : Nat) < 5 by decide), rfl, rfl⟩ dX1_joins_58 (fun q7 h => ?_)
      refine zg_iadd hO dX1_joins_61 ?_
      refine zg_bipush hO dX1_joins_62 bc64 ?_
      refine zg_icmp_le (tgt := 70) hO h dX1_joins_64 (by decide) (fun h => ?_) (fun h => ?_)
      · refine zg_aload_n hO 1 dX1_joins_70 rfl rfl ?_
        refine xG_1_315 hO hX dX1_joins_71 ?_
        refine zg_lstore (lv' := [(4, .long (xL q7.2 0)), (3, .ref (G (48 + 3 * x1.toNatClampNeg))), (0, .ref (G 0)), (1, .int x1), (2, .int x2)]) hO dX1_joins_74 (Nat.le_of_ble_eq_true rfl) rfl ?_
        exact zg_sub [2, 1, 0] rfl (w_X_joins_76 hO hX hr _ _ _ _ _ _ hb3 ⟨Nat.zero_le _, Nat.zero_le _⟩ tb ad h)
      · refine zg_bipush hO dX1_joins_67 bcm3 ?_
        exact zy_iretG hO hr h ⟨Nat.zero_le _, Nat.zero_le _⟩ dX1_joins_69
    · refine zg_iconst hO dX1_joins_14 icm1 ?_
      exact zy_iretG hO hr h ⟨Nat.zero_le _, Nat.zero_le _⟩ dX1_joins_15
theorem mw_X1_parts : MwX yX1_parts cX1_parts 6 (some .int) RX1 3 := ⟨by decide +kernel, q1435, q1436, q85, q1437⟩
set_option maxHeartbeats 4000000 in
theorem m_X_parts (l : Launch) (D : va_G) (dA : Nat → ClassId) (G : Nat → Nat) {x1 : Int32} {x2 : Int32} {x3 : Int32} {σ : XS} (tb : Nat) (ad : Nat → Nat) {ρ : Int32 × XS} (h : X_parts x1 x2 x3 σ = some ρ) : CtX l yX1_parts (ws_ yX1_parts cX1_parts 6 (some .int)) 46 134 918 D dA G [.ref (G 0), .int x1, .int x2, .int x3] (WX dA G tb ad σ) (QgI D dA (fun z : (Nat → Nat) × Nat => WX dA G z.2 z.1 ρ.2) ρ.1) := by
  refine zx_start (cc := cX1_parts) (nL := 6) (ret := (some .int)) (own := RX1) (by decide) rfl rfl (Nat.le_of_ble_eq_true rfl) (fun p e s m args below meth c A hO hX hr _ _ => ?_)
  unfold X_parts at h
  refine zg_sub (lv' := [(0, .ref (G 0)), (1, .int x1), (2, .int x2), (3, .int x3)]) [0, 1, 2, 3] rfl ?_
  refine zg_iload_n hO 1 dX1_parts_0 rfl rfl ?_
  refine zs_calli (As := [.int x1]) (rest := []) hO h (fun q hq => m_X_isLine l D dA hq) mw_X1_isLine q1398 ⟨Nat.le_of_ble_eq_true rfl, Nat.le_of_ble_eq_true rfl⟩ ⟨Nat.zero_le _, Nat.zero_le _⟩ rfl rfl (Nat.le_of_ble_eq_true rfl) dX1_parts_1 (fun q1 h => ?_)
  refine zg_if_eq (tgt := 18) hO h dX1_parts_4 (by decide) (fun h => ?_) (fun h => ?_)
  · refine zg_iconst hO dX1_parts_18 icm1 ?_
    exact zy_iretG hO hr h ⟨Nat.zero_le _, Nat.zero_le _⟩ dX1_parts_19
  · refine zg_iload_n hO 3 dX1_parts_7 rfl rfl ?_
    refine zs_calli (As := [.int x3]) (rest := []) hO h (fun q hq => m_X_isLine l D dA hq) mw_X1_isLine q1398 ⟨Nat.le_of_ble_eq_true rfl, Nat.le_of_ble_eq_true rfl⟩ ⟨Nat.zero_le _, Nat.zero_le _⟩ rfl rfl (Nat.le_of_ble_eq_true rfl) dX1_parts_8 (fun q2 h => ?_)
    refine zg_if_eq (tgt := 18) hO h dX1_parts_11 (by decide) (fun h => ?_) (fun h => ?_)
    · refine zg_iconst hO dX1_parts_18 icm1 ?_
      exact zy_iretG hO hr h ⟨Nat.zero_le _, Nat.zero_le _⟩ dX1_parts_19
    · refine zg_iload_n hO 2 dX1_parts_14 rfl rfl ?_
      refine zg_if_ge (tgt := 20) hO h dX1_parts_15 (by decide) (fun h => ?_) (fun h => ?_)
      · refine zg_iload_n hO 1 dX1_parts_20 rfl rfl ?_
        refine zg_iload_n hO 3 dX1_parts_21 rfl rfl ?_
        refine zg_icmp_ne (tgt := 28) hO h dX1_parts_22 (by decide) (fun h => ?_) (fun h => ?_)
        · refine zg_aload_n hO 0 dX1_parts_28 rfl rfl ?_
          refine xG_1_162 hO hX dX1_parts_29 ?_
          refine zg_iload_n hO 1 dX1_parts_32 rfl rfl ?_
          refine zy_lget (rest := []) hO hX h q1406 (Nat.le_of_ble_eq_true rfl) dX1_parts_33 (fun hb3 h => ?_) ⟨Nat.zero_le _, Nat.zero_le _⟩
          refine zy_castL hO hb3 q231 dX1_parts_38 ?_
          refine zg_astore (lv' := [(4, .ref (G (48 + 3 * x1.toNatClampNeg))), (0, .ref (G 0)), (1, .int x1), (2, .int x2), (3, .int x3)]) hO dX1_parts_41 (Nat.le_of_ble_eq_true rfl) rfl ?_
          refine zg_aload hO 0 dX1_parts_43 rfl ?_
          refine zy_callViF (b := G (48 + 3 * x1.toNatClampNeg)) (As := []) (rest := []) hO hX h (fun q hq => m_Xl_size l D dA G hb3 tb ad hq) mw_X3_size q1407 ⟨Nat.le_of_ble_eq_true rfl, Nat.le_of_ble_eq_true rfl⟩ ⟨Nat.zero_le _, Nat.zero_le _⟩ rfl rfl (Nat.le_of_ble_eq_true rfl) ⟨40 + 3 * x1.toNatClampNeg, 2, _, _, wx_line hb3, rfl, rfl⟩ dX1_parts_45 (fun q4 h => ?_)
          refine zg_iload_n hO 3 dX1_parts_48 rfl rfl ?_
          refine zg_icmp_ge (tgt := 55) hO h dX1_parts_49 (by decide) (fun h => ?_) (fun h => ?_)
          · refine zg_aload hO 0 dX1_parts_55 rfl ?_
            refine zg_aload_n hO 1 dX1_parts_57 rfl rfl ?_
            refine xG_1_173 hO hX dX1_parts_58 ?_
            refine zg_chk h (fun hc6 h => ?_)
            refine zy_callViF (b := G (48 + 3 * x1.toNatClampNeg)) (As := [.ref (G 64)]) (rest := []) hO hX h (fun q hq => m_Xl_lay_r1 l D dA G hb3 tb ad hq) mw_X3_lay q1438 ⟨Nat.le_of_ble_eq_true rfl, Nat.le_of_ble_eq_true rfl⟩ hc6 rfl rfl (Nat.le_of_ble_eq_true rfl) ⟨40 + 3 * x1.toNatClampNeg, 2, _, _, wx_line hb3, rfl, rfl⟩ dX1_parts_61 (fun q5 h => ?_)
            refine zg_istore (lv' := [(5, .int q5.1), (4, .ref (G (48 + 3 * x1.toNatClampNeg))), (0, .ref (G 0)), (1, .int x1), (2, .int x2), (3, .int x3)]) hO dX1_parts_64 (Nat.le_of_ble_eq_true rfl) rfl ?_
            refine zg_aload hO 1 dX1_parts_66 rfl ?_
            refine zg_aload_n hO 2 dX1_parts_68 rfl rfl ?_
            refine xG_1_173 hO hX dX1_parts_69 ?_
            refine zg_iconst hO dX1_parts_72 ic0 ?_
            refine zg_iload_n hO 4 dX1_parts_73 rfl rfl ?_
            refine zg_iload_n hO 4 dX1_parts_74 rfl rfl ?_
            refine zg_iconst hO dX1_parts_75 ic1 ?_
            refine zg_iadd hO dX1_parts_76 ?_
            refine zg_iconst hO dX1_parts_77 ic2 ?_
            refine zg_idiv hO h dX1_parts_78 (fun h => ?_)
            refine zg_chk h (fun hc8 h => ?_)
            refine zy_callVvG (b := G (48 + 3 * x1.toNatClampNeg)) (As := [.ref (G 64), .int (nI 0), .int x2, .int ((x2 + (nI 1)) / (nI 2))]) (rest := []) hO hX h (fun q hq => m_Xl_lays_r1 l D dA G hb3 tb ad hq) mw_X3_lays q1439 ⟨Nat.le_of_ble_eq_true rfl, Nat.le_of_ble_eq_true rfl⟩ hc8 rfl rfl (Nat.le_of_ble_eq_true rfl) ⟨40 + 3 * x1.toNatClampNeg, 2, _, _, wx_line hb3, rfl, rfl⟩ dX1_parts_79 (fun q7 ad tb h => ?_)
            refine zg_aload_n hO 2 dX1_parts_82 rfl rfl ?_
            refine xG_1_162 hO hX dX1_parts_83 ?_
            refine zg_iload_n hO 5 dX1_parts_86 rfl rfl ?_
            refine zy_lget (rest := []) hO hX h q1406 (Nat.le_of_ble_eq_true rfl) dX1_parts_87 (fun hb9 h => ?_) hc8
            refine zy_castL hO hb9 q231 dX1_parts_92 ?_
            refine zg_aload_n hO 2 dX1_parts_95 rfl rfl ?_
            refine xG_1_173 hO hX dX1_parts_96 ?_
            refine zg_iload_n hO 4 dX1_parts_99 rfl rfl ?_
            refine zg_iload hO 0 dX1_parts_100 rfl ?_
            refine zg_iload_n hO 4 dX1_parts_102 rfl rfl ?_
            refine zg_isub hO dX1_parts_103 ?_
            refine zg_iload hO 0 dX1_parts_104 rfl ?_
            refine zg_iload_n hO 4 dX1_parts_106 rfl rfl ?_
            refine zg_isub hO dX1_parts_107 ?_
            refine zg_iconst hO dX1_parts_108 ic1 ?_
            refine zg_iadd hO dX1_parts_109 ?_
            refine zg_iconst hO dX1_parts_110 ic2 ?_
            refine zg_idiv hO h dX1_parts_111 (fun h => ?_)
            refine zg_chk h (fun hc11 h => ?_)
            refine zy_callVvG (b := G (48 + 3 * x3.toNatClampNeg)) (As := [.ref (G 64), .int x2, .int (q5.1 - x2), .int (((q5.1 - x2) + (nI 1)) / (nI 2))]) (rest := []) hO hX h (fun q hq => m_Xl_lays_r1 l D dA G hb9 tb ad hq) mw_X3_lays q1439 ⟨Nat.le_of_ble_eq_true rfl, Nat.le_of_ble_eq_true rfl⟩ hc11 rfl rfl (Nat.le_of_ble_eq_true rfl) ⟨40 + 3 * x3.toNatClampNeg, 2, _, _, wx_line hb9, rfl, rfl⟩ dX1_parts_112 (fun q10 ad tb h => ?_)
            refine zg_iload hO 0 dX1_parts_115 rfl ?_
            refine zg_iload_n hO 4 dX1_parts_117 rfl rfl ?_
            refine zg_isub hO dX1_parts_118 ?_
            exact zy_iretG hO hr h hc11 dX1_parts_119
          · refine zg_bipush hO dX1_parts_52 bcm3 ?_
            exact zy_iretG hO hr h ⟨Nat.zero_le _, Nat.zero_le _⟩ dX1_parts_54
        · refine zg_bipush hO dX1_parts_25 bcm2 ?_
          exact zy_iretG hO hr h ⟨Nat.zero_le _, Nat.zero_le _⟩ dX1_parts_27
      · refine zg_iconst hO dX1_parts_18 icm1 ?_
        exact zy_iretG hO hr h ⟨Nat.zero_le _, Nat.zero_le _⟩ dX1_parts_19
set_option maxHeartbeats 4000000 in
theorem w_X_goesRound_19 (hO : Ok p s m args meth c cX1_goesRound RX1 5 D dA A) (hX : XK dA G A s) (hr : meth.sig.returnType = (some .int)) {ρ : Int32 × XS} : ∀ (n : Nat) (i1 : Nat) (x2 : Int32) (x3 : Int32) (x4 : Int32) (σ : XS) (u : Nat) (v : Nat) (hi1 : i1 < 5) (huv : u ≤ 70 ∧ v ≤ 534) (tb : Nat) (ad : Nat → Nat), X_goesRound_19 n i1 x2 x3 x4 σ u v = some ρ → Go p l e (rmG 46 70 534) s m args below meth c D A 5 (MQ below ((QgI D dA (fun z : (Nat → Nat) × Nat => WX dA G z.2 z.1 ρ.2) ρ.1) A) args s 70 534 A) (WX dA G tb ad σ) u v 19 [(0, .ref (G 0)), (1, .ref (G (48 + 3 * i1))), (2, .int x2), (3, .int x3), (4, .int x4)] [] := by
  intro n
  induction n with
  | zero =>
    intro i1 x2 x3 x4 σ u v hi1 huv tb ad h
    rw [X_goesRound_19] at h
    cases h
  | succ n ih =>
    intro i1 x2 x3 x4 σ u v hi1 huv tb ad h
    rw [X_goesRound_19] at h
    refine zg_iload hO 4 dX1_goesRound_19 rfl ?_
    refine zg_iload_n hO 2 dX1_goesRound_21 rfl rfl ?_
    refine zg_icmp_ge (tgt := 49) hO h dX1_goesRound_22 (by decide) (fun h => ?_) (fun h => ?_)
    · refine zg_aload_n hO 1 dX1_goesRound_49 rfl rfl ?_
      refine zg_aload_n hO 0 dX1_goesRound_50 rfl rfl ?_
      refine xG_1_173 hO hX dX1_goesRound_51 ?_
      refine zg_iconst hO dX1_goesRound_54 ic0 ?_
      refine zg_iload_n hO 2 dX1_goesRound_55 rfl rfl ?_
      refine zg_iload_n hO 3 dX1_goesRound_56 rfl rfl ?_
      refine zg_chk h (fun hc4 h => ?_)
      refine zy_callVvG (b := G (48 + 3 * i1)) (As := [.ref (G 64), .int (nI 0), .int x2, .int x3]) (rest := []) hO hX h (fun q hq => m_Xl_lays_r1 l D dA G hi1 tb ad hq) mw_X3_lays q1439 ⟨Nat.le_of_ble_eq_true rfl, Nat.le_of_ble_eq_true rfl⟩ hc4 rfl rfl (Nat.le_of_ble_eq_true rfl) ⟨40 + 3 * i1, 2, _, _, wx_line hi1, rfl, rfl⟩ dX1_goesRound_57 (fun q3 ad tb h => ?_)
      refine zg_iload_n hO 2 dX1_goesRound_60 rfl rfl ?_
      exact zy_iretG hO hr h hc4 dX1_goesRound_61
    · refine zg_aload_n hO 0 dX1_goesRound_25 rfl rfl ?_
      refine xG_1_173 hO hX dX1_goesRound_26 ?_
      refine zg_iload hO 4 dX1_goesRound_29 rfl ?_
      refine zg_aload_n hO 0 dX1_goesRound_31 rfl rfl ?_
      refine xG_1_170 hO hX dX1_goesRound_32 ?_
      refine zg_iload_n hO 2 dX1_goesRound_35 rfl rfl ?_
      refine zg_iconst hO dX1_goesRound_36 ic1 ?_
      refine zg_isub hO dX1_goesRound_37 ?_
      refine zg_iload hO 4 dX1_goesRound_38 rfl ?_
      refine zg_isub hO dX1_goesRound_40 ?_
      refine xL_row0 hO h dX1_goesRound_41 (fun h => ?_)
      refine xS_row1 hO h dX1_goesRound_42 (fun h => ?_)
      refine zg_iinc (k := 4) (lv' := [(4, .int (x4 + (nI 1))), (0, .ref (G 0)), (1, .ref (G (48 + 3 * i1))), (2, .int x2), (3, .int x3)]) hO dX1_goesRound_43 rfl (zii ic1) (Nat.le_of_ble_eq_true rfl) rfl ?_
      refine zg_goto (tgt := 19) hO dX1_goesRound_46 (by decide) ?_
      exact zg_sub [1, 2, 3, 4, 0] rfl (ih _ _ _ _ _ _ _ hi1 huv tb ad h)
theorem mw_X1_goesRound : MwX yX1_goesRound cX1_goesRound 5 (some .int) RX1 1 := ⟨by decide +kernel, q1446, qs32, q85, q1447⟩
set_option maxHeartbeats 4000000 in
theorem m_X_goesRound (l : Launch) (D : va_G) (dA : Nat → ClassId) (G : Nat → Nat) {i1 : Nat} {σ : XS} (hi1 : i1 < 5) (tb : Nat) (ad : Nat → Nat) {ρ : Int32 × XS} (h : X_goesRound i1 σ = some ρ) : CtX l yX1_goesRound (ws_ yX1_goesRound cX1_goesRound 5 (some .int)) 46 70 534 D dA G [.ref (G 0), .ref (G (48 + 3 * i1))] (WX dA G tb ad σ) (QgI D dA (fun z : (Nat → Nat) × Nat => WX dA G z.2 z.1 ρ.2) ρ.1) := by
  refine zx_start (cc := cX1_goesRound) (nL := 5) (ret := (some .int)) (own := RX1) (by decide) rfl rfl (Nat.le_of_ble_eq_true rfl) (fun p e s m args below meth c A hO hX hr _ _ => ?_)
  unfold X_goesRound at h
  refine zg_sub (lv' := [(0, .ref (G 0)), (1, .ref (G (48 + 3 * i1)))]) [0, 1] rfl ?_
  refine zg_aload_n hO 1 dX1_goesRound_0 rfl rfl ?_
  refine zg_aload_n hO 0 dX1_goesRound_1 rfl rfl ?_
  refine xG_1_170 hO hX dX1_goesRound_2 ?_
  refine zg_chk h (fun hc2 h => ?_)
  refine zy_callViF (b := G (48 + 3 * i1)) (As := [.ref (G 63)]) (rest := []) hO hX h (fun q hq => m_Xl_lay_r0 l D dA G hi1 tb ad hq) mw_X3_lay q1438 ⟨Nat.le_of_ble_eq_true rfl, Nat.le_of_ble_eq_true rfl⟩ hc2 rfl rfl (Nat.le_of_ble_eq_true rfl) ⟨40 + 3 * i1, 2, _, _, wx_line hi1, rfl, rfl⟩ dX1_goesRound_5 (fun q1 h => ?_)
  refine zg_istore_n (lv' := [(2, .int q1.1), (0, .ref (G 0)), (1, .ref (G (48 + 3 * i1)))]) hO dX1_goesRound_8 rfl (Nat.le_of_ble_eq_true rfl) rfl ?_
  refine zg_aload_n hO 2 dX1_goesRound_9 rfl rfl ?_
  refine xG_1_225 hO hX hi1 dX1_goesRound_10 ?_
  refine zg_iconst hO dX1_goesRound_13 ic1 ?_
  refine xL_many hO hi1 h dX1_goesRound_14 (fun h => ?_)
  refine zg_istore_n (lv' := [(3, .int (xA q1.2 (5 + i1) (nI 1).toNatClampNeg)), (2, .int q1.1), (0, .ref (G 0)), (1, .ref (G (48 + 3 * i1)))]) hO dX1_goesRound_15 rfl (Nat.le_of_ble_eq_true rfl) rfl ?_
  refine zg_iconst hO dX1_goesRound_16 ic0 ?_
  refine zg_istore (lv' := [(4, .int (nI 0)), (3, .int (xA q1.2 (5 + i1) (nI 1).toNatClampNeg)), (2, .int q1.1), (0, .ref (G 0)), (1, .ref (G (48 + 3 * i1)))]) hO dX1_goesRound_17 (Nat.le_of_ble_eq_true rfl) rfl ?_
  exact zg_sub [3, 4, 2, 1, 0] rfl (w_X_goesRound_19 hO hX hr _ _ _ _ _ _ _ _ hi1 hc2 tb ad h)
theorem mw_X1_reverses : MwX yX1_reverses cX1_reverses 2 (some .int) RX1 1 := ⟨by decide +kernel, q1441, q1442, q85, q1443⟩
set_option maxHeartbeats 4000000 in
theorem m_X_reverses (l : Launch) (D : va_G) (dA : Nat → ClassId) (G : Nat → Nat) {x1 : Int32} {σ : XS} (tb : Nat) (ad : Nat → Nat) {ρ : Int32 × XS} (h : X_reverses x1 σ = some ρ) : CtX l yX1_reverses (ws_ yX1_reverses cX1_reverses 2 (some .int)) 47 70 534 D dA G [.ref (G 0), .int x1] (WX dA G tb ad σ) (QgI D dA (fun z : (Nat → Nat) × Nat => WX dA G z.2 z.1 ρ.2) ρ.1) := by
  refine zx_start (cc := cX1_reverses) (nL := 2) (ret := (some .int)) (own := RX1) (by decide) rfl rfl (Nat.le_of_ble_eq_true rfl) (fun p e s m args below meth c A hO hX hr _ _ => ?_)
  unfold X_reverses at h
  refine zg_sub (lv' := [(0, .ref (G 0)), (1, .int x1)]) [0, 1] rfl ?_
  refine zg_iload_n hO 1 dX1_reverses_0 rfl rfl ?_
  refine zs_calli (As := [.int x1]) (rest := []) hO h (fun q hq => m_X_isLine l D dA hq) mw_X1_isLine q1398 ⟨Nat.le_of_ble_eq_true rfl, Nat.le_of_ble_eq_true rfl⟩ ⟨Nat.zero_le _, Nat.zero_le _⟩ rfl rfl (Nat.le_of_ble_eq_true rfl) dX1_reverses_1 (fun q1 h => ?_)
  refine zg_if_eq (tgt := 27) hO h dX1_reverses_4 (by decide) (fun h => ?_) (fun h => ?_)
  · refine zg_iconst hO dX1_reverses_27 icm1 ?_
    exact zy_iretG hO hr h ⟨Nat.zero_le _, Nat.zero_le _⟩ dX1_reverses_28
  · refine zg_aload_n hO 0 dX1_reverses_7 rfl rfl ?_
    refine zg_aload_n hO 0 dX1_reverses_8 rfl rfl ?_
    refine xG_1_162 hO hX dX1_reverses_9 ?_
    refine zg_iload_n hO 1 dX1_reverses_12 rfl rfl ?_
    refine zy_lget (rest := [.ref (G 0)]) hO hX h q1406 (Nat.le_of_ble_eq_true rfl) dX1_reverses_13 (fun hb2 h => ?_) ⟨Nat.zero_le _, Nat.zero_le _⟩
    refine zy_castL hO hb2 q231 dX1_reverses_18 ?_
    refine zg_chk h (fun hc4 h => ?_)
    refine zy_callViG (b := G 0) (As := [.ref (G (48 + 3 * x1.toNatClampNeg))]) (rest := []) hO hX h (fun q hq => m_X_goesRound l D dA G hb2 tb ad hq) mw_X1_goesRound q1444 ⟨Nat.le_of_ble_eq_true rfl, Nat.le_of_ble_eq_true rfl⟩ hc4 rfl rfl (Nat.le_of_ble_eq_true rfl) ⟨0, 1, _, _, rfl, rfl, rfl⟩ dX1_reverses_21 (fun q3 ad tb h => ?_)
    refine zg_goto (tgt := 28) hO dX1_reverses_24 (by decide) ?_
    exact zy_iretG hO hr h hc4 dX1_reverses_28
set_option maxHeartbeats 4000000 in
theorem w_Xl_puts0_r1_5 (hO : Ok p s m args meth c cX3_puts0 RX3 5 D dA A) (hX : XK dA G A s) (hr : meth.sig.returnType = none) {ρ : XS} : ∀ (n : Nat) (i0 : Nat) (x1 : Int32) (x4 : Int32) (σ : XS) (u : Nat) (v : Nat) (hi0 : i0 < 5) (huv : u ≤ 64 ∧ v ≤ 384) (tb : Nat) (ad : Nat → Nat), Xl_puts0_r1_5 n i0 x1 x4 σ u v = some ρ → Go p l e (rmG 45 64 384) s m args below meth c D A 5 (MQ below ((QgV D dA (fun z : (Nat → Nat) × Nat => WX dA G z.2 z.1 ρ)) A) args s 64 384 A) (WX dA G tb ad σ) u v 5 [(0, .ref (G (48 + 3 * i0))), (1, .int x1), (3, .ref (G 64)), (4, .int x4)] [] := by
  intro n
  induction n with
  | zero =>
    intro i0 x1 x4 σ u v hi0 huv tb ad h
    rw [Xl_puts0_r1_5] at h
    cases h
  | succ n ih =>
    intro i0 x1 x4 σ u v hi0 huv tb ad h
    rw [Xl_puts0_r1_5] at h
    refine zg_iload hO 3 dX3_puts0_5 rfl ?_
    refine zg_if_lt (tgt := 25) hO h dX3_puts0_7 (by decide) (fun h => ?_) (fun h => ?_)
    · exact zy_vretG hO hr h huv dX3_puts0_25
    · refine zg_aload_n hO 0 dX3_puts0_10 rfl rfl ?_
      refine zg_iload_n hO 1 dX3_puts0_11 rfl rfl ?_
      refine zg_aload_n hO 2 dX3_puts0_12 rfl rfl ?_
      refine zg_iload hO 3 dX3_puts0_13 rfl ?_
      refine xL_row1 hO h dX3_puts0_15 (fun h => ?_)
      refine zg_chk h (fun hc2 h => ?_)
      refine zy_callVvG (b := G (48 + 3 * i0)) (As := [.int x1, .int (xA σ 4 x4.toNatClampNeg)]) (rest := []) hO hX h (fun q hq => m_Xl_put l D dA G hi0 tb ad hq) mw_X3_put q1192 ⟨Nat.le_of_ble_eq_true rfl, Nat.le_of_ble_eq_true rfl⟩ hc2 rfl rfl (Nat.le_of_ble_eq_true rfl) ⟨40 + 3 * i0, 2, _, _, wx_line hi0, rfl, rfl⟩ dX3_puts0_16 (fun q1 ad tb h => ?_)
      refine zg_iinc (k := 3) (lv' := [(4, .int (x4 + (-1 : Int32))), (0, .ref (G (48 + 3 * i0))), (1, .int x1), (3, .ref (G 64))]) hO dX3_puts0_19 rfl (zii icm1) (Nat.le_of_ble_eq_true rfl) rfl ?_
      refine zg_goto (tgt := 5) hO dX3_puts0_22 (by decide) ?_
      exact zg_sub [1, 2, 3, 0] rfl (ih _ _ _ _ _ _ hi0 hc2 tb ad h)
theorem mw_X3_puts0 : MwX yX3_puts0 cX3_puts0 5 none RX3 3 := ⟨by decide +kernel, q1466, qs34, q88, q1467⟩
set_option maxHeartbeats 4000000 in
theorem m_Xl_puts0_r1 (l : Launch) (D : va_G) (dA : Nat → ClassId) (G : Nat → Nat) {i0 : Nat} {x1 : Int32} {x2 : Int32} {σ : XS} (hi0 : i0 < 5) (tb : Nat) (ad : Nat → Nat) {ρ : XS} (h : Xl_puts0_r1 i0 x1 x2 σ = some ρ) : CtX l yX3_puts0 (ws_ yX3_puts0 cX3_puts0 5 none) 45 64 384 D dA G [.ref (G (48 + 3 * i0)), .int x1, .int x2, .ref (G 64)] (WX dA G tb ad σ) (QgV D dA (fun z : (Nat → Nat) × Nat => WX dA G z.2 z.1 ρ)) := by
  refine zx_start (cc := cX3_puts0) (nL := 5) (ret := none) (own := RX3) (by decide) rfl rfl (Nat.le_of_ble_eq_true rfl) (fun p e s m args below meth c A hO hX hr _ _ => ?_)
  unfold Xl_puts0_r1 at h
  refine zg_sub (lv' := [(0, .ref (G (48 + 3 * i0))), (1, .int x1), (2, .int x2), (3, .ref (G 64))]) [0, 1, 2, 3] rfl ?_
  refine zg_iload_n hO 2 dX3_puts0_0 rfl rfl ?_
  refine zg_iconst hO dX3_puts0_1 ic1 ?_
  refine zg_isub hO dX3_puts0_2 ?_
  refine zg_istore (lv' := [(4, .int (x2 - (nI 1))), (0, .ref (G (48 + 3 * i0))), (1, .int x1), (2, .int x2), (3, .ref (G 64))]) hO dX3_puts0_3 (Nat.le_of_ble_eq_true rfl) rfl ?_
  exact zg_sub [1, 2, 4, 0] rfl (w_Xl_puts0_r1_5 hO hX hr _ _ _ _ _ _ _ hi0 ⟨Nat.zero_le _, Nat.zero_le _⟩ tb ad h)
set_option maxHeartbeats 4000000 in
theorem w_Xl_alters_110 (hO : Ok p s m args meth c cX3_alters RX3 8 D dA A) (hX : XK dA G A s) (hr : meth.sig.returnType = (some .int)) {ρ : Int32 × XS} : ∀ (i0 : Nat) (x5 : Int32) (x6 : Int32) (x7 : Int32) (σ : XS) (u : Nat) (v : Nat) (hi0 : i0 < 5) (huv : u ≤ 65 ∧ v ≤ 390) (tb : Nat) (ad : Nat → Nat), Xl_alters_110 i0 x5 x6 x7 σ u v = some ρ → Go p l e (rmG 46 65 390) s m args below meth c D A 8 (MQ below ((QgI D dA (fun z : (Nat → Nat) × Nat => WX dA G z.2 z.1 ρ.2) ρ.1) A) args s 65 390 A) (WX dA G tb ad σ) u v 110 [(0, .ref (G (48 + 3 * i0))), (5, .int x5), (6, .int x6), (7, .int x7)] [] := by
  intro i0 x5 x6 x7 σ u v hi0 huv tb ad h
  unfold Xl_alters_110 at h
  refine zg_aload_n hO 0 dX3_alters_110 rfl rfl ?_
  refine zg_iload hO 1 dX3_alters_111 rfl ?_
  refine zg_iload hO 2 dX3_alters_113 rfl ?_
  refine zg_aload_n hO 0 dX3_alters_115 rfl rfl ?_
  refine xG_3_3 hO hX hi0 dX3_alters_116 ?_
  refine xG_3_102 hO hX dX3_alters_119 ?_
  refine zg_chk h (fun hc8 h => ?_)
  refine zy_callVvG (b := G (48 + 3 * i0)) (As := [.int x5, .int x6, .ref (G 64)]) (rest := []) hO hX h (fun q hq => m_Xl_puts0_r1 l D dA G hi0 tb ad hq) mw_X3_puts0 q1464 ⟨Nat.le_of_ble_eq_true rfl, Nat.le_of_ble_eq_true rfl⟩ hc8 rfl rfl (Nat.le_of_ble_eq_true rfl) ⟨40 + 3 * i0, 2, _, _, wx_line hi0, rfl, rfl⟩ dX3_alters_122 (fun q7 ad tb h => ?_)
  refine zg_iload hO 3 dX3_alters_125 rfl ?_
  exact zy_iretG hO hr h hc8 dX3_alters_127
set_option maxHeartbeats 4000000 in
theorem w_Xl_alters_98 (hO : Ok p s m args meth c cX3_alters RX3 8 D dA A) (hX : XK dA G A s) (hr : meth.sig.returnType = (some .int)) {ρ : Int32 × XS} : ∀ (i0 : Nat) (x3 : Int32) (x4 : Int32) (x5 : Int32) (x6 : Int32) (x7 : Int32) (σ : XS) (u : Nat) (v : Nat) (hi0 : i0 < 5) (huv : u ≤ 65 ∧ v ≤ 390) (tb : Nat) (ad : Nat → Nat), Xl_alters_98 i0 x3 x4 x5 x6 x7 σ u v = some ρ → Go p l e (rmG 46 65 390) s m args below meth c D A 8 (MQ below ((QgI D dA (fun z : (Nat → Nat) × Nat => WX dA G z.2 z.1 ρ.2) ρ.1) A) args s 65 390 A) (WX dA G tb ad σ) u v 98 [(0, .ref (G (48 + 3 * i0))), (3, .int x3), (4, .int x4), (5, .int x5), (6, .int x6), (7, .int x7)] [] := by
  intro i0 x3 x4 x5 x6 x7 σ u v hi0 huv tb ad h
  unfold Xl_alters_98 at h
  refine zg_iload_n hO 1 dX3_alters_98 rfl rfl ?_
  refine zg_if_eq (tgt := 110) hO h dX3_alters_99 (by decide) (fun h => ?_) (fun h => ?_)
  · exact zg_sub [0, 3, 4, 5] rfl (w_Xl_alters_110 hO hX hr _ _ _ _ _ _ _ hi0 huv tb ad h)
  · refine zg_aload_n hO 0 dX3_alters_102 rfl rfl ?_
    refine zg_iload hO 3 dX3_alters_103 rfl ?_
    refine zg_iload hO 2 dX3_alters_105 rfl ?_
    refine zg_chk h (fun hc6 h => ?_)
    refine zy_callVvG (b := G (48 + 3 * i0)) (As := [.int x5, .int x4]) (rest := []) hO hX h (fun q hq => m_Xl_put l D dA G hi0 tb ad hq) mw_X3_put q1192 ⟨Nat.le_of_ble_eq_true rfl, Nat.le_of_ble_eq_true rfl⟩ hc6 rfl rfl (Nat.le_of_ble_eq_true rfl) ⟨40 + 3 * i0, 2, _, _, wx_line hi0, rfl, rfl⟩ dX3_alters_107 (fun q5 ad tb h => ?_)
    exact zg_sub [0, 3, 4, 5] rfl (w_Xl_alters_110 hO hX hr _ _ _ _ _ _ _ hi0 hc6 tb ad h)
set_option maxHeartbeats 4000000 in
theorem w_Xl_alters_34 (hO : Ok p s m args meth c cX3_alters RX3 8 D dA A) (hX : XK dA G A s) (hr : meth.sig.returnType = (some .int)) {ρ : Int32 × XS} : ∀ (i0 : Nat) (x2 : Int32) (x3 : Int32) (x4 : Int32) (x5 : Int32) (y0 : Int32) (σ : XS) (u : Nat) (v : Nat) (hi0 : i0 < 5) (huv : u ≤ 65 ∧ v ≤ 390) (tb : Nat) (ad : Nat → Nat), Xl_alters_34 i0 x2 x3 x4 x5 y0 σ u v = some ρ → Go p l e (rmG 46 65 390) s m args below meth c D A 8 (MQ below ((QgI D dA (fun z : (Nat → Nat) × Nat => WX dA G z.2 z.1 ρ.2) ρ.1) A) args s 65 390 A) (WX dA G tb ad σ) u v 34 [(0, .ref (G (48 + 3 * i0))), (2, .int x2), (3, .int x3), (4, .int x4), (5, .int x5)] [.int y0] := by
  intro i0 x2 x3 x4 x5 y0 σ u v hi0 huv tb ad h
  unfold Xl_alters_34 at h
  refine zg_istore (lv' := [(6, .int y0), (0, .ref (G (48 + 3 * i0))), (2, .int x2), (3, .int x3), (4, .int x4), (5, .int x5)]) hO dX3_alters_34 (Nat.le_of_ble_eq_true rfl) rfl ?_
  refine zg_iconst hO dX3_alters_36 icm1 ?_
  refine zg_istore (lv' := [(7, .int (-1 : Int32)), (6, .int y0), (0, .ref (G (48 + 3 * i0))), (2, .int x2), (3, .int x3), (4, .int x4), (5, .int x5)]) hO dX3_alters_37 (Nat.le_of_ble_eq_true rfl) rfl ?_
  refine zg_aload_n hO 2 dX3_alters_39 rfl rfl ?_
  refine zg_iload hO 6 dX3_alters_40 rfl ?_
  refine zg_iload hO 1 dX3_alters_42 rfl ?_
  refine zg_aload_n hO 2 dX3_alters_44 rfl rfl ?_
  refine xG_3_3 hO hX hi0 dX3_alters_45 ?_
  refine xG_3_102 hO hX dX3_alters_48 ?_
  refine zy_callVvF (b := G (48 + 3 * i0)) (As := [.int x5, .int y0, .ref (G 64)]) (rest := []) hO hX h (fun q hq => m_Xl_lifts_r1 l D dA G hi0 tb ad hq) mw_X3_lifts q1460 ⟨Nat.le_of_ble_eq_true rfl, Nat.le_of_ble_eq_true rfl⟩ huv rfl rfl (Nat.le_of_ble_eq_true rfl) ⟨40 + 3 * i0, 2, _, _, wx_line hi0, rfl, rfl⟩ dX3_alters_51 (fun q3 h => ?_)
  refine zg_iload_n hO 3 dX3_alters_54 rfl rfl ?_
  refine zg_if_eq (tgt := 98) hO h dX3_alters_55 (by decide) (fun h => ?_) (fun h => ?_)
  · exact zg_sub [2, 4, 5, 6, 1, 0] rfl (w_Xl_alters_98 hO hX hr _ _ _ _ _ _ _ _ _ hi0 huv tb ad h)
  · refine zg_aload_n hO 2 dX3_alters_58 rfl rfl ?_
    refine xG_3_17 hO hX hi0 dX3_alters_59 ?_
    refine zg_iload hO 6 dX3_alters_62 rfl ?_
    refine xL_top hO hi0 h dX3_alters_64 (fun h => ?_)
    refine zx_oc h (fun i4 hi4 h => ?_)
    refine zx_top ad hi4 ?_
    refine xG_3_40 hO hX h dX3_alters_65 (fun h => ?_)
    refine zg_istore (lv' := [(7, .int (rI (xC q3 i4))), (6, .int y0), (0, .ref (G (48 + 3 * i0))), (2, .int x2), (3, .int x3), (4, .int x4), (5, .int x5)]) hO dX3_alters_68 (Nat.le_of_ble_eq_true rfl) rfl ?_
    refine zg_aload_n hO 2 dX3_alters_70 rfl rfl ?_
    refine xG_3_17 hO hX hi0 dX3_alters_71 ?_
    refine zg_iload hO 6 dX3_alters_74 rfl ?_
    refine zg_aload_n hO 2 dX3_alters_76 rfl rfl ?_
    refine xG_3_17 hO hX hi0 dX3_alters_77 ?_
    refine zg_iload hO 6 dX3_alters_80 rfl ?_
    refine xL_top hO hi0 h dX3_alters_82 (fun h => ?_)
    refine zx_top ad hi4 ?_
    refine xG_3_44 hO hX h dX3_alters_83 (fun h => ?_)
    refine xS_top hO hi0 h dX3_alters_86 (fun h => ?_)
    refine zg_aload_n hO 2 dX3_alters_87 rfl rfl ?_
    refine xG_3_21 hO hX hi0 dX3_alters_88 ?_
    refine zg_iload hO 6 dX3_alters_91 rfl ?_
    refine zg_dup2 hO dX3_alters_93 rfl rfl ?_
    refine xL_many hO hi0 h dX3_alters_94 (fun h => ?_)
    refine zg_iconst hO dX3_alters_95 ic1 ?_
    refine zg_isub hO dX3_alters_96 ?_
    refine xS_many hO hi0 h dX3_alters_97 (fun h => ?_)
    exact zg_sub [2, 4, 5, 6, 1, 0] rfl (w_Xl_alters_98 hO hX hr _ _ _ _ _ _ _ _ _ hi0 huv tb ad h)
set_option maxHeartbeats 4000000 in
theorem w_Xl_alters_33 (hO : Ok p s m args meth c cX3_alters RX3 8 D dA A) (hX : XK dA G A s) (hr : meth.sig.returnType = (some .int)) {ρ : Int32 × XS} : ∀ (i0 : Nat) (x2 : Int32) (x3 : Int32) (x4 : Int32) (x5 : Int32) (y0 : Int32) (y1 : Int32) (σ : XS) (u : Nat) (v : Nat) (hi0 : i0 < 5) (huv : u ≤ 65 ∧ v ≤ 390) (tb : Nat) (ad : Nat → Nat), Xl_alters_33 i0 x2 x3 x4 x5 y0 y1 σ u v = some ρ → Go p l e (rmG 46 65 390) s m args below meth c D A 8 (MQ below ((QgI D dA (fun z : (Nat → Nat) × Nat => WX dA G z.2 z.1 ρ.2) ρ.1) A) args s 65 390 A) (WX dA G tb ad σ) u v 33 [(0, .ref (G (48 + 3 * i0))), (2, .int x2), (3, .int x3), (4, .int x4), (5, .int x5)] [.int y0, .int y1] := by
  intro i0 x2 x3 x4 x5 y0 y1 σ u v hi0 huv tb ad h
  unfold Xl_alters_33 at h
  refine zg_iadd hO dX3_alters_33 ?_
  exact zg_sub [0, 1, 2, 3, 4] rfl (w_Xl_alters_34 hO hX hr _ _ _ _ _ _ _ _ _ hi0 huv tb ad h)
theorem mw_X3_alters : MwX yX3_alters cX3_alters 8 (some .int) RX3 4 := ⟨by decide +kernel, q1453, q1454, q88, q1455⟩
set_option maxHeartbeats 4000000 in
theorem m_Xl_alters (l : Launch) (D : va_G) (dA : Nat → ClassId) (G : Nat → Nat) {i0 : Nat} {x1 : Int32} {x2 : Int32} {x3 : Int32} {x4 : Int32} {σ : XS} (hi0 : i0 < 5) (tb : Nat) (ad : Nat → Nat) {ρ : Int32 × XS} (h : Xl_alters i0 x1 x2 x3 x4 σ = some ρ) : CtX l yX3_alters (ws_ yX3_alters cX3_alters 8 (some .int)) 46 65 390 D dA G [.ref (G (48 + 3 * i0)), .int x1, .int x2, .int x3, .int x4] (WX dA G tb ad σ) (QgI D dA (fun z : (Nat → Nat) × Nat => WX dA G z.2 z.1 ρ.2) ρ.1) := by
  refine zx_start (cc := cX3_alters) (nL := 8) (ret := (some .int)) (own := RX3) (by decide) rfl rfl (Nat.le_of_ble_eq_true rfl) (fun p e s m args below meth c A hO hX hr _ _ => ?_)
  unfold Xl_alters at h
  refine zg_sub (lv' := [(0, .ref (G (48 + 3 * i0))), (1, .int x1), (2, .int x2), (3, .int x3), (4, .int x4)]) [0, 1, 2, 3, 4] rfl ?_
  refine zg_aload_n hO 0 dX3_alters_0 rfl rfl ?_
  refine zg_iload_n hO 1 dX3_alters_1 rfl rfl ?_
  refine zy_callViF (b := G (48 + 3 * i0)) (As := [.int x1]) (rest := []) hO hX h (fun q hq => m_Xl_endOf l D dA G hi0 tb ad hq) mw_X3_endOf q1456 ⟨Nat.le_of_ble_eq_true rfl, Nat.le_of_ble_eq_true rfl⟩ ⟨Nat.zero_le _, Nat.zero_le _⟩ rfl rfl (Nat.le_of_ble_eq_true rfl) ⟨40 + 3 * i0, 2, _, _, wx_line hi0, rfl, rfl⟩ dX3_alters_2 (fun q1 h => ?_)
  refine zg_istore (lv' := [(5, .int q1.1), (0, .ref (G (48 + 3 * i0))), (1, .int x1), (2, .int x2), (3, .int x3), (4, .int x4)]) hO dX3_alters_5 (Nat.le_of_ble_eq_true rfl) rfl ?_
  refine zg_iload hO 0 dX3_alters_7 rfl ?_
  refine zg_if_ne (tgt := 16) hO h dX3_alters_9 (by decide) (fun h => ?_) (fun h => ?_)
  · refine zg_aload_n hO 1 dX3_alters_16 rfl rfl ?_
    refine zy_callViF (b := G (48 + 3 * i0)) (As := []) (rest := []) hO hX h (fun q hq => m_Xl_size l D dA G hi0 tb ad hq) mw_X3_size q1420 ⟨Nat.le_of_ble_eq_true rfl, Nat.le_of_ble_eq_true rfl⟩ ⟨Nat.zero_le _, Nat.zero_le _⟩ rfl rfl (Nat.le_of_ble_eq_true rfl) ⟨40 + 3 * i0, 2, _, _, wx_line hi0, rfl, rfl⟩ dX3_alters_17 (fun q2 h => ?_)
    refine zg_iconst hO dX3_alters_20 ic1 ?_
    refine zg_isub hO dX3_alters_21 ?_
    refine zg_iload_n hO 2 dX3_alters_22 rfl rfl ?_
    refine zg_isub hO dX3_alters_23 ?_
    refine zg_iload_n hO 3 dX3_alters_24 rfl rfl ?_
    refine zg_if_eq (tgt := 32) hO h dX3_alters_25 (by decide) (fun h => ?_) (fun h => ?_)
    · refine zg_iconst hO dX3_alters_32 ic1 ?_
      exact zg_sub [1, 3, 4, 5, 0] rfl (w_Xl_alters_33 hO hX hr _ _ _ _ _ _ _ _ _ _ hi0 ⟨Nat.zero_le _, Nat.zero_le _⟩ tb ad h)
    · refine zg_iconst hO dX3_alters_28 ic0 ?_
      refine zg_goto (tgt := 33) hO dX3_alters_29 (by decide) ?_
      exact zg_sub [1, 3, 4, 5, 0] rfl (w_Xl_alters_33 hO hX hr _ _ _ _ _ _ _ _ _ _ hi0 ⟨Nat.zero_le _, Nat.zero_le _⟩ tb ad h)
  · refine zg_iload_n hO 2 dX3_alters_12 rfl rfl ?_
    refine zg_goto (tgt := 34) hO dX3_alters_13 (by decide) ?_
    exact zg_sub [1, 3, 4, 5, 0] rfl (w_Xl_alters_34 hO hX hr _ _ _ _ _ _ _ _ _ hi0 ⟨Nat.zero_le _, Nat.zero_le _⟩ tb ad h)
theorem mw_X1_changes : MwX yX1_changes cX1_changes 8 (some .int) RX1 3 := ⟨by decide +kernel, q1449, q1450, q85, q1451⟩
set_option maxHeartbeats 4000000 in
theorem m_X_changes (l : Launch) (D : va_G) (dA : Nat → ClassId) (G : Nat → Nat) {x1 : Int32} {x2 : Int32} {x3 : Int32} {σ : XS} (tb : Nat) (ad : Nat → Nat) {ρ : Int32 × XS} (h : X_changes x1 x2 x3 σ = some ρ) : CtX l yX1_changes (ws_ yX1_changes cX1_changes 8 (some .int)) 47 71 540 D dA G [.ref (G 0), .int x1, .int x2, .int x3] (WX dA G tb ad σ) (QgI D dA (fun z : (Nat → Nat) × Nat => WX dA G z.2 z.1 ρ.2) ρ.1) := by
  refine zx_start (cc := cX1_changes) (nL := 8) (ret := (some .int)) (own := RX1) (by decide) rfl rfl (Nat.le_of_ble_eq_true rfl) (fun p e s m args below meth c A hO hX hr _ _ => ?_)
  unfold X_changes at h
  refine zg_sub (lv' := [(0, .ref (G 0)), (1, .int x1), (2, .int x2), (3, .int x3)]) [0, 1, 2, 3] rfl ?_
  refine zg_iload_n hO 1 dX1_changes_0 rfl rfl ?_
  refine zs_calli (As := [.int x1]) (rest := []) hO h (fun q hq => m_X_isLine l D dA hq) mw_X1_isLine q1398 ⟨Nat.le_of_ble_eq_true rfl, Nat.le_of_ble_eq_true rfl⟩ ⟨Nat.zero_le _, Nat.zero_le _⟩ rfl rfl (Nat.le_of_ble_eq_true rfl) dX1_changes_1 (fun q1 h => ?_)
  refine zg_if_eq (tgt := 14) hO h dX1_changes_4 (by decide) (fun h => ?_) (fun h => ?_)
  · refine zg_iconst hO dX1_changes_14 icm1 ?_
    exact zy_iretG hO hr h ⟨Nat.zero_le _, Nat.zero_le _⟩ dX1_changes_15
  · refine zg_iload_n hO 3 dX1_changes_7 rfl rfl ?_
    refine zs_calli (As := [.int x3]) (rest := []) hO h (fun q hq => m_X_isItem l D dA hq) mw_X1_isItem q1356 ⟨Nat.le_of_ble_eq_true rfl, Nat.le_of_ble_eq_true rfl⟩ ⟨Nat.zero_le _, Nat.zero_le _⟩ rfl rfl (Nat.le_of_ble_eq_true rfl) dX1_changes_8 (fun q2 h => ?_)
    refine zg_if_ne (tgt := 16) hO h dX1_changes_11 (by decide) (fun h => ?_) (fun h => ?_)
    · refine zg_aload_n hO 0 dX1_changes_16 rfl rfl ?_
      refine xG_1_162 hO hX dX1_changes_17 ?_
      refine zg_iload_n hO 1 dX1_changes_20 rfl rfl ?_
      refine zy_lget (rest := []) hO hX h q1406 (Nat.le_of_ble_eq_true rfl) dX1_changes_21 (fun hb3 h => ?_) ⟨Nat.zero_le _, Nat.zero_le _⟩
      refine zy_castL hO hb3 q231 dX1_changes_26 ?_
      refine zg_astore (lv' := [(4, .ref (G (48 + 3 * x1.toNatClampNeg))), (0, .ref (G 0)), (1, .int x1), (2, .int x2), (3, .int x3)]) hO dX1_changes_29 (Nat.le_of_ble_eq_true rfl) rfl ?_
      refine zg_iload_n hO 3 dX1_changes_31 rfl rfl ?_
      refine zg_i2l hO dX1_changes_32 ?_
      refine zg_lconst hO dX1_changes_33 lc0 ?_
      refine zg_aload hO 0 dX1_changes_34 rfl ?_
      refine zy_callViF (b := G (48 + 3 * x1.toNatClampNeg)) (As := []) (rest := [.long (lN 0), .long (x2.toInt64)]) hO hX h (fun q hq => m_Xl_size l D dA G hb3 tb ad hq) mw_X3_size q1407 ⟨Nat.le_of_ble_eq_true rfl, Nat.le_of_ble_eq_true rfl⟩ ⟨Nat.zero_le _, Nat.zero_le _⟩ rfl rfl (Nat.le_of_ble_eq_true rfl) ⟨40 + 3 * x1.toNatClampNeg, 2, _, _, wx_line hb3, rfl, rfl⟩ dX1_changes_36 (fun q4 h => ?_)
      refine zg_iconst hO dX1_changes_39 ic1 ?_
      refine zg_isub hO dX1_changes_40 ?_
      refine zg_i2l hO dX1_changes_41 ?_
      refine zs_calli (As := [.long (x2.toInt64), .long (lN 0), .long ((q4.1 - (nI 1)).toInt64)]) (rest := []) hO h (fun q hq => m_X_in l D dA hq) mw_X1_in q608 ⟨Nat.le_of_ble_eq_true rfl, Nat.le_of_ble_eq_true rfl⟩ ⟨Nat.zero_le _, Nat.zero_le _⟩ rfl rfl (Nat.le_of_ble_eq_true rfl) dX1_changes_42 (fun q5 h => ?_)
      refine zg_if_ne (tgt := 51) hO h dX1_changes_45 (by decide) (fun h => ?_) (fun h => ?_)
      · refine zg_aload hO 0 dX1_changes_51 rfl ?_
        refine zg_aload_n hO 1 dX1_changes_53 rfl rfl ?_
        refine xG_1_170 hO hX dX1_changes_54 ?_
        refine zg_chk h (fun hc7 h => ?_)
        refine zy_callViF (b := G (48 + 3 * x1.toNatClampNeg)) (As := [.ref (G 63)]) (rest := []) hO hX h (fun q hq => m_Xl_lay_r0 l D dA G hb3 tb ad hq) mw_X3_lay q1438 ⟨Nat.le_of_ble_eq_true rfl, Nat.le_of_ble_eq_true rfl⟩ hc7 rfl rfl (Nat.le_of_ble_eq_true rfl) ⟨40 + 3 * x1.toNatClampNeg, 2, _, _, wx_line hb3, rfl, rfl⟩ dX1_changes_57 (fun q6 h => ?_)
        refine zg_pop hO dX1_changes_60 rfl ?_
        refine zg_aload_n hO 1 dX1_changes_61 rfl rfl ?_
        refine xG_1_170 hO hX dX1_changes_62 ?_
        refine zg_iload_n hO 3 dX1_changes_65 rfl rfl ?_
        refine xL_row0 hO h dX1_changes_66 (fun h => ?_)
        refine zg_iload_n hO 4 dX1_changes_67 rfl rfl ?_
        refine zg_icmp_ne (tgt := 74) hO h dX1_changes_68 (by decide) (fun h => ?_) (fun h => ?_)
        · refine zg_aload_n hO 1 dX1_changes_74 rfl rfl ?_
          refine xG_1_315 hO hX dX1_changes_75 ?_
          refine zg_lstore (lv' := [(5, .long (xL q6.2 0)), (4, .ref (G (48 + 3 * x1.toNatClampNeg))), (0, .ref (G 0)), (1, .int x1), (2, .int x2), (3, .int x3)]) hO dX1_changes_78 (Nat.le_of_ble_eq_true rfl) rfl ?_
          refine zg_aload hO 1 dX1_changes_80 rfl ?_
          refine zg_iload_n hO 4 dX1_changes_82 rfl rfl ?_
          refine zg_iconst hO dX1_changes_83 ic1 ?_
          refine zg_iconst hO dX1_changes_84 ic1 ?_
          refine zg_iload_n hO 5 dX1_changes_85 rfl rfl ?_
          refine zg_chk h (fun hc9 h => ?_)
          refine zy_callViG (b := G (48 + 3 * x1.toNatClampNeg)) (As := [.int x2, .int (nI 1), .int (nI 1), .int x3]) (rest := []) hO hX h (fun q hq => m_Xl_alters l D dA G hb3 tb ad hq) mw_X3_alters q1452 ⟨Nat.le_of_ble_eq_true rfl, Nat.le_of_ble_eq_true rfl⟩ hc9 rfl rfl (Nat.le_of_ble_eq_true rfl) ⟨40 + 3 * x1.toNatClampNeg, 2, _, _, wx_line hb3, rfl, rfl⟩ dX1_changes_86 (fun q8 ad tb h => ?_)
          refine zg_istore (lv' := [(7, .int q8.1), (5, .long (xL q6.2 0)), (4, .ref (G (48 + 3 * x1.toNatClampNeg))), (0, .ref (G 0)), (1, .int x1), (2, .int x2), (3, .int x3)]) hO dX1_changes_89 (Nat.le_of_ble_eq_true rfl) rfl ?_
          refine zg_aload_n hO 3 dX1_changes_91 rfl rfl ?_
          refine zg_lload hO 1 dX1_changes_92 rfl ?_
          refine zy_callVvF (b := G 0) (As := [.long (xL q6.2 0)]) (rest := []) hO hX h (fun q hq => m_X_tellsWork l D dA G tb ad hq) mw_X1_tellsWork q1468 ⟨Nat.le_of_ble_eq_true rfl, Nat.le_of_ble_eq_true rfl⟩ hc9 rfl rfl (Nat.le_of_ble_eq_true rfl) ⟨0, 1, _, _, rfl, rfl, rfl⟩ dX1_changes_94 (fun q10 h => ?_)
          refine zg_iload hO 0 dX1_changes_97 rfl ?_
          exact zy_iretG hO hr h hc9 dX1_changes_99
        · refine zg_bipush hO dX1_changes_71 bcm4 ?_
          exact zy_iretG hO hr h hc7 dX1_changes_73
      · refine zg_bipush hO dX1_changes_48 bcm2 ?_
        exact zy_iretG hO hr h ⟨Nat.zero_le _, Nat.zero_le _⟩ dX1_changes_50
    · refine zg_iconst hO dX1_changes_14 icm1 ?_
      exact zy_iretG hO hr h ⟨Nat.zero_le _, Nat.zero_le _⟩ dX1_changes_15
theorem mw_X1_slips : MwX yX1_slips cX1_slips 7 (some .int) RX1 3 := ⟨by decide +kernel, q1473, q1474, q85, q1475⟩
set_option maxHeartbeats 4000000 in
theorem m_X_slips (l : Launch) (D : va_G) (dA : Nat → ClassId) (G : Nat → Nat) {x1 : Int32} {x2 : Int32} {x3 : Int32} {σ : XS} (tb : Nat) (ad : Nat → Nat) {ρ : Int32 × XS} (h : X_slips x1 x2 x3 σ = some ρ) : CtX l yX1_slips (ws_ yX1_slips cX1_slips 7 (some .int)) 47 65 390 D dA G [.ref (G 0), .int x1, .int x2, .int x3] (WX dA G tb ad σ) (QgI D dA (fun z : (Nat → Nat) × Nat => WX dA G z.2 z.1 ρ.2) ρ.1) := by
  refine zx_start (cc := cX1_slips) (nL := 7) (ret := (some .int)) (own := RX1) (by decide) rfl rfl (Nat.le_of_ble_eq_true rfl) (fun p e s m args below meth c A hO hX hr _ _ => ?_)
  unfold X_slips at h
  refine zg_sub (lv' := [(0, .ref (G 0)), (1, .int x1), (2, .int x2), (3, .int x3)]) [0, 1, 2, 3] rfl ?_
  refine zg_iload_n hO 1 dX1_slips_0 rfl rfl ?_
  refine zs_calli (As := [.int x1]) (rest := []) hO h (fun q hq => m_X_isLine l D dA hq) mw_X1_isLine q1398 ⟨Nat.le_of_ble_eq_true rfl, Nat.le_of_ble_eq_true rfl⟩ ⟨Nat.zero_le _, Nat.zero_le _⟩ rfl rfl (Nat.le_of_ble_eq_true rfl) dX1_slips_1 (fun q1 h => ?_)
  refine zg_if_eq (tgt := 14) hO h dX1_slips_4 (by decide) (fun h => ?_) (fun h => ?_)
  · refine zg_iconst hO dX1_slips_14 icm1 ?_
    exact zy_iretG hO hr h ⟨Nat.zero_le _, Nat.zero_le _⟩ dX1_slips_15
  · refine zg_iload_n hO 3 dX1_slips_7 rfl rfl ?_
    refine zs_calli (As := [.int x3]) (rest := []) hO h (fun q hq => m_X_isItem l D dA hq) mw_X1_isItem q1356 ⟨Nat.le_of_ble_eq_true rfl, Nat.le_of_ble_eq_true rfl⟩ ⟨Nat.zero_le _, Nat.zero_le _⟩ rfl rfl (Nat.le_of_ble_eq_true rfl) dX1_slips_8 (fun q2 h => ?_)
    refine zg_if_ne (tgt := 16) hO h dX1_slips_11 (by decide) (fun h => ?_) (fun h => ?_)
    · refine zg_aload_n hO 0 dX1_slips_16 rfl rfl ?_
      refine xG_1_162 hO hX dX1_slips_17 ?_
      refine zg_iload_n hO 1 dX1_slips_20 rfl rfl ?_
      refine zy_lget (rest := []) hO hX h q1406 (Nat.le_of_ble_eq_true rfl) dX1_slips_21 (fun hb3 h => ?_) ⟨Nat.zero_le _, Nat.zero_le _⟩
      refine zy_castL hO hb3 q231 dX1_slips_26 ?_
      refine zg_astore (lv' := [(4, .ref (G (48 + 3 * x1.toNatClampNeg))), (0, .ref (G 0)), (1, .int x1), (2, .int x2), (3, .int x3)]) hO dX1_slips_29 (Nat.le_of_ble_eq_true rfl) rfl ?_
      refine zg_iload_n hO 3 dX1_slips_31 rfl rfl ?_
      refine zg_i2l hO dX1_slips_32 ?_
      refine zg_lconst hO dX1_slips_33 lc0 ?_
      refine zg_aload hO 0 dX1_slips_34 rfl ?_
      refine zy_callViF (b := G (48 + 3 * x1.toNatClampNeg)) (As := []) (rest := [.long (lN 0), .long (x2.toInt64)]) hO hX h (fun q hq => m_Xl_size l D dA G hb3 tb ad hq) mw_X3_size q1407 ⟨Nat.le_of_ble_eq_true rfl, Nat.le_of_ble_eq_true rfl⟩ ⟨Nat.zero_le _, Nat.zero_le _⟩ rfl rfl (Nat.le_of_ble_eq_true rfl) ⟨40 + 3 * x1.toNatClampNeg, 2, _, _, wx_line hb3, rfl, rfl⟩ dX1_slips_36 (fun q4 h => ?_)
      refine zg_i2l hO dX1_slips_39 ?_
      refine zs_calli (As := [.long (x2.toInt64), .long (lN 0), .long (q4.1.toInt64)]) (rest := []) hO h (fun q hq => m_X_in l D dA hq) mw_X1_in q608 ⟨Nat.le_of_ble_eq_true rfl, Nat.le_of_ble_eq_true rfl⟩ ⟨Nat.zero_le _, Nat.zero_le _⟩ rfl rfl (Nat.le_of_ble_eq_true rfl) dX1_slips_40 (fun q5 h => ?_)
      refine zg_if_ne (tgt := 49) hO h dX1_slips_43 (by decide) (fun h => ?_) (fun h => ?_)
      · refine zg_aload hO 0 dX1_slips_49 rfl ?_
        refine zy_callViF (b := G (48 + 3 * x1.toNatClampNeg)) (As := []) (rest := []) hO hX h (fun q hq => m_Xl_size l D dA G hb3 tb ad hq) mw_X3_size q1407 ⟨Nat.le_of_ble_eq_true rfl, Nat.le_of_ble_eq_true rfl⟩ ⟨Nat.zero_le _, Nat.zero_le _⟩ rfl rfl (Nat.le_of_ble_eq_true rfl) ⟨40 + 3 * x1.toNatClampNeg, 2, _, _, wx_line hb3, rfl, rfl⟩ dX1_slips_51 (fun q6 h => ?_)
        refine zg_bipush hO dX1_slips_54 bc64 ?_
        refine zg_icmp_ne (tgt := 62) hO h dX1_slips_56 (by decide) (fun h => ?_) (fun h => ?_)
        · refine zg_aload_n hO 1 dX1_slips_62 rfl rfl ?_
          refine xG_1_315 hO hX dX1_slips_63 ?_
          refine zg_lstore (lv' := [(5, .long (xL q6.2 0)), (4, .ref (G (48 + 3 * x1.toNatClampNeg))), (0, .ref (G 0)), (1, .int x1), (2, .int x2), (3, .int x3)]) hO dX1_slips_66 (Nat.le_of_ble_eq_true rfl) rfl ?_
          refine zg_aload hO 1 dX1_slips_68 rfl ?_
          refine zg_iload_n hO 4 dX1_slips_70 rfl rfl ?_
          refine zg_iconst hO dX1_slips_71 ic0 ?_
          refine zg_iconst hO dX1_slips_72 ic1 ?_
          refine zg_iload_n hO 5 dX1_slips_73 rfl rfl ?_
          refine zg_chk h (fun hc8 h => ?_)
          refine zy_callViG (b := G (48 + 3 * x1.toNatClampNeg)) (As := [.int x2, .int (nI 0), .int (nI 1), .int x3]) (rest := []) hO hX h (fun q hq => m_Xl_alters l D dA G hb3 tb ad hq) mw_X3_alters q1452 ⟨Nat.le_of_ble_eq_true rfl, Nat.le_of_ble_eq_true rfl⟩ hc8 rfl rfl (Nat.le_of_ble_eq_true rfl) ⟨40 + 3 * x1.toNatClampNeg, 2, _, _, wx_line hb3, rfl, rfl⟩ dX1_slips_74 (fun q7 ad tb h => ?_)
          refine zg_pop hO dX1_slips_77 rfl ?_
          refine zg_aload_n hO 2 dX1_slips_78 rfl rfl ?_
          refine zg_lload hO 0 dX1_slips_79 rfl ?_
          refine zy_callVvF (b := G 0) (As := [.long (xL q6.2 0)]) (rest := []) hO hX h (fun q hq => m_X_tellsWork l D dA G tb ad hq) mw_X1_tellsWork q1468 ⟨Nat.le_of_ble_eq_true rfl, Nat.le_of_ble_eq_true rfl⟩ hc8 rfl rfl (Nat.le_of_ble_eq_true rfl) ⟨0, 1, _, _, rfl, rfl, rfl⟩ dX1_slips_81 (fun q9 h => ?_)
          refine zg_aload hO 1 dX1_slips_84 rfl ?_
          refine zy_callViF (b := G (48 + 3 * x1.toNatClampNeg)) (As := []) (rest := []) hO hX h (fun q hq => m_Xl_size l D dA G hb3 tb ad hq) mw_X3_size q1407 ⟨Nat.le_of_ble_eq_true rfl, Nat.le_of_ble_eq_true rfl⟩ hc8 rfl rfl (Nat.le_of_ble_eq_true rfl) ⟨40 + 3 * x1.toNatClampNeg, 2, _, _, wx_line hb3, rfl, rfl⟩ dX1_slips_86 (fun q10 h => ?_)
          exact zy_iretG hO hr h hc8 dX1_slips_89
        · refine zg_bipush hO dX1_slips_59 bcm3 ?_
          exact zy_iretG hO hr h ⟨Nat.zero_le _, Nat.zero_le _⟩ dX1_slips_61
      · refine zg_bipush hO dX1_slips_46 bcm2 ?_
        exact zy_iretG hO hr h ⟨Nat.zero_le _, Nat.zero_le _⟩ dX1_slips_48
    · refine zg_iconst hO dX1_slips_14 icm1 ?_
      exact zy_iretG hO hr h ⟨Nat.zero_le _, Nat.zero_le _⟩ dX1_slips_15
theorem mw_X1_drops : MwX yX1_drops cX1_drops 7 (some .int) RX1 2 := ⟨by decide +kernel, q1477, q1478, q85, q1479⟩
set_option maxHeartbeats 4000000 in
theorem m_X_drops (l : Launch) (D : va_G) (dA : Nat → ClassId) (G : Nat → Nat) {x1 : Int32} {x2 : Int32} {σ : XS} (tb : Nat) (ad : Nat → Nat) {ρ : Int32 × XS} (h : X_drops x1 x2 σ = some ρ) : CtX l yX1_drops (ws_ yX1_drops cX1_drops 7 (some .int)) 47 65 390 D dA G [.ref (G 0), .int x1, .int x2] (WX dA G tb ad σ) (QgI D dA (fun z : (Nat → Nat) × Nat => WX dA G z.2 z.1 ρ.2) ρ.1) := by
  refine zx_start (cc := cX1_drops) (nL := 7) (ret := (some .int)) (own := RX1) (by decide) rfl rfl (Nat.le_of_ble_eq_true rfl) (fun p e s m args below meth c A hO hX hr _ _ => ?_)
  unfold X_drops at h
  refine zg_sub (lv' := [(0, .ref (G 0)), (1, .int x1), (2, .int x2)]) [0, 1, 2] rfl ?_
  refine zg_iload_n hO 1 dX1_drops_0 rfl rfl ?_
  refine zs_calli (As := [.int x1]) (rest := []) hO h (fun q hq => m_X_isLine l D dA hq) mw_X1_isLine q1398 ⟨Nat.le_of_ble_eq_true rfl, Nat.le_of_ble_eq_true rfl⟩ ⟨Nat.zero_le _, Nat.zero_le _⟩ rfl rfl (Nat.le_of_ble_eq_true rfl) dX1_drops_1 (fun q1 h => ?_)
  refine zg_if_ne (tgt := 9) hO h dX1_drops_4 (by decide) (fun h => ?_) (fun h => ?_)
  · refine zg_aload_n hO 0 dX1_drops_9 rfl rfl ?_
    refine xG_1_162 hO hX dX1_drops_10 ?_
    refine zg_iload_n hO 1 dX1_drops_13 rfl rfl ?_
    refine zy_lget (rest := []) hO hX h q1406 (Nat.le_of_ble_eq_true rfl) dX1_drops_14 (fun hb2 h => ?_) ⟨Nat.zero_le _, Nat.zero_le _⟩
    refine zy_castL hO hb2 q231 dX1_drops_19 ?_
    refine zg_astore_n (lv' := [(3, .ref (G (48 + 3 * x1.toNatClampNeg))), (0, .ref (G 0)), (1, .int x1), (2, .int x2)]) hO dX1_drops_22 rfl (Nat.le_of_ble_eq_true rfl) rfl ?_
    refine zg_iload_n hO 3 dX1_drops_23 rfl rfl ?_
    refine zg_i2l hO dX1_drops_24 ?_
    refine zg_lconst hO dX1_drops_25 lc0 ?_
    refine zg_aload_n hO 0 dX1_drops_26 rfl rfl ?_
    refine zy_callViF (b := G (48 + 3 * x1.toNatClampNeg)) (As := []) (rest := [.long (lN 0), .long (x2.toInt64)]) hO hX h (fun q hq => m_Xl_size l D dA G hb2 tb ad hq) mw_X3_size q1407 ⟨Nat.le_of_ble_eq_true rfl, Nat.le_of_ble_eq_true rfl⟩ ⟨Nat.zero_le _, Nat.zero_le _⟩ rfl rfl (Nat.le_of_ble_eq_true rfl) ⟨40 + 3 * x1.toNatClampNeg, 2, _, _, wx_line hb2, rfl, rfl⟩ dX1_drops_27 (fun q3 h => ?_)
    refine zg_iconst hO dX1_drops_30 ic1 ?_
    refine zg_isub hO dX1_drops_31 ?_
    refine zg_i2l hO dX1_drops_32 ?_
    refine zs_calli (As := [.long (x2.toInt64), .long (lN 0), .long ((q3.1 - (nI 1)).toInt64)]) (rest := []) hO h (fun q hq => m_X_in l D dA hq) mw_X1_in q608 ⟨Nat.le_of_ble_eq_true rfl, Nat.le_of_ble_eq_true rfl⟩ ⟨Nat.zero_le _, Nat.zero_le _⟩ rfl rfl (Nat.le_of_ble_eq_true rfl) dX1_drops_33 (fun q4 h => ?_)
    refine zg_if_ne (tgt := 42) hO h dX1_drops_36 (by decide) (fun h => ?_) (fun h => ?_)
    · refine zg_aload_n hO 1 dX1_drops_42 rfl rfl ?_
      refine xG_1_315 hO hX dX1_drops_43 ?_
      refine zg_lstore (lv' := [(4, .long (xL q3.2 0)), (3, .ref (G (48 + 3 * x1.toNatClampNeg))), (0, .ref (G 0)), (1, .int x1), (2, .int x2)]) hO dX1_drops_46 (Nat.le_of_ble_eq_true rfl) rfl ?_
      refine zg_aload_n hO 1 dX1_drops_48 rfl rfl ?_
      refine zg_iload_n hO 4 dX1_drops_49 rfl rfl ?_
      refine zg_iconst hO dX1_drops_50 ic1 ?_
      refine zg_iconst hO dX1_drops_51 ic0 ?_
      refine zg_iconst hO dX1_drops_52 ic0 ?_
      refine zg_chk h (fun hc6 h => ?_)
      refine zy_callViG (b := G (48 + 3 * x1.toNatClampNeg)) (As := [.int x2, .int (nI 1), .int (nI 0), .int (nI 0)]) (rest := []) hO hX h (fun q hq => m_Xl_alters l D dA G hb2 tb ad hq) mw_X3_alters q1452 ⟨Nat.le_of_ble_eq_true rfl, Nat.le_of_ble_eq_true rfl⟩ hc6 rfl rfl (Nat.le_of_ble_eq_true rfl) ⟨40 + 3 * x1.toNatClampNeg, 2, _, _, wx_line hb2, rfl, rfl⟩ dX1_drops_53 (fun q5 ad tb h => ?_)
      refine zg_istore (lv' := [(6, .int q5.1), (4, .long (xL q3.2 0)), (3, .ref (G (48 + 3 * x1.toNatClampNeg))), (0, .ref (G 0)), (1, .int x1), (2, .int x2)]) hO dX1_drops_56 (Nat.le_of_ble_eq_true rfl) rfl ?_
      refine zg_aload_n hO 3 dX1_drops_58 rfl rfl ?_
      refine zg_lload hO 1 dX1_drops_59 rfl ?_
      refine zy_callVvF (b := G 0) (As := [.long (xL q3.2 0)]) (rest := []) hO hX h (fun q hq => m_X_tellsWork l D dA G tb ad hq) mw_X1_tellsWork q1468 ⟨Nat.le_of_ble_eq_true rfl, Nat.le_of_ble_eq_true rfl⟩ hc6 rfl rfl (Nat.le_of_ble_eq_true rfl) ⟨0, 1, _, _, rfl, rfl, rfl⟩ dX1_drops_61 (fun q7 h => ?_)
      refine zg_iload hO 0 dX1_drops_64 rfl ?_
      exact zy_iretG hO hr h hc6 dX1_drops_66
    · refine zg_bipush hO dX1_drops_39 bcm2 ?_
      exact zy_iretG hO hr h ⟨Nat.zero_le _, Nat.zero_le _⟩ dX1_drops_41
  · refine zg_iconst hO dX1_drops_7 icm1 ?_
    exact zy_iretG hO hr h ⟨Nat.zero_le _, Nat.zero_le _⟩ dX1_drops_8
set_option maxHeartbeats 4000000 in
theorem w_Xl_sums_75 {tb : Nat} {ad : Nat → Nat} (hO : Ok p s m args meth c cX3_sums RX3 2 D dA A) (hX : XK dA G A s) (hr : meth.sig.returnType = none) {ρ : XS} : ∀ (i0 : Nat) (i1 : Nat) (σ : XS) (hi0 : i0 < 5), Xl_sums_75 i0 i1 σ = some ρ → Go p l e (rmG 44 0 0) s m args below meth c D A 2 (MQ below ((QgV D dA (fun _ : Unit => WX dA G tb ad ρ)) A) args s 0 0 A) (WX dA G tb ad σ) 0 0 75 [(0, .ref (G (48 + 3 * i0))), (1, .ref (ad i1))] [] := by
  intro i0 i1 σ hi0 h
  unfold Xl_sums_75 at h
  refine zg_aload_n hO 0 dX3_sums_75 rfl rfl ?_
  refine xG_3_17 hO hX hi0 dX3_sums_76 ?_
  refine zg_iconst hO dX3_sums_79 ic1 ?_
  refine xL_top hO hi0 h dX3_sums_80 (fun h => ?_)
  refine zx_ifnull (tgt := 106) hO h dX3_sums_81 (by decide) (fun hni7 h => ?_) (fun i7 hi7 h => ?_)
  · exact zy_vretF hO hr h ⟨Nat.le_refl _, Nat.le_refl _⟩ dX3_sums_106
  · refine zg_aload_n hO 1 dX3_sums_84 rfl rfl ?_
    refine zg_aload_n hO 0 dX3_sums_85 rfl rfl ?_
    refine xG_3_17 hO hX hi0 dX3_sums_86 ?_
    refine zg_iconst hO dX3_sums_89 ic1 ?_
    refine xL_top hO hi0 h dX3_sums_90 (fun h => ?_)
    refine zx_top ad hi7 ?_
    refine xG_3_116 hO hX h dX3_sums_91 (fun h => ?_)
    refine zg_aload_n hO 0 dX3_sums_94 rfl rfl ?_
    refine xG_3_17 hO hX hi0 dX3_sums_95 ?_
    refine zg_iconst hO dX3_sums_98 ic1 ?_
    refine xL_top hO hi0 h dX3_sums_99 (fun h => ?_)
    refine zx_top ad hi7 ?_
    refine xG_3_119 hO hX h dX3_sums_100 (fun h => ?_)
    refine zg_chk h (fun hp h => ?_)
    refine zy_callPv (As := [.long (rP (xC σ i7)), .long (rQ (xC σ i7))]) (rest := []) hO hX h hp (fun q hq => m_Xp_is l D dA G tb ad hq) mw_X2_isf mw_X2_ist q1490 ⟨Nat.le_of_ble_eq_true rfl, Nat.le_of_ble_eq_true rfl⟩ ⟨Nat.le_refl _, Nat.le_refl _⟩ rfl rfl (Nat.le_of_ble_eq_true rfl) dX3_sums_103 (fun q8 h => ?_)
    exact zy_vretF hO hr h ⟨Nat.le_refl _, Nat.le_refl _⟩ dX3_sums_106
set_option maxHeartbeats 4000000 in
theorem w_Xl_sums_39 {tb : Nat} {ad : Nat → Nat} (hO : Ok p s m args meth c cX3_sums RX3 2 D dA A) (hX : XK dA G A s) (hr : meth.sig.returnType = none) {ρ : XS} : ∀ (i0 : Nat) (i1 : Nat) (σ : XS) (hi0 : i0 < 5), Xl_sums_39 i0 i1 σ = some ρ → Go p l e (rmG 44 0 0) s m args below meth c D A 2 (MQ below ((QgV D dA (fun _ : Unit => WX dA G tb ad ρ)) A) args s 0 0 A) (WX dA G tb ad σ) 0 0 39 [(0, .ref (G (48 + 3 * i0))), (1, .ref (ad i1))] [] := by
  intro i0 i1 σ hi0 h
  unfold Xl_sums_39 at h
  refine zg_aload_n hO 0 dX3_sums_39 rfl rfl ?_
  refine xG_3_17 hO hX hi0 dX3_sums_40 ?_
  refine zg_iconst hO dX3_sums_43 ic1 ?_
  refine xL_top hO hi0 h dX3_sums_44 (fun h => ?_)
  refine zx_ifnull (tgt := 75) hO h dX3_sums_45 (by decide) (fun hni4 h => ?_) (fun i4 hi4 h => ?_)
  · exact zg_sub [0, 1] rfl (w_Xl_sums_75 hO hX hr _ _ _ hi0 h)
  · refine zg_aload_n hO 0 dX3_sums_48 rfl rfl ?_
    refine xG_3_17 hO hX hi0 dX3_sums_49 ?_
    refine zg_iconst hO dX3_sums_52 ic0 ?_
    refine xL_top hO hi0 h dX3_sums_53 (fun h => ?_)
    refine zx_ifnull (tgt := 75) hO h dX3_sums_54 (by decide) (fun hni5 h => ?_) (fun i5 hi5 h => ?_)
    · exact zg_sub [0, 1] rfl (w_Xl_sums_75 hO hX hr _ _ _ hi0 h)
    · refine zg_aload_n hO 0 dX3_sums_57 rfl rfl ?_
      refine xG_3_3 hO hX hi0 dX3_sums_58 ?_
      refine zg_aload_n hO 1 dX3_sums_61 rfl rfl ?_
      refine zg_aload_n hO 1 dX3_sums_62 rfl rfl ?_
      refine zg_aload_n hO 0 dX3_sums_63 rfl rfl ?_
      refine xG_3_17 hO hX hi0 dX3_sums_64 ?_
      refine zg_iconst hO dX3_sums_67 ic1 ?_
      refine xL_top hO hi0 h dX3_sums_68 (fun h => ?_)
      refine zx_top ad hi4 ?_
      refine zy_callNvF (b := G 0) (As := [.ref (ad i1), .ref (ad i1), .ref (ad i4)]) (rest := []) hO hX h (fun q hq => m_X_join l D dA G tb ad hq) mw_X1_join q1228 ⟨Nat.le_of_ble_eq_true rfl, Nat.le_of_ble_eq_true rfl⟩ ⟨Nat.le_refl _, Nat.le_refl _⟩ rfl rfl (Nat.le_of_ble_eq_true rfl) ⟨0, 1, _, _, rfl, rfl, rfl⟩ dX3_sums_69 (fun q6 h => ?_)
      refine zg_goto (tgt := 106) hO dX3_sums_72 (by decide) ?_
      exact zy_vretF hO hr h ⟨Nat.le_refl _, Nat.le_refl _⟩ dX3_sums_106
theorem mw_X3_sums : MwX yX3_sums cX3_sums 2 none RX3 1 := ⟨by decide +kernel, q1486, q1487, q88, q1488⟩
set_option maxHeartbeats 4000000 in
theorem m_Xl_sums (l : Launch) (D : va_G) (dA : Nat → ClassId) (G : Nat → Nat) {i0 : Nat} {i1 : Nat} {σ : XS} (hi0 : i0 < 5) (tb : Nat) (ad : Nat → Nat) {ρ : XS} (h : Xl_sums i0 i1 σ = some ρ) : CtX l yX3_sums (ws_ yX3_sums cX3_sums 2 none) 44 0 0 D dA G [.ref (G (48 + 3 * i0)), .ref (ad i1)] (WX dA G tb ad σ) (QgV D dA (fun _ : Unit => WX dA G tb ad ρ)) := by
  refine zx_start (cc := cX3_sums) (nL := 2) (ret := none) (own := RX3) (by decide) rfl rfl (Nat.le_of_ble_eq_true rfl) (fun p e s m args below meth c A hO hX hr _ _ => ?_)
  unfold Xl_sums at h
  refine zg_sub (lv' := [(0, .ref (G (48 + 3 * i0))), (1, .ref (ad i1))]) [0, 1] rfl ?_
  refine zg_aload_n hO 0 dX3_sums_0 rfl rfl ?_
  refine xG_3_3 hO hX hi0 dX3_sums_1 ?_
  refine zg_aload_n hO 1 dX3_sums_4 rfl rfl ?_
  refine zy_callNvF (b := G 0) (As := [.ref (ad i1)]) (rest := []) hO hX h (fun q hq => m_X_empty l D dA G tb ad hq) mw_X1_empty q1489 ⟨Nat.le_of_ble_eq_true rfl, Nat.le_of_ble_eq_true rfl⟩ ⟨Nat.le_refl _, Nat.le_refl _⟩ rfl rfl (Nat.le_of_ble_eq_true rfl) ⟨0, 1, _, _, rfl, rfl, rfl⟩ dX3_sums_5 (fun q1 h => ?_)
  refine zg_aload_n hO 0 dX3_sums_8 rfl rfl ?_
  refine xG_3_17 hO hX hi0 dX3_sums_9 ?_
  refine zg_iconst hO dX3_sums_12 ic0 ?_
  refine xL_top hO hi0 h dX3_sums_13 (fun h => ?_)
  refine zx_ifnull (tgt := 39) hO h dX3_sums_14 (by decide) (fun hni2 h => ?_) (fun i2 hi2 h => ?_)
  · exact zg_sub [0, 1] rfl (w_Xl_sums_39 hO hX hr _ _ _ hi0 h)
  · refine zg_aload_n hO 1 dX3_sums_17 rfl rfl ?_
    refine zg_aload_n hO 0 dX3_sums_18 rfl rfl ?_
    refine xG_3_17 hO hX hi0 dX3_sums_19 ?_
    refine zg_iconst hO dX3_sums_22 ic0 ?_
    refine xL_top hO hi0 h dX3_sums_23 (fun h => ?_)
    refine zx_top ad hi2 ?_
    refine xG_3_116 hO hX h dX3_sums_24 (fun h => ?_)
    refine zg_aload_n hO 0 dX3_sums_27 rfl rfl ?_
    refine xG_3_17 hO hX hi0 dX3_sums_28 ?_
    refine zg_iconst hO dX3_sums_31 ic0 ?_
    refine xL_top hO hi0 h dX3_sums_32 (fun h => ?_)
    refine zx_top ad hi2 ?_
    refine xG_3_119 hO hX h dX3_sums_33 (fun h => ?_)
    refine zg_chk h (fun hp h => ?_)
    refine zy_callPv (As := [.long (rP (xC q1 i2)), .long (rQ (xC q1 i2))]) (rest := []) hO hX h hp (fun q hq => m_Xp_is l D dA G tb ad hq) mw_X2_isf mw_X2_ist q1490 ⟨Nat.le_of_ble_eq_true rfl, Nat.le_of_ble_eq_true rfl⟩ ⟨Nat.le_refl _, Nat.le_refl _⟩ rfl rfl (Nat.le_of_ble_eq_true rfl) dX3_sums_36 (fun q3 h => ?_)
    exact zg_sub [0, 1] rfl (w_Xl_sums_39 hO hX hr _ _ _ hi0 h)
set_option maxHeartbeats 4000000 in
theorem w_X_shifts_63 (hO : Ok p s m args meth c cX1_shifts RX1 9 D dA A) (hX : XK dA G A s) (hr : meth.sig.returnType = (some .int)) {ρ : Int32 × XS} : ∀ (n : Nat) (x2 : Int32) (x3 : Int32) (i4 : Nat) (x5 : Int64) (x7 : Int32) (σ : XS) (u : Nat) (v : Nat) (hi4 : i4 < 5) (huv : u ≤ 4544 ∧ v ≤ 34560) (tb : Nat) (ad : Nat → Nat), X_shifts_63 n x2 x3 i4 x5 x7 σ u v = some ρ → Go p l e (rmG 48 4544 34560) s m args below meth c D A 9 (MQ below ((QgI D dA (fun z : (Nat → Nat) × Nat => WX dA G z.2 z.1 ρ.2) ρ.1) A) args s 4544 34560 A) (WX dA G tb ad σ) u v 63 [(0, .ref (G 0)), (2, .int x2), (3, .int x3), (4, .ref (G (48 + 3 * i4))), (5, .long x5), (7, .int x7)] [] := by
  intro n
  induction n with
  | zero =>
    intro x2 x3 i4 x5 x7 σ u v hi4 huv tb ad h
    rw [X_shifts_63] at h
    cases h
  | succ n ih =>
    intro x2 x3 i4 x5 x7 σ u v hi4 huv tb ad h
    rw [X_shifts_63] at h
    refine zg_iload hO 5 dX1_shifts_63 rfl ?_
    refine zg_iload_n hO 2 dX1_shifts_65 rfl rfl ?_
    refine zg_icmp_ge (tgt := 93) hO h dX1_shifts_66 (by decide) (fun h => ?_) (fun h => ?_)
    · refine zg_aload hO 3 dX1_shifts_93 rfl ?_
      refine zg_aload_n hO 0 dX1_shifts_95 rfl rfl ?_
      refine xG_1_154 hO hX dX1_shifts_96 ?_
      refine zy_callVvF (b := G (48 + 3 * i4)) (As := [.ref (ad 2)]) (rest := []) hO hX h (fun q hq => m_Xl_sums l D dA G hi4 tb ad hq) mw_X3_sums q1485 ⟨Nat.le_of_ble_eq_true rfl, Nat.le_of_ble_eq_true rfl⟩ huv rfl rfl (Nat.le_of_ble_eq_true rfl) ⟨40 + 3 * i4, 2, _, _, wx_line hi4, rfl, rfl⟩ dX1_shifts_99 (fun q6 h => ?_)
      refine zg_aload_n hO 0 dX1_shifts_102 rfl rfl ?_
      refine zg_iconst hO dX1_shifts_103 ic0 ?_
      refine xP_1_199 hO hX dX1_shifts_104 ?_
      refine zg_aload_n hO 0 dX1_shifts_107 rfl rfl ?_
      refine zg_aload_n hO 0 dX1_shifts_108 rfl rfl ?_
      refine xG_1_154 hO hX dX1_shifts_109 ?_
      refine zy_callVvF (b := G 0) (As := [.ref (ad 2)]) (rest := []) hO hX h (fun q hq => m_X_tellsPair l D dA G tb ad hq) mw_X1_tellsPair q1362 ⟨Nat.le_of_ble_eq_true rfl, Nat.le_of_ble_eq_true rfl⟩ huv rfl rfl (Nat.le_of_ble_eq_true rfl) ⟨0, 1, _, _, rfl, rfl, rfl⟩ dX1_shifts_112 (fun q7 h => ?_)
      refine zg_aload_n hO 0 dX1_shifts_115 rfl rfl ?_
      refine xG_1_315 hO hX dX1_shifts_116 ?_
      refine zg_lload hO 4 dX1_shifts_119 rfl ?_
      refine zg_lsub hO dX1_shifts_121 ?_
      refine zg_l2i hO dX1_shifts_122 ?_
      exact zy_iretG hO hr h huv dX1_shifts_123
    · refine zg_aload hO 3 dX1_shifts_69 rfl ?_
      refine zg_iload_n hO 1 dX1_shifts_71 rfl rfl ?_
      refine zg_chk h (fun hc9 h => ?_)
      refine zy_callViG (b := G (48 + 3 * i4)) (As := [.int x2]) (rest := []) hO hX h (fun q hq => m_Xl_take l D dA G hi4 tb ad hq) mw_X3_take q1416 ⟨Nat.le_of_ble_eq_true rfl, Nat.le_of_ble_eq_true rfl⟩ hc9 rfl rfl (Nat.le_of_ble_eq_true rfl) ⟨40 + 3 * i4, 2, _, _, wx_line hi4, rfl, rfl⟩ dX1_shifts_72 (fun q8 ad tb h => ?_)
      refine zg_istore (lv' := [(8, .int q8.1), (0, .ref (G 0)), (2, .int x2), (3, .int x3), (4, .ref (G (48 + 3 * i4))), (5, .long x5), (7, .int x7)]) hO dX1_shifts_75 (Nat.le_of_ble_eq_true rfl) rfl ?_
      refine zg_aload hO 4 dX1_shifts_77 rfl ?_
      refine zg_iconst hO dX1_shifts_79 ic1 ?_
      refine zg_iload_n hO 2 dX1_shifts_80 rfl rfl ?_
      refine zg_isub hO dX1_shifts_81 ?_
      refine zg_iload hO 0 dX1_shifts_82 rfl ?_
      refine zg_chk h (fun hc11 h => ?_)
      refine zy_callVvG (b := G (48 + 3 * i4)) (As := [.int ((nI 1) - x2), .int q8.1]) (rest := []) hO hX h (fun q hq => m_Xl_put l D dA G hi4 tb ad hq) mw_X3_put q1411 ⟨Nat.le_of_ble_eq_true rfl, Nat.le_of_ble_eq_true rfl⟩ hc11 rfl rfl (Nat.le_of_ble_eq_true rfl) ⟨40 + 3 * i4, 2, _, _, wx_line hi4, rfl, rfl⟩ dX1_shifts_84 (fun q10 ad tb h => ?_)
      refine zg_iinc (k := 6) (lv' := [(7, .int (x7 + (nI 1))), (8, .int q8.1), (0, .ref (G 0)), (2, .int x2), (3, .int x3), (4, .ref (G (48 + 3 * i4))), (5, .long x5)]) hO dX1_shifts_87 rfl (zii ic1) (Nat.le_of_ble_eq_true rfl) rfl ?_
      refine zg_goto (tgt := 63) hO dX1_shifts_90 (by decide) ?_
      exact zg_sub [2, 3, 4, 5, 6, 0] rfl (ih _ _ _ _ _ _ _ _ hi4 hc11 tb ad h)
theorem mw_X1_shifts : MwX yX1_shifts cX1_shifts 9 (some .int) RX1 3 := ⟨by decide +kernel, q1481, q1482, q85, q1483⟩
set_option maxHeartbeats 4000000 in
theorem m_X_shifts (l : Launch) (D : va_G) (dA : Nat → ClassId) (G : Nat → Nat) {x1 : Int32} {x2 : Int32} {x3 : Int32} {σ : XS} (tb : Nat) (ad : Nat → Nat) {ρ : Int32 × XS} (h : X_shifts x1 x2 x3 σ = some ρ) : CtX l yX1_shifts (ws_ yX1_shifts cX1_shifts 9 (some .int)) 48 4544 34560 D dA G [.ref (G 0), .int x1, .int x2, .int x3] (WX dA G tb ad σ) (QgI D dA (fun z : (Nat → Nat) × Nat => WX dA G z.2 z.1 ρ.2) ρ.1) := by
  refine zx_start (cc := cX1_shifts) (nL := 9) (ret := (some .int)) (own := RX1) (by decide) rfl rfl (Nat.le_of_ble_eq_true rfl) (fun p e s m args below meth c A hO hX hr _ _ => ?_)
  unfold X_shifts at h
  refine zg_sub (lv' := [(0, .ref (G 0)), (1, .int x1), (2, .int x2), (3, .int x3)]) [0, 1, 2, 3] rfl ?_
  refine zg_iload_n hO 1 dX1_shifts_0 rfl rfl ?_
  refine zs_calli (As := [.int x1]) (rest := []) hO h (fun q hq => m_X_isLine l D dA hq) mw_X1_isLine q1398 ⟨Nat.le_of_ble_eq_true rfl, Nat.le_of_ble_eq_true rfl⟩ ⟨Nat.zero_le _, Nat.zero_le _⟩ rfl rfl (Nat.le_of_ble_eq_true rfl) dX1_shifts_1 (fun q1 h => ?_)
  refine zg_if_eq (tgt := 26) hO h dX1_shifts_4 (by decide) (fun h => ?_) (fun h => ?_)
  · refine zg_iconst hO dX1_shifts_26 icm1 ?_
    exact zy_iretG hO hr h ⟨Nat.zero_le _, Nat.zero_le _⟩ dX1_shifts_27
  · refine zg_iload_n hO 2 dX1_shifts_7 rfl rfl ?_
    refine zs_calli (As := [.int x2]) (rest := []) hO h (fun q hq => m_X_isEnd l D dA hq) mw_X1_isEnd q1402 ⟨Nat.le_of_ble_eq_true rfl, Nat.le_of_ble_eq_true rfl⟩ ⟨Nat.zero_le _, Nat.zero_le _⟩ rfl rfl (Nat.le_of_ble_eq_true rfl) dX1_shifts_8 (fun q2 h => ?_)
    refine zg_if_eq (tgt := 26) hO h dX1_shifts_11 (by decide) (fun h => ?_) (fun h => ?_)
    · refine zg_iconst hO dX1_shifts_26 icm1 ?_
      exact zy_iretG hO hr h ⟨Nat.zero_le _, Nat.zero_le _⟩ dX1_shifts_27
    · refine zg_iload_n hO 3 dX1_shifts_14 rfl rfl ?_
      refine zg_i2l hO dX1_shifts_15 ?_
      refine zg_lconst hO dX1_shifts_16 lc1 ?_
      refine zg_ldc2 (x := 64) hO q1484 dX1_shifts_17 ?_
      refine zs_calli (As := [.long (x3.toInt64), .long (lN 1), .long (64 : Int64)]) (rest := []) hO h (fun q hq => m_X_in l D dA hq) mw_X1_in q608 ⟨Nat.le_of_ble_eq_true rfl, Nat.le_of_ble_eq_true rfl⟩ ⟨Nat.zero_le _, Nat.zero_le _⟩ rfl rfl (Nat.le_of_ble_eq_true rfl) dX1_shifts_20 (fun q3 h => ?_)
      refine zg_if_ne (tgt := 28) hO h dX1_shifts_23 (by decide) (fun h => ?_) (fun h => ?_)
      · refine zg_aload_n hO 0 dX1_shifts_28 rfl rfl ?_
        refine xG_1_162 hO hX dX1_shifts_29 ?_
        refine zg_iload_n hO 1 dX1_shifts_32 rfl rfl ?_
        refine zy_lget (rest := []) hO hX h q1406 (Nat.le_of_ble_eq_true rfl) dX1_shifts_33 (fun hb4 h => ?_) ⟨Nat.zero_le _, Nat.zero_le _⟩
        refine zy_castL hO hb4 q231 dX1_shifts_38 ?_
        refine zg_astore (lv' := [(4, .ref (G (48 + 3 * x1.toNatClampNeg))), (0, .ref (G 0)), (1, .int x1), (2, .int x2), (3, .int x3)]) hO dX1_shifts_41 (Nat.le_of_ble_eq_true rfl) rfl ?_
        refine zg_aload hO 0 dX1_shifts_43 rfl ?_
        refine zy_callViF (b := G (48 + 3 * x1.toNatClampNeg)) (As := []) (rest := []) hO hX h (fun q hq => m_Xl_size l D dA G hb4 tb ad hq) mw_X3_size q1407 ⟨Nat.le_of_ble_eq_true rfl, Nat.le_of_ble_eq_true rfl⟩ ⟨Nat.zero_le _, Nat.zero_le _⟩ rfl rfl (Nat.le_of_ble_eq_true rfl) ⟨40 + 3 * x1.toNatClampNeg, 2, _, _, wx_line hb4, rfl, rfl⟩ dX1_shifts_45 (fun q5 h => ?_)
        refine zg_if_ne (tgt := 54) hO h dX1_shifts_48 (by decide) (fun h => ?_) (fun h => ?_)
        · refine zg_aload_n hO 1 dX1_shifts_54 rfl rfl ?_
          refine xG_1_315 hO hX dX1_shifts_55 ?_
          refine zg_lstore (lv' := [(5, .long (xL q5.2 0)), (4, .ref (G (48 + 3 * x1.toNatClampNeg))), (0, .ref (G 0)), (1, .int x1), (2, .int x2), (3, .int x3)]) hO dX1_shifts_58 (Nat.le_of_ble_eq_true rfl) rfl ?_
          refine zg_iconst hO dX1_shifts_60 ic0 ?_
          refine zg_istore (lv' := [(7, .int (nI 0)), (5, .long (xL q5.2 0)), (4, .ref (G (48 + 3 * x1.toNatClampNeg))), (0, .ref (G 0)), (1, .int x1), (2, .int x2), (3, .int x3)]) hO dX1_shifts_61 (Nat.le_of_ble_eq_true rfl) rfl ?_
          exact zg_sub [3, 5, 6, 2, 1, 0] rfl (w_X_shifts_63 hO hX hr _ _ _ _ _ _ _ _ _ hb4 ⟨Nat.zero_le _, Nat.zero_le _⟩ tb ad h)
        · refine zg_bipush hO dX1_shifts_51 bcm2 ?_
          exact zy_iretG hO hr h ⟨Nat.zero_le _, Nat.zero_le _⟩ dX1_shifts_53
      · refine zg_iconst hO dX1_shifts_26 icm1 ?_
        exact zy_iretG hO hr h ⟨Nat.zero_le _, Nat.zero_le _⟩ dX1_shifts_27
set_option maxHeartbeats 4000000 in
theorem w_X_does_59 (hO : Ok p s m args meth c cX1_does RX1 4 D dA A) (hX : XK dA G A s) (hr : meth.sig.returnType = (some .boolean)) {ρ : Int32 × XS} : ∀ (x3 : Int32) (y0 : Int32) (is1 : Nat) (σ : XS) (u : Nat) (v : Nat) (his1 : is1 < 5) (huv : u ≤ 70 ∧ v ≤ 534) (tb : Nat) (ad : Nat → Nat), X_does_59 x3 y0 is1 σ u v = some ρ → Go p l e (rmG 48 70 534) s m args below meth c D A 4 (MQ below ((QgI D dA (fun z : (Nat → Nat) × Nat => WX dA G z.2 z.1 ρ.2) ρ.1) A) args s 70 534 A) (WX dA G tb ad σ) u v 59 [(3, .int x3)] [.int y0, .ref (G (48 + 3 * is1))] := by
  intro x3 y0 is1 σ u v his1 huv tb ad h
  unfold X_does_59 at h
  refine zg_iload_n hO 0 dX1_does_59 rfl rfl ?_
  refine zg_chk h (fun hc8 h => ?_)
  refine zy_callVvG (b := G (48 + 3 * is1)) (As := [.int y0, .int x3]) (rest := []) hO hX h (fun q hq => m_Xl_put l D dA G his1 tb ad hq) mw_X3_put q1411 ⟨Nat.le_of_ble_eq_true rfl, Nat.le_of_ble_eq_true rfl⟩ hc8 rfl rfl (Nat.le_of_ble_eq_true rfl) ⟨40 + 3 * is1, 2, _, _, wx_line his1, rfl, rfl⟩ dX1_does_60 (fun q7 ad tb h => ?_)
  refine zg_iconst hO dX1_does_63 ic1 ?_
  exact zy_zretG hO hr (Or.inr (by decide)) h hc8 dX1_does_64
set_option maxHeartbeats 4000000 in
theorem w_X_does_36 (hO : Ok p s m args meth c cX1_does RX1 4 D dA A) (hX : XK dA G A s) (hr : meth.sig.returnType = (some .boolean)) {ρ : Int32 × XS} : ∀ (i1 : Nat) (x2 : Int32) (x3 : Int32) (σ : XS) (u : Nat) (v : Nat) (hi1 : i1 < 5) (huv : u ≤ 70 ∧ v ≤ 534) (tb : Nat) (ad : Nat → Nat), X_does_36 i1 x2 x3 σ u v = some ρ → Go p l e (rmG 48 70 534) s m args below meth c D A 4 (MQ below ((QgI D dA (fun z : (Nat → Nat) × Nat => WX dA G z.2 z.1 ρ.2) ρ.1) A) args s 70 534 A) (WX dA G tb ad σ) u v 36 [(1, .ref (G (48 + 3 * i1))), (2, .int x2), (3, .int x3)] [] := by
  intro i1 x2 x3 σ u v hi1 huv tb ad h
  unfold X_does_36 at h
  refine zg_aload_n hO 0 dX1_does_36 rfl rfl ?_
  refine zy_callViF (b := G (48 + 3 * i1)) (As := []) (rest := []) hO hX h (fun q hq => m_Xl_size l D dA G hi1 tb ad hq) mw_X3_size q1407 ⟨Nat.le_of_ble_eq_true rfl, Nat.le_of_ble_eq_true rfl⟩ huv rfl rfl (Nat.le_of_ble_eq_true rfl) ⟨40 + 3 * i1, 2, _, _, wx_line hi1, rfl, rfl⟩ dX1_does_37 (fun q6 h => ?_)
  refine zg_bipush hO dX1_does_40 bc64 ?_
  refine zg_icmp_ne (tgt := 47) hO h dX1_does_42 (by decide) (fun h => ?_) (fun h => ?_)
  · refine zg_aload_n hO 0 dX1_does_47 rfl rfl ?_
    refine zg_iload_n hO 1 dX1_does_48 rfl rfl ?_
    refine zg_bipush hO dX1_does_49 bc102 ?_
    refine zg_icmp_ne (tgt := 58) hO h dX1_does_51 (by decide) (fun h => ?_) (fun h => ?_)
    · refine zg_iconst hO dX1_does_58 ic1 ?_
      exact zg_sub [2] rfl (w_X_does_59 hO hX hr _ _ _ _ _ _ hi1 huv tb ad h)
    · refine zg_iconst hO dX1_does_54 ic0 ?_
      refine zg_goto (tgt := 59) hO dX1_does_55 (by decide) ?_
      exact zg_sub [2] rfl (w_X_does_59 hO hX hr _ _ _ _ _ _ hi1 huv tb ad h)
  · refine zg_iconst hO dX1_does_45 ic0 ?_
    exact zy_zretG hO hr (Or.inl (by decide)) h huv dX1_does_46
set_option maxHeartbeats 4000000 in
theorem w_X_does_94 (hO : Ok p s m args meth c cX1_does RX1 4 D dA A) (hX : XK dA G A s) (hr : meth.sig.returnType = (some .boolean)) {ρ : Int32 × XS} : ∀ (y0 : Int32) (is1 : Nat) (σ : XS) (u : Nat) (v : Nat) (his1 : is1 < 5) (huv : u ≤ 70 ∧ v ≤ 534) (tb : Nat) (ad : Nat → Nat), X_does_94 y0 is1 σ u v = some ρ → Go p l e (rmG 48 70 534) s m args below meth c D A 4 (MQ below ((QgI D dA (fun z : (Nat → Nat) × Nat => WX dA G z.2 z.1 ρ.2) ρ.1) A) args s 70 534 A) (WX dA G tb ad σ) u v 94 [] [.int y0, .ref (G (48 + 3 * is1))] := by
  intro y0 is1 σ u v his1 huv tb ad h
  unfold X_does_94 at h
  refine zg_chk h (fun hc5 h => ?_)
  refine zy_callViG (b := G (48 + 3 * is1)) (As := [.int y0]) (rest := []) hO hX h (fun q hq => m_Xl_take l D dA G his1 tb ad hq) mw_X3_take q1416 ⟨Nat.le_of_ble_eq_true rfl, Nat.le_of_ble_eq_true rfl⟩ hc5 rfl rfl (Nat.le_of_ble_eq_true rfl) ⟨40 + 3 * is1, 2, _, _, wx_line his1, rfl, rfl⟩ dX1_does_94 (fun q4 ad tb h => ?_)
  refine zg_pop hO dX1_does_97 rfl ?_
  refine zg_iconst hO dX1_does_98 ic1 ?_
  exact zy_zretG hO hr (Or.inr (by decide)) h hc5 dX1_does_99
theorem mw_X1_does : MwX yX1_does cX1_does 4 (some .boolean) RX1 3 := ⟨by decide +kernel, q1582, qs38, q85, q1583⟩
set_option maxHeartbeats 4000000 in
theorem m_X_does (l : Launch) (D : va_G) (dA : Nat → ClassId) (G : Nat → Nat) {i1 : Nat} {x2 : Int32} {x3 : Int32} {σ : XS} (hi1 : i1 < 5) (tb : Nat) (ad : Nat → Nat) {ρ : Int32 × XS} (h : X_does i1 x2 x3 σ = some ρ) : CtX l yX1_does (ws_ yX1_does cX1_does 4 (some .boolean)) 48 70 534 D dA G [.ref (G 0), .ref (G (48 + 3 * i1)), .int x2, .int x3] (WX dA G tb ad σ) (QgI D dA (fun z : (Nat → Nat) × Nat => WX dA G z.2 z.1 ρ.2) ρ.1) := by
  refine zx_start (cc := cX1_does) (nL := 4) (ret := (some .boolean)) (own := RX1) (by decide) rfl rfl (Nat.le_of_ble_eq_true rfl) (fun p e s m args below meth c A hO hX hr _ _ => ?_)
  unfold X_does at h
  refine zg_sub (lv' := [(0, .ref (G 0)), (1, .ref (G (48 + 3 * i1))), (2, .int x2), (3, .int x3)]) [0, 1, 2, 3] rfl ?_
  refine zg_iload_n hO 2 dX1_does_0 rfl rfl ?_
  refine zg_ite h (fun e98 h => ?_) (fun e98 h => ?_)
  · refine zg_lookup (tgt := 36) hO dX1_does_1 (by decide) (by rw [e98]; try rfl) (by decide) ?_
    exact zg_sub [1, 2, 3] rfl (w_X_does_36 hO hX hr _ _ _ _ _ _ hi1 ⟨Nat.zero_le _, Nat.zero_le _⟩ tb ad h)
  refine zg_ite h (fun e102 h => ?_) (fun e102 h => ?_)
  · refine zg_lookup (tgt := 36) hO dX1_does_1 (by decide) (by rw [e102]; try rfl) (by decide) ?_
    exact zg_sub [1, 2, 3] rfl (w_X_does_36 hO hX hr _ _ _ _ _ _ hi1 ⟨Nat.zero_le _, Nat.zero_le _⟩ tb ad h)
  refine zg_ite h (fun e114 h => ?_) (fun e114 h => ?_)
  · refine zg_lookup (tgt := 65) hO dX1_does_1 (by decide) (by rw [e114]; try rfl) (by decide) ?_
    refine zg_aload_n hO 0 dX1_does_65 rfl rfl ?_
    refine zg_aload_n hO 1 dX1_does_66 rfl rfl ?_
    refine zg_chk h (fun hc2 h => ?_)
    refine zy_callViG (b := G 0) (As := [.ref (G (48 + 3 * i1))]) (rest := []) hO hX h (fun q hq => m_X_goesRound l D dA G hi1 tb ad hq) mw_X1_goesRound q1444 ⟨Nat.le_of_ble_eq_true rfl, Nat.le_of_ble_eq_true rfl⟩ hc2 rfl rfl (Nat.le_of_ble_eq_true rfl) ⟨0, 1, _, _, rfl, rfl, rfl⟩ dX1_does_67 (fun q1 ad tb h => ?_)
    refine zg_pop hO dX1_does_70 rfl ?_
    refine zg_iconst hO dX1_does_71 ic1 ?_
    exact zy_zretG hO hr (Or.inr (by decide)) h hc2 dX1_does_72
  refine zg_lookup (tgt := 73) (off := 72) hO dX1_does_1 (by decide) ((lv_osw e98 (by decide)).trans ((lv_osw e102 (by decide)).trans ((lv_osw e114 (by decide)).trans rfl))) (by decide) ?_
  refine zg_aload_n hO 1 dX1_does_73 rfl rfl ?_
  refine zy_callViF (b := G (48 + 3 * i1)) (As := []) (rest := []) hO hX h (fun q hq => m_Xl_size l D dA G hi1 tb ad hq) mw_X3_size q1407 ⟨Nat.le_of_ble_eq_true rfl, Nat.le_of_ble_eq_true rfl⟩ ⟨Nat.zero_le _, Nat.zero_le _⟩ rfl rfl (Nat.le_of_ble_eq_true rfl) ⟨40 + 3 * i1, 2, _, _, wx_line hi1, rfl, rfl⟩ dX1_does_74 (fun q3 h => ?_)
  refine zg_if_ne (tgt := 82) hO h dX1_does_77 (by decide) (fun h => ?_) (fun h => ?_)
  · refine zg_aload_n hO 1 dX1_does_82 rfl rfl ?_
    refine zg_iload_n hO 2 dX1_does_83 rfl rfl ?_
    refine zg_bipush hO dX1_does_84 bc70 ?_
    refine zg_icmp_ne (tgt := 93) hO h dX1_does_86 (by decide) (fun h => ?_) (fun h => ?_)
    · refine zg_iconst hO dX1_does_93 ic1 ?_
      exact zg_sub [] rfl (w_X_does_94 hO hX hr _ _ _ _ _ hi1 ⟨Nat.zero_le _, Nat.zero_le _⟩ tb ad h)
    · refine zg_iconst hO dX1_does_89 ic0 ?_
      refine zg_goto (tgt := 94) hO dX1_does_90 (by decide) ?_
      exact zg_sub [] rfl (w_X_does_94 hO hX hr _ _ _ _ _ hi1 ⟨Nat.zero_le _, Nat.zero_le _⟩ tb ad h)
  · refine zg_iconst hO dX1_does_80 ic0 ?_
    exact zy_zretG hO hr (Or.inl (by decide)) h ⟨Nat.zero_le _, Nat.zero_le _⟩ dX1_does_81
theorem mw_X1_sum : MwX yX1_sum cX1_sum 2 (some .int) RX1 1 := ⟨by decide +kernel, q1585, q1586, q85, q1587⟩
set_option maxHeartbeats 4000000 in
theorem m_X_sum (l : Launch) (D : va_G) (dA : Nat → ClassId) (G : Nat → Nat) {x1 : Int32} {σ : XS} (tb : Nat) (ad : Nat → Nat) {ρ : Int32 × XS} (h : X_sum x1 σ = some ρ) : CtX l yX1_sum (ws_ yX1_sum cX1_sum 2 (some .int)) 45 0 0 D dA G [.ref (G 0), .int x1] (WX dA G tb ad σ) (QgI D dA (fun _ : Unit => WX dA G tb ad ρ.2) ρ.1) := by
  refine zx_start (cc := cX1_sum) (nL := 2) (ret := (some .int)) (own := RX1) (by decide) rfl rfl (Nat.le_of_ble_eq_true rfl) (fun p e s m args below meth c A hO hX hr _ _ => ?_)
  unfold X_sum at h
  refine zg_sub (lv' := [(0, .ref (G 0)), (1, .int x1)]) [0, 1] rfl ?_
  refine zg_iload_n hO 1 dX1_sum_0 rfl rfl ?_
  refine zs_calli (As := [.int x1]) (rest := []) hO h (fun q hq => m_X_isLine l D dA hq) mw_X1_isLine q1398 ⟨Nat.le_of_ble_eq_true rfl, Nat.le_of_ble_eq_true rfl⟩ ⟨Nat.le_refl _, Nat.le_refl _⟩ rfl rfl (Nat.le_of_ble_eq_true rfl) dX1_sum_1 (fun q1 h => ?_)
  refine zg_if_ne (tgt := 9) hO h dX1_sum_4 (by decide) (fun h => ?_) (fun h => ?_)
  · refine zg_aload_n hO 0 dX1_sum_9 rfl rfl ?_
    refine xG_1_162 hO hX dX1_sum_10 ?_
    refine zg_iload_n hO 1 dX1_sum_13 rfl rfl ?_
    refine zy_lget (rest := []) hO hX h q1406 (Nat.le_of_ble_eq_true rfl) dX1_sum_14 (fun hb2 h => ?_) ⟨Nat.le_refl _, Nat.le_refl _⟩
    refine zy_castL hO hb2 q231 dX1_sum_19 ?_
    refine zg_aload_n hO 0 dX1_sum_22 rfl rfl ?_
    refine xG_1_154 hO hX dX1_sum_23 ?_
    refine zy_callVvF (b := G (48 + 3 * x1.toNatClampNeg)) (As := [.ref (ad 2)]) (rest := []) hO hX h (fun q hq => m_Xl_sums l D dA G hb2 tb ad hq) mw_X3_sums q1485 ⟨Nat.le_of_ble_eq_true rfl, Nat.le_of_ble_eq_true rfl⟩ ⟨Nat.le_refl _, Nat.le_refl _⟩ rfl rfl (Nat.le_of_ble_eq_true rfl) ⟨40 + 3 * x1.toNatClampNeg, 2, _, _, wx_line hb2, rfl, rfl⟩ dX1_sum_26 (fun q3 h => ?_)
    refine zg_aload_n hO 0 dX1_sum_29 rfl rfl ?_
    refine zg_iconst hO dX1_sum_30 ic0 ?_
    refine xP_1_199 hO hX dX1_sum_31 ?_
    refine zg_aload_n hO 0 dX1_sum_34 rfl rfl ?_
    refine zg_aload_n hO 0 dX1_sum_35 rfl rfl ?_
    refine xG_1_154 hO hX dX1_sum_36 ?_
    refine zy_callVvF (b := G 0) (As := [.ref (ad 2)]) (rest := []) hO hX h (fun q hq => m_X_tellsPair l D dA G tb ad hq) mw_X1_tellsPair q1362 ⟨Nat.le_of_ble_eq_true rfl, Nat.le_of_ble_eq_true rfl⟩ ⟨Nat.le_refl _, Nat.le_refl _⟩ rfl rfl (Nat.le_of_ble_eq_true rfl) ⟨0, 1, _, _, rfl, rfl, rfl⟩ dX1_sum_39 (fun q4 h => ?_)
    refine zg_aload_n hO 0 dX1_sum_42 rfl rfl ?_
    refine xG_1_162 hO hX dX1_sum_43 ?_
    refine zg_iload_n hO 1 dX1_sum_46 rfl rfl ?_
    refine zy_lget (rest := []) hO hX h q1406 (Nat.le_of_ble_eq_true rfl) dX1_sum_47 (fun hb5 h => ?_) ⟨Nat.le_refl _, Nat.le_refl _⟩
    refine zy_castL hO hb5 q231 dX1_sum_52 ?_
    refine zy_callViF (b := G (48 + 3 * x1.toNatClampNeg)) (As := []) (rest := []) hO hX h (fun q hq => m_Xl_size l D dA G hb5 tb ad hq) mw_X3_size q1407 ⟨Nat.le_of_ble_eq_true rfl, Nat.le_of_ble_eq_true rfl⟩ ⟨Nat.le_refl _, Nat.le_refl _⟩ rfl rfl (Nat.le_of_ble_eq_true rfl) ⟨40 + 3 * x1.toNatClampNeg, 2, _, _, wx_line hb5, rfl, rfl⟩ dX1_sum_55 (fun q6 h => ?_)
    exact zy_iretF hO hr h ⟨Nat.le_refl _, Nat.le_refl _⟩ dX1_sum_58
  · refine zg_iconst hO dX1_sum_7 icm1 ?_
    exact zy_iretF hO hr h ⟨Nat.le_refl _, Nat.le_refl _⟩ dX1_sum_8
set_option maxHeartbeats 4000000 in
theorem w_X_folds_r0_8 {tb : Nat} {ad : Nat → Nat} (hO : Ok p s m args meth c cX1_folds RX1 6 D dA A) (hX : XK dA G A s) (hr : meth.sig.returnType = none) {ρ : XS} : ∀ (n : Nat) (i1 : Nat) (x4 : Int32) (x5 : Int32) (σ : XS), X_folds_r0_8 n i1 x4 x5 σ = some ρ → Go p l e (rmG 44 0 0) s m args below meth c D A 6 (MQ below ((QgV D dA (fun _ : Unit => WX dA G tb ad ρ)) A) args s 0 0 A) (WX dA G tb ad σ) 0 0 8 [(0, .ref (G 0)), (1, .ref (ad i1)), (2, .ref (G 63)), (4, .int x4), (5, .int x5)] [] := by
  intro n
  induction n with
  | zero =>
    intro i1 x4 x5 σ h
    rw [X_folds_r0_8] at h
    cases h
  | succ n ih =>
    intro i1 x4 x5 σ h
    rw [X_folds_r0_8] at h
    refine zg_iload hO 4 dX1_folds_8 rfl ?_
    refine zg_iload hO 3 dX1_folds_10 rfl ?_
    refine zg_icmp_ge (tgt := 43) hO h dX1_folds_12 (by decide) (fun h => ?_) (fun h => ?_)
    · exact zy_vretF hO hr h ⟨Nat.le_refl _, Nat.le_refl _⟩ dX1_folds_43
    · refine zg_aload_n hO 0 dX1_folds_15 rfl rfl ?_
      refine zg_aload_n hO 0 dX1_folds_16 rfl rfl ?_
      refine xG_1_147 hO hX dX1_folds_17 ?_
      refine zg_aload_n hO 2 dX1_folds_20 rfl rfl ?_
      refine zg_iload hO 4 dX1_folds_21 rfl ?_
      refine xL_row0 hO h dX1_folds_23 (fun h => ?_)
      refine zy_callVvF (b := G 0) (As := [.ref (ad 0), .int (xA σ 3 x5.toNatClampNeg)]) (rest := []) hO hX h (fun q hq => m_X_make l D dA G tb ad hq) mw_X1_make q1360 ⟨Nat.le_of_ble_eq_true rfl, Nat.le_of_ble_eq_true rfl⟩ ⟨Nat.le_refl _, Nat.le_refl _⟩ rfl rfl (Nat.le_of_ble_eq_true rfl) ⟨0, 1, _, _, rfl, rfl, rfl⟩ dX1_folds_24 (fun q2 h => ?_)
      refine zg_aload_n hO 0 dX1_folds_27 rfl rfl ?_
      refine zg_aload_n hO 1 dX1_folds_28 rfl rfl ?_
      refine zg_aload_n hO 1 dX1_folds_29 rfl rfl ?_
      refine zg_aload_n hO 0 dX1_folds_30 rfl rfl ?_
      refine xG_1_147 hO hX dX1_folds_31 ?_
      refine zy_callVvF (b := G 0) (As := [.ref (ad i1), .ref (ad i1), .ref (ad 0)]) (rest := []) hO hX h (fun q hq => m_X_join l D dA G tb ad hq) mw_X1_join q1361 ⟨Nat.le_of_ble_eq_true rfl, Nat.le_of_ble_eq_true rfl⟩ ⟨Nat.le_refl _, Nat.le_refl _⟩ rfl rfl (Nat.le_of_ble_eq_true rfl) ⟨0, 1, _, _, rfl, rfl, rfl⟩ dX1_folds_34 (fun q3 h => ?_)
      refine zg_iinc (k := 4) (lv' := [(5, .int (x5 + (nI 1))), (0, .ref (G 0)), (1, .ref (ad i1)), (2, .ref (G 63)), (4, .int x4)]) hO dX1_folds_37 rfl (zii ic1) (Nat.le_of_ble_eq_true rfl) rfl ?_
      refine zg_goto (tgt := 8) hO dX1_folds_40 (by decide) ?_
      exact zg_sub [1, 2, 3, 4, 0] rfl (ih _ _ _ _ h)
theorem mw_X1_folds : MwX yX1_folds cX1_folds 6 none RX1 4 := ⟨by decide +kernel, q1594, qs39, q85, q1595⟩
set_option maxHeartbeats 4000000 in
theorem m_X_folds_r0 (l : Launch) (D : va_G) (dA : Nat → ClassId) (G : Nat → Nat) {i1 : Nat} {x3 : Int32} {x4 : Int32} {σ : XS} (tb : Nat) (ad : Nat → Nat) {ρ : XS} (h : X_folds_r0 i1 x3 x4 σ = some ρ) : CtX l yX1_folds (ws_ yX1_folds cX1_folds 6 none) 44 0 0 D dA G [.ref (G 0), .ref (ad i1), .ref (G 63), .int x3, .int x4] (WX dA G tb ad σ) (QgV D dA (fun _ : Unit => WX dA G tb ad ρ)) := by
  refine zx_start (cc := cX1_folds) (nL := 6) (ret := none) (own := RX1) (by decide) rfl rfl (Nat.le_of_ble_eq_true rfl) (fun p e s m args below meth c A hO hX hr _ _ => ?_)
  unfold X_folds_r0 at h
  refine zg_sub (lv' := [(0, .ref (G 0)), (1, .ref (ad i1)), (2, .ref (G 63)), (3, .int x3), (4, .int x4)]) [0, 1, 2, 3, 4] rfl ?_
  refine zg_aload_n hO 0 dX1_folds_0 rfl rfl ?_
  refine zg_aload_n hO 1 dX1_folds_1 rfl rfl ?_
  refine zy_callVvF (b := G 0) (As := [.ref (ad i1)]) (rest := []) hO hX h (fun q hq => m_X_empty l D dA G tb ad hq) mw_X1_empty q1371 ⟨Nat.le_of_ble_eq_true rfl, Nat.le_of_ble_eq_true rfl⟩ ⟨Nat.le_refl _, Nat.le_refl _⟩ rfl rfl (Nat.le_of_ble_eq_true rfl) ⟨0, 1, _, _, rfl, rfl, rfl⟩ dX1_folds_2 (fun q1 h => ?_)
  refine zg_iload_n hO 3 dX1_folds_5 rfl rfl ?_
  refine zg_istore (lv' := [(5, .int x3), (0, .ref (G 0)), (1, .ref (ad i1)), (2, .ref (G 63)), (3, .int x3), (4, .int x4)]) hO dX1_folds_6 (Nat.le_of_ble_eq_true rfl) rfl ?_
  exact zg_sub [1, 2, 3, 5, 0] rfl (w_X_folds_r0_8 hO hX hr _ _ _ _ _ h)
theorem mw_X1_part : MwX yX1_part cX1_part 4 (some .int) RX1 3 := ⟨by decide +kernel, q1589, q1590, q85, q1591⟩
set_option maxHeartbeats 4000000 in
theorem m_X_part (l : Launch) (D : va_G) (dA : Nat → ClassId) (G : Nat → Nat) {x1 : Int32} {x2 : Int32} {x3 : Int32} {σ : XS} (tb : Nat) (ad : Nat → Nat) {ρ : Int32 × XS} (h : X_part x1 x2 x3 σ = some ρ) : CtX l yX1_part (ws_ yX1_part cX1_part 4 (some .int)) 45 6 150 D dA G [.ref (G 0), .int x1, .int x2, .int x3] (WX dA G tb ad σ) (QgI D dA (fun _ : Unit => WX dA G tb ad ρ.2) ρ.1) := by
  refine zx_start (cc := cX1_part) (nL := 4) (ret := (some .int)) (own := RX1) (by decide) rfl rfl (Nat.le_of_ble_eq_true rfl) (fun p e s m args below meth c A hO hX hr _ _ => ?_)
  unfold X_part at h
  refine zg_sub (lv' := [(0, .ref (G 0)), (1, .int x1), (2, .int x2), (3, .int x3)]) [0, 1, 2, 3] rfl ?_
  refine zg_iload_n hO 1 dX1_part_0 rfl rfl ?_
  refine zs_calli (As := [.int x1]) (rest := []) hO h (fun q hq => m_X_isLine l D dA hq) mw_X1_isLine q1398 ⟨Nat.le_of_ble_eq_true rfl, Nat.le_of_ble_eq_true rfl⟩ ⟨Nat.zero_le _, Nat.zero_le _⟩ rfl rfl (Nat.le_of_ble_eq_true rfl) dX1_part_1 (fun q1 h => ?_)
  refine zg_if_ne (tgt := 9) hO h dX1_part_4 (by decide) (fun h => ?_) (fun h => ?_)
  · refine zg_iload_n hO 2 dX1_part_9 rfl rfl ?_
    refine zg_if_lt (tgt := 38) hO h dX1_part_10 (by decide) (fun h => ?_) (fun h => ?_)
    · refine zg_bipush hO dX1_part_38 bcm2 ?_
      exact zy_iretF hO hr h ⟨Nat.zero_le _, Nat.zero_le _⟩ dX1_part_40
    · refine zg_iload_n hO 3 dX1_part_13 rfl rfl ?_
      refine zg_iload_n hO 2 dX1_part_14 rfl rfl ?_
      refine zg_icmp_lt (tgt := 38) hO h dX1_part_15 (by decide) (fun h => ?_) (fun h => ?_)
      · refine zg_bipush hO dX1_part_38 bcm2 ?_
        exact zy_iretF hO hr h ⟨Nat.zero_le _, Nat.zero_le _⟩ dX1_part_40
      · refine zg_iload_n hO 3 dX1_part_18 rfl rfl ?_
        refine zg_aload_n hO 0 dX1_part_19 rfl rfl ?_
        refine xG_1_162 hO hX dX1_part_20 ?_
        refine zg_iload_n hO 1 dX1_part_23 rfl rfl ?_
        refine zy_lget (rest := [.int x3]) hO hX h q1406 (Nat.le_of_ble_eq_true rfl) dX1_part_24 (fun hb2 h => ?_) ⟨Nat.zero_le _, Nat.zero_le _⟩
        refine zy_castL hO hb2 q231 dX1_part_29 ?_
        refine zy_callViF (b := G (48 + 3 * x1.toNatClampNeg)) (As := []) (rest := [.int x3]) hO hX h (fun q hq => m_Xl_size l D dA G hb2 tb ad hq) mw_X3_size q1407 ⟨Nat.le_of_ble_eq_true rfl, Nat.le_of_ble_eq_true rfl⟩ ⟨Nat.zero_le _, Nat.zero_le _⟩ rfl rfl (Nat.le_of_ble_eq_true rfl) ⟨40 + 3 * x1.toNatClampNeg, 2, _, _, wx_line hb2, rfl, rfl⟩ dX1_part_32 (fun q3 h => ?_)
        refine zg_icmp_le (tgt := 41) hO h dX1_part_35 (by decide) (fun h => ?_) (fun h => ?_)
        · refine zg_aload_n hO 0 dX1_part_41 rfl rfl ?_
          refine xG_1_162 hO hX dX1_part_42 ?_
          refine zg_iload_n hO 1 dX1_part_45 rfl rfl ?_
          refine zy_lget (rest := []) hO hX h q1406 (Nat.le_of_ble_eq_true rfl) dX1_part_46 (fun hb4 h => ?_) ⟨Nat.zero_le _, Nat.zero_le _⟩
          refine zy_castL hO hb4 q231 dX1_part_51 ?_
          refine zg_aload_n hO 0 dX1_part_54 rfl rfl ?_
          refine xG_1_170 hO hX dX1_part_55 ?_
          refine zg_chk h (fun hc6 h => ?_)
          refine zy_callViF (b := G (48 + 3 * x1.toNatClampNeg)) (As := [.ref (G 63)]) (rest := []) hO hX h (fun q hq => m_Xl_lay_r0 l D dA G hb4 tb ad hq) mw_X3_lay q1438 ⟨Nat.le_of_ble_eq_true rfl, Nat.le_of_ble_eq_true rfl⟩ hc6 rfl rfl (Nat.le_of_ble_eq_true rfl) ⟨40 + 3 * x1.toNatClampNeg, 2, _, _, wx_line hb4, rfl, rfl⟩ dX1_part_58 (fun q5 h => ?_)
          refine zg_pop hO dX1_part_61 rfl ?_
          refine zg_aload_n hO 0 dX1_part_62 rfl rfl ?_
          refine zg_aload_n hO 0 dX1_part_63 rfl rfl ?_
          refine xG_1_154 hO hX dX1_part_64 ?_
          refine zg_aload_n hO 0 dX1_part_67 rfl rfl ?_
          refine xG_1_170 hO hX dX1_part_68 ?_
          refine zg_iload_n hO 2 dX1_part_71 rfl rfl ?_
          refine zg_iload_n hO 3 dX1_part_72 rfl rfl ?_
          refine zy_callVvF (b := G 0) (As := [.ref (ad 2), .ref (G 63), .int x2, .int x3]) (rest := []) hO hX h (fun q hq => m_X_folds_r0 l D dA G tb ad hq) mw_X1_folds q1592 ⟨Nat.le_of_ble_eq_true rfl, Nat.le_of_ble_eq_true rfl⟩ hc6 rfl rfl (Nat.le_of_ble_eq_true rfl) ⟨0, 1, _, _, rfl, rfl, rfl⟩ dX1_part_73 (fun q7 h => ?_)
          refine zg_aload_n hO 0 dX1_part_76 rfl rfl ?_
          refine zg_iconst hO dX1_part_77 ic0 ?_
          refine xP_1_199 hO hX dX1_part_78 ?_
          refine zg_aload_n hO 0 dX1_part_81 rfl rfl ?_
          refine zg_aload_n hO 0 dX1_part_82 rfl rfl ?_
          refine xG_1_154 hO hX dX1_part_83 ?_
          refine zy_callVvF (b := G 0) (As := [.ref (ad 2)]) (rest := []) hO hX h (fun q hq => m_X_tellsPair l D dA G tb ad hq) mw_X1_tellsPair q1362 ⟨Nat.le_of_ble_eq_true rfl, Nat.le_of_ble_eq_true rfl⟩ hc6 rfl rfl (Nat.le_of_ble_eq_true rfl) ⟨0, 1, _, _, rfl, rfl, rfl⟩ dX1_part_86 (fun q8 h => ?_)
          refine zg_iload_n hO 3 dX1_part_89 rfl rfl ?_
          refine zg_iload_n hO 2 dX1_part_90 rfl rfl ?_
          refine zg_isub hO dX1_part_91 ?_
          exact zy_iretF hO hr h hc6 dX1_part_92
        · refine zg_bipush hO dX1_part_38 bcm2 ?_
          exact zy_iretF hO hr h ⟨Nat.zero_le _, Nat.zero_le _⟩ dX1_part_40
  · refine zg_iconst hO dX1_part_7 icm1 ?_
    exact zy_iretF hO hr h ⟨Nat.zero_le _, Nat.zero_le _⟩ dX1_part_8
set_option maxHeartbeats 4000000 in
theorem w_X_windows_147 (hO : Ok p s m args meth c cX1_windows RX1 8 D dA A) (hX : XK dA G A s) (hr : meth.sig.returnType = (some .int)) {ρ : Int32 × XS} {k73 : Int32 → Int32 → Int64 → Int32 → Int32 → XS → Nat → Nat → Option (Int32 × XS)} (K73 : ∀ (x2 : Int32) (x3 : Int32) (x4 : Int64) (x6 : Int32) (x7 : Int32) (σ : XS) (u : Nat) (v : Nat) (huv : u ≤ 4560 ∧ v ≤ 34800) (tb : Nat) (ad : Nat → Nat), k73 x2 x3 x4 x6 x7 σ u v = some ρ → Go p l e (rmG 48 4560 34800) s m args below meth c D A 8 (MQ below ((QgI D dA (fun z : (Nat → Nat) × Nat => WX dA G z.2 z.1 ρ.2) ρ.1) A) args s 4560 34800 A) (WX dA G tb ad σ) u v 73 [(0, .ref (G 0)), (2, .int x2), (3, .int x3), (4, .long x4), (6, .int x6), (7, .int x7)] []) : ∀ (x2 : Int32) (x3 : Int32) (x4 : Int64) (x6 : Int32) (x7 : Int32) (σ : XS) (u : Nat) (v : Nat) (huv : u ≤ 4560 ∧ v ≤ 34800) (tb : Nat) (ad : Nat → Nat), X_windows_147 k73 x2 x3 x4 x6 x7 σ u v = some ρ → Go p l e (rmG 48 4560 34800) s m args below meth c D A 8 (MQ below ((QgI D dA (fun z : (Nat → Nat) × Nat => WX dA G z.2 z.1 ρ.2) ρ.1) A) args s 4560 34800 A) (WX dA G tb ad σ) u v 147 [(0, .ref (G 0)), (2, .int x2), (3, .int x3), (4, .long x4), (6, .int x6), (7, .int x7)] [] := by
  intro x2 x3 x4 x6 x7 σ u v huv tb ad h
  unfold X_windows_147 at h
  refine zg_iinc (k := 5) (lv' := [(7, .int (x7 + (nI 1))), (0, .ref (G 0)), (2, .int x2), (3, .int x3), (4, .long x4), (6, .int x6)]) hO dX1_windows_147 rfl (zii ic1) (Nat.le_of_ble_eq_true rfl) rfl ?_
  refine zg_goto (tgt := 73) hO dX1_windows_150 (by decide) ?_
  exact zg_sub [1, 2, 3, 4, 5, 0] rfl (K73 _ _ _ _ _ _ _ _ huv tb ad h)
set_option maxHeartbeats 4000000 in
theorem w_X_windows_114 (hO : Ok p s m args meth c cX1_windows RX1 8 D dA A) (hX : XK dA G A s) (hr : meth.sig.returnType = (some .int)) {ρ : Int32 × XS} {k73 : Int32 → Int32 → Int64 → Int32 → Int32 → XS → Nat → Nat → Option (Int32 × XS)} (K73 : ∀ (x2 : Int32) (x3 : Int32) (x4 : Int64) (x6 : Int32) (x7 : Int32) (σ : XS) (u : Nat) (v : Nat) (huv : u ≤ 4560 ∧ v ≤ 34800) (tb : Nat) (ad : Nat → Nat), k73 x2 x3 x4 x6 x7 σ u v = some ρ → Go p l e (rmG 48 4560 34800) s m args below meth c D A 8 (MQ below ((QgI D dA (fun z : (Nat → Nat) × Nat => WX dA G z.2 z.1 ρ.2) ρ.1) A) args s 4560 34800 A) (WX dA G tb ad σ) u v 73 [(0, .ref (G 0)), (2, .int x2), (3, .int x3), (4, .long x4), (6, .int x6), (7, .int x7)] []) : ∀ (x2 : Int32) (x3 : Int32) (x4 : Int64) (x6 : Int32) (x7 : Int32) (σ : XS) (u : Nat) (v : Nat) (huv : u ≤ 4560 ∧ v ≤ 34800) (tb : Nat) (ad : Nat → Nat), X_windows_114 k73 x2 x3 x4 x6 x7 σ u v = some ρ → Go p l e (rmG 48 4560 34800) s m args below meth c D A 8 (MQ below ((QgI D dA (fun z : (Nat → Nat) × Nat => WX dA G z.2 z.1 ρ.2) ρ.1) A) args s 4560 34800 A) (WX dA G tb ad σ) u v 114 [(0, .ref (G 0)), (2, .int x2), (3, .int x3), (4, .long x4), (6, .int x6), (7, .int x7)] [] := by
  intro x2 x3 x4 x6 x7 σ u v huv tb ad h
  unfold X_windows_114 at h
  refine zg_aload_n hO 0 dX1_windows_114 rfl rfl ?_
  refine xG_1_166 hO hX dX1_windows_115 ?_
  refine zy_callViF (b := G (48 + 3 * 4)) (As := []) (rest := []) hO hX h (fun q hq => m_Xl_size l D dA G (show (4 : Nat) < 5 by decide) tb ad hq) mw_X3_size q1407 ⟨Nat.le_of_ble_eq_true rfl, Nat.le_of_ble_eq_true rfl⟩ huv rfl rfl (Nat.le_of_ble_eq_true rfl) ⟨40 + 3 * 4, 2, _, _, wx_line (show (4 : Nat) < 5 by decide), rfl, rfl⟩ dX1_windows_118 (fun q12 h => ?_)
  refine zg_iload_n hO 1 dX1_windows_121 rfl rfl ?_
  refine zg_icmp_ge (tgt := 128) hO h dX1_windows_122 (by decide) (fun h => ?_) (fun h => ?_)
  · refine zg_aload_n hO 0 dX1_windows_128 rfl rfl ?_
    refine xG_1_166 hO hX dX1_windows_129 ?_
    refine zg_aload_n hO 0 dX1_windows_132 rfl rfl ?_
    refine xG_1_154 hO hX dX1_windows_133 ?_
    refine zy_callVvF (b := G (48 + 3 * 4)) (As := [.ref (ad 2)]) (rest := []) hO hX h (fun q hq => m_Xl_sums l D dA G (show (4 : Nat) < 5 by decide) tb ad hq) mw_X3_sums q1485 ⟨Nat.le_of_ble_eq_true rfl, Nat.le_of_ble_eq_true rfl⟩ huv rfl rfl (Nat.le_of_ble_eq_true rfl) ⟨40 + 3 * 4, 2, _, _, wx_line (show (4 : Nat) < 5 by decide), rfl, rfl⟩ dX1_windows_136 (fun q13 h => ?_)
    refine zg_aload_n hO 0 dX1_windows_139 rfl rfl ?_
    refine zg_aload_n hO 0 dX1_windows_140 rfl rfl ?_
    refine xG_1_154 hO hX dX1_windows_141 ?_
    refine zy_callVvF (b := G 0) (As := [.ref (ad 2)]) (rest := []) hO hX h (fun q hq => m_X_tellsPair l D dA G tb ad hq) mw_X1_tellsPair q1362 ⟨Nat.le_of_ble_eq_true rfl, Nat.le_of_ble_eq_true rfl⟩ huv rfl rfl (Nat.le_of_ble_eq_true rfl) ⟨0, 1, _, _, rfl, rfl, rfl⟩ dX1_windows_144 (fun q14 h => ?_)
    exact zg_sub [0, 1, 2, 3, 4, 5] rfl (w_X_windows_147 hO hX hr K73 _ _ _ _ _ _ _ _ huv tb ad h)
  · refine zg_goto (tgt := 147) hO dX1_windows_125 (by decide) ?_
    exact zg_sub [0, 1, 2, 3, 4, 5] rfl (w_X_windows_147 hO hX hr K73 _ _ _ _ _ _ _ _ huv tb ad h)
set_option maxHeartbeats 4000000 in
theorem w_X_windows_73 (hO : Ok p s m args meth c cX1_windows RX1 8 D dA A) (hX : XK dA G A s) (hr : meth.sig.returnType = (some .int)) {ρ : Int32 × XS} : ∀ (n : Nat) (x2 : Int32) (x3 : Int32) (x4 : Int64) (x6 : Int32) (x7 : Int32) (σ : XS) (u : Nat) (v : Nat) (huv : u ≤ 4560 ∧ v ≤ 34800) (tb : Nat) (ad : Nat → Nat), X_windows_73 n x2 x3 x4 x6 x7 σ u v = some ρ → Go p l e (rmG 48 4560 34800) s m args below meth c D A 8 (MQ below ((QgI D dA (fun z : (Nat → Nat) × Nat => WX dA G z.2 z.1 ρ.2) ρ.1) A) args s 4560 34800 A) (WX dA G tb ad σ) u v 73 [(0, .ref (G 0)), (2, .int x2), (3, .int x3), (4, .long x4), (6, .int x6), (7, .int x7)] [] := by
  intro n
  induction n with
  | zero =>
    intro x2 x3 x4 x6 x7 σ u v huv tb ad h
    rw [X_windows_73] at h
    cases h
  | succ n ih =>
    intro x2 x3 x4 x6 x7 σ u v huv tb ad h
    rw [X_windows_73] at h
    refine zg_iload hO 5 dX1_windows_73 rfl ?_
    refine zg_iload_n hO 2 dX1_windows_75 rfl rfl ?_
    refine zg_icmp_ge (tgt := 153) hO h dX1_windows_76 (by decide) (fun h => ?_) (fun h => ?_)
    · refine zg_aload_n hO 0 dX1_windows_153 rfl rfl ?_
      refine zg_lload hO 3 dX1_windows_154 rfl ?_
      refine xP_1_315 hO hX dX1_windows_156 ?_
      refine zg_aload_n hO 0 dX1_windows_159 rfl rfl ?_
      refine zg_iload hO 4 dX1_windows_160 rfl ?_
      refine xP_1_402 hO hX dX1_windows_162 ?_
      refine zg_iload_n hO 2 dX1_windows_165 rfl rfl ?_
      refine zg_iload_n hO 1 dX1_windows_166 rfl rfl ?_
      refine zg_isub hO dX1_windows_167 ?_
      refine zg_iconst hO dX1_windows_168 ic1 ?_
      refine zg_iadd hO dX1_windows_169 ?_
      exact zy_iretG hO hr h huv dX1_windows_170
    · refine zg_aload_n hO 0 dX1_windows_79 rfl rfl ?_
      refine xG_1_166 hO hX dX1_windows_80 ?_
      refine zg_iconst hO dX1_windows_83 ic1 ?_
      refine zg_aload_n hO 0 dX1_windows_84 rfl rfl ?_
      refine xG_1_173 hO hX dX1_windows_85 ?_
      refine zg_iload hO 5 dX1_windows_88 rfl ?_
      refine xL_row1 hO h dX1_windows_90 (fun h => ?_)
      refine zg_chk h (fun hc8 h => ?_)
      refine zy_callVvG (b := G (48 + 3 * 4)) (As := [.int (nI 1), .int (xA σ 4 x7.toNatClampNeg)]) (rest := []) hO hX h (fun q hq => m_Xl_put l D dA G (show (4 : Nat) < 5 by decide) tb ad hq) mw_X3_put q1411 ⟨Nat.le_of_ble_eq_true rfl, Nat.le_of_ble_eq_true rfl⟩ hc8 rfl rfl (Nat.le_of_ble_eq_true rfl) ⟨40 + 3 * 4, 2, _, _, wx_line (show (4 : Nat) < 5 by decide), rfl, rfl⟩ dX1_windows_91 (fun q7 ad tb h => ?_)
      refine zg_aload_n hO 0 dX1_windows_94 rfl rfl ?_
      refine xG_1_166 hO hX dX1_windows_95 ?_
      refine zy_callViF (b := G (48 + 3 * 4)) (As := []) (rest := []) hO hX h (fun q hq => m_Xl_size l D dA G (show (4 : Nat) < 5 by decide) tb ad hq) mw_X3_size q1407 ⟨Nat.le_of_ble_eq_true rfl, Nat.le_of_ble_eq_true rfl⟩ hc8 rfl rfl (Nat.le_of_ble_eq_true rfl) ⟨40 + 3 * 4, 2, _, _, wx_line (show (4 : Nat) < 5 by decide), rfl, rfl⟩ dX1_windows_98 (fun q9 h => ?_)
      refine zg_iload_n hO 1 dX1_windows_101 rfl rfl ?_
      refine zg_icmp_le (tgt := 114) hO h dX1_windows_102 (by decide) (fun h => ?_) (fun h => ?_)
      · exact zg_sub [0, 1, 2, 3, 4, 5] rfl (w_X_windows_114 hO hX hr ih _ _ _ _ _ _ _ _ hc8 tb ad h)
      · refine zg_aload_n hO 0 dX1_windows_105 rfl rfl ?_
        refine xG_1_166 hO hX dX1_windows_106 ?_
        refine zg_iconst hO dX1_windows_109 ic0 ?_
        refine zg_chk h (fun hc11 h => ?_)
        refine zy_callViG (b := G (48 + 3 * 4)) (As := [.int (nI 0)]) (rest := []) hO hX h (fun q hq => m_Xl_take l D dA G (show (4 : Nat) < 5 by decide) tb ad hq) mw_X3_take q1416 ⟨Nat.le_of_ble_eq_true rfl, Nat.le_of_ble_eq_true rfl⟩ hc11 rfl rfl (Nat.le_of_ble_eq_true rfl) ⟨40 + 3 * 4, 2, _, _, wx_line (show (4 : Nat) < 5 by decide), rfl, rfl⟩ dX1_windows_110 (fun q10 ad tb h => ?_)
        refine zg_pop hO dX1_windows_113 rfl ?_
        exact zg_sub [0, 1, 2, 3, 4, 5] rfl (w_X_windows_114 hO hX hr ih _ _ _ _ _ _ _ _ hc11 tb ad h)
theorem mw_X1_windows : MwX yX1_windows cX1_windows 8 (some .int) RX1 2 := ⟨by decide +kernel, q1597, q1598, q85, q1599⟩
set_option maxHeartbeats 4000000 in
theorem m_X_windows (l : Launch) (D : va_G) (dA : Nat → ClassId) (G : Nat → Nat) {x1 : Int32} {x2 : Int32} {σ : XS} (tb : Nat) (ad : Nat → Nat) {ρ : Int32 × XS} (h : X_windows x1 x2 σ = some ρ) : CtX l yX1_windows (ws_ yX1_windows cX1_windows 8 (some .int)) 48 4560 34800 D dA G [.ref (G 0), .int x1, .int x2] (WX dA G tb ad σ) (QgI D dA (fun z : (Nat → Nat) × Nat => WX dA G z.2 z.1 ρ.2) ρ.1) := by
  refine zx_start (cc := cX1_windows) (nL := 8) (ret := (some .int)) (own := RX1) (by decide) rfl rfl (Nat.le_of_ble_eq_true rfl) (fun p e s m args below meth c A hO hX hr _ _ => ?_)
  unfold X_windows at h
  refine zg_sub (lv' := [(0, .ref (G 0)), (1, .int x1), (2, .int x2)]) [0, 1, 2] rfl ?_
  refine zg_iload_n hO 1 dX1_windows_0 rfl rfl ?_
  refine zs_calli (As := [.int x1]) (rest := []) hO h (fun q hq => m_X_isLine l D dA hq) mw_X1_isLine q1398 ⟨Nat.le_of_ble_eq_true rfl, Nat.le_of_ble_eq_true rfl⟩ ⟨Nat.zero_le _, Nat.zero_le _⟩ rfl rfl (Nat.le_of_ble_eq_true rfl) dX1_windows_1 (fun q1 h => ?_)
  refine zg_if_eq (tgt := 15) hO h dX1_windows_4 (by decide) (fun h => ?_) (fun h => ?_)
  · refine zg_iconst hO dX1_windows_15 icm1 ?_
    exact zy_iretG hO hr h ⟨Nat.zero_le _, Nat.zero_le _⟩ dX1_windows_16
  · refine zg_aload_n hO 0 dX1_windows_7 rfl rfl ?_
    refine zg_iload_n hO 2 dX1_windows_8 rfl rfl ?_
    refine zy_callViF (b := G 0) (As := [.int x2]) (rest := []) hO hX h (fun q hq => m_X_isWindow l D dA G tb ad hq) mw_X1_isWindow q1600 ⟨Nat.le_of_ble_eq_true rfl, Nat.le_of_ble_eq_true rfl⟩ ⟨Nat.zero_le _, Nat.zero_le _⟩ rfl rfl (Nat.le_of_ble_eq_true rfl) ⟨0, 1, _, _, rfl, rfl, rfl⟩ dX1_windows_9 (fun q2 h => ?_)
    refine zg_if_ne (tgt := 17) hO h dX1_windows_12 (by decide) (fun h => ?_) (fun h => ?_)
    · refine zg_aload_n hO 0 dX1_windows_17 rfl rfl ?_
      refine xG_1_162 hO hX dX1_windows_18 ?_
      refine zg_iload_n hO 1 dX1_windows_21 rfl rfl ?_
      refine zy_lget (rest := []) hO hX h q1406 (Nat.le_of_ble_eq_true rfl) dX1_windows_22 (fun hb3 h => ?_) ⟨Nat.zero_le _, Nat.zero_le _⟩
      refine zy_castL hO hb3 q231 dX1_windows_27 ?_
      refine zg_aload_n hO 0 dX1_windows_30 rfl rfl ?_
      refine xG_1_173 hO hX dX1_windows_31 ?_
      refine zg_chk h (fun hc5 h => ?_)
      refine zy_callViF (b := G (48 + 3 * x1.toNatClampNeg)) (As := [.ref (G 64)]) (rest := []) hO hX h (fun q hq => m_Xl_lay_r1 l D dA G hb3 tb ad hq) mw_X3_lay q1438 ⟨Nat.le_of_ble_eq_true rfl, Nat.le_of_ble_eq_true rfl⟩ hc5 rfl rfl (Nat.le_of_ble_eq_true rfl) ⟨40 + 3 * x1.toNatClampNeg, 2, _, _, wx_line hb3, rfl, rfl⟩ dX1_windows_34 (fun q4 h => ?_)
      refine zg_istore_n (lv' := [(3, .int q4.1), (0, .ref (G 0)), (1, .int x1), (2, .int x2)]) hO dX1_windows_37 rfl (Nat.le_of_ble_eq_true rfl) rfl ?_
      refine zg_iload_n hO 0 dX1_windows_38 rfl rfl ?_
      refine zg_iload_n hO 3 dX1_windows_39 rfl rfl ?_
      refine zg_icmp_ge (tgt := 46) hO h dX1_windows_40 (by decide) (fun h => ?_) (fun h => ?_)
      · refine zg_aload_n hO 1 dX1_windows_46 rfl rfl ?_
        refine xG_1_315 hO hX dX1_windows_47 ?_
        refine zg_lstore (lv' := [(4, .long (xL q4.2 0)), (3, .int q4.1), (0, .ref (G 0)), (1, .int x1), (2, .int x2)]) hO dX1_windows_50 (Nat.le_of_ble_eq_true rfl) rfl ?_
        refine zg_aload_n hO 2 dX1_windows_52 rfl rfl ?_
        refine xG_1_402 hO hX dX1_windows_53 ?_
        refine zg_istore (lv' := [(6, .int (xI q4.2 3)), (4, .long (xL q4.2 0)), (3, .int q4.1), (0, .ref (G 0)), (1, .int x1), (2, .int x2)]) hO dX1_windows_56 (Nat.le_of_ble_eq_true rfl) rfl ?_
        refine zg_aload_n hO 3 dX1_windows_58 rfl rfl ?_
        refine xG_1_166 hO hX dX1_windows_59 ?_
        refine zy_callVvF (b := G (48 + 3 * 4)) (As := []) (rest := []) hO hX h (fun q hq => m_Xl_empties l D dA G (show (4 : Nat) < 5 by decide) tb ad hq) mw_X3_empties q1495 ⟨Nat.le_of_ble_eq_true rfl, Nat.le_of_ble_eq_true rfl⟩ hc5 rfl rfl (Nat.le_of_ble_eq_true rfl) ⟨40 + 3 * 4, 2, _, _, wx_line (show (4 : Nat) < 5 by decide), rfl, rfl⟩ dX1_windows_62 (fun q6 h => ?_)
        refine zg_aload_n hO 3 dX1_windows_65 rfl rfl ?_
        refine zg_iconst hO dX1_windows_66 ic0 ?_
        refine xP_1_199 hO hX dX1_windows_67 ?_
        refine zg_iconst hO dX1_windows_70 ic0 ?_
        refine zg_istore (lv' := [(7, .int (nI 0)), (6, .int (xI q4.2 3)), (4, .long (xL q4.2 0)), (3, .int q4.1), (0, .ref (G 0)), (1, .int x1), (2, .int x2)]) hO dX1_windows_71 (Nat.le_of_ble_eq_true rfl) rfl ?_
        exact zg_sub [4, 6, 3, 2, 1, 0] rfl (w_X_windows_73 hO hX hr _ _ _ _ _ _ _ _ _ hc5 tb ad h)
      · refine zg_bipush hO dX1_windows_43 bcm2 ?_
        exact zy_iretG hO hr h hc5 dX1_windows_45
    · refine zg_iconst hO dX1_windows_15 icm1 ?_
      exact zy_iretG hO hr h ⟨Nat.zero_le _, Nat.zero_le _⟩ dX1_windows_16
set_option maxHeartbeats 4000000 in
theorem w_X_first_41 {tb : Nat} {ad : Nat → Nat} (hO : Ok p s m args meth c cX1_first RX1 5 D dA A) (hX : XK dA G A s) (hr : meth.sig.returnType = (some .int)) {ρ : Int32 × XS} : ∀ (n : Nat) (x2 : Int32) (x3 : Int32) (x4 : Int32) (σ : XS) (u : Nat) (v : Nat) (huv : u ≤ 6 ∧ v ≤ 150), X_first_41 n x2 x3 x4 σ u v = some ρ → Go p l e (rmG 44 6 150) s m args below meth c D A 5 (MQ below ((QgI D dA (fun _ : Unit => WX dA G tb ad ρ.2) ρ.1) A) args s 6 150 A) (WX dA G tb ad σ) u v 41 [(0, .ref (G 0)), (2, .int x2), (3, .int x3), (4, .int x4)] [] := by
  intro n
  induction n with
  | zero =>
    intro x2 x3 x4 σ u v huv h
    rw [X_first_41] at h
    cases h
  | succ n ih =>
    intro x2 x3 x4 σ u v huv h
    rw [X_first_41] at h
    refine zg_iload hO 3 dX1_first_41 rfl ?_
    refine zg_iload_n hO 2 dX1_first_43 rfl rfl ?_
    refine zg_icmp_ge (tgt := 118) hO h dX1_first_44 (by decide) (fun h => ?_) (fun h => ?_)
    · refine zg_bipush hO dX1_first_118 bcm2 ?_
      exact zy_iretF hO hr h huv dX1_first_120
    · refine zg_aload_n hO 0 dX1_first_47 rfl rfl ?_
      refine zg_aload_n hO 0 dX1_first_48 rfl rfl ?_
      refine xG_1_147 hO hX dX1_first_49 ?_
      refine zg_aload_n hO 0 dX1_first_52 rfl rfl ?_
      refine xG_1_170 hO hX dX1_first_53 ?_
      refine zg_iload hO 3 dX1_first_56 rfl ?_
      refine xL_row0 hO h dX1_first_58 (fun h => ?_)
      refine zy_callVvF (b := G 0) (As := [.ref (ad 0), .int (xA σ 3 x4.toNatClampNeg)]) (rest := []) hO hX h (fun q hq => m_X_make l D dA G tb ad hq) mw_X1_make q1360 ⟨Nat.le_of_ble_eq_true rfl, Nat.le_of_ble_eq_true rfl⟩ huv rfl rfl (Nat.le_of_ble_eq_true rfl) ⟨0, 1, _, _, rfl, rfl, rfl⟩ dX1_first_59 (fun q6 h => ?_)
      refine zg_aload_n hO 0 dX1_first_62 rfl rfl ?_
      refine zg_aload_n hO 0 dX1_first_63 rfl rfl ?_
      refine xG_1_154 hO hX dX1_first_64 ?_
      refine zg_aload_n hO 0 dX1_first_67 rfl rfl ?_
      refine xG_1_154 hO hX dX1_first_68 ?_
      refine zg_aload_n hO 0 dX1_first_71 rfl rfl ?_
      refine xG_1_147 hO hX dX1_first_72 ?_
      refine zy_callVvF (b := G 0) (As := [.ref (ad 2), .ref (ad 2), .ref (ad 0)]) (rest := []) hO hX h (fun q hq => m_X_join l D dA G tb ad hq) mw_X1_join q1361 ⟨Nat.le_of_ble_eq_true rfl, Nat.le_of_ble_eq_true rfl⟩ huv rfl rfl (Nat.le_of_ble_eq_true rfl) ⟨0, 1, _, _, rfl, rfl, rfl⟩ dX1_first_75 (fun q7 h => ?_)
      refine zg_aload_n hO 0 dX1_first_78 rfl rfl ?_
      refine xG_1_154 hO hX dX1_first_79 ?_
      refine xG_1_23 hO hX h dX1_first_82 (fun h => ?_)
      refine zg_iload_n hO 1 dX1_first_85 rfl rfl ?_
      refine zg_i2l hO dX1_first_86 ?_
      refine zg_lcmp hO dX1_first_87 ?_
      refine zg_if_ge (tgt := 94) hO h dX1_first_88 (by decide) (fun h => ?_) (fun h => ?_)
      · refine zg_aload_n hO 0 dX1_first_94 rfl rfl ?_
        refine zg_iconst hO dX1_first_95 ic0 ?_
        refine xP_1_199 hO hX dX1_first_96 ?_
        refine zg_aload_n hO 0 dX1_first_99 rfl rfl ?_
        refine zg_aload_n hO 0 dX1_first_100 rfl rfl ?_
        refine xG_1_154 hO hX dX1_first_101 ?_
        refine zy_callVvF (b := G 0) (As := [.ref (ad 2)]) (rest := []) hO hX h (fun q hq => m_X_tellsPair l D dA G tb ad hq) mw_X1_tellsPair q1362 ⟨Nat.le_of_ble_eq_true rfl, Nat.le_of_ble_eq_true rfl⟩ huv rfl rfl (Nat.le_of_ble_eq_true rfl) ⟨0, 1, _, _, rfl, rfl, rfl⟩ dX1_first_104 (fun q8 h => ?_)
        refine zg_iload hO 3 dX1_first_107 rfl ?_
        refine zg_iconst hO dX1_first_109 ic1 ?_
        refine zg_iadd hO dX1_first_110 ?_
        exact zy_iretF hO hr h huv dX1_first_111
      · refine zg_goto (tgt := 112) hO dX1_first_91 (by decide) ?_
        refine zg_iinc (k := 3) (lv' := [(4, .int (x4 + (nI 1))), (0, .ref (G 0)), (2, .int x2), (3, .int x3)]) hO dX1_first_112 rfl (zii ic1) (Nat.le_of_ble_eq_true rfl) rfl ?_
        refine zg_goto (tgt := 41) hO dX1_first_115 (by decide) ?_
        exact zg_sub [1, 2, 3, 0] rfl (ih _ _ _ _ _ _ huv h)
theorem mw_X1_first : MwX yX1_first cX1_first 5 (some .int) RX1 2 := ⟨by decide +kernel, q1605, q1606, q85, q1607⟩
set_option maxHeartbeats 4000000 in
theorem m_X_first (l : Launch) (D : va_G) (dA : Nat → ClassId) (G : Nat → Nat) {x1 : Int32} {x2 : Int32} {σ : XS} (tb : Nat) (ad : Nat → Nat) {ρ : Int32 × XS} (h : X_first x1 x2 σ = some ρ) : CtX l yX1_first (ws_ yX1_first cX1_first 5 (some .int)) 44 6 150 D dA G [.ref (G 0), .int x1, .int x2] (WX dA G tb ad σ) (QgI D dA (fun _ : Unit => WX dA G tb ad ρ.2) ρ.1) := by
  refine zx_start (cc := cX1_first) (nL := 5) (ret := (some .int)) (own := RX1) (by decide) rfl rfl (Nat.le_of_ble_eq_true rfl) (fun p e s m args below meth c A hO hX hr _ _ => ?_)
  unfold X_first at h
  refine zg_sub (lv' := [(0, .ref (G 0)), (1, .int x1), (2, .int x2)]) [0, 1, 2] rfl ?_
  refine zg_iload_n hO 1 dX1_first_0 rfl rfl ?_
  refine zs_calli (As := [.int x1]) (rest := []) hO h (fun q hq => m_X_isLine l D dA hq) mw_X1_isLine q1398 ⟨Nat.le_of_ble_eq_true rfl, Nat.le_of_ble_eq_true rfl⟩ ⟨Nat.zero_le _, Nat.zero_le _⟩ rfl rfl (Nat.le_of_ble_eq_true rfl) dX1_first_1 (fun q1 h => ?_)
  refine zg_if_ne (tgt := 9) hO h dX1_first_4 (by decide) (fun h => ?_) (fun h => ?_)
  · refine zg_aload_n hO 0 dX1_first_9 rfl rfl ?_
    refine xG_1_162 hO hX dX1_first_10 ?_
    refine zg_iload_n hO 1 dX1_first_13 rfl rfl ?_
    refine zy_lget (rest := []) hO hX h q1406 (Nat.le_of_ble_eq_true rfl) dX1_first_14 (fun hb2 h => ?_) ⟨Nat.zero_le _, Nat.zero_le _⟩
    refine zy_castL hO hb2 q231 dX1_first_19 ?_
    refine zg_aload_n hO 0 dX1_first_22 rfl rfl ?_
    refine xG_1_170 hO hX dX1_first_23 ?_
    refine zg_chk h (fun hc4 h => ?_)
    refine zy_callViF (b := G (48 + 3 * x1.toNatClampNeg)) (As := [.ref (G 63)]) (rest := []) hO hX h (fun q hq => m_Xl_lay_r0 l D dA G hb2 tb ad hq) mw_X3_lay q1438 ⟨Nat.le_of_ble_eq_true rfl, Nat.le_of_ble_eq_true rfl⟩ hc4 rfl rfl (Nat.le_of_ble_eq_true rfl) ⟨40 + 3 * x1.toNatClampNeg, 2, _, _, wx_line hb2, rfl, rfl⟩ dX1_first_26 (fun q3 h => ?_)
    refine zg_istore_n (lv' := [(3, .int q3.1), (0, .ref (G 0)), (1, .int x1), (2, .int x2)]) hO dX1_first_29 rfl (Nat.le_of_ble_eq_true rfl) rfl ?_
    refine zg_aload_n hO 1 dX1_first_30 rfl rfl ?_
    refine zg_aload_n hO 1 dX1_first_31 rfl rfl ?_
    refine xG_1_154 hO hX dX1_first_32 ?_
    refine zy_callVvF (b := G 0) (As := [.ref (ad 2)]) (rest := []) hO hX h (fun q hq => m_X_empty l D dA G tb ad hq) mw_X1_empty q1371 ⟨Nat.le_of_ble_eq_true rfl, Nat.le_of_ble_eq_true rfl⟩ hc4 rfl rfl (Nat.le_of_ble_eq_true rfl) ⟨0, 1, _, _, rfl, rfl, rfl⟩ dX1_first_35 (fun q5 h => ?_)
    refine zg_iconst hO dX1_first_38 ic0 ?_
    refine zg_istore (lv' := [(4, .int (nI 0)), (3, .int q3.1), (0, .ref (G 0)), (1, .int x1), (2, .int x2)]) hO dX1_first_39 (Nat.le_of_ble_eq_true rfl) rfl ?_
    exact zg_sub [2, 4, 1, 0] rfl (w_X_first_41 hO hX hr _ _ _ _ _ _ _ hc4 h)
  · refine zg_iconst hO dX1_first_7 icm1 ?_
    exact zy_iretF hO hr h ⟨Nat.zero_le _, Nat.zero_le _⟩ dX1_first_8
set_option maxHeartbeats 4000000 in
theorem w_X_longest_135 {tb : Nat} {ad : Nat → Nat} (hO : Ok p s m args meth c cX1_longest RX1 8 D dA A) (hX : XK dA G A s) (hr : meth.sig.returnType = (some .int)) {ρ : Int32 × XS} {k39 : Int32 → Int32 → Int32 → Int32 → Int32 → XS → Nat → Nat → Option (Int32 × XS)} {k57 : Int32 → Int32 → Int32 → Int32 → Int32 → Int32 → XS → Nat → Nat → Option (Int32 × XS)} (K39 : ∀ (x2 : Int32) (x3 : Int32) (x4 : Int32) (x5 : Int32) (x6 : Int32) (σ : XS) (u : Nat) (v : Nat) (huv : u ≤ 6 ∧ v ≤ 150), k39 x2 x3 x4 x5 x6 σ u v = some ρ → Go p l e (rmG 44 6 150) s m args below meth c D A 8 (MQ below ((QgI D dA (fun _ : Unit => WX dA G tb ad ρ.2) ρ.1) A) args s 6 150 A) (WX dA G tb ad σ) u v 39 [(0, .ref (G 0)), (2, .int x2), (3, .int x3), (4, .int x4), (5, .int x5), (6, .int x6)] []) (K57 : ∀ (x2 : Int32) (x3 : Int32) (x4 : Int32) (x5 : Int32) (x6 : Int32) (x7 : Int32) (σ : XS) (u : Nat) (v : Nat) (huv : u ≤ 6 ∧ v ≤ 150), k57 x2 x3 x4 x5 x6 x7 σ u v = some ρ → Go p l e (rmG 44 6 150) s m args below meth c D A 8 (MQ below ((QgI D dA (fun _ : Unit => WX dA G tb ad ρ.2) ρ.1) A) args s 6 150 A) (WX dA G tb ad σ) u v 57 [(0, .ref (G 0)), (2, .int x2), (3, .int x3), (4, .int x4), (5, .int x5), (6, .int x6), (7, .int x7)] []) : ∀ (x2 : Int32) (x3 : Int32) (x4 : Int32) (x5 : Int32) (x6 : Int32) (x7 : Int32) (σ : XS) (u : Nat) (v : Nat) (huv : u ≤ 6 ∧ v ≤ 150), X_longest_135 k39 k57 x2 x3 x4 x5 x6 x7 σ u v = some ρ → Go p l e (rmG 44 6 150) s m args below meth c D A 8 (MQ below ((QgI D dA (fun _ : Unit => WX dA G tb ad ρ.2) ρ.1) A) args s 6 150 A) (WX dA G tb ad σ) u v 135 [(0, .ref (G 0)), (2, .int x2), (3, .int x3), (4, .int x4), (5, .int x5), (6, .int x6), (7, .int x7)] [] := by
  intro x2 x3 x4 x5 x6 x7 σ u v huv h
  unfold X_longest_135 at h
  refine zg_iinc (k := 6) (lv' := [(7, .int (x7 + (nI 1))), (0, .ref (G 0)), (2, .int x2), (3, .int x3), (4, .int x4), (5, .int x5), (6, .int x6)]) hO dX1_longest_135 rfl (zii ic1) (Nat.le_of_ble_eq_true rfl) rfl ?_
  refine zg_goto (tgt := 57) hO dX1_longest_138 (by decide) ?_
  exact zg_sub [1, 2, 3, 4, 5, 6, 0] rfl (K57 _ _ _ _ _ _ _ _ _ huv h)
set_option maxHeartbeats 4000000 in
theorem w_X_longest_57 {tb : Nat} {ad : Nat → Nat} (hO : Ok p s m args meth c cX1_longest RX1 8 D dA A) (hX : XK dA G A s) (hr : meth.sig.returnType = (some .int)) {ρ : Int32 × XS} {k39 : Int32 → Int32 → Int32 → Int32 → Int32 → XS → Nat → Nat → Option (Int32 × XS)} (K39 : ∀ (x2 : Int32) (x3 : Int32) (x4 : Int32) (x5 : Int32) (x6 : Int32) (σ : XS) (u : Nat) (v : Nat) (huv : u ≤ 6 ∧ v ≤ 150), k39 x2 x3 x4 x5 x6 σ u v = some ρ → Go p l e (rmG 44 6 150) s m args below meth c D A 8 (MQ below ((QgI D dA (fun _ : Unit => WX dA G tb ad ρ.2) ρ.1) A) args s 6 150 A) (WX dA G tb ad σ) u v 39 [(0, .ref (G 0)), (2, .int x2), (3, .int x3), (4, .int x4), (5, .int x5), (6, .int x6)] []) : ∀ (n : Nat) (x2 : Int32) (x3 : Int32) (x4 : Int32) (x5 : Int32) (x6 : Int32) (x7 : Int32) (σ : XS) (u : Nat) (v : Nat) (huv : u ≤ 6 ∧ v ≤ 150), X_longest_57 k39 n x2 x3 x4 x5 x6 x7 σ u v = some ρ → Go p l e (rmG 44 6 150) s m args below meth c D A 8 (MQ below ((QgI D dA (fun _ : Unit => WX dA G tb ad ρ.2) ρ.1) A) args s 6 150 A) (WX dA G tb ad σ) u v 57 [(0, .ref (G 0)), (2, .int x2), (3, .int x3), (4, .int x4), (5, .int x5), (6, .int x6), (7, .int x7)] [] := by
  intro n
  induction n with
  | zero =>
    intro x2 x3 x4 x5 x6 x7 σ u v huv h
    rw [X_longest_57] at h
    cases h
  | succ n ih =>
    intro x2 x3 x4 x5 x6 x7 σ u v huv h
    rw [X_longest_57] at h
    refine zg_iload hO 6 dX1_longest_57 rfl ?_
    refine zg_iload_n hO 2 dX1_longest_59 rfl rfl ?_
    refine zg_icmp_ge (tgt := 141) hO h dX1_longest_60 (by decide) (fun h => ?_) (fun h => ?_)
    · refine zg_iinc (k := 5) (lv' := [(6, .int (x6 + (nI 1))), (0, .ref (G 0)), (2, .int x2), (3, .int x3), (4, .int x4), (5, .int x5), (7, .int x7)]) hO dX1_longest_141 rfl (zii ic1) (Nat.le_of_ble_eq_true rfl) rfl ?_
      refine zg_goto (tgt := 39) hO dX1_longest_144 (by decide) ?_
      exact zg_sub [1, 2, 3, 4, 5, 0] rfl (K39 _ _ _ _ _ _ _ _ huv h)
    · refine zg_aload_n hO 0 dX1_longest_63 rfl rfl ?_
      refine zg_aload_n hO 0 dX1_longest_64 rfl rfl ?_
      refine xG_1_147 hO hX dX1_longest_65 ?_
      refine zg_aload_n hO 0 dX1_longest_68 rfl rfl ?_
      refine xG_1_170 hO hX dX1_longest_69 ?_
      refine zg_iload hO 6 dX1_longest_72 rfl ?_
      refine xL_row0 hO h dX1_longest_74 (fun h => ?_)
      refine zy_callVvF (b := G 0) (As := [.ref (ad 0), .int (xA σ 3 x7.toNatClampNeg)]) (rest := []) hO hX h (fun q hq => m_X_make l D dA G tb ad hq) mw_X1_make q1360 ⟨Nat.le_of_ble_eq_true rfl, Nat.le_of_ble_eq_true rfl⟩ huv rfl rfl (Nat.le_of_ble_eq_true rfl) ⟨0, 1, _, _, rfl, rfl, rfl⟩ dX1_longest_75 (fun q7 h => ?_)
      refine zg_aload_n hO 0 dX1_longest_78 rfl rfl ?_
      refine zg_aload_n hO 0 dX1_longest_79 rfl rfl ?_
      refine xG_1_154 hO hX dX1_longest_80 ?_
      refine zg_aload_n hO 0 dX1_longest_83 rfl rfl ?_
      refine xG_1_154 hO hX dX1_longest_84 ?_
      refine zg_aload_n hO 0 dX1_longest_87 rfl rfl ?_
      refine xG_1_147 hO hX dX1_longest_88 ?_
      refine zy_callVvF (b := G 0) (As := [.ref (ad 2), .ref (ad 2), .ref (ad 0)]) (rest := []) hO hX h (fun q hq => m_X_join l D dA G tb ad hq) mw_X1_join q1361 ⟨Nat.le_of_ble_eq_true rfl, Nat.le_of_ble_eq_true rfl⟩ huv rfl rfl (Nat.le_of_ble_eq_true rfl) ⟨0, 1, _, _, rfl, rfl, rfl⟩ dX1_longest_91 (fun q8 h => ?_)
      refine zg_aload_n hO 0 dX1_longest_94 rfl rfl ?_
      refine xG_1_154 hO hX dX1_longest_95 ?_
      refine xG_1_23 hO hX h dX1_longest_98 (fun h => ?_)
      refine zg_iload_n hO 1 dX1_longest_101 rfl rfl ?_
      refine zg_i2l hO dX1_longest_102 ?_
      refine zg_lcmp hO dX1_longest_103 ?_
      refine zg_if_gt (tgt := 135) hO h dX1_longest_104 (by decide) (fun h => ?_) (fun h => ?_)
      · exact zg_sub [0, 1, 2, 3, 4, 5, 6] rfl (w_X_longest_135 hO hX hr K39 ih _ _ _ _ _ _ _ _ _ huv h)
      · refine zg_iload hO 6 dX1_longest_107 rfl ?_
        refine zg_iconst hO dX1_longest_109 ic1 ?_
        refine zg_iadd hO dX1_longest_110 ?_
        refine zg_iload hO 5 dX1_longest_111 rfl ?_
        refine zg_isub hO dX1_longest_113 ?_
        refine zg_iload hO 3 dX1_longest_114 rfl ?_
        refine zg_icmp_gt (tgt := 122) hO h dX1_longest_116 (by decide) (fun h => ?_) (fun h => ?_)
        · refine zg_iload hO 6 dX1_longest_122 rfl ?_
          refine zg_iconst hO dX1_longest_124 ic1 ?_
          refine zg_iadd hO dX1_longest_125 ?_
          refine zg_iload hO 5 dX1_longest_126 rfl ?_
          refine zg_isub hO dX1_longest_128 ?_
          refine zg_istore (lv' := [(4, .int ((x7 + (nI 1)) - x6)), (0, .ref (G 0)), (2, .int x2), (3, .int x3), (5, .int x5), (6, .int x6), (7, .int x7)]) hO dX1_longest_129 (Nat.le_of_ble_eq_true rfl) rfl ?_
          refine zg_iload hO 5 dX1_longest_131 rfl ?_
          refine zg_istore (lv' := [(5, .int x6), (4, .int ((x7 + (nI 1)) - x6)), (0, .ref (G 0)), (2, .int x2), (3, .int x3), (6, .int x6), (7, .int x7)]) hO dX1_longest_133 (Nat.le_of_ble_eq_true rfl) rfl ?_
          exact zg_sub [2, 3, 4, 1, 0, 5, 6] rfl (w_X_longest_135 hO hX hr K39 ih _ _ _ _ _ _ _ _ _ huv h)
        · refine zg_goto (tgt := 135) hO dX1_longest_119 (by decide) ?_
          exact zg_sub [0, 1, 2, 3, 4, 5, 6] rfl (w_X_longest_135 hO hX hr K39 ih _ _ _ _ _ _ _ _ _ huv h)
set_option maxHeartbeats 4000000 in
theorem w_X_longest_39 {tb : Nat} {ad : Nat → Nat} (hO : Ok p s m args meth c cX1_longest RX1 8 D dA A) (hX : XK dA G A s) (hr : meth.sig.returnType = (some .int)) {ρ : Int32 × XS} : ∀ (n : Nat) (x2 : Int32) (x3 : Int32) (x4 : Int32) (x5 : Int32) (x6 : Int32) (σ : XS) (u : Nat) (v : Nat) (huv : u ≤ 6 ∧ v ≤ 150), X_longest_39 n x2 x3 x4 x5 x6 σ u v = some ρ → Go p l e (rmG 44 6 150) s m args below meth c D A 8 (MQ below ((QgI D dA (fun _ : Unit => WX dA G tb ad ρ.2) ρ.1) A) args s 6 150 A) (WX dA G tb ad σ) u v 39 [(0, .ref (G 0)), (2, .int x2), (3, .int x3), (4, .int x4), (5, .int x5), (6, .int x6)] [] := by
  intro n
  induction n with
  | zero =>
    intro x2 x3 x4 x5 x6 σ u v huv h
    rw [X_longest_39] at h
    cases h
  | succ n ih =>
    intro x2 x3 x4 x5 x6 σ u v huv h
    rw [X_longest_39] at h
    refine zg_iload hO 5 dX1_longest_39 rfl ?_
    refine zg_iload_n hO 2 dX1_longest_41 rfl rfl ?_
    refine zg_icmp_ge (tgt := 147) hO h dX1_longest_42 (by decide) (fun h => ?_) (fun h => ?_)
    · refine zg_aload_n hO 0 dX1_longest_147 rfl rfl ?_
      refine zg_iconst hO dX1_longest_148 ic0 ?_
      refine xP_1_199 hO hX dX1_longest_149 ?_
      refine zg_aload_n hO 0 dX1_longest_152 rfl rfl ?_
      refine zg_iload hO 4 dX1_longest_153 rfl ?_
      refine zg_i2l hO dX1_longest_155 ?_
      refine zy_callVvF (b := G 0) (As := [.long (x5.toInt64)]) (rest := []) hO hX h (fun q hq => m_X_tells l D dA G tb ad hq) mw_X1_tells q1272 ⟨Nat.le_of_ble_eq_true rfl, Nat.le_of_ble_eq_true rfl⟩ huv rfl rfl (Nat.le_of_ble_eq_true rfl) ⟨0, 1, _, _, rfl, rfl, rfl⟩ dX1_longest_156 (fun q5 h => ?_)
      refine zg_iload hO 3 dX1_longest_159 rfl ?_
      exact zy_iretF hO hr h huv dX1_longest_161
    · refine zg_aload_n hO 0 dX1_longest_45 rfl rfl ?_
      refine zg_aload_n hO 0 dX1_longest_46 rfl rfl ?_
      refine xG_1_154 hO hX dX1_longest_47 ?_
      refine zy_callVvF (b := G 0) (As := [.ref (ad 2)]) (rest := []) hO hX h (fun q hq => m_X_empty l D dA G tb ad hq) mw_X1_empty q1371 ⟨Nat.le_of_ble_eq_true rfl, Nat.le_of_ble_eq_true rfl⟩ huv rfl rfl (Nat.le_of_ble_eq_true rfl) ⟨0, 1, _, _, rfl, rfl, rfl⟩ dX1_longest_50 (fun q6 h => ?_)
      refine zg_iload hO 5 dX1_longest_53 rfl ?_
      refine zg_istore (lv' := [(7, .int x6), (0, .ref (G 0)), (2, .int x2), (3, .int x3), (4, .int x4), (5, .int x5), (6, .int x6)]) hO dX1_longest_55 (Nat.le_of_ble_eq_true rfl) rfl ?_
      exact zg_sub [1, 2, 3, 4, 5, 6, 0] rfl (w_X_longest_57 hO hX hr ih _ _ _ _ _ _ _ _ _ _ huv h)
theorem mw_X1_longest : MwX yX1_longest cX1_longest 8 (some .int) RX1 2 := ⟨by decide +kernel, q1609, q1610, q85, q1611⟩
set_option maxHeartbeats 4000000 in
theorem m_X_longest (l : Launch) (D : va_G) (dA : Nat → ClassId) (G : Nat → Nat) {x1 : Int32} {x2 : Int32} {σ : XS} (tb : Nat) (ad : Nat → Nat) {ρ : Int32 × XS} (h : X_longest x1 x2 σ = some ρ) : CtX l yX1_longest (ws_ yX1_longest cX1_longest 8 (some .int)) 44 6 150 D dA G [.ref (G 0), .int x1, .int x2] (WX dA G tb ad σ) (QgI D dA (fun _ : Unit => WX dA G tb ad ρ.2) ρ.1) := by
  refine zx_start (cc := cX1_longest) (nL := 8) (ret := (some .int)) (own := RX1) (by decide) rfl rfl (Nat.le_of_ble_eq_true rfl) (fun p e s m args below meth c A hO hX hr _ _ => ?_)
  unfold X_longest at h
  refine zg_sub (lv' := [(0, .ref (G 0)), (1, .int x1), (2, .int x2)]) [0, 1, 2] rfl ?_
  refine zg_iload_n hO 1 dX1_longest_0 rfl rfl ?_
  refine zs_calli (As := [.int x1]) (rest := []) hO h (fun q hq => m_X_isLine l D dA hq) mw_X1_isLine q1398 ⟨Nat.le_of_ble_eq_true rfl, Nat.le_of_ble_eq_true rfl⟩ ⟨Nat.zero_le _, Nat.zero_le _⟩ rfl rfl (Nat.le_of_ble_eq_true rfl) dX1_longest_1 (fun q1 h => ?_)
  refine zg_if_ne (tgt := 9) hO h dX1_longest_4 (by decide) (fun h => ?_) (fun h => ?_)
  · refine zg_aload_n hO 0 dX1_longest_9 rfl rfl ?_
    refine xG_1_162 hO hX dX1_longest_10 ?_
    refine zg_iload_n hO 1 dX1_longest_13 rfl rfl ?_
    refine zy_lget (rest := []) hO hX h q1406 (Nat.le_of_ble_eq_true rfl) dX1_longest_14 (fun hb2 h => ?_) ⟨Nat.zero_le _, Nat.zero_le _⟩
    refine zy_castL hO hb2 q231 dX1_longest_19 ?_
    refine zg_aload_n hO 0 dX1_longest_22 rfl rfl ?_
    refine xG_1_170 hO hX dX1_longest_23 ?_
    refine zg_chk h (fun hc4 h => ?_)
    refine zy_callViF (b := G (48 + 3 * x1.toNatClampNeg)) (As := [.ref (G 63)]) (rest := []) hO hX h (fun q hq => m_Xl_lay_r0 l D dA G hb2 tb ad hq) mw_X3_lay q1438 ⟨Nat.le_of_ble_eq_true rfl, Nat.le_of_ble_eq_true rfl⟩ hc4 rfl rfl (Nat.le_of_ble_eq_true rfl) ⟨40 + 3 * x1.toNatClampNeg, 2, _, _, wx_line hb2, rfl, rfl⟩ dX1_longest_26 (fun q3 h => ?_)
    refine zg_istore_n (lv' := [(3, .int q3.1), (0, .ref (G 0)), (1, .int x1), (2, .int x2)]) hO dX1_longest_29 rfl (Nat.le_of_ble_eq_true rfl) rfl ?_
    refine zg_iconst hO dX1_longest_30 ic0 ?_
    refine zg_istore (lv' := [(4, .int (nI 0)), (3, .int q3.1), (0, .ref (G 0)), (1, .int x1), (2, .int x2)]) hO dX1_longest_31 (Nat.le_of_ble_eq_true rfl) rfl ?_
    refine zg_iconst hO dX1_longest_33 icm1 ?_
    refine zg_istore (lv' := [(5, .int (-1 : Int32)), (4, .int (nI 0)), (3, .int q3.1), (0, .ref (G 0)), (1, .int x1), (2, .int x2)]) hO dX1_longest_34 (Nat.le_of_ble_eq_true rfl) rfl ?_
    refine zg_iconst hO dX1_longest_36 ic0 ?_
    refine zg_istore (lv' := [(6, .int (nI 0)), (5, .int (-1 : Int32)), (4, .int (nI 0)), (3, .int q3.1), (0, .ref (G 0)), (1, .int x1), (2, .int x2)]) hO dX1_longest_37 (Nat.le_of_ble_eq_true rfl) rfl ?_
    exact zg_sub [4, 6, 3, 2, 1, 0] rfl (w_X_longest_39 hO hX hr _ _ _ _ _ _ _ _ _ hc4 h)
  · refine zg_iconst hO dX1_longest_7 icm1 ?_
    exact zy_iretF hO hr h ⟨Nat.zero_le _, Nat.zero_le _⟩ dX1_longest_8
set_option maxHeartbeats 4000000 in
theorem w_X_greatest_116 {tb : Nat} {ad : Nat → Nat} (hO : Ok p s m args meth c cX1_greatest RX1 8 D dA A) (hX : XK dA G A s) (hr : meth.sig.returnType = (some .int)) {ρ : Int32 × XS} {k55 : Int32 → Int32 → Int32 → Int64 → Int32 → XS → Nat → Nat → Option (Int32 × XS)} (K55 : ∀ (x2 : Int32) (x3 : Int32) (x4 : Int32) (x5 : Int64) (x7 : Int32) (σ : XS) (u : Nat) (v : Nat) (huv : u ≤ 6 ∧ v ≤ 150), k55 x2 x3 x4 x5 x7 σ u v = some ρ → Go p l e (rmG 45 6 150) s m args below meth c D A 8 (MQ below ((QgI D dA (fun _ : Unit => WX dA G tb ad ρ.2) ρ.1) A) args s 6 150 A) (WX dA G tb ad σ) u v 55 [(0, .ref (G 0)), (2, .int x2), (3, .int x3), (4, .int x4), (5, .long x5), (7, .int x7)] []) : ∀ (x2 : Int32) (x3 : Int32) (x4 : Int32) (x5 : Int64) (x7 : Int32) (σ : XS) (u : Nat) (v : Nat) (huv : u ≤ 6 ∧ v ≤ 150), X_greatest_116 k55 x2 x3 x4 x5 x7 σ u v = some ρ → Go p l e (rmG 45 6 150) s m args below meth c D A 8 (MQ below ((QgI D dA (fun _ : Unit => WX dA G tb ad ρ.2) ρ.1) A) args s 6 150 A) (WX dA G tb ad σ) u v 116 [(0, .ref (G 0)), (2, .int x2), (3, .int x3), (4, .int x4), (5, .long x5), (7, .int x7)] [] := by
  intro x2 x3 x4 x5 x7 σ u v huv h
  unfold X_greatest_116 at h
  refine zg_iinc (k := 5) (lv' := [(7, .int (x7 + (nI 1))), (0, .ref (G 0)), (2, .int x2), (3, .int x3), (4, .int x4), (5, .long x5)]) hO dX1_greatest_116 rfl (zii ic1) (Nat.le_of_ble_eq_true rfl) rfl ?_
  refine zg_goto (tgt := 55) hO dX1_greatest_119 (by decide) ?_
  exact zg_sub [1, 2, 3, 4, 5, 0] rfl (K55 _ _ _ _ _ _ _ _ huv h)
set_option maxHeartbeats 4000000 in
theorem w_X_greatest_103 {tb : Nat} {ad : Nat → Nat} (hO : Ok p s m args meth c cX1_greatest RX1 8 D dA A) (hX : XK dA G A s) (hr : meth.sig.returnType = (some .int)) {ρ : Int32 × XS} {k55 : Int32 → Int32 → Int32 → Int64 → Int32 → XS → Nat → Nat → Option (Int32 × XS)} (K55 : ∀ (x2 : Int32) (x3 : Int32) (x4 : Int32) (x5 : Int64) (x7 : Int32) (σ : XS) (u : Nat) (v : Nat) (huv : u ≤ 6 ∧ v ≤ 150), k55 x2 x3 x4 x5 x7 σ u v = some ρ → Go p l e (rmG 45 6 150) s m args below meth c D A 8 (MQ below ((QgI D dA (fun _ : Unit => WX dA G tb ad ρ.2) ρ.1) A) args s 6 150 A) (WX dA G tb ad σ) u v 55 [(0, .ref (G 0)), (2, .int x2), (3, .int x3), (4, .int x4), (5, .long x5), (7, .int x7)] []) : ∀ (x2 : Int32) (x3 : Int32) (x7 : Int32) (σ : XS) (u : Nat) (v : Nat) (huv : u ≤ 6 ∧ v ≤ 150), X_greatest_103 k55 x2 x3 x7 σ u v = some ρ → Go p l e (rmG 45 6 150) s m args below meth c D A 8 (MQ below ((QgI D dA (fun _ : Unit => WX dA G tb ad ρ.2) ρ.1) A) args s 6 150 A) (WX dA G tb ad σ) u v 103 [(0, .ref (G 0)), (2, .int x2), (3, .int x3), (7, .int x7)] [] := by
  intro x2 x3 x7 σ u v huv h
  unfold X_greatest_103 at h
  refine zg_iload hO 3 dX1_greatest_103 rfl ?_
  refine zg_istore (lv' := [(4, .int x7), (0, .ref (G 0)), (2, .int x2), (3, .int x3), (7, .int x7)]) hO dX1_greatest_105 (Nat.le_of_ble_eq_true rfl) rfl ?_
  refine zg_aload_n hO 1 dX1_greatest_107 rfl rfl ?_
  refine xG_1_154 hO hX dX1_greatest_108 ?_
  refine xG_1_29 hO hX h dX1_greatest_111 (fun h => ?_)
  refine zg_lstore (lv' := [(5, .long (rQ (xC σ 2))), (4, .int x7), (0, .ref (G 0)), (2, .int x2), (3, .int x3), (7, .int x7)]) hO dX1_greatest_114 (Nat.le_of_ble_eq_true rfl) rfl ?_
  exact zg_sub [2, 3, 4, 1, 0, 5] rfl (w_X_greatest_116 hO hX hr K55 _ _ _ _ _ _ _ _ huv h)
set_option maxHeartbeats 4000000 in
theorem w_X_greatest_55 {tb : Nat} {ad : Nat → Nat} (hO : Ok p s m args meth c cX1_greatest RX1 8 D dA A) (hX : XK dA G A s) (hr : meth.sig.returnType = (some .int)) {ρ : Int32 × XS} : ∀ (n : Nat) (x2 : Int32) (x3 : Int32) (x4 : Int32) (x5 : Int64) (x7 : Int32) (σ : XS) (u : Nat) (v : Nat) (huv : u ≤ 6 ∧ v ≤ 150), X_greatest_55 n x2 x3 x4 x5 x7 σ u v = some ρ → Go p l e (rmG 45 6 150) s m args below meth c D A 8 (MQ below ((QgI D dA (fun _ : Unit => WX dA G tb ad ρ.2) ρ.1) A) args s 6 150 A) (WX dA G tb ad σ) u v 55 [(0, .ref (G 0)), (2, .int x2), (3, .int x3), (4, .int x4), (5, .long x5), (7, .int x7)] [] := by
  intro n
  induction n with
  | zero =>
    intro x2 x3 x4 x5 x7 σ u v huv h
    rw [X_greatest_55] at h
    cases h
  | succ n ih =>
    intro x2 x3 x4 x5 x7 σ u v huv h
    rw [X_greatest_55] at h
    refine zg_iload hO 5 dX1_greatest_55 rfl ?_
    refine zg_iload_n hO 1 dX1_greatest_57 rfl rfl ?_
    refine zg_iadd hO dX1_greatest_58 ?_
    refine zg_iload_n hO 2 dX1_greatest_59 rfl rfl ?_
    refine zg_icmp_gt (tgt := 122) hO h dX1_greatest_60 (by decide) (fun h => ?_) (fun h => ?_)
    · refine zg_aload_n hO 0 dX1_greatest_122 rfl rfl ?_
      refine zg_aload_n hO 0 dX1_greatest_123 rfl rfl ?_
      refine xG_1_154 hO hX dX1_greatest_124 ?_
      refine zg_aload_n hO 0 dX1_greatest_127 rfl rfl ?_
      refine xG_1_170 hO hX dX1_greatest_128 ?_
      refine zg_iload hO 3 dX1_greatest_131 rfl ?_
      refine zg_iload hO 3 dX1_greatest_133 rfl ?_
      refine zg_iload_n hO 1 dX1_greatest_135 rfl rfl ?_
      refine zg_iadd hO dX1_greatest_136 ?_
      refine zy_callVvF (b := G 0) (As := [.ref (ad 2), .ref (G 63), .int x4, .int (x4 + x2)]) (rest := []) hO hX h (fun q hq => m_X_folds_r0 l D dA G tb ad hq) mw_X1_folds q1592 ⟨Nat.le_of_ble_eq_true rfl, Nat.le_of_ble_eq_true rfl⟩ huv rfl rfl (Nat.le_of_ble_eq_true rfl) ⟨0, 1, _, _, rfl, rfl, rfl⟩ dX1_greatest_137 (fun q6 h => ?_)
      refine zg_aload_n hO 0 dX1_greatest_140 rfl rfl ?_
      refine zg_iconst hO dX1_greatest_141 ic0 ?_
      refine xP_1_199 hO hX dX1_greatest_142 ?_
      refine zg_aload_n hO 0 dX1_greatest_145 rfl rfl ?_
      refine zg_aload_n hO 0 dX1_greatest_146 rfl rfl ?_
      refine xG_1_154 hO hX dX1_greatest_147 ?_
      refine zy_callVvF (b := G 0) (As := [.ref (ad 2)]) (rest := []) hO hX h (fun q hq => m_X_tellsPair l D dA G tb ad hq) mw_X1_tellsPair q1362 ⟨Nat.le_of_ble_eq_true rfl, Nat.le_of_ble_eq_true rfl⟩ huv rfl rfl (Nat.le_of_ble_eq_true rfl) ⟨0, 1, _, _, rfl, rfl, rfl⟩ dX1_greatest_150 (fun q7 h => ?_)
      refine zg_iload hO 3 dX1_greatest_153 rfl ?_
      exact zy_iretF hO hr h huv dX1_greatest_155
    · refine zg_aload_n hO 0 dX1_greatest_63 rfl rfl ?_
      refine zg_aload_n hO 0 dX1_greatest_64 rfl rfl ?_
      refine xG_1_154 hO hX dX1_greatest_65 ?_
      refine zg_aload_n hO 0 dX1_greatest_68 rfl rfl ?_
      refine xG_1_170 hO hX dX1_greatest_69 ?_
      refine zg_iload hO 5 dX1_greatest_72 rfl ?_
      refine zg_iload hO 5 dX1_greatest_74 rfl ?_
      refine zg_iload_n hO 1 dX1_greatest_76 rfl rfl ?_
      refine zg_iadd hO dX1_greatest_77 ?_
      refine zy_callVvF (b := G 0) (As := [.ref (ad 2), .ref (G 63), .int x7, .int (x7 + x2)]) (rest := []) hO hX h (fun q hq => m_X_folds_r0 l D dA G tb ad hq) mw_X1_folds q1592 ⟨Nat.le_of_ble_eq_true rfl, Nat.le_of_ble_eq_true rfl⟩ huv rfl rfl (Nat.le_of_ble_eq_true rfl) ⟨0, 1, _, _, rfl, rfl, rfl⟩ dX1_greatest_78 (fun q8 h => ?_)
      refine zg_iload hO 3 dX1_greatest_81 rfl ?_
      refine zg_iconst hO dX1_greatest_83 icm1 ?_
      refine zg_icmp_eq (tgt := 103) hO h dX1_greatest_84 (by decide) (fun h => ?_) (fun h => ?_)
      · exact zg_sub [0, 1, 2, 5] rfl (w_X_greatest_103 hO hX hr ih _ _ _ _ _ _ huv h)
      · refine zg_aload_n hO 0 dX1_greatest_87 rfl rfl ?_
        refine xG_1_154 hO hX dX1_greatest_88 ?_
        refine xG_1_29 hO hX h dX1_greatest_91 (fun h => ?_)
        refine zg_lload hO 4 dX1_greatest_94 rfl ?_
        refine zg_lcmp hO dX1_greatest_96 ?_
        refine zg_if_gt (tgt := 103) hO h dX1_greatest_97 (by decide) (fun h => ?_) (fun h => ?_)
        · exact zg_sub [0, 1, 2, 5] rfl (w_X_greatest_103 hO hX hr ih _ _ _ _ _ _ huv h)
        · refine zg_goto (tgt := 116) hO dX1_greatest_100 (by decide) ?_
          exact zg_sub [0, 1, 2, 3, 4, 5] rfl (w_X_greatest_116 hO hX hr ih _ _ _ _ _ _ _ _ huv h)
theorem mw_X1_greatest : MwX yX1_greatest cX1_greatest 8 (some .int) RX1 2 := ⟨by decide +kernel, q1613, q1614, q85, q1615⟩
set_option maxHeartbeats 4000000 in
theorem m_X_greatest (l : Launch) (D : va_G) (dA : Nat → ClassId) (G : Nat → Nat) {x1 : Int32} {x2 : Int32} {σ : XS} (tb : Nat) (ad : Nat → Nat) {ρ : Int32 × XS} (h : X_greatest x1 x2 σ = some ρ) : CtX l yX1_greatest (ws_ yX1_greatest cX1_greatest 8 (some .int)) 45 6 150 D dA G [.ref (G 0), .int x1, .int x2] (WX dA G tb ad σ) (QgI D dA (fun _ : Unit => WX dA G tb ad ρ.2) ρ.1) := by
  refine zx_start (cc := cX1_greatest) (nL := 8) (ret := (some .int)) (own := RX1) (by decide) rfl rfl (Nat.le_of_ble_eq_true rfl) (fun p e s m args below meth c A hO hX hr _ _ => ?_)
  unfold X_greatest at h
  refine zg_sub (lv' := [(0, .ref (G 0)), (1, .int x1), (2, .int x2)]) [0, 1, 2] rfl ?_
  refine zg_iload_n hO 1 dX1_greatest_0 rfl rfl ?_
  refine zs_calli (As := [.int x1]) (rest := []) hO h (fun q hq => m_X_isLine l D dA hq) mw_X1_isLine q1398 ⟨Nat.le_of_ble_eq_true rfl, Nat.le_of_ble_eq_true rfl⟩ ⟨Nat.zero_le _, Nat.zero_le _⟩ rfl rfl (Nat.le_of_ble_eq_true rfl) dX1_greatest_1 (fun q1 h => ?_)
  refine zg_if_eq (tgt := 15) hO h dX1_greatest_4 (by decide) (fun h => ?_) (fun h => ?_)
  · refine zg_iconst hO dX1_greatest_15 icm1 ?_
    exact zy_iretF hO hr h ⟨Nat.zero_le _, Nat.zero_le _⟩ dX1_greatest_16
  · refine zg_aload_n hO 0 dX1_greatest_7 rfl rfl ?_
    refine zg_iload_n hO 2 dX1_greatest_8 rfl rfl ?_
    refine zy_callViF (b := G 0) (As := [.int x2]) (rest := []) hO hX h (fun q hq => m_X_isWindow l D dA G tb ad hq) mw_X1_isWindow q1600 ⟨Nat.le_of_ble_eq_true rfl, Nat.le_of_ble_eq_true rfl⟩ ⟨Nat.zero_le _, Nat.zero_le _⟩ rfl rfl (Nat.le_of_ble_eq_true rfl) ⟨0, 1, _, _, rfl, rfl, rfl⟩ dX1_greatest_9 (fun q2 h => ?_)
    refine zg_if_ne (tgt := 17) hO h dX1_greatest_12 (by decide) (fun h => ?_) (fun h => ?_)
    · refine zg_aload_n hO 0 dX1_greatest_17 rfl rfl ?_
      refine xG_1_162 hO hX dX1_greatest_18 ?_
      refine zg_iload_n hO 1 dX1_greatest_21 rfl rfl ?_
      refine zy_lget (rest := []) hO hX h q1406 (Nat.le_of_ble_eq_true rfl) dX1_greatest_22 (fun hb3 h => ?_) ⟨Nat.zero_le _, Nat.zero_le _⟩
      refine zy_castL hO hb3 q231 dX1_greatest_27 ?_
      refine zg_aload_n hO 0 dX1_greatest_30 rfl rfl ?_
      refine xG_1_170 hO hX dX1_greatest_31 ?_
      refine zg_chk h (fun hc5 h => ?_)
      refine zy_callViF (b := G (48 + 3 * x1.toNatClampNeg)) (As := [.ref (G 63)]) (rest := []) hO hX h (fun q hq => m_Xl_lay_r0 l D dA G hb3 tb ad hq) mw_X3_lay q1438 ⟨Nat.le_of_ble_eq_true rfl, Nat.le_of_ble_eq_true rfl⟩ hc5 rfl rfl (Nat.le_of_ble_eq_true rfl) ⟨40 + 3 * x1.toNatClampNeg, 2, _, _, wx_line hb3, rfl, rfl⟩ dX1_greatest_34 (fun q4 h => ?_)
      refine zg_istore_n (lv' := [(3, .int q4.1), (0, .ref (G 0)), (1, .int x1), (2, .int x2)]) hO dX1_greatest_37 rfl (Nat.le_of_ble_eq_true rfl) rfl ?_
      refine zg_iload_n hO 0 dX1_greatest_38 rfl rfl ?_
      refine zg_iload_n hO 3 dX1_greatest_39 rfl rfl ?_
      refine zg_icmp_ge (tgt := 46) hO h dX1_greatest_40 (by decide) (fun h => ?_) (fun h => ?_)
      · refine zg_iconst hO dX1_greatest_46 icm1 ?_
        refine zg_istore (lv' := [(4, .int (-1 : Int32)), (3, .int q4.1), (0, .ref (G 0)), (1, .int x1), (2, .int x2)]) hO dX1_greatest_47 (Nat.le_of_ble_eq_true rfl) rfl ?_
        refine zg_lconst hO dX1_greatest_49 lc0 ?_
        refine zg_lstore (lv' := [(5, .long (lN 0)), (4, .int (-1 : Int32)), (3, .int q4.1), (0, .ref (G 0)), (1, .int x1), (2, .int x2)]) hO dX1_greatest_50 (Nat.le_of_ble_eq_true rfl) rfl ?_
        refine zg_iconst hO dX1_greatest_52 ic0 ?_
        refine zg_istore (lv' := [(7, .int (nI 0)), (5, .long (lN 0)), (4, .int (-1 : Int32)), (3, .int q4.1), (0, .ref (G 0)), (1, .int x1), (2, .int x2)]) hO dX1_greatest_53 (Nat.le_of_ble_eq_true rfl) rfl ?_
        exact zg_sub [4, 6, 3, 2, 1, 0] rfl (w_X_greatest_55 hO hX hr _ _ _ _ _ _ _ _ _ hc5 h)
      · refine zg_bipush hO dX1_greatest_43 bcm2 ?_
        exact zy_iretF hO hr h hc5 dX1_greatest_45
    · refine zg_iconst hO dX1_greatest_15 icm1 ?_
      exact zy_iretF hO hr h ⟨Nat.zero_le _, Nat.zero_le _⟩ dX1_greatest_16
set_option maxHeartbeats 4000000 in
theorem w_X_finds_125 {tb : Nat} {ad : Nat → Nat} (hO : Ok p s m args meth c cX1_finds RX1 9 D dA A) (hX : XK dA G A s) (hr : meth.sig.returnType = (some .int)) {ρ : Int32 × XS} {k34 : Int32 → Int32 → Int32 → Int32 → XS → Nat → Nat → Option (Int32 × XS)} {k50 : Int32 → Int32 → Int32 → Int32 → Int32 → Int32 → Int32 → XS → Nat → Nat → Option (Int32 × XS)} (K34 : ∀ (x2 : Int32) (x3 : Int32) (x4 : Int32) (x5 : Int32) (σ : XS) (u : Nat) (v : Nat) (huv : u ≤ 6 ∧ v ≤ 150), k34 x2 x3 x4 x5 σ u v = some ρ → Go p l e (rmG 45 6 150) s m args below meth c D A 9 (MQ below ((QgI D dA (fun _ : Unit => WX dA G tb ad ρ.2) ρ.1) A) args s 6 150 A) (WX dA G tb ad σ) u v 34 [(0, .ref (G 0)), (2, .int x2), (3, .int x3), (4, .int x4), (5, .int x5)] []) (K50 : ∀ (x2 : Int32) (x3 : Int32) (x4 : Int32) (x5 : Int32) (x6 : Int32) (x7 : Int32) (x8 : Int32) (σ : XS) (u : Nat) (v : Nat) (huv : u ≤ 6 ∧ v ≤ 150), k50 x2 x3 x4 x5 x6 x7 x8 σ u v = some ρ → Go p l e (rmG 45 6 150) s m args below meth c D A 9 (MQ below ((QgI D dA (fun _ : Unit => WX dA G tb ad ρ.2) ρ.1) A) args s 6 150 A) (WX dA G tb ad σ) u v 50 [(0, .ref (G 0)), (2, .int x2), (3, .int x3), (4, .int x4), (5, .int x5), (6, .int x6), (7, .int x7), (8, .int x8)] []) : ∀ (x2 : Int32) (x3 : Int32) (x4 : Int32) (x5 : Int32) (x6 : Int32) (x7 : Int32) (x8 : Int32) (σ : XS) (u : Nat) (v : Nat) (huv : u ≤ 6 ∧ v ≤ 150), X_finds_125 k34 k50 x2 x3 x4 x5 x6 x7 x8 σ u v = some ρ → Go p l e (rmG 45 6 150) s m args below meth c D A 9 (MQ below ((QgI D dA (fun _ : Unit => WX dA G tb ad ρ.2) ρ.1) A) args s 6 150 A) (WX dA G tb ad σ) u v 125 [(0, .ref (G 0)), (2, .int x2), (3, .int x3), (4, .int x4), (5, .int x5), (6, .int x6), (7, .int x7), (8, .int x8)] [] := by
  intro x2 x3 x4 x5 x6 x7 x8 σ u v huv h
  unfold X_finds_125 at h
  refine zg_iinc (k := 7) (lv' := [(8, .int (x8 + (nI 1))), (0, .ref (G 0)), (2, .int x2), (3, .int x3), (4, .int x4), (5, .int x5), (6, .int x6), (7, .int x7)]) hO dX1_finds_125 rfl (zii ic1) (Nat.le_of_ble_eq_true rfl) rfl ?_
  refine zg_goto (tgt := 50) hO dX1_finds_128 (by decide) ?_
  exact zg_sub [1, 2, 3, 4, 5, 6, 7, 0] rfl (K50 _ _ _ _ _ _ _ _ _ _ huv h)
set_option maxHeartbeats 4000000 in
theorem w_X_finds_120 {tb : Nat} {ad : Nat → Nat} (hO : Ok p s m args meth c cX1_finds RX1 9 D dA A) (hX : XK dA G A s) (hr : meth.sig.returnType = (some .int)) {ρ : Int32 × XS} {k34 : Int32 → Int32 → Int32 → Int32 → XS → Nat → Nat → Option (Int32 × XS)} {k50 : Int32 → Int32 → Int32 → Int32 → Int32 → Int32 → Int32 → XS → Nat → Nat → Option (Int32 × XS)} (K34 : ∀ (x2 : Int32) (x3 : Int32) (x4 : Int32) (x5 : Int32) (σ : XS) (u : Nat) (v : Nat) (huv : u ≤ 6 ∧ v ≤ 150), k34 x2 x3 x4 x5 σ u v = some ρ → Go p l e (rmG 45 6 150) s m args below meth c D A 9 (MQ below ((QgI D dA (fun _ : Unit => WX dA G tb ad ρ.2) ρ.1) A) args s 6 150 A) (WX dA G tb ad σ) u v 34 [(0, .ref (G 0)), (2, .int x2), (3, .int x3), (4, .int x4), (5, .int x5)] []) (K50 : ∀ (x2 : Int32) (x3 : Int32) (x4 : Int32) (x5 : Int32) (x6 : Int32) (x7 : Int32) (x8 : Int32) (σ : XS) (u : Nat) (v : Nat) (huv : u ≤ 6 ∧ v ≤ 150), k50 x2 x3 x4 x5 x6 x7 x8 σ u v = some ρ → Go p l e (rmG 45 6 150) s m args below meth c D A 9 (MQ below ((QgI D dA (fun _ : Unit => WX dA G tb ad ρ.2) ρ.1) A) args s 6 150 A) (WX dA G tb ad σ) u v 50 [(0, .ref (G 0)), (2, .int x2), (3, .int x3), (4, .int x4), (5, .int x5), (6, .int x6), (7, .int x7), (8, .int x8)] []) : ∀ (x2 : Int32) (x3 : Int32) (x4 : Int32) (x5 : Int32) (x7 : Int32) (x8 : Int32) (y0 : Int32) (σ : XS) (u : Nat) (v : Nat) (huv : u ≤ 6 ∧ v ≤ 150), X_finds_120 k34 k50 x2 x3 x4 x5 x7 x8 y0 σ u v = some ρ → Go p l e (rmG 45 6 150) s m args below meth c D A 9 (MQ below ((QgI D dA (fun _ : Unit => WX dA G tb ad ρ.2) ρ.1) A) args s 6 150 A) (WX dA G tb ad σ) u v 120 [(0, .ref (G 0)), (2, .int x2), (3, .int x3), (4, .int x4), (5, .int x5), (7, .int x7), (8, .int x8)] [.int y0] := by
  intro x2 x3 x4 x5 x7 x8 y0 σ u v huv h
  unfold X_finds_120 at h
  refine zg_istore (lv' := [(6, .int y0), (0, .ref (G 0)), (2, .int x2), (3, .int x3), (4, .int x4), (5, .int x5), (7, .int x7), (8, .int x8)]) hO dX1_finds_120 (Nat.le_of_ble_eq_true rfl) rfl ?_
  refine zg_iinc (k := 6) (lv' := [(7, .int (x7 + (nI 1))), (6, .int y0), (0, .ref (G 0)), (2, .int x2), (3, .int x3), (4, .int x4), (5, .int x5), (8, .int x8)]) hO dX1_finds_122 rfl (zii ic1) (Nat.le_of_ble_eq_true rfl) rfl ?_
  exact zg_sub [2, 3, 4, 5, 6, 1, 0, 7] rfl (w_X_finds_125 hO hX hr K34 K50 _ _ _ _ _ _ _ _ _ _ huv h)
set_option maxHeartbeats 4000000 in
theorem w_X_finds_50 {tb : Nat} {ad : Nat → Nat} (hO : Ok p s m args meth c cX1_finds RX1 9 D dA A) (hX : XK dA G A s) (hr : meth.sig.returnType = (some .int)) {ρ : Int32 × XS} {k34 : Int32 → Int32 → Int32 → Int32 → XS → Nat → Nat → Option (Int32 × XS)} (K34 : ∀ (x2 : Int32) (x3 : Int32) (x4 : Int32) (x5 : Int32) (σ : XS) (u : Nat) (v : Nat) (huv : u ≤ 6 ∧ v ≤ 150), k34 x2 x3 x4 x5 σ u v = some ρ → Go p l e (rmG 45 6 150) s m args below meth c D A 9 (MQ below ((QgI D dA (fun _ : Unit => WX dA G tb ad ρ.2) ρ.1) A) args s 6 150 A) (WX dA G tb ad σ) u v 34 [(0, .ref (G 0)), (2, .int x2), (3, .int x3), (4, .int x4), (5, .int x5)] []) : ∀ (n : Nat) (x2 : Int32) (x3 : Int32) (x4 : Int32) (x5 : Int32) (x6 : Int32) (x7 : Int32) (x8 : Int32) (σ : XS) (u : Nat) (v : Nat) (huv : u ≤ 6 ∧ v ≤ 150), X_finds_50 k34 n x2 x3 x4 x5 x6 x7 x8 σ u v = some ρ → Go p l e (rmG 45 6 150) s m args below meth c D A 9 (MQ below ((QgI D dA (fun _ : Unit => WX dA G tb ad ρ.2) ρ.1) A) args s 6 150 A) (WX dA G tb ad σ) u v 50 [(0, .ref (G 0)), (2, .int x2), (3, .int x3), (4, .int x4), (5, .int x5), (6, .int x6), (7, .int x7), (8, .int x8)] [] := by
  intro n
  induction n with
  | zero =>
    intro x2 x3 x4 x5 x6 x7 x8 σ u v huv h
    rw [X_finds_50] at h
    cases h
  | succ n ih =>
    intro x2 x3 x4 x5 x6 x7 x8 σ u v huv h
    rw [X_finds_50] at h
    refine zg_iload hO 7 dX1_finds_50 rfl ?_
    refine zg_iload hO 4 dX1_finds_52 rfl ?_
    refine zg_iadd hO dX1_finds_54 ?_
    refine zg_iload hO 3 dX1_finds_55 rfl ?_
    refine zg_icmp_gt (tgt := 131) hO h dX1_finds_57 (by decide) (fun h => ?_) (fun h => ?_)
    · refine zg_iload hO 6 dX1_finds_131 rfl ?_
      refine zg_if_ne (tgt := 139) hO h dX1_finds_133 (by decide) (fun h => ?_) (fun h => ?_)
      · refine zg_aload_n hO 0 dX1_finds_139 rfl rfl ?_
        refine zg_iconst hO dX1_finds_140 ic0 ?_
        refine xP_1_199 hO hX dX1_finds_141 ?_
        refine zg_aload_n hO 0 dX1_finds_144 rfl rfl ?_
        refine zg_iload hO 5 dX1_finds_145 rfl ?_
        refine zg_i2l hO dX1_finds_147 ?_
        refine zy_callVvF (b := G 0) (As := [.long (x6.toInt64)]) (rest := []) hO hX h (fun q hq => m_X_tells l D dA G tb ad hq) mw_X1_tells q1272 ⟨Nat.le_of_ble_eq_true rfl, Nat.le_of_ble_eq_true rfl⟩ huv rfl rfl (Nat.le_of_ble_eq_true rfl) ⟨0, 1, _, _, rfl, rfl, rfl⟩ dX1_finds_148 (fun q5 h => ?_)
        refine zg_aload_n hO 0 dX1_finds_151 rfl rfl ?_
        refine zg_iload hO 6 dX1_finds_152 rfl ?_
        refine zg_i2l hO dX1_finds_154 ?_
        refine zy_callVvF (b := G 0) (As := [.long (x7.toInt64)]) (rest := []) hO hX h (fun q hq => m_X_tells l D dA G tb ad hq) mw_X1_tells q1272 ⟨Nat.le_of_ble_eq_true rfl, Nat.le_of_ble_eq_true rfl⟩ huv rfl rfl (Nat.le_of_ble_eq_true rfl) ⟨0, 1, _, _, rfl, rfl, rfl⟩ dX1_finds_155 (fun q6 h => ?_)
        refine zg_iload hO 4 dX1_finds_158 rfl ?_
        exact zy_iretF hO hr h huv dX1_finds_160
      · refine zg_goto (tgt := 161) hO dX1_finds_136 (by decide) ?_
        refine zg_iinc (k := 4) (lv' := [(5, .int (x5 + (nI 1))), (0, .ref (G 0)), (2, .int x2), (3, .int x3), (4, .int x4), (6, .int x6), (7, .int x7), (8, .int x8)]) hO dX1_finds_161 rfl (zii ic1) (Nat.le_of_ble_eq_true rfl) rfl ?_
        refine zg_goto (tgt := 34) hO dX1_finds_164 (by decide) ?_
        exact zg_sub [1, 2, 3, 4, 0] rfl (K34 _ _ _ _ _ _ _ huv h)
    · refine zg_aload_n hO 0 dX1_finds_60 rfl rfl ?_
      refine zg_aload_n hO 0 dX1_finds_61 rfl rfl ?_
      refine xG_1_154 hO hX dX1_finds_62 ?_
      refine zg_aload_n hO 0 dX1_finds_65 rfl rfl ?_
      refine xG_1_170 hO hX dX1_finds_66 ?_
      refine zg_iload hO 7 dX1_finds_69 rfl ?_
      refine zg_iload hO 7 dX1_finds_71 rfl ?_
      refine zg_iload hO 4 dX1_finds_73 rfl ?_
      refine zg_iadd hO dX1_finds_75 ?_
      refine zy_callVvF (b := G 0) (As := [.ref (ad 2), .ref (G 63), .int x8, .int (x8 + x5)]) (rest := []) hO hX h (fun q hq => m_X_folds_r0 l D dA G tb ad hq) mw_X1_folds q1592 ⟨Nat.le_of_ble_eq_true rfl, Nat.le_of_ble_eq_true rfl⟩ huv rfl rfl (Nat.le_of_ble_eq_true rfl) ⟨0, 1, _, _, rfl, rfl, rfl⟩ dX1_finds_76 (fun q7 h => ?_)
      refine zg_aload_n hO 0 dX1_finds_79 rfl rfl ?_
      refine xG_1_154 hO hX dX1_finds_80 ?_
      refine xG_1_23 hO hX h dX1_finds_83 (fun h => ?_)
      refine zg_iload_n hO 1 dX1_finds_86 rfl rfl ?_
      refine zg_i2l hO dX1_finds_87 ?_
      refine zg_lcmp hO dX1_finds_88 ?_
      refine zg_if_ne (tgt := 125) hO h dX1_finds_89 (by decide) (fun h => ?_) (fun h => ?_)
      · exact zg_sub [0, 1, 2, 3, 4, 5, 6, 7] rfl (w_X_finds_125 hO hX hr K34 ih _ _ _ _ _ _ _ _ _ _ huv h)
      · refine zg_aload_n hO 0 dX1_finds_92 rfl rfl ?_
        refine xG_1_154 hO hX dX1_finds_93 ?_
        refine xG_1_29 hO hX h dX1_finds_96 (fun h => ?_)
        refine zg_iload_n hO 2 dX1_finds_99 rfl rfl ?_
        refine zg_i2l hO dX1_finds_100 ?_
        refine zg_lcmp hO dX1_finds_101 ?_
        refine zg_if_eq (tgt := 108) hO h dX1_finds_102 (by decide) (fun h => ?_) (fun h => ?_)
        · refine zg_iload hO 6 dX1_finds_108 rfl ?_
          refine zg_if_ne (tgt := 118) hO h dX1_finds_110 (by decide) (fun h => ?_) (fun h => ?_)
          · refine zg_iload hO 5 dX1_finds_118 rfl ?_
            exact zg_sub [0, 1, 2, 3, 4, 6, 7] rfl (w_X_finds_120 hO hX hr K34 ih _ _ _ _ _ _ _ _ _ _ huv h)
          · refine zg_iload hO 7 dX1_finds_113 rfl ?_
            refine zg_goto (tgt := 120) hO dX1_finds_115 (by decide) ?_
            exact zg_sub [0, 1, 2, 3, 4, 6, 7] rfl (w_X_finds_120 hO hX hr K34 ih _ _ _ _ _ _ _ _ _ _ huv h)
        · refine zg_goto (tgt := 125) hO dX1_finds_105 (by decide) ?_
          exact zg_sub [0, 1, 2, 3, 4, 5, 6, 7] rfl (w_X_finds_125 hO hX hr K34 ih _ _ _ _ _ _ _ _ _ _ huv h)
set_option maxHeartbeats 4000000 in
theorem w_X_finds_34 {tb : Nat} {ad : Nat → Nat} (hO : Ok p s m args meth c cX1_finds RX1 9 D dA A) (hX : XK dA G A s) (hr : meth.sig.returnType = (some .int)) {ρ : Int32 × XS} : ∀ (n : Nat) (x2 : Int32) (x3 : Int32) (x4 : Int32) (x5 : Int32) (σ : XS) (u : Nat) (v : Nat) (huv : u ≤ 6 ∧ v ≤ 150), X_finds_34 n x2 x3 x4 x5 σ u v = some ρ → Go p l e (rmG 45 6 150) s m args below meth c D A 9 (MQ below ((QgI D dA (fun _ : Unit => WX dA G tb ad ρ.2) ρ.1) A) args s 6 150 A) (WX dA G tb ad σ) u v 34 [(0, .ref (G 0)), (2, .int x2), (3, .int x3), (4, .int x4), (5, .int x5)] [] := by
  intro n
  induction n with
  | zero =>
    intro x2 x3 x4 x5 σ u v huv h
    rw [X_finds_34] at h
    cases h
  | succ n ih =>
    intro x2 x3 x4 x5 σ u v huv h
    rw [X_finds_34] at h
    refine zg_iload hO 4 dX1_finds_34 rfl ?_
    refine zg_iload hO 3 dX1_finds_36 rfl ?_
    refine zg_icmp_gt (tgt := 167) hO h dX1_finds_38 (by decide) (fun h => ?_) (fun h => ?_)
    · refine zg_bipush hO dX1_finds_167 bcm2 ?_
      exact zy_iretF hO hr h huv dX1_finds_169
    · refine zg_iconst hO dX1_finds_41 icm1 ?_
      refine zg_istore (lv' := [(6, .int (-1 : Int32)), (0, .ref (G 0)), (2, .int x2), (3, .int x3), (4, .int x4), (5, .int x5)]) hO dX1_finds_42 (Nat.le_of_ble_eq_true rfl) rfl ?_
      refine zg_iconst hO dX1_finds_44 ic0 ?_
      refine zg_istore (lv' := [(7, .int (nI 0)), (6, .int (-1 : Int32)), (0, .ref (G 0)), (2, .int x2), (3, .int x3), (4, .int x4), (5, .int x5)]) hO dX1_finds_45 (Nat.le_of_ble_eq_true rfl) rfl ?_
      refine zg_iconst hO dX1_finds_47 ic0 ?_
      refine zg_istore (lv' := [(8, .int (nI 0)), (7, .int (nI 0)), (6, .int (-1 : Int32)), (0, .ref (G 0)), (2, .int x2), (3, .int x3), (4, .int x4), (5, .int x5)]) hO dX1_finds_48 (Nat.le_of_ble_eq_true rfl) rfl ?_
      exact zg_sub [3, 4, 5, 6, 7, 2, 1, 0] rfl (w_X_finds_50 hO hX hr ih _ _ _ _ _ _ _ _ _ _ _ huv h)
theorem mw_X1_finds : MwX yX1_finds cX1_finds 9 (some .int) RX1 3 := ⟨by decide +kernel, q1617, q1618, q85, q1619⟩
set_option maxHeartbeats 4000000 in
theorem m_X_finds (l : Launch) (D : va_G) (dA : Nat → ClassId) (G : Nat → Nat) {x1 : Int32} {x2 : Int32} {x3 : Int32} {σ : XS} (tb : Nat) (ad : Nat → Nat) {ρ : Int32 × XS} (h : X_finds x1 x2 x3 σ = some ρ) : CtX l yX1_finds (ws_ yX1_finds cX1_finds 9 (some .int)) 45 6 150 D dA G [.ref (G 0), .int x1, .int x2, .int x3] (WX dA G tb ad σ) (QgI D dA (fun _ : Unit => WX dA G tb ad ρ.2) ρ.1) := by
  refine zx_start (cc := cX1_finds) (nL := 9) (ret := (some .int)) (own := RX1) (by decide) rfl rfl (Nat.le_of_ble_eq_true rfl) (fun p e s m args below meth c A hO hX hr _ _ => ?_)
  unfold X_finds at h
  refine zg_sub (lv' := [(0, .ref (G 0)), (1, .int x1), (2, .int x2), (3, .int x3)]) [0, 1, 2, 3] rfl ?_
  refine zg_iload_n hO 1 dX1_finds_0 rfl rfl ?_
  refine zs_calli (As := [.int x1]) (rest := []) hO h (fun q hq => m_X_isLine l D dA hq) mw_X1_isLine q1398 ⟨Nat.le_of_ble_eq_true rfl, Nat.le_of_ble_eq_true rfl⟩ ⟨Nat.zero_le _, Nat.zero_le _⟩ rfl rfl (Nat.le_of_ble_eq_true rfl) dX1_finds_1 (fun q1 h => ?_)
  refine zg_if_ne (tgt := 9) hO h dX1_finds_4 (by decide) (fun h => ?_) (fun h => ?_)
  · refine zg_aload_n hO 0 dX1_finds_9 rfl rfl ?_
    refine xG_1_162 hO hX dX1_finds_10 ?_
    refine zg_iload_n hO 1 dX1_finds_13 rfl rfl ?_
    refine zy_lget (rest := []) hO hX h q1406 (Nat.le_of_ble_eq_true rfl) dX1_finds_14 (fun hb2 h => ?_) ⟨Nat.zero_le _, Nat.zero_le _⟩
    refine zy_castL hO hb2 q231 dX1_finds_19 ?_
    refine zg_aload_n hO 0 dX1_finds_22 rfl rfl ?_
    refine xG_1_170 hO hX dX1_finds_23 ?_
    refine zg_chk h (fun hc4 h => ?_)
    refine zy_callViF (b := G (48 + 3 * x1.toNatClampNeg)) (As := [.ref (G 63)]) (rest := []) hO hX h (fun q hq => m_Xl_lay_r0 l D dA G hb2 tb ad hq) mw_X3_lay q1438 ⟨Nat.le_of_ble_eq_true rfl, Nat.le_of_ble_eq_true rfl⟩ hc4 rfl rfl (Nat.le_of_ble_eq_true rfl) ⟨40 + 3 * x1.toNatClampNeg, 2, _, _, wx_line hb2, rfl, rfl⟩ dX1_finds_26 (fun q3 h => ?_)
    refine zg_istore (lv' := [(4, .int q3.1), (0, .ref (G 0)), (1, .int x1), (2, .int x2), (3, .int x3)]) hO dX1_finds_29 (Nat.le_of_ble_eq_true rfl) rfl ?_
    refine zg_iconst hO dX1_finds_31 ic1 ?_
    refine zg_istore (lv' := [(5, .int (nI 1)), (4, .int q3.1), (0, .ref (G 0)), (1, .int x1), (2, .int x2), (3, .int x3)]) hO dX1_finds_32 (Nat.le_of_ble_eq_true rfl) rfl ?_
    exact zg_sub [2, 4, 5, 1, 0] rfl (w_X_finds_34 hO hX hr _ _ _ _ _ _ _ _ hc4 h)
  · refine zg_iconst hO dX1_finds_7 icm1 ?_
    exact zy_iretF hO hr h ⟨Nat.zero_le _, Nat.zero_le _⟩ dX1_finds_8
set_option maxHeartbeats 4000000 in
theorem w_X_unlike_198 {tb : Nat} {ad : Nat → Nat} (hO : Ok p s m args meth c cX1_unlike RX1 10 D dA A) (hX : XK dA G A s) (hr : meth.sig.returnType = (some .int)) {ρ : Int32 × XS} {k118 : Int32 → Int32 → Int32 → Int32 → Int32 → XS → Nat → Nat → Option (Int32 × XS)} {k133 : Int32 → Int32 → Int32 → Int32 → Int32 → Int32 → Int32 → Int32 → XS → Nat → Nat → Option (Int32 × XS)} (K118 : ∀ (x2 : Int32) (x3 : Int32) (x4 : Int32) (x5 : Int32) (x6 : Int32) (σ : XS) (u : Nat) (v : Nat) (huv : u ≤ 6 ∧ v ≤ 150), k118 x2 x3 x4 x5 x6 σ u v = some ρ → Go p l e (rmG 44 6 150) s m args below meth c D A 10 (MQ below ((QgI D dA (fun _ : Unit => WX dA G tb ad ρ.2) ρ.1) A) args s 6 150 A) (WX dA G tb ad σ) u v 118 [(0, .ref (G 0)), (2, .int x2), (3, .int x3), (4, .int x4), (5, .int x5), (6, .int x6)] []) (K133 : ∀ (x2 : Int32) (x3 : Int32) (x4 : Int32) (x5 : Int32) (x6 : Int32) (x7 : Int32) (x8 : Int32) (x9 : Int32) (σ : XS) (u : Nat) (v : Nat) (huv : u ≤ 6 ∧ v ≤ 150), k133 x2 x3 x4 x5 x6 x7 x8 x9 σ u v = some ρ → Go p l e (rmG 44 6 150) s m args below meth c D A 10 (MQ below ((QgI D dA (fun _ : Unit => WX dA G tb ad ρ.2) ρ.1) A) args s 6 150 A) (WX dA G tb ad σ) u v 133 [(0, .ref (G 0)), (2, .int x2), (3, .int x3), (4, .int x4), (5, .int x5), (6, .int x6), (7, .int x7), (8, .int x8), (9, .int x9)] []) : ∀ (x2 : Int32) (x3 : Int32) (x4 : Int32) (x5 : Int32) (x6 : Int32) (x7 : Int32) (x8 : Int32) (x9 : Int32) (σ : XS) (u : Nat) (v : Nat) (huv : u ≤ 6 ∧ v ≤ 150), X_unlike_198 k118 k133 x2 x3 x4 x5 x6 x7 x8 x9 σ u v = some ρ → Go p l e (rmG 44 6 150) s m args below meth c D A 10 (MQ below ((QgI D dA (fun _ : Unit => WX dA G tb ad ρ.2) ρ.1) A) args s 6 150 A) (WX dA G tb ad σ) u v 198 [(0, .ref (G 0)), (2, .int x2), (3, .int x3), (4, .int x4), (5, .int x5), (6, .int x6), (7, .int x7), (8, .int x8), (9, .int x9)] [] := by
  intro x2 x3 x4 x5 x6 x7 x8 x9 σ u v huv h
  unfold X_unlike_198 at h
  refine zg_iinc (k := 8) (lv' := [(9, .int (x9 + (nI 1))), (0, .ref (G 0)), (2, .int x2), (3, .int x3), (4, .int x4), (5, .int x5), (6, .int x6), (7, .int x7), (8, .int x8)]) hO dX1_unlike_198 rfl (zii ic1) (Nat.le_of_ble_eq_true rfl) rfl ?_
  refine zg_goto (tgt := 133) hO dX1_unlike_201 (by decide) ?_
  exact zg_sub [1, 2, 3, 4, 5, 6, 7, 8, 0] rfl (K133 _ _ _ _ _ _ _ _ _ _ _ huv h)
set_option maxHeartbeats 4000000 in
theorem w_X_unlike_195 {tb : Nat} {ad : Nat → Nat} (hO : Ok p s m args meth c cX1_unlike RX1 10 D dA A) (hX : XK dA G A s) (hr : meth.sig.returnType = (some .int)) {ρ : Int32 × XS} {k118 : Int32 → Int32 → Int32 → Int32 → Int32 → XS → Nat → Nat → Option (Int32 × XS)} {k133 : Int32 → Int32 → Int32 → Int32 → Int32 → Int32 → Int32 → Int32 → XS → Nat → Nat → Option (Int32 × XS)} (K118 : ∀ (x2 : Int32) (x3 : Int32) (x4 : Int32) (x5 : Int32) (x6 : Int32) (σ : XS) (u : Nat) (v : Nat) (huv : u ≤ 6 ∧ v ≤ 150), k118 x2 x3 x4 x5 x6 σ u v = some ρ → Go p l e (rmG 44 6 150) s m args below meth c D A 10 (MQ below ((QgI D dA (fun _ : Unit => WX dA G tb ad ρ.2) ρ.1) A) args s 6 150 A) (WX dA G tb ad σ) u v 118 [(0, .ref (G 0)), (2, .int x2), (3, .int x3), (4, .int x4), (5, .int x5), (6, .int x6)] []) (K133 : ∀ (x2 : Int32) (x3 : Int32) (x4 : Int32) (x5 : Int32) (x6 : Int32) (x7 : Int32) (x8 : Int32) (x9 : Int32) (σ : XS) (u : Nat) (v : Nat) (huv : u ≤ 6 ∧ v ≤ 150), k133 x2 x3 x4 x5 x6 x7 x8 x9 σ u v = some ρ → Go p l e (rmG 44 6 150) s m args below meth c D A 10 (MQ below ((QgI D dA (fun _ : Unit => WX dA G tb ad ρ.2) ρ.1) A) args s 6 150 A) (WX dA G tb ad σ) u v 133 [(0, .ref (G 0)), (2, .int x2), (3, .int x3), (4, .int x4), (5, .int x5), (6, .int x6), (7, .int x7), (8, .int x8), (9, .int x9)] []) : ∀ (x2 : Int32) (x3 : Int32) (x4 : Int32) (x5 : Int32) (x6 : Int32) (x8 : Int32) (x9 : Int32) (y0 : Int32) (y1 : Int32) (σ : XS) (u : Nat) (v : Nat) (huv : u ≤ 6 ∧ v ≤ 150), X_unlike_195 k118 k133 x2 x3 x4 x5 x6 x8 x9 y0 y1 σ u v = some ρ → Go p l e (rmG 44 6 150) s m args below meth c D A 10 (MQ below ((QgI D dA (fun _ : Unit => WX dA G tb ad ρ.2) ρ.1) A) args s 6 150 A) (WX dA G tb ad σ) u v 195 [(0, .ref (G 0)), (2, .int x2), (3, .int x3), (4, .int x4), (5, .int x5), (6, .int x6), (8, .int x8), (9, .int x9)] [.int y0, .int y1] := by
  intro x2 x3 x4 x5 x6 x8 x9 y0 y1 σ u v huv h
  unfold X_unlike_195 at h
  refine zg_iadd hO dX1_unlike_195 ?_
  refine zg_istore (lv' := [(7, .int (y1 + y0)), (0, .ref (G 0)), (2, .int x2), (3, .int x3), (4, .int x4), (5, .int x5), (6, .int x6), (8, .int x8), (9, .int x9)]) hO dX1_unlike_196 (Nat.le_of_ble_eq_true rfl) rfl ?_
  exact zg_sub [1, 2, 3, 4, 5, 6, 0, 7, 8] rfl (w_X_unlike_198 hO hX hr K118 K133 _ _ _ _ _ _ _ _ _ _ _ huv h)
set_option maxHeartbeats 4000000 in
theorem w_X_unlike_235 {tb : Nat} {ad : Nat → Nat} (hO : Ok p s m args meth c cX1_unlike RX1 10 D dA A) (hX : XK dA G A s) (hr : meth.sig.returnType = (some .int)) {ρ : Int32 × XS} {k118 : Int32 → Int32 → Int32 → Int32 → Int32 → XS → Nat → Nat → Option (Int32 × XS)} (K118 : ∀ (x2 : Int32) (x3 : Int32) (x4 : Int32) (x5 : Int32) (x6 : Int32) (σ : XS) (u : Nat) (v : Nat) (huv : u ≤ 6 ∧ v ≤ 150), k118 x2 x3 x4 x5 x6 σ u v = some ρ → Go p l e (rmG 44 6 150) s m args below meth c D A 10 (MQ below ((QgI D dA (fun _ : Unit => WX dA G tb ad ρ.2) ρ.1) A) args s 6 150 A) (WX dA G tb ad σ) u v 118 [(0, .ref (G 0)), (2, .int x2), (3, .int x3), (4, .int x4), (5, .int x5), (6, .int x6)] []) : ∀ (x2 : Int32) (x3 : Int32) (x4 : Int32) (x5 : Int32) (x6 : Int32) (σ : XS) (u : Nat) (v : Nat) (huv : u ≤ 6 ∧ v ≤ 150), X_unlike_235 k118 x2 x3 x4 x5 x6 σ u v = some ρ → Go p l e (rmG 44 6 150) s m args below meth c D A 10 (MQ below ((QgI D dA (fun _ : Unit => WX dA G tb ad ρ.2) ρ.1) A) args s 6 150 A) (WX dA G tb ad σ) u v 235 [(0, .ref (G 0)), (2, .int x2), (3, .int x3), (4, .int x4), (5, .int x5), (6, .int x6)] [] := by
  intro x2 x3 x4 x5 x6 σ u v huv h
  unfold X_unlike_235 at h
  refine zg_iinc (k := 5) (lv' := [(6, .int (x6 + (nI 1))), (0, .ref (G 0)), (2, .int x2), (3, .int x3), (4, .int x4), (5, .int x5)]) hO dX1_unlike_235 rfl (zii ic1) (Nat.le_of_ble_eq_true rfl) rfl ?_
  refine zg_goto (tgt := 118) hO dX1_unlike_238 (by decide) ?_
  exact zg_sub [1, 2, 3, 4, 5, 0] rfl (K118 _ _ _ _ _ _ _ _ huv h)
set_option maxHeartbeats 4000000 in
theorem w_X_unlike_215 {tb : Nat} {ad : Nat → Nat} (hO : Ok p s m args meth c cX1_unlike RX1 10 D dA A) (hX : XK dA G A s) (hr : meth.sig.returnType = (some .int)) {ρ : Int32 × XS} {k118 : Int32 → Int32 → Int32 → Int32 → Int32 → XS → Nat → Nat → Option (Int32 × XS)} (K118 : ∀ (x2 : Int32) (x3 : Int32) (x4 : Int32) (x5 : Int32) (x6 : Int32) (σ : XS) (u : Nat) (v : Nat) (huv : u ≤ 6 ∧ v ≤ 150), k118 x2 x3 x4 x5 x6 σ u v = some ρ → Go p l e (rmG 44 6 150) s m args below meth c D A 10 (MQ below ((QgI D dA (fun _ : Unit => WX dA G tb ad ρ.2) ρ.1) A) args s 6 150 A) (WX dA G tb ad σ) u v 118 [(0, .ref (G 0)), (2, .int x2), (3, .int x3), (4, .int x4), (5, .int x5), (6, .int x6)] []) : ∀ (x2 : Int32) (x4 : Int32) (x5 : Int32) (x6 : Int32) (x8 : Int32) (y0 : Int32) (y1 : Int32) (σ : XS) (u : Nat) (v : Nat) (huv : u ≤ 6 ∧ v ≤ 150), X_unlike_215 k118 x2 x4 x5 x6 x8 y0 y1 σ u v = some ρ → Go p l e (rmG 44 6 150) s m args below meth c D A 10 (MQ below ((QgI D dA (fun _ : Unit => WX dA G tb ad ρ.2) ρ.1) A) args s 6 150 A) (WX dA G tb ad σ) u v 215 [(0, .ref (G 0)), (2, .int x2), (4, .int x4), (5, .int x5), (6, .int x6), (8, .int x8)] [.int y0, .int y1] := by
  intro x2 x4 x5 x6 x8 y0 y1 σ u v huv h
  unfold X_unlike_215 at h
  refine zg_iadd hO dX1_unlike_215 ?_
  refine zg_istore_n (lv' := [(3, .int (y1 + y0)), (0, .ref (G 0)), (2, .int x2), (4, .int x4), (5, .int x5), (6, .int x6), (8, .int x8)]) hO dX1_unlike_216 rfl (Nat.le_of_ble_eq_true rfl) rfl ?_
  refine zg_iload hO 6 dX1_unlike_217 rfl ?_
  refine zg_iload hO 4 dX1_unlike_219 rfl ?_
  refine zg_icmp_gt (tgt := 227) hO h dX1_unlike_221 (by decide) (fun h => ?_) (fun h => ?_)
  · refine zg_iload hO 5 dX1_unlike_227 rfl ?_
    refine zg_istore (lv' := [(4, .int x6), (3, .int (y1 + y0)), (0, .ref (G 0)), (2, .int x2), (5, .int x5), (6, .int x6), (8, .int x8)]) hO dX1_unlike_229 (Nat.le_of_ble_eq_true rfl) rfl ?_
    refine zg_iload hO 6 dX1_unlike_231 rfl ?_
    refine zg_istore (lv' := [(5, .int x8), (4, .int x6), (3, .int (y1 + y0)), (0, .ref (G 0)), (2, .int x2), (6, .int x6), (8, .int x8)]) hO dX1_unlike_233 (Nat.le_of_ble_eq_true rfl) rfl ?_
    exact zg_sub [3, 4, 2, 1, 0, 5] rfl (w_X_unlike_235 hO hX hr K118 _ _ _ _ _ _ _ _ huv h)
  · refine zg_goto (tgt := 235) hO dX1_unlike_224 (by decide) ?_
    exact zg_sub [1, 2, 0, 3, 4, 5] rfl (w_X_unlike_235 hO hX hr K118 _ _ _ _ _ _ _ _ huv h)
set_option maxHeartbeats 4000000 in
theorem w_X_unlike_133 {tb : Nat} {ad : Nat → Nat} (hO : Ok p s m args meth c cX1_unlike RX1 10 D dA A) (hX : XK dA G A s) (hr : meth.sig.returnType = (some .int)) {ρ : Int32 × XS} {k118 : Int32 → Int32 → Int32 → Int32 → Int32 → XS → Nat → Nat → Option (Int32 × XS)} (K118 : ∀ (x2 : Int32) (x3 : Int32) (x4 : Int32) (x5 : Int32) (x6 : Int32) (σ : XS) (u : Nat) (v : Nat) (huv : u ≤ 6 ∧ v ≤ 150), k118 x2 x3 x4 x5 x6 σ u v = some ρ → Go p l e (rmG 44 6 150) s m args below meth c D A 10 (MQ below ((QgI D dA (fun _ : Unit => WX dA G tb ad ρ.2) ρ.1) A) args s 6 150 A) (WX dA G tb ad σ) u v 118 [(0, .ref (G 0)), (2, .int x2), (3, .int x3), (4, .int x4), (5, .int x5), (6, .int x6)] []) : ∀ (n : Nat) (x2 : Int32) (x3 : Int32) (x4 : Int32) (x5 : Int32) (x6 : Int32) (x7 : Int32) (x8 : Int32) (x9 : Int32) (σ : XS) (u : Nat) (v : Nat) (huv : u ≤ 6 ∧ v ≤ 150), X_unlike_133 k118 n x2 x3 x4 x5 x6 x7 x8 x9 σ u v = some ρ → Go p l e (rmG 44 6 150) s m args below meth c D A 10 (MQ below ((QgI D dA (fun _ : Unit => WX dA G tb ad ρ.2) ρ.1) A) args s 6 150 A) (WX dA G tb ad σ) u v 133 [(0, .ref (G 0)), (2, .int x2), (3, .int x3), (4, .int x4), (5, .int x5), (6, .int x6), (7, .int x7), (8, .int x8), (9, .int x9)] [] := by
  intro n
  induction n with
  | zero =>
    intro x2 x3 x4 x5 x6 x7 x8 x9 σ u v huv h
    rw [X_unlike_133] at h
    cases h
  | succ n ih =>
    intro x2 x3 x4 x5 x6 x7 x8 x9 σ u v huv h
    rw [X_unlike_133] at h
    refine zg_iload hO 8 dX1_unlike_133 rfl ?_
    refine zg_iload_n hO 1 dX1_unlike_135 rfl rfl ?_
    refine zg_icmp_ge (tgt := 204) hO h dX1_unlike_136 (by decide) (fun h => ?_) (fun h => ?_)
    · refine zg_iload_n hO 2 dX1_unlike_204 rfl rfl ?_
      refine zg_iload hO 6 dX1_unlike_205 rfl ?_
      refine zg_if_ne (tgt := 214) hO h dX1_unlike_207 (by decide) (fun h => ?_) (fun h => ?_)
      · refine zg_iconst hO dX1_unlike_214 ic0 ?_
        exact zg_sub [0, 1, 3, 4, 5, 7] rfl (w_X_unlike_215 hO hX hr K118 _ _ _ _ _ _ _ _ _ _ huv h)
      · refine zg_iconst hO dX1_unlike_210 ic1 ?_
        refine zg_goto (tgt := 215) hO dX1_unlike_211 (by decide) ?_
        exact zg_sub [0, 1, 3, 4, 5, 7] rfl (w_X_unlike_215 hO hX hr K118 _ _ _ _ _ _ _ _ _ _ huv h)
    · refine zg_aload_n hO 0 dX1_unlike_139 rfl rfl ?_
      refine xG_1_190 hO hX dX1_unlike_140 ?_
      refine zg_iload hO 8 dX1_unlike_143 rfl ?_
      refine xL_firstP hO h dX1_unlike_145 (fun h => ?_)
      refine zg_aload_n hO 0 dX1_unlike_146 rfl rfl ?_
      refine xG_1_190 hO hX dX1_unlike_147 ?_
      refine zg_iload hO 5 dX1_unlike_150 rfl ?_
      refine xL_firstP hO h dX1_unlike_152 (fun h => ?_)
      refine zg_lcmp hO dX1_unlike_153 ?_
      refine zg_if_ne (tgt := 198) hO h dX1_unlike_154 (by decide) (fun h => ?_) (fun h => ?_)
      · exact zg_sub [0, 1, 2, 3, 4, 5, 6, 7, 8] rfl (w_X_unlike_198 hO hX hr K118 ih _ _ _ _ _ _ _ _ _ _ _ huv h)
      · refine zg_aload_n hO 0 dX1_unlike_157 rfl rfl ?_
        refine xG_1_193 hO hX dX1_unlike_158 ?_
        refine zg_iload hO 8 dX1_unlike_161 rfl ?_
        refine xL_firstQ hO h dX1_unlike_163 (fun h => ?_)
        refine zg_aload_n hO 0 dX1_unlike_164 rfl rfl ?_
        refine xG_1_193 hO hX dX1_unlike_165 ?_
        refine zg_iload hO 5 dX1_unlike_168 rfl ?_
        refine xL_firstQ hO h dX1_unlike_170 (fun h => ?_)
        refine zg_lcmp hO dX1_unlike_171 ?_
        refine zg_if_eq (tgt := 178) hO h dX1_unlike_172 (by decide) (fun h => ?_) (fun h => ?_)
        · refine zg_iinc (k := 7) (lv' := [(8, .int (x8 + (nI 1))), (0, .ref (G 0)), (2, .int x2), (3, .int x3), (4, .int x4), (5, .int x5), (6, .int x6), (7, .int x7), (9, .int x9)]) hO dX1_unlike_178 rfl (zii ic1) (Nat.le_of_ble_eq_true rfl) rfl ?_
          refine zg_iload hO 7 dX1_unlike_181 rfl ?_
          refine zg_iload hO 8 dX1_unlike_183 rfl ?_
          refine zg_iload hO 6 dX1_unlike_185 rfl ?_
          refine zg_icmp_ge (tgt := 194) hO h dX1_unlike_187 (by decide) (fun h => ?_) (fun h => ?_)
          · refine zg_iconst hO dX1_unlike_194 ic0 ?_
            exact zg_sub [1, 2, 3, 4, 5, 6, 0, 8] rfl (w_X_unlike_195 hO hX hr K118 ih _ _ _ _ _ _ _ _ _ _ _ _ huv h)
          · refine zg_iconst hO dX1_unlike_190 ic1 ?_
            refine zg_goto (tgt := 195) hO dX1_unlike_191 (by decide) ?_
            exact zg_sub [1, 2, 3, 4, 5, 6, 0, 8] rfl (w_X_unlike_195 hO hX hr K118 ih _ _ _ _ _ _ _ _ _ _ _ _ huv h)
        · refine zg_goto (tgt := 198) hO dX1_unlike_175 (by decide) ?_
          exact zg_sub [0, 1, 2, 3, 4, 5, 6, 7, 8] rfl (w_X_unlike_198 hO hX hr K118 ih _ _ _ _ _ _ _ _ _ _ _ huv h)
set_option maxHeartbeats 4000000 in
theorem w_X_unlike_118 {tb : Nat} {ad : Nat → Nat} (hO : Ok p s m args meth c cX1_unlike RX1 10 D dA A) (hX : XK dA G A s) (hr : meth.sig.returnType = (some .int)) {ρ : Int32 × XS} : ∀ (n : Nat) (x2 : Int32) (x3 : Int32) (x4 : Int32) (x5 : Int32) (x6 : Int32) (σ : XS) (u : Nat) (v : Nat) (huv : u ≤ 6 ∧ v ≤ 150), X_unlike_118 n x2 x3 x4 x5 x6 σ u v = some ρ → Go p l e (rmG 44 6 150) s m args below meth c D A 10 (MQ below ((QgI D dA (fun _ : Unit => WX dA G tb ad ρ.2) ρ.1) A) args s 6 150 A) (WX dA G tb ad σ) u v 118 [(0, .ref (G 0)), (2, .int x2), (3, .int x3), (4, .int x4), (5, .int x5), (6, .int x6)] [] := by
  intro n
  induction n with
  | zero =>
    intro x2 x3 x4 x5 x6 σ u v huv h
    rw [X_unlike_118] at h
    cases h
  | succ n ih =>
    intro x2 x3 x4 x5 x6 σ u v huv h
    rw [X_unlike_118] at h
    refine zg_iload hO 5 dX1_unlike_118 rfl ?_
    refine zg_iload_n hO 1 dX1_unlike_120 rfl rfl ?_
    refine zg_icmp_ge (tgt := 241) hO h dX1_unlike_121 (by decide) (fun h => ?_) (fun h => ?_)
    · refine zg_aload_n hO 0 dX1_unlike_241 rfl rfl ?_
      refine zg_iconst hO dX1_unlike_242 ic0 ?_
      refine xP_1_199 hO hX dX1_unlike_243 ?_
      refine zg_iload_n hO 1 dX1_unlike_246 rfl rfl ?_
      refine zg_if_ne (tgt := 252) hO h dX1_unlike_247 (by decide) (fun h => ?_) (fun h => ?_)
      · refine zg_aload_n hO 0 dX1_unlike_252 rfl rfl ?_
        refine zg_aload_n hO 0 dX1_unlike_253 rfl rfl ?_
        refine xG_1_190 hO hX dX1_unlike_254 ?_
        refine zg_iload hO 3 dX1_unlike_257 rfl ?_
        refine xL_firstP hO h dX1_unlike_259 (fun h => ?_)
        refine zy_callVvF (b := G 0) (As := [.long (xB (zI σ 5 (nI 0)) 3 x4.toNatClampNeg)]) (rest := []) hO hX h (fun q hq => m_X_tells l D dA G tb ad hq) mw_X1_tells q1272 ⟨Nat.le_of_ble_eq_true rfl, Nat.le_of_ble_eq_true rfl⟩ huv rfl rfl (Nat.le_of_ble_eq_true rfl) ⟨0, 1, _, _, rfl, rfl, rfl⟩ dX1_unlike_260 (fun q8 h => ?_)
        refine zg_aload_n hO 0 dX1_unlike_263 rfl rfl ?_
        refine zg_aload_n hO 0 dX1_unlike_264 rfl rfl ?_
        refine xG_1_193 hO hX dX1_unlike_265 ?_
        refine zg_iload hO 3 dX1_unlike_268 rfl ?_
        refine xL_firstQ hO h dX1_unlike_270 (fun h => ?_)
        refine zy_callVvF (b := G 0) (As := [.long (xB q8 4 x4.toNatClampNeg)]) (rest := []) hO hX h (fun q hq => m_X_tells l D dA G tb ad hq) mw_X1_tells q1272 ⟨Nat.le_of_ble_eq_true rfl, Nat.le_of_ble_eq_true rfl⟩ huv rfl rfl (Nat.le_of_ble_eq_true rfl) ⟨0, 1, _, _, rfl, rfl, rfl⟩ dX1_unlike_271 (fun q9 h => ?_)
        refine zg_aload_n hO 0 dX1_unlike_274 rfl rfl ?_
        refine zg_iload hO 4 dX1_unlike_275 rfl ?_
        refine zg_i2l hO dX1_unlike_277 ?_
        refine zy_callVvF (b := G 0) (As := [.long (x5.toInt64)]) (rest := []) hO hX h (fun q hq => m_X_tells l D dA G tb ad hq) mw_X1_tells q1272 ⟨Nat.le_of_ble_eq_true rfl, Nat.le_of_ble_eq_true rfl⟩ huv rfl rfl (Nat.le_of_ble_eq_true rfl) ⟨0, 1, _, _, rfl, rfl, rfl⟩ dX1_unlike_278 (fun q10 h => ?_)
        refine zg_iload_n hO 2 dX1_unlike_281 rfl rfl ?_
        exact zy_iretF hO hr h huv dX1_unlike_282
      · refine zg_iconst hO dX1_unlike_250 ic0 ?_
        exact zy_iretF hO hr h huv dX1_unlike_251
    · refine zg_iconst hO dX1_unlike_124 ic0 ?_
      refine zg_istore (lv' := [(7, .int (nI 0)), (0, .ref (G 0)), (2, .int x2), (3, .int x3), (4, .int x4), (5, .int x5), (6, .int x6)]) hO dX1_unlike_125 (Nat.le_of_ble_eq_true rfl) rfl ?_
      refine zg_iconst hO dX1_unlike_127 ic0 ?_
      refine zg_istore (lv' := [(8, .int (nI 0)), (7, .int (nI 0)), (0, .ref (G 0)), (2, .int x2), (3, .int x3), (4, .int x4), (5, .int x5), (6, .int x6)]) hO dX1_unlike_128 (Nat.le_of_ble_eq_true rfl) rfl ?_
      refine zg_iconst hO dX1_unlike_130 ic0 ?_
      refine zg_istore (lv' := [(9, .int (nI 0)), (8, .int (nI 0)), (7, .int (nI 0)), (0, .ref (G 0)), (2, .int x2), (3, .int x3), (4, .int x4), (5, .int x5), (6, .int x6)]) hO dX1_unlike_131 (Nat.le_of_ble_eq_true rfl) rfl ?_
      exact zg_sub [3, 4, 5, 6, 7, 8, 2, 1, 0] rfl (w_X_unlike_133 hO hX hr ih _ _ _ _ _ _ _ _ _ _ _ _ huv h)
set_option maxHeartbeats 4000000 in
theorem w_X_unlike_40 {tb : Nat} {ad : Nat → Nat} (hO : Ok p s m args meth c cX1_unlike RX1 10 D dA A) (hX : XK dA G A s) (hr : meth.sig.returnType = (some .int)) {ρ : Int32 × XS} : ∀ (n : Nat) (x2 : Int32) (x3 : Int32) (σ : XS) (u : Nat) (v : Nat) (huv : u ≤ 6 ∧ v ≤ 150), X_unlike_40 n x2 x3 σ u v = some ρ → Go p l e (rmG 44 6 150) s m args below meth c D A 10 (MQ below ((QgI D dA (fun _ : Unit => WX dA G tb ad ρ.2) ρ.1) A) args s 6 150 A) (WX dA G tb ad σ) u v 40 [(0, .ref (G 0)), (2, .int x2), (3, .int x3)] [] := by
  intro n
  induction n with
  | zero =>
    intro x2 x3 σ u v huv h
    rw [X_unlike_40] at h
    cases h
  | succ n ih =>
    intro x2 x3 σ u v huv h
    rw [X_unlike_40] at h
    refine zg_iload_n hO 2 dX1_unlike_40 rfl rfl ?_
    refine zg_iload_n hO 1 dX1_unlike_41 rfl rfl ?_
    refine zg_icmp_ge (tgt := 107) hO h dX1_unlike_42 (by decide) (fun h => ?_) (fun h => ?_)
    · refine zg_iconst hO dX1_unlike_107 ic0 ?_
      refine zg_istore_n (lv' := [(3, .int (nI 0)), (0, .ref (G 0)), (2, .int x2)]) hO dX1_unlike_108 rfl (Nat.le_of_ble_eq_true rfl) rfl ?_
      refine zg_iconst hO dX1_unlike_109 icm1 ?_
      refine zg_istore (lv' := [(4, .int (-1 : Int32)), (3, .int (nI 0)), (0, .ref (G 0)), (2, .int x2)]) hO dX1_unlike_110 (Nat.le_of_ble_eq_true rfl) rfl ?_
      refine zg_iconst hO dX1_unlike_112 ic0 ?_
      refine zg_istore (lv' := [(5, .int (nI 0)), (4, .int (-1 : Int32)), (3, .int (nI 0)), (0, .ref (G 0)), (2, .int x2)]) hO dX1_unlike_113 (Nat.le_of_ble_eq_true rfl) rfl ?_
      refine zg_iconst hO dX1_unlike_115 ic0 ?_
      refine zg_istore (lv' := [(6, .int (nI 0)), (5, .int (nI 0)), (4, .int (-1 : Int32)), (3, .int (nI 0)), (0, .ref (G 0)), (2, .int x2)]) hO dX1_unlike_116 (Nat.le_of_ble_eq_true rfl) rfl ?_
      exact zg_sub [4, 5, 3, 2, 1, 0] rfl (w_X_unlike_118 hO hX hr _ _ _ _ _ _ _ _ _ huv h)
    · refine zg_aload_n hO 0 dX1_unlike_45 rfl rfl ?_
      refine zg_aload_n hO 0 dX1_unlike_46 rfl rfl ?_
      refine xG_1_147 hO hX dX1_unlike_47 ?_
      refine zg_aload_n hO 0 dX1_unlike_50 rfl rfl ?_
      refine xG_1_170 hO hX dX1_unlike_51 ?_
      refine zg_iload_n hO 2 dX1_unlike_54 rfl rfl ?_
      refine xL_row0 hO h dX1_unlike_55 (fun h => ?_)
      refine zy_callVvF (b := G 0) (As := [.ref (ad 0), .int (xA σ 3 x3.toNatClampNeg)]) (rest := []) hO hX h (fun q hq => m_X_make l D dA G tb ad hq) mw_X1_make q1360 ⟨Nat.le_of_ble_eq_true rfl, Nat.le_of_ble_eq_true rfl⟩ huv rfl rfl (Nat.le_of_ble_eq_true rfl) ⟨0, 1, _, _, rfl, rfl, rfl⟩ dX1_unlike_56 (fun q6 h => ?_)
      refine zg_aload_n hO 0 dX1_unlike_59 rfl rfl ?_
      refine zg_aload_n hO 0 dX1_unlike_60 rfl rfl ?_
      refine xG_1_154 hO hX dX1_unlike_61 ?_
      refine zg_aload_n hO 0 dX1_unlike_64 rfl rfl ?_
      refine xG_1_154 hO hX dX1_unlike_65 ?_
      refine zg_aload_n hO 0 dX1_unlike_68 rfl rfl ?_
      refine xG_1_147 hO hX dX1_unlike_69 ?_
      refine zy_callVvF (b := G 0) (As := [.ref (ad 2), .ref (ad 2), .ref (ad 0)]) (rest := []) hO hX h (fun q hq => m_X_join l D dA G tb ad hq) mw_X1_join q1361 ⟨Nat.le_of_ble_eq_true rfl, Nat.le_of_ble_eq_true rfl⟩ huv rfl rfl (Nat.le_of_ble_eq_true rfl) ⟨0, 1, _, _, rfl, rfl, rfl⟩ dX1_unlike_72 (fun q7 h => ?_)
      refine zg_aload_n hO 0 dX1_unlike_75 rfl rfl ?_
      refine xG_1_190 hO hX dX1_unlike_76 ?_
      refine zg_iload_n hO 2 dX1_unlike_79 rfl rfl ?_
      refine zg_aload_n hO 0 dX1_unlike_80 rfl rfl ?_
      refine xG_1_154 hO hX dX1_unlike_81 ?_
      refine xG_1_23 hO hX h dX1_unlike_84 (fun h => ?_)
      refine xS_firstP hO h dX1_unlike_87 (fun h => ?_)
      refine zg_aload_n hO 0 dX1_unlike_88 rfl rfl ?_
      refine xG_1_193 hO hX dX1_unlike_89 ?_
      refine zg_iload_n hO 2 dX1_unlike_92 rfl rfl ?_
      refine zg_aload_n hO 0 dX1_unlike_93 rfl rfl ?_
      refine xG_1_154 hO hX dX1_unlike_94 ?_
      refine xG_1_29 hO hX h dX1_unlike_97 (fun h => ?_)
      refine xS_firstQ hO h dX1_unlike_100 (fun h => ?_)
      refine zg_iinc (k := 2) (lv' := [(3, .int (x3 + (nI 1))), (0, .ref (G 0)), (2, .int x2)]) hO dX1_unlike_101 rfl (zii ic1) (Nat.le_of_ble_eq_true rfl) rfl ?_
      refine zg_goto (tgt := 40) hO dX1_unlike_104 (by decide) ?_
      exact zg_sub [1, 2, 0] rfl (ih _ _ _ _ _ huv h)
theorem mw_X1_unlike : MwX yX1_unlike cX1_unlike 10 (some .int) RX1 1 := ⟨by decide +kernel, q1630, q1631, q85, q1632⟩
set_option maxHeartbeats 4000000 in
theorem m_X_unlike (l : Launch) (D : va_G) (dA : Nat → ClassId) (G : Nat → Nat) {x1 : Int32} {σ : XS} (tb : Nat) (ad : Nat → Nat) {ρ : Int32 × XS} (h : X_unlike x1 σ = some ρ) : CtX l yX1_unlike (ws_ yX1_unlike cX1_unlike 10 (some .int)) 44 6 150 D dA G [.ref (G 0), .int x1] (WX dA G tb ad σ) (QgI D dA (fun _ : Unit => WX dA G tb ad ρ.2) ρ.1) := by
  refine zx_start (cc := cX1_unlike) (nL := 10) (ret := (some .int)) (own := RX1) (by decide) rfl rfl (Nat.le_of_ble_eq_true rfl) (fun p e s m args below meth c A hO hX hr _ _ => ?_)
  unfold X_unlike at h
  refine zg_sub (lv' := [(0, .ref (G 0)), (1, .int x1)]) [0, 1] rfl ?_
  refine zg_iload_n hO 1 dX1_unlike_0 rfl rfl ?_
  refine zs_calli (As := [.int x1]) (rest := []) hO h (fun q hq => m_X_isLine l D dA hq) mw_X1_isLine q1398 ⟨Nat.le_of_ble_eq_true rfl, Nat.le_of_ble_eq_true rfl⟩ ⟨Nat.zero_le _, Nat.zero_le _⟩ rfl rfl (Nat.le_of_ble_eq_true rfl) dX1_unlike_1 (fun q1 h => ?_)
  refine zg_if_ne (tgt := 9) hO h dX1_unlike_4 (by decide) (fun h => ?_) (fun h => ?_)
  · refine zg_aload_n hO 0 dX1_unlike_9 rfl rfl ?_
    refine xG_1_162 hO hX dX1_unlike_10 ?_
    refine zg_iload_n hO 1 dX1_unlike_13 rfl rfl ?_
    refine zy_lget (rest := []) hO hX h q1406 (Nat.le_of_ble_eq_true rfl) dX1_unlike_14 (fun hb2 h => ?_) ⟨Nat.zero_le _, Nat.zero_le _⟩
    refine zy_castL hO hb2 q231 dX1_unlike_19 ?_
    refine zg_aload_n hO 0 dX1_unlike_22 rfl rfl ?_
    refine xG_1_170 hO hX dX1_unlike_23 ?_
    refine zg_chk h (fun hc4 h => ?_)
    refine zy_callViF (b := G (48 + 3 * x1.toNatClampNeg)) (As := [.ref (G 63)]) (rest := []) hO hX h (fun q hq => m_Xl_lay_r0 l D dA G hb2 tb ad hq) mw_X3_lay q1438 ⟨Nat.le_of_ble_eq_true rfl, Nat.le_of_ble_eq_true rfl⟩ hc4 rfl rfl (Nat.le_of_ble_eq_true rfl) ⟨40 + 3 * x1.toNatClampNeg, 2, _, _, wx_line hb2, rfl, rfl⟩ dX1_unlike_26 (fun q3 h => ?_)
    refine zg_istore_n (lv' := [(2, .int q3.1), (0, .ref (G 0)), (1, .int x1)]) hO dX1_unlike_29 rfl (Nat.le_of_ble_eq_true rfl) rfl ?_
    refine zg_aload_n hO 1 dX1_unlike_30 rfl rfl ?_
    refine zg_aload_n hO 1 dX1_unlike_31 rfl rfl ?_
    refine xG_1_154 hO hX dX1_unlike_32 ?_
    refine zy_callVvF (b := G 0) (As := [.ref (ad 2)]) (rest := []) hO hX h (fun q hq => m_X_empty l D dA G tb ad hq) mw_X1_empty q1371 ⟨Nat.le_of_ble_eq_true rfl, Nat.le_of_ble_eq_true rfl⟩ hc4 rfl rfl (Nat.le_of_ble_eq_true rfl) ⟨0, 1, _, _, rfl, rfl, rfl⟩ dX1_unlike_35 (fun q5 h => ?_)
    refine zg_iconst hO dX1_unlike_38 ic0 ?_
    refine zg_istore_n (lv' := [(3, .int (nI 0)), (2, .int q3.1), (0, .ref (G 0)), (1, .int x1)]) hO dX1_unlike_39 rfl (Nat.le_of_ble_eq_true rfl) rfl ?_
    exact zg_sub [2, 1, 0] rfl (w_X_unlike_40 hO hX hr _ _ _ _ _ _ hc4 h)
  · refine zg_iconst hO dX1_unlike_7 icm1 ?_
    exact zy_iretF hO hr h ⟨Nat.zero_le _, Nat.zero_le _⟩ dX1_unlike_8
set_option maxHeartbeats 4000000 in
theorem w_X_same_113 {tb : Nat} {ad : Nat → Nat} (hO : Ok p s m args meth c cX1_same RX1 9 D dA A) (hX : XK dA G A s) (hr : meth.sig.returnType = (some .int)) {ρ : Int32 × XS} {k79 : Int32 → Int32 → Nat → Nat → Int32 → Int32 → Int32 → XS → Nat → Nat → Option (Int32 × XS)} (K79 : ∀ (x1 : Int32) (x2 : Int32) (i3 : Nat) (i4 : Nat) (x5 : Int32) (x6 : Int32) (x7 : Int32) (σ : XS) (u : Nat) (v : Nat) (hi3 : i3 < 5) (hi4 : i4 < 5) (huv : u ≤ 12 ∧ v ≤ 300), k79 x1 x2 i3 i4 x5 x6 x7 σ u v = some ρ → Go p l e (rmG 45 12 300) s m args below meth c D A 9 (MQ below ((QgI D dA (fun _ : Unit => WX dA G tb ad ρ.2) ρ.1) A) args s 12 300 A) (WX dA G tb ad σ) u v 79 [(0, .ref (G 0)), (1, .int x1), (2, .int x2), (3, .ref (G (48 + 3 * i3))), (4, .ref (G (48 + 3 * i4))), (5, .int x5), (6, .int x6), (7, .int x7)] []) : ∀ (x1 : Int32) (x2 : Int32) (i3 : Nat) (i4 : Nat) (x5 : Int32) (x7 : Int32) (y0 : Int32) (σ : XS) (u : Nat) (v : Nat) (hi3 : i3 < 5) (hi4 : i4 < 5) (huv : u ≤ 12 ∧ v ≤ 300), X_same_113 k79 x1 x2 i3 i4 x5 x7 y0 σ u v = some ρ → Go p l e (rmG 45 12 300) s m args below meth c D A 9 (MQ below ((QgI D dA (fun _ : Unit => WX dA G tb ad ρ.2) ρ.1) A) args s 12 300 A) (WX dA G tb ad σ) u v 113 [(0, .ref (G 0)), (1, .int x1), (2, .int x2), (3, .ref (G (48 + 3 * i3))), (4, .ref (G (48 + 3 * i4))), (5, .int x5), (7, .int x7)] [.int y0] := by
  intro x1 x2 i3 i4 x5 x7 y0 σ u v hi3 hi4 huv h
  unfold X_same_113 at h
  refine zg_istore (lv' := [(6, .int y0), (0, .ref (G 0)), (1, .int x1), (2, .int x2), (3, .ref (G (48 + 3 * i3))), (4, .ref (G (48 + 3 * i4))), (5, .int x5), (7, .int x7)]) hO dX1_same_113 (Nat.le_of_ble_eq_true rfl) rfl ?_
  refine zg_iinc (k := 7) (lv' := [(7, .int (x7 + (nI 1))), (6, .int y0), (0, .ref (G 0)), (1, .int x1), (2, .int x2), (3, .ref (G (48 + 3 * i3))), (4, .ref (G (48 + 3 * i4))), (5, .int x5)]) hO dX1_same_115 rfl (zii ic1) (Nat.le_of_ble_eq_true rfl) rfl ?_
  refine zg_goto (tgt := 79) hO dX1_same_118 (by decide) ?_
  exact zg_sub [2, 3, 4, 5, 6, 7, 1, 0] rfl (K79 _ _ _ _ _ _ _ _ _ _ hi3 hi4 huv h)
set_option maxHeartbeats 4000000 in
theorem w_X_same_194 {tb : Nat} {ad : Nat → Nat} (hO : Ok p s m args meth c cX1_same RX1 9 D dA A) (hX : XK dA G A s) (hr : meth.sig.returnType = (some .int)) {ρ : Int32 × XS} : ∀ (x6 : Int32) (x8 : Int32) (y0 : Int64) (σ : XS) (u : Nat) (v : Nat) (huv : u ≤ 12 ∧ v ≤ 300), X_same_194 x6 x8 y0 σ u v = some ρ → Go p l e (rmG 45 12 300) s m args below meth c D A 9 (MQ below ((QgI D dA (fun _ : Unit => WX dA G tb ad ρ.2) ρ.1) A) args s 12 300 A) (WX dA G tb ad σ) u v 194 [(0, .ref (G 0)), (6, .int x6), (8, .int x8)] [.long y0, .ref (G 0)] := by
  intro x6 x8 y0 σ u v huv h
  unfold X_same_194 at h
  refine zy_callVvF (b := G 0) (As := [.long y0]) (rest := []) hO hX h (fun q hq => m_X_tells l D dA G tb ad hq) mw_X1_tells q1272 ⟨Nat.le_of_ble_eq_true rfl, Nat.le_of_ble_eq_true rfl⟩ huv rfl rfl (Nat.le_of_ble_eq_true rfl) ⟨0, 1, _, _, rfl, rfl, rfl⟩ dX1_same_194 (fun q15 h => ?_)
  refine zg_aload_n hO 0 dX1_same_197 rfl rfl ?_
  refine zg_iload hO 2 dX1_same_198 rfl ?_
  refine zg_i2l hO dX1_same_200 ?_
  refine zy_callVvF (b := G 0) (As := [.long (x8.toInt64)]) (rest := []) hO hX h (fun q hq => m_X_tells l D dA G tb ad hq) mw_X1_tells q1272 ⟨Nat.le_of_ble_eq_true rfl, Nat.le_of_ble_eq_true rfl⟩ huv rfl rfl (Nat.le_of_ble_eq_true rfl) ⟨0, 1, _, _, rfl, rfl, rfl⟩ dX1_same_201 (fun q16 h => ?_)
  refine zg_iload hO 1 dX1_same_204 rfl ?_
  refine zg_if_eq (tgt := 213) hO h dX1_same_206 (by decide) (fun h => ?_) (fun h => ?_)
  · refine zg_iconst hO dX1_same_213 ic0 ?_
    exact zy_iretF hO hr h huv dX1_same_214
  · refine zg_iconst hO dX1_same_209 ic1 ?_
    refine zg_goto (tgt := 214) hO dX1_same_210 (by decide) ?_
    exact zy_iretF hO hr h huv dX1_same_214
set_option maxHeartbeats 4000000 in
theorem w_X_same_176 {tb : Nat} {ad : Nat → Nat} (hO : Ok p s m args meth c cX1_same RX1 9 D dA A) (hX : XK dA G A s) (hr : meth.sig.returnType = (some .int)) {ρ : Int32 × XS} : ∀ (x6 : Int32) (x7 : Int32) (y0 : Int32) (σ : XS) (u : Nat) (v : Nat) (huv : u ≤ 12 ∧ v ≤ 300), X_same_176 x6 x7 y0 σ u v = some ρ → Go p l e (rmG 45 12 300) s m args below meth c D A 9 (MQ below ((QgI D dA (fun _ : Unit => WX dA G tb ad ρ.2) ρ.1) A) args s 12 300 A) (WX dA G tb ad σ) u v 176 [(0, .ref (G 0)), (6, .int x6), (7, .int x7)] [.int y0] := by
  intro x6 x7 y0 σ u v huv h
  unfold X_same_176 at h
  refine zg_istore (lv' := [(8, .int y0), (0, .ref (G 0)), (6, .int x6), (7, .int x7)]) hO dX1_same_176 (Nat.le_of_ble_eq_true rfl) rfl ?_
  refine zg_aload_n hO 1 dX1_same_178 rfl rfl ?_
  refine zg_iconst hO dX1_same_179 ic0 ?_
  refine xP_1_199 hO hX dX1_same_180 ?_
  refine zg_aload_n hO 1 dX1_same_183 rfl rfl ?_
  refine zg_iload hO 3 dX1_same_184 rfl ?_
  refine zg_if_eq (tgt := 193) hO h dX1_same_186 (by decide) (fun h => ?_) (fun h => ?_)
  · refine zg_lconst hO dX1_same_193 lc0 ?_
    exact zg_sub [1, 2, 0] rfl (w_X_same_194 hO hX hr _ _ _ _ _ _ huv h)
  · refine zg_lconst hO dX1_same_189 lc1 ?_
    refine zg_goto (tgt := 194) hO dX1_same_190 (by decide) ?_
    exact zg_sub [1, 2, 0] rfl (w_X_same_194 hO hX hr _ _ _ _ _ _ huv h)
set_option maxHeartbeats 4000000 in
theorem w_X_same_121 {tb : Nat} {ad : Nat → Nat} (hO : Ok p s m args meth c cX1_same RX1 9 D dA A) (hX : XK dA G A s) (hr : meth.sig.returnType = (some .int)) {ρ : Int32 × XS} : ∀ (x1 : Int32) (x2 : Int32) (i3 : Nat) (i4 : Nat) (x5 : Int32) (x6 : Int32) (σ : XS) (u : Nat) (v : Nat) (hi3 : i3 < 5) (hi4 : i4 < 5) (huv : u ≤ 12 ∧ v ≤ 300), X_same_121 x1 x2 i3 i4 x5 x6 σ u v = some ρ → Go p l e (rmG 45 12 300) s m args below meth c D A 9 (MQ below ((QgI D dA (fun _ : Unit => WX dA G tb ad ρ.2) ρ.1) A) args s 12 300 A) (WX dA G tb ad σ) u v 121 [(0, .ref (G 0)), (1, .int x1), (2, .int x2), (3, .ref (G (48 + 3 * i3))), (4, .ref (G (48 + 3 * i4))), (5, .int x5), (6, .int x6)] [] := by
  intro x1 x2 i3 i4 x5 x6 σ u v hi3 hi4 huv h
  unfold X_same_121 at h
  refine zg_aload_n hO 3 dX1_same_121 rfl rfl ?_
  refine zg_aload_n hO 0 dX1_same_122 rfl rfl ?_
  refine xG_1_154 hO hX dX1_same_123 ?_
  refine zy_callVvF (b := G (48 + 3 * i3)) (As := [.ref (ad 2)]) (rest := []) hO hX h (fun q hq => m_Xl_sums l D dA G hi3 tb ad hq) mw_X3_sums q1485 ⟨Nat.le_of_ble_eq_true rfl, Nat.le_of_ble_eq_true rfl⟩ huv rfl rfl (Nat.le_of_ble_eq_true rfl) ⟨40 + 3 * i3, 2, _, _, wx_line hi3, rfl, rfl⟩ dX1_same_126 (fun q9 h => ?_)
  refine zg_aload hO 4 dX1_same_129 rfl ?_
  refine zg_aload_n hO 0 dX1_same_131 rfl rfl ?_
  refine xG_1_151 hO hX dX1_same_132 ?_
  refine zy_callVvF (b := G (48 + 3 * i4)) (As := [.ref (ad 1)]) (rest := []) hO hX h (fun q hq => m_Xl_sums l D dA G hi4 tb ad hq) mw_X3_sums q1485 ⟨Nat.le_of_ble_eq_true rfl, Nat.le_of_ble_eq_true rfl⟩ huv rfl rfl (Nat.le_of_ble_eq_true rfl) ⟨40 + 3 * i4, 2, _, _, wx_line hi4, rfl, rfl⟩ dX1_same_135 (fun q10 h => ?_)
  refine zg_aload_n hO 0 dX1_same_138 rfl rfl ?_
  refine xG_1_154 hO hX dX1_same_139 ?_
  refine zg_aload_n hO 0 dX1_same_142 rfl rfl ?_
  refine xG_1_151 hO hX dX1_same_143 ?_
  refine zg_chk h (fun hp h => ?_)
  refine zy_callPi (As := [.ref (ad 1)]) (rest := []) hO hX h hp (fun q hq => m_Xp_isLike l D dA G tb ad hq) mw_X2_isLikef mw_X2_isLiket q1388 ⟨Nat.le_of_ble_eq_true rfl, Nat.le_of_ble_eq_true rfl⟩ huv rfl rfl (Nat.le_of_ble_eq_true rfl) dX1_same_146 (fun q11 h => ?_)
  refine zg_istore (lv' := [(7, .int q11.1), (0, .ref (G 0)), (1, .int x1), (2, .int x2), (3, .ref (G (48 + 3 * i3))), (4, .ref (G (48 + 3 * i4))), (5, .int x5), (6, .int x6)]) hO dX1_same_149 (Nat.le_of_ble_eq_true rfl) rfl ?_
  refine zg_aload_n hO 1 dX1_same_151 rfl rfl ?_
  refine zy_callVvF (b := G 0) (As := []) (rest := []) hO hX h (fun q hq => m_X_begins l D dA G tb ad hq) mw_X1_begins q1637 ⟨Nat.le_of_ble_eq_true rfl, Nat.le_of_ble_eq_true rfl⟩ huv rfl rfl (Nat.le_of_ble_eq_true rfl) ⟨0, 1, _, _, rfl, rfl, rfl⟩ dX1_same_152 (fun q12 h => ?_)
  refine zg_aload_n hO 1 dX1_same_155 rfl rfl ?_
  refine zg_iload_n hO 2 dX1_same_156 rfl rfl ?_
  refine zy_callViF (b := G 0) (As := [.int x1]) (rest := []) hO hX h (fun q hq => m_X_meets l D dA G tb ad hq) mw_X1_meets q1641 ⟨Nat.le_of_ble_eq_true rfl, Nat.le_of_ble_eq_true rfl⟩ huv rfl rfl (Nat.le_of_ble_eq_true rfl) ⟨0, 1, _, _, rfl, rfl, rfl⟩ dX1_same_157 (fun q13 h => ?_)
  refine zg_pop hO dX1_same_160 rfl ?_
  refine zg_iload_n hO 2 dX1_same_161 rfl rfl ?_
  refine zg_iload_n hO 3 dX1_same_162 rfl rfl ?_
  refine zg_icmp_ne (tgt := 171) hO h dX1_same_163 (by decide) (fun h => ?_) (fun h => ?_)
  · refine zg_aload_n hO 1 dX1_same_171 rfl rfl ?_
    refine zg_iload_n hO 3 dX1_same_172 rfl rfl ?_
    refine zy_callViF (b := G 0) (As := [.int x2]) (rest := []) hO hX h (fun q hq => m_X_meets l D dA G tb ad hq) mw_X1_meets q1641 ⟨Nat.le_of_ble_eq_true rfl, Nat.le_of_ble_eq_true rfl⟩ huv rfl rfl (Nat.le_of_ble_eq_true rfl) ⟨0, 1, _, _, rfl, rfl, rfl⟩ dX1_same_173 (fun q14 h => ?_)
    exact zg_sub [1, 7, 0] rfl (w_X_same_176 hO hX hr _ _ _ _ _ _ huv h)
  · refine zg_iload hO 6 dX1_same_166 rfl ?_
    refine zg_goto (tgt := 176) hO dX1_same_168 (by decide) ?_
    exact zg_sub [1, 7, 0] rfl (w_X_same_176 hO hX hr _ _ _ _ _ _ huv h)
set_option maxHeartbeats 4000000 in
theorem w_X_same_79 {tb : Nat} {ad : Nat → Nat} (hO : Ok p s m args meth c cX1_same RX1 9 D dA A) (hX : XK dA G A s) (hr : meth.sig.returnType = (some .int)) {ρ : Int32 × XS} : ∀ (n : Nat) (x1 : Int32) (x2 : Int32) (i3 : Nat) (i4 : Nat) (x5 : Int32) (x6 : Int32) (x7 : Int32) (σ : XS) (u : Nat) (v : Nat) (hi3 : i3 < 5) (hi4 : i4 < 5) (huv : u ≤ 12 ∧ v ≤ 300), X_same_79 n x1 x2 i3 i4 x5 x6 x7 σ u v = some ρ → Go p l e (rmG 45 12 300) s m args below meth c D A 9 (MQ below ((QgI D dA (fun _ : Unit => WX dA G tb ad ρ.2) ρ.1) A) args s 12 300 A) (WX dA G tb ad σ) u v 79 [(0, .ref (G 0)), (1, .int x1), (2, .int x2), (3, .ref (G (48 + 3 * i3))), (4, .ref (G (48 + 3 * i4))), (5, .int x5), (6, .int x6), (7, .int x7)] [] := by
  intro n
  induction n with
  | zero =>
    intro x1 x2 i3 i4 x5 x6 x7 σ u v hi3 hi4 huv h
    rw [X_same_79] at h
    cases h
  | succ n ih =>
    intro x1 x2 i3 i4 x5 x6 x7 σ u v hi3 hi4 huv h
    rw [X_same_79] at h
    refine zg_iload hO 7 dX1_same_79 rfl ?_
    refine zg_iload hO 5 dX1_same_81 rfl ?_
    refine zg_icmp_ge (tgt := 121) hO h dX1_same_83 (by decide) (fun h => ?_) (fun h => ?_)
    · exact zg_sub [0, 1, 2, 3, 4, 5, 6] rfl (w_X_same_121 hO hX hr _ _ _ _ _ _ _ _ _ hi3 hi4 huv h)
    · refine zg_iload hO 6 dX1_same_86 rfl ?_
      refine zg_if_eq (tgt := 121) hO h dX1_same_88 (by decide) (fun h => ?_) (fun h => ?_)
      · exact zg_sub [0, 1, 2, 3, 4, 5, 6] rfl (w_X_same_121 hO hX hr _ _ _ _ _ _ _ _ _ hi3 hi4 huv h)
      · refine zg_aload_n hO 0 dX1_same_91 rfl rfl ?_
        refine xG_1_170 hO hX dX1_same_92 ?_
        refine zg_iload hO 7 dX1_same_95 rfl ?_
        refine xL_row0 hO h dX1_same_97 (fun h => ?_)
        refine zg_aload_n hO 0 dX1_same_98 rfl rfl ?_
        refine xG_1_173 hO hX dX1_same_99 ?_
        refine zg_iload hO 7 dX1_same_102 rfl ?_
        refine xL_row1 hO h dX1_same_104 (fun h => ?_)
        refine zg_icmp_ne (tgt := 112) hO h dX1_same_105 (by decide) (fun h => ?_) (fun h => ?_)
        · refine zg_iconst hO dX1_same_112 ic0 ?_
          exact zg_sub [0, 1, 2, 3, 4, 5, 7] rfl (w_X_same_113 hO hX hr ih _ _ _ _ _ _ _ _ _ _ hi3 hi4 huv h)
        · refine zg_iconst hO dX1_same_108 ic1 ?_
          refine zg_goto (tgt := 113) hO dX1_same_109 (by decide) ?_
          exact zg_sub [0, 1, 2, 3, 4, 5, 7] rfl (w_X_same_113 hO hX hr ih _ _ _ _ _ _ _ _ _ _ hi3 hi4 huv h)
set_option maxHeartbeats 4000000 in
theorem w_X_same_74 {tb : Nat} {ad : Nat → Nat} (hO : Ok p s m args meth c cX1_same RX1 9 D dA A) (hX : XK dA G A s) (hr : meth.sig.returnType = (some .int)) {ρ : Int32 × XS} : ∀ (x1 : Int32) (x2 : Int32) (i3 : Nat) (i4 : Nat) (x5 : Int32) (y0 : Int32) (σ : XS) (u : Nat) (v : Nat) (hi3 : i3 < 5) (hi4 : i4 < 5) (huv : u ≤ 12 ∧ v ≤ 300), X_same_74 x1 x2 i3 i4 x5 y0 σ u v = some ρ → Go p l e (rmG 45 12 300) s m args below meth c D A 9 (MQ below ((QgI D dA (fun _ : Unit => WX dA G tb ad ρ.2) ρ.1) A) args s 12 300 A) (WX dA G tb ad σ) u v 74 [(0, .ref (G 0)), (1, .int x1), (2, .int x2), (3, .ref (G (48 + 3 * i3))), (4, .ref (G (48 + 3 * i4))), (5, .int x5)] [.int y0] := by
  intro x1 x2 i3 i4 x5 y0 σ u v hi3 hi4 huv h
  unfold X_same_74 at h
  refine zg_istore (lv' := [(6, .int y0), (0, .ref (G 0)), (1, .int x1), (2, .int x2), (3, .ref (G (48 + 3 * i3))), (4, .ref (G (48 + 3 * i4))), (5, .int x5)]) hO dX1_same_74 (Nat.le_of_ble_eq_true rfl) rfl ?_
  refine zg_iconst hO dX1_same_76 ic0 ?_
  refine zg_istore (lv' := [(7, .int (nI 0)), (6, .int y0), (0, .ref (G 0)), (1, .int x1), (2, .int x2), (3, .ref (G (48 + 3 * i3))), (4, .ref (G (48 + 3 * i4))), (5, .int x5)]) hO dX1_same_77 (Nat.le_of_ble_eq_true rfl) rfl ?_
  exact zg_sub [2, 3, 4, 5, 6, 7, 1, 0] rfl (w_X_same_79 hO hX hr _ _ _ _ _ _ _ _ _ _ _ hi3 hi4 huv h)
theorem mw_X1_same : MwX yX1_same cX1_same 9 (some .int) RX1 2 := ⟨by decide +kernel, q1634, q1635, q85, q1636⟩
set_option maxHeartbeats 4000000 in
theorem m_X_same (l : Launch) (D : va_G) (dA : Nat → ClassId) (G : Nat → Nat) {x1 : Int32} {x2 : Int32} {σ : XS} (tb : Nat) (ad : Nat → Nat) {ρ : Int32 × XS} (h : X_same x1 x2 σ = some ρ) : CtX l yX1_same (ws_ yX1_same cX1_same 9 (some .int)) 45 12 300 D dA G [.ref (G 0), .int x1, .int x2] (WX dA G tb ad σ) (QgI D dA (fun _ : Unit => WX dA G tb ad ρ.2) ρ.1) := by
  refine zx_start (cc := cX1_same) (nL := 9) (ret := (some .int)) (own := RX1) (by decide) rfl rfl (Nat.le_of_ble_eq_true rfl) (fun p e s m args below meth c A hO hX hr _ _ => ?_)
  unfold X_same at h
  refine zg_sub (lv' := [(0, .ref (G 0)), (1, .int x1), (2, .int x2)]) [0, 1, 2] rfl ?_
  refine zg_iload_n hO 1 dX1_same_0 rfl rfl ?_
  refine zs_calli (As := [.int x1]) (rest := []) hO h (fun q hq => m_X_isLine l D dA hq) mw_X1_isLine q1398 ⟨Nat.le_of_ble_eq_true rfl, Nat.le_of_ble_eq_true rfl⟩ ⟨Nat.zero_le _, Nat.zero_le _⟩ rfl rfl (Nat.le_of_ble_eq_true rfl) dX1_same_1 (fun q1 h => ?_)
  refine zg_if_eq (tgt := 14) hO h dX1_same_4 (by decide) (fun h => ?_) (fun h => ?_)
  · refine zg_iconst hO dX1_same_14 icm1 ?_
    exact zy_iretF hO hr h ⟨Nat.zero_le _, Nat.zero_le _⟩ dX1_same_15
  · refine zg_iload_n hO 2 dX1_same_7 rfl rfl ?_
    refine zs_calli (As := [.int x2]) (rest := []) hO h (fun q hq => m_X_isLine l D dA hq) mw_X1_isLine q1398 ⟨Nat.le_of_ble_eq_true rfl, Nat.le_of_ble_eq_true rfl⟩ ⟨Nat.zero_le _, Nat.zero_le _⟩ rfl rfl (Nat.le_of_ble_eq_true rfl) dX1_same_8 (fun q2 h => ?_)
    refine zg_if_ne (tgt := 16) hO h dX1_same_11 (by decide) (fun h => ?_) (fun h => ?_)
    · refine zg_aload_n hO 0 dX1_same_16 rfl rfl ?_
      refine xG_1_162 hO hX dX1_same_17 ?_
      refine zg_iload_n hO 1 dX1_same_20 rfl rfl ?_
      refine zy_lget (rest := []) hO hX h q1406 (Nat.le_of_ble_eq_true rfl) dX1_same_21 (fun hb3 h => ?_) ⟨Nat.zero_le _, Nat.zero_le _⟩
      refine zy_castL hO hb3 q231 dX1_same_26 ?_
      refine zg_astore_n (lv' := [(3, .ref (G (48 + 3 * x1.toNatClampNeg))), (0, .ref (G 0)), (1, .int x1), (2, .int x2)]) hO dX1_same_29 rfl (Nat.le_of_ble_eq_true rfl) rfl ?_
      refine zg_aload_n hO 1 dX1_same_30 rfl rfl ?_
      refine xG_1_162 hO hX dX1_same_31 ?_
      refine zg_iload_n hO 3 dX1_same_34 rfl rfl ?_
      refine zy_lget (rest := []) hO hX h q1406 (Nat.le_of_ble_eq_true rfl) dX1_same_35 (fun hb4 h => ?_) ⟨Nat.zero_le _, Nat.zero_le _⟩
      refine zy_castL hO hb4 q231 dX1_same_40 ?_
      refine zg_astore (lv' := [(4, .ref (G (48 + 3 * x2.toNatClampNeg))), (3, .ref (G (48 + 3 * x1.toNatClampNeg))), (0, .ref (G 0)), (1, .int x1), (2, .int x2)]) hO dX1_same_43 (Nat.le_of_ble_eq_true rfl) rfl ?_
      refine zg_aload_n hO 1 dX1_same_45 rfl rfl ?_
      refine zg_aload_n hO 2 dX1_same_46 rfl rfl ?_
      refine xG_1_170 hO hX dX1_same_47 ?_
      refine zg_chk h (fun hc6 h => ?_)
      refine zy_callViF (b := G (48 + 3 * x1.toNatClampNeg)) (As := [.ref (G 63)]) (rest := []) hO hX h (fun q hq => m_Xl_lay_r0 l D dA G hb3 tb ad hq) mw_X3_lay q1438 ⟨Nat.le_of_ble_eq_true rfl, Nat.le_of_ble_eq_true rfl⟩ hc6 rfl rfl (Nat.le_of_ble_eq_true rfl) ⟨40 + 3 * x1.toNatClampNeg, 2, _, _, wx_line hb3, rfl, rfl⟩ dX1_same_50 (fun q5 h => ?_)
      refine zg_istore (lv' := [(5, .int q5.1), (4, .ref (G (48 + 3 * x2.toNatClampNeg))), (3, .ref (G (48 + 3 * x1.toNatClampNeg))), (0, .ref (G 0)), (1, .int x1), (2, .int x2)]) hO dX1_same_53 (Nat.le_of_ble_eq_true rfl) rfl ?_
      refine zg_aload hO 1 dX1_same_55 rfl ?_
      refine zg_aload_n hO 3 dX1_same_57 rfl rfl ?_
      refine xG_1_173 hO hX dX1_same_58 ?_
      refine zg_chk h (fun hc8 h => ?_)
      refine zy_callViF (b := G (48 + 3 * x2.toNatClampNeg)) (As := [.ref (G 64)]) (rest := []) hO hX h (fun q hq => m_Xl_lay_r1 l D dA G hb4 tb ad hq) mw_X3_lay q1438 ⟨Nat.le_of_ble_eq_true rfl, Nat.le_of_ble_eq_true rfl⟩ hc8 rfl rfl (Nat.le_of_ble_eq_true rfl) ⟨40 + 3 * x2.toNatClampNeg, 2, _, _, wx_line hb4, rfl, rfl⟩ dX1_same_61 (fun q7 h => ?_)
      refine zg_iload hO 0 dX1_same_64 rfl ?_
      refine zg_icmp_ne (tgt := 73) hO h dX1_same_66 (by decide) (fun h => ?_) (fun h => ?_)
      · refine zg_iconst hO dX1_same_73 ic0 ?_
        exact zg_sub [3, 4, 5, 2, 1, 0] rfl (w_X_same_74 hO hX hr _ _ _ _ _ _ _ _ _ hb3 hb4 hc8 h)
      · refine zg_iconst hO dX1_same_69 ic1 ?_
        refine zg_goto (tgt := 74) hO dX1_same_70 (by decide) ?_
        exact zg_sub [3, 4, 5, 2, 1, 0] rfl (w_X_same_74 hO hX hr _ _ _ _ _ _ _ _ _ hb3 hb4 hc8 h)
    · refine zg_iconst hO dX1_same_14 icm1 ?_
      exact zy_iretF hO hr h ⟨Nat.zero_le _, Nat.zero_le _⟩ dX1_same_15
end ZXW
