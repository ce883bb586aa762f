set_option maxRecDepth 100000
/-! changes, slips, drops -/
theorem its_take {L : LC} {l i : Nat} (h : i ≤ (L l 0).length) : (itm (L l 0)).take i = (itemsOf L l).take i := by
  unfold itemsOf
  rw [List.take_append_of_le_length (by rw [itm_len]; exact h)]
theorem its_drop {L : LC} {l p : Nat} (h : p ≤ (L l 1).length) : ((itm (L l 1)).take p).reverse = (itemsOf L l).drop (szL L l - p) := by
  have e0 := itm_len (L l 0)
  have e1 := itm_len (L l 1)
  unfold itemsOf szL
  rw [List.drop_append, List.drop_of_length_le (by omega), List.nil_append, e0, List.drop_reverse, e1]
  congr 2; omega
theorem X_alters_F {ρ : RC} {L : LC} {w l i g c v : Nat} {reb : Int32} {Z : ZZ} {σ : XS} (hR : RV ρ) (hl : l < 4) (hg : g < 2) (hc : c < 2) (hv : v ≤ 9999) (hi : i < (L l 0).length) (hs : szL L l + c ≤ 64 + g) (hX : XR 4 ρ L w reb Z σ) (hL : LOK 4 L (xN σ) w) : ∃ σ', Xl_alters l (nI i) (nI g) (nI c) (nI v) σ = some (if g = 0 then (-1 : Int32) else nI ((itemsOf L l).getD i 0), σ') ∧ XR 4 ρ (altL L l 0 (i + g) (xN σ) w ((if c = 1 then [v] else []) ++ ((itemsOf L l).take i).reverse)) (w + c + i) reb Z σ' ∧ xN σ' = xN σ + c + i := by
  have hs0 : szL L l ≤ 64 := hL.2.1 l hl
  have hs1 : (L l 0).length + (L l 1).length ≤ 64 := hs0
  have l0 : xA σ (5 + l) 0 = nI (L l 0).length := (hX.2.2.2.2.2.1 l 0 hl (by decide)).1
  obtain ⟨σ', q1, q2, q3⟩ := X_alt34 (place := i) hR hl (e := 0) (by decide) hg hc hv (by omega) hs hX hL
  rw [its_take (by omega)] at q2
  refine ⟨σ', ?_, q2, q3⟩
  have hit : (itm (L l 0)).getD i 0 = (itemsOf L l).getD i 0 := by
    unfold itemsOf; rw [gD_l (by rw [itm_len]; exact hi)]
  rw [← hit, ← q1]
  unfold Xl_alters Xl_endOf
  rw [if_neg (e2i (by decide)), e2 (by decide), l0, if_neg (nI_ge hi (by omega)), obs]
  exact if_pos rfl
theorem X_alters_B {ρ : RC} {L : LC} {w l i g c v : Nat} {reb : Int32} {Z : ZZ} {σ : XS} (hR : RV ρ) (hl : l < 4) (hg : g < 2) (hc : c < 2) (hv : v ≤ 9999) (hi : (L l 0).length ≤ i) (hi2 : i + g ≤ szL L l) (hs : szL L l + c ≤ 64 + g) (hX : XR 4 ρ L w reb Z σ) (hL : LOK 4 L (xN σ) w) : ∃ σ', Xl_alters l (nI i) (nI g) (nI c) (nI v) σ = some (if g = 0 then (-1 : Int32) else nI ((itemsOf L l).getD i 0), σ') ∧ XR 4 ρ (altL L l 1 (szL L l - i) (xN σ) w ((if c = 1 then [v] else []) ++ (itemsOf L l).drop (i + g))) (w + c + (szL L l - i - g)) reb Z σ' ∧ xN σ' = xN σ + c + (szL L l - i - g) := by
  have hs0 : szL L l ≤ 64 := hL.2.1 l hl
  have hs1 : (L l 0).length + (L l 1).length ≤ 64 := hs0
  have hsz : szL L l = (L l 0).length + (L l 1).length := rfl
  have l0 : xA σ (5 + l) 0 = nI (L l 0).length := (hX.2.2.2.2.2.1 l 0 hl (by decide)).1
  obtain ⟨σ', q1, q2, q3⟩ := X_alt34 (place := szL L l - i - g) hR hl (e := 1) (by decide) hg hc hv (by omega) hs hX hL
  rw [its_drop (by omega), show szL L l - (szL L l - i - g) = i + g by omega, show szL L l - i - g + g = szL L l - i by omega] at q2
  refine ⟨σ', ?_, q2, q3⟩
  have hit : (if g = 0 then (-1 : Int32) else nI ((itm (L l 1)).getD (szL L l - i - g) 0)) = if g = 0 then (-1 : Int32) else nI ((itemsOf L l).getD i 0) := by
    rcases (show g = 0 ∨ g = 1 by omega) with rfl | rfl
    · rfl
    · rw [if_neg (by decide), if_neg (by decide), items_at L l i (by omega), itm_getD]
      unfold cellAt
      rw [if_neg (by omega), show szL L l - i - 1 = (L l 1).length - 1 - (i - (L l 0).length) by omega]
  rw [← hit, ← q1]
  unfold Xl_alters Xl_endOf Xl_alters_33
  rw [if_neg (e2i (by decide)), e2 (by decide), l0, if_pos (nI_le hi (by omega)), obs]
  show (if nI 1 = 0 then _ else ((Xl_size l σ).bind fun q2 => (if nI g = 0 then Xl_alters_34 l (nI g) (nI c) (nI v) (nI 1) (q2.1 - nI 1 - nI i + nI 1) q2.2 0 0 else Xl_alters_34 l (nI g) (nI c) (nI v) (nI 1) (q2.1 - nI 1 - nI i + nI 0) q2.2 0 0))) = _
  rw [if_neg (by decide), X_sz hX hl, obs]
  rcases (show g = 0 ∨ g = 1 by omega) with rfl | rfl
  · rw [if_pos (show nI 0 = 0 from rfl)]
    by_cases hlast : i = szL L l
    · have : nI (szL L l) - nI 1 - nI i + nI 1 = nI (szL L l - i - 0) := by
        rw [hlast, Nat.sub_self]
        generalize nI (szL L l) = a
        rw [Int32.sub_eq_add_neg, Int32.sub_eq_add_neg, Int32.add_assoc, Int32.add_comm (-a), ← Int32.add_assoc, Int32.add_assoc a, Int32.add_left_neg, Int32.add_zero, Int32.add_right_neg]; rfl
      rw [this]
    · rw [pk_sub (by omega), pk_sub (by omega), nI_add, show szL L l - 1 - i + 1 = szL L l - i - 0 by omega]
  · rw [if_neg (show ¬ nI 1 = 0 by decide), pk_sub (by omega), pk_sub (by omega), nI_add, show szL L l - 1 - i + 0 = szL L l - i - 1 by omega]
theorem X_tellsWork_ok {k : Nat} {ρ : RC} {L : LC} {w had : Nat} {reb : Int32} {Z : ZZ} {σ : XS} (h : XR k ρ L w reb Z σ) (hw : had ≤ w) : ∃ σ', X_tellsWork (lN had) σ = some σ' ∧ XR k ρ L w reb (zr Z [lN (w - had)]) σ' ∧ xN σ' = xN σ := by
  obtain ⟨t1, t2⟩ := X_tells_ok (X_reset h) (r := []) (by decide) (lN (w - had))
  refine ⟨_, ?_, t2, rfl⟩
  unfold X_tellsWork
  rw [show xL (zI σ 5 (nI 0)) 0 = lN w from h.work, lN_sub hw, t1]; rfl
theorem M_tellsWork_ok {k : Nat} {ρ : RC} {L : LC} {w had : Nat} {reb r : Int32} {Z : ZZ} {μ : MS} (h : MR k ρ L w reb Z μ) (hw : had ≤ w) (hb : w - had < 2 ^ 31) : ∃ μ', M_tellsWork (nI had) r μ = some (r, μ') ∧ MR k ρ L w reb (zr Z [lN (w - had)]) μ' := by
  obtain ⟨t1, t2⟩ := M_enters_ok (M_reset h) (r := []) (by decide) (lN (w - had))
  refine ⟨_, ?_, t2⟩
  unfold M_tellsWork
  rw [show gI (sI μ 1 (nI 0)) 8 = nI w from h.work, pk_sub hw, nI_l hb, t1]; rfl
/-- the component's part of an op that alters and tells the work -/
theorem altX_tell {ρ : RC} {L' : LC} {w w' : Nat} {reb : Int32} {Z : ZZ} {σ' : XS} {n : Nat} (hR : RV ρ) (hZ : ZW Z) (hw : w ≤ 8000 * n) (hr : Z.2.2.2 ≤ n) (hL' : LOK 4 L' (xN σ') w') (hX' : XR 4 ρ L' w' reb Z σ') (h1 : w ≤ w') (h2 : w' ≤ w + 80) : ∃ σ2, X_tellsWork (lN w) σ' = some σ2 ∧ xN σ2 = xN σ' ∧ XR 4 ρ L' w' reb (zr Z [lN (w' - w)]) σ2 ∧ ∀ μ', MR 4 ρ L' w' reb (zr Z [lN (w' - w)]) μ' → RR (n + 1) σ2 μ' := by
  obtain ⟨σ2, t1, t2, t3⟩ := X_tellsWork_ok hX' h1
  exact ⟨σ2, t1, t3, t2, fun μ' hM => ⟨ρ, L', w', reb, _, hR, by rw [t3]; exact hL', hZ.row (r := [lN (w' - w)]) (by show 1 ≤ 128; decide), t2, hM, by omega, by show Z.2.2.2 ≤ n + 1; omega⟩⟩
theorem gA_items {ν : MS} {g : Nat → Int32} {its : List Nat} : ∀ t, t < its.length → gA (mX ν 8 (wr g 0 its)) 8 t = nI (its.getD t 0) := fun t ht => by rw [mX_A]; exact wr_at _ _ ht
theorem its_put {its : List Nat} {i v t : Nat} (hi : i ≤ its.length) (h : t < (its.take i ++ [v]).length) : (its.take i ++ [v]).getD t 0 = if t = i then v else its.getD t 0 := by
  have hl : (its.take i).length = i := by rw [List.length_take]; omega
  rw [List.length_append, hl] at h
  have h : t < i + 1 := h
  by_cases ht : t = i
  · rw [if_pos ht, gD_r (by omega), hl, ht, Nat.sub_self]; rfl
  · rw [if_neg ht, gD_l (by omega), getD_take (by omega)]
theorem cons_getD {v : Nat} {vs : List Nat} {j : Nat} : (v :: vs).getD j 0 = if j = 0 then v else vs.getD (j - 1) 0 := by
  cases j with
  | zero => rfl
  | succ j => rw [if_neg (by omega)]; rfl
theorem getD_drop {its : List Nat} {i j : Nat} : (its.drop i).getD j 0 = its.getD (i + j) 0 := by
  rw [List.getD_eq_getElem?_getD, List.getElem?_drop, List.getD_eq_getElem?_getD]
theorem M_isAt_ok {k : Nat} {ρ : RC} {L : LC} {w l : Nat} {reb r x : Int32} {Z : ZZ} {μ : MS} (h : MR k ρ L w reb Z μ) (hk5 : k ≤ 5) (hl : l < k) (hr : r = nI 0 ∨ r = nI 1) (q : X_in x.toInt64 (lN 0) (nI (szL L l) - nI 1).toInt64 = some r) : M_isAt (nI l) x μ = some (r, μ) := by
  unfold M_isAt
  rw [M_size_ok h hk5 hl, obs, M_in_eq, q, obs, if_pos (show r = 0 ∨ r = 1 from hr)]
/-- changes: what the twin does once the place is known -/
theorem M_changes_st {ρ : RC} {L : LC} {w pn l i v : Nat} {reb was : Int32} {Z : ZZ} {μ : MS} (hR : RV ρ) (hl : l < 4) (hv : v ≤ 9999) (hM : MR 4 ρ L w reb Z μ) (hL : LOK 4 L pn w) (h3 : 3 ≤ pn) (hi : i < szL L l) : ∃ μ', (i < (L l 0).length → M_changes_117 (nI l) (nI i) was (nI w) (nI (szL L l)) (nI (L l 0).length) (sA (sA (mX μ 8 (wr (gA μ 8) 0 (itemsOf L l))) 8 i (nI v)) 5 (2 * l) (nI (L l 0).length - nI 1 - nI i)) = some (was, μ') ∧ MR 4 ρ (altL L l 0 (i + 1) pn w ([v] ++ ((itemsOf L l).take i).reverse)) (w + 1 + i) reb (zr Z [lN (w + 1 + i - w)]) μ') ∧ ((L l 0).length ≤ i → M_changes_117 (nI l) (nI i) was (nI w) (nI (szL L l)) (nI (L l 0).length) (sA (sA (mX μ 8 (wr (gA μ 8) 0 (itemsOf L l))) 8 i (nI v)) 5 (2 * l + 1) (nI i - nI (L l 0).length)) = some (was, μ') ∧ MR 4 ρ (altL L l 1 (szL L l - i) pn w ([v] ++ (itemsOf L l).drop (i + 1))) (w + 1 + (szL L l - i - 1)) reb (zr Z [lN (w + 1 + (szL L l - i - 1) - w)]) μ') := by
  obtain ⟨h64, h9, hs64⟩ := its9 hL hl
  have hil := items_len L l
  have hsz : szL L l = (L l 0).length + (L l 1).length := rfl
  have hM1 : MR 4 ρ L w reb Z (sA (mX μ 8 (wr (gA μ 8) 0 (itemsOf L l))) 8 i (nI v)) := (hM.q (MU.mX μ (by decide) _)).q (MU.sA _ (by decide) _ _)
  have hread : ∀ t, t < szL L l → gA (sA (mX μ 8 (wr (gA μ 8) 0 (itemsOf L l))) 8 i (nI v)) 8 t = nI (if t = i then v else (itemsOf L l).getD t 0) := fun t ht => by
    rw [gA_sA, if_pos (show (8 : Nat) = 8 from rfl)]
    by_cases hh : t = i
    · rw [if_pos hh, if_pos hh]
    · rw [if_neg hh, if_neg hh]; exact gA_items t (by omega)
  generalize sA (mX μ 8 (wr (gA μ 8) 0 (itemsOf L l))) 8 i (nI v) = ν at hM1 hread
  by_cases hc : i < (L l 0).length
  · have hlt : ((itemsOf L l).take i ++ [v]).length = i + 1 := by rw [List.length_append, List.length_take, hil, Nat.min_eq_left (by omega)]; rfl
    obtain ⟨μ1, q1, q2⟩ := M_alt_f (m := i + 1) (n := szL L l) hR hl ((itemsOf L l).take i ++ [v]) (by omega) (fun x hx => by
      rcases List.mem_append.mp hx with hx | hx
      · exact h9 x (List.mem_of_mem_take hx)
      · rw [List.mem_singleton.mp hx]; exact hv) (by omega) (by omega) hM1 hL h3 (fun t ht => by rw [its_put (by omega) ht]; exact hread t (by omega))
    rw [hlt, m1_s] at q1
    rw [hlt, List.reverse_append] at q2
    obtain ⟨μ2, t1, t2⟩ := M_tellsWork_ok (r := was) q2 (show w ≤ w + (i + 1) by omega) (by omega)
    refine ⟨μ2, fun _ => ⟨?_, ?_⟩, fun z => absurd hc (by omega)⟩
    · unfold M_changes_117 M_changes_130
      rw [if_neg (nI_ge hc (by omega)), pk_sub (by omega), pk_sub (by omega), show (L l 0).length - 1 - i = (L l 0).length - (i + 1) by omega, q1, obs, t1]; rfl
    · rw [show w + 1 + i = w + (i + 1) by omega]; exact t2
  · have hlt : (v :: (itemsOf L l).drop (i + 1)).length = szL L l - i := by rw [List.length_cons, List.length_drop, hil]; omega
    obtain ⟨μ1, q1, q2⟩ := M_alt_b (m := szL L l - i) (i := i) (n := szL L l) hR hl (v :: (itemsOf L l).drop (i + 1)) (by omega) (by omega) (fun x hx => by
      rcases List.mem_cons.mp hx with rfl | hx
      · exact hv
      · exact h9 x (List.mem_of_mem_drop hx)) (by omega) (by omega) hM1 hL h3 (fun j hj => by
        rw [cons_getD, hread (i + j) (by omega)]
        by_cases hh : j = 0
        · rw [if_pos (by omega), if_pos hh]
        · rw [if_neg (by omega), if_neg hh, getD_drop, show i + 1 + (j - 1) = i + j by omega])
    rw [hlt] at q2
    obtain ⟨μ2, t1, t2⟩ := M_tellsWork_ok (r := was) q2 (show w ≤ w + (szL L l - i) by omega) (by omega)
    refine ⟨μ2, fun z => absurd z hc, fun _ => ⟨?_, ?_⟩⟩
    · unfold M_changes_117 M_changes_130
      rw [if_pos (nI_le (by omega) (by omega)), pk_sub (by omega), show i - (L l 0).length = (L l 1).length - (szL L l - i) by omega, q1, obs, t1]; rfl
    · rw [show w + 1 + (szL L l - i - 1) = w + (szL L l - i) by omega]; exact t2
theorem M_changes_run {ρ : RC} {L : LC} {w pn l i v : Nat} {reb : Int32} {Z : ZZ} {μ : MS} (hR : RV ρ) (hl : l < 4) (hM : MR 4 ρ L w reb Z (sI μ 0 (nI 0))) (hL : LOK 4 L pn w) (hi : i < szL L l) (b1 : M_isLine (nI l) = some (nI 1)) (b2 : M_isItem (nI v) = some (nI 1)) (q : X_in (nI i).toInt64 (lN 0) (nI (szL L l) - nI 1).toInt64 = some (nI 1)) (hne : ¬ nI ((itemsOf L l).getD i 0) = nI v) : M_changes (nI l) (nI i) (nI v) μ = if (L l 0).length ≤ i then M_changes_117 (nI l) (nI i) (nI ((itemsOf L l).getD i 0)) (nI w) (nI (szL L l)) (nI (L l 0).length) (sA (sA (mX (sI μ 0 (nI 0)) 8 (wr (gA (sI μ 0 (nI 0)) 8) 0 (itemsOf L l))) 8 i (nI v)) 5 (2 * l + 1) (nI i - nI (L l 0).length)) else M_changes_117 (nI l) (nI i) (nI ((itemsOf L l).getD i 0)) (nI w) (nI (szL L l)) (nI (L l 0).length) (sA (sA (mX (sI μ 0 (nI 0)) 8 (wr (gA (sI μ 0 (nI 0)) 8) 0 (itemsOf L l))) 8 i (nI v)) 5 (2 * l) (nI (L l 0).length - nI 1 - nI i)) := by
  have hs64 : szL L l ≤ 64 := hL.2.1 l hl
  have hs1 : (L l 0).length + (L l 1).length ≤ 64 := hs64
  have f0 : gA (sI μ 0 (nI 0)) 5 (2 * l) = nI (L l 0).length := (hM.2.2.2.2 l 0 hl (by decide)).1
  have f0' : gA (mX (sI μ 0 (nI 0)) 8 (wr (gA (sI μ 0 (nI 0)) 8) 0 (itemsOf L l))) 5 (2 * l) = nI (L l 0).length := f0
  have v1 : gI (sI μ 0 (nI 0)) 8 = nI w := hM.work
  have c0' : (nI (2 * l)).toNatClampNeg = 2 * l := nI_clamp (by omega)
  have c1 : (nI (2 * l + 1)).toNatClampNeg = 2 * l + 1 := nI_clamp (by omega)
  have d0 : ¬ (nI (2 * l) < 0 ∨ 10 ≤ 2 * l) := nI_dn (by omega) (by decide)
  have d1 : ¬ (nI (2 * l + 1) < 0 ∨ 10 ≤ 2 * l + 1) := nI_dn (by omega) (by decide)
  have ci : (nI i).toNatClampNeg = i := nI_clamp (by omega)
  have di : ¬ (nI i < 0 ∨ 65 ≤ i) := nI_dn (by omega) (by decide)
  unfold M_changes
  rw [b1, obs, if_neg (show ¬ nI 1 = 0 by decide), b2, obs, if_neg (show ¬ nI 1 = 0 by decide), M_isAt_ok hM (by decide) hl (.inr rfl) q, obs, if_neg (show ¬ nI 1 = 0 by decide), M_itemAt_ok hM hL (by decide) hl hi, obs, if_neg hne, M_items_ok hM hL (by decide) hl, obs, pk_mul, nI_add, c0', c1, ci, if_neg d0, if_neg di, f0', if_neg d1, if_neg d0, v1]
  by_cases hc : (L l 0).length ≤ i
  · rw [if_pos hc, if_pos (nI_le hc (by omega))]
  · rw [if_neg hc, if_neg (nI_ge (by omega) (by omega))]
theorem X_changes_run {σ σ1 σ2 σ3 : XS} {l i v s w : Nat} {a : Nat} (hl : l < 4) (hi : i < 64) (a1 : X_isLine (nI l) = some (nI 1)) (a2 : X_isItem (nI v) = some (nI 1)) (s1 : Xl_size l σ = some (nI s, σ)) (q : X_in (nI i).toInt64 (lN 0) (nI s - nI 1).toInt64 = some (nI 1)) (p1 : Xl_lay_r0 l σ = some (nI s, σ1)) (hr : xA σ1 3 i = nI a) (hne : ¬ nI a = nI v) (hw : xL σ1 0 = lN w) (p2 : Xl_alters l (nI i) (nI 1) (nI 1) (nI v) σ1 = some (nI a, σ2)) (p3 : X_tellsWork (lN w) σ2 = some σ3) : X_changes (nI l) (nI i) (nI v) σ = some (nI a, σ3) := by
  have cl : (nI l).toNatClampNeg = l := nI_clamp (by omega)
  have dl : ¬ (nI l < 0 ∨ 4 ≤ l) := by rw [zN_lt0 (by omega), false_or]; omega
  have ci : (nI i).toNatClampNeg = i := nI_clamp (by omega)
  have di : ¬ (nI i < 0 ∨ 64 ≤ i) := nI_dn (by omega) (by decide)
  unfold X_changes
  rw [a1, obs, if_neg (show ¬ nI 1 = 0 by decide), a2, obs, if_neg (show ¬ nI 1 = 0 by decide), if_neg (by rw [cl]; exact dl), cl, s1, obs, q, obs, if_neg (show ¬ nI 1 = 0 by decide), if_pos ⟨by decide, by decide⟩, p1, obs, ci, if_neg di, hr, if_neg hne, if_pos ⟨by decide, by decide⟩, p2, obs, hw, p3, obs]
theorem E_changes_ok (n : Nat) : E_changes (RR n) (RR (n + 1)) := by
  intro σ μ x1 x2 x3 h
  have h0 := h.stay (nI 0)
  obtain ⟨ρ, L, w, reb, Z, hR, hL, hZ, hX, hM, hw, hr⟩ := h
  have hM0 := hM.q (MU.sI μ (k := 0) (.inl rfl) (nI 0))
  rcases isL x1 with ⟨a1, b1⟩ | ⟨l, hl, rfl, a1, b1⟩
  · exact ⟨-1, σ, _, by unfold X_changes; simp only [a1, obs, n10, n00, n20, if_false, if_true, and_self, Nat.reduceAdd, Nat.reduceLeDiff], by unfold M_changes; simp only [b1, obs, n10, n00, n20, if_false, if_true, and_self, Nat.reduceAdd, Nat.reduceLeDiff], h0⟩
  rcases isI x3 with ⟨a2, b2⟩ | ⟨v, hv, rfl, a2, b2⟩
  · exact ⟨-1, σ, _, by unfold X_changes; simp only [a1, a2, obs, n10, n00, n20, if_false, if_true, and_self, Nat.reduceAdd, Nat.reduceLeDiff], by unfold M_changes; simp only [b1, b2, obs, n10, n00, n20, if_false, if_true, and_self, Nat.reduceAdd, Nat.reduceLeDiff], h0⟩
  have cl : (nI l).toNatClampNeg = l := nI_clamp (by omega)
  have dl : ¬ (nI l < 0 ∨ 4 ≤ l) := by rw [zN_lt0 (by omega), false_or]; omega
  obtain ⟨h64, h9, hs64⟩ := its9 hL hl
  have hil := items_len L l
  have hsz : szL L l = (L l 0).length + (L l 1).length := rfl
  have s1 := X_sz hX hl
  have s2 := M_size_ok hM0 (by decide) hl
  rcases at_cases x2 (szL L l) (by omega) with q | ⟨i, hi, rfl, q⟩
  · have m3 := M_isAt_ok hM0 (by decide) hl (.inl rfl) q
    exact ⟨-2, σ, _, by unfold X_changes; simp only [a1, a2, cl, dl, s1, q, obs, n10, n00, n20, if_false, if_true, and_self, Nat.reduceAdd, Nat.reduceLeDiff], by unfold M_changes; simp only [b1, b2, m3, obs, n10, n00, n20, if_false, if_true, and_self, Nat.reduceAdd, Nat.reduceLeDiff], h0⟩
  obtain ⟨σ1, p1, p2, p3, p4, -⟩ := hX.lay0 hL hl
  have hit := p4 i (by omega)
  have m3 := M_isAt_ok hM0 (by decide) hl (.inr rfl) q
  have m4 := M_itemAt_ok hM0 hL (by decide) hl hi
  by_cases hv2 : nI ((itemsOf L l).getD i 0) = nI v
  · have hx : X_changes (nI l) (nI i) (nI v) σ = some (-4, σ1) := by
      have ci : (nI i).toNatClampNeg = i := nI_clamp (by omega)
      have di : ¬ (nI i < 0 ∨ 64 ≤ i) := nI_dn (by omega) (by decide)
      unfold X_changes
      rw [a1, obs, if_neg (show ¬ nI 1 = 0 by decide), a2, obs, if_neg (show ¬ nI 1 = 0 by decide), if_neg (by rw [cl]; exact dl), cl, s1, obs, q, obs, if_neg (show ¬ nI 1 = 0 by decide), if_pos ⟨by decide, by decide⟩, p1, obs, ci, if_neg di, hit, if_pos hv2]
    have hm : M_changes (nI l) (nI i) (nI v) μ = some (-4, sI μ 0 (nI 0)) := by
      unfold M_changes
      rw [b1, obs, if_neg (show ¬ nI 1 = 0 by decide), b2, obs, if_neg (show ¬ nI 1 = 0 by decide), m3, obs, if_neg (show ¬ nI 1 = 0 by decide), m4, obs, if_pos hv2]
    exact ⟨-4, σ1, _, hx, hm, RR.fin hR hL hZ hw hr hZ.2.2 p2 hM0 p3⟩
  · have hL1 : LOK 4 L (xN σ1) w := by rw [p3]; exact hL
    have hrun := M_changes_run hR hl hM0 hL1 hi b1 b2 q hv2
    obtain ⟨μ', mf, mb⟩ := M_changes_st (was := nI ((itemsOf L l).getD i 0)) hR hl hv hM0 hL1 p2.n3 hi
    by_cases hc : i < (L l 0).length
    · obtain ⟨σ2, k1, k2, k3⟩ := X_alters_F hR hl (g := 1) (c := 1) (by decide) (by decide) hv hc (by omega) p2 hL1
      have hk := altL_lok (vs := [v] ++ ((itemsOf L l).take i).reverse) hL1 p2.n3 hl (e := 0) (by decide) (m := i + 1) (by omega) (by simp; omega) (fun x hx => by
        rcases List.mem_append.mp hx with hx | hx
        · rw [List.mem_singleton.mp hx]; exact hv
        · exact h9 x (List.mem_of_mem_take (List.mem_reverse.mp hx)))
      have hlen : ([v] ++ ((itemsOf L l).take i).reverse).length = 1 + i := by simp; omega
      rw [hlen, ← Nat.add_assoc, ← Nat.add_assoc] at hk
      obtain ⟨σ3, t1, t2, t3, t4⟩ := altX_tell hR hZ hw hr (by rw [k3]; exact hk) k2 (by omega) (by omega)
      obtain ⟨m1, m2⟩ := mf hc
      rw [if_neg (by omega)] at hrun
      exact ⟨_, σ3, μ', X_changes_run hl (by omega) a1 a2 s1 q p1 hit hv2 p2.work k1 t1, hrun.trans m1, t4 μ' m2⟩
    · obtain ⟨σ2, k1, k2, k3⟩ := X_alters_B (i := i) hR hl (g := 1) (c := 1) (by decide) (by decide) hv (by omega) (by omega) (by omega) p2 hL1
      have hk := altL_lok (vs := [v] ++ (itemsOf L l).drop (i + 1)) hL1 p2.n3 hl (e := 1) (by decide) (m := szL L l - i) (by omega) (by simp; omega) (fun x hx => by
        rcases List.mem_append.mp hx with hx | hx
        · rw [List.mem_singleton.mp hx]; exact hv
        · exact h9 x (List.mem_of_mem_drop hx))
      have hlen : ([v] ++ (itemsOf L l).drop (i + 1)).length = 1 + (szL L l - i - 1) := by simp; omega
      rw [hlen, ← Nat.add_assoc, ← Nat.add_assoc] at hk
      obtain ⟨σ3, t1, t2, t3, t4⟩ := altX_tell hR hZ hw hr (by rw [k3]; exact hk) k2 (by omega) (by omega)
      obtain ⟨m1, m2⟩ := mb (by omega)
      rw [if_pos (by omega)] at hrun
      exact ⟨_, σ3, μ', X_changes_run hl (by omega) a1 a2 s1 q p1 hit hv2 p2.work k1 t1, hrun.trans m1, t4 μ' m2⟩
