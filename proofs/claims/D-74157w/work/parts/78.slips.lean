set_option maxRecDepth 100000
/-! slips, drops -/
/-- the row is shifted up above place i -/
theorem slip_shift {l i v n w : Nat} {μ : MS} (hn : n ≤ 64) : ∀ (d f k : Nat) (g : Nat → Int32), i + d = k → k ≤ n → d < f → ∃ g' f', (∀ t, g' t = if i < t ∧ t ≤ k then g (t - 1) else g t) ∧ M_slips_69 f (nI l) (nI i) (nI v) (nI n) (nI w) (nI k) (mX μ 8 g) = M_slips_69 (f' + 1) (nI l) (nI i) (nI v) (nI n) (nI w) (nI i) (mX μ 8 g') := by
  intro d
  induction d with
  | zero =>
    intro f k g hk hkn hf
    obtain ⟨f, rfl⟩ : ∃ z, f = z + 1 := ⟨f - 1, by omega⟩
    have : k = i := by omega
    subst this
    exact ⟨g, f, fun t => by rw [if_neg (by omega)], rfl⟩
  | succ d ih =>
    intro f k g hk hkn hf
    obtain ⟨f, rfl⟩ : ∃ z, f = z + 1 := ⟨f - 1, by omega⟩
    obtain ⟨g', f', h1, h2⟩ := ih f (k - 1) (upd g k (g (k - 1))) (by omega) (by omega) (by omega)
    refine ⟨g', f', fun t => ?_, ?_⟩
    · rw [h1]
      unfold upd
      by_cases c1 : i < t ∧ t ≤ k - 1
      · rw [if_pos c1, if_neg (by omega), if_pos (by omega)]
      · rw [if_neg c1]
        by_cases c2 : t = k
        · rw [if_pos c2, if_pos (by omega), c2]
        · rw [if_neg c2, if_neg (by omega)]
    · rw [← h2]
      have ck : (nI k).toNatClampNeg = k := nI_clamp (by omega)
      have ck1 : (nI (k - 1)).toNatClampNeg = k - 1 := nI_clamp (by omega)
      show (if nI k ≤ nI i then _ else (if (nI k - (nI 1)) < 0 ∨ 65 ≤ (nI k - (nI 1)).toNatClampNeg then none else (if nI k < 0 ∨ 65 ≤ (nI k).toNatClampNeg then none else M_slips_69 f (nI l) (nI i) (nI v) (nI n) (nI w) (nI k + (-1 : Int32)) (sA (mX μ 8 g) 8 (nI k).toNatClampNeg (gA (mX μ 8 g) 8 (nI k - (nI 1)).toNatClampNeg))))) = _
      rw [if_neg (nI_ge (by omega) (by omega)), m1_e, pk_sub (by omega), if_neg (nI_in (by omega) (by decide)), if_neg (nI_in (by omega) (by decide)), ck, ck1, mX_A, sA_mX]
/-- the row is shifted down onto place i -/
theorem drop_shift {l i n w f0 : Nat} {was : Int32} {μ : MS} (hn : n ≤ 64) : ∀ (d f k : Nat) (g : Nat → Int32), k + d + 1 = n → d < f → ∃ g' f', (∀ t, g' t = if k ≤ t ∧ t + 1 < n then g (t + 1) else g t) ∧ M_drops_59 f (nI l) (nI i) (nI w) was (nI n) (nI f0) (nI k) (mX μ 8 g) = M_drops_59 (f' + 1) (nI l) (nI i) (nI w) was (nI n) (nI f0) (nI (n - 1)) (mX μ 8 g') := by
  intro d
  induction d with
  | zero =>
    intro f k g hk hf
    obtain ⟨f, rfl⟩ : ∃ z, f = z + 1 := ⟨f - 1, by omega⟩
    have : k = n - 1 := by omega
    subst this
    exact ⟨g, f, fun t => by rw [if_neg (by omega)], rfl⟩
  | succ d ih =>
    intro f k g hk hf
    obtain ⟨f, rfl⟩ : ∃ z, f = z + 1 := ⟨f - 1, by omega⟩
    obtain ⟨g', f', h1, h2⟩ := ih f (k + 1) (upd g k (g (k + 1))) (by omega) (by omega)
    refine ⟨g', f', fun t => ?_, ?_⟩
    · rw [h1]
      unfold upd
      by_cases c1 : k + 1 ≤ t ∧ t + 1 < n
      · rw [if_pos c1, if_neg (by omega), if_pos (by omega)]
      · rw [if_neg c1]
        by_cases c2 : t = k
        · rw [if_pos c2, if_pos (by omega), c2]
        · rw [if_neg c2, if_neg (by omega)]
    · rw [← h2]
      have ck : (nI k).toNatClampNeg = k := nI_clamp (by omega)
      have ck1 : (nI (k + 1)).toNatClampNeg = k + 1 := nI_clamp (by omega)
      show (if nI n ≤ (nI k + (nI 1)) then _ else (if (nI k + (nI 1)) < 0 ∨ 65 ≤ (nI k + (nI 1)).toNatClampNeg then none else (if nI k < 0 ∨ 65 ≤ (nI k).toNatClampNeg then none else M_drops_59 f (nI l) (nI i) (nI w) was (nI n) (nI f0) (nI k + (nI 1)) (sA (mX μ 8 g) 8 (nI k).toNatClampNeg (gA (mX μ 8 g) 8 (nI k + (nI 1)).toNatClampNeg))))) = _
      rw [nI_add, if_neg (nI_ge (by omega) (by omega)), if_neg (nI_in (by omega) (by decide)), if_neg (nI_in (by omega) (by decide)), ck, ck1, mX_A, sA_mX]
/-- slips: the twin from the row at hand on -/
theorem M_slips_st {ρ : RC} {L : LC} {w pn l i v : Nat} {reb : Int32} {Z : ZZ} {μ : MS} (hR : RV ρ) (hl : l < 4) (hv : v ≤ 9999) (hM : MR 4 ρ L w reb Z μ) (hL : LOK 4 L pn w) (h3 : 3 ≤ pn) (hi : i ≤ szL L l) (hs : szL L l < 64) : ∃ μ', (i < (L l 0).length → M_slips_69 FU (nI l) (nI i) (nI v) (nI (szL L l)) (nI w) (nI (szL L l)) (mX μ 8 (wr (gA μ 8) 0 (itemsOf L l))) = some (nI (szL L l + 1), μ') ∧ MR 4 ρ (altL L l 0 i pn w ([v] ++ ((itemsOf L l).take i).reverse)) (w + 1 + i) reb (zr Z [lN (w + 1 + i - w)]) μ') ∧ ((L l 0).length ≤ i → M_slips_69 FU (nI l) (nI i) (nI v) (nI (szL L l)) (nI w) (nI (szL L l)) (mX μ 8 (wr (gA μ 8) 0 (itemsOf L l))) = some (nI (szL L l + 1), μ') ∧ MR 4 ρ (altL L l 1 (szL L l - i) pn w ([v] ++ (itemsOf L l).drop i)) (w + 1 + (szL L l - i)) reb (zr Z [lN (w + 1 + (szL L l - i) - w)]) μ') := by
  obtain ⟨h64, h9, hs64⟩ := its9 hL hl
  have hil := items_len L l
  have hsz : szL L l = (L l 0).length + (L l 1).length := rfl
  obtain ⟨g', f', h1, h2⟩ := slip_shift (l := l) (i := i) (v := v) (n := szL L l) (w := w) (μ := μ) hs64 (szL L l - i) FU (szL L l) (wr (gA μ 8) 0 (itemsOf L l)) (by omega) (Nat.le_refl _) (by unfold FU; omega)
  rw [h2]
  have hM1 : MR 4 ρ L w reb Z (sA (mX μ 8 g') 8 i (nI v)) := (hM.q (MU.mX μ (by decide) _)).q (MU.sA _ (by decide) _ _)
  have hread : ∀ t, t ≤ szL L l → gA (sA (mX μ 8 g') 8 i (nI v)) 8 t = nI (if t = i then v else if i < t then (itemsOf L l).getD (t - 1) 0 else (itemsOf L l).getD t 0) := fun t ht => by
    rw [gA_sA, if_pos (show (8 : Nat) = 8 from rfl)]
    by_cases hh : t = i
    · rw [if_pos hh, if_pos hh]
    · rw [if_neg hh, if_neg hh, mX_A, h1]
      by_cases c : i < t
      · rw [if_pos ⟨c, ht⟩, if_pos c]; exact wr_at _ _ (by omega)
      · rw [if_neg (fun z => c z.1), if_neg c]; exact wr_at _ _ (by omega)
  have l0 : gA (sA (mX μ 8 g') 8 i (nI v)) 5 (2 * l) = nI (L l 0).length := (hM.2.2.2.2 l 0 hl (by decide)).1
  have c0' : (nI (2 * l)).toNatClampNeg = 2 * l := nI_clamp (by omega)
  have c1 : (nI (2 * l + 1)).toNatClampNeg = 2 * l + 1 := nI_clamp (by omega)
  have d0 : ¬ (nI (2 * l) < 0 ∨ 10 ≤ 2 * l) := nI_dn (by omega) (by decide)
  have d1 : ¬ (nI (2 * l + 1) < 0 ∨ 10 ≤ 2 * l + 1) := nI_dn (by omega) (by decide)
  have ci : (nI i).toNatClampNeg = i := nI_clamp (by omega)
  have di : ¬ (nI i < 0 ∨ 65 ≤ i) := nI_dn (by omega) (by decide)
  have hst : M_slips_69 (f' + 1) (nI l) (nI i) (nI v) (nI (szL L l)) (nI w) (nI i) (mX μ 8 g') = if (L l 0).length ≤ i then M_slips_149 (nI l) (nI i) (nI (szL L l)) (nI w) (nI (L l 0).length) (sA (sA (mX μ 8 g') 8 i (nI v)) 5 (2 * l + 1) (nI i - nI (L l 0).length)) else M_slips_149 (nI l) (nI i) (nI (szL L l)) (nI w) (nI (L l 0).length) (sA (sA (mX μ 8 g') 8 i (nI v)) 5 (2 * l) (nI (L l 0).length - nI i)) := by
    show (if nI i ≤ nI i then (if nI i < 0 ∨ 65 ≤ (nI i).toNatClampNeg then none else (if ((nI 2) * nI l) < 0 ∨ 10 ≤ ((nI 2) * nI l).toNatClampNeg then none else (if (gA (sA (mX μ 8 g') 8 (nI i).toNatClampNeg (nI v)) 5 ((nI 2) * nI l).toNatClampNeg) ≤ nI i then (if (((nI 2) * nI l) + (nI 1)) < 0 ∨ 10 ≤ (((nI 2) * nI l) + (nI 1)).toNatClampNeg then none else M_slips_149 (nI l) (nI i) (nI (szL L l)) (nI w) (gA (sA (mX μ 8 g') 8 (nI i).toNatClampNeg (nI v)) 5 ((nI 2) * nI l).toNatClampNeg) (sA (sA (mX μ 8 g') 8 (nI i).toNatClampNeg (nI v)) 5 (((nI 2) * nI l) + (nI 1)).toNatClampNeg (nI i - (gA (sA (mX μ 8 g') 8 (nI i).toNatClampNeg (nI v)) 5 ((nI 2) * nI l).toNatClampNeg)))) else (if ((nI 2) * nI l) < 0 ∨ 10 ≤ ((nI 2) * nI l).toNatClampNeg then none else M_slips_149 (nI l) (nI i) (nI (szL L l)) (nI w) (gA (sA (mX μ 8 g') 8 (nI i).toNatClampNeg (nI v)) 5 ((nI 2) * nI l).toNatClampNeg) (sA (sA (mX μ 8 g') 8 (nI i).toNatClampNeg (nI v)) 5 ((nI 2) * nI l).toNatClampNeg ((gA (sA (mX μ 8 g') 8 (nI i).toNatClampNeg (nI v)) 5 ((nI 2) * nI l).toNatClampNeg) - nI i)))))) else _) = _
    rw [if_pos (nI_le (Nat.le_refl _) (by omega)), pk_mul, nI_add, c0', c1, ci, if_neg di, if_neg d0, l0, if_neg d1, if_neg d0]
    by_cases hc : (L l 0).length ≤ i
    · rw [if_pos hc, if_pos (nI_le hc (by omega))]
    · rw [if_neg hc, if_neg (nI_ge (by omega) (by omega))]
  rw [hst]
  generalize sA (mX μ 8 g') 8 i (nI v) = ν at hM1 hread
  by_cases hc : i < (L l 0).length
  · have hlt : ((itemsOf L l).take i ++ [v]).length = i + 1 := by rw [List.length_append, List.length_take, hil, Nat.min_eq_left (by omega)]; rfl
    obtain ⟨μ1, q1, q2⟩ := M_alt_f (m := i) (n := szL L l + 1) hR hl ((itemsOf L l).take i ++ [v]) (by omega) (fun x hx => by
      rcases List.mem_append.mp hx with hx | hx
      · exact h9 x (List.mem_of_mem_take hx)
      · rw [List.mem_singleton.mp hx]; exact hv) (by omega) (by omega) hM1 hL h3 (fun t ht => by
        rw [its_put (by omega) ht, hread t (by omega)]
        by_cases hh : t = i
        · rw [if_pos hh, if_pos hh]
        · rw [if_neg hh, if_neg hh, if_neg (by omega)])
    rw [hlt, m1_s] at q1
    rw [hlt, List.reverse_append] at q2
    obtain ⟨μ2, t1, t2⟩ := M_tellsWork_ok (r := nI (szL L l + 1)) q2 (show w ≤ w + (i + 1) by omega) (by omega)
    refine ⟨μ2, fun _ => ⟨?_, ?_⟩, fun z => absurd hc (by omega)⟩
    · rw [if_neg (by omega)]
      unfold M_slips_149 M_slips_162
      rw [if_neg (nI_ge hc (by omega)), pk_sub (by omega), nI_add, q1, obs, t1]; rfl
    · rw [show w + 1 + i = w + (i + 1) by omega]; exact t2
  · have hlt : (v :: (itemsOf L l).drop i).length = szL L l + 1 - i := by rw [List.length_cons, List.length_drop, hil]; omega
    obtain ⟨μ1, q1, q2⟩ := M_alt_b (m := szL L l - i) (i := i) (n := szL L l + 1) hR hl (v :: (itemsOf L l).drop i) (by omega) (by omega) (fun x hx => by
      rcases List.mem_cons.mp hx with rfl | hx
      · exact hv
      · exact h9 x (List.mem_of_mem_drop hx)) (by omega) (by omega) hM1 hL h3 (fun j hj => by
        rw [cons_getD, hread (i + j) (by omega)]
        by_cases hh : j = 0
        · rw [if_pos (by omega), if_pos hh]
        · rw [if_neg (by omega), if_neg hh, if_pos (by omega), getD_drop, show i + (j - 1) = i + j - 1 by omega])
    rw [hlt] at q2
    obtain ⟨μ2, t1, t2⟩ := M_tellsWork_ok (r := nI (szL L l + 1)) q2 (show w ≤ w + (szL L l + 1 - i) by omega) (by omega)
    refine ⟨μ2, fun z => absurd z hc, fun _ => ⟨?_, ?_⟩⟩
    · rw [if_pos (by omega)]
      unfold M_slips_149 M_slips_162
      rw [if_pos (nI_le (by omega) (by omega)), pk_sub (by omega), nI_add, show i - (L l 0).length = (L l 1).length - (szL L l - i) by omega, q1, obs, t1]; rfl
    · rw [show w + 1 + (szL L l - i) = w + (szL L l + 1 - i) by omega]; exact t2
theorem M_drops_st {ρ : RC} {L : LC} {w pn l i : Nat} {reb was : Int32} {Z : ZZ} {μ : MS} (hR : RV ρ) (hl : l < 4) (hM : MR 4 ρ L w reb Z μ) (hL : LOK 4 L pn w) (h3 : 3 ≤ pn) (hi : i < szL L l) : ∃ μ', (i < (L l 0).length → M_drops_59 FU (nI l) (nI i) (nI w) was (nI (szL L l)) (nI (L l 0).length) (nI i) (mX μ 8 (wr (gA μ 8) 0 (itemsOf L l))) = some (was, μ') ∧ MR 4 ρ (altL L l 0 (i + 1) pn w ((itemsOf L l).take i).reverse) (w + 0 + i) reb (zr Z [lN (w + 0 + i - w)]) μ') ∧ ((L l 0).length ≤ i → M_drops_59 FU (nI l) (nI i) (nI w) was (nI (szL L l)) (nI (L l 0).length) (nI i) (mX μ 8 (wr (gA μ 8) 0 (itemsOf L l))) = some (was, μ') ∧ MR 4 ρ (altL L l 1 (szL L l - i) pn w ((itemsOf L l).drop (i + 1))) (w + 0 + (szL L l - i - 1)) reb (zr Z [lN (w + 0 + (szL L l - i - 1) - w)]) μ') := by
  obtain ⟨h64, h9, hs64⟩ := its9 hL hl
  have hil := items_len L l
  have hsz : szL L l = (L l 0).length + (L l 1).length := rfl
  obtain ⟨g', f', h1, h2⟩ := drop_shift (l := l) (i := i) (n := szL L l) (w := w) (f0 := (L l 0).length) (was := was) (μ := μ) hs64 (szL L l - i - 1) FU i (wr (gA μ 8) 0 (itemsOf L l)) (by omega) (by unfold FU; omega)
  rw [h2]
  have hM1 : MR 4 ρ L w reb Z (mX μ 8 g') := hM.q (MU.mX μ (by decide) _)
  have hread : ∀ t, t + 1 < szL L l ∨ t < i → gA (mX μ 8 g') 8 t = nI (if t < i then (itemsOf L l).getD t 0 else (itemsOf L l).getD (t + 1) 0) := fun t ht => by
    rw [mX_A, h1]
    by_cases c : t < i
    · rw [if_neg (by omega), if_pos c]; exact wr_at _ _ (by omega)
    · rw [if_pos (by omega), if_neg c]; exact wr_at _ _ (by omega)
  have c0' : (nI (2 * l)).toNatClampNeg = 2 * l := nI_clamp (by omega)
  have c1 : (nI (2 * l + 1)).toNatClampNeg = 2 * l + 1 := nI_clamp (by omega)
  have d0 : ¬ (nI (2 * l) < 0 ∨ 10 ≤ 2 * l) := nI_dn (by omega) (by decide)
  have d1 : ¬ (nI (2 * l + 1) < 0 ∨ 10 ≤ 2 * l + 1) := nI_dn (by omega) (by decide)
  have hst : M_drops_59 (f' + 1) (nI l) (nI i) (nI w) was (nI (szL L l)) (nI (L l 0).length) (nI (szL L l - 1)) (mX μ 8 g') = if (L l 0).length ≤ i then ((M_makesAgain (nI l) (nI 0) (nI i) (nI (szL L l) - nI 1) (sA (mX μ 8 g') 5 (2 * l + 1) (nI i - nI (L l 0).length))).bind fun q5 => M_drops_151 (nI w) was q5) else ((M_makesAgain (nI l) (nI 1) (nI i - nI 1) (nI (szL L l) - nI 1) (sA (mX μ 8 g') 5 (2 * l) (nI (L l 0).length - nI 1 - nI i))).bind fun q6 => M_drops_151 (nI w) was q6) := by
    show (if nI (szL L l) ≤ (nI (szL L l - 1) + (nI 1)) then (if nI (L l 0).length ≤ nI i then (if (((nI 2) * nI l) + (nI 1)) < 0 ∨ 10 ≤ (((nI 2) * nI l) + (nI 1)).toNatClampNeg then none else ((M_makesAgain (nI l) (nI 0) (nI i) (nI (szL L l) - (nI 1)) (sA (mX μ 8 g') 5 (((nI 2) * nI l) + (nI 1)).toNatClampNeg (nI i - nI (L l 0).length))).bind fun q5 => M_drops_151 (nI w) was q5)) else (if ((nI 2) * nI l) < 0 ∨ 10 ≤ ((nI 2) * nI l).toNatClampNeg then none else ((M_makesAgain (nI l) (nI 1) (nI i - (nI 1)) (nI (szL L l) - (nI 1)) (sA (mX μ 8 g') 5 ((nI 2) * nI l).toNatClampNeg ((nI (L l 0).length - (nI 1)) - nI i))).bind fun q6 => M_drops_151 (nI w) was q6))) else _) = _
    rw [nI_add, if_pos (nI_le (by omega) (by omega)), pk_mul, nI_add, c0', c1, if_neg d0, if_neg d1]
    by_cases hc : (L l 0).length ≤ i
    · rw [if_pos hc, if_pos (nI_le hc (by omega))]
    · rw [if_neg hc, if_neg (nI_ge (by omega) (by omega))]
  rw [hst]
  generalize mX μ 8 g' = ν at hM1 hread
  by_cases hc : i < (L l 0).length
  · have hlt : ((itemsOf L l).take i).length = i := by rw [List.length_take, hil, Nat.min_eq_left (by omega)]
    obtain ⟨μ1, q1, q2⟩ := M_alt_f (m := i + 1) (n := szL L l - 1) hR hl ((itemsOf L l).take i) (by omega) (fun x hx => h9 x (List.mem_of_mem_take hx)) (by omega) (by omega) hM1 hL h3 (fun t ht => by
        rw [getD_take (by omega), hread t (by omega), if_pos (by omega)])
    rw [hlt] at q1 q2
    obtain ⟨μ2, t1, t2⟩ := M_tellsWork_ok (r := was) q2 (show w ≤ w + i by omega) (by omega)
    refine ⟨μ2, fun _ => ⟨?_, ?_⟩, fun z => absurd hc (by omega)⟩
    · rw [if_neg (by omega), pk_sub (show 1 ≤ szL L l by omega), pk_sub (show 1 ≤ (L l 0).length by omega), pk_sub (show i ≤ (L l 0).length - 1 by omega), show (L l 0).length - 1 - i = (L l 0).length - (i + 1) by omega, q1, obs]
      unfold M_drops_151
      rw [t1]; rfl
    · rw [Nat.add_zero]; exact t2
  · have hlt : ((itemsOf L l).drop (i + 1)).length = szL L l - i - 1 := by rw [List.length_drop, hil]; omega
    obtain ⟨μ1, q1, q2⟩ := M_alt_b (m := szL L l - i) (i := i) (n := szL L l - 1) hR hl ((itemsOf L l).drop (i + 1)) (by omega) (by omega) (fun x hx => h9 x (List.mem_of_mem_drop hx)) (by omega) (by omega) hM1 hL h3 (fun j hj => by
        rw [hread (i + j) (by omega), if_neg (by omega), getD_drop, show i + 1 + j = i + j + 1 by omega])
    rw [hlt] at q2
    obtain ⟨μ2, t1, t2⟩ := M_tellsWork_ok (r := was) q2 (show w ≤ w + (szL L l - i - 1) by omega) (by omega)
    refine ⟨μ2, fun z => absurd z hc, fun _ => ⟨?_, ?_⟩⟩
    · rw [if_pos (by omega), pk_sub (show 1 ≤ szL L l by omega), pk_sub (by omega), show i - (L l 0).length = (L l 1).length - (szL L l - i) by omega, q1, obs]
      unfold M_drops_151
      rw [t1]; rfl
    · rw [Nat.add_zero]; exact t2
theorem X_slips_run {σ σ2 σ3 : XS} {l i v s s' w : Nat} {x : Int32} (hl : l < 4) (a1 : X_isLine (nI l) = some (nI 1)) (a2 : X_isItem (nI v) = some (nI 1)) (s1 : Xl_size l σ = some (nI s, σ)) (q : X_in (nI i).toInt64 (lN 0) (nI s).toInt64 = some (nI 1)) (hne : ¬ nI s = nI 64) (hw : xL σ 0 = lN w) (p2 : Xl_alters l (nI i) (nI 0) (nI 1) (nI v) σ = some (x, σ2)) (p3 : X_tellsWork (lN w) σ2 = some σ3) (p4 : Xl_size l σ3 = some (nI s', σ3)) : X_slips (nI l) (nI i) (nI v) σ = some (nI s', σ3) := by
  have cl : (nI l).toNatClampNeg = l := nI_clamp (by omega)
  have dl : ¬ (nI l < 0 ∨ 4 ≤ l) := by rw [zN_lt0 (by omega), false_or]; omega
  unfold X_slips
  rw [a1, obs, if_neg (show ¬ nI 1 = 0 by decide), a2, obs, if_neg (show ¬ nI 1 = 0 by decide), if_neg (by rw [cl]; exact dl), cl, s1, obs, q, obs, if_neg (show ¬ nI 1 = 0 by decide), s1, obs, if_neg hne, if_pos ⟨by decide, by decide⟩, p2, obs, hw, p3, obs, p4, obs]
theorem M_slips_run {μ ν μ' : MS} {l i v s w : Nat} {r : Int32} (b1 : M_isLine (nI l) = some (nI 1)) (b2 : M_isItem (nI v) = some (nI 1)) (s2 : M_sizeOf (nI l) (sI μ 0 (nI 0)) = some (nI s, sI μ 0 (nI 0))) (q : X_in (nI i).toInt64 (lN 0) (nI s).toInt64 = some (nI 1)) (hne : ¬ nI s = nI 64) (ht : M_takesItems (nI l) (sI μ 0 (nI 0)) = some (nI s, ν)) (hw : gI (sI μ 0 (nI 0)) 8 = nI w) (h : M_slips_69 FU (nI l) (nI i) (nI v) (nI s) (nI w) (nI s) ν = some (r, μ')) : M_slips (nI l) (nI i) (nI v) μ = some (r, μ') := by
  unfold M_slips
  rw [b1, obs, if_neg (show ¬ nI 1 = 0 by decide), b2, obs, if_neg (show ¬ nI 1 = 0 by decide), s2, obs, M_in_eq, q, obs, if_neg (show ¬ nI 1 = 0 by decide), if_neg hne, ht, obs, hw]
  exact h
theorem in_sz (x : Int32) {n : Nat} (hn : n < 2 ^ 31) : X_in x.toInt64 (lN 0) (nI n).toInt64 = some (nI 0) ∨ ∃ v : Nat, v ≤ n ∧ x = nI v ∧ X_in x.toInt64 (lN 0) (nI n).toInt64 = some (nI 1) := by
  rw [nI_l hn]
  rcases in_cases x 0 n (by decide) hn with h | ⟨v, -, h1, h2, h3⟩
  · exact .inl h
  · exact .inr ⟨v, h1, h2, h3⟩
theorem E_slips_ok (n : Nat) : E_slips (RR n) (RR (n + 1)) := by
  intro σ μ x1 x2 x3 h
  have h0 := h.stay (nI 0)
  obtain ⟨ρ, L, w, reb, Z, hR, hL, hZ, hX, hM, hw, hr⟩ := h
  have hM0 := hM.q (MU.sI μ (k := 0) (.inl rfl) (nI 0))
  rcases isL x1 with ⟨a1, b1⟩ | ⟨l, hl, rfl, a1, b1⟩
  · exact ⟨-1, σ, _, by unfold X_slips; simp only [a1, obs, n10, n00, n20, if_false, if_true, and_self, Nat.reduceAdd, Nat.reduceLeDiff], by unfold M_slips; simp only [b1, obs, n10, n00, n20, if_false, if_true, and_self, Nat.reduceAdd, Nat.reduceLeDiff], h0⟩
  rcases isI x3 with ⟨a2, b2⟩ | ⟨v, hv, rfl, a2, b2⟩
  · exact ⟨-1, σ, _, by unfold X_slips; simp only [a1, a2, obs, n10, n00, n20, if_false, if_true, and_self, Nat.reduceAdd, Nat.reduceLeDiff], by unfold M_slips; simp only [b1, b2, obs, n10, n00, n20, if_false, if_true, and_self, Nat.reduceAdd, Nat.reduceLeDiff], h0⟩
  have cl : (nI l).toNatClampNeg = l := nI_clamp (by omega)
  have dl : ¬ (nI l < 0 ∨ 4 ≤ l) := by rw [zN_lt0 (by omega), false_or]; omega
  obtain ⟨h64, h9, hs64⟩ := its9 hL hl
  have hil := items_len L l
  have hsz : szL L l = (L l 0).length + (L l 1).length := rfl
  have s1 := X_sz hX hl
  have s2 := M_size_ok hM0 (by decide) hl
  rcases in_sz x2 (show szL L l < 2 ^ 31 by omega) with q | ⟨i, hi, rfl, q⟩
  · exact ⟨-2, σ, _, by unfold X_slips; simp only [a1, a2, cl, dl, s1, q, obs, n10, n00, n20, if_false, if_true, and_self, Nat.reduceAdd, Nat.reduceLeDiff], by unfold M_slips; simp only [b1, b2, s2, M_in_eq, q, obs, n10, n00, n20, if_false, if_true, and_self, Nat.reduceAdd, Nat.reduceLeDiff], h0⟩
  by_cases hf : szL L l = 64
  · have hq : (nI (szL L l) = nI 64) = True := eq_true (by rw [hf])
    exact ⟨-3, σ, _, by unfold X_slips; simp only [a1, a2, cl, dl, s1, q, hq, obs, n10, n00, n20, if_false, if_true, and_self, Nat.reduceAdd, Nat.reduceLeDiff], by unfold M_slips; simp only [b1, b2, s2, M_in_eq, q, hq, obs, n10, n00, n20, if_false, if_true, and_self, Nat.reduceAdd, Nat.reduceLeDiff], h0⟩
  have hne : ¬ nI (szL L l) = nI 64 := fun z => hf ((nI_eq (by omega) (by decide)).mp z)
  have ht := M_items_ok hM0 hL (by decide) hl
  obtain ⟨μ', mf, mb⟩ := M_slips_st (v := v) hR hl hv hM0 hL hX.n3 hi (by omega)
  by_cases hc : i < (L l 0).length
  · obtain ⟨σ2, k1, k2, k3⟩ := X_alters_F (i := i) hR hl (g := 0) (c := 1) (by decide) (by decide) hv hc (by omega) hX hL
    have hk := altL_lok (vs := [v] ++ ((itemsOf L l).take i).reverse) hL hX.n3 hl (e := 0) (by decide) (m := i) (by omega) (by simp; omega) (fun x hx => by
      rcases List.mem_append.mp hx with hx | hx
      · rw [List.mem_singleton.mp hx]; exact hv
      · exact h9 x (List.mem_of_mem_take (List.mem_reverse.mp hx)))
    have hlen : ([v] ++ ((itemsOf L l).take i).reverse).length = 1 + i := by simp; omega
    have hsz2 := altL_sz (pn := xN σ) (w := w) (vs := [v] ++ ((itemsOf L l).take i).reverse) (L := L) (l := l) (e := 0) (by decide) (m := i) (by omega)
    rw [hlen] at hsz2
    rw [hlen, ← Nat.add_assoc, ← Nat.add_assoc] at hk
    obtain ⟨σ3, t1, t2, t3, t4⟩ := altX_tell hR hZ hw hr (by rw [k3]; exact hk) k2 (by omega) (by omega)
    obtain ⟨m1, m2⟩ := mf hc
    have s3 := X_sz t3 hl
    rw [show szL (altL L l 0 (i + 0) (xN σ) w ((if 1 = 1 then [v] else []) ++ ((itemsOf L l).take i).reverse)) l = szL L l + 1 from (by show szL (altL L l 0 i (xN σ) w ([v] ++ ((itemsOf L l).take i).reverse)) l = _; omega)] at s3
    exact ⟨_, σ3, μ', X_slips_run hl a1 a2 s1 q hne hX.work k1 t1 s3, M_slips_run b1 b2 s2 q hne ht hM0.work m1, t4 μ' m2⟩
  · obtain ⟨σ2, k1, k2, k3⟩ := X_alters_B (i := i) hR hl (g := 0) (c := 1) (by decide) (by decide) hv (by omega) (by omega) (by omega) hX hL
    have hk := altL_lok (vs := [v] ++ (itemsOf L l).drop i) hL hX.n3 hl (e := 1) (by decide) (m := szL L l - i) (by omega) (by simp; omega) (fun x hx => by
      rcases List.mem_append.mp hx with hx | hx
      · rw [List.mem_singleton.mp hx]; exact hv
      · exact h9 x (List.mem_of_mem_drop hx))
    have hlen : ([v] ++ (itemsOf L l).drop i).length = 1 + (szL L l - i - 0) := by simp; omega
    have hsz2 := altL_sz (pn := xN σ) (w := w) (vs := [v] ++ (itemsOf L l).drop i) (L := L) (l := l) (e := 1) (by decide) (m := szL L l - i) (by omega)
    rw [hlen] at hsz2
    rw [hlen, ← Nat.add_assoc, ← Nat.add_assoc] at hk
    obtain ⟨σ3, t1, t2, t3, t4⟩ := altX_tell hR hZ hw hr (by rw [k3]; exact hk) k2 (by omega) (by omega)
    obtain ⟨m1, m2⟩ := mb (by omega)
    have s3 := X_sz t3 hl
    rw [show szL (altL L l 1 (szL L l - i) (xN σ) w ((if 1 = 1 then [v] else []) ++ (itemsOf L l).drop (i + 0))) l = szL L l + 1 from (by show szL (altL L l 1 (szL L l - i) (xN σ) w ([v] ++ (itemsOf L l).drop i)) l = _; omega)] at s3
    exact ⟨_, σ3, μ', X_slips_run hl a1 a2 s1 q hne hX.work k1 t1 s3, M_slips_run b1 b2 s2 q hne ht hM0.work m1, t4 μ' m2⟩
theorem X_drops_run {σ σ2 σ3 : XS} {l i s w : Nat} {x : Int32} (hl : l < 4) (a1 : X_isLine (nI l) = some (nI 1)) (s1 : Xl_size l σ = some (nI s, σ)) (q : X_in (nI i).toInt64 (lN 0) (nI s - nI 1).toInt64 = some (nI 1)) (hw : xL σ 0 = lN w) (p2 : Xl_alters l (nI i) (nI 1) (nI 0) (nI 0) σ = some (x, σ2)) (p3 : X_tellsWork (lN w) σ2 = some σ3) : X_drops (nI l) (nI i) σ = some (x, σ3) := by
  have cl : (nI l).toNatClampNeg = l := nI_clamp (by omega)
  have dl : ¬ (nI l < 0 ∨ 4 ≤ l) := by rw [zN_lt0 (by omega), false_or]; omega
  unfold X_drops
  rw [a1, obs, if_neg (show ¬ nI 1 = 0 by decide), if_neg (by rw [cl]; exact dl), cl, s1, obs, q, obs, if_neg (show ¬ nI 1 = 0 by decide), if_pos ⟨by decide, by decide⟩, p2, obs, hw, p3, obs]
theorem M_drops_run {μ ν μ' : MS} {l i s w f0 : Nat} {r was : Int32} (hl : l < 4) (b1 : M_isLine (nI l) = some (nI 1)) (m3 : M_isAt (nI l) (nI i) (sI μ 0 (nI 0)) = some (nI 1, sI μ 0 (nI 0))) (m4 : M_itemAt (nI l) (nI i) (sI μ 0 (nI 0)) = some (was, sI μ 0 (nI 0))) (ht : M_takesItems (nI l) (sI μ 0 (nI 0)) = some (nI s, ν)) (hw : gI (sI μ 0 (nI 0)) 8 = nI w) (hf : gA ν 5 (2 * l) = nI f0) (h : M_drops_59 FU (nI l) (nI i) (nI w) was (nI s) (nI f0) (nI i) ν = some (r, μ')) : M_drops (nI l) (nI i) μ = some (r, μ') := by
  have c0' : (nI (2 * l)).toNatClampNeg = 2 * l := nI_clamp (by omega)
  have d0 : ¬ (nI (2 * l) < 0 ∨ 10 ≤ 2 * l) := nI_dn (by omega) (by decide)
  unfold M_drops
  rw [b1, obs, if_neg (show ¬ nI 1 = 0 by decide), m3, obs, if_neg (show ¬ nI 1 = 0 by decide), m4, obs, ht, obs, pk_mul, c0', if_neg d0, hw, hf]
  exact h
theorem E_drops_ok (n : Nat) : E_drops (RR n) (RR (n + 1)) := by
  intro σ μ x1 x2 h
  have h0 := h.stay (nI 0)
  obtain ⟨ρ, L, w, reb, Z, hR, hL, hZ, hX, hM, hw, hr⟩ := h
  have hM0 := hM.q (MU.sI μ (k := 0) (.inl rfl) (nI 0))
  rcases isL x1 with ⟨a1, b1⟩ | ⟨l, hl, rfl, a1, b1⟩
  · exact ⟨-1, σ, _, by unfold X_drops; simp only [a1, obs, n10, n00, n20, if_false, if_true, and_self, Nat.reduceAdd, Nat.reduceLeDiff], by unfold M_drops; simp only [b1, obs, n10, n00, n20, if_false, if_true, and_self, Nat.reduceAdd, Nat.reduceLeDiff], h0⟩
  have cl : (nI l).toNatClampNeg = l := nI_clamp (by omega)
  have dl : ¬ (nI l < 0 ∨ 4 ≤ l) := by rw [zN_lt0 (by omega), false_or]; omega
  obtain ⟨h64, h9, hs64⟩ := its9 hL hl
  have hil := items_len L l
  have hsz : szL L l = (L l 0).length + (L l 1).length := rfl
  have s1 := X_sz hX hl
  have s2 := M_size_ok hM0 (by decide) hl
  rcases at_cases x2 (szL L l) (by omega) with q | ⟨i, hi, rfl, q⟩
  · have m3 := M_isAt_ok hM0 (by decide) hl (.inl rfl) q
    exact ⟨-2, σ, _, by unfold X_drops; simp only [a1, cl, dl, s1, q, obs, n10, n00, n20, if_false, if_true, and_self, Nat.reduceAdd, Nat.reduceLeDiff], by unfold M_drops; simp only [b1, m3, obs, n10, n00, n20, if_false, if_true, and_self, Nat.reduceAdd, Nat.reduceLeDiff], h0⟩
  have m3 := M_isAt_ok hM0 (by decide) hl (.inr rfl) q
  have m4 := M_itemAt_ok hM0 hL (by decide) hl hi
  have ht := M_items_ok hM0 hL (by decide) hl
  have hf0 : gA (mX (sI μ 0 (nI 0)) 8 (wr (gA (sI μ 0 (nI 0)) 8) 0 (itemsOf L l))) 5 (2 * l) = nI (L l 0).length := (hM0.2.2.2.2 l 0 hl (by decide)).1
  obtain ⟨μ', mf, mb⟩ := M_drops_st (was := nI ((itemsOf L l).getD i 0)) hR hl hM0 hL hX.n3 hi
  by_cases hc : i < (L l 0).length
  · obtain ⟨σ2, k1, k2, k3⟩ := X_alters_F (i := i) (v := 0) hR hl (g := 1) (c := 0) (by decide) (by decide) (by decide) hc (by omega) hX hL
    have hk := altL_lok (vs := ((itemsOf L l).take i).reverse) hL hX.n3 hl (e := 0) (by decide) (m := i + 1) (by omega) (by simp; omega) (fun x hx => h9 x (List.mem_of_mem_take (List.mem_reverse.mp hx)))
    have hlen : ((itemsOf L l).take i).reverse.length = 0 + i := by simp; omega
    rw [hlen, ← Nat.add_assoc, ← Nat.add_assoc] at hk
    obtain ⟨σ3, t1, t2, t3, t4⟩ := altX_tell hR hZ hw hr (by rw [k3]; exact hk) k2 (by omega) (by omega)
    obtain ⟨m1, m2⟩ := mf hc
    exact ⟨_, σ3, μ', X_drops_run hl a1 s1 q hX.work k1 t1, M_drops_run hl b1 m3 m4 ht hM0.work hf0 m1, t4 μ' m2⟩
  · obtain ⟨σ2, k1, k2, k3⟩ := X_alters_B (i := i) (v := 0) hR hl (g := 1) (c := 0) (by decide) (by decide) (by decide) (by omega) (by omega) (by omega) hX hL
    have hk := altL_lok (vs := (itemsOf L l).drop (i + 1)) hL hX.n3 hl (e := 1) (by decide) (m := szL L l - i) (by omega) (by simp; omega) (fun x hx => h9 x (List.mem_of_mem_drop hx))
    have hlen : ((itemsOf L l).drop (i + 1)).length = 0 + (szL L l - i - 1) := by simp; omega
    rw [hlen, ← Nat.add_assoc, ← Nat.add_assoc] at hk
    obtain ⟨σ3, t1, t2, t3, t4⟩ := altX_tell hR hZ hw hr (by rw [k3]; exact hk) k2 (by omega) (by omega)
    obtain ⟨m1, m2⟩ := mb (by omega)
    exact ⟨_, σ3, μ', X_drops_run hl a1 s1 q hX.work k1 t1, M_drops_run hl b1 m3 m4 ht hM0.work hf0 m1, t4 μ' m2⟩
