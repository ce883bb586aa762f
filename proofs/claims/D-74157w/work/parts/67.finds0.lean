set_option maxRecDepth 100000
/-! part, first, greatest -/
theorem RR.fin {n : Nat} {ρ : RC} {L : LC} {w : Nat} {reb : Int32} {Z : ZZ} {σ σ' : XS} {μ' : MS} (hR : RV ρ) (hL : LOK 4 L (xN σ) w) (hZ : ZW Z) (hw : w ≤ 8000 * n) (hr : Z.2.2.2 ≤ n) {row : List Int64} (hrow : row.length ≤ 128) (hX : XR 4 ρ L w reb (zr Z row) σ') (hM : MR 4 ρ L w reb (zr Z row) μ') (hn : xN σ' = xN σ) : RR (n + 1) σ' μ' :=
  ⟨ρ, L, w, reb, zr Z row, hR, by rw [hn]; exact hL, hZ.row hrow, hX, hM, by omega, by show Z.2.2.2 ≤ n + 1; omega⟩
/-- a row of the component holds the items -/
def R0 (σ : XS) (its : List Nat) : Prop := ∀ t, t < its.length → xA σ 3 t = nI (its.getD t 0)
theorem R0.t {σ σ' : XS} {its : List Nat} (h : R0 σ its) (q : XT σ σ') : R0 σ' its := fun t ht => by rw [q.2.1 3 (by decide)]; exact h t ht
theorem M_tellQ {k : Nat} {ρ : RC} {L : LC} {w : Nat} {reb : Int32} {Z : ZZ} {μ : MS} (h : MR k ρ L w reb Z μ) {x : VV} (h0 : gL μ 0 = x.1) (h1 : gL μ 1 = x.2) : ∃ ν ν', M_enters (gL (sI μ 1 (nI 0)) 0) (sI μ 1 (nI 0)) = some ν ∧ M_enters (gL ν 1) ν = some ν' ∧ MR k ρ L w reb (zr Z [x.1, x.2]) ν' := by
  obtain ⟨ν, ν', a, b, c, -⟩ := M_tellP (M_reset h) (r := []) (by decide) (x := x) h0 h1
  exact ⟨ν, ν', a, b, c⟩
theorem its9 {k : Nat} {L : LC} {pn w l : Nat} (h : LOK k L pn w) (hl : l < k) : (itemsOf L l).length ≤ 64 ∧ (∀ v ∈ itemsOf L l, v ≤ 9999) ∧ szL L l ≤ 64 := ⟨by rw [items_len]; exact h.2.1 l hl, itm_9 h hl, h.2.1 l hl⟩
theorem E_part_ok (n : Nat) : E_part (RR n) (RR (n + 1)) := by
  intro σ μ x1 x2 x3 h
  have h0 := h.stay (nI 0)
  obtain ⟨ρ, L, w, reb, Z, hR, hL, hZ, hX, hM, hw, hr⟩ := h
  have hM0 := hM.q (MU.sI μ (k := 0) (.inl rfl) (nI 0))
  rcases isL x1 with ⟨a1, b1⟩ | ⟨l, hl, rfl, a1, b1⟩
  · exact ⟨-1, σ, _, by unfold X_part; simp only [a1, obs, n10, n00, n20, if_false, if_true, and_self, Nat.reduceAdd, Nat.reduceLeDiff], by unfold M_part; simp only [b1, obs, n10, n00, n20, if_false, if_true, and_self, Nat.reduceAdd, Nat.reduceLeDiff], h0⟩
  have cl : (nI l).toNatClampNeg = l := nI_clamp (by omega)
  have dl : ¬ (nI l < 0 ∨ 4 ≤ l) := by rw [zN_lt0 (by omega), false_or]; omega
  by_cases hc2 : x2 < 0
  · have q := eq_true hc2
    exact ⟨-2, σ, _, by unfold X_part; simp only [a1, q, obs, n10, n00, n20, if_false, if_true, and_self, Nat.reduceAdd, Nat.reduceLeDiff], by unfold M_part; simp only [b1, q, obs, n10, n00, n20, if_false, if_true, and_self, Nat.reduceAdd, Nat.reduceLeDiff], h0⟩
  obtain ⟨i, hi, rfl⟩ := nI_of hc2
  have q2 := eq_false hc2
  by_cases hc3 : x3 < nI i
  · have q := eq_true hc3
    exact ⟨-2, σ, _, by unfold X_part; simp only [a1, q2, q, obs, n10, n00, n20, if_false, if_true, and_self, Nat.reduceAdd, Nat.reduceLeDiff], by unfold M_part; simp only [b1, q2, q, obs, n10, n00, n20, if_false, if_true, and_self, Nat.reduceAdd, Nat.reduceLeDiff], h0⟩
  have hc3' : ¬ x3 < 0 := fun z => hc3 (Int32.lt_of_lt_of_le z (nI_pos' hi))
  obtain ⟨j, hj, rfl⟩ := nI_of hc3'
  have q3 := eq_false hc3
  have hij : i ≤ j := Nat.not_lt.mp (fun z => hc3 ((nI_ltI hj hi).mpr z))
  have s1 := X_sz hX hl
  have s2 := M_size_ok hM0 (by decide) hl
  obtain ⟨h64, h9, hs64⟩ := its9 hL hl
  have hil := items_len L l
  by_cases hjs : j ≤ szL L l
  · have q4 : (nI j ≤ nI (szL L l)) = True := eq_true (nI_le hjs (by omega))
    obtain ⟨σ1, p1, p2, p3, p4, -⟩ := hX.lay0 hL hl
    obtain ⟨σ2, f1, f2, f3⟩ := X_folds_ok hR h9 h64 (i := i) (m := j - i) (by omega) p2.2.1 p2.n3 p4
    rw [show i + (j - i) = j by omega] at f1
    obtain ⟨σ3, t1, t2, t3⟩ := X_tellP (p2.t hL f2) (i := 2) (by decide) f3
    obtain ⟨μ1, m1, m2, m3, m4⟩ := M_sums_ok hR (by omega) hs64 h9 (i := i) (m := j - i) (by omega) hM0.1 (hM0.ln hl)
    obtain ⟨μ2, μ3, e1, e2, e3⟩ := M_tellQ (hM0.v m2) m3 m4
    have k1 : nI j - nI i = nI (j - i) := pk_sub hij
    have hm : M_part (nI l) (nI i) (nI j) μ = some (nI (j - i), μ3) := by unfold M_part; simp only [b1, q2, q3, s2, q4, k1, m1, e1, e2, obs, n10, n00, n20, if_false, if_true, and_self, Nat.reduceAdd, Nat.reduceLeDiff]
    have hx : X_part (nI l) (nI i) (nI j) σ = some (nI (j - i), σ3) := by unfold X_part; simp only [a1, q2, q3, cl, dl, s1, q4, p1, f1, t1, k1, obs, n10, n00, n20, if_false, if_true, and_self, Nat.reduceAdd, Nat.reduceLeDiff]
    exact ⟨_, σ3, μ3, hx, hm, RR.fin hR hL hZ hw hr (by show 2 ≤ 128; decide) t2 e3 (by rw [t3, f2.2.2.2.1, p3])⟩
  · have q4 : (nI j ≤ nI (szL L l)) = False := eq_false (nI_ge (by omega) hj)
    exact ⟨-2, σ, _, by unfold X_part; simp only [a1, q2, q3, cl, dl, s1, q4, obs, n10, n00, n20, if_false, if_true, and_self, Nat.reduceAdd, Nat.reduceLeDiff], by unfold M_part; simp only [b1, q2, q3, s2, q4, obs, n10, n00, n20, if_false, if_true, and_self, Nat.reduceAdd, Nat.reduceLeDiff], h0⟩
theorem first_loop {ρ : RC} {L : LC} {w l : Nat} {reb : Int32} {Z : ZZ} {v : Int32} (hR : RV ρ) (hl : l < 4) (h64 : (itemsOf L l).length ≤ 64) (h9 : ∀ v ∈ itemsOf L l, v ≤ 9999) (hZ : ZW Z) (u u' : Nat) : ∀ (d k f g : Nat) (σ : XS) (μ : MS), k + d = szL L l → d < f → d < g → XR 4 ρ L w reb Z σ → MR 4 ρ L w reb Z μ → LOK 4 L (xN σ) w → R0 σ (itemsOf L l) → pr σ 2 = fo ρ (seg (itemsOf L l) 0 k) → ∃ (r : Int32) (σ' : XS) (μ' : MS) (row : List Int64), X_first_41 f v (nI (szL L l)) (nI k) σ u u' = some (r, σ') ∧ M_first_16 g (nI l) v (nI (k + 1)) μ = some (r, μ') ∧ XR 4 ρ L w reb (zr Z row) σ' ∧ MR 4 ρ L w reb (zr Z row) μ' ∧ xN σ' = xN σ ∧ row.length ≤ 128 := by
  have hil := items_len L l
  intro d
  induction d with
  | zero =>
    intro k f g σ μ hk hf hg hX hM hL h0 hp
    obtain ⟨f, rfl⟩ : ∃ z, f = z + 1 := ⟨f - 1, by omega⟩
    obtain ⟨g, rfl⟩ : ∃ z, g = z + 1 := ⟨g - 1, by omega⟩
    have s2 := M_size_ok hM (by decide) hl
    refine ⟨-2, σ, μ, Z.2.2.1, ?_, ?_, hX, hM, rfl, hZ.2.2⟩
    · show (if nI (szL L l) ≤ nI k then _ else _) = _
      rw [if_pos (nI_le (by omega) (by omega))]
    · show ((M_sizeOf (nI l) μ).bind _) = _
      rw [s2, Option.bind_some]
      exact if_pos ((nI_ltI (by omega) (by omega)).mpr (by omega))
  | succ d ih =>
    intro k f g σ μ hk hf hg hX hM hL h0 hp
    obtain ⟨f, rfl⟩ : ∃ z, f = z + 1 := ⟨f - 1, by omega⟩
    obtain ⟨g, rfl⟩ : ∃ z, g = z + 1 := ⟨g - 1, by omega⟩
    have s2 := M_size_ok hM (by decide) hl
    obtain ⟨σ1, σ2, a1, a2, a3, a4⟩ := X_step_t hX.2.1 hR hX.n3 (h9 _ (gD_mem (show k < (itemsOf L l).length by omega))) hp (VD_fo hR _ (seg_mem h9))
    have hfs := fo_s (ρ := ρ) (its := itemsOf L l) (i := 0) (m := k) (by omega)
    rw [Nat.zero_add] at hfs
    rw [← hfs] at a4
    have hX2 := hX.t hL a3
    obtain ⟨μ1, m1, m2, m3, m4⟩ := M_sums_ok hR (show l < 5 by omega) (by omega) h9 (i := 0) (m := k + 1) (by omega) hM.1 (hM.ln hl)
    have hxd : X_first_41 (f + 1) v (nI (szL L l)) (nI k) σ u u' = if 0 ≤ lg_cmp (fo ρ (seg (itemsOf L l) 0 (k + 1))).1 v.toInt64 then ((X_tellsPair 2 (zI σ2 5 (nI 0))).bind fun q8 => some (nI (k + 1), q8)) else X_first_41 f v (nI (szL L l)) (nI (k + 1)) σ2 u u' := by
      show (if nI (szL L l) ≤ nI k then _ else (if nI k < 0 ∨ 64 ≤ (nI k).toNatClampNeg then none else ((X_make 0 (xA σ 3 (nI k).toNatClampNeg) σ).bind fun q6 => ((X_join 2 2 0 q6).bind fun q7 => (if 2 < xN q7 then (if 0 ≤ (lg_cmp (rP (xC q7 2)) (v.toInt64)) then ((X_tellsPair 2 (zI q7 5 (nI 0))).bind fun q8 => some ((nI k + nI 1), q8)) else X_first_41 f v (nI (szL L l)) (nI k + nI 1) q7 u u') else none))))) = _
      rw [if_neg (nI_ge (by omega) (by omega)), if_neg (nI_in (by omega) (by decide)), nI_clamp (by omega), h0 k (by omega), a1, Option.bind_some, a2, Option.bind_some, if_pos (by have := hX2.n3; omega), nI_add, show rP (xC σ2 2) = (fo ρ (seg (itemsOf L l) 0 (k + 1))).1 by rw [← a4]; rfl]
    have hmd : M_first_16 (g + 1) (nI l) v (nI (k + 1)) μ = if lg_cmp (fo ρ (seg (itemsOf L l) 0 (k + 1))).1 v.toInt64 < 0 then M_first_16 g (nI l) v (nI (k + 1 + 1)) μ1 else ((M_enters (gL (sI μ1 1 (nI 0)) 0) (sI μ1 1 (nI 0))).bind fun q4 => ((M_enters (gL q4 1) q4).bind fun q5 => some (nI (k + 1), q5))) := by
      show ((M_sizeOf (nI l) μ).bind fun q2 => (if q2.1 < nI (k + 1) then some ((-2 : Int32), q2.2) else ((M_sums (nI l) (nI 0) (nI (k + 1)) q2.2).bind fun q3 => (if (lg_cmp (gL q3 0) (v.toInt64)) < 0 then M_first_16 g (nI l) v (nI (k + 1) + nI 1) q3 else _)))) = _
      rw [s2, Option.bind_some, if_neg (fun z => absurd ((nI_ltI (by omega) (by omega)).mp z) (by omega)), m1, Option.bind_some, m3, nI_add]
    rw [hxd, hmd]
    by_cases hc : lg_cmp (fo ρ (seg (itemsOf L l) 0 (k + 1))).1 v.toInt64 < 0
    · rw [if_neg (Int32.not_le.mpr hc), if_pos hc]
      obtain ⟨r, σ', μ', row, g1, g2, g3, g4, g5, g6⟩ := ih (k + 1) f g σ2 μ1 (by omega) (by omega) (by omega) hX2 (hM.v m2) (hL.t a3) (h0.t a3) a4
      exact ⟨r, σ', μ', row, g1, g2, g3, g4, g5.trans a3.2.2.2.1, g6⟩
    · rw [if_pos (Int32.not_lt.mp hc), if_neg hc]
      obtain ⟨σ3, t1, t2, t3⟩ := X_tellP hX2 (i := 2) (by decide) a4
      obtain ⟨μ2, μ3, e1, e2, e3⟩ := M_tellQ (hM.v m2) m3 m4
      refine ⟨nI (k + 1), σ3, μ3, _, by rw [t1]; rfl, by rw [e1, Option.bind_some, e2]; rfl, t2, e3, t3.trans a3.2.2.2.1, by show 2 ≤ 128; decide⟩
theorem E_first_ok (n : Nat) : E_first (RR n) (RR (n + 1)) := by
  intro σ μ x1 x2 h
  have h0 := h.stay (nI 0)
  obtain ⟨ρ, L, w, reb, Z, hR, hL, hZ, hX, hM, hw, hr⟩ := h
  have hM0 := hM.q (MU.sI μ (k := 0) (.inl rfl) (nI 0))
  rcases isL x1 with ⟨a1, b1⟩ | ⟨l, hl, rfl, a1, b1⟩
  · exact ⟨-1, σ, _, by unfold X_first; simp only [a1, obs, n10, n00, n20, if_false, if_true, and_self, Nat.reduceAdd, Nat.reduceLeDiff], by unfold M_first; simp only [b1, obs, n10, n00, n20, if_false, if_true, and_self, Nat.reduceAdd, Nat.reduceLeDiff], h0⟩
  have cl : (nI l).toNatClampNeg = l := nI_clamp (by omega)
  have dl : ¬ (nI l < 0 ∨ 4 ≤ l) := by rw [zN_lt0 (by omega), false_or]; omega
  obtain ⟨h64, h9, hs64⟩ := its9 hL hl
  obtain ⟨σ1, p1, p2, p3, p4, -⟩ := hX.lay0 hL hl
  obtain ⟨σ2, f1, f2, f3, -⟩ := X_empty_t p2.2.1 hR p2.n3 (i := 2) (by decide)
  have hn : xN σ2 = xN σ := f2.2.2.2.1.trans p3
  obtain ⟨r, σ', μ', row, g1, g2, g3, g4, g5, g6⟩ := first_loop (v := x2) hR hl h64 h9 hZ (0 + 6) (0 + 150) (szL L l) 0 FU FU σ2 (sI μ 0 (nI 0)) (by omega) (by unfold FU; omega) (by unfold FU; omega) (p2.t hL f2) hM0 (by rw [hn]; exact hL) (R0.t (fun t ht => p4 t ht) f2) f3
  have hx : X_first (nI l) x2 σ = some (r, σ') := by
    unfold X_first
    rw [a1, obs, if_neg (show ¬ nI 1 = 0 by decide), if_neg (by rw [cl]; exact dl), if_pos ⟨by decide, by decide⟩, cl, p1, obs, f1, obs]
    exact g1
  have hm : M_first (nI l) x2 μ = some (r, μ') := by
    unfold M_first
    rw [b1, obs, if_neg (show ¬ nI 1 = 0 by decide)]
    exact g2
  exact ⟨r, σ', μ', hx, hm, RR.fin hR hL hZ hw hr g6 g3 g4 (g5.trans hn)⟩
/-! greatest -/
theorem great_loop {ρ : RC} {L : LC} {w l win m : Nat} {reb : Int32} {Z : ZZ} (hR : RV ρ) (hl : l < 4) (h64 : (itemsOf L l).length ≤ 64) (h9 : ∀ v ∈ itemsOf L l, v ≤ 9999) (hwin : 1 ≤ win) (hm : m + win = szL L l + 1) (u u' : Nat) : ∀ (d i b f g : Nat) (σ : XS) (μ : MS), i + d = m → 1 ≤ i → b < m → d < f → d < g → XR 4 ρ L w reb Z σ → MR 4 ρ L w reb Z μ → LOK 4 L (xN σ) w → R0 σ (itemsOf L l) → ∃ (r : Int32) (σ' : XS) (μ' : MS) (row : List Int64), X_greatest_55 f (nI win) (nI (szL L l)) (nI b) (fo ρ (seg (itemsOf L l) b win)).2 (nI i) σ u u' = some (r, σ') ∧ M_greatest_56 g (nI l) (nI win) (nI m) (nI b) (fo ρ (seg (itemsOf L l) b win)).1 (fo ρ (seg (itemsOf L l) b win)).2 (nI i) μ = some (r, μ') ∧ XR 4 ρ L w reb (zr Z row) σ' ∧ MR 4 ρ L w reb (zr Z row) μ' ∧ xN σ' = xN σ ∧ row.length ≤ 128 := by
  have hil := items_len L l
  intro d
  induction d with
  | zero =>
    intro i b f g σ μ hi hi1 hb hf hg hX hM hL h0
    obtain ⟨f, rfl⟩ : ∃ z, f = z + 1 := ⟨f - 1, by omega⟩
    obtain ⟨g, rfl⟩ : ∃ z, g = z + 1 := ⟨g - 1, by omega⟩
    obtain ⟨σ2, f1, f2, f3⟩ := X_folds_ok hR h9 h64 (i := b) (m := win) (by omega) hX.2.1 hX.n3 h0
    obtain ⟨σ3, t1, t2, t3⟩ := X_tellP (hX.t hL f2) (i := 2) (by decide) f3
    obtain ⟨e1, e2⟩ := M_enters_ok (M_reset hM) (r := []) (by decide) (fo ρ (seg (itemsOf L l) b win)).1
    obtain ⟨e3, e4⟩ := M_enters_ok e2 (by show 1 < 160; decide) (fo ρ (seg (itemsOf L l) b win)).2
    refine ⟨nI b, σ3, _, _, ?_, ?_, t2, e4, t3.trans f2.2.2.2.1, by show 2 ≤ 128; decide⟩
    · show (if nI (szL L l) < nI i + nI win then ((X_folds_r0 2 (nI b) (nI b + nI win) σ).bind fun q6 => ((X_tellsPair 2 (zI q6 5 (nI 0))).bind fun q7 => some (nI b, q7))) else _) = _
      rw [nI_add, if_pos ((nI_ltI (by omega) (by omega)).mpr (by omega)), nI_add, f1, Option.bind_some, t1]; rfl
    · show (if nI m ≤ nI i then ((M_enters (fo ρ (seg (itemsOf L l) b win)).1 (sI μ 1 (nI 0))).bind fun q4 => ((M_enters (fo ρ (seg (itemsOf L l) b win)).2 q4).bind fun q5 => some (nI b, q5))) else _) = _
      rw [if_pos (nI_le (by omega) (by omega)), e1, Option.bind_some, e3]; rfl
  | succ d ih =>
    intro i b f g σ μ hi hi1 hb hf hg hX hM hL h0
    obtain ⟨f, rfl⟩ : ∃ z, f = z + 1 := ⟨f - 1, by omega⟩
    obtain ⟨g, rfl⟩ : ∃ z, g = z + 1 := ⟨g - 1, by omega⟩
    obtain ⟨σ2, f1, f2, f3⟩ := X_folds_ok hR h9 h64 (i := i) (m := win) (by omega) hX.2.1 hX.n3 h0
    have hX2 := hX.t hL f2
    obtain ⟨μ1, m1, m2, m3, m4⟩ := M_sums_ok hR (show l < 5 by omega) (by omega) h9 (i := i) (m := win) (by omega) hM.1 (hM.ln hl)
    have hq : rQ (xC σ2 2) = (fo ρ (seg (itemsOf L l) i win)).2 := by rw [← f3]; rfl
    have hxd : X_greatest_55 (f + 1) (nI win) (nI (szL L l)) (nI b) (fo ρ (seg (itemsOf L l) b win)).2 (nI i) σ u u' = if 0 < lg_cmp (fo ρ (seg (itemsOf L l) i win)).2 (fo ρ (seg (itemsOf L l) b win)).2 then X_greatest_55 f (nI win) (nI (szL L l)) (nI i) (fo ρ (seg (itemsOf L l) i win)).2 (nI (i + 1)) σ2 u u' else X_greatest_55 f (nI win) (nI (szL L l)) (nI b) (fo ρ (seg (itemsOf L l) b win)).2 (nI (i + 1)) σ2 u u' := by
      have hg : X_greatest_103 (X_greatest_55 f) (nI win) (nI (szL L l)) (nI i) σ2 u u' = X_greatest_55 f (nI win) (nI (szL L l)) (nI i) (fo ρ (seg (itemsOf L l) i win)).2 (nI (i + 1)) σ2 u u' := by
        unfold X_greatest_103 X_greatest_116
        rw [if_pos (by have := hX2.n3; omega), hq, nI_add]
      show (if nI (szL L l) < nI i + nI win then _ else ((X_folds_r0 2 (nI i) (nI i + nI win) σ).bind fun q8 => (if nI b = (-1 : Int32) then X_greatest_103 (X_greatest_55 f) (nI win) (nI (szL L l)) (nI i) q8 u u' else (if 2 < xN q8 then (if 0 < (lg_cmp (rQ (xC q8 2)) (fo ρ (seg (itemsOf L l) b win)).2) then X_greatest_103 (X_greatest_55 f) (nI win) (nI (szL L l)) (nI i) q8 u u' else X_greatest_116 (X_greatest_55 f) (nI win) (nI (szL L l)) (nI b) (fo ρ (seg (itemsOf L l) b win)).2 (nI i) q8 u u') else none)))) = _
      rw [nI_add, if_neg (fun z => absurd ((nI_ltI (by omega) (by omega)).mp z) (by omega)), f1, Option.bind_some, if_neg (fun z => ?_), if_pos (by have := hX2.n3; omega), hq, hg]
      · unfold X_greatest_116; rw [nI_add]
      · have := nI_pos (n := b) (by omega)
        rw [z] at this
        exact this (by decide)
    have hmd : M_greatest_56 (g + 1) (nI l) (nI win) (nI m) (nI b) (fo ρ (seg (itemsOf L l) b win)).1 (fo ρ (seg (itemsOf L l) b win)).2 (nI i) μ = if lg_cmp (fo ρ (seg (itemsOf L l) i win)).2 (fo ρ (seg (itemsOf L l) b win)).2 ≤ 0 then M_greatest_56 g (nI l) (nI win) (nI m) (nI b) (fo ρ (seg (itemsOf L l) b win)).1 (fo ρ (seg (itemsOf L l) b win)).2 (nI (i + 1)) μ1 else M_greatest_56 g (nI l) (nI win) (nI m) (nI i) (fo ρ (seg (itemsOf L l) i win)).1 (fo ρ (seg (itemsOf L l) i win)).2 (nI (i + 1)) μ1 := by
      show (if nI m ≤ nI i then _ else ((M_sums (nI l) (nI i) (nI win) μ).bind fun q6 => (if nI i = 0 then _ else (if (lg_cmp (gL q6 1) (fo ρ (seg (itemsOf L l) b win)).2) ≤ 0 then M_greatest_56 g (nI l) (nI win) (nI m) (nI b) (fo ρ (seg (itemsOf L l) b win)).1 (fo ρ (seg (itemsOf L l) b win)).2 (nI i + nI 1) q6 else M_greatest_56 g (nI l) (nI win) (nI m) (nI i) (gL q6 0) (gL q6 1) (nI i + nI 1) q6)))) = _
      rw [if_neg (nI_ge (by omega) (by omega)), m1, Option.bind_some, if_neg (nI_ne0 (by omega) (by omega)), m3, m4, nI_add]
    rw [hxd, hmd]
    by_cases hc : 0 < lg_cmp (fo ρ (seg (itemsOf L l) i win)).2 (fo ρ (seg (itemsOf L l) b win)).2
    · rw [if_pos hc, if_neg (Int32.not_le.mpr hc)]
      obtain ⟨r, σ', μ', row, g1, g2, g3, g4, g5, g6⟩ := ih (i + 1) i f g σ2 μ1 (by omega) (by omega) (by omega) (by omega) (by omega) hX2 (hM.v m2) (hL.t f2) (h0.t f2)
      exact ⟨r, σ', μ', row, g1, g2, g3, g4, g5.trans f2.2.2.2.1, g6⟩
    · rw [if_neg hc, if_pos (Int32.not_lt.mp hc)]
      obtain ⟨r, σ', μ', row, g1, g2, g3, g4, g5, g6⟩ := ih (i + 1) b f g σ2 μ1 (by omega) (by omega) hb (by omega) (by omega) hX2 (hM.v m2) (hL.t f2) (h0.t f2)
      exact ⟨r, σ', μ', row, g1, g2, g3, g4, g5.trans f2.2.2.2.1, g6⟩
theorem isW (x : Int32) (σ : XS) : (X_isWindow x σ = some (nI 0, σ) ∧ M_in x.toInt64 (lN 1) (64 : Int64) = some (nI 0)) ∨ ∃ v : Nat, 1 ≤ v ∧ v ≤ 64 ∧ x = nI v ∧ X_isWindow x σ = some (nI 1, σ) ∧ M_in x.toInt64 (lN 1) (64 : Int64) = some (nI 1) := by
  unfold X_isWindow
  rw [M_in_eq]
  rcases in_cases x 1 64 (by decide) (by decide) with h | ⟨v, h1, h2, h3, h4⟩
  · exact .inl ⟨by rw [show (64 : Int64) = lN 64 from rfl, h]; rfl, by rw [show (64 : Int64) = lN 64 from rfl, h]⟩
  · exact .inr ⟨v, h1, h2, h3, by rw [show (64 : Int64) = lN 64 from rfl, h4]; rfl, by rw [show (64 : Int64) = lN 64 from rfl, h4]⟩
theorem great_start {ρ : RC} {L : LC} {w l win m : Nat} {reb : Int32} {Z : ZZ} (hR : RV ρ) (hl : l < 4) (h64 : (itemsOf L l).length ≤ 64) (h9 : ∀ v ∈ itemsOf L l, v ≤ 9999) (hwin : 1 ≤ win) (hm : m + win = szL L l + 1) (hm1 : 1 ≤ m) (u u' f g : Nat) {σ : XS} {μ : MS} (hf : m < f) (hg : m < g) (hX : XR 4 ρ L w reb Z σ) (hM : MR 4 ρ L w reb Z μ) (hL : LOK 4 L (xN σ) w) (h0 : R0 σ (itemsOf L l)) : ∃ (r : Int32) (σ' : XS) (μ' : MS) (row : List Int64), X_greatest_55 f (nI win) (nI (szL L l)) (-1 : Int32) (lN 0) (nI 0) σ u u' = some (r, σ') ∧ M_greatest_56 g (nI l) (nI win) (nI m) (nI 0) (lN 0) (lN 0) (nI 0) μ = some (r, μ') ∧ XR 4 ρ L w reb (zr Z row) σ' ∧ MR 4 ρ L w reb (zr Z row) μ' ∧ xN σ' = xN σ ∧ row.length ≤ 128 := by
  have hil := items_len L l
  obtain ⟨f, rfl⟩ : ∃ z, f = z + 1 := ⟨f - 1, by omega⟩
  obtain ⟨g, rfl⟩ : ∃ z, g = z + 1 := ⟨g - 1, by omega⟩
  obtain ⟨σ2, f1, f2, f3⟩ := X_folds_ok hR h9 h64 (i := 0) (m := win) (by omega) hX.2.1 hX.n3 h0
  have hX2 := hX.t hL f2
  obtain ⟨μ1, m1, m2, m3, m4⟩ := M_sums_ok hR (show l < 5 by omega) (by omega) h9 (i := 0) (m := win) (by omega) hM.1 (hM.ln hl)
  obtain ⟨r, σ', μ', row, g1, g2, g3, g4, g5, g6⟩ := great_loop hR hl h64 h9 hwin hm u u' (m - 1) 1 0 f g σ2 μ1 (by omega) (by omega) (by omega) (by omega) (by omega) hX2 (hM.v m2) (hL.t f2) (h0.t f2)
  refine ⟨r, σ', μ', row, ?_, ?_, g3, g4, g5.trans f2.2.2.2.1, g6⟩
  · rw [← g1]
    show (if nI (szL L l) < nI 0 + nI win then _ else ((X_folds_r0 2 (nI 0) (nI 0 + nI win) σ).bind fun q8 => (if (-1 : Int32) = (-1 : Int32) then (if 2 < xN q8 then X_greatest_55 f (nI win) (nI (szL L l)) (nI 0) (rQ (xC q8 2)) (nI 0 + nI 1) q8 u u' else none) else _))) = _
    rw [nI_add, if_neg (fun z => absurd ((nI_ltI (by omega) (by omega)).mp z) (by omega)), f1, Option.bind_some, if_pos rfl, if_pos (by have := hX2.n3; omega), show rQ (xC σ2 2) = (fo ρ (seg (itemsOf L l) 0 win)).2 by rw [← f3]; rfl, nI_add]
  · rw [← g2]
    show (if nI m ≤ nI 0 then _ else ((M_sums (nI l) (nI 0) (nI win) μ).bind fun q6 => (if nI 0 = 0 then M_greatest_56 g (nI l) (nI win) (nI m) (nI 0) (gL q6 0) (gL q6 1) (nI 0 + nI 1) q6 else _))) = _
    rw [if_neg (nI_ge (by omega) (by omega)), m1, Option.bind_some, if_pos (show nI 0 = 0 from rfl), m3, m4, nI_add]
theorem no_win {a b : Nat} (h : a < b) (hb : b ≤ 64) : ¬ nI 1 ≤ nI a - nI b + nI 1 := by
  have e := pk_sub_toInt (a := a) (b := b) (by omega) (by omega)
  intro z
  have z := Int32.le_iff_toInt_le.mp z
  rw [Int32.toInt_add, e, show (nI 1).toInt = 1 from rfl, Int.bmod_def] at z
  split at z <;> omega
theorem E_greatest_ok (n : Nat) : E_greatest (RR n) (RR (n + 1)) := by
  intro σ μ x1 x2 h
  have h0 := h.stay (nI 0)
  obtain ⟨ρ, L, w, reb, Z, hR, hL, hZ, hX, hM, hw, hr⟩ := h
  have hM0 := hM.q (MU.sI μ (k := 0) (.inl rfl) (nI 0))
  rcases isL x1 with ⟨a1, b1⟩ | ⟨l, hl, rfl, a1, b1⟩
  · exact ⟨-1, σ, _, by unfold X_greatest; simp only [a1, obs, n10, n00, n20, if_false, if_true, and_self, Nat.reduceAdd, Nat.reduceLeDiff], by unfold M_greatest; simp only [b1, obs, n10, n00, n20, if_false, if_true, and_self, Nat.reduceAdd, Nat.reduceLeDiff], h0⟩
  have cl : (nI l).toNatClampNeg = l := nI_clamp (by omega)
  have dl : ¬ (nI l < 0 ∨ 4 ≤ l) := by rw [zN_lt0 (by omega), false_or]; omega
  rcases isW x2 σ with ⟨a2, b2⟩ | ⟨win, hw1, hw2, rfl, a2, b2⟩
  · exact ⟨-1, σ, _, by unfold X_greatest; simp only [a1, a2, obs, n10, n00, n20, if_false, if_true, and_self, Nat.reduceAdd, Nat.reduceLeDiff], by unfold M_greatest; simp only [b1, b2, obs, n10, n00, n20, if_false, if_true, and_self, Nat.reduceAdd, Nat.reduceLeDiff], h0⟩
  obtain ⟨h64, h9, hs64⟩ := its9 hL hl
  have s2 := M_size_ok hM0 (by decide) hl
  obtain ⟨σ1, p1, p2, p3, p4, -⟩ := hX.lay0 hL hl
  have hL1 : LOK 4 L (xN σ1) w := by rw [p3]; exact hL
  by_cases hc : win ≤ szL L l
  · have q1 : (nI win ≤ nI (szL L l)) = True := eq_true (nI_le hc (by omega))
    have k1 : nI (szL L l) - nI win + nI 1 = nI (szL L l - win + 1) := by rw [pk_sub hc, nI_add]
    have q2 : (nI 1 ≤ nI (szL L l - win + 1)) = True := eq_true (nI_le (by omega) (by omega))
    obtain ⟨r, σ', μ', row, g1, g2, g3, g4, g5, g6⟩ := great_start hR hl h64 h9 hw1 (show szL L l - win + 1 + win = szL L l + 1 by omega) (by omega) (0 + 6) (0 + 150) FU FU (by unfold FU; omega) (by unfold FU; omega) p2 hM0 hL1 (fun t ht => p4 t ht)
    have hx : X_greatest (nI l) (nI win) σ = some (r, σ') := by
      unfold X_greatest
      rw [a1, obs, if_neg (show ¬ nI 1 = 0 by decide), a2, obs, if_neg (show ¬ nI 1 = 0 by decide), if_neg (by rw [cl]; exact dl), if_pos ⟨by decide, by decide⟩, cl, p1, obs, if_pos (nI_le hc (by omega))]
      exact g1
    have hm : M_greatest (nI l) (nI win) μ = some (r, μ') := by
      unfold M_greatest
      rw [b1, obs, if_neg (show ¬ nI 1 = 0 by decide), b2, obs, if_neg (show ¬ nI 1 = 0 by decide), s2, obs, k1, if_pos (nI_le (by omega) (by omega))]
      exact g2
    exact ⟨r, σ', μ', hx, hm, RR.fin hR hL hZ hw hr g6 g3 g4 (g5.trans p3)⟩
  · have hx : X_greatest (nI l) (nI win) σ = some (-2, σ1) := by
      unfold X_greatest
      rw [a1, obs, if_neg (show ¬ nI 1 = 0 by decide), a2, obs, if_neg (show ¬ nI 1 = 0 by decide), if_neg (by rw [cl]; exact dl), if_pos ⟨by decide, by decide⟩, cl, p1, obs, if_neg (nI_ge (by omega) (by omega))]
    have hm : M_greatest (nI l) (nI win) μ = some (-2, sI μ 0 (nI 0)) := by
      unfold M_greatest
      rw [b1, obs, if_neg (show ¬ nI 1 = 0 by decide), b2, obs, if_neg (show ¬ nI 1 = 0 by decide), s2, obs, if_neg (no_win (by omega) (by omega))]
    exact ⟨-2, σ1, _, hx, hm, RR.fin hR hL hZ hw hr hZ.2.2 p2 hM0 p3⟩
