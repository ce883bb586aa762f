set_option maxRecDepth 100000
/-! joins, parts, reverses, rule -/
theorem tkL_c (L : LC) {l l' e e' pn w : Nat} (h : l' ≠ l) : tkL L l e pn w l' e' = L l' e' := by
  unfold tkL; split
  · exact lay_c _ _ _ _ _ _ _ _ h
  · rfl
theorem tkA_c (L : LC) {l l' e e' pn w : Nat} (h : l' ≠ l) : tkA L l e pn w l' e' = L l' e' := by
  unfold tkA; rw [upL_c _ (.inl h), tkL_c _ h]
theorem tkA_n (L : LC) {l l' e pn w : Nat} (h : l' ≠ l) : szL (tkA L l e pn w) l' = szL L l' := by unfold szL; rw [tkA_c _ h, tkA_c _ h]
theorem upL_nsz (L : LC) {l l' e : Nat} (cs : List CL) (h : l' ≠ l) : szL (upL L l e cs) l' = szL L l' := by unfold szL; rw [upL_c _ (.inl h), upL_c _ (.inl h)]
theorem XR.work {k : Nat} {ρ : RC} {L : LC} {w : Nat} {reb : Int32} {Z : ZZ} {σ : XS} (h : XR k ρ L w reb Z σ) : xL σ 0 = lN w := h.2.2.1.2.2.2.2
theorem MR.work {k : Nat} {ρ : RC} {L : LC} {w : Nat} {reb : Int32} {Z : ZZ} {μ : MS} (h : MR k ρ L w reb Z μ) : gI μ 8 = nI w := h.2.1.2.2.1
theorem joins_loop {ρ : RC} {Z : ZZ} (hR : RV ρ) {l had : Nat} (hl : l < 4) : ∀ (m : Nat) (σ : XS) (μ : MS) (L : LC) (w : Nat) (reb : Int32) (u v f g : Nat), szL L 4 = m → XR 5 ρ L w reb Z σ → MR 5 ρ L w reb Z μ → LOK 5 L (xN σ) w → szL L l + m ≤ 64 → u + 71 * m ≤ 4544 → v + 540 * m ≤ 34560 → m < f → m < g → had ≤ w → w + 65 * m ≤ had + 5000 → ∃ (r : Int32) (σ' : XS) (μ' : MS) (L' : LC) (w' : Nat) (reb' : Int32), X_joins_76 f l (lN had) σ u v = some (r, σ') ∧ M_joins_51 g (nI l) (nI had) μ = some (r, μ') ∧ XR 4 ρ L' w' reb' (zr Z [lN (w' - had)]) σ' ∧ MR 4 ρ L' w' reb' (zr Z [lN (w' - had)]) μ' ∧ LOK 4 L' (xN σ') w' ∧ w' ≤ had + 5000 := by
  intro m
  induction m with
  | zero =>
    intro σ μ L w reb u v f g hm hX hM hL hs hu hv hf hg hw hb
    obtain ⟨f, rfl⟩ : ∃ z, f = z + 1 := ⟨f - 1, by omega⟩
    obtain ⟨g, rfl⟩ : ∃ z, g = z + 1 := ⟨g - 1, by omega⟩
    have s1 := X_sz hX (show 4 < 5 by decide)
    have s2 := M_size_ok hM (by decide) (show 4 < 5 by decide)
    rw [hm] at s1 s2
    obtain ⟨t1, t2⟩ := X_tells_ok (X_reset (hX.down (show 4 ≤ 5 by decide))) (r := []) (by decide) (lN (w - had))
    obtain ⟨u1, u2⟩ := M_enters_ok (M_reset (hM.down (show 4 ≤ 5 by decide))) (r := []) (by decide) (lN (w - had))
    have s3 := X_sz t2 hl
    have s4 := M_size_ok hM (by decide) (show l < 5 by omega)
    have w1 : xL (zI σ 5 (nI 0)) 0 = lN w := hX.work
    have v1 : gI (sI μ 1 (nI 0)) 8 = nI w := hM.work
    have k0 : nI 0 ≤ 0 := by decide
    refine ⟨nI (szL L l), _, _, L, w, reb, ?_, ?_, t2, u2, hL.down (by decide), by omega⟩
    · simp only [X_joins_76, s1, Option.bind_some, k0, if_true, w1, lN_sub hw, t1, s3]
    · simp only [M_joins_51, M_tellsWork, s2, Option.bind_some, k0, if_true, s4, v1, pk_sub hw, nI_l (show w - had < 2 ^ 31 by omega), u1]
  | succ m ih =>
    intro σ μ L w reb u v f g hm hX hM hL hs hu hv hf hg hw hb
    obtain ⟨f, rfl⟩ : ∃ z, f = z + 1 := ⟨f - 1, by omega⟩
    obtain ⟨g, rfl⟩ : ∃ z, g = z + 1 := ⟨g - 1, by omega⟩
    have s1 := X_sz hX (show 4 < 5 by decide)
    have s2 := M_size_ok hM (by decide) (show 4 < 5 by decide)
    have h4 := hL.2.1 4 (by decide)
    have h4 : szL L 4 ≤ 64 := h4
    have k0 : ¬ nI (szL L 4) ≤ 0 := nI_nle (by omega) (by omega)
    obtain ⟨σ1, p1, p2, p3, -⟩ := X_take_ok (l := 4) (e := 0) hR hX hL (by decide) (by decide) (by decide) (by omega)
    obtain ⟨μ1, q1, q2, -⟩ := M_take_ok (l := 4) (e := 0) hR hM hL hX.n3 (by decide) (by decide) (by decide) (by omega)
    obtain ⟨hL1, hs1, hv9⟩ := tkA_lok (e := 0) hL hX.n3 (show 4 < 5 by decide) (by decide)
    have hv9 := hv9 (by omega)
    have hN := tk_8000 (e := 0) hL (show 4 < 5 by decide)
    have hs1 : szL (tkA L 4 0 (xN σ) w) 4 = m := by rw [hs1, if_pos (by omega)]; omega
    have hsl : szL (tkA L 4 0 (xN σ) w) l = szL L l := tkA_n _ (by omega)
    rw [← p3] at hL1
    obtain ⟨σ2, g1, g2, g3, -⟩ := X_put_ok (l := l) (e := 1) hR hL1 p2 (by decide) (by omega) (by decide) hv9
    obtain ⟨μ2, f1, f2, -⟩ := M_makes_ok (l := l) (e := 1) hR q2 hL1 (by decide) (by omega) (by decide) (by omega) hv9
    have hs64 : szL (tkA L 4 0 (xN σ) w) l < 64 := by omega
    unfold szL at hs64
    have hL2 := hL1.put (l := l) (e := 1) p2.n3 (by omega) (by decide) hs64 hv9
    rw [← g3] at hL2
    obtain ⟨r, σ', μ', L', w', reb', e1, e2', e3, e4, e5, e6⟩ := ih σ2 μ2 _ _ _ (u + 70 + 1) (v + 534 + 6) f g (by rw [upL_nsz _ _ (by omega)]; exact hs1) g2 f2 hL2 (by rw [up_sz (by decide), hsl]; omega) (by omega) (by omega) (by omega) (by omega) (by omega) (by omega)
    refine ⟨r, σ', μ', L', w', reb', ?_, ?_, e3, e4, e5, e6⟩
    · have b1 : u + 70 ≤ 4544 ∧ v + 534 ≤ 34560 := by omega
      have b2 : u + 70 + 1 ≤ 4544 ∧ v + 534 + 6 ≤ 34560 := by omega
      rw [← e1]
      show ((Xl_size 4 σ).bind fun q8 => (if q8.1 ≤ 0 then _ else (if u + 70 ≤ 4544 ∧ v + 534 ≤ 34560 then ((Xl_take 4 (nI 0) q8.2).bind fun q11 => (if (u + 70) + 1 ≤ 4544 ∧ (v + 534) + 6 ≤ 34560 then ((Xl_put l (nI 1) q11.1 q11.2).bind fun q13 => X_joins_76 f l (lN had) q13 ((u + 70) + 1) ((v + 534) + 6)) else none)) else none))) = _
      rw [s1, Option.bind_some, if_neg k0, if_pos b1, p1, Option.bind_some, if_pos b2, g1, Option.bind_some]
    · rw [← e2']
      show ((M_sizeOf (nI 4) μ).bind fun q6 => (if q6.1 ≤ 0 then _ else ((M_takesOne (nI 4) (nI 0) q6.2).bind fun q9 => ((M_makes (nI 2 * nI l + nI 1) q9.1 q9.2).bind fun q10 => M_joins_51 g (nI l) (nI had) q10)))) = _
      rw [s2, Option.bind_some, if_neg k0, q1, Option.bind_some, pk_mul, nI_add, f1, Option.bind_some]
theorem X_joins_F {σ σ1 : XS} {l o a b : Nat} (hl : l < 4) (ho : o < 4) (a1 : X_isLine (nI l) = some (nI 1)) (a2 : X_isLine (nI o) = some (nI 1)) (p1 : Xl_be 4 o σ = some σ1) (t1 : Xl_size l σ1 = some (nI a, σ1)) (t2 : Xl_size 4 σ1 = some (nI b, σ1)) (h : 64 < a + b) (h2 : a + b < 200) : X_joins (nI l) (nI o) σ = some (-3, σ1) := by
  have cl : (nI l).toNatClampNeg = l := nI_clamp (by omega)
  have dl : ¬ (nI l < 0 ∨ 4 ≤ l) := by rw [zN_lt0 (by omega), false_or]; omega
  have co : (nI o).toNatClampNeg = o := nI_clamp (by omega)
  have do_ : ¬ (nI o < 0 ∨ 4 ≤ o) := by rw [zN_lt0 (by omega), false_or]; omega
  unfold X_joins
  rw [a1, Option.bind_some, if_neg (show ¬ nI 1 = 0 by decide), a2, Option.bind_some, if_neg (show ¬ nI 1 = 0 by decide), if_neg (by rw [cl]; exact dl), if_neg (by rw [co]; exact do_), cl, co, p1, Option.bind_some, t1, Option.bind_some, t2, Option.bind_some, nI_add, if_neg (nI_ge h (by omega))]
theorem X_joins_T {σ σ1 : XS} {l o a b : Nat} (hl : l < 4) (ho : o < 4) (a1 : X_isLine (nI l) = some (nI 1)) (a2 : X_isLine (nI o) = some (nI 1)) (p1 : Xl_be 4 o σ = some σ1) (t1 : Xl_size l σ1 = some (nI a, σ1)) (t2 : Xl_size 4 σ1 = some (nI b, σ1)) (h : ¬ 64 < a + b) (h2 : a + b < 200) : X_joins (nI l) (nI o) σ = X_joins_76 FU l (xL σ1 0) σ1 0 0 := by
  have cl : (nI l).toNatClampNeg = l := nI_clamp (by omega)
  have dl : ¬ (nI l < 0 ∨ 4 ≤ l) := by rw [zN_lt0 (by omega), false_or]; omega
  have co : (nI o).toNatClampNeg = o := nI_clamp (by omega)
  have do_ : ¬ (nI o < 0 ∨ 4 ≤ o) := by rw [zN_lt0 (by omega), false_or]; omega
  unfold X_joins
  rw [a1, Option.bind_some, if_neg (show ¬ nI 1 = 0 by decide), a2, Option.bind_some, if_neg (show ¬ nI 1 = 0 by decide), if_neg (by rw [cl]; exact dl), if_neg (by rw [co]; exact do_), cl, co, p1, Option.bind_some, t1, Option.bind_some, t2, Option.bind_some, nI_add, if_pos (nI_le (Nat.not_lt.mp h) (by omega))]
theorem E_joins_ok (n : Nat) : E_joins (RR n) (RR (n + 1)) := by
  intro σ μ x1 x2 h
  have h0 := h.stay (nI 0)
  obtain ⟨ρ, L, w, reb, Z, hR, hL, hZ, hX, hM, hw, hr⟩ := h
  rcases isL x1 with ⟨a1, b1⟩ | ⟨l, hl, rfl, a1, b1⟩
  · exact ⟨-1, σ, _, by unfold X_joins; simp only [a1, Option.bind_some, n10, n00, n20, if_false, if_true, and_self, Nat.reduceAdd, Nat.reduceLeDiff], by unfold M_joins; simp only [b1, Option.bind_some, n10, n00, n20, if_false, if_true, and_self, Nat.reduceAdd, Nat.reduceLeDiff], h0⟩
  rcases isL x2 with ⟨a2, b2⟩ | ⟨o, ho, rfl, a2, b2⟩
  · exact ⟨-1, σ, _, by unfold X_joins; simp only [a1, a2, Option.bind_some, n10, n00, n20, if_false, if_true, and_self, Nat.reduceAdd, Nat.reduceLeDiff], by unfold M_joins; simp only [b1, b2, Option.bind_some, n10, n00, n20, if_false, if_true, and_self, Nat.reduceAdd, Nat.reduceLeDiff], h0⟩
  have cl : (nI l).toNatClampNeg = l := nI_clamp (by omega)
  have dl : ¬ (nI l < 0 ∨ 4 ≤ l) := by rw [zN_lt0 (by omega), false_or]; omega
  have co : (nI o).toNatClampNeg = o := nI_clamp (by omega)
  have do_ : ¬ (nI o < 0 ∨ 4 ≤ o) := by rw [zN_lt0 (by omega), false_or]; omega
  have hM0 := hM.q (MU.sI μ (k := 0) (.inl rfl) (nI 0))
  obtain ⟨σ1, p1, p2, p3, -⟩ := X_be_ok (l := 4) (k' := 5) hX (by decide) ho (by omega) (fun l' h1 h2 => by omega) (by decide) (by decide)
  have s1 := M_size_ok hM0 (by decide) hl
  have s2 := M_size_ok hM0 (by decide) ho
  have t1 := X_sz p2 (show l < 5 by omega)
  have t2 := X_sz p2 (show 4 < 5 by decide)
  rw [cpl_n _ (show l ≠ 4 by omega)] at t1
  rw [cpl_sz] at t2
  have z1 : szL L l ≤ 64 := hL.2.1 l hl
  have z2 : szL L o ≤ 64 := hL.2.1 o ho
  have hL1 := LOK_cpl (l := 4) (k' := 5) hL ho (fun l' h1 h2 => by omega)
  rw [← p3] at hL1
  have w1 : xL σ1 0 = lN w := p2.work
  have v1 : gI (sI μ 0 (nI 0)) 8 = nI w := hM0.work
  by_cases hf : szL L l + szL L o ≤ 64
  · have hq : (nI (szL L l + szL L o) ≤ nI 64) = True := eq_true (nI_le hf (by decide))
    obtain ⟨μ1, q1, q2, -⟩ := M_copy_ok (o := 4) (k' := 5) hM0 hL (by decide) ho (by decide) (by omega) (fun l' h1 h2 => by omega)
    obtain ⟨r, σ', μ', L', w', reb', e1, e2', e3, e4, e5, e6⟩ := joins_loop (had := w) hR hl (szL L o) σ1 μ1 _ w reb 0 0 FU FU (cpl_sz _ _ _) p2 q2 hL1 (by rw [cpl_n _ (show l ≠ 4 by omega)]; exact hf) (by omega) (by omega) (by unfold FU; omega) (by unfold FU; omega) (Nat.le_refl _) (by omega)
    exact ⟨r, σ', μ', by rw [X_joins_T hl ho a1 a2 p1 t1 t2 (by omega) (by omega), w1, e1], by unfold M_joins; simp only [b1, b2, s1, s2, nI_add, hq, q1, v1, e2', Option.bind_some, n10, n00, n20, if_false, if_true, and_self, Nat.reduceAdd, Nat.reduceLeDiff], ρ, L', w', reb', _, hR, e5, hZ.row (r := [lN (w' - w)]) (by show 1 ≤ 128; decide), e3, e4, by omega, by show Z.2.2.2 ≤ n + 1; omega⟩
  · have hq : (nI (szL L l + szL L o) ≤ nI 64) = False := eq_false (nI_ge (by omega) (by omega))
    exact ⟨-3, σ1, sI μ 0 (nI 0), X_joins_F hl ho a1 a2 p1 t1 t2 (by omega) (by omega), by unfold M_joins; simp only [b1, b2, s1, s2, nI_add, hq, Option.bind_some, n10, n00, n20, if_false, if_true, and_self, Nat.reduceAdd, Nat.reduceLeDiff], ρ, L, w, reb, Z, hR, by rw [p3]; exact hL, hZ, (p2.down (show 4 ≤ 5 by decide)).ext (fun l' e' h1 h2 => (if_neg (by omega) : cpl L 4 o l' e' = L l' e').symm), hM0, by omega, by omega⟩
theorem E_parts_ok (n : Nat) : E_parts (RR n) (RR (n + 1)) := by
  intro σ μ x1 x2 x3 h
  have h0 := h.stay (nI 0)
  obtain ⟨ρ, L, w, reb, Z, hR, hL, hZ, hX, hM, hw, hr⟩ := h
  rcases isL x1 with ⟨a1, b1⟩ | ⟨l, hl, rfl, a1, b1⟩
  · exact ⟨-1, σ, _, by unfold X_parts; simp only [a1, Option.bind_some, n10, n00, n20, if_false, if_true, and_self, Nat.reduceAdd, Nat.reduceLeDiff], by unfold M_parts; simp only [b1, Option.bind_some, n10, n00, n20, if_false, if_true, and_self, Nat.reduceAdd, Nat.reduceLeDiff], h0⟩
  rcases isL x3 with ⟨a2, b2⟩ | ⟨o, ho, rfl, a2, b2⟩
  · exact ⟨-1, σ, _, by unfold X_parts; simp only [a1, a2, Option.bind_some, n10, n00, n20, if_false, if_true, and_self, Nat.reduceAdd, Nat.reduceLeDiff], by unfold M_parts; simp only [b1, b2, Option.bind_some, n10, n00, n20, if_false, if_true, and_self, Nat.reduceAdd, Nat.reduceLeDiff], h0⟩
  have cl : (nI l).toNatClampNeg = l := nI_clamp (by omega)
  have dl : ¬ (nI l < 0 ∨ 4 ≤ l) := by rw [zN_lt0 (by omega), false_or]; omega
  have co : (nI o).toNatClampNeg = o := nI_clamp (by omega)
  have do_ : ¬ (nI o < 0 ∨ 4 ≤ o) := by rw [zN_lt0 (by omega), false_or]; omega
  have hM0 := hM.q (MU.sI μ (k := 0) (.inl rfl) (nI 0))
  by_cases h2 : 0 ≤ x2
  · obtain ⟨j, hj, rfl⟩ := nI_of (Int32.not_lt.mpr h2)
    have hj0 := eq_true h2
    by_cases hlo : l = o
    · have hq : (nI l = nI o) = True := eq_true (by rw [hlo])
      exact ⟨-2, σ, _, by unfold X_parts; simp only [a1, a2, hj0, hq, Option.bind_some, n10, n00, n20, if_false, if_true, and_self, Nat.reduceAdd, Nat.reduceLeDiff], by unfold M_parts; simp only [b1, b2, hj0, hq, Option.bind_some, n10, n00, n20, if_false, if_true, and_self, Nat.reduceAdd, Nat.reduceLeDiff], h0⟩
    have hq : (nI l = nI o) = False := eq_false (fun z => hlo ((nI_eq (by omega) (by omega)).mp z))
    have s1 := X_sz hX hl
    have s2 := M_size_ok hM0 (by decide) hl
    have z1 : szL L l ≤ 64 := hL.2.1 l hl
    by_cases hjn : j ≤ szL L l
    · have hq2 : (nI j ≤ nI (szL L l)) = True := eq_true (nI_le hjn (by omega))
      have hil := items_len L l
      have h9 := itm_9 hL hl
      have t1 := X_lay_r1 hX hL hl
      have hqx : XQ (xN σ) σ (zX σ 4 (wr (xA σ 4) 0 (itemsOf L l))) := XQ.zX σ (by decide) _
      have l1 : ((itemsOf L l).take j).length = j := by rw [List.length_take]; omega
      have l2 : ((itemsOf L l).drop j).length = szL L l - j := by rw [List.length_drop]; omega
      obtain ⟨σ1, p1, p2, p3, p4, -⟩ := X_lays_r1 hR (hX.q hL hqx) hL (by decide) hl ((itemsOf L l).take j) 0 ((j + 1) / 2) (by omega) (by omega) (fun v q => h9 v (List.mem_of_mem_take q)) (fun i hi => by
        rw [zX_A, Nat.zero_add, wr_at _ _ (by omega), List.getD_eq_getElem?_getD, List.getD_eq_getElem?_getD, List.getElem?_take_of_lt (by omega)])
      have hL1 := hL.lay (l := l) (its := (itemsOf L l).take j) (first := (j + 1) / 2) hl hX.n3 (by omega) (by omega) (fun v q => h9 v (List.mem_of_mem_take q))
      rw [l1] at p1 p2 p3 hL1
      have p3 : xN σ1 = xN σ + j := p3
      rw [← p3] at hL1
      have p2 : XR 4 ρ (layL L l (xN σ) w ((itemsOf L l).take j) ((j + 1) / 2)) (w + j) reb Z σ1 := p2
      obtain ⟨σ2, g1, g2, g3, -⟩ := X_lays_r1 hR p2 hL1 (by decide) ho ((itemsOf L l).drop j) j ((szL L l - j + 1) / 2) (by omega) (by omega) (fun v q => h9 v (List.mem_of_mem_drop q)) (fun i hi => by
        rw [p4 4 (by decide) (by omega), zX_A, wr_at _ _ (by omega), List.getD_eq_getElem?_getD, List.getD_eq_getElem?_getD, List.getElem?_drop])
      have hL2 := hL1.lay (l := o) (its := (itemsOf L l).drop j) (first := (szL L l - j + 1) / 2) ho p2.n3 (by omega) (by omega) (fun v q => h9 v (List.mem_of_mem_drop q))
      rw [l2] at g1 g2 g3 hL2
      rw [← g3] at hL2
      have hqm := MU.mX (sI μ 0 (nI 0)) (k := 8) (by decide) (wr (gA (sI μ 0 (nI 0)) 8) 0 (itemsOf L l))
      have t2 := M_items_ok hM0 hL (by decide) hl
      obtain ⟨μ1, q1, q2, q3⟩ := M_lays_ok hR (hM0.q hqm) hL hX.n3 (by decide) hl ((itemsOf L l).take j) 0 ((j + 1) / 2) (by omega) (by omega) (by omega) (fun v q => h9 v (List.mem_of_mem_take q)) (fun i hi => by
        rw [mX_A, Nat.zero_add, wr_at _ _ (by omega), List.getD_eq_getElem?_getD, List.getD_eq_getElem?_getD, List.getElem?_take_of_lt (by omega)])
      rw [l1] at q1 q2
      obtain ⟨μ2, f1, f2, -⟩ := M_lays_ok hR q2 hL1 p2.n3 (by decide) ho ((itemsOf L l).drop j) j ((szL L l - j + 1) / 2) (by omega) (by omega) (by omega) (fun v q => h9 v (List.mem_of_mem_drop q)) (fun i hi => by
        rw [q3.2 8 (by decide), mX_A, wr_at _ _ (by omega), List.getD_eq_getElem?_getD, List.getD_eq_getElem?_getD, List.getElem?_drop])
      rw [l2] at f1 f2
      have k1 : (nI (j + 1) / nI 2) = nI ((j + 1) / 2) := pk_div (by omega) (by decide) (by decide)
      have k2 : nI (szL L l) - nI j = nI (szL L l - j) := pk_sub hjn
      have k3 : (nI (szL L l - j + 1) / nI 2) = nI ((szL L l - j + 1) / 2) := pk_div (by omega) (by decide) (by decide)
      refine ⟨nI (szL L l - j), σ2, μ2, by unfold X_parts; simp only [a1, a2, hj0, hq, cl, dl, co, do_, s1, hq2, t1, nI_add, k1, p1, k2, k3, g1, Option.bind_some, n10, n00, n20, if_false, if_true, and_self, Nat.reduceAdd, Nat.reduceLeDiff], by unfold M_parts; simp only [b1, b2, hj0, hq, s2, hq2, t2, nI_add, k1, q1, k2, k3, f1, Option.bind_some, n10, n00, n20, if_false, if_true, and_self, Nat.reduceAdd, Nat.reduceLeDiff], ρ, _, _, reb, Z, hR, hL2, hZ, g2, f2, by omega, by omega⟩
    · have hq2 : (nI j ≤ nI (szL L l)) = False := eq_false (nI_ge (by omega) hj)
      exact ⟨-3, σ, _, by unfold X_parts; simp only [a1, a2, hj0, hq, cl, dl, s1, hq2, Option.bind_some, n10, n00, n20, if_false, if_true, and_self, Nat.reduceAdd, Nat.reduceLeDiff], by unfold M_parts; simp only [b1, b2, hj0, hq, s2, hq2, Option.bind_some, n10, n00, n20, if_false, if_true, and_self, Nat.reduceAdd, Nat.reduceLeDiff], h0⟩
  · have hj0 := eq_false h2
    exact ⟨-1, σ, _, by unfold X_parts; simp only [a1, a2, hj0, Option.bind_some, n10, n00, n20, if_false, if_true, and_self, Nat.reduceAdd, Nat.reduceLeDiff], by unfold M_parts; simp only [b1, b2, hj0, Option.bind_some, n10, n00, n20, if_false, if_true, and_self, Nat.reduceAdd, Nat.reduceLeDiff], h0⟩
theorem E_rule_ok (n : Nat) : E_rule (RR n) (RR (n + 1)) := by
  intro σ μ x h
  have h0 := h.stay (nI 0)
  obtain ⟨ρ, L, w, reb, Z, hR, hL, hZ, hX, hM, hw, hr⟩ := h
  have hM0 := hM.q (MU.sI μ (k := 0) (.inl rfl) (nI 0))
  have g0 : xI σ 0 = nI ρ.1 := hX.2.1.1
  have m0 : gI (sI μ 0 (nI 0)) 5 = nI ρ.1 := hM0.1.1
  have e7 : (7 : Int64) = lN 7 := rfl
  rcases in_cases x 0 7 (by decide) (by decide) with q | ⟨v, -, hv, rfl, q⟩
  · exact ⟨-1, σ, _, by unfold X_rule; simp only [e7, q, Option.bind_some, n10, n00, n20, if_false, if_true, and_self, Nat.reduceAdd, Nat.reduceLeDiff], by unfold M_rule; simp only [M_in_eq, e7, q, Option.bind_some, n10, n00, n20, if_false, if_true, and_self, Nat.reduceAdd, Nat.reduceLeDiff], h0⟩
  · have hr8 := hR.1
    by_cases hc : ρ.1 = v
    · have hq : (nI ρ.1 = nI v) = True := eq_true (by rw [hc])
      exact ⟨-2, σ, _, by unfold X_rule; simp only [e7, q, g0, hq, Option.bind_some, n10, n00, n20, if_false, if_true, and_self, Nat.reduceAdd, Nat.reduceLeDiff], by unfold M_rule; simp only [M_in_eq, e7, q, m0, hq, Option.bind_some, n10, n00, n20, if_false, if_true, and_self, Nat.reduceAdd, Nat.reduceLeDiff], h0⟩
    · have hq : (nI ρ.1 = nI v) = False := eq_false (fun z => hc ((nI_eq (by omega) (by omega)).mp z))
      have hR' : RV (v, ρ.2) := ⟨by show v < 8; omega, hR.2⟩
      have hX' : XR 0 (v, ρ.2) L w reb Z (zI σ 0 (nI v)) := ⟨hX.1, ⟨rfl, hX.2.1.2⟩, hX.2.2.1, hX.2.2.2.1, hX.2.2.2.2.1, fun l e hl _ => absurd hl (Nat.not_lt_zero _), hX.2.2.2.2.2.2⟩
      have hM' : MR 0 (v, ρ.2) L w reb Z (sI (sI μ 0 (nI 0)) 5 (nI v)) := ⟨⟨rfl, hM0.1.2⟩, hM0.2.1, hM0.2.2.1, hM0.2.2.2.1, fun l e hl _ => absurd hl (Nat.not_lt_zero _)⟩
      obtain ⟨σ1, p1, p2, p3, p4⟩ := X_laysAll_ok (ρ0 := ρ) hR' 4 0 (zI σ 0 (nI v)) L w rfl hX' hL (fun l e _ hl he => ⟨(hX.2.2.2.2.2.1 l e hl he).1, XCh.same0 (σ := σ) _ _ (Nat.le_refl _) rfl (hX.2.2.2.2.2.1 l e hl he).2⟩)
      obtain ⟨μ1, q1, q2, -⟩ := M_laysAll_ok (ρ0 := ρ) hR' 4 0 FU (sI (sI μ 0 (nI 0)) 5 (nI v)) L (xN σ) w rfl (by unfold FU; omega) hX.n3 hM' hL (fun l e _ hl he => ⟨(hM0.2.2.2.2 l e hl he).1, MCh.same (μ := sI μ 0 (nI 0)) _ (fun _ _ => ⟨rfl, rfl, rfl, rfl⟩) (hM0.2.2.2.2 l e hl he).2⟩)
      have hS := szS_le hL 4 0 (by decide)
      exact ⟨nI ρ.1, σ1, μ1, by unfold X_rule X_laysAll; simp only [e7, q, g0, hq, p1, Option.bind_some, n10, n00, n20, if_false, if_true, and_self, Nat.reduceAdd, Nat.reduceLeDiff], by unfold M_rule M_laysAll; simp only [M_in_eq, e7, q, m0, hq, q1, Option.bind_some, n10, n00, n20, if_false, if_true, and_self, Nat.reduceAdd, Nat.reduceLeDiff], (v, ρ.2), _, _, reb, Z, hR', p3, hZ, p2, q2, by omega, by omega⟩
