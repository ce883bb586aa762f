set_option maxRecDepth 100000
/-! the twin lays lines, takes, copies -/
theorem MCh.move {ρ : RC} {e s s' : Nat} {μ μ' : MS} : ∀ cs : List CL, (∀ j, j < cs.length → gA μ' 7 (64 * s' + j) = gA μ 7 (64 * s + j) ∧ gA μ' 6 (64 * s' + j) = gA μ 6 (64 * s + j) ∧ gB μ' 3 (64 * s' + j) = gB μ 3 (64 * s + j) ∧ gB μ' 4 (64 * s' + j) = gB μ 4 (64 * s + j)) → MCh μ ρ e s cs → MCh μ' ρ e s' cs
  | [], _, _ => trivial
  | c :: cs, hc, h => by
    obtain ⟨h1, h2, h3, h4, h5⟩ := h
    obtain ⟨q1, q2, q3, q4⟩ := hc cs.length (Nat.lt_succ_self _)
    exact ⟨q1.trans h1, q2.trans h2, q3.trans h3, q4.trans h4, MCh.move cs (fun j hj => hc j (Nat.lt_succ_of_lt hj)) h5⟩
/-- one line is changed -/
theorem MR.line {k k' : Nat} {ρ : RC} {L L' : LC} {w l pn w' : Nat} {reb : Int32} {Z : ZZ} {μ μ' : MS} (h : MR k ρ L w reb Z μ) (hLk : LOK k L pn w') (hk : ∀ l', l' < k' → l' ≠ l → l' < k) (h1 : ∀ j, gI μ' j = gI μ j) (h2 : gA μ' 0 = gA μ 0 ∧ gA μ' 1 = gA μ 1 ∧ gB μ' 0 = gB μ 0) (h3 : ∀ l' e, l' ≠ l → e < 2 → gA μ' 5 (2 * l' + e) = gA μ 5 (2 * l' + e)) (h4 : ∀ l' e j, l' ≠ l → e < 2 → j < 64 → gA μ' 7 (64 * (2 * l' + e) + j) = gA μ 7 (64 * (2 * l' + e) + j) ∧ gA μ' 6 (64 * (2 * l' + e) + j) = gA μ 6 (64 * (2 * l' + e) + j) ∧ gB μ' 3 (64 * (2 * l' + e) + j) = gB μ 3 (64 * (2 * l' + e) + j) ∧ gB μ' 4 (64 * (2 * l' + e) + j) = gB μ 4 (64 * (2 * l' + e) + j))
    (h5 : ∀ e, e < 2 → gA μ' 5 (2 * l + e) = nI (L' l e).length ∧ MCh μ' ρ e (2 * l + e) (L' l e)) (hL : ∀ l' e, l' ≠ l → L' l' e = L l' e) : MR k' ρ L' w reb Z μ' := by
  obtain ⟨a1, ⟨a2, a3, a4, a5⟩, a6, a7, a8⟩ := h
  refine ⟨⟨(h1 5).trans a1.1, (h1 6).trans a1.2.1, (h1 7).trans a1.2.2.1, fun i j hi hj => by rw [h2.2.1]; exact a1.2.2.2 i j hi hj⟩, ⟨(h1 1).trans a2, (h1 2).trans a3, (h1 8).trans a4, (h1 9).trans a5⟩, fun i hi => by rw [h2.1]; exact a6 i hi, fun i hi => by rw [h2.2.2]; exact a7 i hi, fun l' e hl' he => ?_⟩
  by_cases hll : l' = l
  · subst hll; exact h5 e he
  · obtain ⟨g1, g2⟩ := a8 l' e (hk l' hl' hll) he
    have hb := hLk.2.1 l' (hk l' hl' hll)
    rw [hL _ _ hll, h3 _ _ hll he]
    exact ⟨g1, MCh.same _ (fun j hj => h4 l' e j hll he (by rcases (show e = 0 ∨ e = 1 by omega) with rfl | rfl <;> omega)) g2⟩
theorem MR.ext {k : Nat} {ρ : RC} {L L' : LC} {w : Nat} {reb : Int32} {Z : ZZ} {μ : MS} (h : MR k ρ L w reb Z μ) (hL : ∀ l e, l < k → e < 2 → L' l e = L l e) : MR k ρ L' w reb Z μ := ⟨h.1, h.2.1, h.2.2.1, h.2.2.2.1, fun l e hl he => by rw [hL l e hl he]; exact h.2.2.2.2 l e hl he⟩
theorem MR.clr {k k' : Nat} {ρ : RC} {L : LC} {w l pn w' : Nat} {reb : Int32} {Z : ZZ} {μ : MS} (h : MR k ρ L w reb Z μ) (hLk : LOK k L pn w') (hk : ∀ l', l' < k' → l' ≠ l → l' < k) : MR k' ρ (CEndSumsLaw_law_r6305_3367cf.clr L l) w reb Z (sA (sA μ 5 (2 * l) (nI 0)) 5 (2 * l + 1) (nI 0)) := by
  refine h.line (l := l) hLk hk (fun _ => rfl) ⟨rfl, rfl, rfl⟩ (fun l' e hl' he => ?_) (fun _ _ _ _ _ _ => ⟨rfl, rfl, rfl, rfl⟩) (fun e he => ?_) (fun l' e hl' => if_neg hl')
  · rw [gA_sA, if_pos (show (5 : Nat) = 5 from rfl), if_neg (by omega), gA_sA, if_pos (show (5 : Nat) = 5 from rfl), if_neg (by omega)]
  · rw [show CEndSumsLaw_law_r6305_3367cf.clr L l l e = [] from if_pos rfl]
    refine ⟨?_, trivial⟩
    rw [gA_sA, if_pos (show (5 : Nat) = 5 from rfl), gA_sA, if_pos (show (5 : Nat) = 5 from rfl)]
    rcases (show e = 0 ∨ e = 1 by omega) with rfl | rfl
    · rw [if_neg (by omega), if_pos (by omega)]; rfl
    · rw [if_pos rfl]; rfl
theorem lays26 {k : Nat} {ρ : RC} {l : Nat} {reb : Int32} {Z : ZZ} (hR : RV ρ) (hk5 : k ≤ 5) (hl : l < k) (its : List Nat) (fr n first : Nat) (hf : fr + its.length ≤ 65) (h9 : ∀ v ∈ its, v ≤ 9999) : ∀ (j : Nat) (μ : MS) (L : LC) (pn w f : Nat), j ≤ its.length → MR k ρ L w reb Z μ → LOK k L pn w → 3 ≤ pn → szL L l + j ≤ 64 → (∀ i, i < its.length → gA μ 8 (fr + i) = nI (its.getD i 0)) → ∃ μ', MR k ρ (upL L l 0 (pushes pn w (its.take j).reverse (L l 0))) (w + j) reb Z μ' ∧ MF 8 μ μ' ∧ ML l μ μ' ∧ M_lays_2_26 (f + j) (nI l) (nI fr) (nI n) (nI first) (nI j - nI 1) μ = M_lays_2_26 f (nI l) (nI fr) (nI n) (nI first) (nI 0 - nI 1) μ' := by
  intro j
  induction j with
  | zero =>
    intro μ L pn w f _ h hL _ _ hr
    refine ⟨μ, ?_, MF.refl _ _, ML.refl _ _, rfl⟩
    show MR k ρ (upL L l 0 (L l 0)) w reb Z μ
    rw [upL_id]; exact h
  | succ j ih =>
    intro μ L pn w f hj h hL h3 hs hr
    have hv := h9 _ (gD_mem (show j < its.length from hj))
    obtain ⟨μ1, p1, p2, p3, pl⟩ := M_makes_ok (e := 0) (v := its.getD j 0) hR h hL hk5 hl (by decide) (by omega) hv
    have hL1 := hL.put (l := l) (e := 0) (v := its.getD j 0) h3 hl (by decide) (by unfold szL at hs; omega) hv
    obtain ⟨μ2, g1, g2, gl, g3⟩ := ih μ1 _ (pn + 1) (w + 1) f (by omega) p2 hL1 (by omega) (by unfold szL; rw [upL_s, upL_c _ (.inr (by decide))]; unfold szL at hs; simp only [List.length_cons]; omega) (fun i hi => by rw [p3.2 8 (by decide)]; exact hr i hi)
    refine ⟨μ2, ?_, p3.trans g2, pl.trans gl, ?_⟩
    · rw [upL_s, upL_upL] at g1
      rw [take_s hj, show w + (j + 1) = w + 1 + j by omega]; exact g1
    · rw [← g3]
      show M_lays_2_26 (f + j + 1) (nI l) (nI fr) (nI n) (nI first) (nI (j + 1) - nI 1) μ = _
      rw [m1_s]
      show (if nI j < 0 then _ else (if nI fr + nI j < 0 ∨ 65 ≤ (nI fr + nI j).toNatClampNeg then none else ((M_makes (nI 2 * nI l) (gA μ 8 (nI fr + nI j).toNatClampNeg) μ).bind fun q1 => M_lays_2_26 (f + j) (nI l) (nI fr) (nI n) (nI first) (nI j + (-1 : Int32)) q1))) = _
      rw [if_neg (nI_pos (by omega)), nI_add, if_neg (nI_in (by omega) (by decide)), nI_clamp (by omega), hr j hj, pk_mul, show 2 * l = 2 * l + 0 from rfl, p1, Option.bind_some, m1_e]
theorem lays57 {k : Nat} {ρ : RC} {l : Nat} {reb : Int32} {Z : ZZ} (hR : RV ρ) (hk5 : k ≤ 5) (hl : l < k) (fr n : Nat) (hf : fr + n ≤ 65) : ∀ (vs : List Nat) (i : Nat) (μ : MS) (L : LC) (pn w f : Nat), i + vs.length = n → (∀ x ∈ vs, x ≤ 9999) → MR k ρ L w reb Z μ → LOK k L pn w → 3 ≤ pn → szL L l + vs.length ≤ 64 → (∀ j, j < vs.length → gA μ 8 (fr + (i + j)) = nI (vs.getD j 0)) → vs.length < f → ∃ μ', MR k ρ (upL L l 1 (pushes pn w vs (L l 1))) (w + vs.length) reb Z μ' ∧ MF 8 μ μ' ∧ ML l μ μ' ∧ M_lays_2_57 f (nI l) (nI fr) (nI n) (nI i) μ = some μ' := by
  intro vs
  induction vs with
  | nil =>
    intro i μ L pn w f hi _ h hL _ _ hr hff
    obtain ⟨f, rfl⟩ : ∃ g, f = g + 1 := ⟨f - 1, by simp at hff; omega⟩
    have hi : i = n := hi
    refine ⟨μ, ?_, MF.refl _ _, ML.refl _ _, ?_⟩
    · show MR k ρ (upL L l 1 (L l 1)) w reb Z μ
      rw [upL_id]; exact h
    · show (if nI n ≤ nI i then some μ else _) = _
      rw [if_pos (nI_le (by omega) (by omega))]
  | cons x vs ih =>
    intro i μ L pn w f hi h9 h hL h3 hs hr hff
    simp only [List.length_cons] at hi hs hff
    obtain ⟨f, rfl⟩ : ∃ g, f = g + 1 := ⟨f - 1, by omega⟩
    have hx := h9 x List.mem_cons_self
    obtain ⟨μ1, p1, p2, p3, pl⟩ := M_makes_ok (e := 1) (v := x) hR h hL hk5 hl (by decide) (by omega) hx
    have hL1 := hL.put (l := l) (e := 1) (v := x) h3 hl (by decide) (by unfold szL at hs; omega) hx
    obtain ⟨μ2, g1, g2, gl, g3⟩ := ih (i + 1) μ1 _ (pn + 1) (w + 1) f (by omega) (fun y hy => h9 y (List.mem_cons_of_mem _ hy)) p2 hL1 (by omega) (by unfold szL; rw [upL_s, upL_c _ (.inr (by decide))]; unfold szL at hs; simp only [List.length_cons]; omega) (fun j hj => by
      rw [p3.2 8 (by decide), show fr + (i + 1 + j) = fr + (i + (j + 1)) by omega]
      exact hr (j + 1) (by simp only [List.length_cons]; omega)) (by omega)
    refine ⟨μ2, ?_, p3.trans g2, pl.trans gl, ?_⟩
    · rw [upL_s, upL_upL] at g1
      simp only [List.length_cons]
      rw [show w + (vs.length + 1) = w + 1 + vs.length by omega]; exact g1
    · rw [← g3]
      have h0 := hr 0 (by simp)
      rw [Nat.add_zero] at h0
      show (if nI n ≤ nI i then _ else (if nI fr + nI i < 0 ∨ 65 ≤ (nI fr + nI i).toNatClampNeg then none else ((M_makes (nI 2 * nI l + nI 1) (gA μ 8 (nI fr + nI i).toNatClampNeg) μ).bind fun q2 => M_lays_2_57 f (nI l) (nI fr) (nI n) (nI i + nI 1) q2))) = _
      rw [if_neg (nI_ge (by omega) (by omega)), nI_add, nI_add, if_neg (nI_in (by omega) (by decide)), nI_clamp (by omega), h0, show (x :: vs).getD 0 0 = x from rfl, pk_mul, nI_add, p1, Option.bind_some]
theorem M_lays_st {k0 k : Nat} {ρ : RC} {L : LC} {w pn l : Nat} {reb : Int32} {Z : ZZ} {μ : MS} (hR : RV ρ) (h : MR k0 ρ L w reb Z μ) (hL : LOK k0 L pn w) (hkk : ∀ l', l' < k → l' ≠ l → l' < k0) (h3 : 3 ≤ pn) (hk5 : k ≤ 5) (hl : l < k) (its : List Nat) (fr first : Nat) (hf : fr + its.length ≤ 65) (hi64 : its.length ≤ 64) (hfi : first ≤ its.length) (h9 : ∀ v ∈ its, v ≤ 9999) (hr : ∀ i, i < its.length → gA μ 8 (fr + i) = nI (its.getD i 0)) : ∃ μ', M_lays_2 (nI l) (nI fr) (nI its.length) (nI first) μ = some μ' ∧ MR k ρ (layL L l pn w its first) (w + its.length) reb Z μ' ∧ MF 8 μ μ' ∧ ML l μ μ' := by
  have a2 := h.clr (l := l) (k' := k) hL hkk
  have hL1 := LOK_clr (l := l) (k' := k) hL hkk
  have e0 : clr L l l 0 = [] := if_pos rfl
  have e1 : clr L l l 1 = [] := if_pos rfl
  have hs1 : szL (clr L l) l = 0 := by unfold szL; rw [e0, e1]; rfl
  obtain ⟨μ2, b1, b2, bl, b3⟩ := lays26 hR hk5 hl its fr its.length first hf h9 first _ (clr L l) pn w (FU - first) hfi a2 hL1 h3 (by rw [hs1]; omega) (fun i hi => hr i hi)
  have hL2 := LOK_pushes hl (e := 0) (by decide) (its.take first).reverse hL1 h3 (by rw [hs1]; simp; omega) (fun v q => h9 v (List.mem_of_mem_take (List.mem_reverse.mp q)))
  have hl2 : (its.take first).reverse.length = first := by simp; omega
  rw [hl2] at hL2
  have hd : (its.drop first).length = its.length - first := by simp
  obtain ⟨μ3, c1, c2, cl, c3⟩ := lays57 hR hk5 hl fr its.length hf (its.drop first) first μ2 _ (pn + first) (w + first) FU (by rw [hd]; omega) (fun x q => h9 x (List.mem_of_mem_drop q)) b1 hL2 (by omega) (by unfold szL; rw [upL_s, upL_c _ (.inr (by decide)), e1, pushes_len, e0, hl2, hd]; simp; omega) (fun j hj => by
    rw [hd] at hj
    rw [b2.2 8 (by decide)]
    refine (hr (first + j) (by omega)).trans ?_
    rw [List.getD_eq_getElem?_getD, List.getD_eq_getElem?_getD, List.getElem?_drop]) (by rw [hd]; unfold FU; omega)
  refine ⟨μ3, ?_, ?_, ?_, ?_⟩
  · unfold M_lays_2
    rw [pk_mul, nI_add, if_neg (nI_in (by omega) (by decide)), if_neg (nI_in (by omega) (by decide)), nI_clamp (by omega), nI_clamp (by omega)]
    rw [show FU - first + first = FU by unfold FU; omega] at b3
    rw [b3, show FU - first = (FU - first - 1) + 1 by unfold FU; omega]
    show (if nI 0 - nI 1 < 0 then _ else _) = _
    rw [if_pos m1_n]; exact c3
  · rw [hd, upL_c _ (.inr (by decide)), e1, show w + first + (its.length - first) = w + its.length by omega, e0] at c1
    exact c1
  · refine MF.trans (μ1 := sA (sA μ 5 (2 * l) (nI 0)) 5 (2 * l + 1) (nI 0)) ⟨fun _ _ _ => rfl, fun j hj => ?_⟩ (b2.trans c2)
    funext n; rw [gA_sA, if_neg (by omega), gA_sA, if_neg (by omega)]
  · refine ML.trans (μ1 := sA (sA μ 5 (2 * l) (nI 0)) 5 (2 * l + 1) (nI 0)) ⟨fun l' e hl' he => ?_, fun _ _ _ _ _ _ => ⟨rfl, rfl, rfl, rfl⟩⟩ (bl.trans cl)
    rw [gA_sA, if_pos (show (5 : Nat) = 5 from rfl), if_neg (by omega), gA_sA, if_pos (show (5 : Nat) = 5 from rfl), if_neg (by omega)]
theorem M_lays_ok {k : Nat} {ρ : RC} {L : LC} {w pn l : Nat} {reb : Int32} {Z : ZZ} {μ : MS} (hR : RV ρ) (h : MR k ρ L w reb Z μ) (hL : LOK k L pn w) (h3 : 3 ≤ pn) (hk5 : k ≤ 5) (hl : l < k) (its : List Nat) (fr first : Nat) (hf : fr + its.length ≤ 65) (hi64 : its.length ≤ 64) (hfi : first ≤ its.length) (h9 : ∀ v ∈ its, v ≤ 9999) (hr : ∀ i, i < its.length → gA μ 8 (fr + i) = nI (its.getD i 0)) : ∃ μ', M_lays_2 (nI l) (nI fr) (nI its.length) (nI first) μ = some μ' ∧ MR k ρ (layL L l pn w its first) (w + its.length) reb Z μ' ∧ MF 8 μ μ' := by
  obtain ⟨μ', a1, a2, a3, -⟩ := M_lays_st hR h hL (fun _ q _ => q) h3 hk5 hl its fr first hf hi64 hfi h9 hr
  exact ⟨μ', a1, a2, a3⟩
theorem M_pop_ok {k : Nat} {ρ : RC} {L : LC} {w pn w' l e : Nat} {reb : Int32} {Z : ZZ} {μ : MS} {c : CL} {cs : List CL} (h : MR k ρ L w reb Z μ) (hL : LOK k L pn w') (hk : k ≤ 5) (hl : l < k) (he : e < 2) (hc : L l e = c :: cs) (hlen : cs.length < 64) : ∃ μ', M_takesOne_62 (nI (2 * l + e)) μ = some (nI c.2.2, μ') ∧ MR k ρ (upL L l e cs) w reb Z μ' ∧ MF 8 μ μ' := by
  obtain ⟨g1, g2⟩ := h.2.2.2.2 l e hl he
  have h5 : l < 5 := by omega
  rw [hc] at g1 g2
  obtain ⟨q1, -, -, -, q5⟩ := g2
  have hc5 : (nI (2 * l + e)).toNatClampNeg = 2 * l + e := nI_clamp (by omega)
  refine ⟨sA μ 5 (2 * l + e) (nI cs.length), ?_, ?_, fun _ _ _ => rfl, fun j hj => ?_⟩
  · have i2 : ¬ (nI (2 * l + e) < 0 ∨ 10 ≤ 2 * l + e) := by rw [zN_lt0 (by omega), false_or]; omega
    have e1 : gA μ 5 (2 * l + e) - nI 1 = nI cs.length := by rw [g1]; exact nI_pred _
    have e2' : gA (sA μ 5 (2 * l + e) (nI cs.length)) 5 (2 * l + e) = nI cs.length := by rw [gA_sA, if_pos (show (5 : Nat) = 5 from rfl), if_pos rfl]
    unfold M_takesOne_62
    simp only [hc5, i2, if_false, e1, e2']
    unfold M_place
    rw [pk_mul, nI_add, Option.bind_some, if_neg (nI_in (by omega) (by decide)), nI_clamp (by omega)]
    refine congrArg (fun z => some (z, sA μ 5 (2 * l + e) (nI cs.length))) ?_
    exact q1
  · refine h.line (l := l) hL (fun _ q _ => q) (fun _ => rfl) ⟨rfl, rfl, rfl⟩ (fun l' e' hl' he' => ?_) (fun _ _ _ _ _ _ => ⟨rfl, rfl, rfl, rfl⟩) (fun e' he' => ?_) (fun l' e' hl' => upL_c _ (.inl hl') _)
    · rw [gA_sA, if_pos (show (5 : Nat) = 5 from rfl), if_neg (by omega)]
    · rw [gA_sA, if_pos (show (5 : Nat) = 5 from rfl)]
      by_cases hee : e' = e
      · subst hee
        rw [if_pos rfl, upL_s]
        exact ⟨rfl, MCh.move (μ := μ) _ (fun _ _ => ⟨rfl, rfl, rfl, rfl⟩) q5⟩
      · obtain ⟨b1, b2⟩ := h.2.2.2.2 l e' hl he'
        rw [if_neg (by omega), upL_c _ (.inr hee)]
        exact ⟨b1, MCh.move (μ := μ) _ (fun _ _ => ⟨rfl, rfl, rfl, rfl⟩) b2⟩
  · funext n; rw [gA_sA, if_neg (by omega)]
theorem M_take_ok {k : Nat} {ρ : RC} {L : LC} {w pn l e : Nat} {reb : Int32} {Z : ZZ} {μ : MS} (hR : RV ρ) (h : MR k ρ L w reb Z μ) (hL : LOK k L pn w) (h3 : 3 ≤ pn) (hk5 : k ≤ 5) (hl : l < k) (he : e < 2) (hp : 0 < szL L l) : ∃ μ', M_takesOne (nI l) (nI e) μ = some (nI (tkV L l e pn w), μ') ∧ MR k ρ (tkA L l e pn w) (w + tkN L l e) (tkR L l e reb) Z μ' ∧ MF 9 μ μ' := by
  have hs := hL.2.1 l hl
  have h5 : l < 5 := by omega
  have hlen := (h.2.2.2.2 l e hl he).1
  obtain ⟨c, cs, hc⟩ := tk_ne L l pn w he hp
  obtain ⟨q1, q2⟩ := tk_lok (e := e) hL h3 hl
  have hcs : cs.length < 64 := by
    have := q1.2.1 l hl
    have e3 : (tkL L l e pn w l e).length = cs.length + 1 := by rw [hc]; rfl
    rcases (show e = 0 ∨ e = 1 by omega) with rfl | rfl <;> omega
  have hlm : (L l e).length ≤ 64 := by rcases (show e = 0 ∨ e = 1 by omega) with rfl | rfl <;> omega
  have hA : upL (tkL L l e pn w) l e cs = tkA L l e pn w := by unfold tkA; rw [hc]; rfl
  have hV : tkV L l e pn w = c.2.2 := by unfold tkV; rw [hc]; rfl
  unfold M_takesOne
  rw [pk_mul, nI_add, if_neg (s10 h5 he), nI_clamp (by omega), hlen]
  by_cases hz : (L l e).length = 0
  · have hN : tkN L l e = szL L l := if_pos hz
    have hLL : tkL L l e pn w = layL L l pn w (itemsOf L l) (hlf e (szL L l)) := if_pos hz
    have hRR : tkR L l e reb = reb + nI 1 := if_pos hz
    have hil := items_len L l
    have hs64 : szL L l ≤ 64 := hs
    have hq := MU.mX μ (k := 8) (by decide) (wr (gA μ 8) 0 (itemsOf L l))
    obtain ⟨μ1, a1, a2, a3⟩ := M_lays_ok hR (h.q hq) hL h3 hk5 hl (itemsOf L l) 0 (hlf e (szL L l)) (by omega) (by omega) (by rw [hil]; exact hlf_le _ _) (itm_9 hL hl) (fun i hi => by rw [mX_A, Nat.zero_add]; exact wr_at _ _ hi)
    rw [← hLL, hil] at a2
    rw [hil] at a1
    have hr9 : gI μ1 9 = reb := a2.2.1.2.2.2
    have a4 : MR k ρ (tkL L l e pn w) (w + szL L l) (reb + nI 1) Z (sI μ1 9 (reb + nI 1)) := ⟨a2.1, ⟨a2.2.1.1, a2.2.1.2.1, a2.2.1.2.2.1, rfl⟩, a2.2.2.1, a2.2.2.2.1, fun l e hl he => ⟨(a2.2.2.2.2 l e hl he).1, MCh.move (μ := μ1) _ (fun _ _ => ⟨rfl, rfl, rfl, rfl⟩) (a2.2.2.2.2 l e hl he).2⟩⟩
    rw [hN] at q1
    obtain ⟨μ2, b1, b2, b3⟩ := M_pop_ok a4 q1 hk5 hl he hc hcs
    refine ⟨μ2, ?_, by rw [← hA, hN, hRR]; exact b2, ?_⟩
    · rw [if_pos (by rw [hz]; rfl), M_items_ok h hL hk5 hl, Option.bind_some]
      have h49 : M_takesOne_49 (nI (2 * l + e)) (nI (hlf e (szL L l))) (nI (szL L l)) (nI 0) (nI l) (mX μ 8 (wr (gA μ 8) 0 (itemsOf L l))) = some (nI (tkV L l e pn w), μ2) := by
        unfold M_takesOne_49
        rw [a1, Option.bind_some, hr9, b1, hV]
      rw [← h49]
      show (if nI 2 = 0 then none else (if nI e = 0 then M_takesOne_49 (nI (2 * l + e)) ((nI (szL L l) + nI 1) / nI 2) (nI (szL L l)) (nI 0) (nI l) _ else M_takesOne_49 (nI (2 * l + e)) (nI (szL L l) - (nI (szL L l) + nI 1) / nI 2) (nI (szL L l)) (nI 0) (nI l) _)) = _
      rw [if_neg (by decide), nI_add, pk_div (by omega) (by decide) (by decide), pk_sub (by omega)]
      rcases (show e = 0 ∨ e = 1 by omega) with rfl | rfl
      · rw [if_pos (show nI 0 = 0 from rfl)]; rfl
      · rw [if_neg (show ¬ nI 1 = 0 by decide)]; rfl
    · refine MF.trans ?_ (b3.up (by decide))
      refine ⟨fun j h8 h9 => ?_, fun j hj => ?_⟩
      · rw [gI_sI, if_neg h9, a3.1 j h8 h9]; rfl
      · rw [gA_sI, a3.2 j (by omega), gA_mX, if_neg (by omega)]
  · have hN : tkN L l e = 0 := if_neg hz
    have hLL : tkL L l e pn w = L := if_neg hz
    have hRR : tkR L l e reb = reb := if_neg hz
    rw [hLL] at hc hA
    obtain ⟨μ2, b1, b2, b3⟩ := M_pop_ok h hL hk5 hl he hc hcs
    refine ⟨μ2, ?_, by rw [← hA, hN, hRR]; exact b2, b3.up (by decide)⟩
    rw [if_neg (nI_ne0 (by omega) (by omega)), b1, hV]
