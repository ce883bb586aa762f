set_option maxRecDepth 100000
/-! a line is laid anew; an item is taken -/
theorem take_s {its : List Nat} {j : Nat} (h : j < its.length) : (its.take (j + 1)).reverse = its.getD j 0 :: (its.take j).reverse := by
  rw [List.take_succ, List.getElem?_eq_getElem h, List.getD_eq_getElem?_getD, List.getElem?_eq_getElem h]
  simp
theorem drop_s {its : List Nat} {j : Nat} (h : j < its.length) : its.drop j = its.getD j 0 :: its.drop (j + 1) := by
  rw [List.drop_eq_getElem_cons h, List.getD_eq_getElem?_getD, List.getElem?_eq_getElem h]
  rfl
theorem gD_mem {its : List Nat} {j : Nat} (h : j < its.length) : its.getD j 0 ∈ its := by
  rw [List.getD_eq_getElem?_getD, List.getElem?_eq_getElem h]
  exact List.getElem_mem h
theorem XR.n3 {k : Nat} {ρ : RC} {L : LC} {w : Nat} {reb : Int32} {Z : ZZ} {σ : XS} (h : XR k ρ L w reb Z σ) : 3 ≤ xN σ := h.1.1
theorem m1_s (j : Nat) : nI (j + 1) - nI 1 = nI j := nI_pred j
theorem m1_n : nI 0 - nI 1 < 0 := by decide
theorem m1_e (j : Nat) : nI j + (-1 : Int32) = nI j - nI 1 := by rw [Int32.sub_eq_add_neg]; rfl
theorem lays10_r0 {k : Nat} {ρ : RC} {l : Nat} {reb : Int32} {Z : ZZ} (hR : RV ρ) (hk5 : k ≤ 5) (hl : l < k) (its : List Nat) (fr n first : Nat) (hf : fr + its.length ≤ 64) (h9 : ∀ v ∈ its, v ≤ 9999) : ∀ (j : Nat) (σ : XS) (L : LC) (w u v f : Nat), j ≤ its.length → XR k ρ L w reb Z σ → LOK k L (xN σ) w → szL L l + j ≤ 64 → (∀ i, i < its.length → xA σ 3 (fr + i) = nI (its.getD i 0)) → u + j ≤ 64 → v + 6 * j ≤ 384 → ∃ σ', XR k ρ (upL L l 0 (pushes (xN σ) w (its.take j).reverse (L l 0))) (w + j) reb Z σ' ∧ xN σ' = xN σ + j ∧ (∀ i, i ≠ 0 → i ≠ 5 + l → xA σ' i = xA σ i) ∧ XF l σ σ' ∧ Xl_lays_r0_10 (f + j) l (nI fr) (nI n) (nI first) (nI j - nI 1) σ u v = Xl_lays_r0_10 f l (nI fr) (nI n) (nI first) (nI 0 - nI 1) σ' (u + j) (v + 6 * j) := by
  intro j
  induction j with
  | zero =>
    intro σ L w u v f _ h hL _ hr _ _
    refine ⟨σ, ?_, rfl, fun _ _ _ => rfl, XF.refl _ _, rfl⟩
    show XR k ρ (upL L l 0 (L l 0)) w reb Z σ
    rw [upL_id]; exact h
  | succ j ih =>
    intro σ L w u v f hj h hL hs hr hu hv
    obtain ⟨σ1, p1, p2, p3, p4, p5⟩ := X_put_ok (e := 0) (v := its.getD j 0) hR hL h hk5 hl (by decide) (h9 _ (gD_mem hj))
    have hL1 := hL.put (l := l) (e := 0) (v := its.getD j 0) h.n3 hl (by decide) (by unfold szL at hs; omega) (h9 _ (gD_mem hj))
    rw [← p3] at hL1
    obtain ⟨σ2, g1, g2, g3, gf, g4⟩ := ih σ1 _ (w + 1) (u + 1) (v + 6) f (by omega) p2 hL1 (by unfold szL; rw [upL_s, upL_c _ (.inr (by decide))]; unfold szL at hs; simp only [List.length_cons]; omega) (fun i hi => by rw [p4 3 (by decide) (by omega)]; exact hr i hi) (by omega) (by omega)
    refine ⟨σ2, ?_, by rw [g2, p3]; omega, fun i h0 h5 => (g3 i h0 h5).trans (p4 i h0 h5), p5.trans gf, ?_⟩
    · rw [upL_s, upL_upL, p3] at g1
      rw [take_s hj, show w + (j + 1) = w + 1 + j by omega]; exact g1
    · rw [show u + (j + 1) = u + 1 + j by omega, show v + 6 * (j + 1) = v + 6 + 6 * j by omega, ← g4]
      show Xl_lays_r0_10 (f + j + 1) l (nI fr) (nI n) (nI first) (nI (j + 1) - nI 1) σ u v = _
      rw [m1_s]
      show (if nI j < 0 then _ else (if nI fr + nI j < 0 ∨ 64 ≤ (nI fr + nI j).toNatClampNeg then none else (if u + 1 ≤ 64 ∧ v + 6 ≤ 384 then ((Xl_put l (nI 0) (xA σ 3 (nI fr + nI j).toNatClampNeg) σ).bind fun q2 => Xl_lays_r0_10 (f + j) l (nI fr) (nI n) (nI first) (nI j + (-1 : Int32)) q2 (u + 1) (v + 6)) else none))) = _
      rw [if_neg (nI_pos (by omega)), nI_add, if_neg (nI_in (by omega) (by decide)), if_pos ⟨by omega, by omega⟩, nI_clamp (by omega), hr j hj, p1, Option.bind_some, m1_e]
theorem lays36_r0 {k : Nat} {ρ : RC} {l : Nat} {reb : Int32} {Z : ZZ} (hR : RV ρ) (hk5 : k ≤ 5) (hl : l < k) (fr n : Nat) (hf : fr + n ≤ 64) : ∀ (vs : List Nat) (i : Nat) (σ : XS) (L : LC) (w u v f : Nat), i + vs.length = n → (∀ x ∈ vs, x ≤ 9999) → XR k ρ L w reb Z σ → LOK k L (xN σ) w → szL L l + vs.length ≤ 64 → (∀ j, j < vs.length → xA σ 3 (fr + (i + j)) = nI (vs.getD j 0)) → u + vs.length ≤ 64 → v + 6 * vs.length ≤ 384 → vs.length < f → ∃ σ', XR k ρ (upL L l 1 (pushes (xN σ) w vs (L l 1))) (w + vs.length) reb Z σ' ∧ xN σ' = xN σ + vs.length ∧ (∀ i, i ≠ 0 → i ≠ 5 + l → xA σ' i = xA σ i) ∧ XF l σ σ' ∧ Xl_lays_r0_36 f l (nI fr) (nI n) (nI i) σ u v = some σ' := by
  intro vs
  induction vs with
  | nil =>
    intro i σ L w u v f hi _ h hL _ hr _ _ hff
    obtain ⟨f, rfl⟩ : ∃ g, f = g + 1 := ⟨f - 1, by simp at hff; omega⟩
    have hi : i = n := hi
    refine ⟨σ, ?_, rfl, fun _ _ _ => rfl, XF.refl _ _, ?_⟩
    · show XR k ρ (upL L l 1 (L l 1)) w reb Z σ
      rw [upL_id]; exact h
    · show (if nI n ≤ nI i then some σ else _) = _
      rw [if_pos (nI_le (by omega) (by omega))]
  | cons x vs ih =>
    intro i σ L w u v f hi h9 h hL hs hr hu hv hff
    simp only [List.length_cons] at hi hs hu hv hff
    obtain ⟨f, rfl⟩ : ∃ g, f = g + 1 := ⟨f - 1, by omega⟩
    have hx := h9 x List.mem_cons_self
    obtain ⟨σ1, p1, p2, p3, p4, p5⟩ := X_put_ok (e := 1) (v := x) hR hL h hk5 hl (by decide) hx
    have hL1 := hL.put (l := l) (e := 1) (v := x) h.n3 hl (by decide) (by unfold szL at hs; omega) hx
    rw [← p3] at hL1
    obtain ⟨σ2, g1, g2, g3, gf, g4⟩ := ih (i + 1) σ1 _ (w + 1) (u + 1) (v + 6) f (by omega) (fun y hy => h9 y (List.mem_cons_of_mem _ hy)) p2 hL1 (by unfold szL; rw [upL_s, upL_c _ (.inr (by decide))]; unfold szL at hs; simp only [List.length_cons]; omega) (fun j hj => by
      rw [p4 3 (by decide) (by omega), show fr + (i + 1 + j) = fr + (i + (j + 1)) by omega]
      exact hr (j + 1) (by simp only [List.length_cons]; omega)) (by omega) (by omega) (by omega)
    refine ⟨σ2, ?_, by rw [g2, p3]; simp only [List.length_cons]; omega, fun i h0 h5 => (g3 i h0 h5).trans (p4 i h0 h5), p5.trans gf, ?_⟩
    · rw [upL_s, upL_upL, p3] at g1
      simp only [List.length_cons]
      rw [show w + (vs.length + 1) = w + 1 + vs.length by omega]; exact g1
    · rw [← g4]
      have h0 := hr 0 (by simp)
      rw [Nat.add_zero] at h0
      show (if nI n ≤ nI i then _ else (if nI fr + nI i < 0 ∨ 64 ≤ (nI fr + nI i).toNatClampNeg then none else (if u + 1 ≤ 64 ∧ v + 6 ≤ 384 then ((Xl_put l (nI 1) (xA σ 3 (nI fr + nI i).toNatClampNeg) σ).bind fun q4 => Xl_lays_r0_36 f l (nI fr) (nI n) (nI i + nI 1) q4 (u + 1) (v + 6)) else none))) = _
      rw [if_neg (nI_ge (by omega) (by omega)), nI_add, nI_add, if_neg (nI_in (by omega) (by decide)), if_pos ⟨by omega, by omega⟩, nI_clamp (by omega), h0, show (x :: vs).getD 0 0 = x from rfl, p1, Option.bind_some]
theorem X_lays_r0_st {k0 k : Nat} {ρ : RC} {L : LC} {w l : Nat} {reb : Int32} {Z : ZZ} {σ : XS} (hR : RV ρ) (h : XR k0 ρ L w reb Z σ) (hL : LOK k0 L (xN σ) w) (hkk : ∀ l', l' < k → l' ≠ l → l' < k0) (hk5 : k ≤ 5) (hl : l < k) (its : List Nat) (fr first : Nat) (hf : fr + its.length ≤ 64) (hfi : first ≤ its.length) (h9 : ∀ v ∈ its, v ≤ 9999) (hr : ∀ i, i < its.length → xA σ 3 (fr + i) = nI (its.getD i 0)) : ∃ σ', Xl_lays_r0 l (nI fr) (nI its.length) (nI first) σ = some σ' ∧ XR k ρ (layL L l (xN σ) w its first) (w + its.length) reb Z σ' ∧ xN σ' = xN σ + its.length ∧ (∀ i, i ≠ 0 → i ≠ 5 + l → xA σ' i = xA σ i) ∧ XF l σ σ' := by
  obtain ⟨σ1, a1, a2, a3, a4, a5⟩ := X_empties_ok h (l := l) (k' := k) (by omega) hkk hk5
  have hL1 := LOK_clr (l := l) (k' := k) hL hkk
  have e0 : clr L l l 0 = [] := if_pos rfl
  have e1 : clr L l l 1 = [] := if_pos rfl
  have hs1 : szL (clr L l) l = 0 := by unfold szL; rw [e0, e1]; rfl
  rw [← a3] at hL1
  obtain ⟨σ2, b1, b2, b3, bf, b4⟩ := lays10_r0 hR hk5 hl its fr its.length first hf h9 first σ1 (clr L l) w 0 0 (FU - first) hfi a2 hL1 (by rw [hs1]; omega) (fun i hi => by rw [a4 3 (by omega)]; exact hr i hi) (by omega) (by omega)
  have hL2 := LOK_pushes hl (e := 0) (by decide) (its.take first).reverse hL1 a2.n3 (by rw [hs1]; simp; omega) (fun v q => h9 v (List.mem_of_mem_take (List.mem_reverse.mp q)))
  have hl2 : (its.take first).reverse.length = first := by simp; omega
  rw [hl2, ← b2] at hL2
  have hd : (its.drop first).length = its.length - first := by simp
  obtain ⟨σ3, c1, c2, c3, cf, c4⟩ := lays36_r0 hR hk5 hl fr its.length hf (its.drop first) first σ2 _ (w + first) first (6 * first) FU (by rw [hd]; omega) (fun x q => h9 x (List.mem_of_mem_drop q)) b1 hL2 (by unfold szL; rw [upL_s, upL_c _ (.inr (by decide)), e1, pushes_len, e0, hl2, hd]; simp; omega) (fun j hj => by
    rw [hd] at hj
    rw [b3 3 (by decide) (by omega), a4 3 (by omega), hr (first + j) (by omega)]
    rw [List.getD_eq_getElem?_getD, List.getD_eq_getElem?_getD, List.getElem?_drop]) (by rw [hd]; omega) (by rw [hd]; omega) (by rw [hd]; unfold FU; omega)
  refine ⟨σ3, ?_, ?_, by rw [c2, b2, a3, hd]; omega, fun i h0 h5 => (c3 i h0 h5).trans ((b3 i h0 h5).trans (a4 i h5)), a5.trans (bf.trans cf)⟩
  · unfold Xl_lays_r0
    rw [a1, Option.bind_some]
    rw [show FU - first + first = FU by unfold FU; omega] at b4
    rw [b4, show FU - first = (FU - first - 1) + 1 by unfold FU; omega]
    show (if nI 0 - nI 1 < 0 then _ else _) = _
    rw [if_pos m1_n, Nat.zero_add, Nat.zero_add]; exact c4
  · rw [b2, a3, hd, upL_c _ (.inr (by decide)), e1, show w + first + (its.length - first) = w + its.length by omega, e0] at c1
    exact c1
theorem X_lays_r0 {k : Nat} {ρ : RC} {L : LC} {w l : Nat} {reb : Int32} {Z : ZZ} {σ : XS} (hR : RV ρ) (h : XR k ρ L w reb Z σ) (hL : LOK k L (xN σ) w) (hk5 : k ≤ 5) (hl : l < k) (its : List Nat) (fr first : Nat) (hf : fr + its.length ≤ 64) (hfi : first ≤ its.length) (h9 : ∀ v ∈ its, v ≤ 9999) (hr : ∀ i, i < its.length → xA σ 3 (fr + i) = nI (its.getD i 0)) : ∃ σ', Xl_lays_r0 l (nI fr) (nI its.length) (nI first) σ = some σ' ∧ XR k ρ (layL L l (xN σ) w its first) (w + its.length) reb Z σ' ∧ xN σ' = xN σ + its.length ∧ (∀ i, i ≠ 0 → i ≠ 5 + l → xA σ' i = xA σ i) ∧ XF l σ σ' := X_lays_r0_st hR h hL (fun _ q _ => q) hk5 hl its fr first hf hfi h9 hr
theorem lays10_r1 {k : Nat} {ρ : RC} {l : Nat} {reb : Int32} {Z : ZZ} (hR : RV ρ) (hk5 : k ≤ 5) (hl : l < k) (its : List Nat) (fr n first : Nat) (hf : fr + its.length ≤ 64) (h9 : ∀ v ∈ its, v ≤ 9999) : ∀ (j : Nat) (σ : XS) (L : LC) (w u v f : Nat), j ≤ its.length → XR k ρ L w reb Z σ → LOK k L (xN σ) w → szL L l + j ≤ 64 → (∀ i, i < its.length → xA σ 4 (fr + i) = nI (its.getD i 0)) → u + j ≤ 64 → v + 6 * j ≤ 384 → ∃ σ', XR k ρ (upL L l 0 (pushes (xN σ) w (its.take j).reverse (L l 0))) (w + j) reb Z σ' ∧ xN σ' = xN σ + j ∧ (∀ i, i ≠ 0 → i ≠ 5 + l → xA σ' i = xA σ i) ∧ XF l σ σ' ∧ Xl_lays_r1_10 (f + j) l (nI fr) (nI n) (nI first) (nI j - nI 1) σ u v = Xl_lays_r1_10 f l (nI fr) (nI n) (nI first) (nI 0 - nI 1) σ' (u + j) (v + 6 * j) := by
  intro j
  induction j with
  | zero =>
    intro σ L w u v f _ h hL _ hr _ _
    refine ⟨σ, ?_, rfl, fun _ _ _ => rfl, XF.refl _ _, rfl⟩
    show XR k ρ (upL L l 0 (L l 0)) w reb Z σ
    rw [upL_id]; exact h
  | succ j ih =>
    intro σ L w u v f hj h hL hs hr hu hv
    obtain ⟨σ1, p1, p2, p3, p4, p5⟩ := X_put_ok (e := 0) (v := its.getD j 0) hR hL h hk5 hl (by decide) (h9 _ (gD_mem hj))
    have hL1 := hL.put (l := l) (e := 0) (v := its.getD j 0) h.n3 hl (by decide) (by unfold szL at hs; omega) (h9 _ (gD_mem hj))
    rw [← p3] at hL1
    obtain ⟨σ2, g1, g2, g3, gf, g4⟩ := ih σ1 _ (w + 1) (u + 1) (v + 6) f (by omega) p2 hL1 (by unfold szL; rw [upL_s, upL_c _ (.inr (by decide))]; unfold szL at hs; simp only [List.length_cons]; omega) (fun i hi => by rw [p4 4 (by decide) (by omega)]; exact hr i hi) (by omega) (by omega)
    refine ⟨σ2, ?_, by rw [g2, p3]; omega, fun i h0 h5 => (g3 i h0 h5).trans (p4 i h0 h5), p5.trans gf, ?_⟩
    · rw [upL_s, upL_upL, p3] at g1
      rw [take_s hj, show w + (j + 1) = w + 1 + j by omega]; exact g1
    · rw [show u + (j + 1) = u + 1 + j by omega, show v + 6 * (j + 1) = v + 6 + 6 * j by omega, ← g4]
      show Xl_lays_r1_10 (f + j + 1) l (nI fr) (nI n) (nI first) (nI (j + 1) - nI 1) σ u v = _
      rw [m1_s]
      show (if nI j < 0 then _ else (if nI fr + nI j < 0 ∨ 64 ≤ (nI fr + nI j).toNatClampNeg then none else (if u + 1 ≤ 64 ∧ v + 6 ≤ 384 then ((Xl_put l (nI 0) (xA σ 4 (nI fr + nI j).toNatClampNeg) σ).bind fun q2 => Xl_lays_r1_10 (f + j) l (nI fr) (nI n) (nI first) (nI j + (-1 : Int32)) q2 (u + 1) (v + 6)) else none))) = _
      rw [if_neg (nI_pos (by omega)), nI_add, if_neg (nI_in (by omega) (by decide)), if_pos ⟨by omega, by omega⟩, nI_clamp (by omega), hr j hj, p1, Option.bind_some, m1_e]
theorem lays36_r1 {k : Nat} {ρ : RC} {l : Nat} {reb : Int32} {Z : ZZ} (hR : RV ρ) (hk5 : k ≤ 5) (hl : l < k) (fr n : Nat) (hf : fr + n ≤ 64) : ∀ (vs : List Nat) (i : Nat) (σ : XS) (L : LC) (w u v f : Nat), i + vs.length = n → (∀ x ∈ vs, x ≤ 9999) → XR k ρ L w reb Z σ → LOK k L (xN σ) w → szL L l + vs.length ≤ 64 → (∀ j, j < vs.length → xA σ 4 (fr + (i + j)) = nI (vs.getD j 0)) → u + vs.length ≤ 64 → v + 6 * vs.length ≤ 384 → vs.length < f → ∃ σ', XR k ρ (upL L l 1 (pushes (xN σ) w vs (L l 1))) (w + vs.length) reb Z σ' ∧ xN σ' = xN σ + vs.length ∧ (∀ i, i ≠ 0 → i ≠ 5 + l → xA σ' i = xA σ i) ∧ XF l σ σ' ∧ Xl_lays_r1_36 f l (nI fr) (nI n) (nI i) σ u v = some σ' := by
  intro vs
  induction vs with
  | nil =>
    intro i σ L w u v f hi _ h hL _ hr _ _ hff
    obtain ⟨f, rfl⟩ : ∃ g, f = g + 1 := ⟨f - 1, by simp at hff; omega⟩
    have hi : i = n := hi
    refine ⟨σ, ?_, rfl, fun _ _ _ => rfl, XF.refl _ _, ?_⟩
    · show XR k ρ (upL L l 1 (L l 1)) w reb Z σ
      rw [upL_id]; exact h
    · show (if nI n ≤ nI i then some σ else _) = _
      rw [if_pos (nI_le (by omega) (by omega))]
  | cons x vs ih =>
    intro i σ L w u v f hi h9 h hL hs hr hu hv hff
    simp only [List.length_cons] at hi hs hu hv hff
    obtain ⟨f, rfl⟩ : ∃ g, f = g + 1 := ⟨f - 1, by omega⟩
    have hx := h9 x List.mem_cons_self
    obtain ⟨σ1, p1, p2, p3, p4, p5⟩ := X_put_ok (e := 1) (v := x) hR hL h hk5 hl (by decide) hx
    have hL1 := hL.put (l := l) (e := 1) (v := x) h.n3 hl (by decide) (by unfold szL at hs; omega) hx
    rw [← p3] at hL1
    obtain ⟨σ2, g1, g2, g3, gf, g4⟩ := ih (i + 1) σ1 _ (w + 1) (u + 1) (v + 6) f (by omega) (fun y hy => h9 y (List.mem_cons_of_mem _ hy)) p2 hL1 (by unfold szL; rw [upL_s, upL_c _ (.inr (by decide))]; unfold szL at hs; simp only [List.length_cons]; omega) (fun j hj => by
      rw [p4 4 (by decide) (by omega), show fr + (i + 1 + j) = fr + (i + (j + 1)) by omega]
      exact hr (j + 1) (by simp only [List.length_cons]; omega)) (by omega) (by omega) (by omega)
    refine ⟨σ2, ?_, by rw [g2, p3]; simp only [List.length_cons]; omega, fun i h0 h5 => (g3 i h0 h5).trans (p4 i h0 h5), p5.trans gf, ?_⟩
    · rw [upL_s, upL_upL, p3] at g1
      simp only [List.length_cons]
      rw [show w + (vs.length + 1) = w + 1 + vs.length by omega]; exact g1
    · rw [← g4]
      have h0 := hr 0 (by simp)
      rw [Nat.add_zero] at h0
      show (if nI n ≤ nI i then _ else (if nI fr + nI i < 0 ∨ 64 ≤ (nI fr + nI i).toNatClampNeg then none else (if u + 1 ≤ 64 ∧ v + 6 ≤ 384 then ((Xl_put l (nI 1) (xA σ 4 (nI fr + nI i).toNatClampNeg) σ).bind fun q4 => Xl_lays_r1_36 f l (nI fr) (nI n) (nI i + nI 1) q4 (u + 1) (v + 6)) else none))) = _
      rw [if_neg (nI_ge (by omega) (by omega)), nI_add, nI_add, if_neg (nI_in (by omega) (by decide)), if_pos ⟨by omega, by omega⟩, nI_clamp (by omega), h0, show (x :: vs).getD 0 0 = x from rfl, p1, Option.bind_some]
theorem X_lays_r1_st {k0 k : Nat} {ρ : RC} {L : LC} {w l : Nat} {reb : Int32} {Z : ZZ} {σ : XS} (hR : RV ρ) (h : XR k0 ρ L w reb Z σ) (hL : LOK k0 L (xN σ) w) (hkk : ∀ l', l' < k → l' ≠ l → l' < k0) (hk5 : k ≤ 5) (hl : l < k) (its : List Nat) (fr first : Nat) (hf : fr + its.length ≤ 64) (hfi : first ≤ its.length) (h9 : ∀ v ∈ its, v ≤ 9999) (hr : ∀ i, i < its.length → xA σ 4 (fr + i) = nI (its.getD i 0)) : ∃ σ', Xl_lays_r1 l (nI fr) (nI its.length) (nI first) σ = some σ' ∧ XR k ρ (layL L l (xN σ) w its first) (w + its.length) reb Z σ' ∧ xN σ' = xN σ + its.length ∧ (∀ i, i ≠ 0 → i ≠ 5 + l → xA σ' i = xA σ i) ∧ XF l σ σ' := by
  obtain ⟨σ1, a1, a2, a3, a4, a5⟩ := X_empties_ok h (l := l) (k' := k) (by omega) hkk hk5
  have hL1 := LOK_clr (l := l) (k' := k) hL hkk
  have e0 : clr L l l 0 = [] := if_pos rfl
  have e1 : clr L l l 1 = [] := if_pos rfl
  have hs1 : szL (clr L l) l = 0 := by unfold szL; rw [e0, e1]; rfl
  rw [← a3] at hL1
  obtain ⟨σ2, b1, b2, b3, bf, b4⟩ := lays10_r1 hR hk5 hl its fr its.length first hf h9 first σ1 (clr L l) w 0 0 (FU - first) hfi a2 hL1 (by rw [hs1]; omega) (fun i hi => by rw [a4 4 (by omega)]; exact hr i hi) (by omega) (by omega)
  have hL2 := LOK_pushes hl (e := 0) (by decide) (its.take first).reverse hL1 a2.n3 (by rw [hs1]; simp; omega) (fun v q => h9 v (List.mem_of_mem_take (List.mem_reverse.mp q)))
  have hl2 : (its.take first).reverse.length = first := by simp; omega
  rw [hl2, ← b2] at hL2
  have hd : (its.drop first).length = its.length - first := by simp
  obtain ⟨σ3, c1, c2, c3, cf, c4⟩ := lays36_r1 hR hk5 hl fr its.length hf (its.drop first) first σ2 _ (w + first) first (6 * first) FU (by rw [hd]; omega) (fun x q => h9 x (List.mem_of_mem_drop q)) b1 hL2 (by unfold szL; rw [upL_s, upL_c _ (.inr (by decide)), e1, pushes_len, e0, hl2, hd]; simp; omega) (fun j hj => by
    rw [hd] at hj
    rw [b3 4 (by decide) (by omega), a4 4 (by omega), hr (first + j) (by omega)]
    rw [List.getD_eq_getElem?_getD, List.getD_eq_getElem?_getD, List.getElem?_drop]) (by rw [hd]; omega) (by rw [hd]; omega) (by rw [hd]; unfold FU; omega)
  refine ⟨σ3, ?_, ?_, by rw [c2, b2, a3, hd]; omega, fun i h0 h5 => (c3 i h0 h5).trans ((b3 i h0 h5).trans (a4 i h5)), a5.trans (bf.trans cf)⟩
  · unfold Xl_lays_r1
    rw [a1, Option.bind_some]
    rw [show FU - first + first = FU by unfold FU; omega] at b4
    rw [b4, show FU - first = (FU - first - 1) + 1 by unfold FU; omega]
    show (if nI 0 - nI 1 < 0 then _ else _) = _
    rw [if_pos m1_n, Nat.zero_add, Nat.zero_add]; exact c4
  · rw [b2, a3, hd, upL_c _ (.inr (by decide)), e1, show w + first + (its.length - first) = w + its.length by omega, e0] at c1
    exact c1
theorem X_lays_r1 {k : Nat} {ρ : RC} {L : LC} {w l : Nat} {reb : Int32} {Z : ZZ} {σ : XS} (hR : RV ρ) (h : XR k ρ L w reb Z σ) (hL : LOK k L (xN σ) w) (hk5 : k ≤ 5) (hl : l < k) (its : List Nat) (fr first : Nat) (hf : fr + its.length ≤ 64) (hfi : first ≤ its.length) (h9 : ∀ v ∈ its, v ≤ 9999) (hr : ∀ i, i < its.length → xA σ 4 (fr + i) = nI (its.getD i 0)) : ∃ σ', Xl_lays_r1 l (nI fr) (nI its.length) (nI first) σ = some σ' ∧ XR k ρ (layL L l (xN σ) w its first) (w + its.length) reb Z σ' ∧ xN σ' = xN σ + its.length ∧ (∀ i, i ≠ 0 → i ≠ 5 + l → xA σ' i = xA σ i) ∧ XF l σ σ' := X_lays_r1_st hR h hL (fun _ q _ => q) hk5 hl its fr first hf hfi h9 hr
theorem zX_A (σ : XS) (k : Nat) (f : Nat → Int32) : xA (zX σ k f) k = f := by rw [xA_zX, if_pos rfl]
theorem X_anew_st {k0 k : Nat} {ρ ρ0 : RC} {L L0 : LC} {w l first : Nat} {reb : Int32} {Z : ZZ} {σ : XS} (hR : RV ρ) (h : XR k0 ρ L w reb Z σ) (hL : LOK k0 L (xN σ) w) (hkk : ∀ l', l' < k → l' ≠ l → l' < k0) (hk5 : k ≤ 5) (hl : l < k) (hs : szL L0 l ≤ 64) (h0 : XCh σ ρ0 0 (xT σ l 0) (L0 l 0)) (h1 : XCh σ ρ0 1 (xT σ l 1) (L0 l 1)) (h9 : ∀ v ∈ itemsOf L0 l, v ≤ 9999) (hf : first ≤ szL L0 l) : ∃ σ', Xl_anew l (nI first) σ = some σ' ∧ XR k ρ (layL L l (xN σ) w (itemsOf L0 l) first) (w + szL L0 l) reb Z σ' ∧ xN σ' = xN σ + szL L0 l ∧ (∀ i, i ≠ 0 → i ≠ 3 → i ≠ 5 + l → xA σ' i = xA σ i) ∧ XF l σ σ' := by
  have hil := items_len L0 l
  have hq : XQ (xN σ) σ (zX σ 3 (wr (xA σ 3) 0 (itemsOf L0 l))) := XQ.zX σ (by decide) _
  obtain ⟨σ1, a1, a2, a3, a4, a5⟩ := X_lays_r0_st hR (h.q hL hq) hL hkk hk5 hl (itemsOf L0 l) 0 first (by rw [hil]; omega) (by rw [hil]; exact hf) h9 (fun i hi => by rw [zX_A, Nat.zero_add]; exact wr_at _ _ hi)
  rw [hil] at a1 a2 a3
  refine ⟨σ1, ?_, a2, a3, fun i h0 h3 h5 => ?_, a5⟩
  · unfold Xl_anew
    rw [if_pos ⟨by decide, by decide⟩, X_lay_r0_st hs h0 h1, Option.bind_some, if_pos ⟨by decide, by decide⟩]
    show (Xl_lays_r0 l (nI 0) (nI (szL L0 l)) (nI first) _).bind _ = _
    rw [a1]; rfl
  · rw [a4 i h0 h5, xA_zX, if_neg h3]
theorem X_anew_ok {k : Nat} {ρ : RC} {L : LC} {w l first : Nat} {reb : Int32} {Z : ZZ} {σ : XS} (hR : RV ρ) (h : XR k ρ L w reb Z σ) (hL : LOK k L (xN σ) w) (hk5 : k ≤ 5) (hl : l < k) (hf : first ≤ szL L l) : ∃ σ', Xl_anew l (nI first) σ = some σ' ∧ XR k ρ (layL L l (xN σ) w (itemsOf L l) first) (w + szL L l) reb Z σ' ∧ xN σ' = xN σ + szL L l ∧ (∀ i, i ≠ 0 → i ≠ 3 → i ≠ 5 + l → xA σ' i = xA σ i) := by
  obtain ⟨σ1, a1, a2, a3, a4, -⟩ := X_anew_st hR h hL (fun _ q _ => q) hk5 hl (hL.2.1 l hl) (h.2.2.2.2.2.1 l 0 hl (by decide)).2 (h.2.2.2.2.2.1 l 1 hl (by decide)).2 (itm_9 hL hl) hf
  exact ⟨σ1, a1, a2, a3, a4⟩
/-- a line that is taken from, laid anew if its stack is empty -/
def hlf (e n : Nat) : Nat := if e = 0 then (n + 1) / 2 else n - (n + 1) / 2
def tkL (L : LC) (l e pn w : Nat) : LC := if (L l e).length = 0 then layL L l pn w (itemsOf L l) (hlf e (szL L l)) else L
def tkN (L : LC) (l e : Nat) : Nat := if (L l e).length = 0 then szL L l else 0
def tkR (L : LC) (l e : Nat) (reb : Int32) : Int32 := if (L l e).length = 0 then reb + nI 1 else reb
/-- the line after a take -/
def tkA (L : LC) (l e pn w : Nat) : LC := upL (tkL L l e pn w) l e (tkL L l e pn w l e).tail
/-- the item taken -/
def tkV (L : LC) (l e pn w : Nat) : Nat := ((tkL L l e pn w l e).headD (0, 0, 0)).2.2
theorem lay_0 (L : LC) (l pn w : Nat) (its : List Nat) (first : Nat) : layL L l pn w its first l 0 = pushes pn w (its.take first).reverse [] := by
  unfold layL; rw [upL_c _ (.inr (by decide)), upL_s]
theorem lay_1 (L : LC) (l pn w : Nat) (its : List Nat) (first : Nat) : layL L l pn w its first l 1 = pushes (pn + first) (w + first) (its.drop first) [] := by
  unfold layL; rw [upL_s]
theorem lay_c (L : LC) (l pn w : Nat) (its : List Nat) (first l' e' : Nat) (h : l' ≠ l) : layL L l pn w its first l' e' = L l' e' := by
  unfold layL; rw [upL_c _ (.inl h), upL_c _ (.inl h)]; exact if_neg h
theorem lay_sz (L : LC) (l pn w : Nat) (its : List Nat) (first : Nat) : szL (layL L l pn w its first) l = its.length := by
  unfold szL
  rw [lay_0, lay_1, pushes_len, pushes_len]
  simp; omega
theorem hlf_le (e n : Nat) : hlf e n ≤ n := by unfold hlf; split <;> omega
theorem tk_ne (L : LC) (l pn w : Nat) {e : Nat} (he : e < 2) (hs : 0 < szL L l) : ∃ c cs, tkL L l e pn w l e = c :: cs := by
  have : 0 < (tkL L l e pn w l e).length := by
    unfold tkL
    split
    · next h =>
      have hil := items_len L l
      rcases (show e = 0 ∨ e = 1 by omega) with rfl | rfl
      · rw [lay_0, pushes_len]; simp [hlf]; omega
      · rw [lay_1, pushes_len]; simp [hlf]; omega
    · omega
  cases hh : tkL L l e pn w l e with
  | nil => rw [hh] at this; exact absurd this (by decide)
  | cons c cs => exact ⟨c, cs, rfl⟩
theorem tk_lok {k l e pn w : Nat} {L : LC} (h : LOK k L pn w) (h3 : 3 ≤ pn) (hl : l < k) : LOK k (tkL L l e pn w) (pn + tkN L l e) (w + tkN L l e) ∧ szL (tkL L l e pn w) l = szL L l := by
  unfold tkL tkN
  have hil := items_len L l
  have hs := h.2.1 l hl
  split
  · have q := h.lay (its := itemsOf L l) (first := hlf e (szL L l)) hl h3 (by rw [hil]; exact hlf_le _ _) (by rw [hil]; exact hs) (itm_9 h hl)
    rw [hil] at q
    exact ⟨q, by rw [lay_sz, hil]⟩
  · exact ⟨h, rfl⟩
theorem tkA_lok {k l e pn w : Nat} {L : LC} (h : LOK k L pn w) (h3 : 3 ≤ pn) (hl : l < k) (he : e < 2) : LOK k (tkA L l e pn w) (pn + tkN L l e) (w + tkN L l e) ∧ szL (tkA L l e pn w) l = szL L l - 1 + (if 0 < szL L l then 0 else szL L l) ∧ (0 < szL L l → tkV L l e pn w ≤ 9999) := by
  obtain ⟨q1, q2⟩ := tk_lok (e := e) h h3 hl
  have hs1 := q1.2.1 l hl
  refine ⟨?_, ?_, fun hp => ?_⟩
  · refine q1.set he (fun c hc => ⟨l, hl, List.mem_of_mem_tail hc⟩) (fun _ => ?_)
    have : (tkL L l e pn w l e).tail.length ≤ (tkL L l e pn w l e).length := by rw [List.length_tail]; omega
    rcases (show e = 0 ∨ e = 1 by omega) with rfl | rfl
    · show _ + (tkL L l 0 pn w l 1).length ≤ 64; omega
    · show _ + (tkL L l 1 pn w l 0).length ≤ 64; omega
  · by_cases hp : 0 < szL L l
    · obtain ⟨c, cs, hc⟩ := tk_ne L l pn w he hp
      rw [if_pos hp]
      unfold tkA
      rw [← q2]
      unfold szL
      rcases (show e = 0 ∨ e = 1 by omega) with rfl | rfl
      · rw [upL_s, upL_c _ (.inr (by decide)), hc]; simp only [List.tail_cons, List.length_cons]; omega
      · rw [upL_s, upL_c _ (.inr (by decide)), hc]; simp only [List.tail_cons, List.length_cons]; omega
    · rw [if_neg hp]
      have hz : szL L l = 0 := by omega
      rw [hz] at q2 ⊢
      unfold szL at q2 ⊢
      have w0 : (tkL L l e pn w l 0).length = 0 := by omega
      have w1 : (tkL L l e pn w l 1).length = 0 := by omega
      unfold tkA
      rcases (show e = 0 ∨ e = 1 by omega) with rfl | rfl
      · rw [upL_s, upL_c _ (.inr (by decide)), List.length_tail]; omega
      · rw [upL_s, upL_c _ (.inr (by decide)), List.length_tail]; omega
  · obtain ⟨c, cs, hc⟩ := tk_ne L l pn w he hp
    unfold tkV
    rw [hc]
    exact (q1.1 l e hl he c (by rw [hc]; exact List.mem_cons_self)).2.2.2
theorem X_take_ok {k : Nat} {ρ : RC} {L : LC} {w l e : Nat} {reb : Int32} {Z : ZZ} {σ : XS} (hR : RV ρ) (h : XR k ρ L w reb Z σ) (hL : LOK k L (xN σ) w) (hk5 : k ≤ 5) (hl : l < k) (he : e < 2) (hp : 0 < szL L l) : ∃ σ', Xl_take l (nI e) σ = some (nI (tkV L l e (xN σ) w), σ') ∧ XR k ρ (tkA L l e (xN σ) w) (w + tkN L l e) (tkR L l e reb) Z σ' ∧ xN σ' = xN σ + tkN L l e ∧ (∀ i, i ≠ 0 → i ≠ 3 → i ≠ 5 + l → xA σ' i = xA σ i) := by
  have hs := hL.2.1 l hl
  have hlen := (h.2.2.2.2.2.1 l e hl he).1
  obtain ⟨c, cs, hc⟩ := tk_ne L l (xN σ) w he hp
  obtain ⟨q1, q2⟩ := tk_lok (e := e) hL h.n3 hl
  have hcs : cs.length < 64 := by
    have := q1.2.1 l hl
    have e3 : (tkL L l e (xN σ) w l e).length = cs.length + 1 := by rw [hc]; rfl
    rcases (show e = 0 ∨ e = 1 by omega) with rfl | rfl <;> omega
  have hlm : (L l e).length ≤ 64 := by rcases (show e = 0 ∨ e = 1 by omega) with rfl | rfl <;> omega
  have hA : upL (tkL L l e (xN σ) w) l e cs = tkA L l e (xN σ) w := by unfold tkA; rw [hc]; rfl
  have hV : tkV L l e (xN σ) w = c.2.2 := by unfold tkV; rw [hc]; rfl
  unfold Xl_take
  rw [if_neg (e2i he), e2 he, hlen]
  by_cases hz : (L l e).length = 0
  · have hN : tkN L l e = szL L l := if_pos hz
    have hLL : tkL L l e (xN σ) w = layL L l (xN σ) w (itemsOf L l) (hlf e (szL L l)) := if_pos hz
    have hRR : tkR L l e reb = reb + nI 1 := if_pos hz
    have h3 : XR k ρ L w (reb + nI 1) Z (zI σ 3 (reb + nI 1)) := ⟨h.1, h.2.1, ⟨rfl, h.2.2.1.2⟩, h.2.2.2.1, h.2.2.2.2.1, fun l e hl he => ⟨(h.2.2.2.2.2.1 l e hl he).1, XCh.same0 (σ := σ) _ _ (Nat.le_refl _) rfl (h.2.2.2.2.2.1 l e hl he).2⟩, h.2.2.2.2.2.2⟩
    obtain ⟨σ1, a1, a2, a3, a4⟩ := X_anew_ok (first := hlf e (szL L l)) hR h3 hL hk5 hl (hlf_le _ _)
    have a2 : XR k ρ (layL L l (xN σ) w (itemsOf L l) (hlf e (szL L l))) (w + szL L l) (reb + nI 1) Z σ1 := a2
    rw [← hLL] at a2
    obtain ⟨σ2, b1, b2, b3, b4⟩ := X_pop_ok a2 hk5 hl he hc hcs (0 + 70) (0 + 534)
    refine ⟨σ2, ?_, by rw [← hA, hN, hRR]; exact b2, by rw [b3, a3, hN]; rfl, fun i h0 h3 h5 => by rw [b4 i h5, a4 i h0 h3 h5]; rfl⟩
    rw [if_pos (by rw [hz]; rfl), Xl_size_ok h hl, Option.bind_some]
    have hreb : xI σ 3 = reb := h.2.2.1.1
    have h47 : Xl_take_47 l (nI e) (nI (hlf e (szL L l))) l (zI σ 3 (reb + nI 1)) 0 0 = some (nI (tkV L l e (xN σ) w), σ2) := by
      unfold Xl_take_47
      rw [if_pos ⟨by decide, by decide⟩, a1, Option.bind_some, b1, hV]
    rw [← h47]
    show (if nI e = 0 then (if nI 2 = 0 then none else Xl_take_47 l (nI e) ((nI (szL L l) + nI 1) / nI 2) l (zI σ 3 (xI σ 3 + nI 1)) 0 0) else (if nI 2 = 0 then none else Xl_take_47 l (nI e) (nI (szL L l) - (nI (szL L l) + nI 1) / nI 2) l (zI σ 3 (xI σ 3 + nI 1)) 0 0)) = _
    have hs64 : szL L l ≤ 64 := hs
    rw [hreb, nI_add, pk_div (by omega) (by decide) (by decide), pk_sub (by omega)]
    rcases (show e = 0 ∨ e = 1 by omega) with rfl | rfl
    · rw [if_pos (show nI 0 = 0 from rfl), if_neg (by decide)]; rfl
    · rw [if_neg (show ¬ nI 1 = 0 by decide), if_neg (by decide)]; rfl
  · have hN : tkN L l e = 0 := if_neg hz
    have hLL : tkL L l e (xN σ) w = L := if_neg hz
    have hRR : tkR L l e reb = reb := if_neg hz
    rw [hLL] at hc hA
    obtain ⟨σ2, b1, b2, b3, b4⟩ := X_pop_ok h hk5 hl he hc hcs 0 0
    refine ⟨σ2, ?_, by rw [← hA, hN, hRR]; exact b2, by rw [b3, hN]; rfl, fun i h0 h3 h5 => b4 i h5⟩
    rw [if_neg (nI_ne0 (by omega) (by omega)), b1, hV]
