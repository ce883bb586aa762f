set_option maxRecDepth 100000
/-! all lines are laid anew -/
def layAll : Nat → Nat → LC → Nat → Nat → LC
  | 0, _, L, _, _ => L
  | r + 1, i, L, pn, w => layAll r (i + 1) (layL L i pn w (itemsOf L i) (L i 0).length) (pn + szL L i) (w + szL L i)
def szS : Nat → Nat → LC → Nat
  | 0, _, _ => 0
  | r + 1, i, L => szL L i + szS r (i + 1) L
theorem szS_lay : ∀ (r i l : Nat) (L : LC) (pn w : Nat) (its : List Nat) (f : Nat), l < i → szS r i (layL L l pn w its f) = szS r i L
  | 0, _, _, _, _, _, _, _, _ => rfl
  | r + 1, i, l, L, pn, w, its, f, h => by
    show szL (layL L l pn w its f) i + _ = _
    rw [szS_lay r (i + 1) l L pn w its f (by omega)]
    unfold szL
    rw [lay_c _ _ _ _ _ _ _ _ (by omega), lay_c _ _ _ _ _ _ _ _ (by omega)]; rfl
theorem szS_le {k : Nat} {L : LC} {pn w : Nat} (h : LOK k L pn w) : ∀ r i, i + r ≤ k → szS r i L ≤ 64 * r
  | 0, _, _ => Nat.zero_le _
  | r + 1, i, hi => by
    have h1 := h.2.1 i (by omega)
    have h2 := szS_le h r (i + 1) (by omega)
    show szL L i + szS r (i + 1) L ≤ _
    unfold szL
    omega
theorem X_laysAll_ok {ρ ρ0 : RC} {reb : Int32} {Z : ZZ} (hR : RV ρ) : ∀ (r i : Nat) (σ : XS) (L : LC) (w : Nat), i + r = 4 → XR i ρ L w reb Z σ → LOK 4 L (xN σ) w → (∀ l e, i ≤ l → l < 4 → e < 2 → xA σ (5 + l) e = nI (L l e).length ∧ XCh σ ρ0 e (xT σ l e) (L l e)) → ∃ σ', X_laysAll1 r i σ = some σ' ∧ XR 4 ρ (layAll r i L (xN σ) w) (w + szS r i L) reb Z σ' ∧ LOK 4 (layAll r i L (xN σ) w) (xN σ') (w + szS r i L) ∧ xN σ ≤ xN σ' := by
  intro r
  induction r with
  | zero =>
    intro i σ L w hi h hL hF
    have : i = 4 := by omega
    subst this
    exact ⟨σ, rfl, h, hL, Nat.le_refl _⟩
  | succ r ih =>
    intro i σ L w hi h hL hF
    obtain ⟨f0, g0⟩ := hF i 0 (Nat.le_refl _) (by omega) (by decide)
    obtain ⟨f1, g1⟩ := hF i 1 (Nat.le_refl _) (by omega) (by decide)
    have hs : szL L i ≤ 64 := hL.2.1 i (by omega)
    have hil := items_len L i
    obtain ⟨σ1, a1, a2, a3, a4, a5⟩ := X_anew_st (k := i + 1) (l := i) (first := (L i 0).length) hR h (hL.down (by omega)) (fun l' h1 h2 => by omega) (by omega) (Nat.lt_succ_self _) hs g0 g1 (itm_9 hL (by omega)) (by unfold szL; omega)
    have hL1 := hL.lay (l := i) (its := itemsOf L i) (first := (L i 0).length) (by omega) h.n3 (by rw [hil]; unfold szL; omega) (by rw [hil]; exact hs) (itm_9 hL (by omega))
    rw [hil, ← a3] at hL1
    obtain ⟨σ2, b1, b2, b3, b4⟩ := ih (i + 1) σ1 _ _ (by omega) a2 hL1 (fun l e h1 h2 h3 => by
      obtain ⟨x1, x2⟩ := hF l e (by omega) h2 h3
      rw [lay_c _ _ _ _ _ _ _ _ (by omega), a4 (5 + l) (by omega) (by omega) (by omega), a5.2.1 l (by omega)]
      exact ⟨x1, XCh.same a5.2.2 _ _ (fun c hc => a5.1 c.1 (hL.1 l e h2 h3 c hc).2.1) x2⟩)
    rw [szS_lay _ _ _ _ _ _ _ _ (Nat.lt_succ_self _), a3, Nat.add_assoc] at b2 b3
    refine ⟨σ2, ?_, b2, b3, Nat.le_trans a5.2.2 b4⟩
    show (Xl_anew i (xA σ (5 + i) 0) σ).bind _ = _
    rw [f0, a1]; exact b1
theorem M_laysAll_ok {ρ ρ0 : RC} {reb : Int32} {Z : ZZ} (hR : RV ρ) : ∀ (r i f : Nat) (μ : MS) (L : LC) (pn w : Nat), i + r = 4 → r < f → 3 ≤ pn → MR i ρ L w reb Z μ → LOK 4 L pn w → (∀ l e, i ≤ l → l < 4 → e < 2 → gA μ 5 (2 * l + e) = nI (L l e).length ∧ MCh μ ρ0 e (2 * l + e) (L l e)) → ∃ μ', M_laysAll_2 f (nI i) μ = some μ' ∧ MR 4 ρ (layAll r i L pn w) (w + szS r i L) reb Z μ' ∧ MF 9 μ μ' := by
  intro r
  induction r with
  | zero =>
    intro i f μ L pn w hi hf h3 h hL hF
    obtain ⟨f, rfl⟩ : ∃ g, f = g + 1 := ⟨f - 1, by omega⟩
    have : i = 4 := by omega
    subst this
    exact ⟨μ, rfl, h, MF.refl _ _⟩
  | succ r ih =>
    intro i f μ L pn w hi hf h3 h hL hF
    obtain ⟨f, rfl⟩ : ∃ g, f = g + 1 := ⟨f - 1, by omega⟩
    have f0 := (hF i 0 (Nat.le_refl _) (by omega) (by decide)).1
    have hs : szL L i ≤ 64 := hL.2.1 i (by omega)
    have hil := items_len L i
    have hq := MU.mX μ (k := 8) (by decide) (wr (gA μ 8) 0 (itemsOf L i))
    obtain ⟨μ1, a1, a2, a3, a4⟩ := M_lays_st (k := i + 1) (l := i) hR (h.q hq) (hL.down (by omega)) (fun l' h1 h2 => by omega) h3 (by omega) (Nat.lt_succ_self _) (itemsOf L i) 0 (L i 0).length (by omega) (by omega) (by rw [hil]; unfold szL; omega) (itm_9 hL (by omega)) (fun j hj => by rw [mX_A, Nat.zero_add]; exact wr_at _ _ hj)
    have hL1 := hL.lay (l := i) (its := itemsOf L i) (first := (L i 0).length) (by omega) h3 (by rw [hil]; unfold szL; omega) (by rw [hil]; exact hs) (itm_9 hL (by omega))
    rw [hil] at hL1 a1 a2
    have hML := (ML.u (l := i) hq).trans a4
    obtain ⟨μ2, b1, b2, b3⟩ := ih (i + 1) f μ1 _ _ _ (by omega) (by omega) (by omega) a2 hL1 (fun l e h1 h2 h3 => by
      obtain ⟨x1, x2⟩ := hF l e (by omega) h2 h3
      have hb := hL.2.1 l h2
      rw [lay_c _ _ _ _ _ _ _ _ (by omega), hML.1 l e (by omega) h3]
      exact ⟨x1, MCh.same _ (fun j hj => hML.2 l e j (by omega) h3 (by rcases (show e = 0 ∨ e = 1 by omega) with rfl | rfl <;> omega)) x2⟩)
    rw [szS_lay _ _ _ _ _ _ _ _ (Nat.lt_succ_self _), Nat.add_assoc] at b2
    refine ⟨μ2, ?_, b2, ?_⟩
    · show (if nI 4 ≤ nI i then _ else (if nI 2 * nI i < 0 ∨ 10 ≤ (nI 2 * nI i).toNatClampNeg then none else ((M_takesItems (nI i) μ).bind fun q1 => ((M_lays_2 (nI i) (nI 0) q1.1 (gA μ 5 (nI 2 * nI i).toNatClampNeg) q1.2).bind fun q2 => M_laysAll_2 f (nI i + nI 1) q2)))) = _
      rw [if_neg (nI_ge (by omega) (by decide)), pk_mul, if_neg (nI_in (by omega) (by decide)), nI_clamp (by omega), M_items_st (fun e he => hF i e (Nat.le_refl _) (by omega) he) hs (by omega), Option.bind_some, show gA μ 5 (2 * i) = nI (L i 0).length from f0]
      show (M_lays_2 (nI i) (nI 0) (nI (szL L i)) (nI (L i 0).length) _).bind _ = _
      rw [a1, Option.bind_some, nI_add]; exact b1
    · refine MF.trans (μ1 := mX μ 8 (wr (gA μ 8) 0 (itemsOf L i))) ⟨fun _ _ _ => rfl, fun j hj => by rw [gA_mX, if_neg (by omega)]⟩ ((a3.up (by decide)).trans b3)
/-! what is told -/
def zr (Z : ZZ) (r : List Int64) : ZZ := (Z.1, Z.2.1, r, Z.2.2.2)
theorem gD64_l {r : List Int64} {x : Int64} {i : Nat} (h : i < r.length) : (r ++ [x]).getD i 0 = r.getD i 0 := by
  rw [List.getD_eq_getElem?_getD, List.getD_eq_getElem?_getD, List.getElem?_append_left h]
theorem gD64_r {r : List Int64} {x : Int64} : (r ++ [x]).getD r.length 0 = x := by
  rw [List.getD_eq_getElem?_getD, List.getElem?_append_right (Nat.le_refl _), Nat.sub_self]; rfl
def tlX (σ : XS) (r : List Int64) (x : Int64) : XS := zI (zB σ 0 r.length x) 5 (nI (r.length + 1))
def tlM (μ : MS) (r : List Int64) (x : Int64) : MS := sI (sB μ 0 r.length x) 1 (nI (r.length + 1))
theorem X_tells_ok {k : Nat} {ρ : RC} {L : LC} {w : Nat} {reb : Int32} {Z : ZZ} {r : List Int64} {σ : XS} (h : XR k ρ L w reb (zr Z r) σ) (hr : r.length < 128) (x : Int64) : X_tells x σ = some (tlX σ r x) ∧ XR k ρ L w reb (zr Z (r ++ [x])) (tlX σ r x) := by
  have h5 : xI σ 5 = nI r.length := h.2.2.1.2.2.1
  refine ⟨?_, ?_⟩
  · unfold X_tells
    rw [h5, if_neg (nI_in hr (by decide)), nI_clamp (by omega)]
    show some (zI (zB σ 0 r.length x) 5 (xI σ 5 + nI 1)) = _
    rw [h5, nI_add]; rfl
  · obtain ⟨a1, a2, ⟨a3, a4, a5, a6, a7⟩, a8, a9, a10, a11⟩ := h
    refine ⟨a1, a2, ⟨a3, a4, ?_, a6, a7⟩, a8, fun i hi => ?_, fun l e hl he => ⟨(a10 l e hl he).1, XCh.same0 (σ := σ) _ _ (Nat.le_refl _) rfl (a10 l e hl he).2⟩, a11⟩
    · show nI (r.length + 1) = nI (r ++ [x]).length
      rw [List.length_append]; rfl
    · have hi : i < (r ++ [x]).length := hi
      rw [List.length_append] at hi
      have hi : i < r.length + 1 := hi
      show xB (zB σ 0 r.length x) 0 i = (r ++ [x]).getD i 0
      rw [xB_zB, if_pos rfl]
      by_cases hh : i = r.length
      · rw [if_pos hh, hh, gD64_r]
      · rw [if_neg hh, gD64_l (by omega)]; exact a9 i (show i < r.length by omega)
theorem X_reset {k : Nat} {ρ : RC} {L : LC} {w : Nat} {reb : Int32} {Z : ZZ} {σ : XS} (h : XR k ρ L w reb Z σ) : XR k ρ L w reb (zr Z []) (zI σ 5 (nI 0)) := by
  obtain ⟨a1, a2, ⟨a3, a4, a5, a6, a7⟩, a8, a9, a10, a11⟩ := h
  exact ⟨a1, a2, ⟨a3, a4, rfl, a6, a7⟩, a8, fun i hi => absurd hi (Nat.not_lt_zero _), fun l e hl he => ⟨(a10 l e hl he).1, XCh.same0 (σ := σ) _ _ (Nat.le_refl _) rfl (a10 l e hl he).2⟩, a11⟩
theorem M_enters_ok {k : Nat} {ρ : RC} {L : LC} {w : Nat} {reb : Int32} {Z : ZZ} {r : List Int64} {μ : MS} (h : MR k ρ L w reb (zr Z r) μ) (hr : r.length < 160) (x : Int64) : M_enters x μ = some (tlM μ r x) ∧ MR k ρ L w reb (zr Z (r ++ [x])) (tlM μ r x) := by
  have h5 : gI μ 1 = nI r.length := h.2.1.1
  refine ⟨?_, ?_⟩
  · unfold M_enters
    rw [h5, if_neg (nI_in hr (by decide)), nI_clamp (by omega)]
    show some (sI (sB μ 0 r.length x) 1 (gI μ 1 + nI 1)) = _
    rw [h5, nI_add]; rfl
  · obtain ⟨a1, ⟨a2, a3, a4, a5⟩, a6, a7, a8⟩ := h
    refine ⟨a1, ⟨?_, a3, a4, a5⟩, a6, fun i hi => ?_, fun l e hl he => ⟨(a8 l e hl he).1, MCh.same (μ := μ) _ (fun _ _ => ⟨rfl, rfl, rfl, rfl⟩) (a8 l e hl he).2⟩⟩
    · show nI (r.length + 1) = nI (r ++ [x]).length
      rw [List.length_append]; rfl
    · have hi : i < (r ++ [x]).length := hi
      rw [List.length_append] at hi
      have hi : i < r.length + 1 := hi
      show gB (sB μ 0 r.length x) 0 i = (r ++ [x]).getD i 0
      rw [gB_sB, if_pos rfl]
      by_cases hh : i = r.length
      · rw [if_pos hh, hh, gD64_r]
      · rw [if_neg hh, gD64_l (by omega)]; exact a7 i (show i < r.length by omega)
theorem M_reset {k : Nat} {ρ : RC} {L : LC} {w : Nat} {reb : Int32} {Z : ZZ} {μ : MS} (h : MR k ρ L w reb Z μ) : MR k ρ L w reb (zr Z []) (sI μ 1 (nI 0)) := by
  obtain ⟨a1, ⟨a2, a3, a4, a5⟩, a6, a7, a8⟩ := h
  exact ⟨a1, ⟨rfl, a3, a4, a5⟩, a6, fun i hi => absurd hi (Nat.not_lt_zero _), fun l e hl he => ⟨(a8 l e hl he).1, MCh.same (μ := μ) _ (fun _ _ => ⟨rfl, rfl, rfl, rfl⟩) (a8 l e hl he).2⟩⟩
theorem X_tellsPair_ok {k : Nat} {ρ : RC} {L : LC} {w i : Nat} {reb : Int32} {Z : ZZ} {r : List Int64} {σ : XS} (h : XR k ρ L w reb (zr Z r) σ) (hr : r.length < 127) (hi : i < xN σ) {x : VV} (hx : pr σ i = x) : X_tellsPair i σ = some (tlX (tlX σ r x.1) (r ++ [x.1]) x.2) ∧ XR k ρ L w reb (zr Z (r ++ [x.1, x.2])) (tlX (tlX σ r x.1) (r ++ [x.1]) x.2) := by
  have x1 : rP (xC σ i) = x.1 := by rw [← hx]; rfl
  have x2 : rQ (xC σ i) = x.2 := by rw [← hx]; rfl
  obtain ⟨t1, t2⟩ := X_tells_ok h (by omega) x.1
  obtain ⟨u1, u2⟩ := X_tells_ok t2 (by rw [List.length_append]; show r.length + 1 < 128; omega) x.2
  refine ⟨?_, by rw [List.append_assoc] at u2; exact u2⟩
  unfold X_tellsPair
  rw [if_pos hi, x1, t1, Option.bind_some, if_pos (show i < xN (tlX σ r x.1) from hi)]
  rw [show rQ (xC (tlX σ r x.1) i) = x.2 from x2, u1]; rfl
/-! a line's summary -/
def smy (ρ : RC) (L : LC) (l : Nat) : VV := if (L l 0).length = 0 then (if (L l 1).length = 0 then emp ρ else sv ρ 1 (L l 1)) else (if (L l 1).length = 0 then sv ρ 0 (L l 0) else jn ρ (sv ρ 0 (L l 0)) (sv ρ 1 (L l 1)))
theorem XCh.top {σ : XS} {ρ : RC} {e : Nat} {o : Option Nat} {cs : List CL} (h : XCh σ ρ e o cs) : (cs.length = 0 ∧ o = none) ∨ (¬ cs.length = 0 ∧ ∃ i, o = some i ∧ i < xN σ ∧ rK (xC σ i) = true ∧ pr σ i = sv ρ e cs) := by
  cases cs with
  | nil => exact .inl ⟨rfl, h⟩
  | cons c cs =>
    obtain ⟨h1, h2, h3, -, h5, -⟩ := h
    exact .inr ⟨by simp, c.1, h1, h2, h3, h5⟩
theorem VD_smy {ρ : RC} (hR : RV ρ) {k : Nat} {L : LC} {pn w l : Nat} (hL : LOK k L pn w) (hl : l < k) : VD ρ (sv ρ 0 (L l 0)) ∧ VD ρ (sv ρ 1 (L l 1)) ∧ VD ρ (smy ρ L l) := by
  have v0 := VD_sv hR 0 (L l 0) (fun x hx => (hL.1 l 0 hl (by decide) x hx).2.2.2)
  have v1 := VD_sv hR 1 (L l 1) (fun x hx => (hL.1 l 1 hl (by decide) x hx).2.2.2)
  refine ⟨v0, v1, ?_⟩
  unfold smy
  split
  · split
    · exact VD_emp hR
    · exact v1
  · split
    · exact v0
    · exact VD_jn hR v0 v1
theorem X_sums_ok {k : Nat} {ρ : RC} {L : LC} {w w' n0 l i : Nat} {reb : Int32} {Z : ZZ} {σ : XS} (hR : RV ρ) (h : XR k ρ L w reb Z σ) (hL : LOK k L n0 w') (hl : l < k) (hi : i < 3) : ∃ σ', Xl_sums l i σ = some σ' ∧ XQ n0 σ σ' ∧ pr σ' i = smy ρ L l ∧ (∀ j, j ≠ i → xC σ' j = xC σ j) ∧ xN σ' = xN σ ∧ (∀ j, j ≠ 0 → xA σ' j = xA σ j) := by
  have hn3 := h.n3
  have b0 := (h.2.2.2.2.2.1 l 0 hl (by decide)).2
  have b1 := (h.2.2.2.2.2.1 l 1 hl (by decide)).2
  obtain ⟨v0, v1, -⟩ := VD_smy hR hL hl
  have c0 : (nI 0).toNatClampNeg = 0 := rfl
  have c1 : (nI 1).toNatClampNeg = 1 := rfl
  have d0 : ¬ (nI 0 < 0 ∨ 2 ≤ 0) := by decide
  have d1 : ¬ (nI 1 < 0 ∨ 2 ≤ 1) := by decide
  -- the pair is not one of the line's cells
  have hne : ∀ e j, e < 2 → xT σ l e = some j → j ≠ i := by
    intro e j he hj
    have b := (h.2.2.2.2.2.1 l e hl he).2
    cases hLe : L l e with
    | nil => rw [hLe] at b; rw [show xT σ l e = none from b] at hj; cases hj
    | cons c cs =>
      rw [hLe] at b
      obtain ⟨g1, -⟩ := b
      rw [g1] at hj
      have := (hL.1 l e hl he c (by rw [hLe]; exact List.mem_cons_self)).1
      have : c.1 = j := Option.some.inj hj
      omega
  have key : ∀ (τ : XS) (x : VV), (τ = pq σ i x ∨ ∃ y, τ = pq (pq σ i y) i x) → XQ n0 σ τ ∧ (∀ j, j ≠ i → xC τ j = xC σ j) ∧ xN τ = xN σ ∧ (∀ j, xA τ j = xA σ j) ∧ pr τ i = x ∧ xT τ = xT σ ∧ XG ρ τ := by
    intro τ x hτ
    rcases hτ with rfl | ⟨y, rfl⟩
    · exact ⟨XQ.pq σ x (.inl hi), fun j hj => by rw [xC_pq, if_neg hj], rfl, fun _ => rfl, by rw [pr_pq, if_pos rfl], rfl, h.2.1⟩
    · exact ⟨(XQ.pq σ y (.inl hi)).trans (XQ.pq _ x (.inl hi)), fun j hj => by rw [xC_pq, if_neg hj, xC_pq, if_neg hj], rfl, fun _ => rfl, by rw [pr_pq, if_pos rfl], rfl, h.2.1⟩
  have h39 : ∀ (τ : XS) (x : VV), (τ = pq σ i x ∨ ∃ y, τ = pq (pq σ i y) i x) → (x = if (L l 0).length = 0 then emp ρ else sv ρ 0 (L l 0)) → ∃ σ', Xl_sums_39 l i τ = some σ' ∧ XQ n0 σ σ' ∧ pr σ' i = smy ρ L l ∧ (∀ j, j ≠ i → xC σ' j = xC σ j) ∧ xN σ' = xN σ ∧ (∀ j, j ≠ 0 → xA σ' j = xA σ j) := by
    intro τ x hτ hx
    obtain ⟨k1, k2, k3, k4, k5, k6, k7⟩ := key τ x hτ
    unfold Xl_sums_39
    simp only [c0, c1, d0, d1, if_false, k6]
    have h75 : ∀ (o : Option Nat), xT σ l 1 = o → Xl_sums_75 l i τ = oc o (some τ) fun i7 => (if i7 < xN τ ∧ rK (xC τ i7) = true then (if i7 < xN τ ∧ rK (xC τ i7) = true then (if i < xN τ then ((Xp_is i (rP (xC τ i7)) (rQ (xC τ i7)) τ).bind fun q8 => some q8) else none) else none) else none) := by
      intro o ho
      unfold Xl_sums_75
      simp only [c1, d1, if_false, k6, ho]
    rcases b1.top with ⟨z1, o1⟩ | ⟨z1, j1, o1, q1, q2, q3⟩
    · rw [o1]
      refine ⟨τ, ?_, k1, ?_, k2, k3, fun j _ => k4 j⟩
      · show Xl_sums_75 l i τ = _
        rw [h75 none o1]; rfl
      · rw [k5, hx]
        unfold smy
        rw [if_pos z1]
        by_cases hz : (L l 0).length = 0
        · rw [if_pos hz, if_pos hz]
        · rw [if_neg hz, if_neg hz, if_pos z1]
    · have hj1 := hne 1 j1 (by decide) o1
      have p1 : pr τ j1 = sv ρ 1 (L l 1) := by unfold pr; rw [k2 j1 hj1]; exact q3
      rw [o1, oc_some]
      rcases b0.top with ⟨z0, o0⟩ | ⟨z0, j0, o0, r1, r2, r3⟩
      · rw [o0]
        refine ⟨pq τ i (sv ρ 1 (L l 1)), ?_, k1.trans (XQ.pq τ _ (.inl hi)), ?_, fun j hj => by rw [xC_pq, if_neg hj]; exact k2 j hj, k3, fun j _ => k4 j⟩
        · show Xl_sums_75 l i τ = _
          have hc : j1 < xN τ ∧ rK (xC τ j1) = true := ⟨by omega, by rw [k2 j1 hj1]; exact q2⟩
          rw [h75 _ o1, oc_some, if_pos hc, if_pos hc, if_pos (by omega), Xp_is_pq (by omega), ← p1]; rfl
        · rw [pr_pq, if_pos rfl]
          unfold smy
          rw [if_pos z0, if_neg z1]
      · rw [o0, oc_some]
        rw [if_neg z0] at hx
        obtain ⟨f, hf⟩ := X_join_jn k7 hR (i := i) (a := i) (b := j1) (by omega) (by omega) (by omega) k5 p1 (hx ▸ v0) v1
        refine ⟨pq (zX τ 0 f) i (jn ρ x (sv ρ 1 (L l 1))), by rw [hf]; rfl, ?_, ?_, fun j hj => ?_, k3, fun j hj => ?_⟩
        · exact (k1.trans (XQ.zX0 τ f)).trans (XQ.pq _ _ (.inl hi))
        · rw [pr_pq, if_pos rfl]
          unfold smy
          rw [if_neg z0, if_neg z1, hx]
        · rw [xC_pq, if_neg hj]; exact k2 j hj
        · rw [xA_pq, xA_zX, if_neg hj]; exact k4 j
  unfold Xl_sums
  rw [X_empty_emp h.2.1 hR (by omega), Option.bind_some]
  simp only [c0, d0, if_false]
  rw [show xT (pq σ i (emp ρ)) l 0 = xT σ l 0 from rfl]
  rcases b0.top with ⟨z0, o0⟩ | ⟨z0, j0, o0, r1, r2, r3⟩
  · rw [o0]
    exact h39 _ _ (.inl rfl) (by rw [if_pos z0])
  · have hj0 := hne 0 j0 (by decide) o0
    have hc : j0 < xN (pq σ i (emp ρ)) ∧ rK (xC (pq σ i (emp ρ)) j0) = true := ⟨r1, by rw [xC_pq, if_neg hj0]; exact r2⟩
    have p0 : pr (pq σ i (emp ρ)) j0 = sv ρ 0 (L l 0) := by rw [pr_pq, if_neg hj0]; exact r3
    rw [o0, oc_some, if_pos hc, if_pos hc, if_pos (show i < xN (pq σ i (emp ρ)) by show i < xN σ; omega), Xp_is_pq (show i < xN (pq σ i (emp ρ)) by show i < xN σ; omega), Option.bind_some]
    rw [show (rP (xC (pq σ i (emp ρ)) j0), rQ (xC (pq σ i (emp ρ)) j0)) = sv ρ 0 (L l 0) from p0]
    exact h39 _ _ (.inr ⟨_, rfl⟩) (by rw [if_neg z0])
theorem M_summary_ok {k : Nat} {ρ : RC} {L : LC} {w pn w' l : Nat} {reb : Int32} {Z : ZZ} {μ : MS} (hR : RV ρ) (h : MR k ρ L w reb Z μ) (hL : LOK k L pn w') (hk5 : k ≤ 5) (hl : l < k) : ∃ μ', M_summary (nI l) μ = some μ' ∧ MV μ μ' ∧ gL μ' 0 = (smy ρ L l).1 ∧ gL μ' 1 = (smy ρ L l).2 := by
  obtain ⟨a0, b0⟩ := h.2.2.2.2 l 0 hl (by decide)
  obtain ⟨a1, b1⟩ := h.2.2.2.2 l 1 hl (by decide)
  have hs := hL.2.1 l hl
  obtain ⟨v0, v1, -⟩ := VD_smy hR hL hl
  have htop : ∀ e, e < 2 → ¬ (L l e).length = 0 → gB μ 3 (64 * (2 * l + e) + ((L l e).length - 1)) = (sv ρ e (L l e)).1 ∧ gB μ 4 (64 * (2 * l + e) + ((L l e).length - 1)) = (sv ρ e (L l e)).2 := by
    intro e he hne
    have := (h.2.2.2.2 l e hl he).2.get 0 (by omega)
    rw [Nat.sub_zero, List.drop_zero] at this
    exact ⟨this.2.2.1, this.2.2.2⟩
  unfold M_summary M_place
  rw [pk_mul, nI_add, if_neg (nI_in (by omega) (by decide)), if_neg (nI_in (by omega) (by decide)), nI_clamp (by omega), nI_clamp (by omega), show gA μ 5 (2 * l) = nI (L l 0).length from a0, a1]
  rw [Option.bind_some, Option.bind_some]
  have p0 : ¬ (L l 0).length = 0 → nI 64 * nI (2 * l) + (nI (L l 0).length - nI 1) = nI (64 * (2 * l + 0) + ((L l 0).length - 1)) := fun hne => by rw [pk_sub (by omega), pk_mul, nI_add]; rfl
  have p1 : ¬ (L l 1).length = 0 → nI 64 * nI (2 * l + 1) + (nI (L l 1).length - nI 1) = nI (64 * (2 * l + 1) + ((L l 1).length - 1)) := fun hne => by rw [pk_sub (by omega), pk_mul, nI_add]
  unfold smy
  by_cases z0 : (L l 0).length = 0
  · rw [if_pos (by rw [z0]; rfl), if_pos z0]
    by_cases z1 : (L l 1).length = 0
    · rw [if_pos (by rw [z1]; rfl), if_pos z1, ob_some]
      exact M_empty_q h.1 hR
    · obtain ⟨t3, t4⟩ := htop 1 (by decide) z1
      rw [if_neg (nI_ne0 (by omega) (by omega)), if_neg z1, p1 z1]
      refine ⟨_, ?_, MV_sL (MV.refl μ) (sv ρ 1 (L l 1)).1 (sv ρ 1 (L l 1)).2, rfl, rfl⟩
      unfold M_summary_59
      rw [if_pos (by rw [z0]; rfl), if_neg (nI_in (by omega) (by decide)), if_neg (nI_in (by omega) (by decide)), nI_clamp (by omega), t3, t4]; rfl
  · obtain ⟨t3, t4⟩ := htop 0 (by decide) z0
    rw [if_neg (nI_ne0 (by omega) (by omega)), if_neg z0, p0 z0]
    unfold M_summary_59
    rw [if_neg (nI_ne0 (by omega) (by omega))]
    by_cases z1 : (L l 1).length = 0
    · rw [if_pos (by rw [z1]; rfl), if_pos z1]
      refine ⟨_, ?_, MV_sL (MV.refl μ) (sv ρ 0 (L l 0)).1 (sv ρ 0 (L l 0)).2, rfl, rfl⟩
      rw [if_neg (nI_in (by omega) (by decide)), if_neg (nI_in (by omega) (by decide)), nI_clamp (by omega), t3, t4]; rfl
    · obtain ⟨t5, t6⟩ := htop 1 (by decide) z1
      obtain ⟨μ2, f1, f2, f3, f4⟩ := M_join_q h.1 hR v0 v1
      rw [if_neg (nI_ne0 (by omega) (by omega)), if_neg z1, p1 z1, if_neg (nI_in (by omega) (by decide)), if_neg (nI_in (by omega) (by decide)), if_neg (nI_in (by omega) (by decide)), if_neg (nI_in (by omega) (by decide)), nI_clamp (by omega), nI_clamp (by omega), t3, t4, t5, t6, f1]
      exact ⟨μ2, rfl, f2, f3, f4⟩
