set_option maxRecDepth 100000
/-! what is asked: sum, item, part, first -/
theorem XR.lay0 {k : Nat} {ρ : RC} {L : LC} {w w' n0 l : Nat} {reb : Int32} {Z : ZZ} {σ : XS} (h : XR k ρ L w reb Z σ) (hL : LOK k L n0 w') (hl : l < k) : ∃ σ', Xl_lay_r0 l σ = some (nI (szL L l), σ') ∧ XR k ρ L w reb Z σ' ∧ xN σ' = xN σ ∧ (∀ t, t < (itemsOf L l).length → xA σ' 3 t = nI ((itemsOf L l).getD t 0)) ∧ xA σ' 4 = xA σ 4 :=
  ⟨_, X_lay_r0 h hL hl, h.q hL (XQ.zX σ (by decide) _), rfl, fun t ht => by rw [zX_A]; exact wr_at _ _ ht, by rw [xA_zX, if_neg (by decide)]⟩
theorem XR.lay1 {k : Nat} {ρ : RC} {L : LC} {w w' n0 l : Nat} {reb : Int32} {Z : ZZ} {σ : XS} (h : XR k ρ L w reb Z σ) (hL : LOK k L n0 w') (hl : l < k) : ∃ σ', Xl_lay_r1 l σ = some (nI (szL L l), σ') ∧ XR k ρ L w reb Z σ' ∧ xN σ' = xN σ ∧ (∀ t, t < (itemsOf L l).length → xA σ' 4 t = nI ((itemsOf L l).getD t 0)) ∧ xA σ' 3 = xA σ 3 :=
  ⟨_, X_lay_r1 h hL hl, h.q hL (XQ.zX σ (by decide) _), rfl, fun t ht => by rw [zX_A]; exact wr_at _ _ ht, by rw [xA_zX, if_neg (by decide)]⟩
theorem E_sum_ok (n : Nat) : E_sum (RR n) (RR (n + 1)) := by
  intro σ μ x1 h
  have h0 := h.stay (nI 0)
  obtain ⟨ρ, L, w, reb, Z, hR, hL, hZ, hX, hM, hw, hr⟩ := h
  have hM0 := hM.q (MU.sI μ (k := 0) (.inl rfl) (nI 0))
  rcases isL x1 with ⟨a1, b1⟩ | ⟨l, hl, rfl, a1, b1⟩
  · exact ⟨-1, σ, _, by unfold X_sum; simp only [a1, obs, n10, n00, n20, if_false, if_true, and_self, Nat.reduceAdd, Nat.reduceLeDiff], by unfold M_sum; simp only [b1, obs, n10, n00, n20, if_false, if_true, and_self, Nat.reduceAdd, Nat.reduceLeDiff], h0⟩
  have cl : (nI l).toNatClampNeg = l := nI_clamp (by omega)
  have dl : ¬ (nI l < 0 ∨ 4 ≤ l) := by rw [zN_lt0 (by omega), false_or]; omega
  obtain ⟨σ1, p1, p2, p3, -, p5, -⟩ := X_sums_ok hR hX hL hl (i := 2) (by decide)
  have hX1 := hX.q hL p2
  obtain ⟨σ2, t1, t2, t3⟩ := X_tellP hX1 (i := 2) (by decide) p3
  obtain ⟨μ1, q1, q2, -⟩ := M_entersSummary_ok hR (r := []) (M_reset hM0) (by decide) hL (by decide) hl
  have s1 := X_sz t2 hl
  have s2 := M_size_ok q2 (by decide) hl
  exact ⟨nI (szL L l), σ2, μ1, by unfold X_sum; simp only [a1, cl, dl, p1, t1, s1, obs, n10, n00, n20, if_false, if_true, and_self, Nat.reduceAdd, Nat.reduceLeDiff], by unfold M_sum; simp only [b1, q1, s2, obs, n10, n00, n20, if_false, if_true, and_self, Nat.reduceAdd, Nat.reduceLeDiff], ρ, L, w, reb, _, hR, by rw [t3, p5]; exact hL, hZ.row (r := [(smy ρ L l).1, (smy ρ L l).2]) (by show 2 ≤ 128; decide), t2, q2, by omega, by show Z.2.2.2 ≤ n + 1; omega⟩
/-- the component's walk to a cell -/
theorem item_walk {ρ : RC} {e y : Nat} {x : Int32} {σ : XS} : ∀ (d : Nat) (cs : List CL) (o : Option Nat) (k f : Nat), XCh σ ρ e o cs → d < cs.length → k + d = y → y < 100 → ∃ j cs', XCh σ ρ e (some j) cs' ∧ cs' = cs.drop d ∧ X_item_105 (f + d) x (nI y) o (nI k) σ = X_item_105 f x (nI y) (some j) (nI y) σ := by
  intro d
  induction d with
  | zero =>
    intro cs o k f h hd hk _
    cases cs with
    | nil => exact absurd hd (Nat.not_lt_zero _)
    | cons c cs =>
      have ho : o = some c.1 := h.1
      subst ho
      have : k = y := by omega
      subst this
      exact ⟨c.1, c :: cs, h, rfl, rfl⟩
  | succ d ih =>
    intro cs o k f h hd hk hy
    cases cs with
    | nil => exact absurd hd (Nat.not_lt_zero _)
    | cons c cs =>
      obtain ⟨ho, h2, h3, -, -, h6⟩ := h
      subst ho
      obtain ⟨j, cs', g1, g2, g3⟩ := ih cs _ (k + 1) f h6 (by simp only [List.length_cons] at hd; omega) (by omega) hy
      refine ⟨j, cs', g1, g2, ?_⟩
      rw [← g3]
      show (if nI y ≤ nI k then _ else (if c.1 < xN σ ∧ rK (xC σ c.1) = true then X_item_105 (f + d) x (nI y) (rB (xC σ c.1)) (nI k + nI 1) σ else none)) = _
      rw [if_neg (nI_ge (by omega) (by omega)), if_pos ⟨h2, h3⟩, nI_add]
theorem sv_drop {L : LC} {l i : Nat} (ρ : RC) : sufAt ρ L l i = if i < (L l 0).length then sv ρ 0 ((L l 0).drop i) else sv ρ 1 ((L l 1).drop ((L l 1).length - 1 - (i - (L l 0).length))) := rfl
theorem X_item_st {k : Nat} {ρ : RC} {L : LC} {w l e y : Nat} {reb : Int32} {Z : ZZ} {σ : XS} (h : XR k ρ L w reb Z σ) (hl : l < k) (he : e < 2) (hy : y < (L l e).length) (h64 : (L l e).length ≤ 64) : ∃ σ', X_item_91 l (nI e) (nI y) σ = some (nI ((L l e).getD y c0).2.2, σ') ∧ XR k ρ L w reb (zr Z [lN e, lN y, (sv ρ e ((L l e).drop y)).1, (sv ρ e ((L l e).drop y)).2]) σ' ∧ xN σ' = xN σ := by
  obtain ⟨j, cs', g1, g2, g3⟩ := item_walk (y := y) (x := nI e) y (L l e) _ 0 (FU - y) (h.2.2.2.2.2.1 l e hl he).2 hy (by omega) (by omega)
  have hcs : ∃ cs2, cs' = (L l e).getD y c0 :: cs2 := by
    rw [g2, List.drop_eq_getElem_cons hy, List.getD_eq_getElem?_getD, List.getElem?_eq_getElem hy]
    exact ⟨_, rfl⟩
  obtain ⟨cs2, hcs⟩ := hcs
  rw [hcs] at g1
  obtain ⟨q1, q2, q3, q4, q5, -⟩ := g1
  have q1 : j = ((L l e).getD y c0).1 := Option.some.inj q1
  rw [← q1] at q2 q3 q4 q5
  rw [← hcs, g2] at q5
  obtain ⟨t1, t2⟩ := X_tells_ok (X_reset h) (r := []) (by decide) (lN e)
  obtain ⟨u1, u2⟩ := X_tells_ok t2 (by show 1 < 128; decide) (lN y)
  obtain ⟨v1, v2⟩ := X_tellsPair_ok u2 (i := j) (x := sv ρ e ((L l e).drop y)) (by show 2 < 127; decide) q2 q5
  refine ⟨_, ?_, v2, rfl⟩
  unfold X_item_91
  rw [if_neg (e2i he), e2 he, show FU = FU - y + y by unfold FU; omega, g3, show FU - y = FU - y - 1 + 1 by unfold FU; omega]
  show (if nI y ≤ nI y then ((X_tells (nI e).toInt64 (zI σ 5 (nI 0))).bind fun q7 => ((X_tells (nI y).toInt64 q7).bind fun q8 => (((X_tellsPair j q8).bind fun q10 => (if j < xN q10 ∧ rK (xC q10 j) = true then some (rI (xC q10 j), q10) else none))))) else _) = _
  rw [if_pos (nI_le (Nat.le_refl _) (by omega)), nI_l (by omega), nI_l (by omega), t1, Option.bind_some, u1, Option.bind_some, v1, Option.bind_some]
  refine (if_pos ⟨q2, q3⟩).trans ?_
  exact congrArg (fun z => some (z, _)) q4
theorem M_item_st {k : Nat} {ρ : RC} {L : LC} {w pn w' l i : Nat} {reb : Int32} {Z : ZZ} {μ : MS} (h : MR k ρ L w reb Z μ) (hL : LOK k L pn w') (hk5 : k ≤ 4) (hl : l < k) (hi : i < szL L l) : ∃ μ', M_item_22 (nI l) (nI i) (nI 0) μ = some (nI (cellAt L l i).2.2, μ') ∧ MR k ρ L w reb (zr Z [lN (if i < (L l 0).length then 0 else 1), lN (if i < (L l 0).length then i else szL L l - 1 - i), (sufAt ρ L l i).1, (sufAt ρ L l i).2]) μ' ∧ gI μ' 0 = nI 0 := by
  have hM0 := h.q (MU.sI μ (k := 0) (.inl rfl) (nI 0))
  have h64 : szL L l ≤ 64 := hL.2.1 l hl
  obtain ⟨p1, p2, p3, -, p5, p6⟩ := hM0.at hL (by omega) hl hi
  have hlen := (hM0.2.2.2.2 l 0 hl (by decide)).1
  have hlen : gA (sI μ 0 (nI 0)) 5 (2 * l) = nI (L l 0).length := hlen
  have hle : (L l 0).length ≤ 64 := by unfold szL at h64; omega
  have c1 : (nI (2 * l)).toNatClampNeg = 2 * l := nI_clamp (by omega)
  have i1 : ¬ (nI (2 * l) < 0 ∨ 10 ≤ 2 * l) := by rw [zN_lt0 (by omega), false_or]; omega
  have hend : ∀ (f pl : Nat) (ν : MS), f < 2 → pl < 100 → MR k ρ L w reb (zr Z [lN f]) ν → (∀ j, j ≠ 1 → gI ν j = gI (sI μ 0 (nI 0)) j) → (∀ j, gA ν j = gA (sI μ 0 (nI 0)) j) → (∀ j, j ≠ 0 → gB ν j = gB (sI μ 0 (nI 0)) j) → ∃ μ', M_item_101 (nI (posAt L l i)) (nI pl).toInt64 ν = some (nI (cellAt L l i).2.2, μ') ∧ MR k ρ L w reb (zr Z [lN f, lN pl, (sufAt ρ L l i).1, (sufAt ρ L l i).2]) μ' ∧ gI μ' 0 = nI 0 := by
    intro f pl ν hf hpl hν n1 n2 n3
    have c2 : (nI (posAt L l i)).toNatClampNeg = posAt L l i := nI_clamp (by omega)
    have i2 : ¬ (nI (posAt L l i) < 0 ∨ 640 ≤ posAt L l i) := by rw [zN_lt0 (by omega), false_or]; omega
    obtain ⟨t1, t2⟩ := M_enters_ok hν (by show 1 < 160; decide) (lN pl)
    obtain ⟨u1, u2⟩ := M_enters_ok t2 (by show 2 < 160; decide) (sufAt ρ L l i).1
    obtain ⟨v1, v2⟩ := M_enters_ok u2 (by show 3 < 160; decide) (sufAt ρ L l i).2
    have b3 : gB (tlM ν [lN f] (lN pl)) 3 (posAt L l i) = (sufAt ρ L l i).1 := by
      unfold tlM; rw [gB_sI, gB_sB, if_neg (by decide), n3 3 (by decide)]; exact p5
    have b4 : gB (tlM (tlM ν [lN f] (lN pl)) ([lN f] ++ [lN pl]) (sufAt ρ L l i).1) 4 (posAt L l i) = (sufAt ρ L l i).2 := by
      unfold tlM; rw [gB_sI, gB_sB, if_neg (by decide), gB_sI, gB_sB, if_neg (by decide), n3 4 (by decide)]; exact p6
    refine ⟨_, ?_, v2, ?_⟩
    · unfold M_item_101
      simp only [nI_l (show pl < 2 ^ 31 by omega), t1, Option.bind_some, c2, i2, if_false, b3, u1, b4, v1]
      refine congrArg (fun z => some (z, _)) ?_
      show gA ν 7 (posAt L l i) = _
      rw [n2]; exact p3
    · unfold tlM
      simp only [gI_sI, gI_sB]
      rw [if_neg (by decide), if_neg (by decide), if_neg (by decide), n1 0 (by decide)]; rfl
  unfold M_item_22
  rw [show M_flag (nI 0) = some (nI 0) from rfl, Option.bind_some, if_neg (show ¬ gI (sI μ 0 (nI 0)) 0 = nI 1 from (by decide : ¬ nI 0 = nI 1)), p1, Option.bind_some]
  simp only [pk_mul, c1, i1, if_false, hlen]
  have hr := M_reset hM0
  have key : ∀ (f : Nat), f < 2 → ∃ ν, M_flag (nI f) = some (nI f) ∧ M_enters (nI f).toInt64 (sI (sI μ 0 (nI 0)) 1 (nI 0)) = some ν ∧ MR k ρ L w reb (zr Z [lN f]) ν ∧ (∀ j, j ≠ 1 → gI ν j = gI (sI μ 0 (nI 0)) j) ∧ (∀ j, gA ν j = gA (sI μ 0 (nI 0)) j) ∧ (∀ j, j ≠ 0 → gB ν j = gB (sI μ 0 (nI 0)) j) := by
    intro f hf
    obtain ⟨t1, t2⟩ := M_enters_ok hr (r := []) (by decide) (lN f)
    refine ⟨_, ?_, by rw [nI_l (by omega)]; exact t1, t2, fun j hj => ?_, fun _ => rfl, fun j hj => ?_⟩
    · rcases (show f = 0 ∨ f = 1 by omega) with rfl | rfl <;> rfl
    · unfold tlM; rw [gI_sI, if_neg hj, gI_sB, gI_sI, if_neg hj]
    · unfold tlM; funext m; rw [gB_sI, gB_sB, if_neg hj]; rfl
  by_cases hc : i < (L l 0).length
  · rw [if_pos ((nI_ltI (by omega) (by omega)).mpr hc), if_pos hc, if_pos hc]
    obtain ⟨ν, f1, f2, f3, f4, f5, f6⟩ := key 0 (by decide)
    unfold M_item_72
    rw [f1, Option.bind_some, f2, Option.bind_some, if_neg (nI_ge hc (by omega))]
    exact hend 0 i ν (by decide) (by omega) f3 f4 f5 f6
  · rw [if_neg (fun z => hc ((nI_ltI (by omega) (by omega)).mp z)), if_neg hc, if_neg hc]
    obtain ⟨ν, f1, f2, f3, f4, f5, f6⟩ := key 1 (by decide)
    unfold M_item_72
    rw [f1, Option.bind_some, f2, Option.bind_some, if_pos (nI_le (by omega) (by omega)), M_size_ok f3 (by omega) hl, Option.bind_some, pk_sub (by omega), pk_sub (by omega)]
    exact hend 1 (szL L l - 1 - i) ν (by decide) (by omega) f3 f4 f5 f6
theorem X_item_F {σ : XS} {l s i a : Nat} {r : Int32 × XS} (hl : l < 4) (a1 : X_isLine (nI l) = some (nI 1)) (s1 : Xl_size l σ = some (nI s, σ)) (q : X_in (nI i).toInt64 (lN 0) (nI s - nI 1).toInt64 = some (nI 1)) (l0 : xA σ (5 + l) 0 = nI a) (hq : ¬ nI a ≤ nI i) (p1 : X_item_91 l (nI 0) (nI i) σ = some r) : X_item (nI l) (nI i) σ = some r := by
  have cl : (nI l).toNatClampNeg = l := nI_clamp (by omega)
  have dl : ¬ (nI l < 0 ∨ 4 ≤ l) := by rw [zN_lt0 (by omega), false_or]; omega
  have z0 : (nI 0).toNatClampNeg = 0 := rfl
  have z2 : (nI 0 < 0) = False := eq_false (by decide)
  unfold X_item X_item_72
  simp only [a1, cl, dl, s1, q, z0, z2, or_self, l0, hq, p1, obs, n10, n00, n20, if_false, if_true, and_self, Nat.reduceAdd, Nat.reduceLeDiff]
theorem X_item_B {σ : XS} {l s i a y : Nat} {r : Int32 × XS} (hl : l < 4) (a1 : X_isLine (nI l) = some (nI 1)) (s1 : Xl_size l σ = some (nI s, σ)) (q : X_in (nI i).toInt64 (lN 0) (nI s - nI 1).toInt64 = some (nI 1)) (l0 : xA σ (5 + l) 0 = nI a) (hq : nI a ≤ nI i) (k1 : nI s - nI 1 - nI i = nI y) (p1 : X_item_91 l (nI 1) (nI y) σ = some r) : X_item (nI l) (nI i) σ = some r := by
  have cl : (nI l).toNatClampNeg = l := nI_clamp (by omega)
  have dl : ¬ (nI l < 0 ∨ 4 ≤ l) := by rw [zN_lt0 (by omega), false_or]; omega
  have z0 : (nI 0).toNatClampNeg = 0 := rfl
  have z2 : (nI 0 < 0) = False := eq_false (by decide)
  unfold X_item X_item_72
  simp only [a1, cl, dl, s1, q, z0, z2, or_self, l0, hq, k1, p1, obs, n10, n00, n20, if_false, if_true, and_self, Nat.reduceAdd, Nat.reduceLeDiff]
theorem item_F {n : Nat} {ρ : RC} {L : LC} {w l i : Nat} {reb : Int32} {Z : ZZ} {σ : XS} {μ1 : MS} (hR : RV ρ) (hL : LOK 4 L (xN σ) w) (hZ : ZW Z) (hX : XR 4 ρ L w reb Z σ) (hw : w ≤ 8000 * n) (hr : Z.2.2.2 ≤ n) (hl : l < 4) (hi : i < szL L l) (a1 : X_isLine (nI l) = some (nI 1)) (q : X_in (nI i).toInt64 (lN 0) (nI (szL L l) - nI 1).toInt64 = some (nI 1)) (q2 : MR 4 ρ L w reb (zr Z [lN (if i < (L l 0).length then 0 else 1), lN (if i < (L l 0).length then i else szL L l - 1 - i), (sufAt ρ L l i).1, (sufAt ρ L l i).2]) μ1) (hc :  i < (L l 0).length) : ∃ σ1, X_item (nI l) (nI i) σ = some (nI (cellAt L l i).2.2, σ1) ∧ RR (n + 1) σ1 μ1 := by
  have s1 := X_sz hX hl
  have z1 : szL L l ≤ 64 := hL.2.1 l hl
  have z1' : (L l 0).length + (L l 1).length ≤ 64 := z1
  have hi' : i < (L l 0).length + (L l 1).length := hi
  have l0 : xA σ (5 + l) 0 = nI (L l 0).length := (hX.2.2.2.2.2.1 l 0 hl (by decide)).1
  obtain ⟨σ1, p1, p2, p3⟩ := X_item_st (y := i) hX hl (e := 0) (by decide) hc (by omega)
  rw [sv_drop, if_pos hc, if_pos hc, if_pos hc] at q2
  have e2 : cellAt L l i = (L l 0).getD i c0 := if_pos hc
  rw [e2]
  exact ⟨σ1, X_item_F hl a1 s1 q l0 (nI_ge hc (by omega)) p1, ρ, L, w, reb, _, hR, by rw [p3]; exact hL, hZ.row (r := [lN 0, lN i, (sv ρ 0 ((L l 0).drop i)).1, (sv ρ 0 ((L l 0).drop i)).2]) (by show 4 ≤ 128; decide), p2, q2, by omega, by show Z.2.2.2 ≤ n + 1; omega⟩
theorem item_B {n : Nat} {ρ : RC} {L : LC} {w l i : Nat} {reb : Int32} {Z : ZZ} {σ : XS} {μ1 : MS} (hR : RV ρ) (hL : LOK 4 L (xN σ) w) (hZ : ZW Z) (hX : XR 4 ρ L w reb Z σ) (hw : w ≤ 8000 * n) (hr : Z.2.2.2 ≤ n) (hl : l < 4) (hi : i < szL L l) (a1 : X_isLine (nI l) = some (nI 1)) (q : X_in (nI i).toInt64 (lN 0) (nI (szL L l) - nI 1).toInt64 = some (nI 1)) (q2 : MR 4 ρ L w reb (zr Z [lN (if i < (L l 0).length then 0 else 1), lN (if i < (L l 0).length then i else szL L l - 1 - i), (sufAt ρ L l i).1, (sufAt ρ L l i).2]) μ1) (hc : ¬ i < (L l 0).length) : ∃ σ1, X_item (nI l) (nI i) σ = some (nI (cellAt L l i).2.2, σ1) ∧ RR (n + 1) σ1 μ1 := by
  have s1 := X_sz hX hl
  have z1 : szL L l ≤ 64 := hL.2.1 l hl
  have z1' : (L l 0).length + (L l 1).length ≤ 64 := z1
  have hi' : i < (L l 0).length + (L l 1).length := hi
  have l0 : xA σ (5 + l) 0 = nI (L l 0).length := (hX.2.2.2.2.2.1 l 0 hl (by decide)).1
  have hy : (L l 1).length - 1 - (i - (L l 0).length) = szL L l - 1 - i := by unfold szL; omega
  obtain ⟨σ1, p1, p2, p3⟩ := X_item_st (y := szL L l - 1 - i) hX hl (e := 1) (by decide) (by omega) (by omega)
  rw [sv_drop, if_neg hc, if_neg hc, if_neg hc, hy] at q2
  have e2 : cellAt L l i = (L l 1).getD (szL L l - 1 - i) c0 := by rw [← hy]; exact if_neg hc
  rw [e2]
  have k1 : nI (szL L l) - nI 1 - nI i = nI (szL L l - 1 - i) := by rw [pk_sub (by omega), pk_sub (by omega)]
  exact ⟨σ1, X_item_B hl a1 s1 q l0 (nI_le (by omega) (by omega)) k1 p1, ρ, L, w, reb, _, hR, by rw [p3]; exact hL, hZ.row (r := [lN 1, lN (szL L l - 1 - i), (sv ρ 1 ((L l 1).drop (szL L l - 1 - i))).1, (sv ρ 1 ((L l 1).drop (szL L l - 1 - i))).2]) (by show 4 ≤ 128; decide), p2, q2, by omega, by show Z.2.2.2 ≤ n + 1; omega⟩
theorem E_item_ok (n : Nat) : E_item (RR n) (RR (n + 1)) := by
  intro σ μ x1 x2 h
  have hst := h
  have h1 := h.stay (nI 1)
  obtain ⟨ρ, L, w, reb, Z, hR, hL, hZ, hX, hM, hw, hr⟩ := h
  have f1 : M_flag (nI 1) = some (nI 1) := rfl
  have t1 : gI (sI μ 0 (nI 1)) 0 = nI 1 := rfl
  have hthr : ∀ z : Int32, M_item_17 z x2 μ = some (nI 0, sI μ 0 (nI 1)) := by
    intro z
    unfold M_item_17 M_item_22
    rw [f1, Option.bind_some, if_pos t1]
  rcases isL x1 with ⟨a1, b1⟩ | ⟨l, hl, rfl, a1, b1⟩
  · exact ⟨nI 0, sI μ 0 (nI 1), by unfold M_item; simp only [b1, hthr, obs, n10, n00, n20, if_false, if_true, and_self, Nat.reduceAdd, Nat.reduceLeDiff], .inr ⟨σ, by unfold X_itemT; simp only [a1, obs, n10, n00, n20, if_false, if_true, and_self, Nat.reduceAdd, Nat.reduceLeDiff], t1, h1⟩⟩
  have cl : (nI l).toNatClampNeg = l := nI_clamp (by omega)
  have dl : ¬ (nI l < 0 ∨ 4 ≤ l) := by rw [zN_lt0 (by omega), false_or]; omega
  have s1 := X_sz hX hl
  have s2 := M_size_ok hM (by decide) hl
  have z1 : szL L l ≤ 64 := hL.2.1 l hl
  rcases at_cases x2 (szL L l) (by omega) with q | ⟨i, hi, rfl, q⟩
  · exact ⟨nI 0, sI μ 0 (nI 1), by unfold M_item M_isAt; simp only [b1, s2, M_in_eq, q, hthr, true_or, obs, n10, n00, n20, if_false, if_true, and_self, Nat.reduceAdd, Nat.reduceLeDiff], .inr ⟨σ, by unfold X_itemT; simp only [a1, cl, dl, s1, q, obs, n10, n00, n20, if_false, if_true, and_self, Nat.reduceAdd, Nat.reduceLeDiff], t1, h1⟩⟩
  · obtain ⟨μ1, q1, q2, q3⟩ := M_item_st hM hL (by decide) hl hi
    have h11 : (nI 1 = 1) = True := eq_true rfl
    have hm : M_item (nI l) (nI i) μ = some (nI (cellAt L l i).2.2, μ1) := by unfold M_item M_isAt; simp only [b1, s2, M_in_eq, q, q1, h11, or_true, obs, n10, n00, n20, if_false, if_true, and_self, Nat.reduceAdd, Nat.reduceLeDiff]
    refine ⟨nI (cellAt L l i).2.2, μ1, hm, .inl ?_⟩
    by_cases hc : i < (L l 0).length
    · obtain ⟨σ1, p1, p2⟩ := item_F hR hL hZ hX hw hr hl hi a1 q q2 hc
      exact ⟨σ1, p1, q3, p2⟩
    · obtain ⟨σ1, p1, p2⟩ := item_B hR hL hZ hX hw hr hl hi a1 q q2 hc
      exact ⟨σ1, p1, q3, p2⟩
