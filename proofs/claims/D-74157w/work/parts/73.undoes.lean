set_option maxRecDepth 100000
/-! undoes -/
theorem isLike_ok {σ : XS} {i j : Nat} (hi : i < xN σ) (hj : j < xN σ) {x y : VV} (hx : pr σ i = x) (hy : pr σ j = y) : Xp_isLike i j σ = some (if lg_cmp x.1 y.1 = 0 then (if lg_cmp x.2 y.2 = 0 then nI 1 else nI 0) else nI 0, σ) := by
  have x1 : rP (xC σ i) = x.1 := by rw [← hx]; rfl
  have x2 : rQ (xC σ i) = x.2 := by rw [← hx]; rfl
  have y1 : rP (xC σ j) = y.1 := by rw [← hy]; rfl
  have y2 : rQ (xC σ j) = y.2 := by rw [← hy]; rfl
  unfold Xp_isLike
  rw [if_pos hi, if_pos hj, x1, y1, if_pos hi, if_pos hj, x2, y2]
  split
  · split <;> rfl
  · rfl
/-- the answer of a comparison -/
def lk (x y : VV) : Prop := lg_cmp x.1 y.1 = 0 ∧ lg_cmp x.2 y.2 = 0
theorem isLike_t {σ : XS} {i j : Nat} (hi : i < xN σ) (hj : j < xN σ) {x y : VV} (hx : pr σ i = x) (hy : pr σ j = y) : (lk x y → Xp_isLike i j σ = some (nI 1, σ)) ∧ (¬ lk x y → Xp_isLike i j σ = some (nI 0, σ)) := by
  rw [isLike_ok hi hj hx hy]
  refine ⟨fun h => by rw [if_pos h.1, if_pos h.2], fun h => ?_⟩
  by_cases c1 : lg_cmp x.1 y.1 = 0
  · rw [if_pos c1, if_neg (fun z => h ⟨c1, z⟩)]
  · rw [if_neg c1]
theorem und_loop {ρ : RC} {L : LC} {w n0 : Nat} {reb : Int32} {Z : ZZ} (hR : RV ρ) {v : Nat} (hv : v ≤ 9999) (hL : LOK 4 L n0 w) (a b : Nat) : ∀ (d u f g : Nat) (σ : XS) (μ : MS), u + d = 10000 → d < f → d < g → XR 4 ρ L w reb Z σ → MR 4 ρ L w reb Z μ → xN σ = n0 + 1 → 3 ≤ n0 → pr σ n0 = emp ρ → pr σ 0 = el ρ v → ∃ (r : Int32) (σ' : XS) (μ' : MS), X_undoes_33 f n0 (nI u) σ a b = some (r, σ') ∧ M_undoes_32 g (nI v) (emp ρ).1 (emp ρ).2 (nI u) μ = some (r, μ') ∧ XR 4 ρ L w reb Z σ' ∧ MR 4 ρ L w reb Z μ' ∧ xN σ' = n0 + 1 := by
  intro d
  induction d with
  | zero =>
    intro u f g σ μ hu hf hg hX hM hn h3 pe p0
    obtain ⟨f, rfl⟩ : ∃ z, f = z + 1 := ⟨f - 1, by omega⟩
    obtain ⟨g, rfl⟩ : ∃ z, g = z + 1 := ⟨g - 1, by omega⟩
    have : u = 10000 := by omega
    subst this
    exact ⟨-2, σ, μ, if_pos (by decide), if_pos (by decide), hX, hM, hn⟩
  | succ d ih =>
    intro u f g σ μ hu hf hg hX hM hn h3 pe p0
    obtain ⟨f, rfl⟩ : ∃ z, f = z + 1 := ⟨f - 1, by omega⟩
    obtain ⟨g, rfl⟩ : ∃ z, g = z + 1 := ⟨g - 1, by omega⟩
    have hu9 : u ≤ 9999 := by omega
    obtain ⟨σ1, m1, m2, m3, m4⟩ := X_make_t hX.2.1 hR hX.n3 (i := 1) (by decide) hu9
    obtain ⟨σ2, j1, j2, j3, j4⟩ := X_join_t (hX.2.1.t m2) hR (m2.n3 hX.n3) (i := 2) (a := 0) (b := 1) (by decide) (by decide) (by decide) ((m4 0 (by decide)).trans p0) m3 (VD_el hR hv) (VD_el hR hu9)
    have t2 := m2.trans j2
    have hX2 := hX.t hL t2
    have hn2 : xN σ2 = n0 + 1 := t2.2.2.2.1.trans hn
    have pe2 : pr σ2 n0 = emp ρ := (j4 n0 (by omega)).trans ((m4 n0 (by omega)).trans pe)
    have p02 : pr σ2 0 = el ρ v := (j4 0 (by decide)).trans ((m4 0 (by decide)).trans p0)
    have p12 : pr σ2 1 = el ρ u := (j4 1 (by decide)).trans m3
    obtain ⟨l1, l0⟩ := isLike_t (show 2 < xN σ2 by omega) (show n0 < xN σ2 by omega) j3 pe2
    obtain ⟨μ1, e1, e2, e3, e4⟩ := M_joinsTwo_ok hM.1 hR hv hu9
    have hM1 := hM.v e2
    obtain ⟨r, σ', μ', q1, q2, q3, q4, q5⟩ := ih (u + 1) f g σ2 μ1 (by omega) (by omega) (by omega) hX2 hM1 hn2 h3 pe2 p02
    have hxd : X_undoes_33 (f + 1) n0 (nI u) σ a b = ((Xp_isLike 2 n0 σ2).bind fun q7 => (if q7.1 = 0 then X_undoes_33 f n0 (nI (u + 1)) q7.2 a b else ((X_join 2 1 0 q7.2).bind fun q8 => (if 2 < xN q8 then ((Xp_isLike 2 n0 q8).bind fun q9 => (if q9.1 = 0 then X_undoes_33 f n0 (nI (u + 1)) q9.2 a b else some (nI u, q9.2))) else none)))) := by
      show (if (nI 10000) ≤ nI u then _ else ((X_make 1 (nI u) σ).bind fun q5 => ((X_join 2 0 1 q5).bind fun q6 => (if 2 < xN q6 then ((Xp_isLike 2 n0 q6).bind fun q7 => (if q7.1 = 0 then X_undoes_33 f n0 (nI u + nI 1) q7.2 a b else ((X_join 2 1 0 q7.2).bind fun q8 => (if 2 < xN q8 then ((Xp_isLike 2 n0 q8).bind fun q9 => (if q9.1 = 0 then X_undoes_33 f n0 (nI u + nI 1) q9.2 a b else some (nI u, q9.2))) else none)))) else none)))) = _
      rw [if_neg (nI_ge (by omega) (by decide)), m1, Option.bind_some, j1, Option.bind_some, if_pos (by omega), nI_add]
    have hmd : M_undoes_32 (g + 1) (nI v) (emp ρ).1 (emp ρ).2 (nI u) μ = (if (lg_cmp (gL μ1 0) (emp ρ).1) = 0 then (if (lg_cmp (gL μ1 1) (emp ρ).2) = 0 then ((M_joinsTwo (nI u) (nI v) μ1).bind fun q4 => (if (lg_cmp (gL q4 0) (emp ρ).1) = 0 then (if (lg_cmp (gL q4 1) (emp ρ).2) = 0 then some (nI u, q4) else M_undoes_32 g (nI v) (emp ρ).1 (emp ρ).2 (nI (u + 1)) q4) else M_undoes_32 g (nI v) (emp ρ).1 (emp ρ).2 (nI (u + 1)) q4)) else M_undoes_32 g (nI v) (emp ρ).1 (emp ρ).2 (nI (u + 1)) μ1) else M_undoes_32 g (nI v) (emp ρ).1 (emp ρ).2 (nI (u + 1)) μ1) := by
      have h9 : (nI 9999 < nI u) = False := eq_false (fun z => absurd ((nI_ltI (by decide) (by omega)).mp z) (by omega))
      simp only [M_undoes_32, M_undoes_71, M_undoes_109, M_undoes_111, M_undoes_108, M_undoes_70, h9, e1, obs, n10, n00, if_true, if_false, nI_add]
    rw [hxd, hmd, e3, e4]
    by_cases c : lk (jn ρ (el ρ v) (el ρ u)) (emp ρ)
    · rw [l1 c, Option.bind_some, if_neg (show ¬ nI 1 = 0 by decide), if_pos c.1, if_pos c.2]
      obtain ⟨σ3, k1, k2, k3, k4⟩ := X_join_t hX2.2.1 hR hX2.n3 (i := 2) (a := 1) (b := 0) (by decide) (by decide) (by decide) p12 p02 (VD_el hR hu9) (VD_el hR hv)
      have hX3 := hX2.t hL k2
      have hn3 : xN σ3 = n0 + 1 := k2.2.2.2.1.trans hn2
      have pe3 : pr σ3 n0 = emp ρ := (k4 n0 (by omega)).trans pe2
      obtain ⟨l3, l4⟩ := isLike_t (show 2 < xN σ3 by omega) (show n0 < xN σ3 by omega) k3 pe3
      obtain ⟨μ2, f1, f2, f3, f4⟩ := M_joinsTwo_ok hM1.1 hR hu9 hv
      have hM2 := hM1.v f2
      rw [k1, Option.bind_some, if_pos (by omega), f1, Option.bind_some, f3, f4]
      by_cases c2 : lk (jn ρ (el ρ u) (el ρ v)) (emp ρ)
      · rw [l3 c2, Option.bind_some, if_neg (show ¬ nI 1 = 0 by decide), if_pos c2.1, if_pos c2.2]
        exact ⟨nI u, σ3, μ2, rfl, rfl, hX3, hM2, hn3⟩
      · rw [l4 c2, Option.bind_some, if_pos (show nI 0 = 0 from rfl)]
        obtain ⟨r, σ', μ', q1, q2, q3, q4, q5⟩ := ih (u + 1) f g σ3 μ2 (by omega) (by omega) (by omega) hX3 hM2 hn3 h3 pe3 ((k4 0 (by decide)).trans p02)
        refine ⟨r, σ', μ', q1, ?_, q3, q4, q5⟩
        by_cases c3 : lg_cmp (jn ρ (el ρ u) (el ρ v)).1 (emp ρ).1 = 0
        · rw [if_pos c3, if_neg (fun z => c2 ⟨c3, z⟩)]; exact q2
        · rw [if_neg c3]; exact q2
    · rw [l0 c, Option.bind_some, if_pos (show nI 0 = 0 from rfl)]
      refine ⟨r, σ', μ', q1, ?_, q3, q4, q5⟩
      by_cases c3 : lg_cmp (jn ρ (el ρ v) (el ρ u)).1 (emp ρ).1 = 0
      · rw [if_pos c3, if_neg (fun z => c ⟨c3, z⟩)]; exact q2
      · rw [if_neg c3]; exact q2
theorem E_undoes_ok (n : Nat) : E_undoes (RR n) (RR (n + 1)) := by
  intro σ μ x1 h
  have h0 := h.stay (nI 0)
  obtain ⟨ρ, L, w, reb, Z, hR, hL, hZ, hX, hM, hw, hr⟩ := h
  have hM0 := hM.q (MU.sI μ (k := 0) (.inl rfl) (nI 0))
  rcases isI x1 with ⟨a1, b1⟩ | ⟨v, hv, rfl, a1, b1⟩
  · exact ⟨-1, σ, _, by unfold X_undoes; simp only [a1, obs, n10, n00, n20, if_false, if_true, and_self, Nat.reduceAdd, Nat.reduceLeDiff], by unfold M_undoes; simp only [b1, obs, n10, n00, n20, if_false, if_true, and_self, Nat.reduceAdd, Nat.reduceLeDiff], h0⟩
  have hqz : XQ (xN σ) σ (zN σ (false, lN 0, lN 0, nI 0, none, nI 0, nI 0)) := XQ.zN σ (Nat.le_refl _) _ rfl rfl
  have hX1 := hX.q hL hqz
  have hn1 : xN (zN σ (false, lN 0, lN 0, nI 0, none, nI 0, nI 0)) = xN σ + 1 := rfl
  have hem := X_empty_emp (σ := zN σ (false, lN 0, lN 0, nI 0, none, nI 0, nI 0)) hX1.2.1 hR (i := xN σ) (by omega)
  have hq2 := XQ.pq (n0 := xN σ) (zN σ (false, lN 0, lN 0, nI 0, none, nI 0, nI 0)) (i := xN σ) (emp ρ) (.inr (Nat.le_refl _))
  have hX2 := hX1.q hL hq2
  have hn2 : xN (pq (zN σ (false, lN 0, lN 0, nI 0, none, nI 0, nI 0)) (xN σ) (emp ρ)) = xN σ + 1 := rfl
  have pe : pr (pq (zN σ (false, lN 0, lN 0, nI 0, none, nI 0, nI 0)) (xN σ) (emp ρ)) (xN σ) = emp ρ := by rw [pr_pq, if_pos rfl]
  generalize pq (zN σ (false, lN 0, lN 0, nI 0, none, nI 0, nI 0)) (xN σ) (emp ρ) = σ2 at *
  obtain ⟨σ3, m1, m2, m3, m4⟩ := X_make_t hX2.2.1 hR hX2.n3 (i := 0) (by decide) hv
  have h3 := hX.n3
  obtain ⟨μ1, e1, e2, e3, e4⟩ := M_empty_q hM0.1 hR
  obtain ⟨r, σ', μ', q1, q2, q3, q4, q5⟩ := und_loop hR hv hL (0 + 1) (0 + 2) 10000 0 FU FU σ3 μ1 (by decide) (by decide) (by decide) (hX2.t hL m2) (hM0.v e2) (m2.2.2.2.1.trans hn2) h3 ((m4 (xN σ) (by omega)).trans pe) m3
  have hx : X_undoes (nI v) σ = some (r, σ') := by
    unfold X_undoes
    rw [a1, obs, if_neg (show ¬ nI 1 = 0 by decide), if_pos ⟨hX.1, by decide, by decide⟩, hem, obs, m1, obs]
    exact q1
  have hm : M_undoes (nI v) μ = some (r, μ') := by
    unfold M_undoes
    rw [b1, obs, if_neg (show ¬ nI 1 = 0 by decide), e1, obs, e3, e4]
    exact q2
  exact ⟨r, σ', μ', hx, hm, ρ, L, w, reb, Z, hR, hL.up (by omega) (Nat.le_refl _), hZ, q3, q4, by omega, by omega⟩
