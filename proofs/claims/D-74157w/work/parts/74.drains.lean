set_option maxRecDepth 100000
/-! costs of taking: drains, would -/
/-- what a take costs, both sizes afterwards -/
def cst (e a b : Nat) : Nat × Nat × Nat := if e = 0 then (if a = 0 then (b, (b + 1) / 2 - 1, b - (b + 1) / 2) else (0, a - 1, b)) else (if b = 0 then (a, a - (a + 1) / 2, (a + 1) / 2 - 1) else (0, a, b - 1))
theorem cst_sum {e a b : Nat} (h : 0 < a + b) : (cst e a b).2.1 + (cst e a b).2.2 + 1 = a + b := by
  unfold cst
  split
  · split
    · show (b + 1) / 2 - 1 + (b - (b + 1) / 2) + 1 = a + b; omega
    · show a - 1 + b + 1 = a + b; omega
  · split
    · show a - (a + 1) / 2 + ((a + 1) / 2 - 1) + 1 = a + b; omega
    · show a + (b - 1) + 1 = a + b; omega
theorem cst_le (e a b : Nat) : (cst e a b).1 ≤ a + b := by
  unfold cst
  split
  · split
    · show b ≤ a + b; omega
    · exact Nat.zero_le _
  · split
    · show a ≤ a + b; omega
    · exact Nat.zero_le _
theorem M_costs_ok {e a b : Nat} (he : e < 2) (h0 : 0 < a + b) (h64 : a + b ≤ 64) {μ : MS} (g1 : gI μ 11 = nI a) (g2 : gI μ 12 = nI b) : ∃ μ', M_costs (nI e) μ = some (nI (cst e a b).1, μ') ∧ MU μ μ' ∧ gI μ' 11 = nI (cst e a b).2.1 ∧ gI μ' 12 = nI (cst e a b).2.2 := by
  have f0 : M_flag (nI 0) = some (nI 0) := rfl
  have f1 : M_flag (nI 1) = some (nI 1) := rfl
  have hq : ∀ (ν : MS) (x y : Int32), MU ν (sI (sI ν 11 x) 12 y) := fun ν x y => (MU.sI ν (by decide) x).trans (MU.sI _ (by decide) y)
  have h66 : ∀ (ν : MS) (c : Int32), M_costs_66 (nI e) c ν = some (c, if e = 0 then sI (sI ν 11 (gI ν 11 - nI 1)) 12 (gI ν 12 - nI 0) else sI (sI ν 11 (gI ν 11 - nI 0)) 12 (gI ν 12 - nI 1)) := by
    intro ν c
    unfold M_costs_66 M_costs_80 M_costs_102
    rw [f0, f1]
    rcases (show e = 0 ∨ e = 1 by omega) with rfl | rfl
    · rw [if_pos (show nI 0 = 0 from rfl), Option.bind_some, if_neg (show ¬ nI 0 = nI 1 by decide), Option.bind_some, if_pos rfl]; rfl
    · rw [if_neg (show ¬ nI 1 = 0 by decide), Option.bind_some, if_pos rfl, Option.bind_some, if_neg (by decide)]; rfl
  unfold M_costs M_costs_27 cst
  rw [g1, g2, nI_add]
  rcases (show e = 0 ∨ e = 1 by omega) with rfl | rfl
  · rw [if_pos (show nI 0 = 0 from rfl), if_pos rfl]
    by_cases ha : a = 0
    · subst ha
      rw [if_pos (show nI 0 = 0 from rfl), if_neg (show ¬ nI 2 = 0 by decide), if_pos (show nI 0 = 0 from rfl), if_pos rfl, Nat.zero_add, nI_add, pk_div (by omega) (by decide) (by decide)]
      unfold M_costs_51
      rw [h66, if_pos rfl]
      refine ⟨_, rfl, (hq μ _ _).trans (hq _ _ _), ?_, ?_⟩
      · show nI ((b + 1) / 2) - nI 1 = nI ((b + 1) / 2 - 1)
        rw [pk_sub (by omega)]
      · show nI b - nI ((b + 1) / 2) - nI 0 = nI (b - (b + 1) / 2)
        rw [pk_sub (by omega), pk_sub (by omega)]; rfl
    · rw [if_neg (nI_ne0 (by omega) (by omega)), if_neg ha, h66, if_pos rfl]
      refine ⟨_, rfl, hq μ _ _, ?_, ?_⟩
      · show gI μ 11 - nI 1 = nI (a - 1)
        rw [g1, pk_sub (by omega)]
      · show gI μ 12 - nI 0 = nI b
        rw [g2, pk_sub (by omega)]; rfl
  · rw [if_neg (show ¬ nI 1 = 0 by decide), if_neg (show ¬ (1 : Nat) = 0 by decide)]
    by_cases hb : b = 0
    · subst hb
      rw [if_pos (show nI 0 = 0 from rfl), if_neg (show ¬ nI 2 = 0 by decide), if_neg (show ¬ nI 1 = 0 by decide), if_pos rfl, Nat.add_zero, nI_add, pk_div (by omega) (by decide) (by decide), pk_sub (by omega)]
      unfold M_costs_51
      rw [h66, if_neg (by decide)]
      refine ⟨_, rfl, (hq μ _ _).trans (hq _ _ _), ?_, ?_⟩
      · show nI (a - (a + 1) / 2) - nI 0 = nI (a - (a + 1) / 2)
        rw [pk_sub (by omega)]; rfl
      · show nI a - nI (a - (a + 1) / 2) - nI 1 = nI ((a + 1) / 2 - 1)
        rw [pk_sub (by omega), pk_sub (by omega)]
        congr 1; omega
    · rw [if_neg (nI_ne0 (by omega) (by omega)), if_neg hb, h66, if_neg (by decide)]
      refine ⟨_, rfl, hq μ _ _, ?_, ?_⟩
      · show gI μ 11 - nI 0 = nI a
        rw [g1, pk_sub (by omega)]; rfl
      · show gI μ 12 - nI 1 = nI (b - 1)
        rw [g2, pk_sub (by omega)]
theorem M_begins_ok {ρ : RC} {L : LC} {l : Nat} {μ : MS} (hl : l < 5) (hF : MLn ρ L l μ) : ∃ μ', M_begins (nI l) μ = some μ' ∧ MU μ μ' ∧ gI μ' 11 = nI (L l 0).length ∧ gI μ' 12 = nI (L l 1).length := by
  have a0 := (hF 0 (by decide)).1
  have a1 := (hF 1 (by decide)).1
  have a0 : gA μ 5 (2 * l) = nI (L l 0).length := a0
  have c0 : (nI (2 * l)).toNatClampNeg = 2 * l := nI_clamp (by omega)
  have c1 : (nI (2 * l + 1)).toNatClampNeg = 2 * l + 1 := nI_clamp (by omega)
  have d0 : ¬ (nI (2 * l) < 0 ∨ 10 ≤ 2 * l) := nI_dn (by omega) (by decide)
  have d1 : ¬ (nI (2 * l + 1) < 0 ∨ 10 ≤ 2 * l + 1) := nI_dn (by omega) (by decide)
  refine ⟨sI (sI μ 11 (nI (L l 0).length)) 12 (nI (L l 1).length), ?_, (MU.sI μ (by decide) _).trans (MU.sI _ (by decide) _), rfl, rfl⟩
  unfold M_begins
  rw [pk_mul, nI_add, c0, c1, if_neg d0, if_neg d1, a0, gA_sI, a1]
theorem drain_loop {e : Nat} (he : e < 2) : ∀ (s its bh f g : Nat) (c : Int32) (σ : XS) (μ : MS), its + bh = s → s ≤ 64 → s < f → s < g → gI μ 11 = nI (if e = 0 then its else bh) → gI μ 12 = nI (if e = 0 then bh else its) → ∃ (r : Int32) (μ' : MS), X_drainedBy_18 f (nI its) (nI bh) c σ = some (r, σ) ∧ M_drainsBy_7 g (nI e) c μ = some (r, μ') ∧ MU μ μ' := by
  intro s
  induction s with
  | zero =>
    intro its bh f g c σ μ hs h64 hf hg h1 h2
    obtain ⟨f, rfl⟩ : ∃ z, f = z + 1 := ⟨f - 1, by omega⟩
    obtain ⟨g, rfl⟩ : ∃ z, g = z + 1 := ⟨g - 1, by omega⟩
    have e1 : its = 0 := by omega
    have e2 : bh = 0 := by omega
    subst e1; subst e2
    refine ⟨c, μ, if_pos (by decide), ?_, MU.refl μ⟩
    show (if gI μ 11 + gI μ 12 ≤ 0 then some (c, μ) else _) = _
    rw [h1, h2, nI_add, if_pos]
    split <;> decide
  | succ s ih =>
    intro its bh f g c σ μ hs h64 hf hg h1 h2
    obtain ⟨f, rfl⟩ : ∃ z, f = z + 1 := ⟨f - 1, by omega⟩
    obtain ⟨g, rfl⟩ : ∃ z, g = z + 1 := ⟨g - 1, by omega⟩
    have hab : (if e = 0 then its else bh) + (if e = 0 then bh else its) = s + 1 := by split <;> omega
    obtain ⟨μ1, a1, a2, a3, a4⟩ := M_costs_ok he (by omega) (by omega) h1 h2
    have hmd : M_drainsBy_7 (g + 1) (nI e) c μ = M_drainsBy_7 g (nI e) (c + nI (cst e (if e = 0 then its else bh) (if e = 0 then bh else its)).1) μ1 := by
      show (if gI μ 11 + gI μ 12 ≤ 0 then _ else ((M_costs (nI e) μ).bind fun q2 => M_drainsBy_7 g (nI e) (c + q2.1) q2.2)) = _
      rw [h1, h2, nI_add, if_neg (nI_nle (by omega) (by omega)), a1, Option.bind_some]
    have hxd : X_drainedBy_18 (f + 1) (nI its) (nI bh) c σ = if its = 0 then X_drainedBy_18 f (nI ((bh + 1) / 2 - 1)) (nI (bh - (bh + 1) / 2)) (c + nI bh) σ else X_drainedBy_18 f (nI (its - 1)) (nI bh) c σ := by
      show (if nI its + nI bh ≤ 0 then _ else (if nI its = 0 then (if (nI 2) = 0 then none else X_drainedBy_18 f ((nI bh + (nI 1)) / (nI 2) + (-1 : Int32)) (nI bh - ((nI bh + (nI 1)) / (nI 2))) (c + nI bh) σ) else X_drainedBy_18 f (nI its + (-1 : Int32)) (nI bh) c σ)) = _
      rw [nI_add, if_neg (nI_nle (by omega) (by omega)), nI_add, pk_div (by omega) (by decide) (by decide), pk_sub (by omega)]
      by_cases hz : its = 0
      · rw [if_pos hz, if_pos (by rw [hz]; rfl), if_neg (by decide), m1_e, pk_sub (by omega)]
      · rw [if_neg hz, if_neg (nI_ne0 (by omega) (by omega)), m1_e, pk_sub (by omega)]
    rw [hxd, hmd]
    by_cases hz : its = 0
    · rw [if_pos hz]
      have hc : cst e (if e = 0 then its else bh) (if e = 0 then bh else its) = (bh, if e = 0 then (bh + 1) / 2 - 1 else bh - (bh + 1) / 2, if e = 0 then bh - (bh + 1) / 2 else (bh + 1) / 2 - 1) := by
        unfold cst
        rcases (show e = 0 ∨ e = 1 by omega) with rfl | rfl
        · rw [if_pos rfl, if_pos rfl, if_pos hz, if_pos rfl, if_pos rfl]
          simp
        · simp only [show ((1 : Nat) = 0) = False from eq_false (by decide), if_false]
          rw [if_pos hz]
      rw [hc] at a3 a4 ⊢
      obtain ⟨r, μ', q1, q2, q3⟩ := ih ((bh + 1) / 2 - 1) (bh - (bh + 1) / 2) f g (c + nI bh) σ μ1 (by omega) (by omega) (by omega) (by omega) a3 a4
      exact ⟨r, μ', q1, q2, a2.trans q3⟩
    · rw [if_neg hz]
      have hc : cst e (if e = 0 then its else bh) (if e = 0 then bh else its) = (0, if e = 0 then its - 1 else bh, if e = 0 then bh else its - 1) := by
        unfold cst
        rcases (show e = 0 ∨ e = 1 by omega) with rfl | rfl
        · rw [if_pos rfl, if_pos rfl, if_neg hz, if_pos rfl, if_pos rfl]
          simp
        · simp only [show ((1 : Nat) = 0) = False from eq_false (by decide), if_false]
          rw [if_neg hz]
      rw [hc] at a3 a4 ⊢
      obtain ⟨r, μ', q1, q2, q3⟩ := ih (its - 1) bh f g (c + nI 0) σ μ1 (by omega) (by omega) (by omega) (by omega) a3 a4
      refine ⟨r, μ', ?_, q2, a2.trans q3⟩
      rw [show c + nI 0 = c from Int32.add_zero c] at q1
      exact q1
theorem drain_ok {ρ : RC} {L : LC} {w l e : Nat} {reb : Int32} {Z : ZZ} {σ : XS} {μ : MS} (hl : l < 4) (he : e < 2) (hs : szL L l ≤ 64) (hX : XR 4 ρ L w reb Z σ) (hM : MR 4 ρ L w reb Z μ) : ∃ (r : Int32) (μ' : MS), X_drainedBy l (nI e) σ = some (r, σ) ∧ M_drainsBy (nI l) (nI e) μ = some (r, μ') ∧ MU μ μ' := by
  obtain ⟨μ1, b1, b2, b3, b4⟩ := M_begins_ok (show l < 5 by omega) (hM.ln hl)
  have hlen := (hX.2.2.2.2.2.1 l e hl he).1
  have hs' : (L l 0).length + (L l 1).length ≤ 64 := hs
  have hle : (L l e).length ≤ szL L l := by unfold szL; rcases (show e = 0 ∨ e = 1 by omega) with rfl | rfl <;> omega
  have hbh : szL L l - (L l e).length = (L l (1 - e)).length := by unfold szL; rcases (show e = 0 ∨ e = 1 by omega) with rfl | rfl <;> (simp only [Nat.sub_zero, Nat.sub_self]; omega)
  obtain ⟨r, μ', q1, q2, q3⟩ := drain_loop he (szL L l) (L l e).length (szL L l - (L l e).length) FU FU (nI 0) σ μ1 (by omega) hs (by unfold FU; omega) (by unfold FU; omega) (by rw [b3, hbh]; rcases (show e = 0 ∨ e = 1 by omega) with rfl | rfl <;> rfl) (by rw [b4, hbh]; rcases (show e = 0 ∨ e = 1 by omega) with rfl | rfl <;> rfl)
  refine ⟨r, μ', ?_, ?_, b2.trans q3⟩
  · unfold X_drainedBy
    rw [if_neg (e2i he), e2 he, X_sz hX hl, Option.bind_some, hlen, pk_sub hle]
    exact q1
  · unfold M_drainsBy
    rw [b1, Option.bind_some]; exact q2
theorem E_drains_ok (n : Nat) : E_drains (RR n) (RR (n + 1)) := by
  intro σ μ x1 h
  have h0 := h.stay (nI 0)
  obtain ⟨ρ, L, w, reb, Z, hR, hL, hZ, hX, hM, hw, hr⟩ := h
  have hM0 := hM.q (MU.sI μ (k := 0) (.inl rfl) (nI 0))
  rcases isL x1 with ⟨a1, b1⟩ | ⟨l, hl, rfl, a1, b1⟩
  · exact ⟨-1, σ, _, by unfold X_drains; simp only [a1, obs, n10, n00, n20, if_false, if_true, and_self, Nat.reduceAdd, Nat.reduceLeDiff], by unfold M_drains; simp only [b1, obs, n10, n00, n20, if_false, if_true, and_self, Nat.reduceAdd, Nat.reduceLeDiff], h0⟩
  have cl : (nI l).toNatClampNeg = l := nI_clamp (by omega)
  have dl : ¬ (nI l < 0 ∨ 4 ≤ l) := by rw [zN_lt0 (by omega), false_or]; omega
  have hs64 : szL L l ≤ 64 := hL.2.1 l hl
  obtain ⟨r0, μ1, p1, p2, p3⟩ := drain_ok hl (e := 0) (by decide) hs64 hX hM0
  obtain ⟨r1, μ2, q1, q2, q3⟩ := drain_ok hl (e := 1) (by decide) hs64 hX (hM0.q p3)
  have hM2 := (hM0.q p3).q q3
  have key : ∀ y : Nat, y < 2 → ∃ (σ' : XS) (μ' : MS), X_drains_55 r0 r1 (lN y) (zI σ 5 (nI 0)) = some (if r1 < r0 then r1 else r0, σ') ∧ M_drains_44 r0 r1 (nI y) (sI μ2 1 (nI 0)) = some (if r1 < r0 then r1 else r0, μ') ∧ XR 4 ρ L w reb (zr Z [lN y, r0.toInt64, r1.toInt64]) σ' ∧ MR 4 ρ L w reb (zr Z [lN y, r0.toInt64, r1.toInt64]) μ' ∧ xN σ' = xN σ := by
    intro y hy
    obtain ⟨t1, t2⟩ := X_tells_ok (X_reset hX) (r := []) (by decide) (lN y)
    obtain ⟨t3, t4⟩ := X_tells_ok t2 (by show 1 < 128; decide) r0.toInt64
    obtain ⟨t5, t6⟩ := X_tells_ok t4 (by show 2 < 128; decide) r1.toInt64
    obtain ⟨e1, e2⟩ := M_enters_ok (M_reset hM2) (r := []) (by decide) (lN y)
    obtain ⟨e3, e4⟩ := M_enters_ok e2 (by show 1 < 160; decide) r0.toInt64
    obtain ⟨e5, e6⟩ := M_enters_ok e4 (by show 2 < 160; decide) r1.toInt64
    have fy : M_flag (nI y) = some (nI y) := by rcases (show y = 0 ∨ y = 1 by omega) with rfl | rfl <;> rfl
    refine ⟨_, _, ?_, ?_, t6, e6, rfl⟩
    · unfold X_drains_55
      rw [t1, obs, t3, obs, t5, obs]
    · unfold M_drains_44
      rw [fy, obs, nI_l (by omega), e1, obs, e3, obs, e5, obs]
  by_cases hc : r0 ≤ r1
  · obtain ⟨σ', μ', k1, k2, k3, k4, k5⟩ := key 0 (by decide)
    have hx : X_drains (nI l) σ = some (if r1 < r0 then r1 else r0, σ') := by
      unfold X_drains
      rw [a1, obs, if_neg (show ¬ nI 1 = 0 by decide), if_neg (by rw [cl]; exact dl), cl, p1, obs, q1, obs, if_pos hc]
      exact k1
    have hm : M_drains (nI l) μ = some (if r1 < r0 then r1 else r0, μ') := by
      unfold M_drains
      rw [b1, obs, if_neg (show ¬ nI 1 = 0 by decide), p2, obs, q2, obs, if_pos hc]
      exact k2
    exact ⟨_, σ', μ', hx, hm, RR.fin hR hL hZ hw hr (by show 3 ≤ 128; decide) k3 k4 k5⟩
  · obtain ⟨σ', μ', k1, k2, k3, k4, k5⟩ := key 1 (by decide)
    have hx : X_drains (nI l) σ = some (if r1 < r0 then r1 else r0, σ') := by
      unfold X_drains
      rw [a1, obs, if_neg (show ¬ nI 1 = 0 by decide), if_neg (by rw [cl]; exact dl), cl, p1, obs, q1, obs, if_neg hc]
      exact k1
    have hm : M_drains (nI l) μ = some (if r1 < r0 then r1 else r0, μ') := by
      unfold M_drains
      rw [b1, obs, if_neg (show ¬ nI 1 = 0 by decide), p2, obs, q2, obs, if_neg hc]
      exact k2
    exact ⟨_, σ', μ', hx, hm, RR.fin hR hL hZ hw hr (by show 3 ≤ 128; decide) k3 k4 k5⟩
theorem X_would_run {ρ : RC} {L : LC} {w l e : Nat} {reb : Int32} {Z : ZZ} {σ : XS} (hl : l < 4) (he : e < 2) (hs : szL L l ≤ 64) (h0 : 0 < szL L l) (hX : XR 4 ρ L w reb Z σ) (a1 : X_isLine (nI l) = some (nI 1)) (a2 : X_isEnd (nI e) = some (nI 1)) : ∃ σ', X_would (nI l) (nI e) σ = some (nI (cst e (L l 0).length (L l 1).length).1, σ') ∧ XR 4 ρ L w reb (zr Z [lN (cst e (L l 0).length (L l 1).length).2.1, lN (cst e (L l 0).length (L l 1).length).2.2]) σ' ∧ xN σ' = xN σ := by
  have cl : (nI l).toNatClampNeg = l := nI_clamp (by omega)
  have dl : ¬ (nI l < 0 ∨ 4 ≤ l) := by rw [zN_lt0 (by omega), false_or]; omega
  have hlen := (hX.2.2.2.2.2.1 l e hl he).1
  have hs' : (L l 0).length + (L l 1).length ≤ 64 := hs
  have h0' : 0 < (L l 0).length + (L l 1).length := h0
  have key : ∀ c x y : Nat, x ≤ 64 → y ≤ 64 → ∃ σ', (X_tells (lN x) (zI σ 5 (nI 0))).bind (fun q5 => (X_tells (lN y) q5).bind fun q6 => some (nI c, q6)) = some (nI c, σ') ∧ XR 4 ρ L w reb (zr Z [lN x, lN y]) σ' ∧ xN σ' = xN σ := by
    intro c x y hx hy
    obtain ⟨t1, t2⟩ := X_tells_ok (X_reset hX) (r := []) (by decide) (lN x)
    obtain ⟨t3, t4⟩ := X_tells_ok t2 (by show 1 < 128; decide) (lN y)
    exact ⟨_, by rw [t1, obs, t3, obs], t4, rfl⟩
  have hsz : szL L l = (L l 0).length + (L l 1).length := rfl
  have hst : X_would (nI l) (nI e) σ = if (L l e).length = 0 then X_would_81 (nI e) (nI (szL L l)) (nI (szL L l)) (nI ((szL L l + 1) / 2)) σ else X_would_81 (nI e) (nI (szL L l)) (nI 0) (nI (L l e).length) σ := by
    have hle : (L l e).length ≤ 64 := by rcases (show e = 0 ∨ e = 1 by omega) with rfl | rfl <;> omega
    unfold X_would
    rw [a1, obs, if_neg (show ¬ nI 1 = 0 by decide), a2, obs, if_neg (show ¬ nI 1 = 0 by decide), if_neg (by rw [cl]; exact dl), cl, X_sz hX hl, obs, if_neg (nI_ne0 h0 (by omega)), if_neg (e2i he), e2 he, hlen]
    unfold X_would_59
    by_cases hz : (L l e).length = 0
    · rw [if_pos hz, if_pos (by rw [hz]; rfl), if_neg (nI_nle h0 (by omega)), if_neg (show ¬ nI 2 = 0 by decide), nI_add, pk_div (by omega) (by decide) (by decide)]
    · rw [if_neg hz, if_neg (nI_ne0 (by omega) (by omega)), if_pos (show nI 0 ≤ 0 by decide), if_neg (e2i he), e2 he, hlen]
  rw [hst]
  unfold X_would_81 X_would_107 X_would_129
  rcases (show e = 0 ∨ e = 1 by omega) with rfl | rfl
  · rw [if_pos (show nI 0 = 0 from rfl), if_pos (show nI 0 = 0 from rfl)]
    by_cases hz : (L l 0).length = 0
    · rw [if_pos hz, pk_sub (by omega), pk_sub (by omega), nI_l (by omega), nI_l (by omega)]
      have hc : cst 0 (L l 0).length (L l 1).length = (szL L l, (szL L l + 1) / 2 - 1, szL L l - (szL L l + 1) / 2) := by unfold cst; rw [if_pos rfl, if_pos hz, show szL L l = (L l 1).length by omega]
      rw [hc]
      exact key _ _ _ (by omega) (by omega)
    · rw [if_neg hz, pk_sub (by omega), pk_sub (by omega), nI_l (by omega), nI_l (by omega)]
      have hc : cst 0 (L l 0).length (L l 1).length = (0, (L l 0).length - 1, szL L l - (L l 0).length) := by unfold cst; rw [if_pos rfl, if_neg hz, show szL L l - (L l 0).length = (L l 1).length by omega]
      rw [hc]
      exact key _ _ _ (by omega) (by omega)
  · rw [if_neg (show ¬ nI 1 = 0 by decide), if_neg (show ¬ nI 1 = 0 by decide)]
    by_cases hz : (L l 1).length = 0
    · rw [if_pos hz, pk_sub (by omega), pk_sub (by omega), nI_l (by omega), nI_l (by omega)]
      have hc : cst 1 (L l 0).length (L l 1).length = (szL L l, szL L l - (szL L l + 1) / 2, (szL L l + 1) / 2 - 1) := by unfold cst; rw [if_neg (by decide), if_pos hz, show szL L l = (L l 0).length by omega]
      rw [hc]
      exact key _ _ _ (by omega) (by omega)
    · rw [if_neg hz, pk_sub (by omega), pk_sub (by omega), nI_l (by omega), nI_l (by omega)]
      have hc : cst 1 (L l 0).length (L l 1).length = (0, szL L l - (L l 1).length, (L l 1).length - 1) := by unfold cst; rw [if_neg (by decide), if_neg hz, show szL L l - (L l 1).length = (L l 0).length by omega]
      rw [hc]
      exact key _ _ _ (by omega) (by omega)
theorem E_would_ok (n : Nat) : E_would (RR n) (RR (n + 1)) := by
  intro σ μ x1 x2 h
  have h0 := h.stay (nI 0)
  obtain ⟨ρ, L, w, reb, Z, hR, hL, hZ, hX, hM, hw, hr⟩ := h
  have hM0 := hM.q (MU.sI μ (k := 0) (.inl rfl) (nI 0))
  rcases isL x1 with ⟨a1, b1⟩ | ⟨l, hl, rfl, a1, b1⟩
  · exact ⟨-1, σ, _, by unfold X_would; simp only [a1, obs, n10, n00, n20, if_false, if_true, and_self, Nat.reduceAdd, Nat.reduceLeDiff], by unfold M_would; simp only [b1, obs, n10, n00, n20, if_false, if_true, and_self, Nat.reduceAdd, Nat.reduceLeDiff], h0⟩
  rcases isE x2 with ⟨a2, b2⟩ | ⟨e, he, rfl, a2, b2⟩
  · exact ⟨-1, σ, _, by unfold X_would; simp only [a1, a2, obs, n10, n00, n20, if_false, if_true, and_self, Nat.reduceAdd, Nat.reduceLeDiff], by unfold M_would; simp only [b1, b2, obs, n10, n00, n20, if_false, if_true, and_self, Nat.reduceAdd, Nat.reduceLeDiff], h0⟩
  have cl : (nI l).toNatClampNeg = l := nI_clamp (by omega)
  have dl : ¬ (nI l < 0 ∨ 4 ≤ l) := by rw [zN_lt0 (by omega), false_or]; omega
  have s1 := X_sz hX hl
  have s2 := M_size_ok hM0 (by decide) hl
  have hs64 : szL L l ≤ 64 := hL.2.1 l hl
  by_cases hz : szL L l = 0
  · have hq : (nI (szL L l) = 0) = True := eq_true (by rw [hz]; rfl)
    exact ⟨-2, σ, _, by unfold X_would; simp only [a1, a2, cl, dl, s1, hq, obs, n10, n00, n20, if_false, if_true, and_self, Nat.reduceAdd, Nat.reduceLeDiff], by unfold M_would; simp only [b1, b2, s2, hq, obs, n10, n00, n20, if_false, if_true, and_self, Nat.reduceAdd, Nat.reduceLeDiff], h0⟩
  · obtain ⟨σ', p1, p2, p3⟩ := X_would_run hl he hs64 (by omega) hX a1 a2
    have hs' : (L l 0).length + (L l 1).length ≤ 64 := hs64
    have hz' : 0 < (L l 0).length + (L l 1).length := by unfold szL at hz; omega
    obtain ⟨μ1, m1, m2, m3, m4⟩ := M_begins_ok (show l < 5 by omega) (hM0.ln hl)
    obtain ⟨μ2, c1, c2, c3, c4⟩ := M_costs_ok he hz' hs' m3 m4
    have hcs := cst_sum (e := e) hz'
    have hM2 := (hM0.q m2).q c2
    obtain ⟨e1, e2⟩ := M_enters_ok (M_reset hM2) (r := []) (by decide) (lN (cst e (L l 0).length (L l 1).length).2.1)
    obtain ⟨e3, e4⟩ := M_enters_ok e2 (by show 1 < 160; decide) (lN (cst e (L l 0).length (L l 1).length).2.2)
    obtain ⟨μ', hm, hm2⟩ : ∃ μ', M_would (nI l) (nI e) μ = some (nI (cst e (L l 0).length (L l 1).length).1, μ') ∧ MR 4 ρ L w reb (zr Z [lN (cst e (L l 0).length (L l 1).length).2.1, lN (cst e (L l 0).length (L l 1).length).2.2]) μ' := by
      refine ⟨_, ?_, e4⟩
      unfold M_would
      rw [b1, obs, if_neg (show ¬ nI 1 = 0 by decide), b2, obs, if_neg (show ¬ nI 1 = 0 by decide), s2, obs, if_neg (nI_ne0 (by omega) (by omega)), m1, obs, c1, obs, show gI (sI μ2 1 (nI 0)) 11 = gI μ2 11 from rfl, c3, nI_l (by omega), e1, obs, show gI (tlM (sI μ2 1 (nI 0)) [] (lN (cst e (L l 0).length (L l 1).length).2.1)) 12 = gI μ2 12 from rfl, c4, nI_l (by omega), e3, obs]
    exact ⟨_, σ', μ', p1, hm, RR.fin hR hL hZ hw hr (by show 2 ≤ 128; decide) p2 hm2 p3⟩
