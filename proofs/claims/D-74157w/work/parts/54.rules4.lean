set_option maxRecDepth 100000
theorem M_arr18 (a b : Nat) (ha : a < 24) (hb : b < 24) (f : Nat) (μ : MS) (r2 : ∀ k, k < 4 → gA μ 2 k = nI (AR a k)) (r3 : ∀ k, k < 4 → gA μ 3 k = nI (AR b k)) : M_arrangedBy_18 (f + 1 + 1 + 1 + 1 + 1) (nI 0) μ = some (nI (CP a b), w4 μ 4 (AR (CP a b) 0) (AR (CP a b) 1) (AR (CP a b) 2) (AR (CP a b) 3)) := by
  have hst : ∀ (k f : Nat) (ν : MS), k < 4 → gA ν 2 k = nI (AR a k) → (∀ k, k < 4 → gA ν 3 k = nI (AR b k)) → M_arrangedBy_18 (f + 1) (nI k) ν = M_arrangedBy_18 f (nI (k + 1)) (sA ν 4 k (nI (AR (CP a b) k))) := by
    intro k f ν hk q2 q3
    have b1 := AR_lt a ha k hk
    have c3 : (nI k).toNatClampNeg = k := nI_clamp (by omega)
    have c4 : (nI (AR a k)).toNatClampNeg = AR a k := nI_clamp (by omega)
    have d3 : ¬ (nI k < 0 ∨ 4 ≤ k) := by rw [zN_lt0 (by omega), false_or]; omega
    have d4 : ¬ (nI (AR a k) < 0 ∨ 4 ≤ AR a k) := by rw [zN_lt0 (by omega), false_or]; omega
    simp only [M_arrangedBy_18, c3, q2, c4, q3 _ b1, d3, d4, if_neg (nI_ge hk (show 4 < 2 ^ 31 by decide)), if_false, nI_add, CP_AR a ha b hb k hk]
  have hz : ∀ (f : Nat) (ν : MS), M_arrangedBy_18 (f + 1) (nI 4) ν = (M_numberOf ν).bind fun q3 => some (q3.1, q3.2) := fun f ν => by
    simp only [M_arrangedBy_18, if_pos (nI_le (Nat.le_refl 4) (by decide))]
  rw [hst 0 _ μ (by decide) (r2 0 (by decide)) r3]
  rw [hst 1 _ (sA μ 4 0 (nI (AR (CP a b) 0))) (by decide) (r2 1 (by decide)) r3]
  rw [hst 2 _ (sA (sA μ 4 0 (nI (AR (CP a b) 0))) 4 1 (nI (AR (CP a b) 1))) (by decide) (r2 2 (by decide)) r3]
  rw [hst 3 _ (sA (sA (sA μ 4 0 (nI (AR (CP a b) 0))) 4 1 (nI (AR (CP a b) 1))) 4 2 (nI (AR (CP a b) 2))) (by decide) (r2 3 (by decide)) r3]
  rw [hz]
  rw [show (sA (sA (sA (sA μ 4 0 (nI (AR (CP a b) 0))) 4 1 (nI (AR (CP a b) 1))) 4 2 (nI (AR (CP a b) 2))) 4 3 (nI (AR (CP a b) 3))) = w4 μ 4 (AR (CP a b) 0) (AR (CP a b) 1) (AR (CP a b) 2) (AR (CP a b) 3) from rfl, M_numberOf_eq μ _ (CP_lt a ha b hb)]
  rfl
theorem w4_r (μ : MS) (k a b c d : Nat) (P : Nat → Nat) (h0 : P 0 = a) (h1 : P 1 = b) (h2 : P 2 = c) (h3 : P 3 = d) : ∀ j, j < 4 → gA (w4 μ k a b c d) k j = nI (P j) := by
  intro j hj
  unfold w4
  rcases (show j = 0 ∨ j = 1 ∨ j = 2 ∨ j = 3 by omega) with rfl | rfl | rfl | rfl <;> simp only [gA_sA, if_true] <;> simp [h0, h1, h2, h3]
theorem M_arr_eq (a b : Nat) (ha : a < 24) (hb : b < 24) (μ : MS) : M_arrangedBy (nI a) (nI b) μ = some (nI (CP a b), w4 (w4 (w4 μ 2 (AR a 0) (AR a 1) (AR a 2) (AR a 3)) 3 (AR b 0) (AR b 1) (AR b 2) (AR b 3)) 4 (AR (CP a b) 0) (AR (CP a b) 1) (AR (CP a b) 2) (AR (CP a b) 3)) := by
  unfold M_arrangedBy
  rw [M_lays_p_eq μ a ha, Option.bind_some, M_lays_o_eq _ b hb, Option.bind_some, show FU = 19995 + 1 + 1 + 1 + 1 + 1 from rfl]
  have h := w4_r μ 2 (AR a 0) (AR a 1) (AR a 2) (AR a 3) (AR a) rfl rfl rfl rfl
  generalize w4 μ 2 (AR a 0) (AR a 1) (AR a 2) (AR a 3) = ν at h ⊢
  have h3 := w4_r ν 3 (AR b 0) (AR b 1) (AR b 2) (AR b 3) (AR b) rfl rfl rfl rfl
  have h2 : ∀ j, j < 4 → gA (w4 ν 3 (AR b 0) (AR b 1) (AR b 2) (AR b 3)) 2 j = nI (AR a j) := h
  generalize w4 ν 3 (AR b 0) (AR b 1) (AR b 2) (AR b 3) = ξ at h2 h3 ⊢
  exact M_arr18 a b ha hb 19995 ξ h2 h3
theorem M_join_jn {ρ : RC} {μ : MS} (h : MG ρ μ) (hv : RV ρ) {x y : VV} (hx : VD ρ x) (hy : VD ρ y) : ∃ ν : MS, M_join x.1 x.2 y.1 y.2 μ = some (sL (sL ν 0 (jn ρ x y).1) 1 (jn ρ x y).2) ∧ (ν = μ ∨ ∃ a b c d a1 b1 c1 d1 a2 b2 c2 d2 : Nat, ν = w4 (w4 (w4 μ 2 a b c d) 3 a1 b1 c1 d1) 4 a2 b2 c2 d2) := by
  obtain ⟨r, w, ne, t⟩ := ρ
  have hv' := hv
  obtain ⟨v1, v2, v3, v4, v5, -⟩ := hv
  have v3 : w ≤ 5 := v3
  have h0 : gI μ 5 = nI r := h.1
  have h1 : gI μ 6 = nI w := h.2.1
  rcases r8 v1 with e | e | e | e | e | e | e | e <;> (have e : r = _ := e; subst e; unfold M_join; simp (disch := decide) only [h0, h1, zN_eq, if_true, if_false, Nat.reduceEqDiff, reduceCtorEq])
  · exact ⟨μ, rfl, .inl rfl⟩
  · exact ⟨μ, rfl, .inl rfl⟩
  · obtain ⟨qx, qx9⟩ := VD2 rfl hx
    obtain ⟨qy, qy9⟩ := VD2 rfl hy
    refine ⟨μ, ?_, .inl rfl⟩
    show (M_common x.1 y.1).bind _ = _
    rw [show M_common x.1 y.1 = some (lN (Nat.gcd (nN x.1) (nN y.1))) by
      generalize nN x.1 = gx at qx qx9 ⊢
      generalize nN y.1 = gy at qy qy9 ⊢
      rw [qx, qy]; exact M_common_9 qx9 qy9]
    rfl
  · exact ⟨μ, rfl, .inl rfl⟩
  · exact ⟨μ, rfl, .inl rfl⟩
  · obtain ⟨qx, qx9⟩ := VD5 rfl hx
    obtain ⟨qy, qy9⟩ := VD5 rfl hy
    generalize hgx : nN x.1 = gx at qx qx9
    generalize hgy : nN y.1 = gy at qy qy9
    have hcp := CP_lt gx qx9 gy qy9
    have hA := M_arr_eq gx gy qx9 qy9 μ
    refine ⟨_, ?_, .inr ⟨AR gx 0, AR gx 1, AR gx 2, AR gx 3, AR gy 0, AR gy 1, AR gy 2, AR gy 3, AR (CP gx gy) 0, AR (CP gx gy) 1, AR (CP gx gy) 2, AR (CP gx gy) 3, rfl⟩⟩
    rw [qx, qy, lN_i, lN_i, hA, Option.bind_some, if_neg (show ¬ (2 : Int64) = 0 by decide)]
    show some (sL (sL _ 0 (nI (CP gx gy)).toInt64) 1 _) = some (sL (sL _ 0 (lN (CP (nN x.1) (nN y.1)))) 1 _)
    rw [hgx, hgy, nI_l (by omega)]
    rfl
  · refine ⟨μ, ?_, .inl rfl⟩
    have h7 : ∀ z, M_join_192 x.2 y.2 z μ = some (sL (sL μ 0 z) 1 (if 0 ≤ lg_cmp y.2 (lN 0) then y.2 else x.2)) := by
      intro z; unfold M_join_192; split <;> rfl
    show (if 0 ≤ lg_cmp x.1 (lN 0) then M_join_192 x.2 y.2 x.1 μ else M_join_192 x.2 y.2 y.1 μ) = some (sL (sL μ 0 (if x.1 < 0 then y else if y.1 < 0 then x else (x.1, y.2)).1) 1 (if x.1 < 0 then y else if y.1 < 0 then x else (x.1, y.2)).2)
    rw [h7, h7]
    rcases hx.2.2.1 rfl with c1 | ⟨c1, c2⟩
    · rw [c1, if_neg (show ¬ 0 ≤ lg_cmp ((-1 : Int64), (-1 : Int64)).1 (lN 0) by decide), if_pos (show ((-1 : Int64), (-1 : Int64)).1 < 0 by decide)]
      rcases hy.2.2.1 rfl with d1 | ⟨d1, d2⟩
      · rw [d1]; rfl
      · rw [if_pos (ge0' d2)]
    · rw [if_pos (ge0' c1), if_neg (Int64.not_lt.mpr c1)]
      rcases hy.2.2.1 rfl with d1 | ⟨d1, d2⟩
      · rw [d1]; rfl
      · rw [if_pos (ge0' d2), if_neg (Int64.not_lt.mpr d1)]
  · obtain ⟨qx, qx9⟩ := VD7 rfl hv' hx
    obtain ⟨qy, qy9⟩ := VD7 rfl hv' hy
    have qx9 : nN x.1 < w := qx9
    have qy9 : nN y.1 < w := qy9
    have hl : t (nN x.1) (nN y.1) < w := v5 _ _ qx9 qy9
    have ht : gA μ 1 (w * nN x.1 + nN y.1) = nI (t (nN x.1) (nN y.1)) := h.2.2.2 _ _ qx9 qy9
    refine ⟨μ, ?_, .inl rfl⟩
    have hm : w * nN x.1 ≤ 5 * 4 := Nat.mul_le_mul v3 (by omega)
    have hm2 : w * nN x.1 + nN y.1 < 25 := by omega
    show (if _ then none else (M_is (gA μ 1 (nI w * x.1.toInt32 + y.1.toInt32).toNatClampNeg).toInt64 (lN 0) μ).bind _) = some (sL (sL μ 0 (lN (t (nN x.1) (nN y.1)))) 1 (lN 0))
    generalize nN x.1 = gx at *
    generalize nN y.1 = gy at *
    rw [qx, qy, lN_i, lN_i, pk_mul, nI_add, if_neg (nI_in hm2 (by decide)), nI_clamp (by omega), ht, nI_l (by omega)]
    rfl
