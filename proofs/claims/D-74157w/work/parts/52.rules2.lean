set_option maxRecDepth 100000
/-! the rules at work -/
theorem X_leaps_eq {ρ : RC} {σ : XS} (h : XG ρ σ) {n : Nat} (hn : n < 24) : X_leaps (nI n) σ = some (nI (LPn n), σ) := by
  have hr := h.2.2.2.1 n hn
  have a0 := hr 0 (by decide)
  have a1 := hr 1 (by decide)
  have a2 := hr 2 (by decide)
  have a3 := hr 3 (by decide)
  have b0 := AR_lt n hn 0 (by decide)
  have b1 := AR_lt n hn 1 (by decide)
  have b2 := AR_lt n hn 2 (by decide)
  have b3 := AR_lt n hn 3 (by decide)
  have hs := LPn_sum n hn
  have hin : ∀ (i k x : Nat) (k4 : Int32 → Int32 → Int32 → XS → Option (Int32 × XS)) (f : Nat), k < 4 → i < 4 → x < 100 → i ≤ k → X_leaps_12 k4 (f + 1) (nI n) (nI x) (nI i) (nI k) σ = k4 (nI n) (nI x) (nI (i + 1)) σ := by
    intro i k x k4 f hk hi hx h1
    unfold X_leaps_12
    rw [if_pos (nI_le h1 (by omega)), nI_add]
  have hst : ∀ (i k x : Nat) (k4 : Int32 → Int32 → Int32 → XS → Option (Int32 × XS)) (f : Nat), i < 4 → x < 100 → k < i → X_leaps_12 k4 (f + 1) (nI n) (nI x) (nI i) (nI k) σ = X_leaps_12 k4 f (nI n) (nI (x + (if AR n k > AR n i then 1 else 0))) (nI i) (nI (k + 1)) σ := by
    intro i k x k4 f hi hx h1
    have hai := AR_lt n hn i hi
    have hak := AR_lt n hn k (by omega)
    show (if nI i ≤ nI k then _ else _) = _
    rw [if_neg (nI_ge h1 (by omega)), if_neg (nI_in (by omega) (by decide)), if_neg (nI_in (by omega) (by decide)), if_neg (nI_in (by omega) (by decide)), if_neg (nI_in (by omega) (by decide)), nI_clamp (by omega), nI_clamp (by omega), nI_clamp (by omega), hr k (by omega), hr i hi]
    by_cases hc : AR n k > AR n i
    · rw [if_neg (nI_ge hc (by omega)), if_pos hc]
      show X_leaps_12 k4 f (nI n) (nI x + nI 1) (nI i) (nI k + nI 1) σ = _
      rw [nI_add, nI_add]
    · rw [if_pos (nI_le (Nat.not_lt.mp hc) (by omega)), if_neg hc]
      show X_leaps_12 k4 f (nI n) (nI x + nI 0) (nI i) (nI k + nI 1) σ = _
      rw [nI_add, nI_add]
  have h4 : ∀ (i x f : Nat), i < 4 → X_leaps_4 (f + 1) (nI n) (nI x) (nI i) σ = X_leaps_12 (X_leaps_4 f) FU (nI n) (nI x) (nI i) (nI 0) σ := by
    intro i x f hi
    show (if nI 4 ≤ nI i then _ else _) = _
    rw [if_neg (nI_ge hi (by decide))]
  have g : ∀ c : Prop, [Decidable c] → (if c then 1 else 0) ≤ 1 := fun c _ => by split <;> omega
  have e := fun i k => g (AR n k > AR n i)
  unfold X_leaps
  rw [show FU = 19999 + 1 from rfl, h4 0 0 _ (by decide), show FU = 19999 + 1 from rfl, hin 0 0 0 _ _ (by decide) (by decide) (by decide) (by decide)]
  rw [show (19999 : Nat) = 19998 + 1 from rfl, h4 1 0 _ (by decide), show FU = 19998 + 1 + 1 from rfl, hst 1 0 0 _ _ (by decide) (by decide) (by decide), hin 1 1 _ _ _ (by decide) (by decide) (by have := e 1 0; omega) (by decide)]
  rw [show (19998 : Nat) = 19997 + 1 from rfl, h4 2 _ _ (by decide), show FU = 19997 + 1 + 1 + 1 from rfl, hst 2 0 _ _ _ (by decide) (by have := e 1 0; omega) (by decide), hst 2 1 _ _ _ (by decide) (by have := e 1 0; have := e 2 0; omega) (by decide), hin 2 2 _ _ _ (by decide) (by decide) (by have := e 1 0; have := e 2 0; have := e 2 1; omega) (by decide)]
  rw [show (19997 : Nat) = 19996 + 1 from rfl, h4 3 _ _ (by decide), show FU = 19996 + 1 + 1 + 1 + 1 from rfl, hst 3 0 _ _ _ (by decide) (by have := e 1 0; have := e 2 0; have := e 2 1; omega) (by decide), hst 3 1 _ _ _ (by decide) (by have := e 1 0; have := e 2 0; have := e 2 1; have := e 3 0; omega) (by decide), hst 3 2 _ _ _ (by decide) (by have := e 1 0; have := e 2 0; have := e 2 1; have := e 3 0; have := e 3 1; omega) (by decide), hin 3 3 _ _ _ (by decide) (by decide) (by have := e 1 0; have := e 2 0; have := e 2 1; have := e 3 0; have := e 3 1; have := e 3 2; omega) (by decide)]
  show some (nI _, σ) = _
  refine congrArg (fun z => some (nI z, σ)) ?_
  rw [← hs]
  omega
theorem VD2 {ρ : RC} (h : ρ.1 = 2) {x : VV} (hx : VD ρ x) : x.1 = lN (nN x.1) ∧ nN x.1 ≤ 9999 := by
  obtain ⟨i, hi, e⟩ := hx.1 h
  rw [e, nN_lN (by omega)]; exact ⟨rfl, hi⟩
theorem VD5 {ρ : RC} (h : ρ.1 = 5) {x : VV} (hx : VD ρ x) : x.1 = lN (nN x.1) ∧ nN x.1 < 24 := by
  obtain ⟨i, hi, e⟩ := hx.2.1 h
  rw [e, nN_lN (by omega)]; exact ⟨rfl, hi⟩
theorem VD7 {ρ : RC} (h : ρ.1 = 7) (hv : RV ρ) {x : VV} (hx : VD ρ x) : x.1 = lN (nN x.1) ∧ nN x.1 < ρ.2.1 := by
  obtain ⟨i, hi, e⟩ := hx.2.2.2 h
  have := hv.2.2.1
  rw [e, nN_lN (by omega)]; exact ⟨rfl, hi⟩
/-- the component makes an element -/
theorem X_make_el {ρ : RC} {σ : XS} (h : XG ρ σ) (hv : RV ρ) {i : Nat} (hi : i < xN σ) {v : Nat} (hv9 : v ≤ 9999) : X_make i (nI v) σ = some (pq σ i (el ρ v)) := by
  obtain ⟨r, w, ne, t⟩ := ρ
  obtain ⟨v1, v2, v3, -⟩ := hv
  have v2 : 1 ≤ w := v2
  have v3 : w ≤ 5 := v3
  have h0 : xI σ 0 = nI r := h.1
  have h1 : xI σ 1 = nI w := h.2.1
  rcases r8 v1 with e | e | e | e | e | e | e | e <;> (have e : r = _ := e; subst e; unfold X_make; rw [h0, if_neg (by decide)])
  · show X_lambda_new_0 i (nI v) σ = _
    unfold X_lambda_new_0
    rw [if_pos hi, Xp_is_pq hi, nI_l (by omega)]; rfl
  · show X_lambda_new_1 i (nI v) σ = _
    unfold X_lambda_new_1
    rw [if_pos hi, Xp_is_pq hi, nI_l (by omega)]; rfl
  · show X_lambda_new_2 i (nI v) σ = _
    unfold X_lambda_new_2
    rw [if_pos hi, Xp_is_pq hi, nI_l (by omega)]; rfl
  · show X_lambda_new_3 i (nI v) σ = _
    unfold X_lambda_new_3
    rw [if_neg (by decide), if_neg (by decide), if_neg (by decide), if_pos hi, Xp_is_pq hi, pk_rem (a := v) (d := 101) (by omega) (by decide) (by decide), pk_div (a := v) (by omega) (by decide) (by decide), pk_rem (a := v / 101) (by omega) (by decide) (by decide), nI_l (by omega), nI_l (by omega)]; rfl
  · show X_bracket i (nI v) σ = _
    unfold X_bracket
    rw [if_neg (by decide), if_neg (by decide), if_neg (by decide), pk_rem (a := v) (d := 2) (by omega) (by decide) (by decide), pk_div (a := v) (by omega) (by decide) (by decide), pk_rem (a := v / 2) (by omega) (by decide) (by decide), nI_l (by omega)]
    show _ = some (pq σ i (if v % 2 = 0 then (lN 0, lN (v / 2 % 10)) else (lN (v / 2 % 10), lN 0)))
    by_cases hz : v % 2 = 0
    · rw [if_pos (by rw [hz]; rfl), if_pos hz, if_pos hi, Xp_is_pq hi]; rfl
    · rw [if_neg (nI_ne0 (by omega) (by omega)), if_neg hz, if_pos hi, Xp_is_pq hi]; rfl
  · show X_lambda_new_4 i (nI v) σ = _
    unfold X_lambda_new_4
    have hl := LPn_lt (v % 24) (Nat.mod_lt _ (by decide))
    rw [if_neg (by decide), if_neg (by decide), pk_rem (by omega) (by decide) (by decide), X_leaps_eq h (Nat.mod_lt _ (by decide))]
    show (if nI 2 = 0 then none else (if i < xN σ then _ else none)) = _
    rw [if_neg (by decide), if_pos hi, Xp_is_pq hi, pk_rem (by omega) (by decide) (by decide), nI_l (by omega), nI_l (by omega)]; rfl
  · show X_lambda_new_5 i (nI v) σ = _
    unfold X_lambda_new_5
    rw [if_pos hi, Xp_is_pq hi, nI_l (by omega)]; rfl
  · show X_ofTable i (nI v) σ = _
    unfold X_ofTable
    rw [h1, if_neg (nI_ne0 (by omega) (by omega)), if_pos hi, Xp_is_pq hi, pk_rem (by omega) (by omega) (by omega), nI_l (by have := Nat.mod_le v w; omega)]; rfl
theorem X_empty_emp {ρ : RC} {σ : XS} (h : XG ρ σ) (hv : RV ρ) {i : Nat} (hi : i < xN σ) : X_empty i σ = some (pq σ i (emp ρ)) := by
  obtain ⟨r, w, ne, t⟩ := ρ
  obtain ⟨v1, -, v3, v4, -⟩ := hv
  have v3 : w ≤ 5 := v3
  have v4 : ne < w := v4
  have h0 : xI σ 0 = nI r := h.1
  have h2 : xI σ 2 = nI ne := h.2.2.1
  have hE : X_empty_96 i σ = some (pq σ i (lN 0, lN 0)) := by unfold X_empty_96; rw [if_pos hi, Xp_is_pq hi]; rfl
  rcases r8 v1 with e | e | e | e | e | e | e | e <;> (have e : r = _ := e; subst e; unfold X_empty; simp only [h0, h2])
  · exact hE
  · rw [if_pos trivial, if_pos hi, Xp_is_pq hi]; rfl
  · exact hE
  · show (if i < xN σ then _ else none) = _
    rw [if_pos hi, Xp_is_pq hi]; rfl
  · exact hE
  · exact hE
  · show (if i < xN σ then _ else none) = _
    rw [if_pos hi, Xp_is_pq hi]; rfl
  · show (if i < xN σ then _ else none) = _
    rw [if_pos hi, Xp_is_pq hi, nI_l (by omega)]; rfl
theorem M_element_el {ρ : RC} {μ : MS} (h : MG ρ μ) (hv : RV ρ) {v : Nat} (hv9 : v ≤ 9999) : ∃ ν : MS, M_element (nI v) μ = some (sL (sL ν 0 (el ρ v).1) 1 (el ρ v).2) ∧ (ν = μ ∨ ∃ a b c d : Nat, ν = w4 μ 2 a b c d) := by
  obtain ⟨r, w, ne, t⟩ := ρ
  obtain ⟨v1, v2, v3, -⟩ := hv
  have v2 : 1 ≤ w := v2
  have v3 : w ≤ 5 := v3
  have h0 : gI μ 5 = nI r := h.1
  have h1 : gI μ 6 = nI w := h.2.1
  have hE : M_element_161 (nI v) μ = some (sL (sL μ 0 (lN v)) 1 (lN v)) := by unfold M_element_161; rw [nI_l (by omega)]; rfl
  rcases r8 v1 with e | e | e | e | e | e | e | e <;> (have e : r = _ := e; subst e; unfold M_element; simp only [h0, h1])
  · refine ⟨μ, ?_, .inl rfl⟩
    show (M_is _ _ μ).bind _ = _
    rw [nI_l (by omega)]; rfl
  · exact ⟨μ, hE, .inl rfl⟩
  · exact ⟨μ, hE, .inl rfl⟩
  · refine ⟨μ, ?_, .inl rfl⟩
    show (M_is _ _ μ).bind _ = _
    rw [pk_rem (a := v) (d := 101) (by omega) (by decide) (by decide), pk_div (a := v) (by omega) (by decide) (by decide), pk_rem (a := v / 101) (by omega) (by decide) (by decide), nI_l (by omega), nI_l (by omega)]; rfl
  · refine ⟨μ, ?_, .inl rfl⟩
    show (if (nI v - nI v / nI 2 * nI 2) = 0 then M_element_100 (nI v) (lN 0) μ else M_element_100 (nI v) ((nI v / nI 2) - (nI v / nI 2) / nI 10 * nI 10).toInt64 μ) = some (sL (sL μ 0 (if v % 2 = 0 then (lN 0, lN (v / 2 % 10)) else (lN (v / 2 % 10), lN 0)).1) 1 (if v % 2 = 0 then (lN 0, lN (v / 2 % 10)) else (lN (v / 2 % 10), lN 0)).2)
    have hq : ∀ y, M_element_100 (nI v) y μ = (if (nI v - nI v / nI 2 * nI 2) = 0 then M_element_117 ((nI v / nI 2) - (nI v / nI 2) / nI 10 * nI 10).toInt64 y μ else M_element_117 (lN 0) y μ) := fun y => rfl
    rw [hq, hq, pk_rem (a := v) (d := 2) (by omega) (by decide) (by decide), pk_div (a := v) (by omega) (by decide) (by decide), pk_rem (a := v / 2) (by omega) (by decide) (by decide), nI_l (by omega)]
    by_cases hz : v % 2 = 0
    · rw [if_pos (by rw [hz]; rfl), if_pos (by rw [hz]; rfl), if_pos hz]; rfl
    · rw [if_neg (nI_ne0 (by omega) (by omega)), if_neg (nI_ne0 (by omega) (by omega)), if_neg hz]; rfl
  · have hl := LPn_lt (v % 24) (Nat.mod_lt _ (by decide))
    refine ⟨_, ?_, .inr ⟨AR (v % 24) 0, AR (v % 24) 1, AR (v % 24) 2, AR (v % 24) 3, rfl⟩⟩
    show (M_leaps (nI v - nI v / nI 24 * nI 24) μ).bind _ = _
    rw [pk_rem (by omega) (by decide) (by decide), M_leaps_eq μ _ (Nat.mod_lt _ (by decide))]
    show (M_is (nI (v % 24)).toInt64 (nI (LPn (v % 24)) - nI (LPn (v % 24)) / nI 2 * nI 2).toInt64 _).bind _ = _
    rw [pk_rem (by omega) (by decide) (by decide), nI_l (by omega), nI_l (by omega)]; rfl
  · exact ⟨μ, hE, .inl rfl⟩
  · refine ⟨μ, ?_, .inl rfl⟩
    show (if nI w = 0 then none else _) = _
    rw [if_neg (nI_ne0 (by omega) (by omega)), pk_rem (by omega) (by omega) (by omega), nI_l (by have := Nat.mod_le v w; omega)]; rfl
theorem M_empty_emp {ρ : RC} {μ : MS} (h : MG ρ μ) (hv : RV ρ) : M_empty μ = some (sL (sL μ 0 (emp ρ).1) 1 (emp ρ).2) := by
  obtain ⟨r, w, ne, t⟩ := ρ
  obtain ⟨v1, -, v3, v4, -⟩ := hv
  have v3 : w ≤ 5 := v3
  have v4 : ne < w := v4
  have h0 : gI μ 5 = nI r := h.1
  have h2 : gI μ 7 = nI ne := h.2.2.1
  rcases r8 v1 with e | e | e | e | e | e | e | e <;> (have e : r = _ := e; subst e; unfold M_empty; simp only [h0, h2])
  · rfl
  · rfl
  · rfl
  · rfl
  · rfl
  · rfl
  · rfl
  · show (M_is _ _ μ).bind _ = _
    rw [nI_l (by omega)]; rfl
