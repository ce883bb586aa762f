set_option maxRecDepth 100000
/-! joins -/
theorem ng0 {z : Int64} (h : z < 0) : ¬ 0 ≤ lg_cmp z (lN 0) := fun q => Int64.not_lt.mpr ((lg_cmp_ge _ _).mp q) h
theorem ge0 {z : Int64} (h : ¬ z < 0) : 0 ≤ lg_cmp z (lN 0) := (lg_cmp_ge _ _).mpr (Int64.not_lt.mp h)
theorem ge0' {z : Int64} (h : 0 ≤ z) : 0 ≤ lg_cmp z (lN 0) := (lg_cmp_ge _ _).mpr h
theorem jn_0 {w ne : Nat} {t : Nat → Nat → Nat} {x y : VV} : jn (0, w, ne, t) x y = (x.1 + y.1, x.2 + y.2) := rfl
theorem uu_A (σ : XS) (k : Nat) (f : Nat → Int32) (i : Nat) (x : Int32) : zA (zX σ k f) k i x = zX σ k (upd f i x) := by
  show ((σ.1.1, σ.1.2.1, va_up (va_up σ.1.2.2.1 k f) k (upd (va_up σ.1.2.2.1 k f k) i x), σ.1.2.2.2), σ.2) = _
  rw [bx_uu]
  have : va_up σ.1.2.2.1 k f k = f := if_pos rfl
  rw [this]; rfl
theorem zX_self (σ : XS) (k : Nat) : zX σ k (xA σ k) = σ := by
  have : va_up σ.1.2.2.1 k (σ.1.2.2.1 k) = σ.1.2.2.1 := by
    funext j; unfold va_up; split
    · next h => rw [h]
    · rfl
  show ((σ.1.1, σ.1.2.1, va_up σ.1.2.2.1 k (σ.1.2.2.1 k), σ.1.2.2.2), σ.2) = σ
  rw [this]
theorem X_areLikeRows_eq {σ : XS} {n : Nat} {P : Nat → Nat} (h : ∀ i, i < 4 → xA σ (20 + n) i = nI (AR n i)) (hp : ∀ i, i < 4 → xA σ 0 i = nI (P i)) (hP : ∀ i, i < 4 → P i < 4) (hn : n < 24) : X_areLikeRows n (nI 4) σ = some (if AR n 0 = P 0 ∧ AR n 1 = P 1 ∧ AR n 2 = P 2 ∧ AR n 3 = P 3 then nI 1 else nI 0, σ) := by
  have hs : ∀ (i f : Nat), i < 4 → X_areLikeRows_2 (f + 1) n (nI 4) (nI i) σ = if AR n i = P i then X_areLikeRows_2 f n (nI 4) (nI (i + 1)) σ else some (nI 0, σ) := by
    intro i f hi
    have h1 := AR_lt n hn i hi
    have h2 := hP i hi
    show (if nI 4 ≤ nI i then _ else _) = _
    rw [if_neg (nI_ge hi (by decide)), if_neg (nI_in (by omega) (by decide)), if_neg (nI_in (by omega) (by decide)), nI_clamp (by omega), h i hi, hp i hi, nI_add]
    by_cases hc : AR n i = P i
    · rw [if_pos hc, if_pos (by rw [hc])]
    · rw [if_neg hc, if_neg (fun z => hc ((nI_eq (by omega) (by omega)).mp z))]
  unfold X_areLikeRows
  rw [show FU = 19995 + 1 + 1 + 1 + 1 + 1 from rfl, hs 0 _ (by decide), hs 1 _ (by decide), hs 2 _ (by decide), hs 3 _ (by decide)]
  by_cases c0 : AR n 0 = P 0
  · by_cases c1 : AR n 1 = P 1
    · by_cases c2 : AR n 2 = P 2
      · by_cases c3 : AR n 3 = P 3
        · rw [if_pos c0, if_pos c1, if_pos c2, if_pos c3, if_pos ⟨c0, c1, c2, c3⟩]; rfl
        · rw [if_pos c0, if_pos c1, if_pos c2, if_neg c3, if_neg (fun z => c3 z.2.2.2)]
      · rw [if_pos c0, if_pos c1, if_neg c2, if_neg (fun z => c2 z.2.2.1)]
    · rw [if_pos c0, if_neg c1, if_neg (fun z => c1 z.2.1)]
  · rw [if_neg c0, if_neg (fun z => c0 z.1)]
theorem X_numberOf_eq {σ : XS} {c : Nat} (hc : c < 24) (h : ∀ n, n < 24 → ∀ i, i < 4 → xA σ (20 + n) i = nI (AR n i)) (hp : ∀ i, i < 4 → xA σ 0 i = nI (AR c i)) : X_numberOf σ = some (nI c, σ) := by
  have hs : ∀ n f : Nat, n < 24 → X_numberOf_2 (f + 1) (nI n) σ = if n = c then some (nI n, σ) else X_numberOf_2 f (nI (n + 1)) σ := by
    intro n f hn
    show (if nI 24 ≤ nI n then _ else (if nI 4 = nI 4 then _ else _)) = _
    rw [if_neg (nI_ge hn (by decide)), if_pos rfl, if_neg (nI_in hn (by decide)), nI_clamp (by omega), X_areLikeRows_eq (P := AR c) (h n hn) hp (AR_lt c hc) hn]
    by_cases e : n = c
    · subst e
      rw [if_pos rfl, if_pos ⟨rfl, rfl, rfl, rfl⟩]; rfl
    · rw [if_neg e, if_neg (fun z => by rcases AR_inj n hn c hc with q | q; exact q z; exact e q)]
      show X_numberOf_2 f (nI n + nI 1) σ = _
      rw [nI_add]
  have hl : ∀ d n f : Nat, n + d = c → d < f → X_numberOf_2 f (nI n) σ = some (nI c, σ) := by
    intro d
    induction d with
    | zero =>
      intro n f hd hf
      obtain ⟨f, rfl⟩ : ∃ g, f = g + 1 := ⟨f - 1, by omega⟩
      rw [hs n f (by omega), if_pos (by omega), show n = c by omega]
    | succ d ih =>
      intro n f hd hf
      obtain ⟨f, rfl⟩ : ∃ g, f = g + 1 := ⟨f - 1, by omega⟩
      rw [hs n f (by omega), if_neg (by omega)]
      exact ih (n + 1) f (by omega) (by omega)
  exact hl c 0 FU (by omega) (by unfold FU; omega)
/-- the pair that a place names -/
def pr (σ : XS) (i : Nat) : VV := (rP (xC σ i), rQ (xC σ i))
theorem X_join_jn {ρ : RC} {σ : XS} (h : XG ρ σ) (hv : RV ρ) {i a b : Nat} (hi : i < xN σ) (ha : a < xN σ) (hb : b < xN σ) {x y : VV} (ex : pr σ a = x) (ey : pr σ b = y) (hx : VD ρ x) (hy : VD ρ y) : ∃ f : Nat → Int32, X_join i a b σ = some (pq (zX σ 0 f) i (jn ρ x y)) := by
  obtain ⟨r, w, ne, t⟩ := ρ
  have hv' := hv
  obtain ⟨v1, v2, v3, v4, v5, -⟩ := hv
  have v3 : w ≤ 5 := v3
  have h0 : xI σ 0 = nI r := h.1
  have x1 : rP (xC σ a) = x.1 := by rw [← ex]; rfl
  have x2 : rQ (xC σ a) = x.2 := by rw [← ex]; rfl
  have y1 : rP (xC σ b) = y.1 := by rw [← ey]; rfl
  have y2 : rQ (xC σ b) = y.2 := by rw [← ey]; rfl
  have hk : ∀ z, some (pq σ i z) = some (pq (zX σ 0 (xA σ 0)) i z) := fun z => by rw [zX_self]
  rcases r8 v1 with e | e | e | e | e | e | e | e <;> (have e : r = _ := e; subst e; unfold X_join; rw [h0, if_neg (by decide)])
  · refine ⟨xA σ 0, ?_⟩
    show X_lambda_new_6 i a b σ = _
    unfold X_lambda_new_6
    rw [if_pos ha, if_pos hb, if_pos ha, if_pos hb, if_pos hi, Xp_is_pq hi, x1, x2, y1, y2, ← hk]; rfl
  · refine ⟨xA σ 0, ?_⟩
    show X_lambda_new_7 i a b σ = _
    unfold X_lambda_new_7
    rw [if_pos ha, if_pos hb, if_pos ha, if_pos hb, if_pos hi, Xp_is_pq hi, x1, x2, y1, y2, ← hk]; rfl
  · refine ⟨xA σ 0, ?_⟩
    show X_lambda_new_8 i a b σ = _
    unfold X_lambda_new_8
    obtain ⟨qx, qx9⟩ := VD2 rfl hx
    obtain ⟨qy, qy9⟩ := VD2 rfl hy
    rw [if_pos ha, if_pos hb, x1, x2, y1, y2, qx, qy, X_common_9 qx9 qy9]
    show (if a < xN σ then _ else none) = _
    rw [if_pos ha, if_pos hb, if_pos hi, Xp_is_pq hi, ← hk]; rfl
  · refine ⟨xA σ 0, ?_⟩
    show X_maps i a b σ = _
    unfold X_maps
    rw [if_pos ha, if_pos hb, if_neg (by decide), if_pos hb, if_pos ha, if_pos hb, if_neg (by decide), if_pos hi, Xp_is_pq hi, x1, x2, y1, y2, ← hk]; rfl
  · refine ⟨xA σ 0, ?_⟩
    show X_brackets i a b σ = _
    unfold X_brackets
    rw [if_pos ha, if_pos hb, if_pos ha, if_pos hb, if_pos ha, if_pos hb, if_pos hi, Xp_is_pq hi, x1, x2, y1, y2, ← hk]; rfl
  · obtain ⟨qx, qx9⟩ := VD5 rfl hx
    obtain ⟨qy, qy9⟩ := VD5 rfl hy
    generalize hgx : nN x.1 = gx at qx qx9
    generalize hgy : nN y.1 = gy at qy qy9
    have hst : ∀ (k f : Nat) (p : Nat → Int32), k < 4 → X_arranged_3 (f + 1) i a b (nI k) (zX σ 0 p) = X_arranged_3 f i a b (nI (k + 1)) (zX σ 0 (upd p k (nI (AR gy (AR gx k))))) := by
      intro k f p hk4
      have h1 := AR_lt gx qx9 k hk4
      have e1 : xA (zX σ 0 p) (20 + gx) = xA σ (20 + gx) := by rw [xA_zX, if_neg (by omega)]
      have e2 : xA (zX σ 0 p) (20 + gy) = xA σ (20 + gy) := by rw [xA_zX, if_neg (by omega)]
      have c1 : (lN gx).toInt32.toNatClampNeg = gx := by rw [lN_i]; exact nI_clamp (by omega)
      have c2 : (lN gy).toInt32.toNatClampNeg = gy := by rw [lN_i]; exact nI_clamp (by omega)
      have c3 : (nI k).toNatClampNeg = k := nI_clamp (by omega)
      have c4 : (nI (AR gx k)).toNatClampNeg = AR gx k := nI_clamp (by omega)
      have d1 : ¬ ((lN gx).toInt32 < 0 ∨ 24 ≤ gx) := by rw [lN_i, zN_lt0 (by omega), false_or]; omega
      have d2 : ¬ ((lN gy).toInt32 < 0 ∨ 24 ≤ gy) := by rw [lN_i, zN_lt0 (by omega), false_or]; omega
      have d3 : ¬ (nI k < 0 ∨ 4 ≤ k) := by rw [zN_lt0 (by omega), false_or]; omega
      have d4 : ¬ (nI (AR gx k) < 0 ∨ 4 ≤ AR gx k) := by rw [zN_lt0 (by omega), false_or]; omega
      simp only [X_arranged_3, xN_zX, xC_zX, x1, y1, qx, qy, c1, c2, c3, e1, e2, h.2.2.2.1 gx qx9 k hk4, c4, h.2.2.2.1 gy qy9 _ h1, d1, d2, d3, d4, if_neg (nI_ge hk4 (show 4 < 2 ^ 31 by decide)), if_pos ha, if_pos hb, if_false, nI_add, uu_A]
    have hcp := CP_lt gx qx9 gy qy9
    refine ⟨upd (upd (upd (upd (xA σ 0) 0 (nI (AR gy (AR gx 0)))) 1 (nI (AR gy (AR gx 1)))) 2 (nI (AR gy (AR gx 2)))) 3 (nI (AR gy (AR gx 3))), ?_⟩
    show X_arranged i a b σ = _
    unfold X_arranged
    rw [← zX_self σ 0, show FU = 19995 + 1 + 1 + 1 + 1 + 1 from rfl, zX_self σ 0]
    rw [← zX_self σ 0, hst 0 _ _ (by decide), hst 1 _ _ (by decide), hst 2 _ _ (by decide), hst 3 _ _ (by decide), zX_self σ 0]
    generalize hF : upd (upd (upd (upd (xA σ 0) 0 (nI (AR gy (AR gx 0)))) 1 (nI (AR gy (AR gx 1)))) 2 (nI (AR gy (AR gx 2)))) 3 (nI (AR gy (AR gx 3))) = F
    have hn : X_numberOf (zX σ 0 F) = some (nI (CP gx gy), zX σ 0 F) := by
      refine X_numberOf_eq hcp (fun n hn k hk => ?_) (fun k hk => ?_)
      · rw [xA_zX, if_neg (by omega)]; exact h.2.2.2.1 n hn k hk
      · rw [xA_zX, if_pos rfl, ← CP_AR gx qx9 gy qy9 k hk, ← hF]
        rcases (show k = 0 ∨ k = 1 ∨ k = 2 ∨ k = 3 by omega) with rfl | rfl | rfl | rfl <;> rfl
    show (X_numberOf (zX σ 0 F)).bind _ = _
    rw [hn]
    show (if a < xN σ then (if b < xN σ then (if (2 : Int64) = 0 then none else (if i < xN σ then (Xp_is i (nI (CP gx gy)).toInt64 ((rQ (xC σ a) + rQ (xC σ b)) - (rQ (xC σ a) + rQ (xC σ b)) / (2 : Int64) * (2 : Int64)) (zX σ 0 F)).bind _ else none)) else none) else none) = _
    rw [if_pos ha, if_pos hb, if_neg (by decide), if_pos hi, Xp_is_pq (show i < xN (zX σ 0 F) from hi), nI_l (by omega), x2, y2]
    show some (pq (zX σ 0 F) i _) = some (pq (zX σ 0 F) i (lN (CP (nN x.1) (nN y.1)), _))
    rw [hgx, hgy]
  · refine ⟨xA σ 0, ?_⟩
    show X_ends i a b σ = _
    unfold X_ends
    show _ = some (pq _ i (if x.1 < 0 then y else if y.1 < 0 then x else (x.1, y.2)))
    rw [if_pos ha, x1, x2, y1, y2, ← hk]
    by_cases c1 : x.1 < 0
    · rw [if_neg (ng0 c1), if_pos c1, if_pos hb, if_pos hb, if_pos hi, Xp_is_pq hi]; rfl
    · rw [if_pos (ge0 c1), if_neg c1, if_pos hb]
      by_cases c2 : y.1 < 0
      · rw [if_neg (ng0 c2), if_pos c2, if_pos ha, if_pos ha, if_pos hi, Xp_is_pq hi]; rfl
      · rw [if_pos (ge0 c2), if_neg c2, if_pos ha, if_pos hb, if_pos hi, Xp_is_pq hi]; rfl
  · refine ⟨xA σ 0, ?_⟩
    obtain ⟨qx, qx9⟩ := VD7 rfl hv' hx
    obtain ⟨qy, qy9⟩ := VD7 rfl hv' hy
    have qx9 : nN x.1 < w := qx9
    have qy9 : nN y.1 < w := qy9
    have hl : t (nN x.1) (nN y.1) < w := v5 _ _ qx9 qy9
    have ht : xA σ 1 (5 * nN x.1 + nN y.1) = nI (t (nN x.1) (nN y.1)) := h.2.2.2.2 _ _ qx9 qy9
    show X_byTable i a b σ = _
    unfold X_byTable
    rw [if_pos ha, if_pos hb, x1, y1, ← hk]
    generalize nN x.1 = gx at *
    generalize nN y.1 = gy at *
    rw [qx, qy, lN_i, lN_i, pk_mul, nI_add, if_neg (nI_in (by omega) (by decide)), if_pos hi, Xp_is_pq hi, nI_clamp (by omega), ht, nI_l (by omega)]
    show some (pq σ i (lN (t gx gy), lN 0)) = some (pq σ i (lN (t (nN x.1) (nN y.1)), lN 0))
    rw [qx, qy, nN_lN (by omega), nN_lN (by omega)]
