set_option maxRecDepth 100000
/-! shifts, reverses -/
theorem shifts_loop {ρ : RC} {Z : ZZ} (hR : RV ρ) {l e n had : Nat} (hl : l < 4) (he : e < 2) (hn : n ≤ 64) : ∀ (d k f g : Nat) (σ : XS) (μ : MS) (L : LC) (w : Nat) (reb : Int32) (u v : Nat), k + d = n → d < f → d < g → XR 4 ρ L w reb Z σ → MR 4 ρ L w reb Z μ → LOK 4 L (xN σ) w → 0 < szL L l → u + 71 * d ≤ 4544 → v + 540 * d ≤ 34560 → had ≤ w → w + 65 * d ≤ had + 5000 → ∃ (r : Int32) (σ' : XS) (μ' : MS) (L' : LC) (w' : Nat) (reb' : Int32) (row : List Int64), X_shifts_63 f (nI e) (nI n) l (lN had) (nI k) σ u v = some (r, σ') ∧ M_shifts_53 g (nI l) (nI e) (nI n) (nI had) (nI k) μ = some (r, μ') ∧ XR 4 ρ L' w' reb' (zr Z row) σ' ∧ MR 4 ρ L' w' reb' (zr Z row) μ' ∧ LOK 4 L' (xN σ') w' ∧ w' ≤ had + 5000 ∧ row.length ≤ 128 := by
  intro d
  induction d with
  | zero =>
    intro k f g σ μ L w reb u v hk hf hg hX hM hL hs hu hv hw hb
    obtain ⟨f, rfl⟩ : ∃ z, f = z + 1 := ⟨f - 1, by omega⟩
    obtain ⟨g, rfl⟩ : ∃ z, g = z + 1 := ⟨g - 1, by omega⟩
    have hk : k = n := by omega
    subst hk
    obtain ⟨σ1, p1, p2, p3, -, p5, -⟩ := X_sums_ok hR hX hL hl (i := 2) (by decide)
    have hX1 := hX.q hL p2
    obtain ⟨σ2, t1, t2, t3⟩ := X_tellP hX1 (i := 2) (by decide) p3
    obtain ⟨μ1, q1, q2, -⟩ := M_entersSummary_ok hR (r := []) (M_reset hM) (by decide) hL (by decide) hl
    have q2 : MR 4 ρ L w reb (zr Z [(smy ρ L l).1, (smy ρ L l).2]) μ1 := q2
    refine ⟨nI (w - had), σ2, μ1, L, w, reb, _, ?_, ?_, t2, q2, by rw [t3, p5]; exact hL, by omega, by show 2 ≤ 128; decide⟩
    · show (if nI k ≤ nI k then ((Xl_sums l 2 σ).bind fun q6 => ((X_tellsPair 2 (zI q6 5 (nI 0))).bind fun q7 => some ((((xL q7 0) - lN had).toInt32), q7))) else _) = _
      rw [if_pos (nI_le (Nat.le_refl _) (by omega)), p1, obs, t1, obs, t2.work, lN_sub hw, lN_i]
    · show (if nI k ≤ nI k then ((M_entersSummary (nI l) (sI μ 1 (nI 0))).bind fun q5 => some (((gI q5 8) - nI had), q5)) else _) = _
      rw [if_pos (nI_le (Nat.le_refl _) (by omega)), q1, obs, q2.work, pk_sub hw]
  | succ d ih =>
    intro k f g σ μ L w reb u v hk hf hg hX hM hL hs hu hv hw hb
    obtain ⟨f, rfl⟩ : ∃ z, f = z + 1 := ⟨f - 1, by omega⟩
    obtain ⟨g, rfl⟩ : ∃ z, g = z + 1 := ⟨g - 1, by omega⟩
    have h64 : szL L l ≤ 64 := hL.2.1 l hl
    obtain ⟨σ1, p1, p2, p3, -⟩ := X_take_ok (e := e) hR hX hL (by decide) hl he hs
    obtain ⟨μ1, q1, q2, -⟩ := M_take_ok (e := e) hR hM hL hX.n3 (by decide) hl he hs
    obtain ⟨hL1, hs1, hv9⟩ := tkA_lok (e := e) hL hX.n3 hl he
    have hv9 := hv9 hs
    have hN := tk_8000 (e := e) hL hl
    rw [if_pos hs, Nat.add_zero] at hs1
    rw [← p3] at hL1
    have h1e : 1 - e < 2 := by omega
    obtain ⟨σ2, g1, g2, g3, -⟩ := X_put_ok (e := 1 - e) hR hL1 p2 (by decide) hl h1e hv9
    obtain ⟨μ2, f1, f2, -⟩ := M_makes_ok (e := 1 - e) hR q2 hL1 (by decide) hl h1e (by omega) hv9
    have hs64 : szL (tkA L l e (xN σ) w) l < 64 := by omega
    unfold szL at hs64
    have hL2 := hL1.put (l := l) (e := 1 - e) p2.n3 hl h1e hs64 hv9
    rw [← g3] at hL2
    obtain ⟨r, σ', μ', L', w', reb', row, e1, e2', e3, e4, e5, e6, e7⟩ := ih (k + 1) f g σ2 μ2 _ _ _ (u + 70 + 1) (v + 534 + 6) (by omega) (by omega) (by omega) g2 f2 hL2 (by rw [up_sz h1e]; omega) (by omega) (by omega) (by omega) (by omega)
    refine ⟨r, σ', μ', L', w', reb', row, ?_, ?_, e3, e4, e5, e6, e7⟩
    · have b1 : u + 70 ≤ 4544 ∧ v + 534 ≤ 34560 := by omega
      have b2 : u + 70 + 1 ≤ 4544 ∧ v + 534 + 6 ≤ 34560 := by omega
      rw [← e1]
      show (if nI n ≤ nI k then _ else (if u + 70 ≤ 4544 ∧ v + 534 ≤ 34560 then ((Xl_take l (nI e) σ).bind fun q8 => (if (u + 70) + 1 ≤ 4544 ∧ (v + 534) + 6 ≤ 34560 then ((Xl_put l ((nI 1) - nI e) q8.1 q8.2).bind fun q10 => X_shifts_63 f (nI e) (nI n) l (lN had) (nI k + (nI 1)) q10 ((u + 70) + 1) ((v + 534) + 6)) else none)) else none)) = _
      rw [if_neg (nI_ge (by omega) (by omega)), if_pos b1, p1, obs, if_pos b2, pk_sub (by omega), g1, obs, nI_add]
    · rw [← e2']
      show (if nI n ≤ nI k then _ else ((M_takesOne (nI l) (nI e) μ).bind fun q6 => ((M_makes ((((nI 2) * nI l) + (nI 1)) - nI e) q6.1 q6.2).bind fun q7 => M_shifts_53 g (nI l) (nI e) (nI n) (nI had) (nI k + (nI 1)) q7))) = _
      rw [if_neg (nI_ge (by omega) (by omega)), q1, obs, pk_mul, nI_add, pk_sub (by omega), show 2 * l + 1 - e = 2 * l + (1 - e) by omega, f1, obs, nI_add]
theorem E_shifts_ok (n : Nat) : E_shifts (RR n) (RR (n + 1)) := by
  intro σ μ x1 x2 x3 h
  have h0 := h.stay (nI 0)
  obtain ⟨ρ, L, w, reb, Z, hR, hL, hZ, hX, hM, hw, hr⟩ := h
  have hM0 := hM.q (MU.sI μ (k := 0) (.inl rfl) (nI 0))
  rcases isL x1 with ⟨a1, b1⟩ | ⟨l, hl, rfl, a1, b1⟩
  · exact ⟨-1, σ, _, by unfold X_shifts; simp only [a1, obs, n10, n00, n20, if_false, if_true, and_self, Nat.reduceAdd, Nat.reduceLeDiff], by unfold M_shifts; simp only [b1, obs, n10, n00, n20, if_false, if_true, and_self, Nat.reduceAdd, Nat.reduceLeDiff], h0⟩
  rcases isE x2 with ⟨a2, b2⟩ | ⟨e, he, rfl, a2, b2⟩
  · exact ⟨-1, σ, _, by unfold X_shifts; simp only [a1, a2, obs, n10, n00, n20, if_false, if_true, and_self, Nat.reduceAdd, Nat.reduceLeDiff], by unfold M_shifts; simp only [b1, b2, obs, n10, n00, n20, if_false, if_true, and_self, Nat.reduceAdd, Nat.reduceLeDiff], h0⟩
  have cl : (nI l).toNatClampNeg = l := nI_clamp (by omega)
  have dl : ¬ (nI l < 0 ∨ 4 ≤ l) := by rw [zN_lt0 (by omega), false_or]; omega
  have b64 : (64 : Int64) = lN 64 := rfl
  rcases in_cases x3 1 64 (by decide) (by decide) with q | ⟨m, hm1, hm, rfl, q⟩
  · exact ⟨-1, σ, _, by unfold X_shifts; simp only [a1, a2, b64, q, obs, n10, n00, n20, if_false, if_true, and_self, Nat.reduceAdd, Nat.reduceLeDiff], by unfold M_shifts; simp only [b1, b2, M_in_eq, b64, q, obs, n10, n00, n20, if_false, if_true, and_self, Nat.reduceAdd, Nat.reduceLeDiff], h0⟩
  have s1 := X_sz hX hl
  have s2 := M_size_ok hM0 (by decide) hl
  have hs64 : szL L l ≤ 64 := hL.2.1 l hl
  by_cases hz : szL L l = 0
  · have hq : (nI (szL L l) = 0) = True := eq_true (by rw [hz]; rfl)
    exact ⟨-2, σ, _, by unfold X_shifts; simp only [a1, a2, b64, q, cl, dl, s1, hq, obs, n10, n00, n20, if_false, if_true, and_self, Nat.reduceAdd, Nat.reduceLeDiff], by unfold M_shifts; simp only [b1, b2, M_in_eq, b64, q, s2, hq, obs, n10, n00, n20, if_false, if_true, and_self, Nat.reduceAdd, Nat.reduceLeDiff], h0⟩
  · obtain ⟨r, σ', μ', L', w', reb', row, e1, e2', e3, e4, e5, e6, e7⟩ := shifts_loop (had := w) hR hl he hm m 0 FU FU σ (sI μ 0 (nI 0)) L w reb 0 0 (by omega) (by unfold FU; omega) (by unfold FU; omega) hX hM0 hL (by omega) (by omega) (by omega) (Nat.le_refl _) (by omega)
    have hx : X_shifts (nI l) (nI e) (nI m) σ = some (r, σ') := by
      unfold X_shifts
      rw [a1, obs, if_neg (show ¬ nI 1 = 0 by decide), a2, obs, if_neg (show ¬ nI 1 = 0 by decide), b64, q, obs, if_neg (show ¬ nI 1 = 0 by decide), if_neg (by rw [cl]; exact dl), cl, s1, obs, if_neg (nI_ne0 (by omega) (by omega)), hX.work]
      exact e1
    have hmm : M_shifts (nI l) (nI e) (nI m) μ = some (r, μ') := by
      unfold M_shifts
      rw [b1, obs, if_neg (show ¬ nI 1 = 0 by decide), b2, obs, if_neg (show ¬ nI 1 = 0 by decide), M_in_eq, b64, q, obs, if_neg (show ¬ nI 1 = 0 by decide), s2, obs, if_neg (nI_ne0 (by omega) (by omega)), hM0.work]
      exact e2'
    exact ⟨r, σ', μ', hx, hmm, ρ, L', w', reb', _, hR, e5, hZ.row e7, e3, e4, by omega, by show Z.2.2.2 ≤ n + 1; omega⟩
/-! a line goes round -/
theorem X_round_row {l n b : Nat} (u v : Nat) {its : List Nat} (hn : its.length = n) (h64 : n ≤ 64) : ∀ (d k f : Nat) (σ : XS), k + d = n → d < f → R0 σ its → (∀ t, t < k → xA σ 4 t = nI (its.reverse.getD t 0)) → ∃ g : Nat → Int32, (∀ t, t < n → g t = nI (its.reverse.getD t 0)) ∧ X_goesRound_19 f l (nI n) (nI b) (nI k) σ u v = if u + 64 ≤ 70 ∧ v + 384 ≤ 534 then ((Xl_lays_r1 l (nI 0) (nI n) (nI b) (zX σ 4 g)).bind fun q3 => some (nI n, q3)) else none := by
  intro d
  induction d with
  | zero =>
    intro k f σ hk hf h0 hr
    obtain ⟨f, rfl⟩ : ∃ z, f = z + 1 := ⟨f - 1, by omega⟩
    have hk : k = n := by omega
    subst hk
    exact ⟨xA σ 4, hr, by rw [zX_self]; exact if_pos (nI_le (Nat.le_refl _) (by omega))⟩
  | succ d ih =>
    intro k f σ hk hf h0 hr
    obtain ⟨f, rfl⟩ : ∃ z, f = z + 1 := ⟨f - 1, by omega⟩
    have hrev : its.reverse.getD k 0 = its.getD (n - 1 - k) 0 := by
      rw [List.getD_eq_getElem?_getD, List.getD_eq_getElem?_getD, List.getElem?_reverse (by omega), hn]
    obtain ⟨g, q1, q2⟩ := ih (k + 1) f (zA σ 4 k (nI (its.getD (n - 1 - k) 0))) (by omega) (by omega) (fun t ht => by rw [xA_zA, if_neg (by decide)]; exact h0 t ht) (fun t ht => by
      rw [xA_zA, if_pos rfl]
      by_cases hh : t = k
      · rw [if_pos hh, hh, hrev]
      · rw [if_neg hh]; exact hr t (by omega))
    refine ⟨g, q1, ?_⟩
    have e1 : zX (zA σ 4 k (nI (its.getD (n - 1 - k) 0))) 4 g = zX σ 4 g := by
      show ((σ.1.1, σ.1.2.1, va_up (va_up σ.1.2.2.1 4 _) 4 g, σ.1.2.2.2), σ.2) = _
      rw [bx_uu]; rfl
    rw [e1] at q2
    rw [← q2]
    show (if nI n ≤ nI k then _ else (if ((nI n - (nI 1)) - nI k) < 0 ∨ 64 ≤ ((nI n - (nI 1)) - nI k).toNatClampNeg then none else (if nI k < 0 ∨ 64 ≤ (nI k).toNatClampNeg then none else X_goesRound_19 f l (nI n) (nI b) (nI k + (nI 1)) (zA σ 4 (nI k).toNatClampNeg (xA σ 3 ((nI n - (nI 1)) - nI k).toNatClampNeg)) u v))) = _
    rw [if_neg (nI_ge (by omega) (by omega)), pk_sub (by omega), pk_sub (by omega), if_neg (nI_in (by omega) (by decide)), if_neg (nI_in (by omega) (by decide)), nI_clamp (by omega), nI_clamp (by omega), h0 _ (by omega), nI_add]
theorem X_round_ok {ρ : RC} {L : LC} {w l : Nat} {reb : Int32} {Z : ZZ} {σ : XS} (hR : RV ρ) (hl : l < 4) (hX : XR 4 ρ L w reb Z σ) (hL : LOK 4 L (xN σ) w) : ∃ σ', X_goesRound l σ = some (nI (szL L l), σ') ∧ XR 4 ρ (layL L l (xN σ) w (itemsOf L l).reverse (L l 1).length) (w + szL L l) reb Z σ' ∧ xN σ' = xN σ + szL L l := by
  obtain ⟨h64, h9, hs64⟩ := its9 hL hl
  have hil := items_len L l
  have hsz : szL L l = (L l 0).length + (L l 1).length := rfl
  obtain ⟨σ1, p1, p2, p3, p4, -⟩ := hX.lay0 hL hl
  have l1 : xA σ1 (5 + l) 1 = nI (L l 1).length := (p2.2.2.2.2.2.1 l 1 hl (by decide)).1
  obtain ⟨g, g1, g2⟩ := X_round_row (l := l) (b := (L l 1).length) (0 + 6) (0 + 150) hil hs64 (szL L l) 0 FU σ1 (by omega) (by unfold FU; omega) (fun t ht => p4 t ht) (fun t ht => absurd ht (Nat.not_lt_zero _))
  have hL1 : LOK 4 L (xN σ1) w := by rw [p3]; exact hL
  have hq : XQ (xN σ1) σ1 (zX σ1 4 g) := XQ.zX σ1 (by decide) _
  have hrl : (itemsOf L l).reverse.length = szL L l := by rw [List.length_reverse, hil]
  obtain ⟨σ2, k1, k2, k3, -⟩ := X_lays_r1 hR (p2.q hL1 hq) (show LOK 4 L (xN (zX σ1 4 g)) w from hL1) (by decide) hl (itemsOf L l).reverse 0 (L l 1).length (by omega) (by omega) (fun x hx => h9 x (List.mem_reverse.mp hx)) (fun i hi => by rw [zX_A, Nat.zero_add]; exact g1 i (by omega))
  rw [hrl] at k1 k2 k3
  have k2 : XR 4 ρ (layL L l (xN σ1) w (itemsOf L l).reverse (L l 1).length) (w + szL L l) reb Z σ2 := k2
  have k3 : xN σ2 = xN σ1 + szL L l := k3
  rw [p3] at k2 k3
  refine ⟨σ2, ?_, k2, k3⟩
  unfold X_goesRound
  rw [if_pos ⟨by decide, by decide⟩, p1, obs, if_neg (e2i (by decide)), e2 (by decide), l1, g2, if_pos ⟨by decide, by decide⟩, k1]; rfl
theorem M_turn_row {l n b : Nat} {μ : MS} {its : List Nat} (hn : its.length = n) (h64 : n ≤ 64) : ∀ (d i f : Nat) (g : Nat → Int32), i + d = n / 2 → d < f → (∀ t, t < n → g t = nI (if t < i ∨ n ≤ t + i then its.getD (n - 1 - t) 0 else its.getD t 0)) → ∃ g' : Nat → Int32, (∀ t, t < n → g' t = nI (its.reverse.getD t 0)) ∧ M_turns_20 f (nI l) (nI b) (nI n) (nI i) (mX μ 8 g) = ((M_lays_2 (nI l) (nI 0) (nI n) (nI b) (mX μ 8 g')).bind fun q2 => some (nI n, q2)) := by
  have hrev : ∀ t, t < n → its.reverse.getD t 0 = its.getD (n - 1 - t) 0 := fun t ht => by
    rw [List.getD_eq_getElem?_getD, List.getD_eq_getElem?_getD, List.getElem?_reverse (by omega), hn]
  intro d
  induction d with
  | zero =>
    intro i f g hi hf hg
    obtain ⟨f, rfl⟩ : ∃ z, f = z + 1 := ⟨f - 1, by omega⟩
    refine ⟨g, fun t ht => ?_, ?_⟩
    · rw [hg t ht, hrev t ht]
      by_cases c : t < i ∨ n ≤ t + i
      · rw [if_pos c]
      · rw [if_neg c, show n - 1 - t = t by omega]
    · show (if (nI 2) = 0 then none else (if (nI n / (nI 2)) ≤ nI i then ((M_lays_2 (nI l) (nI 0) (nI n) (nI b) (mX μ 8 g)).bind fun q2 => some (nI n, q2)) else _)) = _
      rw [if_neg (by decide), pk_div (by omega) (by decide) (by decide), if_pos (nI_le (by omega) (by omega))]
  | succ d ih =>
    intro i f g hi hf hg
    obtain ⟨f, rfl⟩ : ∃ z, f = z + 1 := ⟨f - 1, by omega⟩
    obtain ⟨g', q1, q2⟩ := ih (i + 1) f (upd (upd g i (g (n - 1 - i))) (n - 1 - i) (g i)) (by omega) (by omega) (fun t ht => by
      unfold upd
      by_cases c1 : t = n - 1 - i
      · rw [if_pos c1, hg i (by omega), if_neg (by omega), if_pos (by omega), c1, show n - 1 - (n - 1 - i) = i by omega]
      · rw [if_neg c1]
        by_cases c2 : t = i
        · rw [if_pos c2, hg _ (by omega), if_neg (by omega), if_pos (by omega), c2]
        · rw [if_neg c2, hg t ht]
          by_cases c3 : t < i ∨ n ≤ t + i
          · rw [if_pos c3, if_pos (by omega)]
          · rw [if_neg c3, if_neg (by omega)])
    refine ⟨g', q1, ?_⟩
    rw [← q2]
    have ci : (nI i).toNatClampNeg = i := nI_clamp (by omega)
    have cj : (nI (n - 1 - i)).toNatClampNeg = n - 1 - i := nI_clamp (by omega)
    have di : ¬ (nI i < 0 ∨ 65 ≤ i) := nI_dn (by omega) (by decide)
    have dj : ¬ (nI (n - 1 - i) < 0 ∨ 65 ≤ n - 1 - i) := nI_dn (by omega) (by decide)
    show (if (nI 2) = 0 then none else (if (nI n / (nI 2)) ≤ nI i then _ else (if nI i < 0 ∨ 65 ≤ (nI i).toNatClampNeg then none else (if ((nI n - (nI 1)) - nI i) < 0 ∨ 65 ≤ ((nI n - (nI 1)) - nI i).toNatClampNeg then none else (if nI i < 0 ∨ 65 ≤ (nI i).toNatClampNeg then none else (if ((nI n - (nI 1)) - nI i) < 0 ∨ 65 ≤ ((nI n - (nI 1)) - nI i).toNatClampNeg then none else M_turns_20 f (nI l) (nI b) (nI n) (nI i + (nI 1)) (sA (sA (mX μ 8 g) 8 (nI i).toNatClampNeg (gA (mX μ 8 g) 8 ((nI n - (nI 1)) - nI i).toNatClampNeg)) 8 ((nI n - (nI 1)) - nI i).toNatClampNeg (gA (mX μ 8 g) 8 (nI i).toNatClampNeg)))))))) = _
    rw [if_neg (by decide), pk_div (by omega) (by decide) (by decide), if_neg (nI_ge (by omega) (by omega)), pk_sub (by omega), pk_sub (by omega), ci, cj, if_neg di, if_neg dj, if_neg di, if_neg dj, mX_A, sA_mX, sA_mX, nI_add]
theorem M_turns_ok {ρ : RC} {L : LC} {w pn l : Nat} {reb : Int32} {Z : ZZ} {μ : MS} (hR : RV ρ) (hl : l < 4) (hM : MR 4 ρ L w reb Z μ) (hL : LOK 4 L pn w) (h3 : 3 ≤ pn) : ∃ μ', M_turns (nI l) μ = some (nI (szL L l), μ') ∧ MR 4 ρ (layL L l pn w (itemsOf L l).reverse (L l 1).length) (w + szL L l) reb Z μ' ∧ MF 9 μ μ' := by
  obtain ⟨h64, h9, hs64⟩ := its9 hL hl
  have hil := items_len L l
  have hsz : szL L l = (L l 0).length + (L l 1).length := rfl
  have f1 : gA μ 5 (2 * l + 1) = nI (L l 1).length := (hM.2.2.2.2 l 1 hl (by decide)).1
  have c1 : (nI (2 * l + 1)).toNatClampNeg = 2 * l + 1 := nI_clamp (by omega)
  have d1 : ¬ (nI (2 * l + 1) < 0 ∨ 10 ≤ 2 * l + 1) := nI_dn (by omega) (by decide)
  obtain ⟨g', g1, g2⟩ := M_turn_row (l := l) (b := (L l 1).length) (μ := μ) hil hs64 (szL L l / 2) 0 FU (wr (gA μ 8) 0 (itemsOf L l)) (by omega) (by unfold FU; omega) (fun t ht => by rw [if_neg (by omega)]; exact wr_at _ _ (by omega))
  have hrl : (itemsOf L l).reverse.length = szL L l := by rw [List.length_reverse, hil]
  have hq := MU.mX μ (k := 8) (by decide) g'
  obtain ⟨μ1, a1, a2, a3⟩ := M_lays_ok hR (hM.q hq) hL h3 (by decide) hl (itemsOf L l).reverse 0 (L l 1).length (by omega) (by omega) (by omega) (fun x hx => h9 x (List.mem_reverse.mp hx)) (fun i hi => by rw [mX_A, Nat.zero_add]; exact g1 i (by omega))
  rw [hrl] at a1 a2
  refine ⟨μ1, ?_, a2, MF.trans (μ1 := mX μ 8 g') ⟨fun _ _ _ => rfl, fun j hj => by rw [gA_mX, if_neg (by omega)]⟩ (a3.up (by decide))⟩
  unfold M_turns
  rw [pk_mul, nI_add, c1, if_neg d1, f1, M_items_ok hM hL (by decide) hl, obs]
  show M_turns_20 FU (nI l) (nI (L l 1).length) (nI (szL L l)) (nI 0) (mX μ 8 (wr (gA μ 8) 0 (itemsOf L l))) = _
  rw [g2, a1]; rfl
theorem lay_rev_lok {L : LC} {pn w l : Nat} (hL : LOK 4 L pn w) (h3 : 3 ≤ pn) (hl : l < 4) : LOK 4 (layL L l pn w (itemsOf L l).reverse (L l 1).length) (pn + szL L l) (w + szL L l) := by
  obtain ⟨h64, h9, hs64⟩ := its9 hL hl
  have hil := items_len L l
  have hsz : szL L l = (L l 0).length + (L l 1).length := rfl
  have hrl : (itemsOf L l).reverse.length = szL L l := by rw [List.length_reverse, hil]
  have := hL.lay (l := l) (its := (itemsOf L l).reverse) (first := (L l 1).length) hl h3 (by omega) (by omega) (fun x hx => h9 x (List.mem_reverse.mp hx))
  rw [hrl] at this
  exact this
theorem E_reverses_ok (n : Nat) : E_reverses (RR n) (RR (n + 1)) := by
  intro σ μ x1 h
  have h0 := h.stay (nI 0)
  obtain ⟨ρ, L, w, reb, Z, hR, hL, hZ, hX, hM, hw, hr⟩ := h
  have hM0 := hM.q (MU.sI μ (k := 0) (.inl rfl) (nI 0))
  rcases isL x1 with ⟨a1, b1⟩ | ⟨l, hl, rfl, a1, b1⟩
  · exact ⟨-1, σ, _, by unfold X_reverses; simp only [a1, obs, n10, n00, n20, if_false, if_true, and_self, Nat.reduceAdd, Nat.reduceLeDiff], by unfold M_reverses; simp only [b1, obs, n10, n00, n20, if_false, if_true, and_self, Nat.reduceAdd, Nat.reduceLeDiff], h0⟩
  have cl : (nI l).toNatClampNeg = l := nI_clamp (by omega)
  have dl : ¬ (nI l < 0 ∨ 4 ≤ l) := by rw [zN_lt0 (by omega), false_or]; omega
  have hs64 : szL L l ≤ 64 := hL.2.1 l hl
  obtain ⟨σ', p1, p2, p3⟩ := X_round_ok hR hl hX hL
  obtain ⟨μ', q1, q2, -⟩ := M_turns_ok hR hl hM0 hL hX.n3
  have hk := lay_rev_lok hL hX.n3 hl
  rw [← p3] at hk
  have hx : X_reverses (nI l) σ = some (nI (szL L l), σ') := by
    unfold X_reverses
    rw [a1, obs, if_neg (show ¬ nI 1 = 0 by decide), if_neg (by rw [cl]; exact dl), if_pos ⟨by decide, by decide⟩, cl, p1, obs]
  have hm : M_reverses (nI l) μ = some (nI (szL L l), μ') := by
    unfold M_reverses
    rw [b1, obs, if_neg (show ¬ nI 1 = 0 by decide), q1, obs]
  exact ⟨_, σ', μ', hx, hm, ρ, _, _, reb, Z, hR, hk, hZ, p2, q2, by omega, by omega⟩
