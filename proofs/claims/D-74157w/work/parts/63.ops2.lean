set_option maxRecDepth 100000
/-! copies -/
/-- one end has been copied from line l to line o -/
def SC (l o e len : Nat) (μ ν : MS) : Prop := (∀ j, gI ν j = gI μ j) ∧ (∀ j, j ≠ 5 → j ≠ 6 → j ≠ 7 → gA ν j = gA μ j) ∧ (∀ j, j ≠ 3 → j ≠ 4 → gB ν j = gB μ j) ∧ (∀ s, gA ν 5 s = if s = 2 * o + e then gA μ 5 (2 * l + e) else gA μ 5 s) ∧ (∀ p, ¬ (64 * (2 * o + e) ≤ p ∧ p < 64 * (2 * o + e) + len) → gA ν 7 p = gA μ 7 p ∧ gA ν 6 p = gA μ 6 p ∧ gB ν 3 p = gB μ 3 p ∧ gB ν 4 p = gB μ 4 p) ∧ (∀ j, j < len → gA ν 7 (64 * (2 * o + e) + j) = gA μ 7 (64 * (2 * l + e) + j) ∧ gA ν 6 (64 * (2 * o + e) + j) = gA μ 6 (64 * (2 * l + e) + j) ∧ gB ν 3 (64 * (2 * o + e) + j) = gB μ 3 (64 * (2 * l + e) + j) ∧ gB ν 4 (64 * (2 * o + e) + j) = gB μ 4 (64 * (2 * l + e) + j))
theorem copy30 {l o e len : Nat} {k2 : Int32 → Int32 → Int32 → MS → Option MS} {μ : MS} (hl : l < 5) (ho : o < 5) (hlo : l ≠ o) (he : e < 2) (hlen : gA μ 5 (2 * l + e) = nI len) (h64 : len ≤ 64) : ∀ (d m f : Nat) (ν : MS), m + d = len → d < f → SC l o e m μ ν → ∃ ν', SC l o e len μ ν' ∧ M_copiesTo_30 k2 f (nI l) (nI o) (nI e) (nI m) ν = k2 (nI l) (nI o) (nI (e + 1)) ν' := by
  intro d
  induction d with
  | zero =>
    intro m f ν hm hf h
    obtain ⟨f, rfl⟩ : ∃ g, f = g + 1 := ⟨f - 1, by omega⟩
    have hm : m = len := by omega
    subst hm
    refine ⟨ν, h, ?_⟩
    have h5 : gA ν 5 (2 * l + e) = nI m := by rw [h.2.2.2.1, if_neg (by omega)]; exact hlen
    show (if nI 2 * nI l + nI e < 0 ∨ 10 ≤ (nI 2 * nI l + nI e).toNatClampNeg then none else (if gA ν 5 (nI 2 * nI l + nI e).toNatClampNeg ≤ nI m then _ else _)) = _
    rw [pk_mul, nI_add, if_neg (s10 hl he), nI_clamp (by omega), h5, if_pos (nI_le (Nat.le_refl _) (by omega)), nI_add]
  | succ d ih =>
    intro m f ν hm hf h
    obtain ⟨f, rfl⟩ : ∃ g, f = g + 1 := ⟨f - 1, by omega⟩
    obtain ⟨a1, a2, a3, a4, a5, a6⟩ := h
    have h5 : gA ν 5 (2 * l + e) = nI len := by rw [a4, if_neg (by omega)]; exact hlen
    have hp : ¬ 64 * (2 * l + e) + m = 64 * (2 * o + e) + m := by omega
    have hsrc := a5 (64 * (2 * l + e) + m) (by omega)
    obtain ⟨ν', g1, g2⟩ := ih (m + 1) f (sB (sB (sA (sA ν 6 (64 * (2 * o + e) + m) (gA ν 6 (64 * (2 * l + e) + m))) 7 (64 * (2 * o + e) + m) (gA ν 7 (64 * (2 * l + e) + m))) 3 (64 * (2 * o + e) + m) (gB ν 3 (64 * (2 * l + e) + m))) 4 (64 * (2 * o + e) + m) (gB ν 4 (64 * (2 * l + e) + m))) (by omega) (by omega) (by
      have r7 : ∀ p, gA (sB (sB (sA (sA ν 6 (64 * (2 * o + e) + m) (gA ν 6 (64 * (2 * l + e) + m))) 7 (64 * (2 * o + e) + m) (gA ν 7 (64 * (2 * l + e) + m))) 3 (64 * (2 * o + e) + m) (gB ν 3 (64 * (2 * l + e) + m))) 4 (64 * (2 * o + e) + m) (gB ν 4 (64 * (2 * l + e) + m))) 7 p = if p = 64 * (2 * o + e) + m then gA ν 7 (64 * (2 * l + e) + m) else gA ν 7 p := fun p => by
        rw [gA_sB, gA_sB, gA_sA, if_pos (show (7 : Nat) = 7 from rfl), gA_sA, if_neg (show ¬ (7 : Nat) = 6 by decide)]
      have r6 : ∀ p, gA (sB (sB (sA (sA ν 6 (64 * (2 * o + e) + m) (gA ν 6 (64 * (2 * l + e) + m))) 7 (64 * (2 * o + e) + m) (gA ν 7 (64 * (2 * l + e) + m))) 3 (64 * (2 * o + e) + m) (gB ν 3 (64 * (2 * l + e) + m))) 4 (64 * (2 * o + e) + m) (gB ν 4 (64 * (2 * l + e) + m))) 6 p = if p = 64 * (2 * o + e) + m then gA ν 6 (64 * (2 * l + e) + m) else gA ν 6 p := fun p => by
        rw [gA_sB, gA_sB, gA_sA, if_neg (show ¬ (6 : Nat) = 7 by decide), gA_sA, if_pos (show (6 : Nat) = 6 from rfl)]
      have r3 : ∀ p, gB (sB (sB (sA (sA ν 6 (64 * (2 * o + e) + m) (gA ν 6 (64 * (2 * l + e) + m))) 7 (64 * (2 * o + e) + m) (gA ν 7 (64 * (2 * l + e) + m))) 3 (64 * (2 * o + e) + m) (gB ν 3 (64 * (2 * l + e) + m))) 4 (64 * (2 * o + e) + m) (gB ν 4 (64 * (2 * l + e) + m))) 3 p = if p = 64 * (2 * o + e) + m then gB ν 3 (64 * (2 * l + e) + m) else gB ν 3 p := fun p => by
        rw [gB_sB, if_neg (show ¬ (3 : Nat) = 4 by decide), gB_sB, if_pos (show (3 : Nat) = 3 from rfl)]; rfl
      have r4 : ∀ p, gB (sB (sB (sA (sA ν 6 (64 * (2 * o + e) + m) (gA ν 6 (64 * (2 * l + e) + m))) 7 (64 * (2 * o + e) + m) (gA ν 7 (64 * (2 * l + e) + m))) 3 (64 * (2 * o + e) + m) (gB ν 3 (64 * (2 * l + e) + m))) 4 (64 * (2 * o + e) + m) (gB ν 4 (64 * (2 * l + e) + m))) 4 p = if p = 64 * (2 * o + e) + m then gB ν 4 (64 * (2 * l + e) + m) else gB ν 4 p := fun p => by
        rw [gB_sB, if_pos (show (4 : Nat) = 4 from rfl), gB_sB, if_neg (show ¬ (4 : Nat) = 3 by decide)]; rfl
      refine ⟨a1, fun j h5 h6 h7 => ?_, fun j h3 h4 => ?_, fun s => ?_, fun p hp => ?_, fun j hj => ?_⟩
      · refine Eq.trans ?_ (a2 j h5 h6 h7)
        funext n; rw [gA_sB, gA_sB, gA_sA, if_neg h7, gA_sA, if_neg h6]
      · refine Eq.trans ?_ (a3 j h3 h4)
        funext n; rw [gB_sB, if_neg h4, gB_sB, if_neg h3]; rfl
      · refine Eq.trans ?_ (a4 s)
        rw [gA_sB, gA_sB, gA_sA, if_neg (show ¬ (5 : Nat) = 7 by decide), gA_sA, if_neg (show ¬ (5 : Nat) = 6 by decide)]
      · rw [r7, r6, r3, r4, if_neg (by omega), if_neg (by omega), if_neg (by omega), if_neg (by omega)]
        exact a5 p (by omega)
      · rw [r7, r6, r3, r4]
        by_cases hjm : j = m
        · subst hjm
          rw [if_pos rfl, if_pos rfl, if_pos rfl, if_pos rfl]; exact hsrc
        · rw [if_neg (by omega), if_neg (by omega), if_neg (by omega), if_neg (by omega)]
          exact a6 j (by omega))
    refine ⟨ν', g1, ?_⟩
    rw [← g2]
    have c1 : (nI (2 * l + e)).toNatClampNeg = 2 * l + e := nI_clamp (by omega)
    have c2 : (nI (64 * (2 * l + e) + m)).toNatClampNeg = 64 * (2 * l + e) + m := nI_clamp (by omega)
    have c3 : (nI (64 * (2 * o + e) + m)).toNatClampNeg = 64 * (2 * o + e) + m := nI_clamp (by omega)
    have i1 : ¬ (nI (2 * l + e) < 0 ∨ 10 ≤ 2 * l + e) := by rw [zN_lt0 (by omega), false_or]; omega
    have i2 : ¬ (nI (64 * (2 * l + e) + m) < 0 ∨ 640 ≤ 64 * (2 * l + e) + m) := by rw [zN_lt0 (by omega), false_or]; omega
    have i3 : ¬ (nI (64 * (2 * o + e) + m) < 0 ∨ 640 ≤ 64 * (2 * o + e) + m) := by rw [zN_lt0 (by omega), false_or]; omega
    have i4 : ¬ nI len ≤ nI m := nI_ge (by omega) (by omega)
    simp only [M_copiesTo_30, M_place, pk_mul, nI_add, c1, c2, c3, i1, i2, i3, i4, h5, if_false, Option.bind_some]
    refine congrArg (M_copiesTo_30 k2 f (nI l) (nI o) (nI e) (nI (m + 1))) ?_
    simp only [gA_sA, gA_sB, gB_sA, gB_sB]
    simp only [show ((7 : Nat) = 6) = False from eq_false (by decide), show ((4 : Nat) = 3) = False from eq_false (by decide), if_false]
theorem SC.start {l o e : Nat} (μ : MS) : SC l o e 0 μ (sA μ 5 (2 * o + e) (gA μ 5 (2 * l + e))) := by
  refine ⟨fun _ => rfl, fun j h5 _ _ => ?_, fun _ _ _ => rfl, fun s => ?_, fun _ _ => ⟨rfl, rfl, rfl, rfl⟩, fun j hj => absurd hj (Nat.not_lt_zero _)⟩
  · funext n; rw [gA_sA, if_neg h5]
  · rw [gA_sA, if_pos (show (5 : Nat) = 5 from rfl)]
theorem SC.pre {l o e len : Nat} {μ ν : MS} (hlo : l ≠ o) (h : SC l o e len (sA μ 5 (2 * o + e) (gA μ 5 (2 * l + e))) ν) : SC l o e len μ ν := by
  obtain ⟨a1, a2, a3, a4, a5, a6⟩ := h
  refine ⟨a1, fun j h5 h6 h7 => (a2 j h5 h6 h7).trans (by funext n; rw [gA_sA, if_neg h5]), a3, fun s => ?_, a5, a6⟩
  have r5 : ∀ s, gA (sA μ 5 (2 * o + e) (gA μ 5 (2 * l + e))) 5 s = if s = 2 * o + e then gA μ 5 (2 * l + e) else gA μ 5 s := fun s => by rw [gA_sA, if_pos (show (5 : Nat) = 5 from rfl)]
  rw [a4, r5, r5]
  by_cases hh : s = 2 * o + e
  · rw [if_pos hh, if_pos hh, if_neg (by omega)]
  · rw [if_neg hh, if_neg hh]
theorem SC.s0 {l o e : Nat} (hlo : l ≠ o) (μ : MS) : SC l o e 0 (sA μ 5 (2 * o + e) (gA μ 5 (2 * l + e))) (sA μ 5 (2 * o + e) (gA μ 5 (2 * l + e))) := by
  refine ⟨fun _ => rfl, fun _ _ _ _ => rfl, fun _ _ _ => rfl, fun s => ?_, fun _ _ => ⟨rfl, rfl, rfl, rfl⟩, fun j hj => absurd hj (Nat.not_lt_zero _)⟩
  rw [gA_sA, if_pos (show (5 : Nat) = 5 from rfl), gA_sA, if_pos (show (5 : Nat) = 5 from rfl)]
  split
  · rw [if_neg (by omega)]
  · rfl
theorem copy2 {l o e len : Nat} {μ : MS} (hl : l < 5) (ho : o < 5) (hlo : l ≠ o) (he : e < 2) (hlen : gA μ 5 (2 * l + e) = nI len) (h64 : len ≤ 64) (f : Nat) : ∃ ν, SC l o e len μ ν ∧ M_copiesTo_2 (f + 1) (nI l) (nI o) (nI e) μ = M_copiesTo_2 f (nI l) (nI o) (nI (e + 1)) ν := by
  obtain ⟨ν, g1, g2⟩ := copy30 (k2 := M_copiesTo_2 f) (μ := sA μ 5 (2 * o + e) (gA μ 5 (2 * l + e))) hl ho hlo he (by rw [gA_sA, if_pos (show (5 : Nat) = 5 from rfl), if_neg (by omega)]; exact hlen) h64 len 0 FU _ (by omega) (by unfold FU; omega) (SC.s0 hlo μ)
  refine ⟨ν, g1.pre hlo, ?_⟩
  rw [← g2]
  show (if nI 2 ≤ nI e then _ else (if nI 2 * nI l + nI e < 0 ∨ 10 ≤ (nI 2 * nI l + nI e).toNatClampNeg then none else (if nI 2 * nI o + nI e < 0 ∨ 10 ≤ (nI 2 * nI o + nI e).toNatClampNeg then none else M_copiesTo_30 (M_copiesTo_2 f) FU (nI l) (nI o) (nI e) (nI 0) (sA μ 5 (nI 2 * nI o + nI e).toNatClampNeg (gA μ 5 (nI 2 * nI l + nI e).toNatClampNeg))))) = _
  rw [if_neg (nI_ge he (by decide)), pk_mul, nI_add, pk_mul, nI_add, if_neg (s10 hl he), if_neg (s10 ho he), nI_clamp (by omega), nI_clamp (by omega)]
theorem M_copy_ok {k k' : Nat} {ρ : RC} {L : LC} {w pn w' l o : Nat} {reb : Int32} {Z : ZZ} {μ : MS} (h : MR k ρ L w reb Z μ) (hL : LOK k L pn w') (hk5 : k ≤ 5) (hl : l < k) (ho : o < 5) (hlo : l ≠ o) (hk : ∀ l', l' < k' → l' ≠ o → l' < k) : ∃ μ', M_copiesTo (nI l) (nI o) μ = some μ' ∧ MR k' ρ (cpl L o l) w reb Z μ' ∧ MF 8 μ μ' := by
  obtain ⟨a0, b0⟩ := h.2.2.2.2 l 0 hl (by decide)
  obtain ⟨a1, b1⟩ := h.2.2.2.2 l 1 hl (by decide)
  have hs := hL.2.1 l hl
  obtain ⟨ν, g, e1⟩ := copy2 (f := FU - 1) (show l < 5 by omega) ho hlo (show 0 < 2 by decide) a0 (by omega)
  have a1' : gA ν 5 (2 * l + 1) = nI (L l 1).length := by rw [g.2.2.2.1, if_neg (by omega)]; exact a1
  obtain ⟨ξ, q, e2⟩ := copy2 (f := FU - 2) (show l < 5 by omega) ho hlo (show 1 < 2 by decide) a1' (by omega)
  obtain ⟨g1, g2, g3, g4, g5, g6⟩ := g
  obtain ⟨q1, q2, q3, q4, q5, q6⟩ := q
  refine ⟨ξ, ?_, ?_, fun j _ _ => (q1 j).trans (g1 j), fun j hj => (q2 j (by omega) (by omega) (by omega)).trans (g2 j (by omega) (by omega) (by omega))⟩
  · unfold M_copiesTo
    rw [show FU = FU - 1 + 1 from rfl, e1, show FU - 1 = FU - 2 + 1 from rfl, e2]
    show (if nI 2 ≤ nI 2 then some ξ else _) = _
    rw [if_pos (nI_le (Nat.le_refl _) (by decide))]
  · refine h.line (l := o) hL hk (fun j => (q1 j).trans (g1 j)) ⟨(q2 0 (by decide) (by decide) (by decide)).trans (g2 0 (by decide) (by decide) (by decide)), (q2 1 (by decide) (by decide) (by decide)).trans (g2 1 (by decide) (by decide) (by decide)), (q3 0 (by decide) (by decide)).trans (g3 0 (by decide) (by decide))⟩ (fun l' e hl' he => ?_) (fun l' e j hl' he hj => ?_) (fun e he => ?_) (fun l' e hl' => if_neg hl')
    · rw [q4, if_neg (by omega), g4, if_neg (by omega)]
    · obtain ⟨x1, x2, x3, x4⟩ := q5 (64 * (2 * l' + e) + j) (by omega)
      obtain ⟨y1, y2, y3, y4⟩ := g5 (64 * (2 * l' + e) + j) (by omega)
      exact ⟨x1.trans y1, x2.trans y2, x3.trans y3, x4.trans y4⟩
    · rw [show cpl L o l o e = L l e from if_pos rfl]
      rcases (show e = 0 ∨ e = 1 by omega) with rfl | rfl
      · refine ⟨by rw [q4, if_neg (by omega), g4, if_pos rfl]; exact a0, MCh.move (s := 2 * l + 0) (μ := μ) _ (fun j hj => ?_) b0⟩
        obtain ⟨x1, x2, x3, x4⟩ := q5 (64 * (2 * o + 0) + j) (by omega)
        obtain ⟨y1, y2, y3, y4⟩ := g6 j hj
        exact ⟨x1.trans y1, x2.trans y2, x3.trans y3, x4.trans y4⟩
      · refine ⟨by rw [q4, if_pos rfl]; exact a1', MCh.move (s := 2 * l + 1) (μ := μ) _ (fun j hj => ?_) b1⟩
        obtain ⟨x1, x2, x3, x4⟩ := q6 j hj
        obtain ⟨y1, y2, y3, y4⟩ := g5 (64 * (2 * l + 1) + j) (by omega)
        exact ⟨x1.trans y1, x2.trans y2, x3.trans y3, x4.trans y4⟩
theorem cpl_sz (L : LC) (l o : Nat) : szL (cpl L l o) l = szL L o := by unfold szL; rw [show cpl L l o l 0 = L o 0 from if_pos rfl, show cpl L l o l 1 = L o 1 from if_pos rfl]
theorem cpl_n (L : LC) {l o m : Nat} (h : m ≠ l) : szL (cpl L l o) m = szL L m := by unfold szL; rw [show cpl L l o m 0 = L m 0 from if_neg h, show cpl L l o m 1 = L m 1 from if_neg h]
theorem E_copies_ok (n : Nat) : E_copies (RR n) (RR (n + 1)) := by
  intro σ μ x1 x2 h
  have h0 := h.stay (nI 0)
  obtain ⟨ρ, L, w, reb, Z, hR, hL, hZ, hX, hM, hw, hr⟩ := h
  rcases isL x1 with ⟨a1, b1⟩ | ⟨l, hl, rfl, a1, b1⟩
  · exact ⟨-1, σ, _, by unfold X_copies; simp only [a1, Option.bind_some, n10, n00, n20, if_false, if_true, and_self, Nat.reduceAdd, Nat.reduceLeDiff], by unfold M_copies; simp only [b1, Option.bind_some, n10, n00, n20, if_false, if_true, and_self, Nat.reduceAdd, Nat.reduceLeDiff], h0⟩
  rcases isL x2 with ⟨a2, b2⟩ | ⟨o, ho, rfl, a2, b2⟩
  · exact ⟨-1, σ, _, by unfold X_copies; simp only [a1, a2, Option.bind_some, n10, n00, n20, if_false, if_true, and_self, Nat.reduceAdd, Nat.reduceLeDiff], by unfold M_copies; simp only [b1, b2, Option.bind_some, n10, n00, n20, if_false, if_true, and_self, Nat.reduceAdd, Nat.reduceLeDiff], h0⟩
  have cl : (nI l).toNatClampNeg = l := nI_clamp (by omega)
  have dl : ¬ (nI l < 0 ∨ 4 ≤ l) := by rw [zN_lt0 (by omega), false_or]; omega
  have co : (nI o).toNatClampNeg = o := nI_clamp (by omega)
  have do_ : ¬ (nI o < 0 ∨ 4 ≤ o) := by rw [zN_lt0 (by omega), false_or]; omega
  have hM0 := hM.q (MU.sI μ (k := 0) (.inl rfl) (nI 0))
  by_cases hlo : l = o
  · have hq : (nI l = nI o) = True := eq_true (by rw [hlo])
    exact ⟨-2, σ, _, by unfold X_copies; simp only [a1, a2, hq, Option.bind_some, n10, n00, n20, if_false, if_true, and_self, Nat.reduceAdd, Nat.reduceLeDiff], by unfold M_copies; simp only [b1, b2, hq, Option.bind_some, n10, n00, n20, if_false, if_true, and_self, Nat.reduceAdd, Nat.reduceLeDiff], h0⟩
  · have hq : (nI l = nI o) = False := eq_false (fun z => hlo ((nI_eq (by omega) (by omega)).mp z))
    obtain ⟨σ1, p1, p2, p3, -⟩ := X_be_ok (k' := 4) hX (show o < 5 by omega) hl (fun z => hlo z.symm) (fun _ q _ => q) (by decide) (by decide)
    obtain ⟨μ1, q1, q2, -⟩ := M_copy_ok (k' := 4) hM0 hL (by decide) hl (show o < 5 by omega) hlo (fun _ q _ => q)
    have hL1 := LOK_cpl (l := o) (k' := 4) hL hl (fun _ q _ => q)
    have s3 := X_sz p2 ho
    have s4 := M_size_ok q2 (by decide) hl
    rw [cpl_sz] at s3
    rw [cpl_n _ hlo] at s4
    exact ⟨nI (szL L l), σ1, μ1, by unfold X_copies; simp only [a1, a2, hq, cl, dl, co, do_, p1, s3, Option.bind_some, n10, n00, n20, if_false, if_true, and_self, Nat.reduceAdd, Nat.reduceLeDiff], by unfold M_copies; simp only [b1, b2, hq, q1, s4, Option.bind_some, n10, n00, n20, if_false, if_true, and_self, Nat.reduceAdd, Nat.reduceLeDiff], ρ, _, w, reb, Z, hR, by rw [p3]; exact hL1, hZ, p2, q2, by omega, by omega⟩
