set_option maxRecDepth 100000
/-! longest -/
/-- the pairs (place, length) that were looked at -/
def InS (n i t i' m : Nat) : Prop := 1 ≤ m ∧ i' + m ≤ n ∧ (i' < i ∨ (i' = i ∧ m ≤ t))
/-- the longest of them, the first of those -/
def Best (P : Nat → Nat → Prop) (n i t m : Nat) (a : Int32) : Prop := (m = 0 ∧ a = -1 ∧ ∀ i' m', InS n i t i' m' → ¬ P i' m') ∨ (∃ j, a = nI j ∧ InS n i t j m ∧ P j m ∧ (∀ i' m', InS n i t i' m' → m < m' → ¬ P i' m') ∧ ∀ i', i' < j → ¬ P i' m)
theorem Best.no {P : Nat → Nat → Prop} {n i t m : Nat} {a : Int32} (h : Best P n i t m a) (hp : ¬ P i (t + 1)) : Best P n i (t + 1) m a := by
  rcases h with ⟨h1, h2, h3⟩ | ⟨j, h1, h2, h3, h4, h5⟩
  · refine .inl ⟨h1, h2, fun i' m' hs => ?_⟩
    obtain ⟨s1, s2, s3⟩ := hs
    by_cases hh : i' = i ∧ m' = t + 1
    · rw [hh.1, hh.2]; exact hp
    · exact h3 i' m' ⟨s1, s2, by omega⟩
  · refine .inr ⟨j, h1, ⟨h2.1, h2.2.1, by have := h2.2.2; omega⟩, h3, fun i' m' hs hm => ?_, h5⟩
    obtain ⟨s1, s2, s3⟩ := hs
    by_cases hh : i' = i ∧ m' = t + 1
    · rw [hh.1, hh.2]; exact hp
    · exact h4 i' m' ⟨s1, s2, by omega⟩ hm
theorem Best.old {P : Nat → Nat → Prop} {n i t m : Nat} {a : Int32} (h : Best P n i t m a) (hm : t + 1 ≤ m) : Best P n i (t + 1) m a := by
  rcases h with ⟨h1, h2, h3⟩ | ⟨j, h1, h2, h3, h4, h5⟩
  · omega
  · refine .inr ⟨j, h1, ⟨h2.1, h2.2.1, by have := h2.2.2; omega⟩, h3, fun i' m' hs hm => ?_, h5⟩
    obtain ⟨s1, s2, s3⟩ := hs
    exact h4 i' m' ⟨s1, s2, by omega⟩ hm
theorem Best.new {P : Nat → Nat → Prop} {n i t m : Nat} {a : Int32} (h : Best P n i t m a) (hm : m < t + 1) (hp : P i (t + 1)) (hn : i + (t + 1) ≤ n) : Best P n i (t + 1) (t + 1) (nI i) := by
  have hall : ∀ i' m', InS n i t i' m' → m < m' → ¬ P i' m' := by
    rcases h with ⟨h1, h2, h3⟩ | ⟨j, h1, h2, h3, h4, h5⟩
    · exact fun i' m' hs _ => h3 i' m' hs
    · exact h4
  refine .inr ⟨i, rfl, ⟨by omega, hn, .inr ⟨rfl, Nat.le_refl _⟩⟩, hp, fun i' m' hs hm' => ?_, fun i' hi' => ?_⟩
  · obtain ⟨s1, s2, s3⟩ := hs
    exact hall i' m' ⟨s1, s2, by omega⟩ (by omega)
  · exact hall i' (t + 1) ⟨by omega, by omega, .inl hi'⟩ hm
theorem Best.next {P : Nat → Nat → Prop} {n i t m : Nat} {a : Int32} (h : Best P n i t m a) (ht : n ≤ i + t) : Best P n (i + 1) 0 m a := by
  have hS : ∀ i' m', InS n (i + 1) 0 i' m' → InS n i t i' m' := fun i' m' ⟨s1, s2, s3⟩ => ⟨s1, s2, by omega⟩
  rcases h with ⟨h1, h2, h3⟩ | ⟨j, h1, h2, h3, h4, h5⟩
  · exact .inl ⟨h1, h2, fun i' m' hs => h3 i' m' (hS _ _ hs)⟩
  · exact .inr ⟨j, h1, ⟨h2.1, h2.2.1, by have := h2.2.2; omega⟩, h3, fun i' m' hs => h4 i' m' (hS _ _ hs), h5⟩
/-- a piece's summary is at most v -/
def atM (ρ : RC) (its : List Nat) (v : Int32) (i m : Nat) : Prop := ¬ 0 < lg_cmp (fo ρ (seg its i m)).1 v.toInt64
theorem long_in {ρ : RC} {L : LC} {w l : Nat} {reb : Int32} {Z : ZZ} {v : Int32} (hR : RV ρ) (hl : l < 4) (h64 : (itemsOf L l).length ≤ 64) (h9 : ∀ v ∈ itemsOf L l, v ≤ 9999) (k39 : Int32 → Int32 → Int32 → Int32 → Int32 → XS → Nat → Nat → Option (Int32 × XS)) (u u' i : Nat) : ∀ (d t f m : Nat) (a : Int32) (σ : XS), i + t + d = szL L l → d < f → m ≤ 64 → XR 4 ρ L w reb Z σ → LOK 4 L (xN σ) w → R0 σ (itemsOf L l) → pr σ 2 = fo ρ (seg (itemsOf L l) i t) → Best (atM ρ (itemsOf L l) v) (szL L l) i t m a → ∃ (m' : Nat) (a' : Int32) (σ' : XS), X_longest_57 k39 f v (nI (szL L l)) (nI m) a (nI i) (nI (i + t)) σ u u' = k39 v (nI (szL L l)) (nI m') a' (nI (i + 1)) σ' u u' ∧ XR 4 ρ L w reb Z σ' ∧ xN σ' = xN σ ∧ R0 σ' (itemsOf L l) ∧ m' ≤ 64 ∧ Best (atM ρ (itemsOf L l) v) (szL L l) (i + 1) 0 m' a' := by
  have hil := items_len L l
  intro d
  induction d with
  | zero =>
    intro t f m a σ hi hf hm hX hL h0 hp hB
    obtain ⟨f, rfl⟩ : ∃ z, f = z + 1 := ⟨f - 1, by omega⟩
    refine ⟨m, a, σ, ?_, hX, rfl, h0, hm, hB.next (by omega)⟩
    show (if nI (szL L l) ≤ nI (i + t) then k39 v (nI (szL L l)) (nI m) a (nI i + nI 1) σ u u' else _) = _
    rw [if_pos (nI_le (by omega) (by omega)), nI_add]
  | succ d ih =>
    intro t f m a σ hi hf hm hX hL h0 hp hB
    obtain ⟨f, rfl⟩ : ∃ z, f = z + 1 := ⟨f - 1, by omega⟩
    obtain ⟨σ1, σ2, a1, a2, a3, a4⟩ := X_step_t hX.2.1 hR hX.n3 (h9 _ (gD_mem (show i + t < (itemsOf L l).length by omega))) hp (VD_fo hR _ (seg_mem h9))
    rw [← fo_s (ρ := ρ) (its := itemsOf L l) (i := i) (m := t) (by omega)] at a4
    have hX2 := hX.t hL a3
    have hd : X_longest_57 k39 (f + 1) v (nI (szL L l)) (nI m) a (nI i) (nI (i + t)) σ u u' = if 0 < lg_cmp (fo ρ (seg (itemsOf L l) i (t + 1))).1 v.toInt64 then X_longest_57 k39 f v (nI (szL L l)) (nI m) a (nI i) (nI (i + (t + 1))) σ2 u u' else (if nI m < nI (t + 1) then X_longest_57 k39 f v (nI (szL L l)) (nI (t + 1)) (nI i) (nI i) (nI (i + (t + 1))) σ2 u u' else X_longest_57 k39 f v (nI (szL L l)) (nI m) a (nI i) (nI (i + (t + 1))) σ2 u u') := by
      show (if nI (szL L l) ≤ nI (i + t) then _ else (if nI (i + t) < 0 ∨ 64 ≤ (nI (i + t)).toNatClampNeg then none else ((X_make 0 (xA σ 3 (nI (i + t)).toNatClampNeg) σ).bind fun q7 => ((X_join 2 2 0 q7).bind fun q8 => (if 2 < xN q8 then (if 0 < (lg_cmp (rP (xC q8 2)) (v.toInt64)) then X_longest_57 k39 f v (nI (szL L l)) (nI m) a (nI i) (nI (i + t) + nI 1) q8 u u' else (if nI m < ((nI (i + t) + (nI 1)) - nI i) then X_longest_57 k39 f v (nI (szL L l)) ((nI (i + t) + (nI 1)) - nI i) (nI i) (nI i) (nI (i + t) + nI 1) q8 u u' else X_longest_57 k39 f v (nI (szL L l)) (nI m) a (nI i) (nI (i + t) + nI 1) q8 u u')) else none))))) = _
      rw [if_neg (nI_ge (by omega) (by omega)), if_neg (nI_in (by omega) (by decide)), nI_clamp (by omega), h0 _ (by omega), a1, Option.bind_some, a2, Option.bind_some, if_pos (by have := hX2.n3; omega), nI_add, show nI (i + t + 1) - nI i = nI (t + 1) by rw [pk_sub (by omega)]; congr 1; omega, show rP (xC σ2 2) = (fo ρ (seg (itemsOf L l) i (t + 1))).1 by rw [← a4]; rfl, Nat.add_assoc]
    rw [hd]
    by_cases hc : 0 < lg_cmp (fo ρ (seg (itemsOf L l) i (t + 1))).1 v.toInt64
    · rw [if_pos hc]
      obtain ⟨m', a', σ', g1, g2, g3, g4, g5, g6⟩ := ih (t + 1) f m a σ2 (by omega) (by omega) hm hX2 (hL.t a3) (h0.t a3) a4 (hB.no (fun z => z hc))
      exact ⟨m', a', σ', g1, g2, g3.trans a3.2.2.2.1, g4, g5, g6⟩
    · rw [if_neg hc]
      by_cases hm2 : m < t + 1
      · rw [if_pos ((nI_ltI (by omega) (by omega)).mpr hm2)]
        obtain ⟨m', a', σ', g1, g2, g3, g4, g5, g6⟩ := ih (t + 1) f (t + 1) (nI i) σ2 (by omega) (by omega) (by omega) hX2 (hL.t a3) (h0.t a3) a4 (hB.new hm2 hc (by omega))
        exact ⟨m', a', σ', g1, g2, g3.trans a3.2.2.2.1, g4, g5, g6⟩
      · rw [if_neg (fun z => hm2 ((nI_ltI (by omega) (by omega)).mp z))]
        obtain ⟨m', a', σ', g1, g2, g3, g4, g5, g6⟩ := ih (t + 1) f m a σ2 (by omega) (by omega) hm hX2 (hL.t a3) (h0.t a3) a4 (hB.old (by omega))
        exact ⟨m', a', σ', g1, g2, g3.trans a3.2.2.2.1, g4, g5, g6⟩
theorem long_out {ρ : RC} {L : LC} {w l : Nat} {reb : Int32} {Z : ZZ} {v : Int32} (hR : RV ρ) (hl : l < 4) (h64 : (itemsOf L l).length ≤ 64) (h9 : ∀ v ∈ itemsOf L l, v ≤ 9999) (u u' : Nat) : ∀ (d i f m : Nat) (a : Int32) (σ : XS), i + d = szL L l → d < f → m ≤ 64 → XR 4 ρ L w reb Z σ → LOK 4 L (xN σ) w → R0 σ (itemsOf L l) → Best (atM ρ (itemsOf L l) v) (szL L l) i 0 m a → ∃ (m' : Nat) (a' : Int32) (σ' : XS), X_longest_39 f v (nI (szL L l)) (nI m) a (nI i) σ u u' = some (nI m', σ') ∧ XR 4 ρ L w reb (zr Z [a'.toInt64]) σ' ∧ xN σ' = xN σ ∧ m' ≤ 64 ∧ Best (atM ρ (itemsOf L l) v) (szL L l) (szL L l) 0 m' a' := by
  have hil := items_len L l
  intro d
  induction d with
  | zero =>
    intro i f m a σ hi hf hm hX hL h0 hB
    obtain ⟨f, rfl⟩ : ∃ z, f = z + 1 := ⟨f - 1, by omega⟩
    obtain ⟨t1, t2⟩ := X_tells_ok (X_reset hX) (r := []) (by decide) a.toInt64
    have hi : i = szL L l := by omega
    subst hi
    refine ⟨m, a, _, ?_, t2, rfl, hm, hB⟩
    show (if nI (szL L l) ≤ nI (szL L l) then ((X_tells a.toInt64 (zI σ 5 (nI 0))).bind fun q5 => some (nI m, q5)) else _) = _
    rw [if_pos (nI_le (by omega) (by omega)), t1]; rfl
  | succ d ih =>
    intro i f m a σ hi hf hm hX hL h0 hB
    obtain ⟨f, rfl⟩ : ∃ z, f = z + 1 := ⟨f - 1, by omega⟩
    obtain ⟨σ1, e1, e2, e3, -⟩ := X_empty_t hX.2.1 hR hX.n3 (i := 2) (by decide)
    obtain ⟨m1, a1, σ2, g1, g2, g3, g4, g5, g6⟩ := long_in hR hl h64 h9 (X_longest_39 f) u u' i (szL L l - i) 0 FU m a σ1 (by omega) (by unfold FU; omega) hm (hX.t hL e2) (hL.t e2) (h0.t e2) e3 hB
    have hn : xN σ2 = xN σ := g3.trans e2.2.2.2.1
    obtain ⟨m2, a2, σ3, k1, k2, k3, k4, k5⟩ := ih (i + 1) f m1 a1 σ2 (by omega) (by omega) g5 g2 (by rw [hn]; exact hL) g4 g6
    refine ⟨m2, a2, σ3, ?_, k2, k3.trans hn, k4, k5⟩
    rw [← k1, ← g1]
    show (if nI (szL L l) ≤ nI i then _ else ((X_empty 2 σ).bind fun q6 => X_longest_57 (X_longest_39 f) FU v (nI (szL L l)) (nI m) a (nI i) (nI i) q6 u u')) = _
    rw [if_neg (nI_ge (by omega) (by omega)), e1]; rfl
theorem M_long_in {ρ : RC} {L : LC} {w l : Nat} {reb : Int32} {Z : ZZ} {v : Int32} (hR : RV ρ) (hl : l < 4) (hs : szL L l ≤ 64) (h9 : ∀ v ∈ itemsOf L l, v ≤ 9999) (k28 : Int32 → Int32 → Int32 → Int32 → MS → Option (Int32 × MS)) {m : Nat} (hm : m + 1 ≤ szL L l) : ∀ (d i f : Nat) (μ : MS), i + d = szL L l - m → d < f → MR 4 ρ L w reb (zr Z []) μ → (∃ j μ' ν, i ≤ j ∧ j + (m + 1) ≤ szL L l ∧ atM ρ (itemsOf L l) v j (m + 1) ∧ (∀ i', i ≤ i' → i' < j → ¬ atM ρ (itemsOf L l) v i' (m + 1)) ∧ MR 4 ρ L w reb (zr Z []) μ' ∧ M_enters (nI j).toInt64 μ' = some ν ∧ MR 4 ρ L w reb (zr Z [(nI j).toInt64]) ν ∧ M_longest_36 k28 f (nI l) v (nI (szL L l)) (nI (m + 1)) (nI i) μ = some (nI (m + 1), ν)) ∨ (∃ μ', (∀ i', i ≤ i' → i' + (m + 1) ≤ szL L l → ¬ atM ρ (itemsOf L l) v i' (m + 1)) ∧ MR 4 ρ L w reb (zr Z []) μ' ∧ M_longest_36 k28 f (nI l) v (nI (szL L l)) (nI (m + 1)) (nI i) μ = k28 (nI l) v (nI (szL L l)) (nI m) μ') := by
  have hil := items_len L l
  intro d
  induction d with
  | zero =>
    intro i f μ hi hf hM
    obtain ⟨f, rfl⟩ : ∃ z, f = z + 1 := ⟨f - 1, by omega⟩
    right
    refine ⟨μ, fun i' h1 h2 => by omega, hM, ?_⟩
    show (if nI (szL L l) < nI i + nI (m + 1) then k28 (nI l) v (nI (szL L l)) (nI (m + 1) + (-1 : Int32)) μ else _) = _
    rw [nI_add, if_pos ((nI_ltI (by omega) (by omega)).mpr (by omega)), m1_e, m1_s]
  | succ d ih =>
    intro i f μ hi hf hM
    obtain ⟨f, rfl⟩ : ∃ z, f = z + 1 := ⟨f - 1, by omega⟩
    obtain ⟨μ1, m1, m2, m3, m4⟩ := M_sums_ok hR (show l < 5 by omega) hs h9 (i := i) (m := m + 1) (by omega) hM.1 (hM.ln hl)
    have hd : M_longest_36 k28 (f + 1) (nI l) v (nI (szL L l)) (nI (m + 1)) (nI i) μ = if 0 < lg_cmp (fo ρ (seg (itemsOf L l) i (m + 1))).1 v.toInt64 then M_longest_36 k28 f (nI l) v (nI (szL L l)) (nI (m + 1)) (nI (i + 1)) μ1 else ((M_enters (nI i).toInt64 μ1).bind fun q5 => some (nI (m + 1), q5)) := by
      show (if nI (szL L l) < nI i + nI (m + 1) then _ else ((M_sums (nI l) (nI i) (nI (m + 1)) μ).bind fun q4 => (if 0 < (lg_cmp (gL q4 0) (v.toInt64)) then M_longest_36 k28 f (nI l) v (nI (szL L l)) (nI (m + 1)) (nI i + nI 1) q4 else ((M_enters (nI i).toInt64 q4).bind fun q5 => some (nI (m + 1), q5))))) = _
      rw [nI_add, if_neg (fun z => absurd ((nI_ltI (by omega) (by omega)).mp z) (by omega)), m1, Option.bind_some, m3, nI_add]
    rw [hd]
    by_cases hc : 0 < lg_cmp (fo ρ (seg (itemsOf L l) i (m + 1))).1 v.toInt64
    · rw [if_pos hc]
      have hni : ¬ atM ρ (itemsOf L l) v i (m + 1) := fun z => z hc
      rcases ih (i + 1) f μ1 (by omega) (by omega) (hM.v m2) with ⟨j, μ', ν, g1, g2, g3, g4, g5, g6, g7, g8⟩ | ⟨μ', g1, g2, g3⟩
      · exact .inl ⟨j, μ', ν, by omega, g2, g3, fun i' h1 h2 => by
          by_cases hh : i' = i
          · rw [hh]; exact hni
          · exact g4 i' (by omega) h2, g5, g6, g7, g8⟩
      · exact .inr ⟨μ', fun i' h1 h2 => by
          by_cases hh : i' = i
          · rw [hh]; exact hni
          · exact g1 i' (by omega) h2, g2, g3⟩
    · rw [if_neg hc]
      obtain ⟨e1, e2⟩ := M_enters_ok (hM.v m2) (r := []) (by decide) (nI i).toInt64
      exact .inl ⟨i, μ1, _, Nat.le_refl _, by omega, hc, fun i' h1 h2 => by omega, hM.v m2, e1, e2, by rw [e1]; rfl⟩
theorem M_long_out {ρ : RC} {L : LC} {w l : Nat} {reb : Int32} {Z : ZZ} {v a : Int32} {mm : Nat} (hR : RV ρ) (hl : l < 4) (hs : szL L l ≤ 64) (h9 : ∀ v ∈ itemsOf L l, v ≤ 9999) (hB : Best (atM ρ (itemsOf L l) v) (szL L l) (szL L l) 0 mm a) : ∀ (m f : Nat) (μ : MS), mm ≤ m → m ≤ szL L l → m < f → MR 4 ρ L w reb (zr Z []) μ → ∃ (μ' : MS), M_longest_28 f (nI l) v (nI (szL L l)) (nI m) μ = some (nI mm, μ') ∧ MR 4 ρ L w reb (zr Z [a.toInt64]) μ' := by
  have hil := items_len L l
  intro m
  induction m with
  | zero =>
    intro f μ hm hn hf hM
    obtain ⟨f, rfl⟩ : ∃ z, f = z + 1 := ⟨f - 1, by omega⟩
    have h0 : mm = 0 := by omega
    subst h0
    rcases hB with ⟨-, h2, -⟩ | ⟨j, -, h2, -⟩
    · subst h2
      obtain ⟨e1, e2⟩ := M_enters_ok hM (r := []) (by decide) (-1 : Int64)
      refine ⟨_, ?_, e2⟩
      show (if nI 0 ≤ 0 then ((M_enters (-1 : Int64) μ).bind fun q3 => some (nI 0, q3)) else _) = _
      rw [if_pos (show nI 0 ≤ 0 by decide), e1]; rfl
    · have := h2.1; omega
  | succ m ih =>
    intro f μ hm hn hf hM
    obtain ⟨f, rfl⟩ : ∃ z, f = z + 1 := ⟨f - 1, by omega⟩
    have hd : M_longest_28 (f + 1) (nI l) v (nI (szL L l)) (nI (m + 1)) μ = M_longest_36 (M_longest_28 f) FU (nI l) v (nI (szL L l)) (nI (m + 1)) (nI 0) μ := by
      show (if nI (m + 1) ≤ 0 then _ else _) = _
      rw [if_neg (nI_nle (by omega) (by omega))]
    rw [hd]
    rcases M_long_in (v := v) hR hl hs h9 (M_longest_28 f) (m := m) hn (szL L l - m) 0 FU μ (by omega) (by unfold FU; omega) hM with ⟨j, μ', ν, g1, g2, g3, g4, g5, g6, g7, g8⟩ | ⟨μ', g1, g2, g3⟩
    · have hjS : InS (szL L l) (szL L l) 0 j (m + 1) := ⟨by omega, g2, by omega⟩
      rcases hB with ⟨-, -, h3⟩ | ⟨j', q1, q2, q3, q4, q5⟩
      · exact absurd g3 (h3 j (m + 1) hjS)
      · have hmm : mm = m + 1 := by
          by_cases hh : mm < m + 1
          · exact absurd g3 (q4 j (m + 1) hjS hh)
          · omega
        subst hmm
        have hjj : j' = j := by
          rcases Nat.lt_trichotomy j j' with h | h | h
          · exact absurd g3 (q5 j h)
          · exact h.symm
          · exact absurd q3 (g4 j' (by omega) h)
        subst hjj
        exact ⟨ν, g8, by rw [q1]; exact g7⟩
    · have hlt : mm ≤ m := by
        by_cases hh : mm = m + 1
        · rcases hB with ⟨q1, -⟩ | ⟨j', q1, q2, q3, q4, q5⟩
          · omega
          · subst hh
            exact absurd q3 (g1 j' (by omega) q2.2.1)
        · omega
      rw [g3]
      exact ih f μ' hlt (by omega) (by omega) g2
theorem E_longest_ok (n : Nat) : E_longest (RR n) (RR (n + 1)) := by
  intro σ μ x1 x2 h
  have h0 := h.stay (nI 0)
  obtain ⟨ρ, L, w, reb, Z, hR, hL, hZ, hX, hM, hw, hr⟩ := h
  have hM0 := hM.q (MU.sI μ (k := 0) (.inl rfl) (nI 0))
  rcases isL x1 with ⟨a1, b1⟩ | ⟨l, hl, rfl, a1, b1⟩
  · exact ⟨-1, σ, _, by unfold X_longest; simp only [a1, obs, n10, n00, n20, if_false, if_true, and_self, Nat.reduceAdd, Nat.reduceLeDiff], by unfold M_longest; simp only [b1, obs, n10, n00, n20, if_false, if_true, and_self, Nat.reduceAdd, Nat.reduceLeDiff], h0⟩
  have cl : (nI l).toNatClampNeg = l := nI_clamp (by omega)
  have dl : ¬ (nI l < 0 ∨ 4 ≤ l) := by rw [zN_lt0 (by omega), false_or]; omega
  obtain ⟨h64, h9, hs64⟩ := its9 hL hl
  obtain ⟨σ1, p1, p2, p3, p4, -⟩ := hX.lay0 hL hl
  have s2 := M_size_ok hM0 (by decide) hl
  obtain ⟨m, a, σ', g1, g2, g3, g4, g5⟩ := long_out (v := x2) hR hl h64 h9 (0 + 6) (0 + 150) (szL L l) 0 FU 0 (-1) σ1 (by omega) (by unfold FU; omega) (by decide) p2 (by rw [p3]; exact hL) (fun t ht => p4 t ht) (.inl ⟨rfl, rfl, fun i' m' ⟨s1, s2, s3⟩ => by omega⟩)
  have hmn : m ≤ szL L l := by
    rcases g5 with ⟨q, -⟩ | ⟨j, -, q, -⟩
    · omega
    · have := q.2.1; omega
  obtain ⟨μ', k1, k2⟩ := M_long_out hR hl hs64 h9 g5 (szL L l) FU (sI (sI μ 0 (nI 0)) 1 (nI 0)) hmn (Nat.le_refl _) (by unfold FU; omega) (M_reset hM0)
  have hx : X_longest (nI l) x2 σ = some (nI m, σ') := by
    unfold X_longest
    rw [a1, obs, if_neg (show ¬ nI 1 = 0 by decide), if_neg (by rw [cl]; exact dl), if_pos ⟨by decide, by decide⟩, cl, p1, obs]
    exact g1
  have hm : M_longest (nI l) x2 μ = some (nI m, μ') := by
    unfold M_longest
    rw [b1, obs, if_neg (show ¬ nI 1 = 0 by decide), s2, obs]
    exact k1
  exact ⟨nI m, σ', μ', hx, hm, RR.fin hR hL hZ hw hr (by show 1 ≤ 128; decide) g2 k2 (g3.trans p3)⟩
