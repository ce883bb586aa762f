set_option maxRecDepth 100000
/-! finds -/
/-- so many hits below t, the first of them -/
def fdH (b : Nat → Bool) : Nat → Int32 × Nat
  | 0 => (-1, 0)
  | t + 1 => if b t = true then (if (fdH b t).2 = 0 then nI t else (fdH b t).1, (fdH b t).2 + 1) else fdH b t
/-- so many hits from t on, the first of them -/
def fdG (b : Nat → Bool) : Nat → Nat → Int32 × Nat
  | _, 0 => (-1, 0)
  | t, d + 1 => if b t = true then (nI t, (fdG b (t + 1) d).2 + 1) else fdG b (t + 1) d
theorem fdH_0 (b : Nat → Bool) : ∀ t, (fdH b t).2 = 0 → (fdH b t).1 = -1
  | 0, _ => rfl
  | t + 1, h => by
    unfold fdH at h ⊢
    split
    · next hb => rw [if_pos hb] at h; exact absurd h (Nat.succ_ne_zero _)
    · next hb => rw [if_neg hb] at h; exact fdH_0 b t h
theorem fd_comb (b : Nat → Bool) : ∀ d t, ((if (fdH b t).2 = 0 then (fdG b t d).1 else (fdH b t).1), (fdH b t).2 + (fdG b t d).2) = fdH b (t + d)
  | 0, t => by
    show (if (fdH b t).2 = 0 then (-1 : Int32) else (fdH b t).1, (fdH b t).2) = fdH b t
    split
    · next h => rw [← fdH_0 b t h]
    · rfl
  | d + 1, t => by
    have ih := fd_comb b d (t + 1)
    rw [show t + (d + 1) = t + 1 + d by omega, ← ih]
    have e1 : fdG b t (d + 1) = if b t = true then (nI t, (fdG b (t + 1) d).2 + 1) else fdG b (t + 1) d := rfl
    have e2 : fdH b (t + 1) = if b t = true then (if (fdH b t).2 = 0 then nI t else (fdH b t).1, (fdH b t).2 + 1) else fdH b t := rfl
    rw [e1, e2]
    by_cases hb : b t = true
    · rw [if_pos hb, if_pos hb, if_neg (Nat.succ_ne_zero _)]
      refine Prod.ext rfl ?_
      show (fdH b t).2 + ((fdG b (t + 1) d).2 + 1) = (fdH b t).2 + 1 + (fdG b (t + 1) d).2
      omega
    · rw [if_neg hb, if_neg hb]
theorem fd_eq (b : Nat → Bool) (m : Nat) : fdG b 0 m = fdH b m := by
  have := fd_comb b m 0
  rw [Nat.zero_add] at this
  rw [← this, if_pos (show (fdH b 0).2 = 0 from rfl), show (fdH b 0).2 = 0 from rfl, Nat.zero_add]
theorem fdH_le (b : Nat → Bool) : ∀ t, (fdH b t).2 ≤ t
  | 0 => Nat.le_refl _
  | t + 1 => by
    have := fdH_le b t
    unfold fdH
    split
    · show (fdH b t).2 + 1 ≤ t + 1; omega
    · omega
theorem fdG_le (b : Nat → Bool) : ∀ d t, (fdG b t d).2 ≤ d
  | 0, _ => Nat.le_refl _
  | d + 1, t => by
    have := fdG_le b d (t + 1)
    unfold fdG
    split
    · show (fdG b (t + 1) d).2 + 1 ≤ d + 1; omega
    · omega
/-- a piece comes to p and q -/
def hitB (ρ : RC) (its : List Nat) (p q : Int32) (w i : Nat) : Bool := decide (lg_cmp (fo ρ (seg its i w)).1 p.toInt64 = 0 ∧ lg_cmp (fo ρ (seg its i w)).2 q.toInt64 = 0)
theorem X_finds_in {ρ : RC} {L : LC} {w l win : Nat} {reb : Int32} {Z : ZZ} {p q : Int32} (hR : RV ρ) (h64 : (itemsOf L l).length ≤ 64) (h9 : ∀ v ∈ itemsOf L l, v ≤ 9999) (hw1 : 1 ≤ win) (hwn : win ≤ szL L l) (k34 : Int32 → Int32 → Int32 → Int32 → XS → Nat → Nat → Option (Int32 × XS)) (u u' : Nat) : ∀ (d i f : Nat) (σ : XS), i + win + d = szL L l + 1 → d < f → XR 4 ρ L w reb Z σ → LOK 4 L (xN σ) w → R0 σ (itemsOf L l) → ∃ σ', XR 4 ρ L w reb Z σ' ∧ xN σ' = xN σ ∧ R0 σ' (itemsOf L l) ∧ X_finds_50 k34 f p q (nI (szL L l)) (nI win) (fdH (hitB ρ (itemsOf L l) p q win) i).1 (nI (fdH (hitB ρ (itemsOf L l) p q win) i).2) (nI i) σ u u' = if (fdH (hitB ρ (itemsOf L l) p q win) (szL L l + 1 - win)).2 = 0 then k34 p q (nI (szL L l)) (nI (win + 1)) σ' u u' else (X_tells (fdH (hitB ρ (itemsOf L l) p q win) (szL L l + 1 - win)).1.toInt64 (zI σ' 5 (nI 0))).bind fun q5 => (X_tells (nI (fdH (hitB ρ (itemsOf L l) p q win) (szL L l + 1 - win)).2).toInt64 q5).bind fun q6 => some (nI win, q6) := by
  have hil := items_len L l
  intro d
  induction d with
  | zero =>
    intro i f σ hi hf hX hL h0
    obtain ⟨f, rfl⟩ : ∃ z, f = z + 1 := ⟨f - 1, by omega⟩
    have hi : szL L l + 1 - win = i := by omega
    rw [hi]
    have hle := fdH_le (hitB ρ (itemsOf L l) p q win) i
    refine ⟨σ, hX, rfl, h0, ?_⟩
    generalize fdH (hitB ρ (itemsOf L l) p q win) i = H at hle
    show (if nI (szL L l) < nI i + nI win then (if nI H.2 = 0 then k34 p q (nI (szL L l)) (nI win + nI 1) σ u u' else _) else _) = _
    rw [nI_add, if_pos ((nI_ltI (by omega) (by omega)).mpr (by omega)), nI_add]
    by_cases hz : H.2 = 0
    · rw [if_pos hz, if_pos (by rw [hz]; rfl)]
    · rw [if_neg hz, if_neg (nI_ne0 (by omega) (by omega))]
  | succ d ih =>
    intro i f σ hi hf hX hL h0
    obtain ⟨f, rfl⟩ : ∃ z, f = z + 1 := ⟨f - 1, by omega⟩
    obtain ⟨σ2, f1, f2, f3⟩ := X_folds_ok hR h9 h64 (i := i) (m := win) (by omega) hX.2.1 hX.n3 h0
    have hX2 := hX.t hL f2
    obtain ⟨σ3, g1, g2, g3, g4⟩ := ih (i + 1) f σ2 (by omega) (by omega) hX2 (hL.t f2) (h0.t f2)
    refine ⟨σ3, g1, g2.trans f2.2.2.2.1, g3, ?_⟩
    rw [← g4]
    have hP : rP (xC σ2 2) = (fo ρ (seg (itemsOf L l) i win)).1 := by rw [← f3]; rfl
    have hQ : rQ (xC σ2 2) = (fo ρ (seg (itemsOf L l) i win)).2 := by rw [← f3]; rfl
    have hle := fdH_le (hitB ρ (itemsOf L l) p q win) i
    have e2 : fdH (hitB ρ (itemsOf L l) p q win) (i + 1) = if hitB ρ (itemsOf L l) p q win i = true then (if (fdH (hitB ρ (itemsOf L l) p q win) i).2 = 0 then nI i else (fdH (hitB ρ (itemsOf L l) p q win) i).1, (fdH (hitB ρ (itemsOf L l) p q win) i).2 + 1) else fdH (hitB ρ (itemsOf L l) p q win) i := rfl
    rw [e2]
    have hb : (hitB ρ (itemsOf L l) p q win i = true) ↔ (lg_cmp (fo ρ (seg (itemsOf L l) i win)).1 p.toInt64 = 0 ∧ lg_cmp (fo ρ (seg (itemsOf L l) i win)).2 q.toInt64 = 0) := decide_eq_true_iff
    generalize fdH (hitB ρ (itemsOf L l) p q win) i = H at hle
    have h3 : 2 < xN σ2 := by have := hX2.n3; omega
    show (if nI (szL L l) < nI i + nI win then _ else ((X_folds_r0 2 (nI i) (nI i + nI win) σ).bind fun q7 => (if 2 < xN q7 then (if (lg_cmp (rP (xC q7 2)) (p.toInt64)) = 0 then (if 2 < xN q7 then (if (lg_cmp (rQ (xC q7 2)) (q.toInt64)) = 0 then (if nI H.2 = 0 then X_finds_50 k34 f p q (nI (szL L l)) (nI win) (nI i) (nI H.2 + nI 1) (nI i + nI 1) q7 u u' else X_finds_50 k34 f p q (nI (szL L l)) (nI win) H.1 (nI H.2 + nI 1) (nI i + nI 1) q7 u u') else X_finds_50 k34 f p q (nI (szL L l)) (nI win) H.1 (nI H.2) (nI i + nI 1) q7 u u') else none) else X_finds_50 k34 f p q (nI (szL L l)) (nI win) H.1 (nI H.2) (nI i + nI 1) q7 u u') else none))) = _
    rw [nI_add, if_neg (fun z => absurd ((nI_ltI (by omega) (by omega)).mp z) (by omega)), f1, Option.bind_some, if_pos h3, hP, hQ, nI_add, nI_add]
    by_cases c1 : lg_cmp (fo ρ (seg (itemsOf L l) i win)).1 p.toInt64 = 0
    · by_cases c2 : lg_cmp (fo ρ (seg (itemsOf L l) i win)).2 q.toInt64 = 0
      · rw [if_pos c1, if_pos h3, if_pos c2, if_pos (hb.mpr ⟨c1, c2⟩)]
        by_cases hz : H.2 = 0
        · rw [if_pos (show nI H.2 = 0 by rw [hz]; rfl)]
          show _ = X_finds_50 k34 f p q (nI (szL L l)) (nI win) (if H.2 = 0 then nI i else H.1) (nI (H.2 + 1)) (nI (i + 1)) σ2 u u'
          rw [if_pos hz]
        · rw [if_neg (show ¬ nI H.2 = 0 from nI_ne0 (by omega) (by omega))]
          show _ = X_finds_50 k34 f p q (nI (szL L l)) (nI win) (if H.2 = 0 then nI i else H.1) (nI (H.2 + 1)) (nI (i + 1)) σ2 u u'
          rw [if_neg hz]
      · rw [if_pos c1, if_pos h3, if_neg c2, if_neg (fun z => c2 (hb.mp z).2)]
    · rw [if_neg c1, if_neg (fun z => c1 (hb.mp z).1)]
theorem M_finds_in {ρ : RC} {L : LC} {w l win : Nat} {reb : Int32} {Z : ZZ} {p q : Int32} (hR : RV ρ) (hl : l < 4) (hs : szL L l ≤ 64) (h9 : ∀ v ∈ itemsOf L l, v ≤ 9999) (hw1 : 1 ≤ win) (hwn : win ≤ szL L l) (k24 : Int32 → Int32 → Int32 → Int32 → Int32 → MS → Option (Int32 × MS)) : ∀ (j d f : Nat) (μ : MS), j + d = szL L l + 1 - win → j < f → MR 4 ρ L w reb Z μ → ∃ μ', MR 4 ρ L w reb Z μ' ∧ M_finds_44 k24 f (nI l) p q (nI (szL L l)) (nI win) (fdG (hitB ρ (itemsOf L l) p q win) j d).1 (nI (fdG (hitB ρ (itemsOf L l) p q win) j d).2) (nI j - nI 1) μ = if (fdG (hitB ρ (itemsOf L l) p q win) 0 (szL L l + 1 - win)).2 = 0 then k24 (nI l) p q (nI (szL L l)) (nI (win + 1)) μ' else (M_enters (fdG (hitB ρ (itemsOf L l) p q win) 0 (szL L l + 1 - win)).1.toInt64 (sI μ' 1 (nI 0))).bind fun q3 => (M_enters (nI (fdG (hitB ρ (itemsOf L l) p q win) 0 (szL L l + 1 - win)).2).toInt64 q3).bind fun q4 => some (nI win, q4) := by
  have hil := items_len L l
  intro j
  induction j with
  | zero =>
    intro d f μ hd hf hM
    obtain ⟨f, rfl⟩ : ∃ z, f = z + 1 := ⟨f - 1, by omega⟩
    have hd : szL L l + 1 - win = d := by omega
    rw [hd]
    have hle := fdG_le (hitB ρ (itemsOf L l) p q win) d 0
    refine ⟨μ, hM, ?_⟩
    generalize fdG (hitB ρ (itemsOf L l) p q win) 0 d = H at hle
    show (if nI 0 - nI 1 < 0 then (if nI H.2 ≤ 0 then k24 (nI l) p q (nI (szL L l)) (nI win + nI 1) μ else _) else _) = _
    rw [if_pos m1_n, nI_add]
    by_cases hz : H.2 = 0
    · rw [if_pos hz, if_pos (by rw [hz]; decide)]
    · rw [if_neg hz, if_neg (nI_nle (by omega) (by omega))]
  | succ j ih =>
    intro d f μ hd hf hM
    obtain ⟨f, rfl⟩ : ∃ z, f = z + 1 := ⟨f - 1, by omega⟩
    obtain ⟨μ1, m1, m2, m3, m4⟩ := M_sums_ok hR (show l < 5 by omega) hs h9 (i := j) (m := win) (by omega) hM.1 (hM.ln hl)
    obtain ⟨μ2, g1, g2⟩ := ih (d + 1) f μ1 (by omega) (by omega) (hM.v m2)
    refine ⟨μ2, g1, ?_⟩
    rw [← g2]
    have e2 : fdG (hitB ρ (itemsOf L l) p q win) j (d + 1) = if hitB ρ (itemsOf L l) p q win j = true then (nI j, (fdG (hitB ρ (itemsOf L l) p q win) (j + 1) d).2 + 1) else fdG (hitB ρ (itemsOf L l) p q win) (j + 1) d := rfl
    rw [e2]
    have hb : (hitB ρ (itemsOf L l) p q win j = true) ↔ (lg_cmp (fo ρ (seg (itemsOf L l) j win)).1 p.toInt64 = 0 ∧ lg_cmp (fo ρ (seg (itemsOf L l) j win)).2 q.toInt64 = 0) := decide_eq_true_iff
    generalize fdG (hitB ρ (itemsOf L l) p q win) (j + 1) d = H
    have f0 : M_flag (nI 0) = some (nI 0) := rfl
    have f1 : M_flag (nI 1) = some (nI 1) := rfl
    rw [m1_s]
    show (if nI j < 0 then _ else ((M_sums (nI l) (nI j) (nI win) μ).bind fun q5 => (if (lg_cmp (gL q5 0) (p.toInt64)) = 0 then (if (lg_cmp (gL q5 1) (q.toInt64)) = 0 then ((M_flag (nI 1)).bind fun q6 => M_finds_44 k24 f (nI l) p q (nI (szL L l)) (nI win) (nI j) (nI H.2 + q6) (nI j + (-1 : Int32)) q5) else ((M_flag (nI 0)).bind fun q6 => M_finds_44 k24 f (nI l) p q (nI (szL L l)) (nI win) H.1 (nI H.2 + q6) (nI j + (-1 : Int32)) q5)) else ((M_flag (nI 0)).bind fun q6 => M_finds_44 k24 f (nI l) p q (nI (szL L l)) (nI win) H.1 (nI H.2 + q6) (nI j + (-1 : Int32)) q5)))) = _
    rw [if_neg (nI_pos (by omega)), m1, Option.bind_some, m3, m4, f0, f1, Option.bind_some, Option.bind_some, nI_add, nI_add, m1_e, Nat.add_zero]
    by_cases c1 : lg_cmp (fo ρ (seg (itemsOf L l) j win)).1 p.toInt64 = 0
    · by_cases c2 : lg_cmp (fo ρ (seg (itemsOf L l) j win)).2 q.toInt64 = 0
      · rw [if_pos c1, if_pos c2, if_pos (hb.mpr ⟨c1, c2⟩)]
      · rw [if_pos c1, if_neg c2, if_neg (fun z => c2 (hb.mp z).2)]; rfl
    · rw [if_neg c1, if_neg (fun z => c1 (hb.mp z).1)]; rfl
theorem finds_out {ρ : RC} {L : LC} {w l : Nat} {reb : Int32} {Z : ZZ} {p q : Int32} (hR : RV ρ) (hl : l < 4) (h64 : (itemsOf L l).length ≤ 64) (h9 : ∀ v ∈ itemsOf L l, v ≤ 9999) (hZ : ZW Z) (u u' : Nat) : ∀ (d win f g : Nat) (σ : XS) (μ : MS), 1 ≤ win → win + d = szL L l + 1 → d < f → d < g → XR 4 ρ L w reb Z σ → MR 4 ρ L w reb Z μ → LOK 4 L (xN σ) w → R0 σ (itemsOf L l) → ∃ (r : Int32) (σ' : XS) (μ' : MS) (row : List Int64), X_finds_34 f p q (nI (szL L l)) (nI win) σ u u' = some (r, σ') ∧ M_finds_24 g (nI l) p q (nI (szL L l)) (nI win) μ = some (r, μ') ∧ XR 4 ρ L w reb (zr Z row) σ' ∧ MR 4 ρ L w reb (zr Z row) μ' ∧ xN σ' = xN σ ∧ row.length ≤ 128 := by
  have hil := items_len L l
  intro d
  induction d with
  | zero =>
    intro win f g σ μ hw1 hd hf hg hX hM hL h0
    obtain ⟨f, rfl⟩ : ∃ z, f = z + 1 := ⟨f - 1, by omega⟩
    obtain ⟨g, rfl⟩ : ∃ z, g = z + 1 := ⟨g - 1, by omega⟩
    refine ⟨-2, σ, μ, Z.2.2.1, ?_, ?_, hX, hM, rfl, hZ.2.2⟩
    · exact if_pos ((nI_ltI (by omega) (by omega)).mpr (by omega))
    · exact if_pos ((nI_ltI (by omega) (by omega)).mpr (by omega))
  | succ d ih =>
    intro win f g σ μ hw1 hd hf hg hX hM hL h0
    obtain ⟨f, rfl⟩ : ∃ z, f = z + 1 := ⟨f - 1, by omega⟩
    obtain ⟨g, rfl⟩ : ∃ z, g = z + 1 := ⟨g - 1, by omega⟩
    obtain ⟨σ1, a1, a2, a3, a4⟩ := X_finds_in (p := p) (q := q) hR h64 h9 hw1 (by omega) (X_finds_34 f) u u' (szL L l + 1 - win) 0 FU σ (by omega) (by unfold FU; omega) hX hL h0
    obtain ⟨μ1, b1, b2⟩ := M_finds_in (p := p) (q := q) hR hl (by omega) h9 hw1 (by omega) (M_finds_24 g) (szL L l + 1 - win) 0 FU μ (by omega) (by unfold FU; omega) hM
    rw [fd_eq] at b2
    have hxd : X_finds_34 (f + 1) p q (nI (szL L l)) (nI win) σ u u' = X_finds_50 (X_finds_34 f) FU p q (nI (szL L l)) (nI win) (-1) (nI 0) (nI 0) σ u u' := if_neg (fun z => absurd ((nI_ltI (by omega) (by omega)).mp z) (by omega))
    have hmd : M_finds_24 (g + 1) (nI l) p q (nI (szL L l)) (nI win) μ = M_finds_44 (M_finds_24 g) FU (nI l) p q (nI (szL L l)) (nI win) (-1) (nI 0) (nI (szL L l + 1 - win) - nI 1) μ := by
      show (if nI (szL L l) < nI win then _ else M_finds_44 (M_finds_24 g) FU (nI l) p q (nI (szL L l)) (nI win) (-1) (nI 0) (nI (szL L l) - nI win) μ) = _
      rw [if_neg (fun z => absurd ((nI_ltI (by omega) (by omega)).mp z) (by omega)), pk_sub (by omega), pk_sub (by omega)]
      congr 2; omega
    have a4 : X_finds_50 (X_finds_34 f) FU p q (nI (szL L l)) (nI win) (-1) (nI 0) (nI 0) σ u u' = _ := a4
    have b2 : M_finds_44 (M_finds_24 g) FU (nI l) p q (nI (szL L l)) (nI win) (-1) (nI 0) (nI (szL L l + 1 - win) - nI 1) μ = _ := b2
    rw [hxd, hmd, a4, b2]
    by_cases hz : (fdH (hitB ρ (itemsOf L l) p q win) (szL L l + 1 - win)).2 = 0
    · rw [if_pos hz, if_pos hz]
      obtain ⟨r, σ', μ', row, g1, g2, g3, g4, g5, g6⟩ := ih (win + 1) f g σ1 μ1 (by omega) (by omega) (by omega) (by omega) a1 b1 (by rw [a2]; exact hL) a3
      exact ⟨r, σ', μ', row, g1, g2, g3, g4, g5.trans a2, g6⟩
    · rw [if_neg hz, if_neg hz]
      obtain ⟨t1, t2⟩ := X_tells_ok (X_reset a1) (r := []) (by decide) (fdH (hitB ρ (itemsOf L l) p q win) (szL L l + 1 - win)).1.toInt64
      obtain ⟨t3, t4⟩ := X_tells_ok t2 (by show 1 < 128; decide) (nI (fdH (hitB ρ (itemsOf L l) p q win) (szL L l + 1 - win)).2).toInt64
      obtain ⟨e1, e2⟩ := M_enters_ok (M_reset b1) (r := []) (by decide) (fdH (hitB ρ (itemsOf L l) p q win) (szL L l + 1 - win)).1.toInt64
      obtain ⟨e3, e4⟩ := M_enters_ok e2 (by show 1 < 160; decide) (nI (fdH (hitB ρ (itemsOf L l) p q win) (szL L l + 1 - win)).2).toInt64
      refine ⟨nI win, _, _, _, ?_, ?_, t4, e4, a2, by show 2 ≤ 128; decide⟩
      · rw [t1, Option.bind_some, t3, Option.bind_some]
      · rw [e1, Option.bind_some, e3, Option.bind_some]
theorem E_finds_ok (n : Nat) : E_finds (RR n) (RR (n + 1)) := by
  intro σ μ x1 x2 x3 h
  have h0 := h.stay (nI 0)
  obtain ⟨ρ, L, w, reb, Z, hR, hL, hZ, hX, hM, hw, hr⟩ := h
  have hM0 := hM.q (MU.sI μ (k := 0) (.inl rfl) (nI 0))
  rcases isL x1 with ⟨a1, b1⟩ | ⟨l, hl, rfl, a1, b1⟩
  · exact ⟨-1, σ, _, by unfold X_finds; simp only [a1, obs, n10, n00, n20, if_false, if_true, and_self, Nat.reduceAdd, Nat.reduceLeDiff], by unfold M_finds; simp only [b1, obs, n10, n00, n20, if_false, if_true, and_self, Nat.reduceAdd, Nat.reduceLeDiff], h0⟩
  have cl : (nI l).toNatClampNeg = l := nI_clamp (by omega)
  have dl : ¬ (nI l < 0 ∨ 4 ≤ l) := by rw [zN_lt0 (by omega), false_or]; omega
  obtain ⟨h64, h9, hs64⟩ := its9 hL hl
  obtain ⟨σ1, p1, p2, p3, p4, -⟩ := hX.lay0 hL hl
  have s2 := M_size_ok hM0 (by decide) hl
  obtain ⟨r, σ', μ', row, g1, g2, g3, g4, g5, g6⟩ := finds_out (p := x2) (q := x3) hR hl h64 h9 hZ (0 + 6) (0 + 150) (szL L l) 1 FU FU σ1 (sI μ 0 (nI 0)) (by omega) (by omega) (by unfold FU; omega) (by unfold FU; omega) p2 hM0 (by rw [p3]; exact hL) (fun t ht => p4 t ht)
  have hx : X_finds (nI l) x2 x3 σ = some (r, σ') := by
    unfold X_finds
    rw [a1, obs, if_neg (show ¬ nI 1 = 0 by decide), if_neg (by rw [cl]; exact dl), if_pos ⟨by decide, by decide⟩, cl, p1, obs]
    exact g1
  have hm : M_finds (nI l) x2 x3 μ = some (r, μ') := by
    unfold M_finds
    rw [b1, obs, if_neg (show ¬ nI 1 = 0 by decide), s2, obs]
    exact g2
  exact ⟨r, σ', μ', hx, hm, RR.fin hR hL hZ hw hr g6 g3 g4 (g5.trans p3)⟩
