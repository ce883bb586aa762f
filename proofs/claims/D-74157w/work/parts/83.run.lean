set_option maxRecDepth 100000
/-! run -/
theorem MF.acts {n : Nat} {μ μ' : MS} (h : MF n μ μ') (hn : n ≤ 10) : gA μ' 10 = gA μ 10 ∧ gA μ' 11 = gA μ 11 := ⟨h.2 10 hn, h.2 11 (by omega)⟩
theorem does_put {ρ : RC} {L : LC} {w l c v k : Nat} {reb : Int32} {Z : ZZ} {σ : XS} {μ : MS} (hR : RV ρ) (hl : l < 4) (hk : k < 100) (hc : c = 102 ∨ c = 98) (hv : v ≤ 9999) (hX : XR 4 ρ L w reb Z σ) (hM : MR 4 ρ L w reb Z μ) (hL : LOK 4 L (xN σ) w) (g1 : gA μ 10 k = nI c) (g2 : gA μ 11 k = nI v) : ∃ (g : Nat) (σ' : XS) (μ' : MS) (L' : LC) (w' : Nat) (reb' : Int32), g < 2 ∧ X_does l (nI c) (nI v) σ = some (nI g, σ') ∧ M_does (nI l) (nI k) μ = some (nI g, μ') ∧ XR 4 ρ L' w' reb' Z σ' ∧ MR 4 ρ L' w' reb' Z μ' ∧ LOK 4 L' (xN σ') w' ∧ w ≤ w' ∧ w' ≤ w + 65 ∧ MF 9 μ μ' := by
  have s1 := X_sz hX hl
  have s2 := M_size_ok hM (by decide) hl
  have hs64 : szL L l ≤ 64 := hL.2.1 l hl
  have hkc : (nI k).toNatClampNeg = k := nI_clamp (by omega)
  have hkd : ¬ (nI k < 0 ∨ 100 ≤ k) := nI_dn hk (by decide)
  have hxs : X_does l (nI c) (nI v) σ = X_does_36 l (nI c) (nI v) σ 0 0 := by
    unfold X_does
    rcases hc with rfl | rfl
    · rw [if_neg (by decide), if_pos rfl]
    · rw [if_pos rfl]
  have hms : M_does (nI l) (nI k) μ = M_does_40 (nI l) (nI k) μ := by
    unfold M_does
    rw [hkc, if_neg hkd, g1]
    rcases hc with rfl | rfl
    · rw [if_neg (by decide), if_pos rfl]
    · rw [if_pos rfl]
  rw [hxs, hms]
  unfold X_does_36 M_does_40
  rw [s1, obs, s2, obs]
  by_cases hf : szL L l = 64
  · rw [if_pos (by rw [hf]), if_pos (by rw [hf])]
    exact ⟨0, σ, μ, L, w, reb, by decide, rfl, rfl, hX, hM, hL, Nat.le_refl _, by omega, MF.refl _ _⟩
  · have hne : ¬ nI (szL L l) = nI 64 := fun z => hf ((nI_eq (by omega) (by decide)).mp z)
    rw [if_neg hne, if_neg hne, hkc, if_neg hkd, g1]
    have key : ∀ e : Nat, e < 2 → ∃ (σ' : XS) (μ' : MS), X_does_59 (nI v) (nI e) l σ 0 0 = some (nI 1, σ') ∧ M_does_72 (nI k) (nI e) (nI 2 * nI l) μ = some (nI 1, μ') ∧ XR 4 ρ (upL L l e ((xN σ, w, v) :: L l e)) (w + 1) reb Z σ' ∧ MR 4 ρ (upL L l e ((xN σ, w, v) :: L l e)) (w + 1) reb Z μ' ∧ LOK 4 (upL L l e ((xN σ, w, v) :: L l e)) (xN σ') (w + 1) ∧ MF 9 μ μ' := by
      intro e he
      obtain ⟨σ1, p1, p2, p3, -⟩ := X_put_ok (e := e) hR hL hX (by decide) hl he hv
      obtain ⟨μ1, q1, q2, q3, -⟩ := M_makes_ok (e := e) hR hM hL (by decide) hl he (by omega) hv
      have hs64' : szL L l < 64 := by omega
      unfold szL at hs64'
      have hL1 := hL.put (l := l) (e := e) hX.n3 hl he hs64' hv
      rw [← p3] at hL1
      have fe : M_flag (nI e) = some (nI e) := by rcases (show e = 0 ∨ e = 1 by omega) with rfl | rfl <;> rfl
      refine ⟨σ1, μ1, ?_, ?_, p2, q2, hL1, q3.up (by decide)⟩
      · unfold X_does_59
        rw [if_pos ⟨by decide, by decide⟩, p1, obs]
      · unfold M_does_72
        rw [fe, obs, hkc, if_neg hkd, g2, pk_mul, nI_add, q1, obs]
    rcases hc with rfl | rfl
    · obtain ⟨σ', μ', k1, k2, k3, k4, k5, k6⟩ := key 0 (by decide)
      refine ⟨1, σ', μ', _, w + 1, reb, by decide, ?_, ?_, k3, k4, k5, by omega, by omega, k6⟩
      · rw [if_pos rfl]; exact k1
      · rw [if_neg (by decide)]; exact k2
    · obtain ⟨σ', μ', k1, k2, k3, k4, k5, k6⟩ := key 1 (by decide)
      refine ⟨1, σ', μ', _, w + 1, reb, by decide, ?_, ?_, k3, k4, k5, by omega, by omega, k6⟩
      · rw [if_neg (by decide)]; exact k1
      · rw [if_pos rfl]; exact k2
theorem does_round {ρ : RC} {L : LC} {w l k : Nat} {reb x3 : Int32} {Z : ZZ} {σ : XS} {μ : MS} (hR : RV ρ) (hl : l < 4) (hk : k < 100) (hX : XR 4 ρ L w reb Z σ) (hM : MR 4 ρ L w reb Z μ) (hL : LOK 4 L (xN σ) w) (g1 : gA μ 10 k = nI 114) : ∃ (g : Nat) (σ' : XS) (μ' : MS) (L' : LC) (w' : Nat) (reb' : Int32), g < 2 ∧ X_does l (nI 114) x3 σ = some (nI g, σ') ∧ M_does (nI l) (nI k) μ = some (nI g, μ') ∧ XR 4 ρ L' w' reb' Z σ' ∧ MR 4 ρ L' w' reb' Z μ' ∧ LOK 4 L' (xN σ') w' ∧ w ≤ w' ∧ w' ≤ w + 65 ∧ MF 9 μ μ' := by
  have hs64 : szL L l ≤ 64 := hL.2.1 l hl
  have hkc : (nI k).toNatClampNeg = k := nI_clamp (by omega)
  have hkd : ¬ (nI k < 0 ∨ 100 ≤ k) := nI_dn hk (by decide)
  obtain ⟨σ', p1, p2, p3⟩ := X_round_ok hR hl hX hL
  obtain ⟨μ', q1, q2, q3⟩ := M_turns_ok hR hl hM hL hX.n3
  have hk2 := lay_rev_lok hL hX.n3 hl
  rw [← p3] at hk2
  refine ⟨1, σ', μ', _, _, reb, by decide, ?_, ?_, p2, q2, hk2, by omega, by omega, q3⟩
  · unfold X_does
    rw [if_neg (by decide), if_neg (by decide), if_pos rfl, if_pos ⟨by decide, by decide⟩, p1, obs]
  · unfold M_does
    rw [hkc, if_neg hkd, g1, if_neg (by decide), if_neg (by decide), if_pos rfl, q1, obs, if_neg (nI_pos (by omega))]
theorem does_take {ρ : RC} {L : LC} {w l c k : Nat} {reb x3 : Int32} {Z : ZZ} {σ : XS} {μ : MS} (hR : RV ρ) (hl : l < 4) (hk : k < 100) (hc : c = 70 ∨ c = 66) (hX : XR 4 ρ L w reb Z σ) (hM : MR 4 ρ L w reb Z μ) (hL : LOK 4 L (xN σ) w) (g1 : gA μ 10 k = nI c) : ∃ (g : Nat) (σ' : XS) (μ' : MS) (L' : LC) (w' : Nat) (reb' : Int32), g < 2 ∧ X_does l (nI c) x3 σ = some (nI g, σ') ∧ M_does (nI l) (nI k) μ = some (nI g, μ') ∧ XR 4 ρ L' w' reb' Z σ' ∧ MR 4 ρ L' w' reb' Z μ' ∧ LOK 4 L' (xN σ') w' ∧ w ≤ w' ∧ w' ≤ w + 65 ∧ MF 9 μ μ' := by
  have s1 := X_sz hX hl
  have s2 := M_size_ok hM (by decide) hl
  have hs64 : szL L l ≤ 64 := hL.2.1 l hl
  have hkc : (nI k).toNatClampNeg = k := nI_clamp (by omega)
  have hkd : ¬ (nI k < 0 ∨ 100 ≤ k) := nI_dn hk (by decide)
  have hxs : X_does l (nI c) x3 σ = if szL L l = 0 then some (nI 0, σ) else (if c = 70 then X_does_94 (nI 0) l σ 0 0 else X_does_94 (nI 1) l σ 0 0) := by
    unfold X_does
    rw [s1, obs]
    rcases hc with rfl | rfl
    · rw [if_neg (by decide), if_neg (by decide), if_neg (by decide), if_pos (show nI 70 = nI 70 from rfl), if_pos (show (70 : Nat) = 70 from rfl)]
      by_cases hz : szL L l = 0
      · rw [if_pos hz, if_pos (by rw [hz]; rfl)]
      · rw [if_neg hz, if_neg (nI_ne0 (by omega) (by omega))]
    · rw [if_neg (by decide), if_neg (by decide), if_neg (by decide), if_neg (show ¬ nI 66 = nI 70 by decide), if_neg (show ¬ (66 : Nat) = 70 by decide)]
      by_cases hz : szL L l = 0
      · rw [if_pos hz, if_pos (by rw [hz]; rfl)]
      · rw [if_neg hz, if_neg (nI_ne0 (by omega) (by omega))]
  have hms : M_does (nI l) (nI k) μ = if szL L l = 0 then some (nI 0, μ) else (if c = 70 then M_does_127 (nI 0) (nI l) μ else M_does_127 (nI 1) (nI l) μ) := by
    unfold M_does
    rw [hkc, if_neg hkd, s2, obs, if_neg hkd, g1]
    rcases hc with rfl | rfl
    · rw [if_neg (by decide), if_neg (by decide), if_neg (by decide), if_neg (show ¬ nI 70 = nI 66 by decide), if_pos (show (70 : Nat) = 70 from rfl)]
      by_cases hz : szL L l = 0
      · rw [if_pos hz, if_pos (by rw [hz]; show nI 0 ≤ 0; decide)]
      · rw [if_neg hz, if_neg (nI_nle (by omega) (by omega))]
    · rw [if_neg (by decide), if_neg (by decide), if_neg (by decide), if_pos (show nI 66 = nI 66 from rfl), if_neg (show ¬ (66 : Nat) = 70 by decide)]
      by_cases hz : szL L l = 0
      · rw [if_pos hz, if_pos (by rw [hz]; show nI 0 ≤ 0; decide)]
      · rw [if_neg hz, if_neg (nI_nle (by omega) (by omega))]
  rw [hxs, hms]
  by_cases hz : szL L l = 0
  · rw [if_pos hz, if_pos hz]
    exact ⟨0, σ, μ, L, w, reb, by decide, rfl, rfl, hX, hM, hL, Nat.le_refl _, by omega, MF.refl _ _⟩
  · rw [if_neg hz, if_neg hz]
    have key : ∀ e : Nat, e < 2 → ∃ (σ' : XS) (μ' : MS), X_does_94 (nI e) l σ 0 0 = some (nI 1, σ') ∧ M_does_127 (nI e) (nI l) μ = some (nI 1, μ') ∧ XR 4 ρ (tkA L l e (xN σ) w) (w + tkN L l e) (tkR L l e reb) Z σ' ∧ MR 4 ρ (tkA L l e (xN σ) w) (w + tkN L l e) (tkR L l e reb) Z μ' ∧ LOK 4 (tkA L l e (xN σ) w) (xN σ') (w + tkN L l e) ∧ MF 9 μ μ' := by
      intro e he
      obtain ⟨σ1, p1, p2, p3, -⟩ := X_take_ok (e := e) hR hX hL (by decide) hl he (by omega)
      obtain ⟨μ1, q1, q2, q3⟩ := M_take_ok (e := e) hR hM hL hX.n3 (by decide) hl he (by omega)
      obtain ⟨hL1, -, hv9⟩ := tkA_lok (e := e) hL hX.n3 hl he
      have hv9 := hv9 (by omega)
      rw [← p3] at hL1
      have fe : M_flag (nI e) = some (nI e) := by rcases (show e = 0 ∨ e = 1 by omega) with rfl | rfl <;> rfl
      refine ⟨σ1, μ1, ?_, ?_, p2, q2, hL1, q3⟩
      · unfold X_does_94
        rw [if_pos ⟨by decide, by decide⟩, p1, obs]
      · unfold M_does_127
        rw [fe, obs, q1, obs, if_neg (nI_pos (by omega))]
    by_cases c7 : c = 70
    · obtain ⟨σ', μ', k1, k2, k3, k4, k5, k6⟩ := key 0 (by decide)
      have hN := tk_8000 (e := 0) hL hl
      rw [if_pos c7, if_pos c7]
      exact ⟨1, σ', μ', _, _, _, by decide, k1, k2, k3, k4, k5, by omega, by omega, k6⟩
    · obtain ⟨σ', μ', k1, k2, k3, k4, k5, k6⟩ := key 1 (by decide)
      have hN := tk_8000 (e := 1) hL hl
      rw [if_neg c7, if_neg c7]
      exact ⟨1, σ', μ', _, _, _, by decide, k1, k2, k3, k4, k5, by omega, by omega, k6⟩
theorem does_ok {ρ : RC} {L : LC} {w l c v k : Nat} {reb : Int32} {Z : ZZ} {σ : XS} {μ : MS} (hR : RV ρ) (hl : l < 4) (hk : k < 100) (hc : c = 102 ∨ c = 98 ∨ c = 70 ∨ c = 66 ∨ c = 114) (hv : v ≤ 9999) (hX : XR 4 ρ L w reb Z σ) (hM : MR 4 ρ L w reb Z μ) (hL : LOK 4 L (xN σ) w) (g1 : gA μ 10 k = nI c) (g2 : (c = 102 ∨ c = 98) → gA μ 11 k = nI v) : ∃ (g : Nat) (σ' : XS) (μ' : MS) (L' : LC) (w' : Nat) (reb' : Int32), g < 2 ∧ X_does l (nI c) (nI v) σ = some (nI g, σ') ∧ M_does (nI l) (nI k) μ = some (nI g, μ') ∧ XR 4 ρ L' w' reb' Z σ' ∧ MR 4 ρ L' w' reb' Z μ' ∧ LOK 4 L' (xN σ') w' ∧ w ≤ w' ∧ w' ≤ w + 65 ∧ MF 9 μ μ' := by
  by_cases h1 : c = 102 ∨ c = 98
  · exact does_put hR hl hk h1 hv hX hM hL g1 (g2 h1)
  · by_cases h2 : c = 114
    · subst h2; exact does_round hR hl hk hX hM hL g1
    · exact does_take hR hl hk (by omega) hX hM hL g1
theorem run_fin {ρ : RC} {L : LC} {w l had y d n : Nat} {reb cv : Int32} {Z : ZZ} {σ : XS} {μ : MS} (hR : RV ρ) (hl : l < 4) (hX : XR 4 ρ L w reb Z σ) (hM : MR 4 ρ L w reb Z μ) (hL : LOK 4 L (xN σ) w) (hw : had ≤ w) (hb : w - had < 2 ^ 31) (hy : y < 2) (hcv : (if cv = 0 then lN 1 else lN 0) = lN y) : ∃ (σ' : XS) (μ' : MS), X_run9 l cv (lN had) (nI d) σ = some (nI d, σ') ∧ M_run_108 (nI l) (nI had) (nI d) (nI y) (sI μ 1 (nI 0)) = some (nI d, μ') ∧ XR 4 ρ L w reb (zr Z [lN y, lN (w - had), (smy ρ L l).1, (smy ρ L l).2]) σ' ∧ MR 4 ρ L w reb (zr Z [lN y, lN (w - had), (smy ρ L l).1, (smy ρ L l).2]) μ' ∧ xN σ' = xN σ := by
  obtain ⟨σ1, p1, p2, p3, -, p5, -⟩ := X_sums_ok hR hX hL hl (i := 2) (by decide)
  have hX1 := hX.q hL p2
  obtain ⟨t1, t2⟩ := X_tells_ok (X_reset hX1) (r := []) (by decide) (lN y)
  obtain ⟨u1, u2⟩ := X_tells_ok t2 (by show 1 < 128; decide) (lN (w - had))
  obtain ⟨v1, v2⟩ := X_tellsPair_ok u2 (i := 2) (x := smy ρ L l) (by show 2 < 127; decide) (by have := hX1.n3; show 2 < xN σ1; omega) p3
  have fy : M_flag (nI y) = some (nI y) := by rcases (show y = 0 ∨ y = 1 by omega) with rfl | rfl <;> rfl
  obtain ⟨e1, e2⟩ := M_enters_ok (M_reset hM) (r := []) (by decide) (lN y)
  obtain ⟨e3, e4⟩ := M_enters_ok e2 (by show 1 < 160; decide) (lN (w - had))
  obtain ⟨μ', q1, q2, -⟩ := M_entersSummary_ok hR e4 (by show 2 < 150; decide) hL (by decide) hl
  refine ⟨_, μ', ?_, ?_, v2, q2, p5⟩
  · unfold X_run9
    rw [p1, obs, hcv, t1, obs, show xL (tlX (zI σ1 5 (nI 0)) [] (lN y)) 0 = lN w from hX1.work, lN_sub hw, u1, obs, v1, obs]
  · unfold M_run_108
    rw [fy, obs, nI_l (by omega), e1, obs, show gI (tlM (sI μ 1 (nI 0)) [] (lN y)) 8 = nI w from hM.work, pk_sub hw, nI_l hb, e3, obs, q1, obs]
theorem run_loop {ρ : RC} {Z : ZZ} (hR : RV ρ) {l had n : Nat} (hl : l < 4) (hn : n ≤ 100) : ∀ (ps : List (Nat × Nat)) (i f : Nat) (σ : XS) (μ : MS) (L : LC) (w : Nat) (reb : Int32), i + ps.length = n → ps.length < f → XR 4 ρ L w reb Z σ → MR 4 ρ L w reb Z μ → LOK 4 L (xN σ) w → okP ps → (∀ j, j < ps.length → gA μ 10 (i + j) = nI (ps.getD j (0, 0)).1 ∧ (((ps.getD j (0, 0)).1 = 102 ∨ (ps.getD j (0, 0)).1 = 98) → gA μ 11 (i + j) = nI (ps.getD j (0, 0)).2)) → had ≤ w → w + 65 * ps.length ≤ had + 6500 → ∃ (r : Int32) (σ' : XS) (μ' : MS) (L' : LC) (w' : Nat) (reb' : Int32) (row : List Int64), X_run1 l (lN had) (flatP ps) (nI 1) (nI i) σ = some (r, σ') ∧ M_run_69 f (nI l) (nI n) (nI had) (nI i) μ = some (r, μ') ∧ XR 4 ρ L' w' reb' (zr Z row) σ' ∧ MR 4 ρ L' w' reb' (zr Z row) μ' ∧ LOK 4 L' (xN σ') w' ∧ w' ≤ had + 6500 ∧ row.length ≤ 128 := by
  intro ps
  induction ps with
  | nil =>
    intro i f σ μ L w reb hi hf hX hM hL ho ha hw hb
    obtain ⟨f, rfl⟩ : ∃ z, f = z + 1 := ⟨f - 1, by simp at hf; omega⟩
    have hi : i = n := hi
    subst hi
    have hb : w ≤ had + 6500 := hb
    obtain ⟨σ', μ', q1, q2, q3, q4, q5⟩ := run_fin (y := 0) (d := i) (n := i) (cv := nI 1) hR hl hX hM hL hw (by omega) (by decide) rfl
    refine ⟨nI i, σ', μ', L, w, reb, _, q1, ?_, q3, q4, by rw [q5]; exact hL, hb, by show 4 ≤ 128; decide⟩
    show (if nI i ≤ nI i then (if nI i ≤ nI i then M_run_108 (nI l) (nI had) (nI i) (nI 0) (sI μ 1 (nI 0)) else _) else _) = _
    rw [if_pos (nI_le (Nat.le_refl _) (by omega)), if_pos (nI_le (Nat.le_refl _) (by omega)), q2]
  | cons p ps ih =>
    intro i f σ μ L w reb hi hf hX hM hL ho ha hw hb
    simp only [List.length_cons] at hi hf hb
    obtain ⟨f, rfl⟩ : ∃ z, f = z + 1 := ⟨f - 1, by omega⟩
    obtain ⟨hc, hv⟩ := ho p List.mem_cons_self
    obtain ⟨a1, a2⟩ := ha 0 (by simp)
    obtain ⟨g, σ1, μ1, L1, w1, reb1, k0, k1, k2, k3, k4, k5, k6, k7, k8⟩ := does_ok (k := i) hR hl (by omega) hc hv hX hM hL a1 a2
    have hxd : X_run1 l (lN had) (flatP (p :: ps)) (nI 1) (nI i) σ = if nI g = 0 then X_run9 l (nI g) (lN had) (nI i + nI 0) σ1 else X_run1 l (lN had) (flatP ps) (nI g) (nI i + nI 1) σ1 := by
      show ((X_does l (nI p.1) (nI p.2) σ).bind fun q => if q.1 = 0 then X_run9 l q.1 (lN had) (nI i + nI 0) q.2 else X_run1 l (lN had) (flatP ps) q.1 (nI i + nI 1) q.2) = _
      rw [k1, obs]
    have hmd : M_run_69 (f + 1) (nI l) (nI n) (nI had) (nI i) μ = if nI g = 0 then M_run_91 (nI l) (nI n) (nI had) (nI i) μ1 else M_run_69 f (nI l) (nI n) (nI had) (nI (i + 1)) μ1 := by
      show (if nI n ≤ nI i then _ else ((M_does (nI l) (nI i) μ).bind fun q6 => (if q6.1 = 0 then M_run_91 (nI l) (nI n) (nI had) (nI i) q6.2 else M_run_69 f (nI l) (nI n) (nI had) (nI i + (nI 1)) q6.2))) = _
      rw [if_neg (nI_ge (by omega) (by omega)), k2, obs, nI_add]
    rw [hxd, hmd]
    rcases (show g = 0 ∨ g = 1 by omega) with rfl | rfl
    · rw [if_pos (show nI 0 = 0 from rfl), if_pos (show nI 0 = 0 from rfl)]
      obtain ⟨σ', μ', q1, q2, q3, q4, q5⟩ := run_fin (y := 1) (d := i) (n := n) (cv := nI 0) hR hl k3 k4 k5 (show had ≤ w1 by omega) (by omega) (by decide) rfl
      refine ⟨nI i, σ', μ', L1, w1, reb1, _, ?_, ?_, q3, q4, by rw [q5]; exact k5, by omega, by show 4 ≤ 128; decide⟩
      · rw [nI_add, Nat.add_zero]; exact q1
      · unfold M_run_91
        rw [if_neg (nI_ge (by omega) (by omega))]; exact q2
    · rw [if_neg (show ¬ nI 1 = 0 by decide), if_neg (show ¬ nI 1 = 0 by decide), nI_add]
      obtain ⟨m1, m2⟩ := k8.acts (by decide)
      exact ih (i + 1) f σ1 μ1 L1 w1 reb1 (by omega) (by omega) k3 k4 k5 (fun q hq => ho q (List.mem_cons_of_mem _ hq)) (fun j hj => by
        have := ha (j + 1) (by simp only [List.length_cons]; omega)
        rw [m1, m2, show i + 1 + j = i + (j + 1) by omega]; exact this) (by omega) (by omega)
/-- the text is taken -/
def zt (Z : ZZ) : ZZ := (Z.1, 0, Z.2.2)
theorem XR.typed {k : Nat} {ρ : RC} {L : LC} {w : Nat} {reb : Int32} {Z : ZZ} {σ : XS} (h : XR k ρ L w reb Z σ) : XR k ρ L w reb (zt Z) (zI σ 4 (nI 0)) := by
  obtain ⟨a1, a2, ⟨a3, a4, a5, a6, a7⟩, a8, a9, a10, a11⟩ := h
  exact ⟨a1, a2, ⟨a3, rfl, a5, a6, a7⟩, fun i hi => absurd hi (Nat.not_lt_zero _), a9, fun l e hl he => ⟨(a10 l e hl he).1, XCh.same0 (σ := σ) _ _ (Nat.le_refl _) rfl (a10 l e hl he).2⟩, a11⟩
theorem M_reads_ok {k : Nat} {ρ : RC} {L : LC} {w : Nat} {reb : Int32} {Z : ZZ} {μ : MS} (h : MR k ρ L w reb Z μ) : ∃ μ', M_reads μ = some μ' ∧ MR k ρ L w reb (zt Z) μ' ∧ TM μ' Z.1 Z.2.1 ∧ gI μ' 3 = nI 0 ∧ gI μ' 8 = gI μ 8 := by
  obtain ⟨a1, ⟨a2, a3, a4, a5⟩, a6, a7, a8⟩ := h
  refine ⟨_, rfl, ⟨a1, ⟨a2, rfl, a4, a5⟩, fun i hi => absurd hi (Nat.not_lt_zero _), a7, fun l e hl he => ⟨(a8 l e hl he).1, MCh.same (μ := μ) _ (fun _ _ => ⟨rfl, rfl, rfl, rfl⟩) (a8 l e hl he).2⟩⟩, ⟨a3, fun i hi => a6 i hi⟩, rfl, rfl⟩
theorem ZW.zt {Z : ZZ} (h : ZW Z) : ZW (CEndSumsLaw_law_r6305_3367cf.zt Z) := ⟨Nat.zero_le _, fun i hi => absurd hi (Nat.not_lt_zero _), h.2.2⟩
theorem XR.tx {k : Nat} {ρ : RC} {L : LC} {w : Nat} {reb : Int32} {Z : ZZ} {σ : XS} (h : XR k ρ L w reb Z σ) (hZ : ZW Z) : TX (xA σ 2) Z.1 Z.2.1 := ⟨hZ.1, fun i hi => h.2.2.2.1 i hi, hZ.2.1⟩
theorem E_run_ok (n : Nat) : E_run (RR n) (RR (n + 1)) := by
  intro σ μ x1 h
  have h0 := h.stay (nI 0)
  obtain ⟨ρ, L, w, reb, Z, hR, hL, hZ, hX, hM, hw, hr⟩ := h
  have hM0 := hM.q (MU.sI μ (k := 0) (.inl rfl) (nI 0))
  have hz := hZ.1
  have hx4 : xI σ 4 = nI Z.2.1 := hX.2.2.1.2.1
  have hx4c : ¬ (nI Z.2.1 < 0 ∨ 100 < (nI Z.2.1).toNatClampNeg) := by rw [nI_clamp (by omega), zN_lt0 (by omega), false_or]; omega
  have hcl : (nI Z.2.1).toNatClampNeg = Z.2.1 := nI_clamp (by omega)
  obtain ⟨μ1, m1, m2, m3, m4, m5⟩ := M_reads_ok hM0
  have hX1 := hX.typed
  have hZ1 := hZ.zt
  rcases isL x1 with ⟨a1, b1⟩ | ⟨l, hl, rfl, a1, b1⟩
  · have hx : X_run x1 σ = some (-1, zI σ 4 (nI 0)) := by
      unfold X_run
      rw [hx4, if_neg hx4c, a1, obs, if_pos (show nI 0 = 0 from rfl)]
    have hm : M_run x1 μ = some (-1, μ1) := by
      unfold M_run
      rw [m1, obs, b1, obs, if_pos (show nI 0 = 0 from rfl)]
    exact ⟨-1, _, μ1, hx, hm, ρ, L, w, reb, CEndSumsLaw_law_r6305_3367cf.zt Z, hR, hL, hZ1, hX1, m2, by omega, by show Z.2.2.2 ≤ n + 1; omega⟩
  have cl : (nI l).toNatClampNeg = l := nI_clamp (by omega)
  have dl : ¬ (nI l < 0 ∨ 4 ≤ l) := by rw [zN_lt0 (by omega), false_or]; omega
  have hTX := hX.tx hZ
  obtain ⟨μ2, p1, p2, p3, p4, p5, p6⟩ := passes_ok hTX Z.2.1 0 (Z.2.1 + 1) FU μ1 (by omega) (by omega) (by unfold FU; omega) m3 m4
  obtain ⟨μ3, q1, q2⟩ := acts_ok (l := l) hTX (Z.2.1 - X_ra1 (xA σ 2) Z.2.1 (Z.2.1 + 1) 0) 0 101 FU [] μ2 (by omega) (by omega) (by unfold FU; omega) (Nat.zero_le _) (Nat.le_refl _) (m3.t p2) p4 (Nat.zero_le _) (fun j hj => absurd hj (Nat.not_lt_zero _)) (fun p hp => absurd hp (by simp))
  have hM3 := (m2.q p2.1).q q1.1
  have hxs : X_run (nI l) σ = X_run0 (nI l) (zI σ 4 (nI 0)) (X_ra4 (xA σ 2) Z.2.1 101 0 []) := by
    unfold X_run X_readActs
    rw [hx4, if_neg hx4c, a1, obs, if_neg (show ¬ nI 1 = 0 by decide), hcl]
  have hms : M_run (nI l) μ = M_run_24 FU (nI l) (nI 0) μ2 := by
    unfold M_run M_passes
    rw [m1, obs, b1, obs, if_neg (show ¬ nI 1 = 0 by decide), p1, obs]
  rcases q2 with ⟨a, w1, w2⟩ | ⟨ps, w1, w2, w3, w4, w5⟩
  · have hx : X_run (nI l) σ = some ((-21 : Int32) - nI a, zI σ 4 (nI 0)) := by
      rw [hxs, show X_ra4 (xA σ 2) Z.2.1 101 0 [] = .inr a from w1]; rfl
    exact ⟨_, _, μ3, hx, hms.trans w2, ρ, L, w, reb, CEndSumsLaw_law_r6305_3367cf.zt Z, hR, hL, hZ1, hX1, hM3, by omega, by show Z.2.2.2 ≤ n + 1; omega⟩
  · obtain ⟨r, σ', μ', L', w', reb', row, e1, e2', e3, e4, e5, e6, e7⟩ := run_loop (had := w) (n := ps.length) hR hl w4 ps 0 FU (zI σ 4 (nI 0)) μ3 L w reb (by omega) (by unfold FU; omega) hX1 hM3 hL w2 (fun j hj => by rw [Nat.zero_add]; exact w3 j hj) (Nat.le_refl _) (by omega)
    have hx : X_run (nI l) σ = some (r, σ') := by
      rw [hxs, show X_ra4 (xA σ 2) Z.2.1 101 0 [] = .inl (flatP ps) from w1]
      show (if nI l < 0 ∨ 4 ≤ (nI l).toNatClampNeg then none else X_run1 (nI l).toNatClampNeg (xL (zI σ 4 (nI 0)) 0) (flatP ps) (nI 1) (nI 0) (zI σ 4 (nI 0))) = _
      rw [cl, if_neg dl, hX1.work]
      exact e1
    have hm : M_run (nI l) μ = some (r, μ') := by
      rw [hms]
      refine (show M_run_24 FU (nI l) (nI 0) μ2 = _ from w5).trans ?_
      rw [hM3.work]; exact e2'
    exact ⟨r, σ', μ', hx, hm, ρ, L', w', reb', _, hR, e5, hZ1.row e7, e3, e4, by omega, by show Z.2.2.2 ≤ n + 1; omega⟩
