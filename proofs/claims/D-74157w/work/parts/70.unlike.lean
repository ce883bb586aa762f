set_option maxRecDepth 100000
/-! unlike -/
theorem nI_dn {a N : Nat} (h : a < N) (hN : N < 2 ^ 31) : ¬ (nI a < 0 ∨ N ≤ a) := by rw [zN_lt0 (by omega), false_or]; omega
def cntS (b : Nat → Bool) : Nat → Nat
  | 0 => 0
  | t + 1 => cntS b t + (if b t = true then 1 else 0)
theorem cntS_s (b : Nat → Bool) (t : Nat) : cntS b (t + 1) = cntS b t + (if b t = true then 1 else 0) := rfl
theorem cntS_le (b : Nat → Bool) : ∀ t, cntS b t ≤ t
  | 0 => Nat.le_refl _
  | t + 1 => by
    have := cntS_le b t
    rw [cntS_s]; split <;> omega
theorem cntS_pos {b : Nat → Bool} {k : Nat} (hk : b k = true) : ∀ t, k < t → 1 ≤ cntS b t
  | 0, h => absurd h (Nat.not_lt_zero _)
  | t + 1, h => by
    rw [cntS_s]
    by_cases hh : k = t
    · subst hh; rw [if_pos hk]; omega
    · have := cntS_pos hk t (by omega); omega
/-- the summary of the first items up to number t -/
def fst' (ρ : RC) (its : List Nat) (t : Nat) : VV := fo ρ (seg its 0 (t + 1))
def smB (ρ : RC) (its : List Nat) (k i : Nat) : Bool := decide (lg_cmp (fst' ρ its i).1 (fst' ρ its k).1 = 0 ∧ lg_cmp (fst' ρ its i).2 (fst' ρ its k).2 = 0)
def ahB (ρ : RC) (its : List Nat) (k i : Nat) : Bool := smB ρ its k i && decide (i < k)
theorem smB_iff {ρ : RC} {its : List Nat} {k i : Nat} : smB ρ its k i = true ↔ (lg_cmp (fst' ρ its i).1 (fst' ρ its k).1 = 0 ∧ lg_cmp (fst' ρ its i).2 (fst' ρ its k).2 = 0) := decide_eq_true_iff
theorem ahB_iff {ρ : RC} {its : List Nat} {k i : Nat} : ahB ρ its k i = true ↔ (smB ρ its k i = true ∧ i < k) := by unfold ahB; rw [Bool.and_eq_true, decide_eq_true_iff]
theorem smB_self (ρ : RC) (its : List Nat) (k : Nat) : smB ρ its k k = true := smB_iff.mpr ⟨(lg_cmp_eq _ _).mpr rfl, (lg_cmp_eq _ _).mpr rfl⟩
/-- both rows of first summaries stand -/
def FX (ρ : RC) (its : List Nat) (n : Nat) (σ : XS) : Prop := ∀ t, t < n → xB σ 3 t = (fst' ρ its t).1 ∧ xB σ 4 t = (fst' ρ its t).2
def FM (ρ : RC) (its : List Nat) (n : Nat) (μ : MS) : Prop := ∀ t, t < n → gB μ 1 (t + 1) = (fst' ρ its t).1 ∧ gB μ 2 (t + 1) = (fst' ρ its t).2
theorem X_unl_in {ρ : RC} {its : List Nat} {n k : Nat} (k118 : Int32 → Int32 → Int32 → Int32 → Int32 → XS → Nat → Nat → Option (Int32 × XS)) {σ : XS} (hF : FX ρ its n σ) (hn : n ≤ 64) (hk : k < n) (un b mo : Int32) (u u' : Nat) : ∀ (d i f : Nat), i + d = n → d < f → X_unlike_133 k118 f (nI n) un b mo (nI k) (nI (cntS (ahB ρ its k) i)) (nI (cntS (smB ρ its k) i)) (nI i) σ u u' = X_unlike_215 k118 (nI n) b mo (nI k) (nI (cntS (smB ρ its k) n)) (if cntS (ahB ρ its k) n = 0 then nI 1 else nI 0) un σ u u' := by
  intro d
  induction d with
  | zero =>
    intro i f hi hf
    obtain ⟨f, rfl⟩ : ∃ z, f = z + 1 := ⟨f - 1, by omega⟩
    have : i = n := by omega
    subst this
    have hle := cntS_le (ahB ρ its k) i
    show (if nI i ≤ nI i then (if nI (cntS (ahB ρ its k) i) = 0 then X_unlike_215 k118 (nI i) b mo (nI k) (nI (cntS (smB ρ its k) i)) (nI 1) un σ u u' else X_unlike_215 k118 (nI i) b mo (nI k) (nI (cntS (smB ρ its k) i)) (nI 0) un σ u u') else _) = _
    rw [if_pos (nI_le (Nat.le_refl _) (by omega))]
    by_cases hz : cntS (ahB ρ its k) i = 0
    · rw [if_pos hz, if_pos (by rw [hz]; rfl)]
    · rw [if_neg hz, if_neg (nI_ne0 (by omega) (by omega))]
  | succ d ih =>
    intro i f hi hf
    obtain ⟨f, rfl⟩ : ∃ z, f = z + 1 := ⟨f - 1, by omega⟩
    have ihh := ih (i + 1) f (by omega) (by omega)
    rw [← ihh, cntS_s, cntS_s]
    obtain ⟨fi1, fi2⟩ := hF i (by omega)
    obtain ⟨fk1, fk2⟩ := hF k hk
    have ci : (nI i).toNatClampNeg = i := nI_clamp (by omega)
    have ck : (nI k).toNatClampNeg = k := nI_clamp (by omega)
    have di : ¬ (nI i < 0 ∨ 64 ≤ i) := by rw [zN_lt0 (by omega), false_or]; omega
    have dk : ¬ (nI k < 0 ∨ 64 ≤ k) := by rw [zN_lt0 (by omega), false_or]; omega
    show (if nI n ≤ nI i then _ else (if nI i < 0 ∨ 64 ≤ (nI i).toNatClampNeg then none else (if nI k < 0 ∨ 64 ≤ (nI k).toNatClampNeg then none else (if (lg_cmp (xB σ 3 (nI i).toNatClampNeg) (xB σ 3 (nI k).toNatClampNeg)) = 0 then (if nI i < 0 ∨ 64 ≤ (nI i).toNatClampNeg then none else (if nI k < 0 ∨ 64 ≤ (nI k).toNatClampNeg then none else (if (lg_cmp (xB σ 4 (nI i).toNatClampNeg) (xB σ 4 (nI k).toNatClampNeg)) = 0 then (if nI k ≤ nI i then X_unlike_133 k118 f (nI n) un b mo (nI k) (nI (cntS (ahB ρ its k) i) + nI 0) (nI (cntS (smB ρ its k) i) + nI 1) (nI i + nI 1) σ u u' else X_unlike_133 k118 f (nI n) un b mo (nI k) (nI (cntS (ahB ρ its k) i) + nI 1) (nI (cntS (smB ρ its k) i) + nI 1) (nI i + nI 1) σ u u') else X_unlike_133 k118 f (nI n) un b mo (nI k) (nI (cntS (ahB ρ its k) i)) (nI (cntS (smB ρ its k) i)) (nI i + nI 1) σ u u'))) else X_unlike_133 k118 f (nI n) un b mo (nI k) (nI (cntS (ahB ρ its k) i)) (nI (cntS (smB ρ its k) i)) (nI i + nI 1) σ u u')))) = _
    rw [if_neg (nI_ge (by omega) (by omega)), ci, ck, if_neg di, if_neg dk, fi1, fk1, fi2, fk2, nI_add, nI_add, nI_add, nI_add]
    by_cases c1 : lg_cmp (fst' ρ its i).1 (fst' ρ its k).1 = 0
    · by_cases c2 : lg_cmp (fst' ρ its i).2 (fst' ρ its k).2 = 0
      · have hs : smB ρ its k i = true := smB_iff.mpr ⟨c1, c2⟩
        rw [if_pos c1, if_neg di, if_neg dk, if_pos c2, if_pos hs]
        by_cases hik : i < k
        · rw [if_pos (ahB_iff.mpr ⟨hs, hik⟩), if_neg (nI_ge hik (by omega))]
        · rw [if_neg (fun z => hik (ahB_iff.mp z).2), if_pos (nI_le (by omega) (by omega))]
      · have hs : ¬ smB ρ its k i = true := fun z => c2 (smB_iff.mp z).2
        rw [if_pos c1, if_neg di, if_neg dk, if_neg c2, if_neg hs, if_neg (fun z => hs (ahB_iff.mp z).1)]; rfl
    · have hs : ¬ smB ρ its k i = true := fun z => c1 (smB_iff.mp z).1
      rw [if_neg c1, if_neg hs, if_neg (fun z => hs (ahB_iff.mp z).1)]; rfl
theorem M_unl_in {ρ : RC} {its : List Nat} {n k : Nat} (k71 : Int32 → Int32 → Int32 → Int32 → Int32 → MS → Option (Int32 × MS)) {μ : MS} (hF : FM ρ its n μ) (hn : n ≤ 64) (hk : k < n) (un b mo : Int32) : ∀ (d i f : Nat), i + d = n → d < f → M_unlike_86 k71 f (nI n) un b mo (nI (k + 1)) (nI (cntS (smB ρ its k) i)) (if cntS (ahB ρ its k) i = 0 then nI 1 else nI 0) (nI (i + 1)) μ = (if nI (cntS (smB ρ its k) n) ≤ mo then M_unlike_197 k71 (nI n) (un + (if cntS (ahB ρ its k) n = 0 then nI 1 else nI 0)) mo (nI (k + 1)) (nI (cntS (smB ρ its k) n)) b μ else M_unlike_197 k71 (nI n) (un + (if cntS (ahB ρ its k) n = 0 then nI 1 else nI 0)) mo (nI (k + 1)) (nI (cntS (smB ρ its k) n)) (nI (k + 1)) μ) := by
  have hfl : ∀ c : Prop, [Decidable c] → M_flag (if c then nI 1 else nI 0) = some (if c then nI 1 else nI 0) := by
    intro c _
    split <;> rfl
  have f0 : M_flag (nI 0) = some (nI 0) := rfl
  have f1 : M_flag (nI 1) = some (nI 1) := rfl
  intro d
  induction d with
  | zero =>
    intro i f hi hf
    obtain ⟨f, rfl⟩ : ∃ z, f = z + 1 := ⟨f - 1, by omega⟩
    have : i = n := by omega
    subst this
    show (if nI i < nI (i + 1) then ((M_flag (if cntS (ahB ρ its k) i = 0 then nI 1 else nI 0)).bind fun q7 => (if nI (cntS (smB ρ its k) i) ≤ mo then M_unlike_197 k71 (nI i) (un + q7) mo (nI (k + 1)) (nI (cntS (smB ρ its k) i)) b μ else M_unlike_197 k71 (nI i) (un + q7) mo (nI (k + 1)) (nI (cntS (smB ρ its k) i)) (nI (k + 1)) μ)) else _) = _
    rw [if_pos ((nI_ltI (by omega) (by omega)).mpr (Nat.lt_succ_self _)), hfl, Option.bind_some]
  | succ d ih =>
    intro i f hi hf
    obtain ⟨f, rfl⟩ : ∃ z, f = z + 1 := ⟨f - 1, by omega⟩
    have ihh := ih (i + 1) f (by omega) (by omega)
    rw [← ihh, cntS_s, cntS_s]
    obtain ⟨fi1, fi2⟩ := hF i (by omega)
    obtain ⟨fk1, fk2⟩ := hF k hk
    have ci : (nI (i + 1)).toNatClampNeg = i + 1 := nI_clamp (by omega)
    have ck : (nI (k + 1)).toNatClampNeg = k + 1 := nI_clamp (by omega)
    have di : ¬ (nI (i + 1) < 0 ∨ 129 ≤ i + 1) := by rw [zN_lt0 (by omega), false_or]; omega
    have dk : ¬ (nI (k + 1) < 0 ∨ 129 ≤ k + 1) := by rw [zN_lt0 (by omega), false_or]; omega
    have h33 : ∀ y0 : Int32, M_unlike_133 k71 (M_unlike_86 k71 f) (nI n) un b mo (nI (k + 1)) (nI (cntS (smB ρ its k) i)) (if cntS (ahB ρ its k) i = 0 then nI 1 else nI 0) (nI (i + 1)) y0 μ = ((M_flag y0).bind fun q8 => (if (if cntS (ahB ρ its k) i = 0 then nI 1 else nI 0) = 0 then M_unlike_86 k71 f (nI n) un b mo (nI (k + 1)) (nI (cntS (smB ρ its k) i) + q8) (nI 0) (nI (i + 1 + 1)) μ else (if y0 = 0 then M_unlike_86 k71 f (nI n) un b mo (nI (k + 1)) (nI (cntS (smB ρ its k) i) + q8) (nI 1) (nI (i + 1 + 1)) μ else (if nI (i + 1) < nI (k + 1) then M_unlike_86 k71 f (nI n) un b mo (nI (k + 1)) (nI (cntS (smB ρ its k) i) + q8) (nI 0) (nI (i + 1 + 1)) μ else M_unlike_86 k71 f (nI n) un b mo (nI (k + 1)) (nI (cntS (smB ρ its k) i) + q8) (nI 1) (nI (i + 1 + 1)) μ)))) := by
      intro y0
      unfold M_unlike_133 M_unlike_162 M_unlike_166 M_unlike_167
      rw [nI_add (i + 1) 1]
    have hno : M_unlike_133 k71 (M_unlike_86 k71 f) (nI n) un b mo (nI (k + 1)) (nI (cntS (smB ρ its k) i)) (if cntS (ahB ρ its k) i = 0 then nI 1 else nI 0) (nI (i + 1)) (nI 0) μ = M_unlike_86 k71 f (nI n) un b mo (nI (k + 1)) (nI (cntS (smB ρ its k) i + 0)) (if cntS (ahB ρ its k) i + 0 = 0 then nI 1 else nI 0) (nI (i + 1 + 1)) μ := by
      rw [h33, f0, Option.bind_some, nI_add]
      by_cases hz : cntS (ahB ρ its k) i = 0
      · rw [if_pos hz, if_neg (show ¬ nI 1 = 0 by decide), if_pos (show nI 0 = 0 from rfl), if_pos (show cntS (ahB ρ its k) i + 0 = 0 from hz)]
      · rw [if_neg hz, if_pos (show nI 0 = 0 from rfl), if_neg (show ¬ cntS (ahB ρ its k) i + 0 = 0 from hz)]
    show (if nI n < nI (i + 1) then _ else (if nI (i + 1) < 0 ∨ 129 ≤ (nI (i + 1)).toNatClampNeg then none else (if nI (k + 1) < 0 ∨ 129 ≤ (nI (k + 1)).toNatClampNeg then none else (if (lg_cmp (gB μ 1 (nI (i + 1)).toNatClampNeg) (gB μ 1 (nI (k + 1)).toNatClampNeg)) = 0 then (if nI (i + 1) < 0 ∨ 129 ≤ (nI (i + 1)).toNatClampNeg then none else (if nI (k + 1) < 0 ∨ 129 ≤ (nI (k + 1)).toNatClampNeg then none else (if (lg_cmp (gB μ 2 (nI (i + 1)).toNatClampNeg) (gB μ 2 (nI (k + 1)).toNatClampNeg)) = 0 then M_unlike_133 k71 (M_unlike_86 k71 f) (nI n) un b mo (nI (k + 1)) (nI (cntS (smB ρ its k) i)) (if cntS (ahB ρ its k) i = 0 then nI 1 else nI 0) (nI (i + 1)) (nI 1) μ else M_unlike_133 k71 (M_unlike_86 k71 f) (nI n) un b mo (nI (k + 1)) (nI (cntS (smB ρ its k) i)) (if cntS (ahB ρ its k) i = 0 then nI 1 else nI 0) (nI (i + 1)) (nI 0) μ))) else M_unlike_133 k71 (M_unlike_86 k71 f) (nI n) un b mo (nI (k + 1)) (nI (cntS (smB ρ its k) i)) (if cntS (ahB ρ its k) i = 0 then nI 1 else nI 0) (nI (i + 1)) (nI 0) μ)))) = _
    rw [if_neg (fun z => absurd ((nI_ltI (by omega) (by omega)).mp z) (by omega)), ci, ck, if_neg di, if_neg dk, fi1, fk1, fi2, fk2]
    by_cases c1 : lg_cmp (fst' ρ its i).1 (fst' ρ its k).1 = 0
    · by_cases c2 : lg_cmp (fst' ρ its i).2 (fst' ρ its k).2 = 0
      · have hs : smB ρ its k i = true := smB_iff.mpr ⟨c1, c2⟩
        rw [if_pos c1, if_neg di, if_neg dk, if_pos c2, if_pos hs, h33, f1, Option.bind_some, nI_add]
        by_cases hik : i < k
        · rw [if_pos (ahB_iff.mpr ⟨hs, hik⟩), if_neg (show ¬ cntS (ahB ρ its k) i + 1 = 0 by omega)]
          by_cases hz : cntS (ahB ρ its k) i = 0
          · rw [if_pos hz, if_neg (show ¬ nI 1 = 0 by decide), if_neg (show ¬ nI 1 = 0 by decide), if_pos ((nI_ltI (by omega) (by omega)).mpr (by omega))]
          · rw [if_neg hz, if_pos (show nI 0 = 0 from rfl)]
        · rw [if_neg (show ¬ ahB ρ its k i = true from fun z => hik (ahB_iff.mp z).2)]
          by_cases hz : cntS (ahB ρ its k) i = 0
          · rw [if_pos hz, if_neg (show ¬ nI 1 = 0 by decide), if_neg (show ¬ nI 1 = 0 by decide), if_neg (fun z => absurd ((nI_ltI (by omega) (by omega)).mp z) (by omega)), if_pos (show cntS (ahB ρ its k) i + 0 = 0 from hz)]
          · rw [if_neg hz, if_pos (show nI 0 = 0 from rfl), if_neg (show ¬ cntS (ahB ρ its k) i + 0 = 0 from hz)]
      · have hs : ¬ smB ρ its k i = true := fun z => c2 (smB_iff.mp z).2
        rw [if_pos c1, if_neg di, if_neg dk, if_neg c2, if_neg hs, if_neg (fun z => hs (ahB_iff.mp z).1)]; exact hno
    · have hs : ¬ smB ρ its k i = true := fun z => c1 (smB_iff.mp z).1
      rw [if_neg c1, if_neg hs, if_neg (fun z => hs (ahB_iff.mp z).1)]; exact hno
theorem unl_out {ρ : RC} {L : LC} {w : Nat} {reb : Int32} {Z : ZZ} {its : List Nat} {n : Nat} (hn : n ≤ 64) {σ : XS} {μ : MS} (hX : XR 4 ρ L w reb Z σ) (hM : MR 4 ρ L w reb Z μ) (hFX : FX ρ its n σ) (hFM : FM ρ its n μ) (u u' : Nat) : ∀ (d k f g : Nat) (un b bM mo : Int32) (mN : Nat), k + d = n → d < f → d < g → mo = nI mN → mN ≤ 64 → ((k = 0 ∧ mN = 0) ∨ (1 ≤ mN ∧ ∃ bN, bN < n ∧ b = nI bN ∧ bM = nI (bN + 1))) → (n = 0 → un = nI 0) → ∃ (r : Int32) (σ' : XS) (μ' : MS) (row : List Int64), X_unlike_118 f (nI n) un b mo (nI k) σ u u' = some (r, σ') ∧ M_unlike_71 g (nI n) un bM mo (nI (k + 1)) μ = some (r, μ') ∧ XR 4 ρ L w reb (zr Z row) σ' ∧ MR 4 ρ L w reb (zr Z row) μ' ∧ xN σ' = xN σ ∧ row.length ≤ 128 := by
  intro d
  induction d with
  | zero =>
    intro k f g un b bM mo mN hk hf hg hmo hm hst hun
    obtain ⟨f, rfl⟩ : ∃ z, f = z + 1 := ⟨f - 1, by omega⟩
    obtain ⟨g, rfl⟩ : ∃ z, g = z + 1 := ⟨g - 1, by omega⟩
    have hk : k = n := by omega
    subst hk
    have hxd : X_unlike_118 (f + 1) (nI k) un b mo (nI k) σ u u' = (if nI k = 0 then some ((nI 0), (zI σ 5 (nI 0))) else (if b < 0 ∨ 64 ≤ b.toNatClampNeg then none else ((X_tells (xB (zI σ 5 (nI 0)) 3 b.toNatClampNeg) (zI σ 5 (nI 0))).bind fun q8 => (if b < 0 ∨ 64 ≤ b.toNatClampNeg then none else ((X_tells (xB q8 4 b.toNatClampNeg) q8).bind fun q9 => ((X_tells (mo.toInt64) q9).bind fun q10 => some (un, q10))))))) := if_pos (nI_le (Nat.le_refl _) (by omega))
    have hmd : M_unlike_71 (g + 1) (nI k) un bM mo (nI (k + 1)) μ = (if nI k ≤ 0 then some (un, (sI μ 1 (nI 0))) else (if bM < 0 ∨ 129 ≤ bM.toNatClampNeg then none else ((M_enters (gB (sI μ 1 (nI 0)) 1 bM.toNatClampNeg) (sI μ 1 (nI 0))).bind fun q4 => (if bM < 0 ∨ 129 ≤ bM.toNatClampNeg then none else ((M_enters (gB q4 2 bM.toNatClampNeg) q4).bind fun q5 => ((M_enters (mo.toInt64) q5).bind fun q6 => some (un, q6))))))) := if_pos ((nI_ltI (by omega) (by omega)).mpr (Nat.lt_succ_self _))
    rw [hxd, hmd]
    by_cases h0 : k = 0
    · refine ⟨nI 0, _, _, [], if_pos (by rw [h0]; rfl), ?_, X_reset hX, M_reset hM, rfl, by decide⟩
      rw [if_pos (by rw [h0]; decide), hun h0]
    · rcases hst with ⟨q, -⟩ | ⟨q, bN, q1, q2, q3⟩
      · exact absurd q h0
      · subst q2; subst q3
        obtain ⟨x1, x2⟩ := hFX bN q1
        obtain ⟨y1, y2⟩ := hFM bN q1
        obtain ⟨t1, t2⟩ := X_tells_ok (X_reset hX) (r := []) (by decide) (fst' ρ its bN).1
        obtain ⟨t3, t4⟩ := X_tells_ok t2 (by show 1 < 128; decide) (fst' ρ its bN).2
        obtain ⟨t5, t6⟩ := X_tells_ok t4 (by show 2 < 128; decide) mo.toInt64
        obtain ⟨e1, e2⟩ := M_enters_ok (M_reset hM) (r := []) (by decide) (fst' ρ its bN).1
        obtain ⟨e3, e4⟩ := M_enters_ok e2 (by show 1 < 160; decide) (fst' ρ its bN).2
        obtain ⟨e5, e6⟩ := M_enters_ok e4 (by show 2 < 160; decide) mo.toInt64
        refine ⟨un, _, _, _, ?_, ?_, t6, e6, rfl, by show 3 ≤ 128; decide⟩
        · rw [if_neg (nI_ne0 (by omega) (by omega)), if_neg (nI_in (by omega) (by decide)), nI_clamp (by omega), show xB (zI σ 5 (nI 0)) 3 bN = (fst' ρ its bN).1 from x1, t1, Option.bind_some, if_neg (nI_dn (show bN < 64 by omega) (by decide)), show xB (tlX (zI σ 5 (nI 0)) [] (fst' ρ its bN).1) 4 bN = (fst' ρ its bN).2 from x2, t3, Option.bind_some, t5, Option.bind_some]
        · rw [if_neg (nI_nle (by omega) (by omega)), if_neg (nI_in (by omega) (by decide)), nI_clamp (by omega), show gB (sI μ 1 (nI 0)) 1 (bN + 1) = (fst' ρ its bN).1 from y1, e1, Option.bind_some, if_neg (nI_dn (show bN + 1 < 129 by omega) (by decide)), show gB (tlM (sI μ 1 (nI 0)) [] (fst' ρ its bN).1) 2 (bN + 1) = (fst' ρ its bN).2 from y2, e3, Option.bind_some, e5, Option.bind_some]
  | succ d ih =>
    intro k f g un b bM mo mN hk hf hg hmo hm hst hun
    obtain ⟨f, rfl⟩ : ∃ z, f = z + 1 := ⟨f - 1, by omega⟩
    obtain ⟨g, rfl⟩ : ∃ z, g = z + 1 := ⟨g - 1, by omega⟩
    subst hmo
    have hxi := X_unl_in (X_unlike_118 f) hFX hn (show k < n by omega) un b (nI mN) u u' n 0 FU (by omega) (by unfold FU; omega)
    have hmi := M_unl_in (M_unlike_71 g) hFM hn (show k < n by omega) un bM (nI mN) n 0 FU (by omega) (by unfold FU; omega)
    have hxd : X_unlike_118 (f + 1) (nI n) un b (nI mN) (nI k) σ u u' = X_unlike_133 (X_unlike_118 f) FU (nI n) un b (nI mN) (nI k) (nI 0) (nI 0) (nI 0) σ u u' := if_neg (nI_ge (by omega) (by omega))
    have hmd : M_unlike_71 (g + 1) (nI n) un bM (nI mN) (nI (k + 1)) μ = M_unlike_86 (M_unlike_71 g) FU (nI n) un bM (nI mN) (nI (k + 1)) (nI 0) (nI 1) (nI 1) μ := if_neg (fun z => absurd ((nI_ltI (by omega) (by omega)).mp z) (by omega))
    rw [hxd, hmd]
    have hxi : X_unlike_133 (X_unlike_118 f) FU (nI n) un b (nI mN) (nI k) (nI 0) (nI 0) (nI 0) σ u u' = _ := hxi
    have hmi : M_unlike_86 (M_unlike_71 g) FU (nI n) un bM (nI mN) (nI (k + 1)) (nI 0) (nI 1) (nI 1) μ = _ := hmi
    rw [hxi, hmi]
    have hc1 := cntS_pos (smB_self ρ its k) n (by omega)
    have hc2 := cntS_le (smB ρ its k) n
    generalize cntS (smB ρ its k) n = c at hc1 hc2
    generalize (if cntS (ahB ρ its k) n = 0 then nI 1 else nI 0) = y
    unfold X_unlike_215 X_unlike_235 M_unlike_197
    rw [nI_add, nI_add]
    by_cases hcm : mN < c
    · rw [if_pos ((nI_ltI (by omega) (by omega)).mpr hcm), if_neg (nI_ge hcm (by omega)), if_pos ((nI_ltI (by omega) (by omega)).mpr hcm)]
      exact ih (k + 1) f g (un + y) (nI k) (nI (k + 1)) (nI c) c (by omega) (by omega) (by omega) rfl (by omega) (.inr ⟨hc1, k, by omega, rfl, rfl⟩) (fun z => by omega)
    · rw [if_neg (fun z => hcm ((nI_ltI (by omega) (by omega)).mp z)), if_pos (nI_le (by omega) (by omega)), if_neg (fun z => hcm ((nI_ltI (by omega) (by omega)).mp z))]
      refine ih (k + 1) f g (un + y) b bM (nI mN) mN (by omega) (by omega) (by omega) rfl hm ?_ (fun z => by omega)
      rcases hst with ⟨q1, q2⟩ | q
      · omega
      · exact .inr q
theorem X_unl_fold {ρ : RC} {L : LC} {w : Nat} {reb : Int32} {Z : ZZ} (hR : RV ρ) {its : List Nat} (h64 : its.length ≤ 64) (h9 : ∀ v ∈ its, v ≤ 9999) (u u' : Nat) : ∀ (d k f : Nat) (σ : XS), k + d = its.length → d < f → XR 4 ρ L w reb Z σ → LOK 4 L (xN σ) w → R0 σ its → pr σ 2 = fo ρ (seg its 0 k) → FX ρ its k σ → ∃ σ', X_unlike_40 f (nI its.length) (nI k) σ u u' = X_unlike_118 FU (nI its.length) (nI 0) (-1 : Int32) (nI 0) (nI 0) σ' u u' ∧ XR 4 ρ L w reb Z σ' ∧ xN σ' = xN σ ∧ FX ρ its its.length σ' := by
  intro d
  induction d with
  | zero =>
    intro k f σ hk hf hX hL h0 hp hF
    obtain ⟨f, rfl⟩ : ∃ z, f = z + 1 := ⟨f - 1, by omega⟩
    have : k = its.length := by omega
    subst this
    exact ⟨σ, if_pos (nI_le (Nat.le_refl _) (by omega)), hX, rfl, hF⟩
  | succ d ih =>
    intro k f σ hk hf hX hL h0 hp hF
    obtain ⟨f, rfl⟩ : ∃ z, f = z + 1 := ⟨f - 1, by omega⟩
    obtain ⟨σ1, σ2, a1, a2, a3, a4⟩ := X_step_t hX.2.1 hR hX.n3 (h9 _ (gD_mem (show k < its.length by omega))) hp (VD_fo hR _ (seg_mem h9))
    have hfs := fo_s (ρ := ρ) (its := its) (i := 0) (m := k) (by omega)
    rw [Nat.zero_add] at hfs
    rw [← hfs] at a4
    have hX2 := hX.t hL a3
    have h3 : 2 < xN σ2 := by have := hX2.n3; omega
    have hq : XQ (xN σ) σ2 (zB (zB σ2 3 k (fst' ρ its k).1) 4 k (fst' ρ its k).2) := (XQ.zB σ2 (by decide) _ _).trans (XQ.zB _ (by decide) _ _)
    have e3 : ∀ t, xB (zB (zB σ2 3 k (fst' ρ its k).1) 4 k (fst' ρ its k).2) 3 t = if t = k then (fst' ρ its k).1 else xB σ2 3 t := fun t => by rw [xB_zB, if_neg (show ¬ (3 : Nat) = 4 by decide), xB_zB, if_pos (show (3 : Nat) = 3 from rfl)]
    have e4 : ∀ t, xB (zB (zB σ2 3 k (fst' ρ its k).1) 4 k (fst' ρ its k).2) 4 t = if t = k then (fst' ρ its k).2 else xB σ2 4 t := fun t => by rw [xB_zB, if_pos (show (4 : Nat) = 4 from rfl), xB_zB, if_neg (show ¬ (4 : Nat) = 3 by decide)]
    obtain ⟨σ3, g1, g2, g3, g4⟩ := ih (k + 1) f (zB (zB σ2 3 k (fst' ρ its k).1) 4 k (fst' ρ its k).2) (by omega) (by omega) (hX2.q hL hq) (show LOK 4 L (xN σ2) w from hL.t a3) (fun t ht => h0.t a3 t ht) a4 (fun t ht => by
      rw [e3, e4]
      by_cases hh : t = k
      · rw [if_pos hh, if_pos hh, hh]; exact ⟨rfl, rfl⟩
      · rw [if_neg hh, if_neg hh, a3.2.2.1]; exact hF t (by omega))
    refine ⟨σ3, ?_, g2, g3.trans a3.2.2.2.1, g4⟩
    rw [← g1]
    have hP : rP (xC σ2 2) = (fst' ρ its k).1 := by unfold fst'; rw [← a4]; rfl
    have hQ : rQ (xC (zB σ2 3 k (fst' ρ its k).1) 2) = (fst' ρ its k).2 := by
      have : rQ (xC σ2 2) = (fst' ρ its k).2 := by unfold fst'; rw [← a4]; rfl
      exact this
    show (if nI its.length ≤ nI k then _ else (if nI k < 0 ∨ 64 ≤ (nI k).toNatClampNeg then none else ((X_make 0 (xA σ 3 (nI k).toNatClampNeg) σ).bind fun q6 => ((X_join 2 2 0 q6).bind fun q7 => (if 2 < xN q7 then (if nI k < 0 ∨ 64 ≤ (nI k).toNatClampNeg then none else (if 2 < xN (zB q7 3 (nI k).toNatClampNeg (rP (xC q7 2))) then (if nI k < 0 ∨ 64 ≤ (nI k).toNatClampNeg then none else X_unlike_40 f (nI its.length) (nI k + nI 1) (zB (zB q7 3 (nI k).toNatClampNeg (rP (xC q7 2))) 4 (nI k).toNatClampNeg (rQ (xC (zB q7 3 (nI k).toNatClampNeg (rP (xC q7 2))) 2))) u u') else none)) else none))))) = _
    have ck : (nI k).toNatClampNeg = k := nI_clamp (by omega)
    have dk : ¬ (nI k < 0 ∨ 64 ≤ k) := by rw [zN_lt0 (by omega), false_or]; omega
    rw [if_neg (nI_ge (by omega) (by omega)), ck, if_neg dk, h0 k (by omega), a1, Option.bind_some, a2, Option.bind_some, if_pos h3, if_neg dk, hP, if_pos (show 2 < xN (zB σ2 3 k (fst' ρ its k).1) from h3), if_neg dk, hQ, nI_add]
theorem M_unl_fold {ρ : RC} {L : LC} {w l : Nat} {reb : Int32} {Z : ZZ} (hR : RV ρ) (hl : l < 4) (hs : szL L l ≤ 64) (h9 : ∀ v ∈ itemsOf L l, v ≤ 9999) : ∀ (d k f : Nat) (μ : MS), k + d = szL L l → d < f → MR 4 ρ L w reb Z μ → FM ρ (itemsOf L l) k μ → ∃ μ', M_unlike_22 f (nI l) (nI (szL L l)) (nI (k + 1)) μ = M_unlike_71 FU (nI (szL L l)) (nI 0) (nI 0) (nI 0) (nI 1) μ' ∧ MR 4 ρ L w reb Z μ' ∧ FM ρ (itemsOf L l) (szL L l) μ' := by
  intro d
  induction d with
  | zero =>
    intro k f μ hk hf hM hF
    obtain ⟨f, rfl⟩ : ∃ z, f = z + 1 := ⟨f - 1, by omega⟩
    have : k = szL L l := by omega
    subst this
    exact ⟨μ, if_pos ((nI_ltI (by omega) (by omega)).mpr (Nat.lt_succ_self _)), hM, hF⟩
  | succ d ih =>
    intro k f μ hk hf hM hF
    obtain ⟨f, rfl⟩ : ∃ z, f = z + 1 := ⟨f - 1, by omega⟩
    obtain ⟨μ1, m1, m2, m3, m4⟩ := M_sums_ok hR (show l < 5 by omega) hs h9 (i := 0) (m := k + 1) (by omega) hM.1 (hM.ln hl)
    have hq : MU μ1 (sB (sB μ1 1 (k + 1) (fst' ρ (itemsOf L l) k).1) 2 (k + 1) (fst' ρ (itemsOf L l) k).2) := (MU.sB μ1 (by decide) _ _).trans (MU.sB _ (by decide) _ _)
    have e3 : ∀ t, gB (sB (sB μ1 1 (k + 1) (fst' ρ (itemsOf L l) k).1) 2 (k + 1) (fst' ρ (itemsOf L l) k).2) 1 t = if t = k + 1 then (fst' ρ (itemsOf L l) k).1 else gB μ1 1 t := fun t => by rw [gB_sB, if_neg (show ¬ (1 : Nat) = 2 by decide), gB_sB, if_pos (show (1 : Nat) = 1 from rfl)]
    have e4 : ∀ t, gB (sB (sB μ1 1 (k + 1) (fst' ρ (itemsOf L l) k).1) 2 (k + 1) (fst' ρ (itemsOf L l) k).2) 2 t = if t = k + 1 then (fst' ρ (itemsOf L l) k).2 else gB μ1 2 t := fun t => by rw [gB_sB, if_pos (show (2 : Nat) = 2 from rfl), gB_sB, if_neg (show ¬ (2 : Nat) = 1 by decide)]
    obtain ⟨μ2, g1, g2, g3⟩ := ih (k + 1) f _ (by omega) (by omega) ((hM.v m2).q hq) (fun t ht => by
      rw [e3, e4]
      by_cases hh : t = k
      · rw [if_pos (by omega), if_pos (by omega), hh]; exact ⟨rfl, rfl⟩
      · rw [if_neg (by omega), if_neg (by omega), m2.2.2, m2.2.2]; exact hF t (by omega))
    refine ⟨μ2, ?_, g2, g3⟩
    rw [← g1]
    have ck : (nI (k + 1)).toNatClampNeg = k + 1 := nI_clamp (by omega)
    have dk : ¬ (nI (k + 1) < 0 ∨ 129 ≤ k + 1) := by rw [zN_lt0 (by omega), false_or]; omega
    show (if nI (szL L l) < nI (k + 1) then _ else ((M_sums (nI l) (nI 0) (nI (k + 1)) μ).bind fun q3 => (if nI (k + 1) < 0 ∨ 129 ≤ (nI (k + 1)).toNatClampNeg then none else (if nI (k + 1) < 0 ∨ 129 ≤ (nI (k + 1)).toNatClampNeg then none else M_unlike_22 f (nI l) (nI (szL L l)) (nI (k + 1) + nI 1) (sB (sB q3 1 (nI (k + 1)).toNatClampNeg (gL q3 0)) 2 (nI (k + 1)).toNatClampNeg (gL (sB q3 1 (nI (k + 1)).toNatClampNeg (gL q3 0)) 1)))))) = _
    rw [if_neg (fun z => absurd ((nI_ltI (by omega) (by omega)).mp z) (by omega)), ck, m1, Option.bind_some, if_neg dk, if_neg dk, gL_sB, m3, m4, nI_add]; rfl
theorem E_unlike_ok (n : Nat) : E_unlike (RR n) (RR (n + 1)) := by
  intro σ μ x1 h
  have h0 := h.stay (nI 0)
  obtain ⟨ρ, L, w, reb, Z, hR, hL, hZ, hX, hM, hw, hr⟩ := h
  have hM0 := hM.q (MU.sI μ (k := 0) (.inl rfl) (nI 0))
  rcases isL x1 with ⟨a1, b1⟩ | ⟨l, hl, rfl, a1, b1⟩
  · exact ⟨-1, σ, _, by unfold X_unlike; simp only [a1, obs, n10, n00, n20, if_false, if_true, and_self, Nat.reduceAdd, Nat.reduceLeDiff], by unfold M_unlike; simp only [b1, obs, n10, n00, n20, if_false, if_true, and_self, Nat.reduceAdd, Nat.reduceLeDiff], h0⟩
  have cl : (nI l).toNatClampNeg = l := nI_clamp (by omega)
  have dl : ¬ (nI l < 0 ∨ 4 ≤ l) := by rw [zN_lt0 (by omega), false_or]; omega
  obtain ⟨h64, h9, hs64⟩ := its9 hL hl
  have hil := items_len L l
  obtain ⟨σ1, p1, p2, p3, p4, -⟩ := hX.lay0 hL hl
  have s2 := M_size_ok hM0 (by decide) hl
  obtain ⟨σ2, f1, f2, f3, -⟩ := X_empty_t p2.2.1 hR p2.n3 (i := 2) (by decide)
  have hn : xN σ2 = xN σ := f2.2.2.2.1.trans p3
  obtain ⟨σ3, g1, g2, g3, g4⟩ := X_unl_fold hR h64 h9 (0 + 6) (0 + 150) (itemsOf L l).length 0 FU σ2 (by omega) (by unfold FU; omega) (p2.t hL f2) (by rw [hn]; exact hL) (R0.t (fun t ht => p4 t ht) f2) f3 (fun t ht => absurd ht (Nat.not_lt_zero _))
  obtain ⟨μ1, k1, k2, k3⟩ := M_unl_fold hR hl hs64 h9 (szL L l) 0 FU (sI μ 0 (nI 0)) (by omega) (by unfold FU; omega) hM0 (fun t ht => absurd ht (Nat.not_lt_zero _))
  rw [hil] at g1 g4
  obtain ⟨r, σ', μ', row, q1, q2, q3, q4, q5, q6⟩ := unl_out hs64 g2 k2 g4 k3 (0 + 6) (0 + 150) (szL L l) 0 FU FU (nI 0) (-1) (nI 0) (nI 0) 0 (by omega) (by unfold FU; omega) (by unfold FU; omega) rfl (by decide) (.inl ⟨rfl, rfl⟩) (fun _ => rfl)
  have hx : X_unlike (nI l) σ = some (r, σ') := by
    unfold X_unlike
    rw [a1, obs, if_neg (show ¬ nI 1 = 0 by decide), if_neg (by rw [cl]; exact dl), if_pos ⟨by decide, by decide⟩, cl, p1, obs, f1, obs]
    exact g1.trans q1
  have hm : M_unlike (nI l) μ = some (r, μ') := by
    unfold M_unlike
    rw [b1, obs, if_neg (show ¬ nI 1 = 0 by decide), s2, obs]
    exact k1.trans q2
  exact ⟨r, σ', μ', hx, hm, RR.fin hR hL hZ hw hr q6 q3 q4 (q5.trans (g3.trans hn))⟩
