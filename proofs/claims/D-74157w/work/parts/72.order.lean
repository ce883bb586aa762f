set_option maxRecDepth 100000
/-! order, undoes -/
def powW (ρ : RC) (v : Nat) : Nat → VV
  | 0 => el ρ v
  | k + 1 => jn ρ (powW ρ v k) (el ρ v)
theorem VD_powW {ρ : RC} (hR : RV ρ) {v : Nat} (hv : v ≤ 9999) : ∀ k, VD ρ (powW ρ v k)
  | 0 => VD_el hR hv
  | k + 1 => VD_jn hR (VD_powW hR hv k) (VD_el hR hv)
def sameW (ρ : RC) (v m k : Nat) : Prop := lg_cmp (powW ρ v k).1 (powW ρ v m).1 = 0 ∧ lg_cmp (powW ρ v k).2 (powW ρ v m).2 = 0
/-- both look for an earlier like power: found at the same place, or not at all. m + 1 is the exponent now -/
theorem ord_scan {ρ : RC} {v m : Nat} {σ : XS} {μ : MS} (hm : m < 128) (h3 : 3 ≤ xN σ) (hp : pr σ 2 = powW ρ v m) (hB : ∀ k, k < m → xB σ 1 k = (powW ρ v k).1 ∧ xB σ 2 k = (powW ρ v k).2) (hL : gL μ 0 = (powW ρ v m).1 ∧ gL μ 1 = (powW ρ v m).2) (hC : ∀ k, k < m → gB μ 1 (k + 1) = (powW ρ v k).1 ∧ gB μ 2 (k + 1) = (powW ρ v k).2) (k41 : Int32 → XS → Option (Int32 × XS)) (k48 : Int64 → Int64 → Int32 → MS → Option (Int32 × MS)) (a b : Int64) : ∀ (d k f g : Nat), k + d = m → d < f → d < g → (∃ j, j < m ∧ X_order_50 k41 f (nI (m + 1)) (nI k) σ = (X_tells (nI (j + 1)).toInt64 (zI σ 5 (nI 0))).bind (fun q5 => some (nI (m + 1), q5)) ∧ M_order_106 k48 g a b (nI (m + 1)) (nI (k + 1)) μ = (M_enters (nI (j + 1)).toInt64 (sI μ 1 (nI 0))).bind (fun q4 => some (nI (m + 1), q4))) ∨ (X_order_50 k41 f (nI (m + 1)) (nI k) σ = ((X_join 2 2 0 (zB (zB σ 1 m (powW ρ v m).1) 2 m (powW ρ v m).2)).bind fun q4 => k41 (nI (m + 1 + 1)) q4) ∧ M_order_106 k48 g a b (nI (m + 1)) (nI (k + 1)) μ = k48 a b (nI (m + 1 + 1)) μ) := by
  have hP : rP (xC σ 2) = (powW ρ v m).1 := by rw [← hp]; rfl
  have hQ : rQ (xC σ 2) = (powW ρ v m).2 := by rw [← hp]; rfl
  have h2 : 2 < xN σ := by omega
  intro d
  induction d with
  | zero =>
    intro k f g hk hf hg
    obtain ⟨f, rfl⟩ : ∃ z, f = z + 1 := ⟨f - 1, by omega⟩
    obtain ⟨g, rfl⟩ : ∃ z, g = z + 1 := ⟨g - 1, by omega⟩
    have : k = m := by omega
    subst this
    have cm : (nI k).toNatClampNeg = k := nI_clamp (by omega)
    have dm : ¬ (nI k < 0 ∨ 128 ≤ k) := nI_dn hm (by decide)
    refine .inr ⟨?_, ?_⟩
    · show (if (nI (k + 1) - (nI 1)) ≤ nI k then (if 2 < xN σ then (if (nI (k + 1) - (nI 1)) < 0 ∨ 128 ≤ (nI (k + 1) - (nI 1)).toNatClampNeg then none else (if 2 < xN (zB σ 1 (nI (k + 1) - (nI 1)).toNatClampNeg (rP (xC σ 2))) then (if (nI (k + 1) - (nI 1)) < 0 ∨ 128 ≤ (nI (k + 1) - (nI 1)).toNatClampNeg then none else ((X_join 2 2 0 (zB (zB σ 1 (nI (k + 1) - (nI 1)).toNatClampNeg (rP (xC σ 2))) 2 (nI (k + 1) - (nI 1)).toNatClampNeg (rQ (xC (zB σ 1 (nI (k + 1) - (nI 1)).toNatClampNeg (rP (xC σ 2))) 2)))).bind fun q4 => k41 (nI (k + 1) + (nI 1)) q4)) else none)) else none) else _) = _
      rw [m1_s, if_pos (nI_le (Nat.le_refl _) (by omega)), if_pos h2, cm, if_neg dm, hP, if_pos (show 2 < xN (zB σ 1 k (powW ρ v k).1) from h2), if_neg dm, show rQ (xC (zB σ 1 k (powW ρ v k).1) 2) = (powW ρ v k).2 from hQ, nI_add]
    · show (if nI (k + 1) ≤ nI (k + 1) then k48 a b (nI (k + 1) + nI 1) μ else _) = _
      rw [if_pos (nI_le (Nat.le_refl _) (by omega)), nI_add]
  | succ d ih =>
    intro k f g hk hf hg
    obtain ⟨f, rfl⟩ : ∃ z, f = z + 1 := ⟨f - 1, by omega⟩
    obtain ⟨g, rfl⟩ : ∃ z, g = z + 1 := ⟨g - 1, by omega⟩
    obtain ⟨e1, e2⟩ := hB k (by omega)
    obtain ⟨g1, g2⟩ := hC k (by omega)
    have ck : (nI k).toNatClampNeg = k := nI_clamp (by omega)
    have dk : ¬ (nI k < 0 ∨ 128 ≤ k) := nI_dn (by omega) (by decide)
    have ck1 : (nI (k + 1)).toNatClampNeg = k + 1 := nI_clamp (by omega)
    have dk1 : ¬ (nI (k + 1) < 0 ∨ 129 ≤ k + 1) := nI_dn (by omega) (by decide)
    have hxd : X_order_50 k41 (f + 1) (nI (m + 1)) (nI k) σ = if lg_cmp (powW ρ v k).1 (powW ρ v m).1 = 0 then (if lg_cmp (powW ρ v k).2 (powW ρ v m).2 = 0 then (X_tells (nI (k + 1)).toInt64 (zI σ 5 (nI 0))).bind (fun q5 => some (nI (m + 1), q5)) else X_order_50 k41 f (nI (m + 1)) (nI (k + 1)) σ) else X_order_50 k41 f (nI (m + 1)) (nI (k + 1)) σ := by
      show (if (nI (m + 1) - (nI 1)) ≤ nI k then _ else (if nI k < 0 ∨ 128 ≤ (nI k).toNatClampNeg then none else (if 2 < xN σ then (if (lg_cmp (xB σ 1 (nI k).toNatClampNeg) (rP (xC σ 2))) = 0 then (if nI k < 0 ∨ 128 ≤ (nI k).toNatClampNeg then none else (if 2 < xN σ then (if (lg_cmp (xB σ 2 (nI k).toNatClampNeg) (rQ (xC σ 2))) = 0 then ((X_tells ((nI k + (nI 1)).toInt64) (zI σ 5 (nI 0))).bind fun q5 => some (nI (m + 1), q5)) else X_order_50 k41 f (nI (m + 1)) (nI k + nI 1) σ) else none)) else X_order_50 k41 f (nI (m + 1)) (nI k + nI 1) σ) else none))) = _
      rw [m1_s, if_neg (nI_ge (by omega) (by omega)), ck, if_neg dk, if_pos h2, e1, hP, if_neg dk, if_pos h2, e2, hQ, nI_add]
    have hmd : M_order_106 k48 (g + 1) a b (nI (m + 1)) (nI (k + 1)) μ = if lg_cmp (powW ρ v k).1 (powW ρ v m).1 = 0 then (if lg_cmp (powW ρ v k).2 (powW ρ v m).2 = 0 then (M_enters (nI (k + 1)).toInt64 (sI μ 1 (nI 0))).bind (fun q4 => some (nI (m + 1), q4)) else M_order_106 k48 g a b (nI (m + 1)) (nI (k + 1 + 1)) μ) else M_order_106 k48 g a b (nI (m + 1)) (nI (k + 1 + 1)) μ := by
      show (if nI (m + 1) ≤ nI (k + 1) then _ else (if nI (k + 1) < 0 ∨ 129 ≤ (nI (k + 1)).toNatClampNeg then none else (if (lg_cmp (gB μ 1 (nI (k + 1)).toNatClampNeg) (gL μ 0)) = 0 then (if nI (k + 1) < 0 ∨ 129 ≤ (nI (k + 1)).toNatClampNeg then none else (if (lg_cmp (gB μ 2 (nI (k + 1)).toNatClampNeg) (gL μ 1)) = 0 then ((M_enters ((nI (k + 1)).toInt64) (sI μ 1 (nI 0))).bind fun q4 => some (nI (m + 1), q4)) else M_order_106 k48 g a b (nI (m + 1)) (nI (k + 1) + nI 1) μ)) else M_order_106 k48 g a b (nI (m + 1)) (nI (k + 1) + nI 1) μ))) = _
      rw [if_neg (nI_ge (by omega) (by omega)), ck1, if_neg dk1, g1, hL.1, if_neg dk1, g2, hL.2, nI_add]
    rw [hxd, hmd]
    have hih := ih (k + 1) f g (by omega) (by omega) (by omega)
    by_cases c1 : lg_cmp (powW ρ v k).1 (powW ρ v m).1 = 0
    · by_cases c2 : lg_cmp (powW ρ v k).2 (powW ρ v m).2 = 0
      · rw [if_pos c1, if_pos c2, if_pos c1, if_pos c2]
        exact .inl ⟨k, by omega, rfl, rfl⟩
      · rw [if_pos c1, if_neg c2, if_pos c1, if_neg c2]; exact hih
    · rw [if_neg c1, if_neg c1]; exact hih
theorem ord_loop {ρ : RC} {L : LC} {w : Nat} {reb : Int32} {Z : ZZ} (hR : RV ρ) (hZ : ZW Z) {v : Nat} (hv : v ≤ 9999) : ∀ (d m f g : Nat) (σ : XS) (μ : MS), m + d = 128 → 1 ≤ m → d < f → d < g → XR 4 ρ L w reb Z σ → MR 4 ρ L w reb Z μ → LOK 4 L (xN σ) w → pr σ 2 = powW ρ v m → pr σ 0 = el ρ v → (∀ k, k < m → xB σ 1 k = (powW ρ v k).1 ∧ xB σ 2 k = (powW ρ v k).2) → (∀ k, k < m → gB μ 1 (k + 1) = (powW ρ v k).1 ∧ gB μ 2 (k + 1) = (powW ρ v k).2) → ∃ (r : Int32) (σ' : XS) (μ' : MS) (row : List Int64), X_order_41 f (nI (m + 1)) σ = some (r, σ') ∧ M_order_48 g (el ρ v).1 (el ρ v).2 (nI (m + 1)) μ = some (r, μ') ∧ XR 4 ρ L w reb (zr Z row) σ' ∧ MR 4 ρ L w reb (zr Z row) μ' ∧ xN σ' = xN σ ∧ row.length ≤ 128 := by
  intro d
  induction d with
  | zero =>
    intro m f g σ μ hm h1 hf hg hX hM hL p2 p0 hB hC
    obtain ⟨f, rfl⟩ : ∃ z, f = z + 1 := ⟨f - 1, by omega⟩
    obtain ⟨g, rfl⟩ : ∃ z, g = z + 1 := ⟨g - 1, by omega⟩
    have : m = 128 := by omega
    subst this
    exact ⟨-2, σ, μ, Z.2.2.1, if_pos (by decide), if_pos (by decide), hX, hM, rfl, hZ.2.2⟩
  | succ d ih =>
    intro m f g σ μ hm h1 hf hg hX hM hL p2 p0 hB hC
    obtain ⟨f, rfl⟩ : ∃ z, f = z + 1 := ⟨f - 1, by omega⟩
    obtain ⟨g, rfl⟩ : ∃ z, g = z + 1 := ⟨g - 1, by omega⟩
    obtain ⟨m', rfl⟩ : ∃ z, m = z + 1 := ⟨m - 1, by omega⟩
    obtain ⟨c1, c2⟩ := hC m' (by omega)
    obtain ⟨μ1, j1, j2, j3, j4⟩ := M_join_q hM.1 hR (VD_powW hR hv m') (VD_el hR hv)
    have j3 : gL μ1 0 = (powW ρ v (m' + 1)).1 := j3
    have j4 : gL μ1 1 = (powW ρ v (m' + 1)).2 := j4
    have hq : MU μ1 (sB (sB μ1 1 (m' + 2) (powW ρ v (m' + 1)).1) 2 (m' + 2) (powW ρ v (m' + 1)).2) := (MU.sB μ1 (by decide) _ _).trans (MU.sB _ (by decide) _ _)
    have e3 : ∀ t, gB (sB (sB μ1 1 (m' + 2) (powW ρ v (m' + 1)).1) 2 (m' + 2) (powW ρ v (m' + 1)).2) 1 t = if t = m' + 2 then (powW ρ v (m' + 1)).1 else gB μ1 1 t := fun t => by rw [gB_sB, if_neg (show ¬ (1 : Nat) = 2 by decide), gB_sB, if_pos (show (1 : Nat) = 1 from rfl)]
    have e4 : ∀ t, gB (sB (sB μ1 1 (m' + 2) (powW ρ v (m' + 1)).1) 2 (m' + 2) (powW ρ v (m' + 1)).2) 2 t = if t = m' + 2 then (powW ρ v (m' + 1)).2 else gB μ1 2 t := fun t => by rw [gB_sB, if_pos (show (2 : Nat) = 2 from rfl), gB_sB, if_neg (show ¬ (2 : Nat) = 1 by decide)]
    have hM2 := (hM.v j2).q hq
    have hl2 : gL (sB (sB μ1 1 (m' + 2) (powW ρ v (m' + 1)).1) 2 (m' + 2) (powW ρ v (m' + 1)).2) = gL μ1 := rfl
    have hmd : M_order_48 (g + 1) (el ρ v).1 (el ρ v).2 (nI (m' + 1 + 1)) μ = M_order_106 (M_order_48 g) FU (el ρ v).1 (el ρ v).2 (nI (m' + 1 + 1)) (nI 1) (sB (sB μ1 1 (m' + 2) (powW ρ v (m' + 1)).1) 2 (m' + 2) (powW ρ v (m' + 1)).2) := by
      have c2n : (nI (m' + 1 + 1)).toNatClampNeg = m' + 2 := nI_clamp (by omega)
      have d2n : ¬ (nI (m' + 1 + 1) < 0 ∨ 129 ≤ m' + 2) := nI_dn (show m' + 1 + 1 < 129 by omega) (by decide)
      have c1n : (nI (m' + 1)).toNatClampNeg = m' + 1 := nI_clamp (by omega)
      have d1n : ¬ (nI (m' + 1) < 0 ∨ 129 ≤ m' + 1) := nI_dn (by omega) (by decide)
      show (if (nI 128) < nI (m' + 1 + 1) then _ else (if (nI (m' + 1 + 1) - (nI 1)) < 0 ∨ 129 ≤ (nI (m' + 1 + 1) - (nI 1)).toNatClampNeg then none else (if (nI (m' + 1 + 1) - (nI 1)) < 0 ∨ 129 ≤ (nI (m' + 1 + 1) - (nI 1)).toNatClampNeg then none else ((M_join (gB μ 1 (nI (m' + 1 + 1) - (nI 1)).toNatClampNeg) (gB μ 2 (nI (m' + 1 + 1) - (nI 1)).toNatClampNeg) (el ρ v).1 (el ρ v).2 μ).bind fun q3 => (if nI (m' + 1 + 1) < 0 ∨ 129 ≤ (nI (m' + 1 + 1)).toNatClampNeg then none else (if nI (m' + 1 + 1) < 0 ∨ 129 ≤ (nI (m' + 1 + 1)).toNatClampNeg then none else M_order_106 (M_order_48 g) FU (el ρ v).1 (el ρ v).2 (nI (m' + 1 + 1)) (nI 1) (sB (sB q3 1 (nI (m' + 1 + 1)).toNatClampNeg (gL q3 0)) 2 (nI (m' + 1 + 1)).toNatClampNeg (gL (sB q3 1 (nI (m' + 1 + 1)).toNatClampNeg (gL q3 0)) 1)))))))) = _
      rw [if_neg (fun z => absurd ((nI_ltI (by decide) (by omega)).mp z) (by omega)), m1_s, c1n, if_neg d1n, if_neg d1n, c1, c2, j1, Option.bind_some, c2n, if_neg d2n, if_neg d2n, gL_sB, j3, j4]
    have hxd : X_order_41 (f + 1) (nI (m' + 1 + 1)) σ = X_order_50 (X_order_41 f) FU (nI (m' + 1 + 1)) (nI 0) σ := if_neg (fun z => absurd ((nI_ltI (by decide) (by omega)).mp z) (by omega))
    rw [hxd, hmd]
    generalize sB (sB μ1 1 (m' + 2) (powW ρ v (m' + 1)).1) 2 (m' + 2) (powW ρ v (m' + 1)).2 = μ2 at hM2 e3 e4 hl2 hq
    have hC2 : ∀ k, k < m' + 1 + 1 → gB μ2 1 (k + 1) = (powW ρ v k).1 ∧ gB μ2 2 (k + 1) = (powW ρ v k).2 := fun k hk => by
      rw [e3, e4]
      by_cases hh : k = m' + 1
      · rw [if_pos (by omega), if_pos (by omega), hh]; exact ⟨rfl, rfl⟩
      · rw [if_neg (by omega), if_neg (by omega), j2.2.2, j2.2.2]; exact hC k (by omega)
    rcases ord_scan (ρ := ρ) (v := v) (m := m' + 1) (σ := σ) (μ := μ2) (by omega) hX.n3 p2 hB ⟨by rw [hl2]; exact j3, by rw [hl2]; exact j4⟩ (fun k hk => hC2 k (by omega)) (X_order_41 f) (M_order_48 g) (el ρ v).1 (el ρ v).2 (m' + 1) 0 FU FU (by omega) (by unfold FU; omega) (by unfold FU; omega) with ⟨j, k1, k2, k3⟩ | ⟨k2, k3⟩
    · have k3 : M_order_106 (M_order_48 g) FU (el ρ v).1 (el ρ v).2 (nI (m' + 1 + 1)) (nI 1) μ2 = _ := k3
      rw [k2, k3]
      obtain ⟨t1, t2⟩ := X_tells_ok (X_reset hX) (r := []) (by decide) (nI (j + 1)).toInt64
      obtain ⟨u1, u2⟩ := M_enters_ok (M_reset hM2) (r := []) (by decide) (nI (j + 1)).toInt64
      exact ⟨nI (m' + 1 + 1), _, _, _, by rw [t1]; rfl, by rw [u1]; rfl, t2, u2, rfl, by show 1 ≤ 128; decide⟩
    · have k3 : M_order_106 (M_order_48 g) FU (el ρ v).1 (el ρ v).2 (nI (m' + 1 + 1)) (nI 1) μ2 = _ := k3
      rw [k2, k3]
      have hqx : XQ (xN σ) σ (zB (zB σ 1 (m' + 1) (powW ρ v (m' + 1)).1) 2 (m' + 1) (powW ρ v (m' + 1)).2) := (XQ.zB σ (by decide) _ _).trans (XQ.zB _ (by decide) _ _)
      have f3 : ∀ t, xB (zB (zB σ 1 (m' + 1) (powW ρ v (m' + 1)).1) 2 (m' + 1) (powW ρ v (m' + 1)).2) 1 t = if t = m' + 1 then (powW ρ v (m' + 1)).1 else xB σ 1 t := fun t => by rw [xB_zB, if_neg (show ¬ (1 : Nat) = 2 by decide), xB_zB, if_pos (show (1 : Nat) = 1 from rfl)]
      have f4 : ∀ t, xB (zB (zB σ 1 (m' + 1) (powW ρ v (m' + 1)).1) 2 (m' + 1) (powW ρ v (m' + 1)).2) 2 t = if t = m' + 1 then (powW ρ v (m' + 1)).2 else xB σ 2 t := fun t => by rw [xB_zB, if_pos (show (2 : Nat) = 2 from rfl), xB_zB, if_neg (show ¬ (2 : Nat) = 1 by decide)]
      have hX2 := hX.q hL hqx
      have r2 : pr (zB (zB σ 1 (m' + 1) (powW ρ v (m' + 1)).1) 2 (m' + 1) (powW ρ v (m' + 1)).2) 2 = powW ρ v (m' + 1) := p2
      have r0 : pr (zB (zB σ 1 (m' + 1) (powW ρ v (m' + 1)).1) 2 (m' + 1) (powW ρ v (m' + 1)).2) 0 = el ρ v := p0
      have hn2 : xN (zB (zB σ 1 (m' + 1) (powW ρ v (m' + 1)).1) 2 (m' + 1) (powW ρ v (m' + 1)).2) = xN σ := rfl
      generalize zB (zB σ 1 (m' + 1) (powW ρ v (m' + 1)).1) 2 (m' + 1) (powW ρ v (m' + 1)).2 = σ2 at *
      obtain ⟨σ3, a1, a2, a3, a4⟩ := X_join_t hX2.2.1 hR hX2.n3 (i := 2) (a := 2) (b := 0) (by decide) (by decide) (by decide) r2 r0 (VD_powW hR hv _) (VD_el hR hv)
      have hL2 : LOK 4 L (xN σ2) w := by rw [hn2]; exact hL
      obtain ⟨r, σ', μ', row, q1, q2, q3, q4, q5, q6⟩ := ih (m' + 1 + 1) f g σ3 μ2 (by omega) (by omega) (by omega) (by omega) (hX2.t hL2 a2) hM2 (hL2.t a2) a3 ((a4 0 (by decide)).trans r0) (fun k hk => by
        rw [a2.2.2.1, f3, f4]
        by_cases hh : k = m' + 1
        · rw [if_pos hh, if_pos hh, hh]; exact ⟨rfl, rfl⟩
        · rw [if_neg hh, if_neg hh]; exact hB k (by omega)) hC2
      exact ⟨r, σ', μ', row, by rw [a1, Option.bind_some]; exact q1, q2, q3, q4, q5.trans (a2.2.2.2.1.trans hn2), q6⟩
theorem X_order_run {σ σ1 : XS} {v : Nat} {x : VV} (a1 : X_isItem (nI v) = some (nI 1)) (m1 : X_make 0 (nI v) σ = some σ1) (h3 : 3 ≤ xN σ1) (hx : pr σ1 0 = x) : X_order (nI v) σ = X_order_41 FU (nI 1) (pq σ1 2 (x.1, x.2)) := by
  have q0 : rP (xC σ1 0) = x.1 := by rw [← hx]; rfl
  have q1 : rQ (xC σ1 0) = x.2 := by rw [← hx]; rfl
  unfold X_order
  rw [a1, obs, if_neg (show ¬ nI 1 = 0 by decide), m1, obs, if_pos (by omega), if_pos (by omega), if_pos (by omega), q0, q1, Xp_is_pq (by omega), obs]
theorem M_order_run {μ μ1 : MS} {v : Nat} {x : VV} (b1 : M_isItem (nI v) = some (nI 1)) (m1 : M_element (nI v) (sI μ 0 (nI 0)) = some μ1) (h0 : gL μ1 0 = x.1) (h1 : gL μ1 1 = x.2) : M_order (nI v) μ = M_order_48 FU x.1 x.2 (nI 2) (sB (sB μ1 1 1 x.1) 2 1 x.2) := by
  unfold M_order
  rw [b1, obs, if_neg (show ¬ nI 1 = 0 by decide), m1, obs, h0, h1, show (nI 1).toNatClampNeg = 1 from rfl, if_neg (show ¬ (nI 1 < 0 ∨ 129 ≤ 1) by decide), if_neg (show ¬ (nI 1 < 0 ∨ 129 ≤ 1) by decide)]
theorem E_order_ok (n : Nat) : E_order (RR n) (RR (n + 1)) := by
  intro σ μ x1 h
  have h0 := h.stay (nI 0)
  obtain ⟨ρ, L, w, reb, Z, hR, hL, hZ, hX, hM, hw, hr⟩ := h
  have hM0 := hM.q (MU.sI μ (k := 0) (.inl rfl) (nI 0))
  rcases isI x1 with ⟨a1, b1⟩ | ⟨v, hv, rfl, a1, b1⟩
  · exact ⟨-1, σ, _, by unfold X_order; simp only [a1, obs, n10, n00, n20, if_false, if_true, and_self, Nat.reduceAdd, Nat.reduceLeDiff], by unfold M_order; simp only [b1, obs, n10, n00, n20, if_false, if_true, and_self, Nat.reduceAdd, Nat.reduceLeDiff], h0⟩
  obtain ⟨σ1, m1, m2, m3, m4⟩ := X_make_t hX.2.1 hR hX.n3 (i := 0) (by decide) hv
  have h3 := m2.n3 hX.n3
  have hx := X_order_run a1 m1 h3 m3
  obtain ⟨μ1, e1, e2, e3, e4⟩ := M_element_q hM0.1 hR hv
  have hm := M_order_run b1 e1 e3 e4
  have tq := XT.pq σ1 (i := 2) (by decide) ((el ρ v).1, (el ρ v).2)
  have t2 := m2.trans tq
  have r2 : pr (pq σ1 2 ((el ρ v).1, (el ρ v).2)) 2 = powW ρ v 0 := by rw [pr_pq, if_pos rfl]; rfl
  have r0 : pr (pq σ1 2 ((el ρ v).1, (el ρ v).2)) 0 = el ρ v := by rw [pr_pq, if_neg (by decide)]; exact m3
  generalize pq σ1 2 ((el ρ v).1, (el ρ v).2) = σ2 at *
  have hX2 := hX.t hL t2
  have hL2 := hL.t t2
  -- the component's first round: nothing to compare
  have hq : XQ (xN σ2) σ2 (zB (zB σ2 1 0 (powW ρ v 0).1) 2 0 (powW ρ v 0).2) := (XQ.zB σ2 (by decide) _ _).trans (XQ.zB _ (by decide) _ _)
  have hX3 := hX2.q hL2 hq
  have hst : X_order_41 FU (nI 1) σ2 = (X_join 2 2 0 (zB (zB σ2 1 0 (powW ρ v 0).1) 2 0 (powW ρ v 0).2)).bind fun q4 => X_order_41 (FU - 1) (nI 2) q4 := by
    rcases ord_scan (ρ := ρ) (v := v) (m := 0) (σ := σ2) (μ := sL (sL μ1 0 (powW ρ v 0).1) 1 (powW ρ v 0).2) (by decide) hX2.n3 r2 (fun k hk => absurd hk (Nat.not_lt_zero _)) ⟨rfl, rfl⟩ (fun k hk => absurd hk (Nat.not_lt_zero _)) (X_order_41 (FU - 1)) (M_order_48 0) 0 0 0 0 FU FU rfl (by unfold FU; omega) (by unfold FU; omega) with ⟨j, k1, -⟩ | ⟨k2, -⟩
    · exact absurd k1 (Nat.not_lt_zero _)
    · exact (if_neg (show ¬ nI 128 < nI 1 by decide) : X_order_41 (FU - 1 + 1) (nI 1) σ2 = X_order_50 (X_order_41 (FU - 1)) FU (nI 1) (nI 0) σ2).trans k2
  have s2 : pr (zB (zB σ2 1 0 (powW ρ v 0).1) 2 0 (powW ρ v 0).2) 2 = powW ρ v 0 := r2
  have s0 : pr (zB (zB σ2 1 0 (powW ρ v 0).1) 2 0 (powW ρ v 0).2) 0 = el ρ v := r0
  have f3 : xB (zB (zB σ2 1 0 (powW ρ v 0).1) 2 0 (powW ρ v 0).2) 1 0 = (powW ρ v 0).1 := by rw [xB_zB, if_neg (show ¬ (1 : Nat) = 2 by decide), xB_zB, if_pos (show (1 : Nat) = 1 from rfl), if_pos rfl]
  have f4 : xB (zB (zB σ2 1 0 (powW ρ v 0).1) 2 0 (powW ρ v 0).2) 2 0 = (powW ρ v 0).2 := by rw [xB_zB, if_pos (show (2 : Nat) = 2 from rfl), if_pos rfl]
  have hn3 : xN (zB (zB σ2 1 0 (powW ρ v 0).1) 2 0 (powW ρ v 0).2) = xN σ2 := rfl
  generalize zB (zB σ2 1 0 (powW ρ v 0).1) 2 0 (powW ρ v 0).2 = σ3 at *
  have hL3 : LOK 4 L (xN σ3) w := by rw [hn3]; exact hL2
  obtain ⟨σ4, j1, j2, j3, j4⟩ := X_join_t hX3.2.1 hR hX3.n3 (i := 2) (a := 2) (b := 0) (by decide) (by decide) (by decide) s2 s0 (VD_powW hR hv 0) (VD_el hR hv)
  have hqm : MU μ1 (sB (sB μ1 1 1 (el ρ v).1) 2 1 (el ρ v).2) := (MU.sB μ1 (by decide) _ _).trans (MU.sB _ (by decide) _ _)
  obtain ⟨r, σ', μ', row, q1, q2, q3, q4, q5, q6⟩ := ord_loop hR hZ hv 127 1 (FU - 1) FU σ4 _ (by decide) (by decide) (by decide) (by decide) (hX3.t hL3 j2) ((hM0.v e2).q hqm) (hL3.t j2) j3 ((j4 0 (by decide)).trans s0) (fun k hk => by
    have : k = 0 := by omega
    subst this
    rw [j2.2.2.1]; exact ⟨f3, f4⟩) (fun k hk => by
    have : k = 0 := by omega
    subst this
    exact ⟨by rw [gB_sB, if_neg (show ¬ (1 : Nat) = 2 by decide), gB_sB, if_pos (show (1 : Nat) = 1 from rfl), if_pos rfl]; rfl, by rw [gB_sB, if_pos (show (2 : Nat) = 2 from rfl), if_pos rfl]; rfl⟩)
  rw [hst, j1, Option.bind_some] at hx
  exact ⟨r, σ', μ', hx.trans q1, hm.trans q2, RR.fin hR hL hZ hw hr q6 q3 q4 (q5.trans (j2.2.2.2.1.trans (hn3.trans t2.2.2.2.1)))⟩
