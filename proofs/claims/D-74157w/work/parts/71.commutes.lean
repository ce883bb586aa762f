set_option maxRecDepth 100000
/-! commutes, powers, order, undoes -/
theorem M_joinsTwo_ok {ρ : RC} {μ : MS} (h : MG ρ μ) (hv : RV ρ) {v u : Nat} (hv9 : v ≤ 9999) (hu9 : u ≤ 9999) : ∃ μ', M_joinsTwo (nI v) (nI u) μ = some μ' ∧ MV μ μ' ∧ gL μ' 0 = (jn ρ (el ρ v) (el ρ u)).1 ∧ gL μ' 1 = (jn ρ (el ρ v) (el ρ u)).2 := by
  obtain ⟨μ1, a1, a2, a3, a4⟩ := M_element_q h hv hu9
  obtain ⟨μ2, b1, b2, b3, b4⟩ := M_element_q (h.v a2) hv hv9
  obtain ⟨μ3, c1, c2, c3, c4⟩ := M_join_q ((h.v a2).v b2) hv (VD_el hv hv9) (VD_el hv hu9)
  refine ⟨μ3, ?_, (a2.trans b2).trans c2, c3, c4⟩
  unfold M_joinsTwo
  rw [a1, Option.bind_some, b1, Option.bind_some, a3, a4, b3, b4, c1]; rfl
theorem X_commutes_run {ρ : RC} {L : LC} {w : Nat} {reb : Int32} {Z : ZZ} {σ : XS} (hR : RV ρ) (hX : XR 4 ρ L w reb Z σ) (hL : LOK 4 L (xN σ) w) {v u : Nat} (hv : v ≤ 9999) (hu : u ≤ 9999) (a1 : X_isItem (nI v) = some (nI 1)) (a2 : X_isItem (nI u) = some (nI 1)) {x y : VV} (hx : jn ρ (el ρ v) (el ρ u) = x) (hy : jn ρ (el ρ u) (el ρ v) = y) : ∃ σ', X_commutes (nI v) (nI u) σ = some (if lg_cmp x.1 y.1 = 0 then (if lg_cmp x.2 y.2 = 0 then nI 1 else nI 0) else nI 0, σ') ∧ XR 4 ρ L w reb (zr Z [x.1, x.2, y.1, y.2]) σ' ∧ xN σ' = xN σ := by
  obtain ⟨σ1, m1, m2, m3, m4⟩ := X_make_t hX.2.1 hR hX.n3 (i := 0) (by decide) hv
  obtain ⟨σ2, n1, n2, n3, n4⟩ := X_make_t (hX.2.1.t m2) hR (m2.n3 hX.n3) (i := 1) (by decide) hu
  have t2 := m2.trans n2
  obtain ⟨σ3, j1, j2, j3, j4⟩ := X_join_t (hX.2.1.t t2) hR (t2.n3 hX.n3) (i := 2) (a := 0) (b := 1) (by decide) (by decide) (by decide) ((n4 0 (by decide)).trans m3) n3 (VD_el hR hv) (VD_el hR hu)
  have t3 := t2.trans j2
  have hX3 := hX.t hL t3
  rw [hx] at j3
  obtain ⟨p1, p2⟩ := X_tellsPair_ok (X_reset hX3) (r := []) (i := 2) (x := x) (by decide) (by have := hX3.n3; show 2 < xN σ3; omega) j3
  generalize hσ4 : tlX (tlX (zI σ3 5 (nI 0)) [] x.1) ([] ++ [x.1]) x.2 = σ4 at p1 p2
  have q0 : pr σ4 0 = el ρ v := by rw [← hσ4]; exact (j4 0 (by decide)).trans ((n4 0 (by decide)).trans m3)
  have q1 : pr σ4 1 = el ρ u := by rw [← hσ4]; exact (j4 1 (by decide)).trans n3
  have q2 : xN σ4 = xN σ3 := by rw [← hσ4]; rfl
  obtain ⟨σ5, k1, k2, k3, k4⟩ := X_join_t p2.2.1 hR p2.n3 (i := 2) (a := 1) (b := 0) (by decide) (by decide) (by decide) q1 q0 (VD_el hR hu) (VD_el hR hv)
  rw [hy] at k3
  have hL4 : LOK 4 L (xN σ4) w := by rw [q2]; exact hL.t t3
  obtain ⟨r1, r2⟩ := X_tellsPair_ok (p2.t hL4 k2) (i := 2) (x := y) (by show 2 < 127; decide) (by have := (p2.t hL4 k2).n3; omega) k3
  generalize hσ6 : tlX (tlX σ5 ([] ++ [x.1, x.2]) y.1) ([] ++ [x.1, x.2] ++ [y.1]) y.2 = σ6 at r1 r2
  have hn6 : xN σ6 = xN σ := by rw [← hσ6]; exact k2.2.2.2.1.trans (q2.trans t3.2.2.2.1)
  have g0 : xB σ6 0 0 = x.1 := r2.2.2.2.2.1 0 (by show 0 < 4; decide)
  have g1 : xB σ6 0 1 = x.2 := r2.2.2.2.2.1 1 (by show 1 < 4; decide)
  have g2 : xB σ6 0 2 = y.1 := r2.2.2.2.2.1 2 (by show 2 < 4; decide)
  have g3 : xB σ6 0 3 = y.2 := r2.2.2.2.2.1 3 (by show 3 < 4; decide)
  refine ⟨σ6, ?_, r2, hn6⟩
  unfold X_commutes
  rw [a1, obs, if_neg (show ¬ nI 1 = 0 by decide), a2, obs, if_neg (show ¬ nI 1 = 0 by decide), m1, obs, n1, obs, j1, obs, p1, obs, k1, obs, r1, obs, show (nI 0).toNatClampNeg = 0 from rfl, show (nI 1).toNatClampNeg = 1 from rfl, show (nI 2).toNatClampNeg = 2 from rfl, show (nI 3).toNatClampNeg = 3 from rfl, g0, g1, g2, g3, if_neg (show ¬ (nI 0 < 0 ∨ 128 ≤ 0) by decide), if_neg (show ¬ (nI 2 < 0 ∨ 128 ≤ 2) by decide), if_neg (show ¬ (nI 1 < 0 ∨ 128 ≤ 1) by decide), if_neg (show ¬ (nI 3 < 0 ∨ 128 ≤ 3) by decide)]
  split
  · split <;> rfl
  · rfl
theorem M_commutes_run {ρ : RC} {L : LC} {w : Nat} {reb : Int32} {Z : ZZ} {μ : MS} (hR : RV ρ) (hM : MR 4 ρ L w reb Z (sI μ 0 (nI 0))) {v u : Nat} (hv : v ≤ 9999) (hu : u ≤ 9999) (b1 : M_isItem (nI v) = some (nI 1)) (b2 : M_isItem (nI u) = some (nI 1)) {x y : VV} (hx : jn ρ (el ρ v) (el ρ u) = x) (hy : jn ρ (el ρ u) (el ρ v) = y) : ∃ μ', M_commutes (nI v) (nI u) μ = some (if lg_cmp x.1 y.1 = 0 then (if lg_cmp x.2 y.2 = 0 then nI 1 else nI 0) else nI 0, μ') ∧ MR 4 ρ L w reb (zr Z [x.1, x.2, y.1, y.2]) μ' := by
  obtain ⟨μ1, m1, m2, m3, m4⟩ := M_joinsTwo_ok hM.1 hR hv hu
  obtain ⟨μ2, n1, n2, n3, n4⟩ := M_joinsTwo_ok (hM.1.v m2) hR hu hv
  rw [hx] at m3 m4
  rw [hy] at n3 n4
  have hM2 := (hM.v m2).v n2
  obtain ⟨e1, e2⟩ := M_enters_ok (M_reset hM2) (r := []) (by decide) x.1
  obtain ⟨e3, e4⟩ := M_enters_ok e2 (by show 1 < 160; decide) x.2
  obtain ⟨e5, e6⟩ := M_enters_ok e4 (by show 2 < 160; decide) y.1
  obtain ⟨e7, e8⟩ := M_enters_ok e6 (by show 3 < 160; decide) y.2
  refine ⟨_, ?_, e8⟩
  generalize hν1 : tlM (sI μ2 1 (nI 0)) [] x.1 = ν1 at e1 e3 e5 e7
  generalize hν2 : tlM ν1 ([] ++ [x.1]) x.2 = ν2 at e3 e5 e7
  have l2 : gL ν2 = gL μ2 := by rw [← hν2, ← hν1]; rfl
  generalize hν3 : tlM ν2 ([] ++ [x.1] ++ [x.2]) y.1 = ν3 at e5 e7
  have l3 : gL ν3 = gL μ2 := by rw [← hν3]; exact l2
  generalize hν4 : tlM ν3 ([] ++ [x.1] ++ [x.2] ++ [y.1]) y.2 = ν4 at e7
  have l4 : gL ν4 = gL μ2 := by rw [← hν4]; exact l3
  have f0 : M_flag (nI 0) = some (nI 0) := rfl
  have f1 : M_flag (nI 1) = some (nI 1) := rfl
  unfold M_commutes M_commutes_99 M_commutes_100
  rw [b1, obs, if_neg (show ¬ nI 1 = 0 by decide), b2, obs, if_neg (show ¬ nI 1 = 0 by decide), m1, obs, n1, obs, m3, m4, e1, obs, e3, obs, l2, n3, e5, obs, l3, n4, e7, obs, l4, n3, n4, f0, f1, obs, obs]
  split
  · split <;> rfl
  · rfl
theorem E_commutes_ok (n : Nat) : E_commutes (RR n) (RR (n + 1)) := by
  intro σ μ x1 x2 h
  have h0 := h.stay (nI 0)
  obtain ⟨ρ, L, w, reb, Z, hR, hL, hZ, hX, hM, hw, hr⟩ := h
  have hM0 := hM.q (MU.sI μ (k := 0) (.inl rfl) (nI 0))
  rcases isI x1 with ⟨a1, b1⟩ | ⟨v, hv, rfl, a1, b1⟩
  · exact ⟨-1, σ, _, by unfold X_commutes; simp only [a1, obs, n10, n00, n20, if_false, if_true, and_self, Nat.reduceAdd, Nat.reduceLeDiff], by unfold M_commutes; simp only [b1, obs, n10, n00, n20, if_false, if_true, and_self, Nat.reduceAdd, Nat.reduceLeDiff], h0⟩
  rcases isI x2 with ⟨a2, b2⟩ | ⟨u, hu, rfl, a2, b2⟩
  · exact ⟨-1, σ, _, by unfold X_commutes; simp only [a1, a2, obs, n10, n00, n20, if_false, if_true, and_self, Nat.reduceAdd, Nat.reduceLeDiff], by unfold M_commutes; simp only [b1, b2, obs, n10, n00, n20, if_false, if_true, and_self, Nat.reduceAdd, Nat.reduceLeDiff], h0⟩
  obtain ⟨σ', p1, p2, p3⟩ := X_commutes_run hR hX hL hv hu a1 a2 rfl rfl
  obtain ⟨μ', q1, q2⟩ := M_commutes_run hR hM0 hv hu b1 b2 rfl rfl
  exact ⟨_, σ', μ', p1, q1, RR.fin hR hL hZ hw hr (by show 4 ≤ 128; decide) p2 q2 p3⟩
/-! powers -/
theorem nlz73 {a : Nat} (x : Int32) (h1 : 1 ≤ a) (h4 : a < 4) : ∃ t, 2 ^ t ≤ a ∧ a < 2 ^ (t + 1) ∧ t < 2 ∧ Xi_numberOfLeadingZeros_73 (nI a) x = some (x - nI t) := by
  unfold Xi_numberOfLeadingZeros_73
  rw [pk_ushrN (by omega) (nI 1) 1 (by decide)]
  rcases (show a = 1 ∨ a = 2 ∨ a = 3 by omega) with rfl | rfl | rfl
  · exact ⟨0, by decide, by decide, by decide, rfl⟩
  · exact ⟨1, by decide, by decide, by decide, rfl⟩
  · exact ⟨1, by decide, by decide, by decide, rfl⟩
theorem sub_m (x : Int32) (t k : Nat) : x + -nI k - nI t = x - nI (t + k) := by
  rw [← nI_add, Int32.sub_eq_add_neg, Int32.sub_eq_add_neg, Int32.neg_add, Int32.sub_eq_add_neg, Int32.add_assoc, Int32.add_comm (-nI k)]
theorem nlz_st {a k t : Nat} (h : 2 ^ t ≤ a / 2 ^ k) (h2 : a / 2 ^ k < 2 ^ (t + 1)) : 2 ^ (t + k) ≤ a ∧ a < 2 ^ (t + k + 1) := by
  have hp : 0 < 2 ^ k := Nat.two_pow_pos k
  have e1 := (Nat.le_div_iff_mul_le hp).mp h
  have e2 := (Nat.div_lt_iff_lt_mul hp).mp h2
  refine ⟨by rw [Nat.pow_add]; exact e1, ?_⟩
  rw [show t + k + 1 = t + 1 + k by omega, Nat.pow_add]; exact e2
theorem nlz61 {a : Nat} (x : Int32) (h1 : 1 ≤ a) (h4 : a < 16) : ∃ t, 2 ^ t ≤ a ∧ a < 2 ^ (t + 1) ∧ t < 4 ∧ Xi_numberOfLeadingZeros_61 (nI a) x = some (x - nI t) := by
  unfold Xi_numberOfLeadingZeros_61
  by_cases hc : a < 4
  · rw [if_pos ((nI_ltI (by omega) (by omega)).mpr hc)]
    obtain ⟨t, q1, q2, q3, q4⟩ := nlz73 x h1 hc
    exact ⟨t, q1, q2, by omega, q4⟩
  · rw [if_neg (fun z => hc ((nI_ltI (by omega) (by omega)).mp z)), pk_ushrN (by omega) (nI 2) 2 (by decide)]
    obtain ⟨t, q1, q2, q3, q4⟩ := nlz73 (a := a / 2 ^ 2) (x + -nI 2) (by omega) (by omega)
    obtain ⟨r1, r2⟩ := nlz_st q1 q2
    exact ⟨t + 2, r1, r2, by omega, by rw [show x + (-2 : Int32) = x + -nI 2 from rfl, q4, sub_m]⟩
theorem nlz48 {a : Nat} (x : Int32) (h1 : 1 ≤ a) (h4 : a < 256) : ∃ t, 2 ^ t ≤ a ∧ a < 2 ^ (t + 1) ∧ t < 8 ∧ Xi_numberOfLeadingZeros_48 (nI a) x = some (x - nI t) := by
  unfold Xi_numberOfLeadingZeros_48
  by_cases hc : a < 16
  · rw [if_pos ((nI_ltI (by omega) (by omega)).mpr hc)]
    obtain ⟨t, q1, q2, q3, q4⟩ := nlz61 x h1 hc
    exact ⟨t, q1, q2, by omega, q4⟩
  · rw [if_neg (fun z => hc ((nI_ltI (by omega) (by omega)).mp z)), pk_ushrN (by omega) (nI 4) 4 (by decide)]
    obtain ⟨t, q1, q2, q3, q4⟩ := nlz61 (a := a / 2 ^ 4) (x + -nI 4) (by omega) (by omega)
    obtain ⟨r1, r2⟩ := nlz_st q1 q2
    exact ⟨t + 4, r1, r2, by omega, by rw [show x + (-4 : Int32) = x + -nI 4 from rfl, q4, sub_m]⟩
theorem nlz33 {a : Nat} (x : Int32) (h1 : 1 ≤ a) (h4 : a < 65536) : ∃ t, 2 ^ t ≤ a ∧ a < 2 ^ (t + 1) ∧ t < 16 ∧ Xi_numberOfLeadingZeros_33 (nI a) x = some (x - nI t) := by
  unfold Xi_numberOfLeadingZeros_33
  by_cases hc : a < 256
  · rw [if_pos ((nI_ltI (by omega) (by omega)).mpr hc)]
    obtain ⟨t, q1, q2, q3, q4⟩ := nlz48 x h1 hc
    exact ⟨t, q1, q2, by omega, q4⟩
  · rw [if_neg (fun z => hc ((nI_ltI (by omega) (by omega)).mp z)), pk_ushrN (by omega) (nI 8) 8 (by decide)]
    obtain ⟨t, q1, q2, q3, q4⟩ := nlz48 (a := a / 2 ^ 8) (x + -nI 8) (by omega) (by omega)
    obtain ⟨r1, r2⟩ := nlz_st q1 q2
    exact ⟨t + 8, r1, r2, by omega, by rw [show x + (-8 : Int32) = x + -nI 8 from rfl, q4, sub_m]⟩
theorem nlz_ok {a : Nat} (h1 : 1 ≤ a) (h4 : a < 2 ^ 31) : ∃ t, 2 ^ t ≤ a ∧ a < 2 ^ (t + 1) ∧ t < 31 ∧ Xi_numberOfLeadingZeros (nI a) = some (nI 31 - nI t) := by
  unfold Xi_numberOfLeadingZeros
  rw [if_pos (show (0 : Int32) < nI a from (nI_ltI (a := 0) (by decide) h4).mpr h1), show (65536 : Int32) = nI 65536 from rfl]
  by_cases hc : a < 65536
  · rw [if_pos ((nI_ltI (by omega) (by decide)).mpr hc)]
    obtain ⟨t, q1, q2, q3, q4⟩ := nlz33 (nI 31) h1 hc
    exact ⟨t, q1, q2, by omega, q4⟩
  · rw [if_neg (fun z => hc ((nI_ltI (by omega) (by decide)).mp z)), pk_ushrN (by omega) (nI 16) 16 (by decide)]
    obtain ⟨t, q1, q2, q3, q4⟩ := nlz33 (a := a / 2 ^ 16) (nI 31 + -nI 16) (by omega) (by omega)
    obtain ⟨r1, r2⟩ := nlz_st q1 q2
    have ht : t + 16 < 31 := by
      by_cases hh : t + 16 < 31
      · exact hh
      · have : 2 ^ 31 ≤ 2 ^ (t + 16) := Nat.pow_le_pow_right (by decide) (by omega)
        omega
    exact ⟨t + 16, r1, r2, ht, by rw [show nI 31 + (-16 : Int32) = nI 31 + -nI 16 from rfl, q4, sub_m]⟩
/-- by and by the power, how often things were joined -/
def pwV (ρ : RC) (v n t : Nat) : Nat → VV × Nat
  | 0 => (el ρ v, 0)
  | d + 1 => if (n / 2 ^ (t - d - 1)) % 2 = 0 then (jn ρ (pwV ρ v n t d).1 (pwV ρ v n t d).1, (pwV ρ v n t d).2 + 1) else (jn ρ (jn ρ (pwV ρ v n t d).1 (pwV ρ v n t d).1) (el ρ v), (pwV ρ v n t d).2 + 1 + 1)
theorem VD_pwV {ρ : RC} (hR : RV ρ) {v : Nat} (hv : v ≤ 9999) (n t : Nat) : ∀ d, VD ρ (pwV ρ v n t d).1
  | 0 => VD_el hR hv
  | d + 1 => by
    have ih := VD_pwV hR hv n t d
    unfold pwV
    split
    · exact VD_jn hR ih ih
    · exact VD_jn hR (VD_jn hR ih ih) (VD_el hR hv)
theorem sh31 : ∀ j : Nat, j < 31 → nI j &&& 31 = nI j ∧ ((nI j).toBitVec.smod 32).toNat = j := by decide +kernel
theorem bit_of {n j : Nat} (hn : n < 2 ^ 31) (hj : j < 31) : ((nI n >>> (nI j &&& 31)) &&& nI 1) = nI (n / 2 ^ j % 2) := by
  obtain ⟨e1, e2⟩ := sh31 j hj
  have : n / 2 ^ j ≤ n := Nat.div_le_self _ _
  rw [e1, pk_shrN hn (nI j) j e2, pk_andN (by omega) 1 (by decide)]
theorem X_pow_loop {ρ : RC} (hR : RV ρ) {v n t : Nat} (hv : v ≤ 9999) (hn : n < 2 ^ 31) (ht : t < 31) : ∀ (e d f : Nat) (σ : XS), d + e = t → e < f → XG ρ σ → 3 ≤ xN σ → pr σ 0 = el ρ v → pr σ 2 = (pwV ρ v n t d).1 → ∃ σ', XT σ σ' ∧ pr σ' 2 = (pwV ρ v n t t).1 ∧ X_powers_81 f (nI n) (nI (pwV ρ v n t d).2) (nI e - nI 1) σ = (X_tellsPair 2 (zI σ' 5 (nI 0))).bind fun q7 => some (nI (pwV ρ v n t t).2, q7) := by
  intro e
  induction e with
  | zero =>
    intro d f σ hd hf hG h3 p0 p2
    obtain ⟨f, rfl⟩ : ∃ z, f = z + 1 := ⟨f - 1, by omega⟩
    have : d = t := by omega
    subst this
    exact ⟨σ, XT.refl σ, p2, if_pos m1_n⟩
  | succ e ih =>
    intro d f σ hd hf hG h3 p0 p2
    obtain ⟨f, rfl⟩ : ∃ z, f = z + 1 := ⟨f - 1, by omega⟩
    have hVd := VD_pwV hR hv n t d
    obtain ⟨σ1, j1, j2, j3, j4⟩ := X_join_t hG hR h3 (i := 2) (a := 2) (b := 2) (by decide) (by decide) (by decide) p2 p2 hVd hVd
    have hst : X_powers_81 (f + 1) (nI n) (nI (pwV ρ v n t d).2) (nI (e + 1) - nI 1) σ = if nI (n / 2 ^ e % 2) = 0 then X_powers_81 f (nI n) (nI ((pwV ρ v n t d).2 + 1)) (nI e - nI 1) σ1 else ((X_join 2 2 0 σ1).bind fun q9 => X_powers_81 f (nI n) (nI ((pwV ρ v n t d).2 + 1 + 1)) (nI e - nI 1) q9) := by
      rw [m1_s]
      show (if nI e < 0 then _ else ((X_join 2 2 2 σ).bind fun q8 => (if ((nI n >>> (nI e &&& 31)) &&& (nI 1)) = 0 then X_powers_81 f (nI n) (nI (pwV ρ v n t d).2 + nI 1) (nI e + (-1 : Int32)) q8 else ((X_join 2 2 0 q8).bind fun q9 => X_powers_81 f (nI n) (nI (pwV ρ v n t d).2 + nI 1 + nI 1) (nI e + (-1 : Int32)) q9)))) = _
      rw [if_neg (nI_pos (by omega)), j1, Option.bind_some, bit_of hn (by omega), nI_add, nI_add, m1_e]
    rw [hst]
    have hV : pwV ρ v n t (d + 1) = if (n / 2 ^ e) % 2 = 0 then (jn ρ (pwV ρ v n t d).1 (pwV ρ v n t d).1, (pwV ρ v n t d).2 + 1) else (jn ρ (jn ρ (pwV ρ v n t d).1 (pwV ρ v n t d).1) (el ρ v), (pwV ρ v n t d).2 + 1 + 1) := by
      rw [show e = t - d - 1 by omega]; rfl
    by_cases hz : n / 2 ^ e % 2 = 0
    · rw [if_pos hz] at hV
      rw [if_pos (by rw [hz]; rfl)]
      obtain ⟨σ2, k1, k2, k3⟩ := ih (d + 1) f σ1 (by omega) (by omega) (hG.t j2) (j2.n3 h3) ((j4 0 (by decide)).trans p0) (by rw [hV]; exact j3)
      rw [hV] at k3
      exact ⟨σ2, j2.trans k1, k2, k3⟩
    · rw [if_neg hz] at hV
      rw [if_neg (nI_ne0 (by omega) (by omega))]
      obtain ⟨σ2, i1, i2, i3, i4⟩ := X_join_t (hG.t j2) hR (j2.n3 h3) (i := 2) (a := 2) (b := 0) (by decide) (by decide) (by decide) j3 ((j4 0 (by decide)).trans p0) (VD_jn hR hVd hVd) (VD_el hR hv)
      have t2 := j2.trans i2
      obtain ⟨σ3, k1, k2, k3⟩ := ih (d + 1) f σ2 (by omega) (by omega) (hG.t t2) (t2.n3 h3) ((i4 0 (by decide)).trans ((j4 0 (by decide)).trans p0)) (by rw [hV]; exact i3)
      rw [hV] at k3
      exact ⟨σ3, t2.trans k1, k2, by rw [i1, Option.bind_some]; exact k3⟩
theorem M_pow_loop {ρ : RC} (hR : RV ρ) {v n t : Nat} (hv : v ≤ 9999) (hn : n < 2 ^ 31) (h1 : 2 ^ t ≤ n) (h2 : n < 2 ^ (t + 1)) : ∀ (d f : Nat) (μ : MS), d ≤ t → d < f → MG ρ μ → ∃ μ', M_power f (nI v) (nI (n / 2 ^ (t - d))) μ = some (nI (pwV ρ v n t d).2, μ') ∧ MV μ μ' ∧ gL μ' 0 = (pwV ρ v n t d).1.1 ∧ gL μ' 1 = (pwV ρ v n t d).1.2 := by
  intro d
  induction d with
  | zero =>
    intro f μ hd hf hG
    obtain ⟨f, rfl⟩ : ∃ z, f = z + 1 := ⟨f - 1, by omega⟩
    have e1 : n / 2 ^ (t - 0) = 1 := by
      rw [Nat.sub_zero]
      have hp : 0 < 2 ^ t := Nat.two_pow_pos t
      have a := (Nat.le_div_iff_mul_le hp).mpr (show 1 * 2 ^ t ≤ n by omega)
      have b := (Nat.div_lt_iff_lt_mul hp).mpr (show n < 2 * 2 ^ t by rw [Nat.pow_succ] at h2; omega)
      omega
    obtain ⟨μ1, a1, a2, a3, a4⟩ := M_element_q hG hR hv
    refine ⟨μ1, ?_, a2, a3, a4⟩
    rw [e1]
    show (if nI 1 = 0 then _ else (if nI 1 = nI 1 then ((M_element (nI v) μ).bind fun q5 => some (nI 0, q5)) else _)) = _
    rw [if_neg (by decide), if_pos rfl, a1]; rfl
  | succ d ih =>
    intro f μ hd hf hG
    obtain ⟨f, rfl⟩ : ∃ z, f = z + 1 := ⟨f - 1, by omega⟩
    obtain ⟨μ1, a1, a2, a3, a4⟩ := ih f μ (by omega) (by omega) hG
    have hle : n / 2 ^ (t - (d + 1)) ≤ n := Nat.div_le_self _ _
    have hpow : 2 ^ (t - d) = 2 ^ (t - (d + 1)) * 2 := by rw [← Nat.pow_succ]; congr 1; omega
    have hhalf : n / 2 ^ (t - (d + 1)) / 2 = n / 2 ^ (t - d) := by rw [Nat.div_div_eq_div_mul, hpow]
    have hm1 : 1 ≤ n / 2 ^ (t - d) := by
      have hp : 0 < 2 ^ (t - d) := Nat.two_pow_pos _
      refine (Nat.le_div_iff_mul_le hp).mpr ?_
      have : 2 ^ (t - d) ≤ 2 ^ t := Nat.pow_le_pow_right (by decide) (by omega)
      omega
    have hVd := VD_pwV hR hv n t d
    obtain ⟨μ2, b1, b2, b3, b4⟩ := M_join_q (hG.v a2) hR hVd hVd
    have hst : M_power (f + 1) (nI v) (nI (n / 2 ^ (t - (d + 1)))) μ = if n / 2 ^ (t - (d + 1)) % 2 = 0 then some (nI ((pwV ρ v n t d).2 + 1), μ2) else ((M_element (nI v) μ2).bind fun q3 => ((M_join (gL μ2 0) (gL μ2 1) (gL q3 0) (gL q3 1) q3).bind fun q4 => some (nI ((pwV ρ v n t d).2 + 1 + 1), q4))) := by
      generalize hm : n / 2 ^ (t - (d + 1)) = m at hle hhalf
      show (if nI m = 0 then _ else (if nI m = nI 1 then _ else (if (nI 2) = 0 then none else ((M_power f (nI v) (nI m / (nI 2)) μ).bind fun q1 => ((M_join (gL q1.2 0) (gL q1.2 1) (gL q1.2 0) (gL q1.2 1) q1.2).bind fun q2 => (if (nI 2) = 0 then none else (if (nI m - nI m / (nI 2) * (nI 2)) = 0 then some ((q1.1 + (nI 1)), q2) else ((M_element (nI v) q2).bind fun q3 => ((M_join (gL q2 0) (gL q2 1) (gL q3 0) (gL q3 1) q3).bind fun q4 => some (((q1.1 + (nI 1)) + (nI 1)), q4)))))))))) = _
      rw [if_neg (nI_ne0 (by omega) (by omega)), if_neg (fun z => absurd ((nI_eq (by omega) (by decide)).mp z) (by omega)), if_neg (show ¬ nI 2 = 0 by decide), pk_rem (by omega) (by decide) (by decide), pk_div (by omega) (by decide) (by decide), hhalf, a1, obs, a3, a4, b1, obs, if_neg (show ¬ nI 2 = 0 by decide)]
      by_cases hz : m % 2 = 0
      · rw [if_pos hz, if_pos (by rw [hz]; rfl), nI_add]
      · rw [if_neg hz, if_neg (nI_ne0 (by omega) (by omega)), nI_add, nI_add]
    rw [hst]
    have hV : pwV ρ v n t (d + 1) = if (n / 2 ^ (t - (d + 1))) % 2 = 0 then (jn ρ (pwV ρ v n t d).1 (pwV ρ v n t d).1, (pwV ρ v n t d).2 + 1) else (jn ρ (jn ρ (pwV ρ v n t d).1 (pwV ρ v n t d).1) (el ρ v), (pwV ρ v n t d).2 + 1 + 1) := rfl
    by_cases hz : n / 2 ^ (t - (d + 1)) % 2 = 0
    · rw [if_pos hz] at hV ⊢
      rw [hV]
      exact ⟨μ2, rfl, a2.trans b2, b3, b4⟩
    · rw [if_neg hz] at hV ⊢
      rw [hV]
      obtain ⟨μ3, c1, c2, c3, c4⟩ := M_element_q ((hG.v a2).v b2) hR hv
      obtain ⟨μ4, d1, d2, d3, d4⟩ := M_join_q (((hG.v a2).v b2).v c2) hR (VD_jn hR hVd hVd) (VD_el hR hv)
      refine ⟨μ4, ?_, ((a2.trans b2).trans c2).trans d2, d3, d4⟩
      rw [c1, Option.bind_some, b3, b4, c3, c4, d1]; rfl
theorem pow_x4 : ∀ t : Nat, t < 31 → nI 30 - (nI 31 - nI t) = nI t - nI 1 := by decide +kernel
theorem isP (x : Int32) : (X_in x.toInt64 (lN 0) (1000000000 : Int64) = some (nI 0)) ∨ ∃ n : Nat, n ≤ 1000000000 ∧ x = nI n ∧ X_in x.toInt64 (lN 0) (1000000000 : Int64) = some (nI 1) := by
  rcases in_cases x 0 1000000000 (by decide) (by decide) with h | ⟨v, -, h1, h2, h3⟩
  · exact .inl h
  · exact .inr ⟨v, h1, h2, h3⟩
theorem X_powers_run {ρ : RC} {L : LC} {w : Nat} {reb : Int32} {Z : ZZ} {σ : XS} (hR : RV ρ) (hX : XR 4 ρ L w reb Z σ) (hL : LOK 4 L (xN σ) w) {v n : Nat} (hv : v ≤ 9999) (hn : n ≤ 1000000000) (a1 : X_isItem (nI v) = some (nI 1)) (a2 : X_in (nI n).toInt64 (lN 0) (1000000000 : Int64) = some (nI 1)) : (n = 0 → ∃ σ', X_powers (nI v) (nI n) σ = some (nI 0, σ') ∧ XR 4 ρ L w reb (zr Z [(emp ρ).1, (emp ρ).2]) σ' ∧ xN σ' = xN σ) ∧ (1 ≤ n → ∃ t σ', 2 ^ t ≤ n ∧ n < 2 ^ (t + 1) ∧ t < 31 ∧ X_powers (nI v) (nI n) σ = some (nI (pwV ρ v n t t).2, σ') ∧ XR 4 ρ L w reb (zr Z [(pwV ρ v n t t).1.1, (pwV ρ v n t t).1.2]) σ' ∧ xN σ' = xN σ) := by
  obtain ⟨σ1, m1, m2, m3, m4⟩ := X_make_t hX.2.1 hR hX.n3 (i := 0) (by decide) hv
  have hG1 := hX.2.1.t m2
  have h3 := m2.n3 hX.n3
  refine ⟨fun h0 => ?_, fun h1 => ?_⟩
  · subst h0
    obtain ⟨σ2, e1, e2, e3, -⟩ := X_empty_t hG1 hR h3 (i := 2) (by decide)
    have t2 := m2.trans e2
    obtain ⟨σ3, p1, p2, p3⟩ := X_tellP (hX.t hL t2) (i := 2) (by decide) e3
    refine ⟨σ3, ?_, p2, p3.trans t2.2.2.2.1⟩
    have hnl : Xi_numberOfLeadingZeros (nI 1) = some (nI 31) := by rfl
    unfold X_powers
    rw [a1, obs, if_neg (show ¬ nI 1 = 0 by decide), a2, obs, if_neg (show ¬ nI 1 = 0 by decide), m1, obs, if_pos (show nI 0 = 0 from rfl), e1, obs]
    unfold X_powers_66
    rw [if_neg (show ¬ nI 1 < nI 0 by decide), hnl, obs, show FU = 19999 + 1 from rfl]
    show (if nI 30 - nI 31 < 0 then ((X_tellsPair 2 (zI σ2 5 (nI 0))).bind fun q7 => some (nI 0, q7)) else _) = _
    rw [if_pos (by decide), p1]; rfl
  · obtain ⟨t, t1, t2, t3, t4⟩ := nlz_ok h1 (show n < 2 ^ 31 by omega)
    have q0 : rP (xC σ1 0) = (el ρ v).1 := by rw [← m3]; rfl
    have q1 : rQ (xC σ1 0) = (el ρ v).2 := by rw [← m3]; rfl
    have hn3 : 3 ≤ xN σ1 := h3
    have tq := XT.pq σ1 (i := 2) (by decide) ((el ρ v).1, (el ρ v).2)
    obtain ⟨σ2, k1, k2, k3⟩ := X_pow_loop hR hv (show n < 2 ^ 31 by omega) t3 t 0 FU (pq σ1 2 ((el ρ v).1, (el ρ v).2)) (by omega) (by unfold FU; omega) (hG1.t tq) (tq.n3 h3) (by rw [pr_pq, if_neg (by decide)]; exact m3) (by rw [pr_pq, if_pos rfl]; rfl)
    have tt := (m2.trans tq).trans k1
    obtain ⟨σ3, p1, p2, p3⟩ := X_tellP (hX.t hL tt) (i := 2) (by decide) k2
    refine ⟨t, σ3, t1, t2, t3, ?_, p2, p3.trans tt.2.2.2.1⟩
    have hmx : (if nI 1 < nI n then nI n else nI 1) = nI n := by
      by_cases h : n = 1
      · subst h; rfl
      · rw [if_pos ((nI_ltI (by omega) (by omega)).mpr (by omega))]
    unfold X_powers
    rw [a1, obs, if_neg (show ¬ nI 1 = 0 by decide), a2, obs, if_neg (show ¬ nI 1 = 0 by decide), m1, obs, if_neg (nI_ne0 (by omega) (by omega)), if_pos (by omega), if_pos (by omega), if_pos (by omega), q0, q1, Xp_is_pq (by omega), obs]
    unfold X_powers_66
    rw [hmx, t4, obs, pow_x4 t t3]
    rw [p1] at k3
    exact k3
theorem M_powers_run {ρ : RC} {L : LC} {w : Nat} {reb : Int32} {Z : ZZ} {μ : MS} (hR : RV ρ) (hM : MR 4 ρ L w reb Z (sI μ 0 (nI 0))) {v n r : Nat} {x : VV} (b1 : M_isItem (nI v) = some (nI 1)) (b2 : M_in (nI n).toInt64 (lN 0) (1000000000 : Int64) = some (nI 1)) {μ1 : MS} (hp : M_power PW (nI v) (nI n) (sI μ 0 (nI 0)) = some (nI r, μ1)) (hq : MV (sI μ 0 (nI 0)) μ1) (h0 : gL μ1 0 = x.1) (h1 : gL μ1 1 = x.2) : ∃ μ', M_powers (nI v) (nI n) μ = some (nI r, μ') ∧ MR 4 ρ L w reb (zr Z [x.1, x.2]) μ' := by
  obtain ⟨ν, ν', e1, e2, e3⟩ := M_tellQ (hM.v hq) h0 h1
  refine ⟨ν', ?_, e3⟩
  unfold M_powers
  rw [b1, obs, if_neg (show ¬ nI 1 = 0 by decide), b2, obs, if_neg (show ¬ nI 1 = 0 by decide), hp, obs, e1, obs, e2, obs]
theorem E_powers_ok (n : Nat) : E_powers (RR n) (RR (n + 1)) := by
  intro σ μ x1 x2 h
  have h0 := h.stay (nI 0)
  obtain ⟨ρ, L, w, reb, Z, hR, hL, hZ, hX, hM, hw, hr⟩ := h
  have hM0 := hM.q (MU.sI μ (k := 0) (.inl rfl) (nI 0))
  rcases isI x1 with ⟨a1, b1⟩ | ⟨v, hv, rfl, a1, b1⟩
  · exact ⟨-1, σ, _, by unfold X_powers; simp only [a1, obs, n10, n00, n20, if_false, if_true, and_self, Nat.reduceAdd, Nat.reduceLeDiff], by unfold M_powers; simp only [b1, obs, n10, n00, n20, if_false, if_true, and_self, Nat.reduceAdd, Nat.reduceLeDiff], h0⟩
  rcases isP x2 with q | ⟨m, hm, rfl, q⟩
  · exact ⟨-1, σ, _, by unfold X_powers; simp only [a1, q, obs, n10, n00, n20, if_false, if_true, and_self, Nat.reduceAdd, Nat.reduceLeDiff], by unfold M_powers; simp only [b1, M_in_eq, q, obs, n10, n00, n20, if_false, if_true, and_self, Nat.reduceAdd, Nat.reduceLeDiff], h0⟩
  have b2 : M_in (nI m).toInt64 (lN 0) (1000000000 : Int64) = some (nI 1) := by rw [M_in_eq]; exact q
  obtain ⟨x0, x1⟩ := X_powers_run hR hX hL hv hm a1 q
  by_cases hz : m = 0
  · obtain ⟨σ', p1, p2, p3⟩ := x0 hz
    subst hz
    obtain ⟨μ1, m1, m2, m3, m4⟩ := M_empty_q hM0.1 hR
    obtain ⟨μ', k1, k2⟩ := M_powers_run (r := 0) (x := emp ρ) hR hM0 b1 b2 (by rw [show PW = 39 + 1 from rfl]; show (if nI 0 = 0 then ((M_empty (sI μ 0 (nI 0))).bind fun q6 => some (nI 0, q6)) else _) = _; rw [if_pos (show nI 0 = 0 from rfl), m1]; rfl) m2 m3 m4
    exact ⟨nI 0, σ', μ', p1, k1, RR.fin hR hL hZ hw hr (by show 2 ≤ 128; decide) p2 k2 p3⟩
  · obtain ⟨t, σ', t1, t2, t3, p1, p2, p3⟩ := x1 (by omega)
    obtain ⟨μ1, m1, m2, m3, m4⟩ := M_pow_loop hR hv (show m < 2 ^ 31 by omega) t1 t2 t PW (sI μ 0 (nI 0)) (Nat.le_refl _) (by unfold PW; omega) hM0.1
    rw [Nat.sub_self, Nat.pow_zero, Nat.div_one] at m1
    obtain ⟨μ', k1, k2⟩ := M_powers_run hR hM0 b1 b2 m1 m2 m3 m4
    exact ⟨_, σ', μ', p1, k1, RR.fin hR hL hZ hw hr (by show 2 ≤ 128; decide) p2 k2 p3⟩
