set_option maxRecDepth 100000
/-! table -/
theorem el_eq {r w ne w' ne' v : Nat} {t t' : Nat → Nat → Nat} (hr : r < 8) (h : r ≠ 7) : el (r, w, ne, t) v = el (r, w', ne', t') v := by
  rcases r8 hr with e | e | e | e | e | e | e | e <;> subst e <;> first | rfl | exact absurd rfl h
theorem jn_eq {r w ne w' ne' : Nat} {t t' : Nat → Nat → Nat} {x y : VV} (hr : r < 8) (h : r ≠ 7) : jn (r, w, ne, t) x y = jn (r, w', ne', t') x y := by
  rcases r8 hr with e | e | e | e | e | e | e | e <;> subst e <;> first | rfl | exact absurd rfl h
theorem emp_eq {r w ne w' ne' : Nat} {t t' : Nat → Nat → Nat} (hr : r < 8) (h : r ≠ 7) : emp (r, w, ne, t) = emp (r, w', ne', t') := by
  rcases r8 hr with e | e | e | e | e | e | e | e <;> subst e <;> first | rfl | exact absurd rfl h
theorem sv_eq {r w ne w' ne' : Nat} {t t' : Nat → Nat → Nat} (hr : r < 8) (h : r ≠ 7) (e : Nat) : ∀ cs : List CL, sv (r, w, ne, t) e cs = sv (r, w', ne', t') e cs
  | [] => emp_eq hr h
  | [c] => el_eq hr h
  | c :: d :: cs => by
    have ih := sv_eq (w := w) (ne := ne) (w' := w') (ne' := ne') (t := t) (t' := t') hr h e (d :: cs)
    show (if e = 0 then jn (r, w, ne, t) (el (r, w, ne, t) c.2.2) (sv (r, w, ne, t) e (d :: cs)) else jn (r, w, ne, t) (sv (r, w, ne, t) e (d :: cs)) (el (r, w, ne, t) c.2.2)) = (if e = 0 then jn (r, w', ne', t') (el (r, w', ne', t') c.2.2) (sv (r, w', ne', t') e (d :: cs)) else jn (r, w', ne', t') (sv (r, w', ne', t') e (d :: cs)) (el (r, w', ne', t') c.2.2))
    rw [ih, el_eq (w' := w') (ne' := ne') (t' := t') hr h]
    by_cases he : e = 0
    · rw [if_pos he, if_pos he]; exact jn_eq hr h
    · rw [if_neg he, if_neg he]; exact jn_eq hr h
theorem XCh.conv {σ : XS} {ρ ρ' : RC} {e : Nat} (h : ∀ cs, sv ρ e cs = sv ρ' e cs) : ∀ (cs : List CL) (o : Option Nat), XCh σ ρ e o cs → XCh σ ρ' e o cs
  | [], _, q => q
  | c :: cs, o, ⟨q1, q2, q3, q4, q5, q6⟩ => ⟨q1, q2, q3, q4, q5.trans (h _), XCh.conv h cs _ q6⟩
theorem MCh.conv {μ : MS} {ρ ρ' : RC} {e s : Nat} (h : ∀ cs, sv ρ e cs = sv ρ' e cs) : ∀ (cs : List CL), MCh μ ρ e s cs → MCh μ ρ' e s cs
  | [], _ => trivial
  | c :: cs, ⟨q1, q2, q3, q4, q5⟩ => ⟨q1, q2, by rw [← h]; exact q3, by rw [← h]; exact q4, MCh.conv h cs q5⟩
theorem copyT {n : Nat} (hn1 : 1 ≤ n) (hn : n ≤ 5) {μ : MS} (h6 : gI μ 6 = nI n) : ∀ (d k f : Nat) (g : Nat → Int32), k + d = n * n → d < f → (∀ j, j < k → g j = gA μ 9 j) → ∃ g' : Nat → Int32, (∀ j, j < n * n → g' j = gA μ 9 j) ∧ M_table_84 f (nI k) (mX μ 1 g) = if gI μ 5 = nI 7 then (M_laysAll (mX μ 1 g')).bind (fun q5 => M_table_128 q5) else M_table_128 (mX μ 1 g') := by
  have h25 : n * n ≤ 5 * 5 := Nat.mul_le_mul hn hn
  intro d
  induction d with
  | zero =>
    intro k f g hk hf hg
    obtain ⟨f, rfl⟩ : ∃ z, f = z + 1 := ⟨f - 1, by omega⟩
    have hk : k = n * n := by omega
    refine ⟨g, fun j hj => hg j (by omega), ?_⟩
    show (if gI μ 6 * gI μ 6 ≤ nI k then (if gI μ 5 = nI 7 then (M_laysAll (mX μ 1 g)).bind (fun q5 => M_table_128 q5) else M_table_128 (mX μ 1 g)) else _) = _
    rw [h6, pk_mul, if_pos (nI_le (by omega) (by omega))]
  | succ d ih =>
    intro k f g hk hf hg
    obtain ⟨f, rfl⟩ : ∃ z, f = z + 1 := ⟨f - 1, by omega⟩
    obtain ⟨g', q1, q2⟩ := ih (k + 1) f (upd g k (gA μ 9 k)) (by omega) (by omega) (fun j hj => by
      unfold upd
      by_cases hh : j = k
      · rw [if_pos hh, hh]
      · rw [if_neg hh]; exact hg j (by omega))
    refine ⟨g', q1, ?_⟩
    rw [← q2]
    have ck : (nI k).toNatClampNeg = k := nI_clamp (by omega)
    have dk : ¬ (nI k < 0 ∨ 25 ≤ k) := nI_dn (by omega) (by decide)
    show (if gI μ 6 * gI μ 6 ≤ nI k then _ else (if nI k < 0 ∨ 25 ≤ (nI k).toNatClampNeg then none else (if nI k < 0 ∨ 25 ≤ (nI k).toNatClampNeg then none else M_table_84 f (nI k + nI 1) (sA (mX μ 1 g) 1 (nI k).toNatClampNeg (gA (mX μ 1 g) 9 (nI k).toNatClampNeg))))) = _
    rw [h6, pk_mul, if_neg (nI_ge (by omega) (by omega)), ck, if_neg dk, if_neg dk, sA_mX, nI_add]
    congr 2
/-- a table that joins: what both do -/
theorem table_new {n : Nat} {ρ : RC} {L : LC} {w wd ne : Nat} {reb : Int32} {Z : ZZ} {σ : XS} {μ : MS} {f : Nat → Int32} {T : Nat → Nat → Nat} (hR : RV ρ) (hR' : RV (ρ.1, wd, ne, T)) (hL : LOK 4 L (xN σ) w) (hZ : ZW Z) (hX : XR 4 ρ L w reb Z σ) (hM : MR 4 ρ L w reb Z μ) (hw : w ≤ 8000 * n) (hr : Z.2.2.2 ≤ n) (hF : TF f T wd) (hG : TG μ T wd) : ∃ (σ' : XS) (μ' : MS), X_table2 wd (zI (zI (zX σ 1 f) 1 (nI wd)) 2 (nI ne)) = some (nI wd, σ') ∧ M_table_84 FU (nI 0) (sI (sI μ 6 (nI wd)) 7 (nI ne)) = some (nI wd, μ') ∧ RR (n + 1) σ' μ' := by
  obtain ⟨v1, v2, v3, v4, v5, v6, v7⟩ := hR'
  have v1 : ρ.1 < 8 := v1
  have v2 : 1 ≤ wd := v2
  have v3 : wd ≤ 5 := v3
  have hR' : RV (ρ.1, wd, ne, T) := ⟨v1, v2, v3, v4, v5, v6, v7⟩
  have h25 : wd * wd ≤ 5 * 5 := Nat.mul_le_mul v3 v3
  obtain ⟨g', q1, q2⟩ := copyT (μ := sI (sI μ 6 (nI wd)) 7 (nI ne)) v2 v3 rfl (wd * wd) 0 FU (gA μ 1) (by omega) (by unfold FU; omega) (fun j hj => absurd hj (Nat.not_lt_zero _))
  have hself : mX (sI (sI μ 6 (nI wd)) 7 (nI ne)) 1 (gA μ 1) = sI (sI μ 6 (nI wd)) 7 (nI ne) := mX_self _ _
  rw [hself] at q2
  have q1 : ∀ j, j < wd * wd → g' j = gA μ 9 j := q1
  -- the two states in between
  have hMG : MG (ρ.1, wd, ne, T) (mX (sI (sI μ 6 (nI wd)) 7 (nI ne)) 1 g') := by
    refine ⟨hM.1.1, rfl, rfl, fun i j hi hj => ?_⟩
    have hi : i < wd := hi
    have hj : j < wd := hj
    have hlt : wd * i + j < wd * wd := by
      have : wd * (i + 1) ≤ wd * wd := Nat.mul_le_mul_left wd (by omega)
      rw [Nat.mul_succ] at this
      omega
    rw [mX_A, q1 _ hlt]
    exact (hG.2 i j hi hj).1
  have hXG : XG (ρ.1, wd, ne, T) (zI (zI (zX σ 1 f) 1 (nI wd)) 2 (nI ne)) := by
    refine ⟨hX.2.1.1, rfl, rfl, fun m hm i hi => ?_, fun i j hi hj => ?_⟩
    · show xA (zX σ 1 f) (20 + m) i = _
      rw [xA_zX, if_neg (by omega)]; exact hX.2.1.2.2.2.1 m hm i hi
    · show xA (zX σ 1 f) 1 (5 * i + j) = _
      rw [xA_zX, if_pos rfl]; exact (hF i j hi hj).1
  have h5 : gI (sI (sI μ 6 (nI wd)) 7 (nI ne)) 5 = nI ρ.1 := hM.1.1
  have h0 : xI (zI (zI (zX σ 1 f) 1 (nI wd)) 2 (nI ne)) 0 = nI ρ.1 := hX.2.1.1
  have hA : ∀ j, j ≠ 1 → xA (zI (zI (zX σ 1 f) 1 (nI wd)) 2 (nI ne)) j = xA σ j := fun j hj => by
    show xA (zX σ 1 f) j = _
    rw [xA_zX, if_neg hj]
  have hAM : ∀ j, j ≠ 1 → gA (mX (sI (sI μ 6 (nI wd)) 7 (nI ne)) 1 g') j = gA μ j := fun j hj => by rw [gA_mX, if_neg hj]; rfl
  obtain ⟨a1, a2, ⟨a3, a4, a5, a6, a7⟩, a8, a9, a10, a11⟩ := hX
  obtain ⟨b1, ⟨b2, b3, b4, b5⟩, b6, b7, b8⟩ := hM
  rw [q2, h5]
  unfold X_table2
  rw [h0]
  by_cases c7 : ρ.1 = 7
  · have hX0 : XR 0 (ρ.1, wd, ne, T) L w reb Z (zI (zI (zX σ 1 f) 1 (nI wd)) 2 (nI ne)) := ⟨a1, hXG, ⟨a3, a4, a5, a6, a7⟩, fun i hi => by rw [hA 2 (by decide)]; exact a8 i hi, a9, fun l e hl _ => absurd hl (Nat.not_lt_zero _), a11⟩
    have hM0 : MR 0 (ρ.1, wd, ne, T) L w reb Z (mX (sI (sI μ 6 (nI wd)) 7 (nI ne)) 1 g') := ⟨hMG, ⟨b2, b3, b4, b5⟩, fun i hi => by rw [hAM 0 (by decide)]; exact b6 i hi, b7, fun l e hl _ => absurd hl (Nat.not_lt_zero _)⟩
    obtain ⟨σ1, p1, p2, p3, p4⟩ := X_laysAll_ok (ρ0 := ρ) hR' 4 0 _ L w rfl hX0 hL (fun l e _ hl he => ⟨by rw [hA _ (by omega)]; exact (a10 l e hl he).1, XCh.same0 (σ := σ) _ _ (Nat.le_refl _) rfl (a10 l e hl he).2⟩)
    obtain ⟨μ1, r1, r2, r3⟩ := M_laysAll_ok (ρ0 := ρ) hR' 4 0 FU _ L (xN σ) w rfl (by unfold FU; omega) a1.1 hM0 hL (fun l e _ hl he => ⟨by rw [hAM 5 (by decide)]; exact (b8 l e hl he).1, MCh.same (μ := μ) _ (fun j _ => ⟨by rw [hAM 7 (by decide)], by rw [hAM 6 (by decide)], rfl, rfl⟩) (b8 l e hl he).2⟩)
    have hS := szS_le hL 4 0 (by decide)
    refine ⟨σ1, μ1, ?_, ?_, (ρ.1, wd, ne, T), _, _, reb, Z, hR', p3, hZ, p2, r2, by omega, by omega⟩
    · rw [if_pos (by rw [c7])]
      unfold X_laysAll
      rw [p1, obs]
    · rw [if_pos (by rw [c7])]
      unfold M_laysAll M_table_128
      rw [r1, obs, r2.1.2.1]
  · have hne : ¬ nI ρ.1 = nI 7 := fun z => c7 ((nI_eq (by omega) (by decide)).mp z)
    have hsv : ∀ e cs, sv ρ e cs = sv (ρ.1, wd, ne, T) e cs := fun e cs => sv_eq (w := ρ.2.1) (ne := ρ.2.2.1) (t := ρ.2.2.2) v1 c7 e cs
    rw [if_neg hne, if_neg hne]
    refine ⟨_, mX (sI (sI μ 6 (nI wd)) 7 (nI ne)) 1 g', rfl, rfl, (ρ.1, wd, ne, T), L, w, reb, Z, hR', hL, hZ, ?_, ?_, by omega, by omega⟩
    · exact ⟨a1, hXG, ⟨a3, a4, a5, a6, a7⟩, fun i hi => by rw [hA 2 (by decide)]; exact a8 i hi, a9, fun l e hl he => ⟨by rw [hA _ (by omega)]; exact (a10 l e hl he).1, XCh.same0 (σ := σ) _ _ (Nat.le_refl _) rfl (XCh.conv (hsv e) _ _ (a10 l e hl he).2)⟩, a11⟩
    · exact ⟨hMG, ⟨b2, b3, b4, b5⟩, fun i hi => by rw [hAM 0 (by decide)]; exact b6 i hi, b7, fun l e hl he => ⟨by rw [hAM 5 (by decide)]; exact (b8 l e hl he).1, MCh.same (μ := μ) _ (fun j _ => ⟨by rw [hAM 7 (by decide)], by rw [hAM 6 (by decide)], rfl, rfl⟩) (MCh.conv (hsv e) _ (b8 l e hl he).2)⟩⟩
theorem table_bad {n : Nat} {ρ : RC} {L : LC} {w wd j a b c : Nat} {reb : Int32} {Z : ZZ} {σ : XS} {μ : MS} (hR : RV ρ) (hL : LOK 4 L (xN σ) w) (hZ : ZW Z) (hX : XR 4 ρ L w reb Z σ) (hM : MR 4 ρ L w reb Z μ) (hw : w ≤ 8000 * n) (hr : Z.2.2.2 ≤ n) (h1 : 1 ≤ wd) (h5 : wd ≤ 5) (hj : j < wd * wd * wd) (ha : j / (wd * wd) = a) (hb : j / wd % wd = b) (hc : j % wd = c) : ∃ (σ' : XS) (μ' : MS), ((X_tells ((nI j / (nI wd * nI wd)).toInt64) (zI σ 5 (nI 0))).bind fun q1 => (X_tells ((nI j / nI wd - nI j / nI wd / nI wd * nI wd).toInt64) q1).bind fun q2 => (X_tells ((nI j - nI j / nI wd * nI wd).toInt64) q2).bind fun q3 => some ((-10 : Int32), q3)) = some (-10, σ') ∧ ((M_enters ((nI a).toInt64) (sI μ 1 (nI 0))).bind fun q5 => ((M_enters ((nI b).toInt64) q5).bind fun q6 => ((M_enters ((nI c).toInt64) q6).bind fun q7 => some ((nI 1), q7)))) = some (nI 1, μ') ∧ RR (n + 1) σ' μ' := by
  have h25 : wd * wd ≤ 5 * 5 := Nat.mul_le_mul h5 h5
  have h125 : wd * wd * wd ≤ 5 * 5 * 5 := Nat.mul_le_mul h25 h5
  have hp : 0 < wd * wd := Nat.mul_pos h1 h1
  have l1 : j / (wd * wd) ≤ j := Nat.div_le_self _ _
  have l2 : j / wd ≤ j := Nat.div_le_self _ _
  have l3 : j / wd % wd < wd := Nat.mod_lt _ h1
  have l4 : j % wd < wd := Nat.mod_lt _ h1
  have e1 : (nI j / (nI wd * nI wd)).toInt64 = lN a := by rw [pk_mul, pk_div (by omega) hp (by omega), nI_l (by omega), ha]
  have e2 : (nI j / nI wd - nI j / nI wd / nI wd * nI wd).toInt64 = lN b := by rw [pk_div (by omega) h1 (by omega), pk_rem (by omega) h1 (by omega), nI_l (by omega), hb]
  have e3 : (nI j - nI j / nI wd * nI wd).toInt64 = lN c := by rw [pk_rem (by omega) h1 (by omega), nI_l (by omega), hc]
  obtain ⟨t1, t2⟩ := X_tells_ok (X_reset hX) (r := []) (by decide) (lN a)
  obtain ⟨t3, t4⟩ := X_tells_ok t2 (by show 1 < 128; decide) (lN b)
  obtain ⟨t5, t6⟩ := X_tells_ok t4 (by show 2 < 128; decide) (lN c)
  obtain ⟨u1, u2⟩ := M_enters_ok (M_reset hM) (r := []) (by decide) (lN a)
  obtain ⟨u3, u4⟩ := M_enters_ok u2 (by show 1 < 160; decide) (lN b)
  obtain ⟨u5, u6⟩ := M_enters_ok u4 (by show 2 < 160; decide) (lN c)
  generalize hs : tlX (tlX (tlX (zI σ 5 (nI 0)) [] (lN a)) ([] ++ [lN a]) (lN b)) ([] ++ [lN a] ++ [lN b]) (lN c) = σ3 at t5 t6
  have hn : xN σ3 = xN σ := by rw [← hs]; rfl
  refine ⟨σ3, _, by rw [e1, e2, e3, t1, obs, t3, obs, t5, obs], by rw [nI_l (by omega), nI_l (by omega), nI_l (by omega), u1, obs, u3, obs, u5, obs], ρ, L, w, reb, _, hR, by rw [hn]; exact hL, hZ.row (r := [lN a, lN b, lN c]) (by show 3 ≤ 128; decide), t6, u6, by omega, by show Z.2.2.2 ≤ n + 1; omega⟩
theorem E_table_ok (n : Nat) : E_table (RR n) (RR (n + 1)) := by
  intro σ μ h
  have h0 := h.stay (nI 0)
  obtain ⟨ρ, L, w, reb, Z, hR, hL, hZ, hX, hM, hw, hr⟩ := h
  have hM0 := hM.q (MU.sI μ (k := 0) (.inl rfl) (nI 0))
  have hz := hZ.1
  have hx4 : xI σ 4 = nI Z.2.1 := hX.2.2.1.2.1
  have hx4c : ¬ (nI Z.2.1 < 0 ∨ 100 < (nI Z.2.1).toNatClampNeg) := by rw [nI_clamp (by omega), zN_lt0 (by omega), false_or]; omega
  have hcl : (nI Z.2.1).toNatClampNeg = Z.2.1 := nI_clamp (by omega)
  obtain ⟨μ1, m1, m2, m3, m4, m5⟩ := M_reads_ok hM0
  have hX1 := hX.typed
  have hZ1 := hZ.zt
  have hTX := hX.tx hZ
  obtain ⟨μ2, F', q1, q2⟩ := read_ok hTX m3 m4 (fun _ => 0)
  have hM2 := m2.q q1.1
  have hr1 : (CEndSumsLaw_law_r6305_3367cf.zt Z).2.2.2 ≤ n := hr
  have hxs : X_table σ = X_table1 (zI σ 4 (nI 0)) (X_readTable (xA σ 2) Z.2.1 (fun _ => 0)) := by
    unfold X_table
    rw [hx4, if_neg hx4c, hcl]
  rcases q2 with ⟨a, w1, w2, w3⟩ | ⟨wd, k1, k5, w1, w2, w3, w4⟩
  · have hx : X_table σ = some ((-21 : Int32) - nI a, zI σ 4 (nI 0)) := by rw [hxs, w1]; rfl
    have hm : M_table μ = some ((-21 : Int32) - nI a, μ2) := by
      unfold M_table
      rw [m1, obs, w2, obs, if_pos (show nI 0 = 0 from rfl), w3]
    exact ⟨_, _, μ2, hx, hm, ρ, L, w, reb, CEndSumsLaw_law_r6305_3367cf.zt Z, hR, hL, hZ1, hX1, hM2, by omega, by show Z.2.2.2 ≤ n + 1; omega⟩
  · have hF : TF F' (TB Z.1 wd) wd := fun i k hi hk => ⟨(w4 i k hi hk).1, (w4 i k hi hk).2.2⟩
    have hG : TG μ2 (TB Z.1 wd) wd := ⟨w3, fun i k hi hk => ⟨(w4 i k hi hk).2.1, (w4 i k hi hk).2.2⟩⟩
    generalize TB Z.1 wd = T at hF hG
    have hxs2 : X_table σ = (X_ungrouped F' wd).bind fun k => if k = -1 then (if 0 ≤ X_neutralOf F' wd then X_table2 wd (zI (zI (zX (zI σ 4 (nI 0)) 1 F') 1 (nI wd)) 2 (X_neutralOf F' wd)) else some (-11, zI σ 4 (nI 0))) else ((X_tells ((k / (nI wd * nI wd)).toInt64) (zI (zI σ 4 (nI 0)) 5 (nI 0))).bind fun q1 => (X_tells ((k / nI wd - k / nI wd / nI wd * nI wd).toInt64) q1).bind fun q2 => (X_tells ((k - k / nI wd * nI wd).toInt64) q2).bind fun q3 => some ((-10 : Int32), q3)) := by rw [hxs, w1]; rfl
    have hms : M_table μ = ((M_hasUnlike μ2).bind fun q3 => (if q3.1 = 0 then M_table_36 FU (nI 0) q3.2 else some ((-10 : Int32), q3.2))) := by
      unfold M_table
      rw [m1, obs, w2, obs, if_neg (show ¬ nI 1 = 0 by decide)]
    obtain ⟨g1, g2⟩ := unl2 k5 hG wd 0 FU (by omega) (by unfold FU; omega)
    rcases ung_ok k1 k5 hF (wd * wd * wd) 0 (by omega) with ⟨u1, u2⟩ | ⟨j, -, u2, u3, u4, u5⟩
    · -- all groupings alike
      have hass : ∀ a b c, a < wd → b < wd → c < wd → T (T a b) c = T a (T b c) := by
        intro a b c ha hb hc
        obtain ⟨z1, z2, z3, z4⟩ := enc3 k1 k5 ha hb hc rfl
        have := u2 ((a * wd + b) * wd + c) (Nat.zero_le _) z1
        unfold badK at this
        rw [z2, z3, z4] at this
        exact Classical.byContradiction fun z => this z
      have hun : M_hasUnlike μ2 = some (nI 0, μ2) := g1 (fun a b c _ ha hb hc z => z (hass a b c ha hb hc))
      have hxu : X_ungrouped F' wd = some (-1) := u1
      have hnx := neutral_X k5 hF
      have hnm := neutral_M k5 hG wd 0 FU (by omega) (by unfold FU; omega)
      have hfl := fnU_le (fun e => nbT T e wd) wd 0
      have hhit := fnU_hit (fun e => nbT T e wd) wd 0
      rw [Nat.zero_add] at hhit hfl
      rw [hxu, obs, if_pos rfl, hnx] at hxs2
      rw [hun, obs, if_pos (show nI 0 = 0 from rfl), hnm] at hms
      generalize fnU (fun e => nbT T e wd) 0 wd = e at hxs2 hms hfl hhit
      by_cases ce : e = wd
      · rw [if_pos ce, if_neg (by decide)] at hxs2
        have hm : M_table μ = some (-11, μ2) := by
          rw [hms]
          unfold M_table_58
          rw [ce, w3, if_pos rfl]
        exact ⟨-11, _, μ2, hxs2, hm, ρ, L, w, reb, CEndSumsLaw_law_r6305_3367cf.zt Z, hR, hL, hZ1, hX1, hM2, by omega, by show Z.2.2.2 ≤ n + 1; omega⟩
      · have hew : e < wd := by omega
        have hneu := (nbT_iff wd).mp (hhit hew)
        have hR' : RV (ρ.1, wd, e, T) := ⟨hR.1, k1, k5, hew, fun i j hi hj => (hF i j hi hj).2, fun i hi => hneu i hi, fun i j k hi hj hk => hass i j k hi hj hk⟩
        obtain ⟨σ', μ', p1, p2, p3⟩ := table_new (n := n) hR hR' (show LOK 4 L (xN (zI σ 4 (nI 0))) w from hL) hZ1 hX1 hM2 hw hr1 hF hG
        rw [if_neg ce, if_pos (nI_pos' (by omega)), p1] at hxs2
        have hm : M_table μ = some (nI wd, μ') := by
          rw [hms]
          unfold M_table_58
          rw [w3, if_neg (fun z => ce ((nI_eq (by omega) (by omega)).mp z))]
          exact p2
        exact ⟨nI wd, σ', μ', hxs2, hm, p3⟩
    · -- a grouping that isn't
      have h125 : wd * wd * wd ≤ 5 * 5 * 5 := Nat.mul_le_mul (Nat.mul_le_mul k5 k5) k5
      obtain ⟨z1, z2, z3⟩ := dec3 k1 u2
      have hun := g2 (j / (wd * wd)) (j / wd % wd) (j % wd) (Nat.zero_le _) z1 z2 z3 u4 (fun a b c _ hb hc hlt => by
        have hlt2 := dec3_lt k1 k5 u2 hb hc hlt
        have ha : a < wd := by rcases hlt with h | ⟨h, -⟩ <;> omega
        obtain ⟨y1, y2, y3, y4⟩ := enc3 k1 k5 ha hb hc rfl
        have := u5 ((a * wd + b) * wd + c) (Nat.zero_le _) hlt2
        unfold badK at this
        rw [y2, y3, y4] at this
        exact this)
      have hxu : X_ungrouped F' wd = some (nI j) := u3
      obtain ⟨σ', μ', p1, p2, p3⟩ := table_bad (n := n) hR (show LOK 4 L (xN (zI σ 4 (nI 0))) w from hL) hZ1 hX1 hM2 hw hr1 k1 k5 u2 rfl rfl rfl
      have hjm : ¬ nI j = -1 := fun z => by
        have := nI_pos (n := j) (by omega)
        rw [z] at this
        exact this (by decide)
      rw [hxu, obs, if_neg hjm, p1] at hxs2
      have hm : M_table μ = some (-10, μ') := by
        rw [hms, show M_hasUnlike μ2 = _ from hun, p2, obs, if_neg (show ¬ nI 1 = 0 by decide)]
      exact ⟨-10, σ', μ', hxs2, hm, p3⟩
