set_option maxRecDepth 100000
/-! a line that is changed inside -/
theorem XR.pop {k : Nat} {ρ : RC} {L : LC} {w l e : Nat} {reb : Int32} {Z : ZZ} {σ : XS} {c : CL} {cs : List CL} (h : XR k ρ L w reb Z σ) (hk : k ≤ 5) (hl : l < k) (he : e < 2) (hc : L l e = c :: cs) : xT σ l e = some c.1 ∧ c.1 < xN σ ∧ rK (xC σ c.1) = true ∧ rI (xC σ c.1) = nI c.2.2 ∧ cellOk σ (rB (xC σ c.1)) = true ∧ xA σ (5 + l) e = nI (cs.length + 1) ∧ XR k ρ (upL L l e cs) w reb Z (zA (zT σ l e (rB (xC σ c.1))) (5 + l) e (nI cs.length)) := by
  obtain ⟨g1, g2⟩ := h.2.2.2.2.2.1 l e hl he
  rw [hc] at g1 g2
  obtain ⟨q1, q2, q3, q4, -, q6⟩ := g2
  refine ⟨q1, q2, q3, q4, q6.ok.1, g1, ?_⟩
  refine h.line (l := l) (by omega) (fun _ hh _ => hh) hk (fun _ _ => rfl) rfl (fun j _ _ _ hj => ?_) rfl (fun l' hl' => ?_) rfl rfl (fun e' he' => ?_) (fun e' he' => ?_) (fun l' e' hl' => upL_n _ _ (fun z => hl' z.1))
  · funext n; rw [xA_zA, if_neg hj, xA_zT]
  · funext n; show xT (zT σ l e _) l' n = _; rw [xT_zT, if_neg hl']
  · show okRef σ (xT (zT σ l e (rB (xC σ c.1))) l e') = true
    rw [xT_zT, if_pos rfl]
    split
    · exact q6.ok.2
    · exact h.1.2.2 l (by omega) e' he'
  · obtain ⟨b1, b2⟩ := h.2.2.2.2.2.1 l e' hl he'
    rw [xA_zA, if_pos rfl]
    show _ ∧ XCh _ ρ e' (xT (zT σ l e (rB (xC σ c.1))) l e') _
    rw [xT_zT, if_pos rfl]
    by_cases hee : e' = e
    · subst hee
      rw [if_pos rfl, if_pos rfl, upL_s]
      exact ⟨rfl, XCh.same0 (σ := σ) _ _ (Nat.le_refl _) rfl q6⟩
    · rw [if_neg hee, if_neg hee, upL_n _ _ (fun z => hee z.2)]
      exact ⟨b1, XCh.same0 (σ := σ) _ _ (Nat.le_refl _) rfl b2⟩
theorem drop_c {cs : List CL} {t : Nat} (h : t < cs.length) : cs.drop t = cs.getD t c0 :: cs.drop (t + 1) := by
  rw [List.drop_eq_getElem_cons h, List.getD_eq_getElem?_getD, List.getElem?_eq_getElem h]; rfl
theorem itm_len (cs : List CL) : (itm cs).length = cs.length := by unfold itm; simp
theorem upL_id' {L : LC} {l e : Nat} {cs : List CL} (h : L l e = cs) : upL L l e cs = L := by rw [← h]; exact upL_id L l e
/-- so many cells are lifted off, their items kept in a row -/
theorem X_lifts_ok {k : Nat} {ρ : RC} {L : LC} {w l e : Nat} {reb : Int32} {Z : ZZ} {place : Nat} (hk : k ≤ 5) (hl : l < k) (he : e < 2) (hp : place ≤ (L l e).length) (h64 : (L l e).length ≤ 64) : ∀ (d t f : Nat) (σ : XS), t + d = place → d < f → XR k ρ (upL L l e ((L l e).drop t)) w reb Z σ → (∀ j, j < t → xA σ 4 j = nI ((itm (L l e)).getD j 0)) → ∃ σ', Xl_lifts_r1_3 f l (nI e) (nI place) (nI t) σ = some σ' ∧ XR k ρ (upL L l e ((L l e).drop place)) w reb Z σ' ∧ xN σ' = xN σ ∧ (∀ j, j < place → xA σ' 4 j = nI ((itm (L l e)).getD j 0)) := by
  intro d
  induction d with
  | zero =>
    intro t f σ ht hf hX hr
    obtain ⟨f, rfl⟩ : ∃ z, f = z + 1 := ⟨f - 1, by omega⟩
    have ht : t = place := by omega
    subst ht
    exact ⟨σ, if_pos (nI_le (Nat.le_refl _) (by omega)), hX, rfl, hr⟩
  | succ d ih =>
    intro t f σ ht hf hX hr
    obtain ⟨f, rfl⟩ : ∃ z, f = z + 1 := ⟨f - 1, by omega⟩
    have hdc := drop_c (show t < (L l e).length by omega)
    obtain ⟨p1, p2, p3, p4, p5, p6, p7⟩ := hX.pop hk hl he (c := (L l e).getD t c0) (cs := (L l e).drop (t + 1)) (by rw [upL_s, hdc])
    rw [upL_upL] at p7
    generalize (L l e).getD t c0 = c at hdc p1 p2 p3 p4 p5 p6 p7
    have hlen : ((L l e).drop (t + 1)).length = (L l e).length - (t + 1) := List.length_drop
    rw [hlen] at p6 p7
    have hq : XQ (xN σ) σ (zA σ 4 t (rI (xC σ c.1))) := XQ.zA σ (.inr rfl) _ _
    have hitm : (itm (L l e)).getD t 0 = c.2.2 := by
      rw [itm_getD, List.getD_eq_getElem?_getD, ← List.head?_drop, hdc]; rfl
    have hX1 : XR k ρ (upL L l e ((L l e).drop (t + 1))) w reb Z (zA (zT (zA σ 4 t (rI (xC σ c.1))) l e (rB (xC σ c.1))) (5 + l) e (nI ((L l e).length - (t + 1)))) := by
      obtain ⟨a1, a2, a3, a8, a9, a10, a11⟩ := p7
      have hA : ∀ j, j ≠ 4 → xA (zA (zT (zA σ 4 t (rI (xC σ c.1))) l e (rB (xC σ c.1))) (5 + l) e (nI ((L l e).length - (t + 1)))) j = xA (zA (zT σ l e (rB (xC σ c.1))) (5 + l) e (nI ((L l e).length - (t + 1)))) j := fun j hj => by
        funext n
        rw [xA_zA, xA_zA, xA_zT, xA_zT]
        rw [xA_zA, xA_zA, if_neg (show ¬ 5 + l = 4 by omega), if_neg hj]
      exact ⟨a1, ⟨a2.1, a2.2.1, a2.2.2.1, fun n hn i hi => by rw [hA _ (by omega)]; exact a2.2.2.2.1 n hn i hi, fun i j hi hj => by rw [hA 1 (by decide)]; exact a2.2.2.2.2 i j hi hj⟩, a3, fun i hi => by rw [hA 2 (by decide)]; exact a8 i hi, a9, fun l' e' hl' he' => ⟨by rw [hA _ (by omega)]; exact (a10 l' e' hl' he').1, XCh.same0 (σ := zA (zT σ l e (rB (xC σ c.1))) (5 + l) e (nI ((L l e).length - (t + 1)))) _ _ (Nat.le_refl _) rfl (a10 l' e' hl' he').2⟩, a11⟩
    obtain ⟨σ', q1, q2, q3, q4⟩ := ih (t + 1) f _ (by omega) (by omega) hX1 (fun j hj => by
      rw [xA_zA, if_neg (by omega), xA_zT, xA_zA, if_pos (show (4 : Nat) = 4 from rfl)]
      by_cases hh : j = t
      · rw [if_pos hh, hh, hitm]; exact p4
      · rw [if_neg hh]; exact hr j (by omega))
    refine ⟨σ', ?_, q2, q3, q4⟩
    rw [← q1]
    have ct : (nI t).toNatClampNeg = t := nI_clamp (by omega)
    have dt : ¬ (nI t < 0 ∨ 64 ≤ t) := nI_dn (by omega) (by decide)
    have ce : (nI e).toNatClampNeg = e := e2 he
    have de : ¬ (nI e < 0 ∨ 2 ≤ e) := nI_dn he (by decide)
    have hkt : ¬ nI place ≤ nI t := nI_ge (by omega) (by omega)
    have hT : xT (zA σ 4 t (rI (xC σ c.1))) l e = some c.1 := p1
    have hAe : xA (zT (zA σ 4 t (rI (xC σ c.1))) l e (rB (xC σ c.1))) (5 + l) e - nI 1 = nI ((L l e).length - (t + 1)) := by
      show xA (zA σ 4 t (rI (xC σ c.1))) (5 + l) e - nI 1 = _
      rw [xA_zA, if_neg (by omega), p6]; exact nI_pred _
    have hcell : c.1 < xN σ ∧ rK (xC σ c.1) = true := ⟨p2, p3⟩
    have hcell2 : c.1 < xN (zA σ 4 t (rI (xC σ c.1))) ∧ rK (xC (zA σ 4 t (rI (xC σ c.1))) c.1) = true := ⟨p2, p3⟩
    have hok : cellOk (zA σ 4 t (rI (xC σ c.1))) (rB (xC (zA σ 4 t (rI (xC σ c.1))) c.1)) = true := p5
    show (if nI place ≤ nI t then _ else (if nI e < 0 ∨ 2 ≤ (nI e).toNatClampNeg then none else _)) = _
    rw [if_neg hkt, ce, if_neg de, p1]
    show (if c.1 < xN σ ∧ rK (xC σ c.1) = true then (if nI t < 0 ∨ 64 ≤ (nI t).toNatClampNeg then none else (if nI e < 0 ∨ 2 ≤ e then none else _)) else none) = _
    rw [if_pos hcell, ct, if_neg dt, if_neg de, hT]
    show (if c.1 < xN (zA σ 4 t (rI (xC σ c.1))) ∧ rK (xC (zA σ 4 t (rI (xC σ c.1))) c.1) = true then _ else none) = _
    rw [if_pos hcell2, if_neg de, if_pos hok, if_neg de, if_neg de]
    show Xl_lifts_r1_3 f l (nI e) (nI place) (nI t + nI 1) (zA (zT (zA σ 4 t (rI (xC σ c.1))) l e (rB (xC σ c.1))) (5 + l) e (xA (zT (zA σ 4 t (rI (xC σ c.1))) l e (rB (xC σ c.1))) (5 + l) e - nI 1)) = _
    rw [hAe, nI_add]
/-- a row's items are put, from the last one on -/
theorem X_puts0_ok {k : Nat} {ρ : RC} {l e : Nat} {reb : Int32} {Z : ZZ} (hR : RV ρ) (hk5 : k ≤ 5) (hl : l < k) (he : e < 2) (its : List Nat) (h64 : its.length ≤ 64) (h9 : ∀ v ∈ its, v ≤ 9999) : ∀ (j : Nat) (σ : XS) (L : LC) (w u v f : Nat), j ≤ its.length → XR k ρ L w reb Z σ → LOK k L (xN σ) w → szL L l + j ≤ 64 → (∀ i, i < j → xA σ 4 i = nI (its.getD i 0)) → u + j ≤ 64 → v + 6 * j ≤ 384 → j < f → ∃ σ', Xl_puts0_r1_5 f l (nI e) (nI j - nI 1) σ u v = some σ' ∧ XR k ρ (upL L l e (pushes (xN σ) w (its.take j).reverse (L l e))) (w + j) reb Z σ' ∧ xN σ' = xN σ + j := by
  intro j
  induction j with
  | zero =>
    intro σ L w u v f _ h hL _ hr _ _ hf
    obtain ⟨f, rfl⟩ : ∃ z, f = z + 1 := ⟨f - 1, by omega⟩
    refine ⟨σ, if_pos m1_n, ?_, rfl⟩
    show XR k ρ (upL L l e (L l e)) w reb Z σ
    rw [upL_id]; exact h
  | succ j ih =>
    intro σ L w u v f hj h hL hs hr hu hv hf
    obtain ⟨f, rfl⟩ : ∃ z, f = z + 1 := ⟨f - 1, by omega⟩
    obtain ⟨σ1, p1, p2, p3, p4, p5⟩ := X_put_ok (e := e) (v := its.getD j 0) hR hL h hk5 hl he (h9 _ (gD_mem hj))
    have hL1 := hL.put (l := l) (e := e) (v := its.getD j 0) h.n3 hl he (by unfold szL at hs; omega) (h9 _ (gD_mem hj))
    rw [← p3] at hL1
    obtain ⟨σ2, g1, g2, g3⟩ := ih σ1 _ (w + 1) (u + 1) (v + 6) f (by omega) p2 hL1 (by rw [up_sz he]; omega) (fun i hi => by rw [p4 4 (by decide) (by omega)]; exact hr i (by omega)) (by omega) (by omega) (by omega)
    refine ⟨σ2, ?_, ?_, by rw [g3, p3]; omega⟩
    · rw [← g1, m1_s]
      show (if nI j < 0 then _ else (if nI j < 0 ∨ 64 ≤ (nI j).toNatClampNeg then none else (if u + 1 ≤ 64 ∧ v + 6 ≤ 384 then ((Xl_put l (nI e) (xA σ 4 (nI j).toNatClampNeg) σ).bind fun q1 => Xl_puts0_r1_5 f l (nI e) (nI j + (-1 : Int32)) q1 (u + 1) (v + 6)) else none))) = _
      rw [if_neg (nI_pos (by omega)), if_neg (nI_in (by omega) (by decide)), if_pos ⟨by omega, by omega⟩, nI_clamp (by omega), hr j (Nat.lt_succ_self _), p1, Option.bind_some, m1_e]
    · rw [upL_s, upL_upL, p3] at g2
      rw [take_s hj, show w + (j + 1) = w + 1 + j by omega]; exact g2
theorem LOK.drop {k : Nat} {L : LC} {pn w l e m : Nat} (h : LOK k L pn w) (hl : l < k) (he : e < 2) : LOK k (upL L l e ((L l e).drop m)) pn w := by
  have hs := h.2.1 l hl
  refine h.set he (fun c hc => ⟨l, hl, List.mem_of_mem_drop hc⟩) (fun _ => ?_)
  have : ((L l e).drop m).length ≤ (L l e).length := by rw [List.length_drop]; omega
  rcases (show e = 0 ∨ e = 1 by omega) with rfl | rfl
  · show _ + (L l 1).length ≤ 64; omega
  · show _ + (L l 0).length ≤ 64; omega
theorem drop_sz {L : LC} {l e m : Nat} (he : e < 2) (hm : m ≤ (L l e).length) : szL (upL L l e ((L l e).drop m)) l + m = szL L l := by
  unfold szL
  rcases (show e = 0 ∨ e = 1 by omega) with rfl | rfl
  · rw [upL_s, upL_c _ (.inr (by decide)), List.length_drop]; omega
  · rw [upL_s, upL_c _ (.inr (by decide)), List.length_drop]; omega
/-- a stack above a place made anew -/
def altL (L : LC) (l e m pn w : Nat) (vs : List Nat) : LC := upL L l e (pushes pn w vs ((L l e).drop m))
theorem altL_lok {k : Nat} {L : LC} {pn w l e m : Nat} {vs : List Nat} (h : LOK k L pn w) (h3 : 3 ≤ pn) (hl : l < k) (he : e < 2) (hm : m ≤ (L l e).length) (hs : szL L l + vs.length ≤ 64 + m) (hv : ∀ v ∈ vs, v ≤ 9999) : LOK k (altL L l e m pn w vs) (pn + vs.length) (w + vs.length) := by
  have hd := drop_sz he hm
  have := LOK_pushes hl he vs (h.drop (m := m) hl he) h3 (by omega) hv
  rw [upL_s, upL_upL] at this
  exact this
theorem altL_sz {L : LC} {l e m pn w : Nat} {vs : List Nat} (he : e < 2) (hm : m ≤ (L l e).length) : szL (altL L l e m pn w vs) l + m = szL L l + vs.length := by
  unfold altL szL
  rcases (show e = 0 ∨ e = 1 by omega) with rfl | rfl
  · rw [upL_s, upL_c _ (.inr (by decide)), pushes_len, List.length_drop]; omega
  · rw [upL_s, upL_c _ (.inr (by decide)), pushes_len, List.length_drop]; omega
theorem getD_take {its : List Nat} {j i : Nat} (h : i < j) : (its.take j).getD i 0 = its.getD i 0 := by
  rw [List.getD_eq_getElem?_getD, List.getD_eq_getElem?_getD, List.getElem?_take_of_lt h]
theorem itm9 {k : Nat} {L : LC} {pn w l e : Nat} (h : LOK k L pn w) (hl : l < k) (he : e < 2) : ∀ v ∈ itm (L l e), v ≤ 9999 := by
  intro v hv
  unfold itm at hv
  obtain ⟨c, hc, rfl⟩ := List.mem_map.mp hv
  exact (h.1 l e hl he c hc).2.2.2
theorem X_alt98 {ρ : RC} {L : LC} {w l e place c v : Nat} {reb x7 : Int32} {Z : ZZ} {σ : XS} (hR : RV ρ) (hl : l < 4) (he : e < 2) (its : List Nat) (h64 : its.length ≤ 64) (h9 : ∀ v ∈ its, v ≤ 9999) (hc : c < 2) (hv : v ≤ 9999) (hp : place = its.length) (hX : XR 4 ρ L w reb Z σ) (hL : LOK 4 L (xN σ) w) (hs : szL L l + c + place ≤ 64) (hr : ∀ i, i < place → xA σ 4 i = nI (its.getD i 0)) : ∃ σ', Xl_alters_98 l (nI c) (nI v) (nI e) (nI place) x7 σ 0 0 = some (x7, σ') ∧ XR 4 ρ (upL L l e (pushes (xN σ) w ((if c = 1 then [v] else []) ++ its.reverse) (L l e))) (w + c + place) reb Z σ' ∧ xN σ' = xN σ + c + place := by
  have htk : its.take place = its := by rw [hp]; exact List.take_length
  have h110 : ∀ (τ : XS) (L' : LC) (w' u v' : Nat), u ≤ 1 → v' ≤ 6 → XR 4 ρ L' w' reb Z τ → LOK 4 L' (xN τ) w' → szL L' l + place ≤ 64 → (∀ i, i < place → xA τ 4 i = nI (its.getD i 0)) → ∃ σ', Xl_alters_110 l (nI e) (nI place) x7 τ u v' = some (x7, σ') ∧ XR 4 ρ (upL L' l e (pushes (xN τ) w' its.reverse (L' l e))) (w' + place) reb Z σ' ∧ xN σ' = xN τ + place := by
    intro τ L' w' u v' hu hv' hX' hL' hs' hr'
    obtain ⟨σ', q1, q2, q3⟩ := X_puts0_ok hR (by decide) hl he its h64 h9 place τ L' w' 0 0 FU (by omega) hX' hL' hs' hr' (by omega) (by omega) (by unfold FU; omega)
    rw [htk] at q2
    refine ⟨σ', ?_, q2, q3⟩
    unfold Xl_alters_110 Xl_puts0_r1
    rw [if_pos ⟨by omega, by omega⟩, q1]; rfl
  unfold Xl_alters_98
  rcases (show c = 0 ∨ c = 1 by omega) with rfl | rfl
  · rw [if_pos (show nI 0 = 0 from rfl), if_neg (by decide)]
    exact h110 σ L w 0 0 (by decide) (by decide) hX hL (by omega) hr
  · rw [if_neg (show ¬ nI 1 = 0 by decide), if_pos (by decide), if_pos rfl]
    obtain ⟨σ1, p1, p2, p3, p4, p5⟩ := X_put_ok (e := e) (v := v) hR hL hX (by decide) hl he hv
    have hL1 := hL.put (l := l) (e := e) (v := v) hX.n3 hl he (by unfold szL at hs; omega) hv
    rw [← p3] at hL1
    obtain ⟨σ', q1, q2, q3⟩ := h110 σ1 _ (w + 1) (0 + 1) (0 + 6) (by decide) (by decide) p2 hL1 (by rw [up_sz he]; omega) (fun i hi => by rw [p4 4 (by decide) (by omega)]; exact hr i hi)
    rw [upL_s, upL_upL, p3] at q2
    exact ⟨σ', by rw [p1, Option.bind_some]; exact q1, q2, by rw [q3, p3]⟩
theorem X_alt34 {ρ : RC} {L : LC} {w l e place g c v : Nat} {reb : Int32} {Z : ZZ} {σ : XS} (hR : RV ρ) (hl : l < 4) (he : e < 2) (hg : g < 2) (hc : c < 2) (hv : v ≤ 9999) (hp : place + g ≤ (L l e).length) (hs : szL L l + c ≤ 64 + g) (hX : XR 4 ρ L w reb Z σ) (hL : LOK 4 L (xN σ) w) : ∃ σ', Xl_alters_34 l (nI g) (nI c) (nI v) (nI e) (nI place) σ 0 0 = some (if g = 0 then (-1 : Int32) else nI ((itm (L l e)).getD place 0), σ') ∧ XR 4 ρ (altL L l e (place + g) (xN σ) w ((if c = 1 then [v] else []) ++ ((itm (L l e)).take place).reverse)) (w + c + place) reb Z σ' ∧ xN σ' = xN σ + c + place := by
  have hs0 : szL L l ≤ 64 := hL.2.1 l hl
  have hle : (L l e).length ≤ 64 := by unfold szL at hs0; rcases (show e = 0 ∨ e = 1 by omega) with rfl | rfl <;> omega
  obtain ⟨σ1, a1, a2, a3, a4⟩ := X_lifts_ok (place := place) (by decide : 4 ≤ 5) hl he (by omega) hle place 0 FU σ (by omega) (by unfold FU; omega) (by rw [List.drop_zero, upL_id]; exact hX) (fun j hj => absurd hj (Nat.not_lt_zero _))
  have hL1 : LOK 4 (upL L l e ((L l e).drop place)) (xN σ1) w := by rw [a3]; exact hL.drop hl he
  have hil : (itm (L l e)).length = (L l e).length := itm_len _
  have htl : ((itm (L l e)).take place).length = place := by rw [List.length_take, hil]; omega
  have h9 := itm9 hL hl he
  have hrow : ∀ i, i < place → xA σ1 4 i = nI (((itm (L l e)).take place).getD i 0) := fun i hi => by rw [getD_take hi]; exact a4 i hi
  have hd := drop_sz (L := L) (l := l) (m := place) he (by omega)
  unfold Xl_alters_34 Xl_lifts_r1
  rw [a1, Option.bind_some]
  rcases (show g = 0 ∨ g = 1 by omega) with rfl | rfl
  · rw [if_pos (show nI 0 = 0 from rfl), if_pos rfl]
    obtain ⟨σ2, b1, b2, b3⟩ := X_alt98 (x7 := -1) hR hl he ((itm (L l e)).take place) (by omega) (fun x hx => h9 x (List.mem_of_mem_take hx)) hc hv htl.symm a2 hL1 (by omega) hrow
    rw [upL_s, upL_upL, a3] at b2
    exact ⟨σ2, b1, b2, by rw [b3, a3]⟩
  · rw [if_neg (show ¬ nI 1 = 0 by decide), if_neg (show ¬ (1 : Nat) = 0 by decide)]
    have hdc := drop_c (show place < (L l e).length by omega)
    obtain ⟨p1, p2, p3, p4, p5, p6, p7⟩ := a2.pop (by decide) hl he (c := (L l e).getD place c0) (cs := (L l e).drop (place + 1)) (by rw [upL_s, hdc])
    rw [upL_upL] at p7
    have hit : (itm (L l e)).getD place 0 = ((L l e).getD place c0).2.2 := itm_getD _ _
    rw [hit]
    generalize (L l e).getD place c0 = q at hdc p1 p2 p3 p4 p5 p6 p7
    have hL2 : LOK 4 (upL L l e ((L l e).drop (place + 1))) (xN (zA (zT σ1 l e (rB (xC σ1 q.1))) (5 + l) e (nI ((L l e).drop (place + 1)).length))) w := by
      show LOK 4 _ (xN σ1) w
      rw [a3]; exact hL.drop hl he
    have hd2 := drop_sz (L := L) (l := l) (m := place + 1) he (by omega)
    obtain ⟨σ2, b1, b2, b3⟩ := X_alt98 (x7 := nI q.2.2) hR hl he ((itm (L l e)).take place) (by omega) (fun x hx => h9 x (List.mem_of_mem_take hx)) hc hv htl.symm p7 hL2 (by omega) (fun i hi => by rw [xA_zA, if_neg (by omega), xA_zT]; exact hrow i hi)
    rw [upL_s, upL_upL] at b2
    have b2 : XR 4 ρ (upL L l e (pushes (xN σ1) w ((if c = 1 then [v] else []) ++ ((itm (L l e)).take place).reverse) ((L l e).drop (place + 1)))) (w + c + place) reb Z σ2 := b2
    rw [a3] at b2
    have b3 : xN σ2 = xN σ1 + c + place := b3
    refine ⟨σ2, ?_, b2, by rw [b3, a3]⟩
    rw [← b1, if_neg (e2i he), e2 he, p1]
    have de : ¬ (nI e < 0 ∨ 2 ≤ e) := nI_dn he (by decide)
    have hAe : xA (zT σ1 l e (rB (xC σ1 q.1))) (5 + l) e - nI 1 = nI ((L l e).drop (place + 1)).length := by
      show xA σ1 (5 + l) e - nI 1 = _
      rw [p6]; exact nI_pred _
    show (if q.1 < xN σ1 ∧ rK (xC σ1 q.1) = true then (if nI e < 0 ∨ 2 ≤ e then none else (if q.1 < xN σ1 ∧ rK (xC σ1 q.1) = true then (if nI e < 0 ∨ 2 ≤ e then none else (if cellOk σ1 (rB (xC σ1 q.1)) = true then (if nI e < 0 ∨ 2 ≤ e then none else (if nI e < 0 ∨ 2 ≤ e then none else Xl_alters_98 l (nI c) (nI v) (nI e) (nI place) (rI (xC σ1 q.1)) (zA (zT σ1 l e (rB (xC σ1 q.1))) (5 + l) e (xA (zT σ1 l e (rB (xC σ1 q.1))) (5 + l) e - nI 1)) 0 0)) else none)) else none)) else none) = _
    rw [if_pos ⟨p2, p3⟩, if_neg de, if_pos ⟨p2, p3⟩, if_neg de, if_pos p5, if_neg de, if_neg de, hAe, p4]
/-! the twin -/
theorem MCh.drop {μ : MS} {ρ : RC} {e s : Nat} : ∀ (m : Nat) {cs : List CL}, MCh μ ρ e s cs → MCh μ ρ e s (cs.drop m)
  | 0, _, h => h
  | m + 1, [], _ => trivial
  | m + 1, c :: cs, h => MCh.drop m h.2.2.2.2
theorem MR.dropL {k : Nat} {ρ : RC} {L : LC} {w pn w' l e m : Nat} {reb : Int32} {Z : ZZ} {μ : MS} (h : MR k ρ L w reb Z μ) (hL : LOK k L pn w') (hl : l < k) (he : e < 2) : MR k ρ (upL L l e ((L l e).drop m)) w reb Z (sA μ 5 (2 * l + e) (nI ((L l e).length - m))) := by
  refine h.line (l := l) hL (fun _ q _ => q) (fun _ => rfl) ⟨rfl, rfl, rfl⟩ (fun l' e' hl' he' => ?_) (fun _ _ _ _ _ _ => ⟨rfl, rfl, rfl, rfl⟩) (fun e' he' => ?_) (fun l' e' hl' => upL_c _ (.inl hl') _)
  · rw [gA_sA, if_pos (show (5 : Nat) = 5 from rfl), if_neg (by omega)]
  · rw [gA_sA, if_pos (show (5 : Nat) = 5 from rfl)]
    obtain ⟨b1, b2⟩ := h.2.2.2.2 l e' hl he'
    by_cases hee : e' = e
    · subst hee
      rw [if_pos rfl, upL_s, List.length_drop]
      exact ⟨rfl, MCh.move (μ := μ) _ (fun _ _ => ⟨rfl, rfl, rfl, rfl⟩) (b2.drop m)⟩
    · rw [if_neg (by omega), upL_c _ (.inr hee)]
      exact ⟨b1, MCh.move (μ := μ) _ (fun _ _ => ⟨rfl, rfl, rfl, rfl⟩) b2⟩
theorem M_again_down {k : Nat} {ρ : RC} {l e : Nat} {reb : Int32} {Z : ZZ} (hR : RV ρ) (hk5 : k ≤ 5) (hl : l < k) (he : e < 2) (its : List Nat) (h65 : its.length ≤ 65) (h9 : ∀ v ∈ its, v ≤ 9999) : ∀ (j : Nat) (μ : MS) (L : LC) (pn w f : Nat), j ≤ its.length → MR k ρ L w reb Z μ → LOK k L pn w → 3 ≤ pn → szL L l + j ≤ 64 → (∀ i, i < j → gA μ 8 i = nI (its.getD i 0)) → j < f → ∃ μ', M_makesAgain_24 f (nI (2 * l + e)) (nI j - nI 1) μ = some μ' ∧ MR k ρ (upL L l e (pushes pn w (its.take j).reverse (L l e))) (w + j) reb Z μ' := by
  intro j
  induction j with
  | zero =>
    intro μ L pn w f _ h hL _ _ hr hf
    obtain ⟨f, rfl⟩ : ∃ z, f = z + 1 := ⟨f - 1, by omega⟩
    refine ⟨μ, if_pos m1_n, ?_⟩
    show MR k ρ (upL L l e (L l e)) w reb Z μ
    rw [upL_id]; exact h
  | succ j ih =>
    intro μ L pn w f hj h hL h3 hs hr hf
    obtain ⟨f, rfl⟩ : ∃ z, f = z + 1 := ⟨f - 1, by omega⟩
    have hv := h9 _ (gD_mem (show j < its.length from hj))
    obtain ⟨μ1, p1, p2, p3, pl⟩ := M_makes_ok (e := e) (v := its.getD j 0) hR h hL hk5 hl he (by omega) hv
    have hL1 := hL.put (l := l) (e := e) (v := its.getD j 0) h3 hl he (by unfold szL at hs; omega) hv
    obtain ⟨μ2, g1, g2⟩ := ih μ1 _ (pn + 1) (w + 1) f (by omega) p2 hL1 (by omega) (by rw [up_sz he]; omega) (fun i hi => by rw [p3.2 8 (by decide)]; exact hr i (by omega)) (by omega)
    refine ⟨μ2, ?_, ?_⟩
    · rw [← g1, m1_s]
      show (if nI j < 0 then _ else (if nI j < 0 ∨ 65 ≤ (nI j).toNatClampNeg then none else ((M_makes (nI (2 * l + e)) (gA μ 8 (nI j).toNatClampNeg) μ).bind fun q1 => M_makesAgain_24 f (nI (2 * l + e)) (nI j + (-1 : Int32)) q1))) = _
      rw [if_neg (nI_pos (by omega)), if_neg (nI_in (by omega) (by decide)), nI_clamp (by omega), hr j (Nat.lt_succ_self _), p1, Option.bind_some, m1_e]
    · rw [upL_s, upL_upL] at g2
      rw [take_s hj, show w + (j + 1) = w + 1 + j by omega]; exact g2
theorem M_again_up {k : Nat} {ρ : RC} {l e : Nat} {reb : Int32} {Z : ZZ} (hR : RV ρ) (hk5 : k ≤ 5) (hl : l < k) (he : e < 2) {n : Nat} (hn : n ≤ 65) : ∀ (vs : List Nat) (i : Nat) (μ : MS) (L : LC) (pn w f : Nat), i + vs.length = n → (∀ x ∈ vs, x ≤ 9999) → MR k ρ L w reb Z μ → LOK k L pn w → 3 ≤ pn → szL L l + vs.length ≤ 64 → (∀ j, j < vs.length → gA μ 8 (i + j) = nI (vs.getD j 0)) → vs.length < f → ∃ μ', M_makesAgain_54 f (nI n) (nI (2 * l + e)) (nI i) μ = some μ' ∧ MR k ρ (upL L l e (pushes pn w vs (L l e))) (w + vs.length) reb Z μ' := by
  intro vs
  induction vs with
  | nil =>
    intro i μ L pn w f hi _ h hL _ _ hr hff
    obtain ⟨f, rfl⟩ : ∃ g, f = g + 1 := ⟨f - 1, by simp at hff; omega⟩
    have hi : i = n := hi
    refine ⟨μ, if_pos (nI_le (by omega) (by omega)), ?_⟩
    show MR k ρ (upL L l e (L l e)) w reb Z μ
    rw [upL_id]; exact h
  | cons x vs ih =>
    intro i μ L pn w f hi h9 h hL h3 hs hr hff
    simp only [List.length_cons] at hi hs hff
    obtain ⟨f, rfl⟩ : ∃ g, f = g + 1 := ⟨f - 1, by omega⟩
    have hx := h9 x List.mem_cons_self
    obtain ⟨μ1, p1, p2, p3, pl⟩ := M_makes_ok (e := e) (v := x) hR h hL hk5 hl he (by omega) hx
    have hL1 := hL.put (l := l) (e := e) (v := x) h3 hl he (by unfold szL at hs; omega) hx
    obtain ⟨μ2, g1, g2⟩ := ih (i + 1) μ1 _ (pn + 1) (w + 1) f (by omega) (fun y hy => h9 y (List.mem_cons_of_mem _ hy)) p2 hL1 (by omega) (by rw [up_sz he]; omega) (fun j hj => by
      rw [p3.2 8 (by decide), show i + 1 + j = i + (j + 1) by omega]
      exact hr (j + 1) (by simp only [List.length_cons]; omega)) (by omega)
    refine ⟨μ2, ?_, ?_⟩
    · rw [← g1]
      have h0 := hr 0 (by simp)
      rw [Nat.add_zero] at h0
      show (if nI n ≤ nI i then _ else (if nI i < 0 ∨ 65 ≤ (nI i).toNatClampNeg then none else ((M_makes (nI (2 * l + e)) (gA μ 8 (nI i).toNatClampNeg) μ).bind fun q2 => M_makesAgain_54 f (nI n) (nI (2 * l + e)) (nI i + nI 1) q2))) = _
      rw [if_neg (nI_ge (by omega) (by omega)), if_neg (nI_in (by omega) (by decide)), nI_clamp (by omega), h0, show (x :: vs).getD 0 0 = x from rfl, p1, Option.bind_some, nI_add]
    · rw [upL_s, upL_upL] at g2
      simp only [List.length_cons]
      rw [show w + (vs.length + 1) = w + 1 + vs.length by omega]; exact g2
/-- the front's part made anew: of the items from number j - 1 down to 0 -/
theorem M_alt_f {ρ : RC} {L : LC} {w pn l m n : Nat} {reb : Int32} {Z : ZZ} {μ : MS} (hR : RV ρ) (hl : l < 4) (its : List Nat) (h64 : its.length ≤ 64) (h9 : ∀ v ∈ its, v ≤ 9999) (hm : m ≤ (L l 0).length) (hs : szL L l + its.length ≤ 64 + m) (hM : MR 4 ρ L w reb Z μ) (hL : LOK 4 L pn w) (h3 : 3 ≤ pn) (hr : ∀ i, i < its.length → gA μ 8 i = nI (its.getD i 0)) : ∃ μ', M_makesAgain (nI l) (nI 1) (nI its.length - nI 1) (nI n) (sA μ 5 (2 * l) (nI ((L l 0).length - m))) = some μ' ∧ MR 4 ρ (altL L l 0 m pn w its.reverse) (w + its.length) reb Z μ' := by
  have hd := drop_sz (L := L) (l := l) (e := 0) (m := m) (by decide) hm
  obtain ⟨μ', q1, q2⟩ := M_again_down hR (by decide) hl (e := 0) (by decide) its (by omega) h9 its.length (sA μ 5 (2 * l) (nI ((L l 0).length - m))) _ pn w FU (Nat.le_refl _) (hM.dropL hL hl (e := 0) (m := m) (by decide)) (hL.drop hl (by decide)) h3 (by omega) hr (by unfold FU; omega)
  rw [List.take_length, upL_s, upL_upL] at q2
  refine ⟨μ', ?_, q2⟩
  unfold M_makesAgain M_makesAgain_15
  rw [if_neg (show ¬ nI 1 = 0 by decide), if_neg (show ¬ nI 1 = 0 by decide), pk_mul]
  exact q1
/-- the back's part made anew: of the items from number i on -/
theorem M_alt_b {ρ : RC} {L : LC} {w pn l m i n : Nat} {reb : Int32} {Z : ZZ} {μ : MS} (hR : RV ρ) (hl : l < 4) (vs : List Nat) (hn : n ≤ 65) (hi : i + vs.length = n) (h9 : ∀ v ∈ vs, v ≤ 9999) (hm : m ≤ (L l 1).length) (hs : szL L l + vs.length ≤ 64 + m) (hM : MR 4 ρ L w reb Z μ) (hL : LOK 4 L pn w) (h3 : 3 ≤ pn) (hr : ∀ j, j < vs.length → gA μ 8 (i + j) = nI (vs.getD j 0)) : ∃ μ', M_makesAgain (nI l) (nI 0) (nI i) (nI n) (sA μ 5 (2 * l + 1) (nI ((L l 1).length - m))) = some μ' ∧ MR 4 ρ (altL L l 1 m pn w vs) (w + vs.length) reb Z μ' := by
  have hd := drop_sz (L := L) (l := l) (e := 1) (m := m) (by decide) hm
  obtain ⟨μ', q1, q2⟩ := M_again_up hR (by decide) hl (e := 1) (by decide) hn vs i (sA μ 5 (2 * l + 1) (nI ((L l 1).length - m))) _ pn w FU hi h9 (hM.dropL hL hl (e := 1) (m := m) (by decide)) (hL.drop hl (by decide)) h3 (by omega) hr (by unfold FU; omega)
  rw [upL_s, upL_upL] at q2
  refine ⟨μ', ?_, q2⟩
  unfold M_makesAgain M_makesAgain_15
  rw [if_pos (show nI 0 = 0 from rfl), if_pos (show nI 0 = 0 from rfl), pk_mul, nI_add]
  exact q1
