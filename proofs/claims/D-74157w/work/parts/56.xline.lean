set_option maxRecDepth 100000
/-! the component's lines: puts, pops, empties -/
theorem pr_pq (σ : XS) (i : Nat) (x : VV) (j : Nat) : pr (pq σ i x) j = if j = i then x else pr σ j := by
  unfold pr
  rw [xC_pq]
  split <;> rfl
theorem XCh.same0 {ρ : RC} {e : Nat} {σ σ' : XS} (cs : List CL) (o : Option Nat) (hn : xN σ ≤ xN σ') (hc : xC σ' = xC σ) (h : XCh σ ρ e o cs) : XCh σ' ρ e o cs := XCh.same hn cs o (fun c _ => by rw [hc]) h
theorem oc_some {α : Type} (i : Nat) (a : α) (f : Nat → α) : oc (some i) a f = f i := rfl
theorem pq_pq (σ : XS) (i : Nat) (x : VV) (f : Nat → Int32) (y : VV) : pq (zX (pq σ i x) 0 f) i y = pq (zX σ 0 f) i y := by
  show ((σ.1.1, σ.1.2.1, va_up σ.1.2.2.1 0 f, σ.1.2.2.2), σ.2.1, σ.2.2.1, va_up (va_up σ.2.2.2 i (uQ (uP (xC σ i) x.1) x.2)) i (uQ (uP (if i = i then uQ (uP (xC σ i) x.1) x.2 else xC σ i) y.1) y.2)) = _
  rw [bx_uu, if_pos rfl]; rfl
/-- the cells that were there and the other lines' tops stay -/
def XF (l : Nat) (σ σ' : XS) : Prop := (∀ i, i < xN σ → xC σ' i = xC σ i) ∧ (∀ l', l' ≠ l → xT σ' l' = xT σ l') ∧ xN σ ≤ xN σ'
theorem XF.refl (l : Nat) (σ : XS) : XF l σ σ := ⟨fun _ _ => rfl, fun _ _ => rfl, Nat.le_refl _⟩
theorem XF.trans {l : Nat} {σ σ1 σ2 : XS} (h : XF l σ σ1) (g : XF l σ1 σ2) : XF l σ σ2 := ⟨fun i hi => (g.1 i (Nat.lt_of_lt_of_le hi h.2.2)).trans (h.1 i hi), fun l' hl => (g.2.1 l' hl).trans (h.2.1 l' hl), Nat.le_trans h.2.2 g.2.2⟩
theorem LOK.line {k k' : Nat} {L L' : LC} {pn w l : Nat} (h : LOK k L pn w) (hk : ∀ l', l' < k' → l' ≠ l → l' < k) (hL : ∀ l' e, l' ≠ l → L' l' e = L l' e) (hc : ∀ e, e < 2 → ∀ c ∈ L' l e, ∃ l', l' < k ∧ c ∈ L l' e) (hs : (L' l 0).length + (L' l 1).length ≤ 64) : LOK k' L' pn w := by
  have hm : ∀ l' e' c, l' < k' → e' < 2 → c ∈ L' l' e' → ∃ l', l' < k ∧ c ∈ L l' e' := by
    intro l' e' c h1 h2 hcc
    by_cases hll : l' = l
    · subst hll; exact hc e' h2 c hcc
    · rw [hL l' e' hll] at hcc; exact ⟨l', hk l' h1 hll, hcc⟩
  refine ⟨fun l' e' h1 h2 c hc => ?_, fun l' h1 => ?_, fun l1 e1 l2 e2 g1 g2 g3 g4 c hc d hd => ?_⟩
  · obtain ⟨a, ha, hab⟩ := hm l' e' c h1 h2 hc
    exact h.1 a e' ha h2 c hab
  · by_cases hll : l' = l
    · subst hll; exact hs
    · rw [hL _ _ hll, hL _ _ hll]; exact h.2.1 l' (hk l' h1 hll)
  · obtain ⟨a, ha, hab⟩ := hm _ _ c g1 g2 hc
    obtain ⟨a', ha', hab'⟩ := hm _ _ d g3 g4 hd
    exact h.2.2 a e1 a' e2 ha g2 ha' g4 c hab d hab'
/-- one line is changed, of old cells -/
theorem XR.line {k k' : Nat} {ρ : RC} {L L' : LC} {w l : Nat} {reb : Int32} {Z : ZZ} {σ σ' : XS} (h : XR k ρ L w reb Z σ) (hl : l < 5) (hk : ∀ l', l' < k' → l' ≠ l → l' < k) (hk5 : k' ≤ 5) (h1 : ∀ j, j < 7 → xI σ' j = xI σ j) (h2 : xL σ' 0 = xL σ 0) (h3 : ∀ j, j ≠ 0 → j ≠ 3 → j ≠ 4 → j ≠ 5 + l → xA σ' j = xA σ j) (h4 : xB σ' 0 = xB σ 0) (h5 : ∀ l', l' ≠ l → xT σ' l' = xT σ l') (h6 : xN σ' = xN σ) (h7 : xC σ' = xC σ) (h8 : ∀ e, e < 2 → okRef σ' (xT σ' l e) = true)
    (h9 : ∀ e, e < 2 → xA σ' (5 + l) e = nI (L' l e).length ∧ XCh σ' ρ e (xT σ' l e) (L' l e)) (hL : ∀ l' e, l' ≠ l → L' l' e = L l' e) : XR k' ρ L' w reb Z σ' := by
  obtain ⟨a1, a2, ⟨a3, a4, a5, a6, a7⟩, a8, a9, a10, a11⟩ := h
  refine ⟨⟨by rw [h6]; exact a1.1, fun i hi => ?_, fun l' hl' j hj => ?_⟩, ⟨(h1 0 (by decide)).trans a2.1, (h1 1 (by decide)).trans a2.2.1, (h1 2 (by decide)).trans a2.2.2.1, fun n hn i hi => ?_, fun i j hi hj => ?_⟩, ⟨(h1 3 (by decide)).trans a3, (h1 4 (by decide)).trans a4, (h1 5 (by decide)).trans a5, (h1 6 (by decide)).trans a6, h2.trans a7⟩, fun i hi => ?_, fun i hi => ?_, fun l' e hl' he => ?_, fun i hi => ?_⟩
  · rw [h7]; exact okRef_mono (by omega) (a1.2.1 i (by omega))
  · by_cases hll : l' = l
    · subst hll; exact h8 j hj
    · rw [h5 _ hll]; exact okRef_mono (by omega) (a1.2.2 l' hl' j hj)
  · rw [h3 _ (by omega) (by omega) (by omega) (by omega)]; exact a2.2.2.2.1 n hn i hi
  · rw [h3 1 (by decide) (by decide) (by decide) (by omega)]; exact a2.2.2.2.2 i j hi hj
  · rw [h3 2 (by decide) (by decide) (by decide) (by omega)]; exact a8 i hi
  · rw [h4]; exact a9 i hi
  · by_cases hll : l' = l
    · subst hll; exact h9 e he
    · obtain ⟨g1, g2⟩ := a10 l' e (hk l' hl' hll) he
      rw [hL _ _ hll, h3 (5 + l') (by omega) (by omega) (by omega) (by omega), h5 _ hll]
      exact ⟨g1, XCh.same (by omega) _ _ (fun c _ => by rw [h7]) g2⟩
  · rw [h7]; exact a11 i (by omega)
theorem XR.down {k k' : Nat} {ρ : RC} {L : LC} {w : Nat} {reb : Int32} {Z : ZZ} {σ : XS} (h : XR k ρ L w reb Z σ) (hk : k' ≤ k) : XR k' ρ L w reb Z σ := ⟨h.1, h.2.1, h.2.2.1, h.2.2.2.1, h.2.2.2.2.1, fun l e hl he => h.2.2.2.2.2.1 l e (by omega) he, h.2.2.2.2.2.2⟩
theorem MR.down {k k' : Nat} {ρ : RC} {L : LC} {w : Nat} {reb : Int32} {Z : ZZ} {μ : MS} (h : MR k ρ L w reb Z μ) (hk : k' ≤ k) : MR k' ρ L w reb Z μ := ⟨h.1, h.2.1, h.2.2.1, h.2.2.2.1, fun l e hl he => h.2.2.2.2 l e (by omega) he⟩
theorem XR.ext {k : Nat} {ρ : RC} {L L' : LC} {w : Nat} {reb : Int32} {Z : ZZ} {σ : XS} (h : XR k ρ L w reb Z σ) (hL : ∀ l e, l < k → e < 2 → L' l e = L l e) : XR k ρ L' w reb Z σ := ⟨h.1, h.2.1, h.2.2.1, h.2.2.2.1, h.2.2.2.2.1, fun l e hl he => by rw [hL l e hl he]; exact h.2.2.2.2.2.1 l e hl he, h.2.2.2.2.2.2⟩
theorem LOK.ext {k : Nat} {L L' : LC} {pn w : Nat} (h : LOK k L pn w) (hL : ∀ l e, l < k → e < 2 → L' l e = L l e) : LOK k L' pn w := ⟨fun l e hl he c hc => h.1 l e hl he c (by rw [← hL l e hl he]; exact hc), fun l hl => by rw [hL l 0 hl (by decide), hL l 1 hl (by decide)]; exact h.2.1 l hl, fun l e l' e' h1 h2 h3 h4 c hc d hd => h.2.2 l e l' e' h1 h2 h3 h4 c (by rw [← hL l e h1 h2]; exact hc) d (by rw [← hL l' e' h3 h4]; exact hd)⟩
theorem e2 {e : Nat} (h : e < 2) : (nI e).toNatClampNeg = e := nI_clamp (by omega)
theorem e2i {e : Nat} (h : e < 2) : ¬ (nI e < 0 ∨ 2 ≤ (nI e).toNatClampNeg) := nI_in h (by decide)
theorem Xl_size_ok {k : Nat} {ρ : RC} {L : LC} {w l : Nat} {reb : Int32} {Z : ZZ} {σ : XS} (h : XR k ρ L w reb Z σ) (hl : l < k) : Xl_size l σ = some (nI ((L l 0).length + (L l 1).length), σ) := by
  have h0 := (h.2.2.2.2.2.1 l 0 hl (by decide)).1
  have h1 := (h.2.2.2.2.2.1 l 1 hl (by decide)).1
  unfold Xl_size
  rw [if_neg (e2i (by decide)), if_neg (e2i (by decide)), e2 (by decide), e2 (by decide), h0, h1, nI_add]
/-- a new cell -/
def cN : PR := (true, lN 0, lN 0, nI 0, none, nI 0, nI 0)
def pushX (σ : XS) (l e v len w : Nat) (f : Nat → Int32) (x : VV) : XS := zL (zA (zT (pq (zX (zC (zN σ cN) (xN σ) (uB (uI (xC (zN σ cN) (xN σ)) (nI v)) (xT (zN σ cN) l e))) 0 f) (xN σ) x) l e (some (xN σ))) (5 + l) e (nI (len + 1))) 0 (lN (w + 1))
theorem pushX_C (σ : XS) (l e v len w : Nat) (f : Nat → Int32) (x : VV) (i : Nat) : xC (pushX σ l e v len w f x) i = if i = xN σ then (true, x.1, x.2, nI v, xT σ l e, nI 0, nI 0) else xC σ i := by
  show xC (pq (zX (zC (zN σ cN) (xN σ) _) 0 f) (xN σ) x) i = _
  rw [xC_pq]
  by_cases h : i = xN σ
  · rw [if_pos h, if_pos h, xC_zX, xC_zC, if_pos rfl, xC_zN, if_pos rfl]; rfl
  · rw [if_neg h, if_neg h, xC_zX, xC_zC, if_neg h, xC_zN, if_neg h]
theorem pushX_A (σ : XS) (l e v len w : Nat) (f : Nat → Int32) (x : VV) (j : Nat) (h0 : j ≠ 0) (h5 : j ≠ 5 + l) : xA (pushX σ l e v len w f x) j = xA σ j := by
  funext n
  show xA (zA (zT (pq (zX (zC (zN σ cN) (xN σ) _) 0 f) (xN σ) x) l e (some (xN σ))) (5 + l) e (nI (len + 1))) j n = _
  rw [xA_zA, if_neg h5, xA_zT, xA_pq, xA_zX, if_neg h0, xA_zC, xA_zN]
theorem pushX_A5 (σ : XS) (l e v len w : Nat) (f : Nat → Int32) (x : VV) (n : Nat) : xA (pushX σ l e v len w f x) (5 + l) n = if n = e then nI (len + 1) else xA σ (5 + l) n := by
  show xA (zA (zT (pq (zX (zC (zN σ cN) (xN σ) _) 0 f) (xN σ) x) l e (some (xN σ))) (5 + l) e (nI (len + 1))) (5 + l) n = _
  rw [xA_zA, if_pos rfl, xA_zT, xA_pq, xA_zX, if_neg (show ¬ 5 + l = 0 by omega), xA_zC, xA_zN]
theorem pushX_T (σ : XS) (l e v len w : Nat) (f : Nat → Int32) (x : VV) (l' e' : Nat) : xT (pushX σ l e v len w f x) l' e' = if l' = l ∧ e' = e then some (xN σ) else xT σ l' e' := by
  show xT (zT (pq (zX (zC (zN σ cN) (xN σ) _) 0 f) (xN σ) x) l e (some (xN σ))) l' e' = _
  rw [xT_zT]
  by_cases h : l' = l
  · subst h
    rw [if_pos rfl]
    by_cases h2 : e' = e
    · rw [if_pos h2, if_pos ⟨rfl, h2⟩]
    · rw [if_neg h2, if_neg (fun z => h2 z.2)]; rfl
  · rw [if_neg h, if_neg (fun z => h z.1)]; rfl
theorem XR.push {k : Nat} {ρ : RC} {L : LC} {w l e v : Nat} {reb : Int32} {Z : ZZ} {σ : XS} (h : XR k ρ L w reb Z σ) (hL : LOK k L (xN σ) w) (hk : k ≤ 5) (hl : l < k) (he : e < 2) (f : Nat → Int32) (x : VV) (hx : x = sv ρ e ((xN σ, w, v) :: L l e)) : XR k ρ (upL L l e ((xN σ, w, v) :: L l e)) (w + 1) reb Z (pushX σ l e v (L l e).length w f x) := by
  obtain ⟨a1, a2, ⟨a3, a4, a5, a6, a7⟩, a8, a9, a10, a11⟩ := h
  have hN : xN (pushX σ l e v (L l e).length w f x) = xN σ + 1 := rfl
  have hold : ∀ c : CL, c.1 < xN σ → xC (pushX σ l e v (L l e).length w f x) c.1 = xC σ c.1 := fun c hc => by rw [pushX_C, if_neg (by omega)]
  have hself := pushX_C σ l e v (L l e).length w f x (xN σ)
  rw [if_pos rfl] at hself
  refine ⟨⟨by have := a1.1; omega, fun i hi => ?_, fun l' hl' j hj => ?_⟩, ⟨a2.1, a2.2.1, a2.2.2.1, fun n hn i hi => ?_, fun i j hi hj => ?_⟩, ⟨a3, a4, a5, a6, ?_⟩, fun i hi => ?_, fun i hi => a9 i hi, fun l' e' hl' he' => ?_, fun i hi => ?_⟩
  · rw [hN] at hi
    rw [pushX_C]
    by_cases hh : i = xN σ
    · rw [if_pos hh]; exact okRef_mono (by omega) (a1.2.2 l (by omega) e he)
    · rw [if_neg hh]; exact okRef_mono (by omega) (a1.2.1 i (by omega))
  · rw [pushX_T]
    split
    · show decide (xN σ < xN σ + 1) = true
      exact decide_eq_true (Nat.lt_succ_self _)
    · exact okRef_mono (by omega) (a1.2.2 l' hl' j hj)
  · rw [pushX_A _ _ _ _ _ _ _ _ _ (by omega) (by omega)]; exact a2.2.2.2.1 n hn i hi
  · rw [pushX_A _ _ _ _ _ _ _ _ _ (by omega) (by omega)]; exact a2.2.2.2.2 i j hi hj
  · show xL (zL _ 0 (lN (w + 1))) 0 = _
    rw [xL_zL, if_pos rfl]
  · rw [pushX_A _ _ _ _ _ _ _ _ _ (by omega) (by omega)]; exact a8 i hi
  · obtain ⟨g1, g2⟩ := a10 l' e' hl' he'
    have hsame : XCh (pushX σ l e v (L l e).length w f x) ρ e' (xT σ l' e') (L l' e') := XCh.same (by omega) _ _ (fun c hc => hold c (hL.1 l' e' hl' he' c hc).2.1) g2
    by_cases hll : l' = l ∧ e' = e
    · obtain ⟨rfl, rfl⟩ := hll
      rw [pushX_A5, if_pos rfl, upL_s, pushX_T, if_pos ⟨rfl, rfl⟩]
      refine ⟨rfl, rfl, by rw [hN]; exact Nat.lt_succ_self _, by rw [hself]; rfl, by rw [hself]; rfl, ?_, by rw [hself]; exact hsame⟩
      unfold pr
      rw [hself]
      exact hx
    · rw [upL_n _ _ hll, pushX_T, if_neg hll]
      refine ⟨?_, hsame⟩
      by_cases h5 : l' = l
      · subst h5
        rw [pushX_A5, if_neg (fun z => hll ⟨rfl, z⟩)]; exact g1
      · rw [pushX_A _ _ _ _ _ _ _ _ _ (by omega) (by omega)]; exact g1
  · rw [hN] at hi
    rw [pushX_C]
    by_cases hh : i = xN σ
    · rw [if_pos hh]; exact ⟨0, Nat.zero_le _, rfl⟩
    · rw [if_neg hh]; exact a11 i (by omega)
theorem X_put_ok {k : Nat} {ρ : RC} {L : LC} {w l e v : Nat} {reb : Int32} {Z : ZZ} {σ : XS} (hR : RV ρ) (hL : LOK k L (xN σ) w) (h : XR k ρ L w reb Z σ) (hk : k ≤ 5) (hl : l < k) (he : e < 2) (hv : v ≤ 9999) : ∃ σ', Xl_put l (nI e) (nI v) σ = some σ' ∧ XR k ρ (upL L l e ((xN σ, w, v) :: L l e)) (w + 1) reb Z σ' ∧ xN σ' = xN σ + 1 ∧ (∀ j, j ≠ 0 → j ≠ 5 + l → xA σ' j = xA σ j) ∧ XF l σ σ' := by
  have hlen := h.2.2.2.2.2.1 l e hl he
  have hw : xL σ 0 = lN w := h.2.2.1.2.2.2.2
  have key : ∀ (f : Nat → Int32) (x : VV), x = sv ρ e ((xN σ, w, v) :: L l e) → Xl_put l (nI e) (nI v) σ = some (pushX σ l e v (L l e).length w f x) → ∃ σ', Xl_put l (nI e) (nI v) σ = some σ' ∧ XR k ρ (upL L l e ((xN σ, w, v) :: L l e)) (w + 1) reb Z σ' ∧ xN σ' = xN σ + 1 ∧ (∀ j, j ≠ 0 → j ≠ 5 + l → xA σ' j = xA σ j) ∧ XF l σ σ' :=
    fun f x hx q => ⟨_, q, h.push hL hk hl he f x hx, rfl, fun j h0 h5 => pushX_A _ _ _ _ _ _ _ _ _ h0 h5, fun i hi => by rw [pushX_C, if_neg (by omega)], fun l' hl' => by funext e'; rw [pushX_T, if_neg (fun z => hl' z.1)], Nat.le_succ _⟩
  generalize hσ1 : zC (zN σ cN) (xN σ) (uB (uI (xC (zN σ cN) (xN σ)) (nI v)) (xT (zN σ cN) l e)) = σ1
  have hG1 : XG ρ σ1 := by rw [← hσ1]; exact h.2.1
  have hN1 : xN σ1 = xN σ + 1 := by rw [← hσ1]; rfl
  have hT1 : ∀ l e, xT σ1 l e = xT σ l e := by rw [← hσ1]; exact fun _ _ => rfl
  have hA1 : xA σ1 = xA σ := by rw [← hσ1]; rfl
  have hw1 : xL σ1 0 = lN w := by rw [← hσ1]; exact hw
  have hold : ∀ i, i ≠ xN σ → pr σ1 i = pr σ i := by
    intro i hi
    rw [← hσ1]; unfold pr; rw [xC_zC, if_neg hi, xC_zN, if_neg hi]
  have hput : ∀ x : XS, Xl_put_70 l (nI e) (xN σ) x (0 + 1) (0 + 6) = if cellOk x (some (xN σ)) = true then some (zL (zA (zT x l e (some (xN σ))) (5 + l) e (xA x (5 + l) e + nI 1)) 0 (xL x 0 + lN 1)) else none := by
    intro x
    unfold Xl_put_70
    rw [if_neg (e2i he), if_neg (e2i he), if_neg (e2i he), e2 he]; rfl
  have hck : ∀ (f : Nat → Int32) (x : VV), cellOk (pq (zX σ1 0 f) (xN σ) x) (some (xN σ)) = true := by
    intro f x
    show (decide (xN σ < xN σ1) && rK (xC (pq (zX σ1 0 f) (xN σ) x) (xN σ))) = true
    rw [hN1, xC_pq, if_pos rfl, decide_eq_true (Nat.lt_succ_self _), xC_zX, ← hσ1, xC_zC, if_pos rfl, xC_zN, if_pos rfl]; rfl
  have hfin : ∀ (f : Nat → Int32) (x : VV), Xl_put_70 l (nI e) (xN σ) (pq (zX σ1 0 f) (xN σ) x) (0 + 1) (0 + 6) = some (pushX σ l e v (L l e).length w f x) := by
    intro f x
    rw [hput, if_pos (hck f x)]
    have e1 : xA (pq (zX σ1 0 f) (xN σ) x) (5 + l) e = nI (L l e).length := by rw [xA_pq, xA_zX, if_neg (by omega), hA1]; exact hlen.1
    have e3 : xL (pq (zX σ1 0 f) (xN σ) x) 0 = lN w := hw1
    rw [e1, e3, nI_add, lN_add, ← hσ1]; rfl
  have hstart : Xl_put l (nI e) (nI v) σ = (X_make (xN σ) (nI v) σ1).bind fun q2 => oc (xT q2 l e) (Xl_put_70 l (nI e) (xN σ) q2 (0 + 1) (0 + 6)) fun i3 => if nI e = 0 then (X_join (xN σ) (xN σ) i3 q2).bind fun q5 => Xl_put_70 l (nI e) (xN σ) q5 (0 + 1) (0 + 6) else (X_join (xN σ) i3 (xN σ) q2).bind fun q4 => Xl_put_70 l (nI e) (xN σ) q4 (0 + 1) (0 + 6) := by
    unfold Xl_put
    rw [if_pos ⟨h.1, by decide, by decide⟩, if_neg (e2i he), if_pos ⟨Nat.lt_succ_self _, by show rK (xC (zN σ cN) (xN σ)) = true; rw [xC_zN, if_pos rfl]; rfl⟩, e2 he]
    rw [show (zC (zN σ (true, lN 0, lN 0, nI 0, none, nI 0, nI 0)) (xN σ) (uB (uI (xC (zN σ (true, lN 0, lN 0, nI 0, none, nI 0, nI 0)) (xN σ)) (nI v)) (xT (zN σ (true, lN 0, lN 0, nI 0, none, nI 0, nI 0)) l e))) = σ1 from hσ1]
    refine congrArg (Option.bind _) (funext fun q2 => ?_)
    have h22 : ¬ (nI e < 0 ∨ 2 ≤ e) := by rw [zN_lt0 (by omega), false_or]; omega
    simp only [h22, if_false]
  rw [hstart] at key ⊢
  rw [X_make_el hG1 hR (by omega) hv, Option.bind_some] at key ⊢
  have hG2 : XG ρ (pq σ1 (xN σ) (el ρ v)) := hG1
  rw [show xT (pq σ1 (xN σ) (el ρ v)) l e = xT σ l e from hT1 l e] at key ⊢
  obtain ⟨ls, hLe⟩ : ∃ ls, L l e = ls := ⟨_, rfl⟩
  cases ls with
  | nil =>
    have h0 : xT σ l e = none := by have := hlen.2; rw [hLe] at this; exact this
    rw [h0] at key ⊢
    refine key (xA σ1 0) (el ρ v) (by rw [hLe]; rfl) ?_
    show Xl_put_70 l (nI e) (xN σ) (pq σ1 (xN σ) (el ρ v)) (0 + 1) (0 + 6) = _
    have := hfin (xA σ1 0) (el ρ v)
    rw [zX_self] at this
    exact this
  | cons c cs =>
    have hch := hlen.2
    rw [hLe] at hch
    obtain ⟨g1, g2, -, -, g5, -⟩ := hch
    have hne : c.1 ≠ xN σ := by omega
    have p1 : pr (pq σ1 (xN σ) (el ρ v)) (xN σ) = el ρ v := by rw [pr_pq, if_pos rfl]
    have p2 : pr (pq σ1 (xN σ) (el ρ v)) c.1 = sv ρ e (c :: cs) := by rw [pr_pq, if_neg hne, hold _ hne]; exact g5
    have v1 := VD_el hR hv
    have v2 := VD_sv hR e (c :: cs) (fun x hx => (hL.1 l e hl he x (by rw [hLe]; exact hx)).2.2.2)
    rw [g1] at key ⊢
    rcases (show e = 0 ∨ e = 1 by omega) with rfl | rfl
    · obtain ⟨f, hf⟩ := X_join_jn hG2 hR (i := xN σ) (a := xN σ) (b := c.1) (show xN σ < xN σ1 by omega) (show xN σ < xN σ1 by omega) (show c.1 < xN σ1 by omega) p1 p2 v1 v2
      refine key f (jn ρ (el ρ v) (sv ρ 0 (c :: cs))) (by rw [hLe]; rfl) ?_
      rw [oc_some, if_pos (show nI 0 = 0 from rfl), hf, Option.bind_some, ← hfin]
      refine congrArg (fun z => Xl_put_70 l (nI 0) (xN σ) z (0 + 1) (0 + 6)) ?_
      exact pq_pq σ1 (xN σ) (el ρ v) f _
    · obtain ⟨f, hf⟩ := X_join_jn hG2 hR (i := xN σ) (a := c.1) (b := xN σ) (show xN σ < xN σ1 by omega) (show c.1 < xN σ1 by omega) (show xN σ < xN σ1 by omega) p2 p1 v2 v1
      refine key f (jn ρ (sv ρ 1 (c :: cs)) (el ρ v)) (by rw [hLe]; rfl) ?_
      rw [oc_some, if_neg (show ¬ nI 1 = 0 by decide), hf, Option.bind_some, ← hfin]
      refine congrArg (fun z => Xl_put_70 l (nI 1) (xN σ) z (0 + 1) (0 + 6)) ?_
      exact pq_pq σ1 (xN σ) (el ρ v) f _
theorem X_pop_ok {k : Nat} {ρ : RC} {L : LC} {w l e : Nat} {reb : Int32} {Z : ZZ} {σ : XS} {c : CL} {cs : List CL} (h : XR k ρ L w reb Z σ) (hk : k ≤ 5) (hl : l < k) (he : e < 2) (hc : L l e = c :: cs) (hlen : cs.length < 64) (u v : Nat) : ∃ σ', Xl_take_50 l (nI e) σ u v = some (nI c.2.2, σ') ∧ XR k ρ (upL L l e cs) w reb Z σ' ∧ xN σ' = xN σ ∧ (∀ j, j ≠ 5 + l → xA σ' j = xA σ j) := by
  obtain ⟨g1, g2⟩ := h.2.2.2.2.2.1 l e hl he
  rw [hc] at g1 g2
  obtain ⟨q1, q2, q3, q4, -, q6⟩ := g2
  have hok : cellOk σ (rB (xC σ c.1)) = true := by
    cases cs with
    | nil => rw [show rB (xC σ c.1) = none from q6]; rfl
    | cons d ds =>
      obtain ⟨r1, r2, r3, -⟩ := q6
      rw [r1]
      show (decide (d.1 < xN σ) && rK (xC σ d.1)) = true
      rw [decide_eq_true r2, r3]; rfl
  have hok2 : okRef σ (rB (xC σ c.1)) = true := by
    cases cs with
    | nil => rw [show rB (xC σ c.1) = none from q6]; rfl
    | cons d ds =>
      obtain ⟨r1, r2, r3, -⟩ := q6
      rw [r1]; exact decide_eq_true r2
  refine ⟨zA (zT σ l e (rB (xC σ c.1))) (5 + l) e (nI cs.length), ?_, ?_, rfl, fun j hj => ?_⟩
  · unfold Xl_take_50
    rw [if_neg (e2i he), e2 he, q1]
    show (if c.1 < xN σ ∧ rK (xC σ c.1) = true then _ else none) = _
    have h22 : ¬ (nI e < 0 ∨ 2 ≤ e) := by rw [zN_lt0 (by omega), false_or]; omega
    rw [if_pos ⟨q2, q3⟩, if_neg h22, if_pos hok, if_neg h22, if_neg h22, if_pos ⟨q2, q3⟩]
    refine congrArg some ?_
    have : xA (zT σ l e (rB (xC σ c.1))) (5 + l) e - nI 1 = nI cs.length := by
      show xA σ (5 + l) e - nI 1 = _
      rw [g1]; exact nI_pred _
    rw [this]
    exact Prod.ext q4 rfl
  · refine h.line (l := l) (by omega) (fun _ hh _ => hh) hk (fun _ _ => rfl) rfl (fun j _ _ _ hj => ?_) rfl (fun l' hl' => ?_) rfl rfl (fun e' he' => ?_) (fun e' he' => ?_) (fun l' e' hl' => upL_n _ _ (fun z => hl' z.1))
    · funext n; rw [xA_zA, if_neg hj, xA_zT]
    · funext n; show xT (zT σ l e _) l' n = _; rw [xT_zT, if_neg hl']
    · show okRef σ (xT (zT σ l e (rB (xC σ c.1))) l e') = true
      rw [xT_zT, if_pos rfl]
      split
      · exact hok2
      · exact h.1.2.2 l (by omega) e' he'
    · obtain ⟨b1, b2⟩ := h.2.2.2.2.2.1 l e' hl he'
      rw [xA_zA, if_pos rfl]
      show _ ∧ XCh _ ρ e' (xT (zT σ l e (rB (xC σ c.1))) l e') _
      rw [xT_zT, if_pos rfl]
      by_cases hee : e' = e
      · subst hee
        rw [if_pos rfl, if_pos rfl, upL_s]
        exact ⟨rfl, XCh.same0 (σ := σ) _ _ (Nat.le_refl _) rfl q6⟩
      · rw [if_neg hee, if_neg hee, upL_n _ _ (fun z => hee z.2)]
        exact ⟨b1, XCh.same0 (σ := σ) _ _ (Nat.le_refl _) rfl b2⟩
  · funext n; rw [xA_zA, if_neg hj, xA_zT]
