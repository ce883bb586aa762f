set_option maxRecDepth 100000
/-! empties, copies, rows -/
def clr (L : LC) (l : Nat) : LC := fun l' e' => if l' = l then [] else L l' e'
def cpl (L : LC) (l o : Nat) : LC := fun l' e' => if l' = l then L o e' else L l' e'
def itm (cs : List CL) : List Nat := cs.map (fun c => c.2.2)
def itemsOf (L : LC) (l : Nat) : List Nat := itm (L l 0) ++ (itm (L l 1)).reverse
def szL (L : LC) (l : Nat) : Nat := (L l 0).length + (L l 1).length
theorem items_len (L : LC) (l : Nat) : (itemsOf L l).length = szL L l := by unfold itemsOf itm szL; simp
def pushes : Nat → Nat → List Nat → List CL → List CL
  | _, _, [], cs => cs
  | pn, w, v :: vs, cs => pushes (pn + 1) (w + 1) vs ((pn, w, v) :: cs)
theorem pushes_len : ∀ (vs : List Nat) (pn w : Nat) (cs : List CL), (pushes pn w vs cs).length = cs.length + vs.length
  | [], _, _, _ => rfl
  | v :: vs, pn, w, cs => by
    show (pushes (pn + 1) (w + 1) vs ((pn, w, v) :: cs)).length = _
    rw [pushes_len vs]
    simp only [List.length_cons]; omega
def layL (L : LC) (l pn w : Nat) (its : List Nat) (first : Nat) : LC := upL (upL (clr L l) l 0 (pushes pn w (its.take first).reverse [])) l 1 (pushes (pn + first) (w + first) (its.drop first) [])
theorem upL_upL (L : LC) (l e : Nat) (a b : List CL) : upL (upL L l e a) l e b = upL L l e b := by
  funext l' e'; unfold upL; split <;> rfl
theorem upL_id (L : LC) (l e : Nat) : upL L l e (L l e) = L := by
  funext l' e'; unfold upL; split
  · next h => rw [h.1, h.2]
  · rfl
theorem upL_c (L : LC) {l e l' e' : Nat} (h : l' ≠ l ∨ e' ≠ e) (cs : List CL) : upL L l e cs l' e' = L l' e' := if_neg (fun z => by rcases h with h | h; exact h z.1; exact h z.2)
theorem itm_9 {k : Nat} {L : LC} {pn w l : Nat} (h : LOK k L pn w) (hl : l < k) : ∀ v ∈ itemsOf L l, v ≤ 9999 := by
  intro v hv
  unfold itemsOf itm at hv
  rw [List.mem_append, List.mem_reverse, List.mem_map, List.mem_map] at hv
  rcases hv with ⟨c, hc, rfl⟩ | ⟨c, hc, rfl⟩
  · exact (h.1 l 0 hl (by decide) c hc).2.2.2
  · exact (h.1 l 1 hl (by decide) c hc).2.2.2
theorem LOK_clr {k : Nat} {L : LC} {pn w l k' : Nat} (h : LOK k L pn w) (hk : ∀ l', l' < k' → l' ≠ l → l' < k) : LOK k' (clr L l) pn w := by
  refine h.line (l := l) hk (fun l' e hl' => if_neg hl') (fun e he c hc => ?_) ?_
  · rw [show clr L l l e = [] from if_pos rfl] at hc; cases hc
  · rw [show clr L l l 0 = [] from if_pos rfl, show clr L l l 1 = [] from if_pos rfl]; decide
theorem LOK_cpl {k : Nat} {L : LC} {pn w l o k' : Nat} (h : LOK k L pn w) (ho : o < k) (hk : ∀ l', l' < k' → l' ≠ l → l' < k) : LOK k' (cpl L l o) pn w := by
  refine h.line (l := l) hk (fun l' e hl' => if_neg hl') (fun e he c hc => ?_) ?_
  · rw [show cpl L l o l e = L o e from if_pos rfl] at hc; exact ⟨o, ho, hc⟩
  · rw [show cpl L l o l 0 = L o 0 from if_pos rfl, show cpl L l o l 1 = L o 1 from if_pos rfl]; exact h.2.1 o ho
theorem LOK_pushes {k l e : Nat} (hl : l < k) (he : e < 2) : ∀ (vs : List Nat) {L : LC} {pn w : Nat}, LOK k L pn w → 3 ≤ pn → szL L l + vs.length ≤ 64 → (∀ v ∈ vs, v ≤ 9999) → LOK k (upL L l e (pushes pn w vs (L l e))) (pn + vs.length) (w + vs.length)
  | [], L, pn, w, h, _, _, _ => by
    show LOK k (upL L l e (L l e)) pn w
    rw [upL_id]; exact h
  | v :: vs, L, pn, w, h, h3, hs, hv => by
    have h1 := h.put (v := v) h3 hl he (by have : szL L l = _ := rfl; simp only [List.length_cons] at hs; unfold szL at hs; omega) (hv v List.mem_cons_self)
    have h2 := LOK_pushes hl he vs h1 (by omega) (by
      have : szL (upL L l e ((pn, w, v) :: L l e)) l = szL L l + 1 := by
        unfold szL
        rcases (show e = 0 ∨ e = 1 by omega) with rfl | rfl
        · rw [upL_s, upL_c L (.inr (by decide))]; simp only [List.length_cons]; omega
        · rw [upL_s, upL_c L (.inr (by decide))]; simp only [List.length_cons]; omega
      rw [this]; simp only [List.length_cons] at hs; omega) (fun x hx => hv x (List.mem_cons_of_mem _ hx))
    rw [upL_s, upL_upL] at h2
    rw [show pn + (v :: vs).length = pn + 1 + vs.length by simp only [List.length_cons]; omega, show w + (v :: vs).length = w + 1 + vs.length by simp only [List.length_cons]; omega]
    exact h2
theorem LOK.lay {k l : Nat} {L : LC} {pn w : Nat} (h : LOK k L pn w) (hl : l < k) (h3 : 3 ≤ pn) {its : List Nat} {first : Nat} (hf : first ≤ its.length) (hs : its.length ≤ 64) (hv : ∀ v ∈ its, v ≤ 9999) : LOK k (layL L l pn w its first) (pn + its.length) (w + its.length) := by
  have h1 := LOK_clr (l := l) (k' := k) h (fun _ q _ => q)
  have e0 : clr L l l 0 = [] := if_pos rfl
  have e1 : clr L l l 1 = [] := if_pos rfl
  have h2 := LOK_pushes hl (e := 0) (by decide) (its.take first).reverse h1 h3 (by unfold szL; rw [e0, e1]; simp; omega) (fun v q => hv v (List.mem_of_mem_take (List.mem_reverse.mp q)))
  rw [e0] at h2
  have hl2 : (its.take first).reverse.length = first := by simp; omega
  rw [hl2] at h2
  have h4 := LOK_pushes hl (e := 1) (by decide) (its.drop first) h2 (by omega) (by unfold szL; rw [upL_s, upL_c _ (.inr (by decide)), e1, pushes_len, hl2]; simp; omega) (fun v q => hv v (List.mem_of_mem_drop q))
  rw [upL_c _ (.inr (by decide)), e1] at h4
  rw [show pn + its.length = pn + first + (its.drop first).length by simp; omega, show w + its.length = w + first + (its.drop first).length by simp; omega]
  exact h4
theorem X_empties_ok {k k' : Nat} {ρ : RC} {L : LC} {w l : Nat} {reb : Int32} {Z : ZZ} {σ : XS} (h : XR k ρ L w reb Z σ) (hl : l < 5) (hk : ∀ l', l' < k' → l' ≠ l → l' < k) (hk5 : k' ≤ 5) : ∃ σ', Xl_empties l σ = some σ' ∧ XR k' ρ (clr L l) w reb Z σ' ∧ xN σ' = xN σ ∧ (∀ j, j ≠ 5 + l → xA σ' j = xA σ j) ∧ XF l σ σ' := by
  refine ⟨zA (zT (zA (zT σ l 0 none) (5 + l) 0 (nI 0)) l 1 none) (5 + l) 1 (nI 0), ?_, ?_, rfl, fun j hj => ?_, fun _ _ => rfl, fun l' hl' => ?_, Nat.le_refl _⟩
  · have hs : ∀ (i f : Nat) (τ : XS), i < 2 → Xl_empties_2 (f + 1) l (nI i) τ = Xl_empties_2 f l (nI (i + 1)) (zA (zT τ l i none) (5 + l) i (nI 0)) := by
      intro i f τ hi
      show (if nI 1 < nI i then _ else _) = _
      rw [if_neg (nI_nlt (by omega) (by decide)), if_neg (e2i hi), if_pos (show cellOk τ none = true from rfl), if_neg (e2i hi), e2 hi, nI_add]
    unfold Xl_empties
    rw [show FU = 19997 + 1 + 1 + 1 from rfl, hs 0 _ _ (by decide), hs 1 _ _ (by decide)]
    show (if nI 1 < nI 2 then _ else _) = _
    rw [if_pos (nI_lt (by decide) (by decide))]
  · refine h.line (l := l) hl hk hk5 (fun _ _ => rfl) rfl (fun j _ _ _ hj => ?_) rfl (fun l' hl' => ?_) rfl rfl (fun e he => ?_) (fun e he => ?_) (fun l' e' hl' => if_neg hl')
    · funext n; rw [xA_zA, if_neg hj, xA_zT, xA_zA, if_neg hj, xA_zT]
    · funext n; show xT (zT (zA (zT σ l 0 none) (5 + l) 0 (nI 0)) l 1 none) l' n = _; rw [xT_zT, if_neg hl', xT_zA, xT_zT, if_neg hl']
    · show okRef _ (xT (zT (zA (zT σ l 0 none) (5 + l) 0 (nI 0)) l 1 none) l e) = true
      rw [xT_zT, if_pos rfl, xT_zA, xT_zT, if_pos rfl]
      rcases (show e = 0 ∨ e = 1 by omega) with rfl | rfl <;> rfl
    · rw [show clr L l l e = [] from if_pos rfl, xA_zA, if_pos rfl, xA_zT, xA_zA, if_pos rfl]
      show _ ∧ XCh _ ρ e (xT (zT (zA (zT σ l 0 none) (5 + l) 0 (nI 0)) l 1 none) l e) []
      rw [xT_zT, if_pos rfl, xT_zA, xT_zT, if_pos rfl]
      rcases (show e = 0 ∨ e = 1 by omega) with rfl | rfl
      · exact ⟨rfl, rfl⟩
      · exact ⟨rfl, rfl⟩
  · funext n; rw [xA_zA, if_neg hj, xA_zT, xA_zA, if_neg hj, xA_zT]
  · funext n; show xT (zT (zA (zT σ l 0 none) (5 + l) 0 (nI 0)) l 1 none) l' n = _; rw [xT_zT, if_neg hl', xT_zA, xT_zT, if_neg hl']
theorem XCh.ok {σ : XS} {ρ : RC} {e : Nat} {o : Option Nat} : ∀ {cs : List CL}, XCh σ ρ e o cs → cellOk σ o = true ∧ okRef σ o = true
  | [], h => by rw [show o = none from h]; exact ⟨rfl, rfl⟩
  | c :: cs, h => by
    obtain ⟨h1, h2, h3, -⟩ := h
    rw [h1]
    refine ⟨?_, decide_eq_true h2⟩
    show (decide (c.1 < xN σ) && rK (xC σ c.1)) = true
    rw [decide_eq_true h2, h3]; rfl
theorem X_be_ok {k k' : Nat} {ρ : RC} {L : LC} {w l o : Nat} {reb : Int32} {Z : ZZ} {σ : XS} (h : XR k ρ L w reb Z σ) (hl : l < 5) (ho : o < k) (hlo : l ≠ o) (hk : ∀ l', l' < k' → l' ≠ l → l' < k) (hk5 : k' ≤ 5) (hkk : k ≤ 5) : ∃ σ', Xl_be l o σ = some σ' ∧ XR k' ρ (cpl L l o) w reb Z σ' ∧ xN σ' = xN σ ∧ (∀ j, j ≠ 5 + l → xA σ' j = xA σ j) := by
  obtain ⟨a0, b0⟩ := h.2.2.2.2.2.1 o 0 ho (by decide)
  obtain ⟨a1, b1⟩ := h.2.2.2.2.2.1 o 1 ho (by decide)
  refine ⟨zA (zT (zA (zT σ l 0 (xT σ o 0)) (5 + l) 0 (xA σ (5 + o) 0)) l 1 (xT σ o 1)) (5 + l) 1 (xA σ (5 + o) 1), ?_, ?_, rfl, fun j hj => ?_⟩
  · have hs : ∀ (i f : Nat) (τ : XS), i < 2 → cellOk τ (xT τ o i) = true → Xl_be_2 (f + 1) l o (nI i) τ = Xl_be_2 f l o (nI (i + 1)) (zA (zT τ l i (xT τ o i)) (5 + l) i (xA τ (5 + o) i)) := by
      intro i f τ hi hc
      show (if nI 1 < nI i then _ else _) = _
      rw [if_neg (nI_nlt (by omega) (by decide)), if_neg (e2i hi), if_neg (e2i hi), e2 hi, if_pos hc, if_neg (by rw [zN_lt0 (by omega), false_or]; omega), if_neg (by rw [zN_lt0 (by omega), false_or]; omega), nI_add]; rfl
    unfold Xl_be
    rw [show FU = 19997 + 1 + 1 + 1 from rfl, hs 0 _ _ (by decide) b0.ok.1]
    have e1 : xT (zA (zT σ l 0 (xT σ o 0)) (5 + l) 0 (xA σ (5 + o) 0)) o 1 = xT σ o 1 := by rw [xT_zA, xT_zT, if_neg (fun z => hlo z.symm)]
    have e2' : xA (zA (zT σ l 0 (xT σ o 0)) (5 + l) 0 (xA σ (5 + o) 0)) (5 + o) 1 = xA σ (5 + o) 1 := by rw [xA_zA, if_neg (by omega), xA_zT]
    rw [hs 1 _ _ (by decide) (by rw [e1]; exact b1.ok.1), e1, e2']
    show (if nI 1 < nI 2 then _ else _) = _
    rw [if_pos (nI_lt (by decide) (by decide))]
  · refine h.line (l := l) hl hk hk5 (fun _ _ => rfl) rfl (fun j _ _ _ hj => ?_) rfl (fun l' hl' => ?_) rfl rfl (fun e he => ?_) (fun e he => ?_) (fun l' e' hl' => if_neg hl')
    · funext n; rw [xA_zA, if_neg hj, xA_zT, xA_zA, if_neg hj, xA_zT]
    · funext n; show xT (zT (zA (zT σ l 0 _) (5 + l) 0 _) l 1 _) l' n = _; rw [xT_zT, if_neg hl', xT_zA, xT_zT, if_neg hl']
    · show okRef σ (xT (zT (zA (zT σ l 0 (xT σ o 0)) (5 + l) 0 (xA σ (5 + o) 0)) l 1 (xT σ o 1)) l e) = true
      rw [xT_zT, if_pos rfl, xT_zA, xT_zT, if_pos rfl]
      rcases (show e = 0 ∨ e = 1 by omega) with rfl | rfl
      · exact b0.ok.2
      · exact b1.ok.2
    · rw [show cpl L l o l e = L o e from if_pos rfl, xA_zA, if_pos rfl, xA_zT, xA_zA, if_pos rfl]
      show _ ∧ XCh _ ρ e (xT (zT (zA (zT σ l 0 (xT σ o 0)) (5 + l) 0 (xA σ (5 + o) 0)) l 1 (xT σ o 1)) l e) _
      rw [xT_zT, if_pos rfl, xT_zA, xT_zT, if_pos rfl]
      rcases (show e = 0 ∨ e = 1 by omega) with rfl | rfl
      · exact ⟨a0, XCh.same0 (σ := σ) _ _ (Nat.le_refl _) rfl b0⟩
      · exact ⟨a1, XCh.same0 (σ := σ) _ _ (Nat.le_refl _) rfl b1⟩
  · funext n; rw [xA_zA, if_neg hj, xA_zT, xA_zA, if_neg hj, xA_zT]
/-! a line's items in a row -/
def wr (g : Nat → Int32) (n : Nat) (its : List Nat) : Nat → Int32 := fun j => if n ≤ j ∧ j < n + its.length then nI (its.getD (j - n) 0) else g j
theorem wr_nil (g : Nat → Int32) (n : Nat) : wr g n [] = g := by funext j; unfold wr; rw [if_neg (by rw [List.length_nil]; omega)]
theorem wr_cons (g : Nat → Int32) (n v : Nat) (vs : List Nat) : wr (upd g n (nI v)) (n + 1) vs = wr g n (v :: vs) := by
  funext j
  unfold wr
  by_cases h : j = n
  · subst h
    rw [if_neg (by omega), if_pos (by simp), Nat.sub_self]
    exact if_pos rfl
  · by_cases h2 : n + 1 ≤ j ∧ j < n + 1 + vs.length
    · rw [if_pos h2, if_pos (by simp only [List.length_cons]; omega), show j - n = (j - (n + 1)) + 1 by omega]; rfl
    · rw [if_neg h2, if_neg (by simp only [List.length_cons]; omega)]
      exact if_neg h
theorem gD_l {a b : List Nat} {i : Nat} (h : i < a.length) : (a ++ b).getD i 0 = a.getD i 0 := by
  rw [List.getD_eq_getElem?_getD, List.getD_eq_getElem?_getD, List.getElem?_append_left h]
theorem gD_r {a b : List Nat} {i : Nat} (h : a.length ≤ i) : (a ++ b).getD i 0 = b.getD (i - a.length) 0 := by
  rw [List.getD_eq_getElem?_getD, List.getD_eq_getElem?_getD, List.getElem?_append_right h]
theorem wr_app (g : Nat → Int32) : ∀ (a b : List Nat) (n : Nat), wr (wr g n a) (n + a.length) b = wr g n (a ++ b) := by
  intro a b n
  funext j
  unfold wr
  simp only [List.length_append]
  by_cases h : n ≤ j ∧ j < n + a.length
  · rw [if_neg (by omega), if_pos h, if_pos (by omega), gD_l (by omega)]
  · by_cases h2 : n + a.length ≤ j ∧ j < n + a.length + b.length
    · rw [if_pos h2, if_pos (by omega), gD_r (by omega)]
      congr 2; omega
    · rw [if_neg h2, if_neg h, if_neg (by omega)]
theorem Xl_lay2_ok {σ : XS} {ρ : RC} {e : Nat} : ∀ (cs : List CL) (o : Option Nat) (A : List Nat) (f : Nat), XCh σ ρ e o cs → A.length + cs.length ≤ 64 → cs.length < f → Xl_lay2 σ f o A = some ((cs.map (fun c => c.1)).reverse ++ A)
  | [], o, A, f, h, _, hf => by
    obtain ⟨f, rfl⟩ : ∃ g, f = g + 1 := ⟨f - 1, by omega⟩
    rw [show o = none from h]; rfl
  | c :: cs, o, A, f, h, hA, hf => by
    obtain ⟨f, rfl⟩ : ∃ g, f = g + 1 := ⟨f - 1, by omega⟩
    obtain ⟨h1, h2, h3, -, -, h6⟩ := h
    simp only [List.length_cons] at hA hf
    rw [h1]
    show (if c.1 < xN σ ∧ rK (xC σ c.1) = true ∧ A.length < 64 then Xl_lay2 σ f (rB (xC σ c.1)) (c.1 :: A) else none) = _
    rw [if_pos ⟨h2, h3, by omega⟩, Xl_lay2_ok cs _ _ f h6 (by simp only [List.length_cons]; omega) (by omega)]
    simp
theorem Xl_lay3_ok (r : Nat) {σ : XS} : ∀ (cs : List CL) (n : Nat) (g : Nat → Int32), (∀ c ∈ cs, c.1 < xN σ ∧ rK (xC σ c.1) = true ∧ rI (xC σ c.1) = nI c.2.2) → n + cs.length ≤ 64 → Xl_lay3 r (cs.map (fun c => c.1)) (nI n) (zX σ r g) = some (nI (n + cs.length), zX σ r (wr g n (itm cs)))
  | [], n, g, _, _ => by
    show some (nI n, zX σ r g) = some (nI n, zX σ r (wr g n []))
    rw [wr_nil]
  | c :: cs, n, g, h, hn => by
    simp only [List.length_cons] at hn
    obtain ⟨h1, h2, h3⟩ := h c List.mem_cons_self
    show (if nI n < 0 ∨ 64 ≤ (nI n).toNatClampNeg then none else (if c.1 < xN σ ∧ rK (xC σ c.1) = true then Xl_lay3 r (cs.map (fun c => c.1)) (nI n + nI 1) (zA (zX σ r g) r (nI n).toNatClampNeg (rI (xC σ c.1))) else none)) = _
    rw [if_neg (nI_in (by omega) (by decide)), if_pos ⟨h1, h2⟩, nI_clamp (by omega), nI_add, uu_A, h3, Xl_lay3_ok r cs _ _ (fun x hx => h x (List.mem_cons_of_mem _ hx)) (by omega), wr_cons]
    simp only [List.length_cons]
    rw [show n + 1 + cs.length = n + (cs.length + 1) by omega]; rfl
theorem Xl_lay1_ok (r i : Nat) {σ : XS} {ρ : RC} {e : Nat} : ∀ (cs : List CL) (o : Option Nat) (n : Nat) (g : Nat → Int32) (f : Nat), XCh σ ρ e o cs → n + cs.length ≤ 64 → Xl_lay1 r i (f + cs.length + 1) o (nI n) (zX σ r g) = (Xl_lay2 (zX σ r (wr g n (itm cs))) FU (xT σ i 1) []).bind fun A => Xl_lay3 r A (nI (n + cs.length)) (zX σ r (wr g n (itm cs)))
  | [], o, n, g, f, h, _ => by
    rw [show o = none from h]
    show (Xl_lay2 (zX σ r g) FU (xT σ i 1) []).bind (fun A => Xl_lay3 r A (nI n) (zX σ r g)) = (Xl_lay2 (zX σ r (wr g n [])) FU (xT σ i 1) []).bind fun A => Xl_lay3 r A (nI n) (zX σ r (wr g n []))
    rw [wr_nil]
  | c :: cs, o, n, g, f, h, hn => by
    obtain ⟨h1, h2, h3, h4, -, h6⟩ := h
    simp only [List.length_cons] at hn ⊢
    rw [h1]
    show (if nI n < 0 ∨ 64 ≤ (nI n).toNatClampNeg then none else (if c.1 < xN σ ∧ rK (xC σ c.1) = true then Xl_lay1 r i (f + (cs.length + 1)) (rB (xC σ c.1)) (nI n + nI 1) (zA (zX σ r g) r (nI n).toNatClampNeg (rI (xC σ c.1))) else none)) = _
    rw [if_neg (nI_in (by omega) (by decide)), if_pos ⟨h2, h3⟩, nI_clamp (by omega), nI_add, uu_A, h4, ← Nat.add_assoc f, Xl_lay1_ok r i cs _ _ _ f h6 (by omega), wr_cons, show n + 1 + cs.length = n + (cs.length + 1) by omega]; rfl
theorem XCh.mem {σ : XS} {ρ : RC} {e : Nat} : ∀ {cs : List CL} {o : Option Nat}, XCh σ ρ e o cs → ∀ c ∈ cs, c.1 < xN σ ∧ rK (xC σ c.1) = true ∧ rI (xC σ c.1) = nI c.2.2
  | [], _, _, _, h => by cases h
  | d :: cs, o, h, c, hc => by
    obtain ⟨h1, h2, h3, h4, -, h6⟩ := h
    rcases List.mem_cons.mp hc with rfl | hc
    · exact ⟨h2, h3, h4⟩
    · exact XCh.mem h6 c hc
theorem wr_at (g : Nat → Int32) (its : List Nat) {i : Nat} (h : i < its.length) : wr g 0 its i = nI (its.getD i 0) := by unfold wr; rw [if_pos (by omega)]; rfl
theorem XQ.zX {n0 : Nat} (σ : XS) {k : Nat} (hk : k = 0 ∨ k = 3 ∨ k = 4) (f : Nat → Int32) : XQ n0 σ (zX σ k f) := ⟨fun _ _ => rfl, rfl, fun j h1 h2 h3 => by rw [xA_zX, if_neg (by omega)], rfl, fun _ => rfl, Nat.le_refl _, fun _ _ _ => rfl, fun _ _ => ⟨rfl, rfl⟩, fun i h1 h2 => absurd h2 (Nat.not_lt.mpr h1)⟩
theorem X_lay_r0_st {ρ : RC} {L : LC} {l : Nat} {σ : XS} (hs : szL L l ≤ 64) (h0 : XCh σ ρ 0 (xT σ l 0) (L l 0)) (h1 : XCh σ ρ 1 (xT σ l 1) (L l 1)) : Xl_lay_r0 l σ = some (nI (szL L l), zX σ 3 (wr (xA σ 3) 0 (itemsOf L l))) := by
  have hs : (L l 0).length + (L l 1).length ≤ 64 := hs
  unfold Xl_lay_r0
  have e := Xl_lay1_ok 3 l (L l 0) (xT σ l 0) 0 (xA σ 3) (FU - (L l 0).length - 1) h0 (by omega)
  rw [zX_self, show FU - (L l 0).length - 1 + (L l 0).length + 1 = FU by unfold FU; omega] at e
  rw [e, Xl_lay2_ok (σ := zX σ 3 (wr (xA σ 3) 0 (itm (L l 0)))) (L l 1) (xT σ l 1) [] FU (XCh.same0 (σ := σ) _ _ (Nat.le_refl _) rfl h1) (by simp; omega) (by unfold FU; omega), Option.bind_some, List.append_nil, ← List.map_reverse]
  rw [Xl_lay3_ok 3 (σ := σ) (L l 1).reverse _ _ (fun c hc => h1.mem c (List.mem_reverse.mp hc)) (by simp; omega)]
  have e4 : (L l 0).length = (itm (L l 0)).length := by unfold itm; simp
  rw [show itm (L l 1).reverse = (itm (L l 1)).reverse by unfold itm; simp, Nat.zero_add]
  have e5 := wr_app (xA σ 3) (itm (L l 0)) (itm (L l 1)).reverse 0
  rw [Nat.zero_add] at e5
  rw [e4, e5]
  unfold itemsOf szL
  rw [e4]; simp
theorem X_lay_r0 {k : Nat} {ρ : RC} {L : LC} {w w' n0 l : Nat} {reb : Int32} {Z : ZZ} {σ : XS} (h : XR k ρ L w reb Z σ) (hL : LOK k L n0 w') (hl : l < k) : Xl_lay_r0 l σ = some (nI (szL L l), zX σ 3 (wr (xA σ 3) 0 (itemsOf L l))) := X_lay_r0_st (hL.2.1 l hl) (h.2.2.2.2.2.1 l 0 hl (by decide)).2 (h.2.2.2.2.2.1 l 1 hl (by decide)).2
theorem X_lay_r1_st {ρ : RC} {L : LC} {l : Nat} {σ : XS} (hs : szL L l ≤ 64) (h0 : XCh σ ρ 0 (xT σ l 0) (L l 0)) (h1 : XCh σ ρ 1 (xT σ l 1) (L l 1)) : Xl_lay_r1 l σ = some (nI (szL L l), zX σ 4 (wr (xA σ 4) 0 (itemsOf L l))) := by
  have hs : (L l 0).length + (L l 1).length ≤ 64 := hs
  unfold Xl_lay_r1
  have e := Xl_lay1_ok 4 l (L l 0) (xT σ l 0) 0 (xA σ 4) (FU - (L l 0).length - 1) h0 (by omega)
  rw [zX_self, show FU - (L l 0).length - 1 + (L l 0).length + 1 = FU by unfold FU; omega] at e
  rw [e, Xl_lay2_ok (σ := zX σ 4 (wr (xA σ 4) 0 (itm (L l 0)))) (L l 1) (xT σ l 1) [] FU (XCh.same0 (σ := σ) _ _ (Nat.le_refl _) rfl h1) (by simp; omega) (by unfold FU; omega), Option.bind_some, List.append_nil, ← List.map_reverse]
  rw [Xl_lay3_ok 4 (σ := σ) (L l 1).reverse _ _ (fun c hc => h1.mem c (List.mem_reverse.mp hc)) (by simp; omega)]
  have e4 : (L l 0).length = (itm (L l 0)).length := by unfold itm; simp
  rw [show itm (L l 1).reverse = (itm (L l 1)).reverse by unfold itm; simp, Nat.zero_add]
  have e5 := wr_app (xA σ 4) (itm (L l 0)) (itm (L l 1)).reverse 0
  rw [Nat.zero_add] at e5
  rw [e4, e5]
  unfold itemsOf szL
  rw [e4]; simp
theorem X_lay_r1 {k : Nat} {ρ : RC} {L : LC} {w w' n0 l : Nat} {reb : Int32} {Z : ZZ} {σ : XS} (h : XR k ρ L w reb Z σ) (hL : LOK k L n0 w') (hl : l < k) : Xl_lay_r1 l σ = some (nI (szL L l), zX σ 4 (wr (xA σ 4) 0 (itemsOf L l))) := X_lay_r1_st (hL.2.1 l hl) (h.2.2.2.2.2.1 l 0 hl (by decide)).2 (h.2.2.2.2.2.1 l 1 hl (by decide)).2
