set_option maxRecDepth 100000
/-- binds step by step: not by defeq, so that the kernel isn't asked to compare long terms -/
theorem obs {α β : Type} (a : α) (f : α → Option β) : (some a).bind f = f a := by
  generalize h : (some a).bind f = z
  rw [← h, Option.bind_some]
/-! pairs that are joined by and by -/
/-- only the pairs and what is placed change -/
def XT (σ σ' : XS) : Prop := (∀ n0, XQ n0 σ σ') ∧ (∀ j, j ≠ 0 → xA σ' j = xA σ j) ∧ xB σ' = xB σ ∧ xN σ' = xN σ ∧ xI σ' = xI σ
theorem XT.refl (σ : XS) : XT σ σ := ⟨fun n0 => XQ.refl n0 σ, fun _ _ => rfl, rfl, rfl, rfl⟩
theorem XT.trans {σ σ1 σ2 : XS} (h : XT σ σ1) (g : XT σ1 σ2) : XT σ σ2 := ⟨fun n0 => (h.1 n0).trans (g.1 n0), fun j hj => (g.2.1 j hj).trans (h.2.1 j hj), g.2.2.1.trans h.2.2.1, g.2.2.2.1.trans h.2.2.2.1, g.2.2.2.2.trans h.2.2.2.2⟩
theorem XT.pq (σ : XS) {i : Nat} (hi : i < 3) (x : VV) : XT σ (pq σ i x) := ⟨fun _ => XQ.pq σ x (.inl hi), fun _ _ => rfl, rfl, rfl, rfl⟩
theorem XT.zX0 (σ : XS) (f : Nat → Int32) : XT σ (zX σ 0 f) := ⟨fun _ => XQ.zX0 σ f, fun j hj => by rw [xA_zX, if_neg hj], rfl, rfl, rfl⟩
theorem XG.t {ρ : RC} {σ σ' : XS} (h : XG ρ σ) (q : XT σ σ') : XG ρ σ' := h.q (q.1 0)
theorem XR.t {k : Nat} {ρ : RC} {L : LC} {w w' n0 : Nat} {reb : Int32} {Z : ZZ} {σ σ' : XS} (h : XR k ρ L w reb Z σ) (hL : LOK k L n0 w') (q : XT σ σ') : XR k ρ L w reb Z σ' := h.q hL (q.1 n0)
theorem LOK.t {k : Nat} {L : LC} {w : Nat} {σ σ' : XS} (h : LOK k L (xN σ) w) (q : XT σ σ') : LOK k L (xN σ') w := by rw [q.2.2.2.1]; exact h
theorem pr_zX (σ : XS) (k : Nat) (f : Nat → Int32) : pr (zX σ k f) = pr σ := rfl
theorem X_make_t {ρ : RC} {σ : XS} (h : XG ρ σ) (hv : RV ρ) (h3 : 3 ≤ xN σ) {i : Nat} (hi : i < 3) {v : Nat} (hv9 : v ≤ 9999) : ∃ σ', X_make i (nI v) σ = some σ' ∧ XT σ σ' ∧ pr σ' i = el ρ v ∧ ∀ j, j ≠ i → pr σ' j = pr σ j :=
  ⟨_, X_make_el h hv (by omega) hv9, XT.pq σ hi _, by rw [pr_pq, if_pos rfl], fun j hj => by rw [pr_pq, if_neg hj]⟩
theorem X_empty_t {ρ : RC} {σ : XS} (h : XG ρ σ) (hv : RV ρ) (h3 : 3 ≤ xN σ) {i : Nat} (hi : i < 3) : ∃ σ', X_empty i σ = some σ' ∧ XT σ σ' ∧ pr σ' i = emp ρ ∧ ∀ j, j ≠ i → pr σ' j = pr σ j :=
  ⟨_, X_empty_emp h hv (by omega), XT.pq σ hi _, by rw [pr_pq, if_pos rfl], fun j hj => by rw [pr_pq, if_neg hj]⟩
theorem X_join_t {ρ : RC} {σ : XS} (h : XG ρ σ) (hv : RV ρ) (h3 : 3 ≤ xN σ) {i a b : Nat} (hi : i < 3) (ha : a < 3) (hb : b < 3) {x y : VV} (ex : pr σ a = x) (ey : pr σ b = y) (hx : VD ρ x) (hy : VD ρ y) : ∃ σ', X_join i a b σ = some σ' ∧ XT σ σ' ∧ pr σ' i = jn ρ x y ∧ ∀ j, j ≠ i → pr σ' j = pr σ j := by
  obtain ⟨f, hf⟩ := X_join_jn h hv (show i < xN σ by omega) (show a < xN σ by omega) (show b < xN σ by omega) ex ey hx hy
  exact ⟨_, hf, (XT.zX0 σ f).trans (XT.pq _ hi _), by rw [pr_pq, if_pos rfl], fun j hj => by rw [pr_pq, if_neg hj]; rfl⟩
theorem XT.n3 {σ σ' : XS} (q : XT σ σ') (h : 3 ≤ xN σ) : 3 ≤ xN σ' := by rw [q.2.2.2.1]; exact h
/-- the summary of items -/
def fo (ρ : RC) (vs : List Nat) : VV := vs.foldl (fun a v => jn ρ a (el ρ v)) (emp ρ)
theorem fo_snoc (ρ : RC) (vs : List Nat) (v : Nat) : fo ρ (vs ++ [v]) = jn ρ (fo ρ vs) (el ρ v) := by unfold fo; rw [List.foldl_append]; rfl
theorem VD_fo {ρ : RC} (hR : RV ρ) : ∀ (vs : List Nat), (∀ v ∈ vs, v ≤ 9999) → VD ρ (fo ρ vs) := by
  have key : ∀ (vs : List Nat) (x : VV), VD ρ x → (∀ v ∈ vs, v ≤ 9999) → VD ρ (vs.foldl (fun a v => jn ρ a (el ρ v)) x) := by
    intro vs
    induction vs with
    | nil => intro x hx _; exact hx
    | cons v vs ih => intro x hx hv; exact ih _ (VD_jn hR hx (VD_el hR (hv v List.mem_cons_self))) (fun y hy => hv y (List.mem_cons_of_mem _ hy))
  exact fun vs hv => key vs _ (VD_emp hR) hv
/-- joining with the empty one changes nothing -/
theorem jn_emp_el {ρ : RC} (hR : RV ρ) {v : Nat} (hv : v ≤ 9999) : jn ρ (emp ρ) (el ρ v) = el ρ v := by
  obtain ⟨r, w, ne, t⟩ := ρ
  obtain ⟨v1, v2, v3, v4, v5, v6, -⟩ := hR
  have v2 : 1 ≤ w := v2
  have v3 : w ≤ 5 := v3
  have hlt : ∀ a b : Nat, a < 2 ^ 31 → b < 2 ^ 31 → (lN a < lN b ↔ a < b) := fun a b ha hb => lN_lt (by omega) (by omega)
  rcases r8 v1 with e | e | e | e | e | e | e | e <;> (have e : r = _ := e; subst e)
  · show (lN 0 + lN v, lN 0 + lN 1) = (lN v, lN 1)
    rw [lN_add, lN_add, Nat.zero_add, Nat.zero_add]
  · show (if lN v < lN 10000 then lN v else lN 10000, if lN v < -1 then -1 else lN v) = (lN v, lN v)
    rw [if_pos ((hlt v 10000 (by omega) (by decide)).mpr (by omega)), if_neg (fun z => ?_)]
    exact absurd (Int64.lt_trans z (show (-1 : Int64) < 0 by decide)) (Int64.not_lt.mpr (lN_nonneg (by omega)))
  · show (lN (Nat.gcd (nN (lN 0)) (nN (lN v))), lN 0 ^^^ lN v) = (lN v, lN v)
    rw [nN_lN (by decide), nN_lN (by omega), Nat.gcd_zero_left, show lN 0 ^^^ lN v = lN v from Int64.zero_xor]
  · show (lN 1 * lN (v / 101 % 101) - lN 1 * lN (v / 101 % 101) / lN 101 * lN 101, (lN (v / 101 % 101) * lN 0 + lN (v % 101)) - (lN (v / 101 % 101) * lN 0 + lN (v % 101)) / lN 101 * lN 101) = (lN (v / 101 % 101), lN (v % 101))
    rw [show lN 1 * lN (v / 101 % 101) = lN (v / 101 % 101) from Int64.one_mul _, show lN (v / 101 % 101) * lN 0 = lN 0 from Int64.mul_zero, lN_add, Nat.zero_add, pk_lRem (by omega) (by decide) (by decide), pk_lRem (by omega) (by decide) (by decide), Nat.mod_mod, Nat.mod_mod]
  · show ((lN 0 + (el (4, w, ne, t) v).1) - (if (el (4, w, ne, t) v).1 < lN 0 then (el (4, w, ne, t) v).1 else lN 0), (lN 0 + (el (4, w, ne, t) v).2) - (if (el (4, w, ne, t) v).1 < lN 0 then (el (4, w, ne, t) v).1 else lN 0)) = el (4, w, ne, t) v
    have hn : ¬ (el (4, w, ne, t) v).1 < lN 0 := by
      refine Int64.not_lt.mpr ?_
      show lN 0 ≤ (if v % 2 = 0 then (lN 0, lN (v / 2 % 10)) else (lN (v / 2 % 10), lN 0)).1
      split
      · exact Int64.le_refl _
      · exact lN_nonneg (by omega)
    rw [if_neg hn, show lN 0 + (el (4, w, ne, t) v).1 = _ from Int64.zero_add _, show lN 0 + (el (4, w, ne, t) v).2 = _ from Int64.zero_add _, show (el (4, w, ne, t) v).1 - lN 0 = _ from Int64.sub_zero _, show (el (4, w, ne, t) v).2 - lN 0 = _ from Int64.sub_zero _]
  · have hm : v % 24 < 24 := Nat.mod_lt _ (by decide)
    have hl := LPn_lt (v % 24) hm
    show (lN (CP (nN (lN 0)) (nN (lN (v % 24)))), (lN 0 + lN (LPn (v % 24) % 2)) - (lN 0 + lN (LPn (v % 24) % 2)) / lN 2 * lN 2) = (lN (v % 24), lN (LPn (v % 24) % 2))
    rw [nN_lN (by decide), nN_lN (by omega), CP_0 _ hm, lN_add, Nat.zero_add, pk_lRem (by omega) (by decide) (by decide), Nat.mod_mod]
  · show (if (-1 : Int64) < 0 then (lN v, lN v) else if lN v < 0 then ((-1 : Int64), (-1 : Int64)) else ((-1 : Int64), lN v)) = (lN v, lN v)
    rw [if_pos (by decide)]
  · have v4 : ne < w := v4
    have hm : v % w < w := Nat.mod_lt _ (by omega)
    show (lN (t (nN (lN ne)) (nN (lN (v % w)))), lN 0) = (lN (v % w), lN 0)
    rw [nN_lN (by omega), nN_lN (by omega), show t ne (v % w) = v % w from (v6 (v % w) hm).1]
/-! folds -/
theorem X_step_t {ρ : RC} {σ : XS} (h : XG ρ σ) (hv : RV ρ) (h3 : 3 ≤ xN σ) {v : Nat} (hv9 : v ≤ 9999) {x : VV} (ex : pr σ 2 = x) (hx : VD ρ x) : ∃ σ1 σ2, X_make 0 (nI v) σ = some σ1 ∧ X_join 2 2 0 σ1 = some σ2 ∧ XT σ σ2 ∧ pr σ2 2 = jn ρ x (el ρ v) := by
  obtain ⟨σ1, a1, a2, a3, a4⟩ := X_make_t h hv h3 (i := 0) (by decide) hv9
  obtain ⟨σ2, b1, b2, b3, b4⟩ := X_join_t (h.t a2) hv (a2.n3 h3) (i := 2) (a := 2) (b := 0) (by decide) (by decide) (by decide) ((a4 2 (by decide)).trans ex) a3 hx (VD_el hv hv9)
  exact ⟨σ1, σ2, a1, b1, a2.trans b2, b3⟩
theorem take_snoc {its : List Nat} {j : Nat} (h : j < its.length) : its.take (j + 1) = its.take j ++ [its.getD j 0] := by
  rw [List.take_add_one, List.getElem?_eq_getElem h, List.getD_eq_getElem?_getD, List.getElem?_eq_getElem h]; rfl
/-- so many items from one on -/
def seg (its : List Nat) (i m : Nat) : List Nat := (its.drop i).take m
theorem seg_0 (its : List Nat) (i : Nat) : seg its i 0 = [] := rfl
theorem seg_s {its : List Nat} {i m : Nat} (h : i + m < its.length) : seg its i (m + 1) = seg its i m ++ [its.getD (i + m) 0] := by
  unfold seg
  rw [take_snoc (by rw [List.length_drop]; omega), List.getD_eq_getElem?_getD, List.getElem?_drop, List.getD_eq_getElem?_getD]
theorem seg_mem {its : List Nat} {i m : Nat} {P : Nat → Prop} (h : ∀ v ∈ its, P v) : ∀ v ∈ seg its i m, P v := fun v hv => h v (List.mem_of_mem_drop (List.mem_of_mem_take hv))
theorem fo_0 (ρ : RC) (its : List Nat) (i : Nat) : fo ρ (seg its i 0) = emp ρ := rfl
theorem fo_s {ρ : RC} {its : List Nat} {i m : Nat} (h : i + m < its.length) : fo ρ (seg its i (m + 1)) = jn ρ (fo ρ (seg its i m)) (el ρ (its.getD (i + m) 0)) := by rw [seg_s h, fo_snoc]
theorem X_folds8 {ρ : RC} (hv : RV ρ) {its : List Nat} (h9 : ∀ v ∈ its, v ≤ 9999) (h64 : its.length ≤ 64) {i j : Nat} (hj : j ≤ its.length) : ∀ (d m f : Nat) (σ : XS), i + m + d = j → d < f → XG ρ σ → 3 ≤ xN σ → (∀ t, t < its.length → xA σ 3 t = nI (its.getD t 0)) → pr σ 2 = fo ρ (seg its i m) → ∃ σ', X_folds_r0_8 f 2 (nI j) (nI (i + m)) σ = some σ' ∧ XT σ σ' ∧ pr σ' 2 = fo ρ (seg its i (m + d)) := by
  intro d
  induction d with
  | zero =>
    intro m f σ hd hf hG h3 hr hp
    obtain ⟨f, rfl⟩ : ∃ g, f = g + 1 := ⟨f - 1, by omega⟩
    refine ⟨σ, ?_, XT.refl σ, hp⟩
    show (if nI j ≤ nI (i + m) then some σ else _) = _
    rw [if_pos (nI_le (by omega) (by omega))]
  | succ d ih =>
    intro m f σ hd hf hG h3 hr hp
    obtain ⟨f, rfl⟩ : ∃ g, f = g + 1 := ⟨f - 1, by omega⟩
    obtain ⟨σ1, σ2, a1, a2, a3, a4⟩ := X_step_t hG hv h3 (h9 _ (gD_mem (show i + m < its.length by omega))) hp (VD_fo hv _ (seg_mem h9))
    obtain ⟨σ3, b1, b2, b3⟩ := ih (m + 1) f σ2 (by omega) (by omega) (hG.t a3) (a3.n3 h3) (fun t ht => by rw [a3.2.1 3 (by decide)]; exact hr t ht) (by rw [a4, fo_s (by omega)])
    refine ⟨σ3, ?_, a3.trans b2, by rw [b3, show m + 1 + d = m + (d + 1) by omega]⟩
    show (if nI j ≤ nI (i + m) then some σ else (if nI (i + m) < 0 ∨ 64 ≤ (nI (i + m)).toNatClampNeg then none else ((X_make 0 (xA σ 3 (nI (i + m)).toNatClampNeg) σ).bind fun q2 => ((X_join 2 2 0 q2).bind fun q3 => X_folds_r0_8 f 2 (nI j) (nI (i + m) + nI 1) q3)))) = _
    rw [if_neg (nI_ge (by omega) (by omega)), if_neg (nI_in (by omega) (by decide)), nI_clamp (by omega), hr _ (by omega), a1, Option.bind_some, a2, Option.bind_some, nI_add]
    exact b1
theorem X_folds_ok {ρ : RC} (hv : RV ρ) {its : List Nat} (h9 : ∀ v ∈ its, v ≤ 9999) (h64 : its.length ≤ 64) {i m : Nat} (hj : i + m ≤ its.length) {σ : XS} (hG : XG ρ σ) (h3 : 3 ≤ xN σ) (hr : ∀ t, t < its.length → xA σ 3 t = nI (its.getD t 0)) : ∃ σ', X_folds_r0 2 (nI i) (nI (i + m)) σ = some σ' ∧ XT σ σ' ∧ pr σ' 2 = fo ρ (seg its i m) := by
  obtain ⟨σ1, a1, a2, a3, -⟩ := X_empty_t hG hv h3 (i := 2) (by decide)
  obtain ⟨σ2, b1, b2, b3⟩ := X_folds8 hv h9 h64 (i := i) hj m 0 FU σ1 (by omega) (by unfold FU; omega) (hG.t a2) (a2.n3 h3) (fun t ht => by rw [a2.2.1 3 (by decide)]; exact hr t ht) (by rw [a3, fo_0])
  refine ⟨σ2, ?_, a2.trans b2, by rw [b3, Nat.zero_add]⟩
  unfold X_folds_r0
  rw [a1, Option.bind_some]; exact b1
/-- the twin's lines, where nothing else is asked -/
def MLn (ρ : RC) (L : LC) (l : Nat) (μ : MS) : Prop := ∀ e, e < 2 → gA μ 5 (2 * l + e) = nI (L l e).length ∧ MCh μ ρ e (2 * l + e) (L l e)
theorem MLn.v {ρ : RC} {L : LC} {l : Nat} {μ μ' : MS} (h : MLn ρ L l μ) (q : MV μ μ') : MLn ρ L l μ' := fun e he => by
  obtain ⟨a, b⟩ := h e he
  exact ⟨by rw [q.2.1 5 (by decide) (by decide) (by decide)]; exact a, MCh.same _ (fun j _ => ⟨by rw [q.2.1 7 (by decide) (by decide) (by decide)], by rw [q.2.1 6 (by decide) (by decide) (by decide)], by rw [q.2.2], by rw [q.2.2]⟩) b⟩
theorem MR.ln {k : Nat} {ρ : RC} {L : LC} {w l : Nat} {reb : Int32} {Z : ZZ} {μ : MS} (h : MR k ρ L w reb Z μ) (hl : l < k) : MLn ρ L l μ := fun e he => h.2.2.2.2 l e hl he
theorem M_sums19 {ρ : RC} (hv : RV ρ) {L : LC} {l : Nat} (hl : l < 5) (hs : szL L l ≤ 64) (h9 : ∀ v ∈ itemsOf L l, v ≤ 9999) {i m : Nat} (hi : i + m ≤ szL L l) : ∀ (d t f : Nat) (μ : MS) (x : VV), t + d = m → d < f → MG ρ μ → MLn ρ L l μ → x = fo ρ (seg (itemsOf L l) i t) → ∃ μ', M_sums_19 f (nI l) (nI i) (nI m) x.1 x.2 (nI t) μ = some μ' ∧ MV μ μ' ∧ gL μ' 0 = (fo ρ (seg (itemsOf L l) i m)).1 ∧ gL μ' 1 = (fo ρ (seg (itemsOf L l) i m)).2 := by
  have hil := items_len L l
  intro d
  induction d with
  | zero =>
    intro t f μ x hd hf hG hF hx
    obtain ⟨f, rfl⟩ : ∃ g, f = g + 1 := ⟨f - 1, by omega⟩
    have : t = m := by omega
    subst this
    refine ⟨sL (sL μ 0 x.1) 1 x.2, ?_, MV_sL (MV.refl μ) _ _, by rw [← hx]; rfl, by rw [← hx]; rfl⟩
    show (if nI t ≤ nI t then _ else _) = _
    rw [if_pos (nI_le (Nat.le_refl _) (by omega))]; rfl
  | succ d ih =>
    intro t f μ x hd hf hG hF hx
    obtain ⟨f, rfl⟩ : ∃ g, f = g + 1 := ⟨f - 1, by omega⟩
    have hit := M_itemAt_st (i := i + t) hF hs hl (by omega)
    have hv9 := h9 _ (gD_mem (show i + t < (itemsOf L l).length by omega))
    obtain ⟨μ1, a1, a2, a3, a4⟩ := M_element_q hG hv hv9
    have hxs := fo_s (ρ := ρ) (its := itemsOf L l) (i := i) (m := t) (by omega)
    have hdef : M_sums_19 (f + 1) (nI l) (nI i) (nI m) x.1 x.2 (nI t) μ = (if nI t ≤ 0 then M_sums_59 (M_sums_19 f) (nI l) (nI i) (nI m) (nI t) μ1 else ((M_join x.1 x.2 (gL μ1 0) (gL μ1 1) μ1).bind fun q5 => M_sums_59 (M_sums_19 f) (nI l) (nI i) (nI m) (nI t) q5)) := by
      show (if nI m ≤ nI t then _ else (M_itemAt (nI l) (nI i + nI t) μ).bind _) = _
      rw [if_neg (nI_ge (by omega) (by omega)), nI_add, hit, Option.bind_some]
      show (M_element _ μ).bind _ = _
      rw [a1, Option.bind_some]
    rw [hdef]
    by_cases h0 : t = 0
    · subst h0
      rw [if_pos (show nI 0 ≤ 0 by decide)]
      unfold M_sums_59
      rw [nI_add]
      have hx1 : (gL μ1 0, gL μ1 1) = fo ρ (seg (itemsOf L l) i (0 + 1)) := by rw [hxs, fo_0, jn_emp_el hv hv9, a3, a4]
      obtain ⟨μ2, b1, b2, b3⟩ := ih (0 + 1) f μ1 (gL μ1 0, gL μ1 1) (by omega) (by omega) (hG.v a2) (hF.v a2) hx1
      exact ⟨μ2, b1, a2.trans b2, b3⟩
    · rw [if_neg (nI_nle (by omega) (by omega)), a3, a4]
      obtain ⟨μ2, c1, c2, c3, c4⟩ := M_join_q (hG.v a2) hv (VD_fo hv _ (seg_mem (i := i) (m := t) h9)) (VD_el hv hv9)
      rw [hx, c1, Option.bind_some]
      unfold M_sums_59
      rw [nI_add]
      have hx1 : (gL μ2 0, gL μ2 1) = fo ρ (seg (itemsOf L l) i (t + 1)) := by rw [hxs, c3, c4]
      obtain ⟨μ3, b1, b2, b3⟩ := ih (t + 1) f μ2 (gL μ2 0, gL μ2 1) (by omega) (by omega) ((hG.v a2).v c2) ((hF.v a2).v c2) hx1
      exact ⟨μ3, b1, (a2.trans c2).trans b2, b3⟩
theorem M_sums_ok {ρ : RC} (hv : RV ρ) {L : LC} {l : Nat} (hl : l < 5) (hs : szL L l ≤ 64) (h9 : ∀ v ∈ itemsOf L l, v ≤ 9999) {i m : Nat} (hi : i + m ≤ szL L l) {μ : MS} (hG : MG ρ μ) (hF : MLn ρ L l μ) : ∃ μ', M_sums (nI l) (nI i) (nI m) μ = some μ' ∧ MV μ μ' ∧ gL μ' 0 = (fo ρ (seg (itemsOf L l) i m)).1 ∧ gL μ' 1 = (fo ρ (seg (itemsOf L l) i m)).2 := by
  obtain ⟨μ1, a1, a2, a3, a4⟩ := M_empty_q hG hv
  obtain ⟨μ2, b1, b2, b3⟩ := M_sums19 hv hl hs h9 hi m 0 FU μ1 (gL μ1 0, gL μ1 1) (by omega) (by unfold FU; omega) (hG.v a2) (hF.v a2) (by rw [fo_0, a3, a4])
  refine ⟨μ2, ?_, a2.trans b2, b3⟩
  unfold M_sums
  rw [a1, Option.bind_some]; exact b1
/-! pairs are told -/
theorem X_tellP {k : Nat} {ρ : RC} {L : LC} {w i : Nat} {reb : Int32} {Z : ZZ} {σ : XS} (h : XR k ρ L w reb Z σ) (hi : i < 3) {x : VV} (hx : pr σ i = x) : ∃ σ', X_tellsPair i (zI σ 5 (nI 0)) = some σ' ∧ XR k ρ L w reb (zr Z [x.1, x.2]) σ' ∧ xN σ' = xN σ := by
  obtain ⟨a1, a2⟩ := X_tellsPair_ok (X_reset h) (r := []) (i := i) (x := x) (by decide) (by have := h.n3; show i < xN σ; omega) hx
  exact ⟨_, a1, a2, rfl⟩
theorem M_tellP {k : Nat} {ρ : RC} {L : LC} {w : Nat} {reb : Int32} {Z : ZZ} {r : List Int64} {μ : MS} (h : MR k ρ L w reb (zr Z r) μ) (hr : r.length < 150) {x : VV} (h0 : gL μ 0 = x.1) (h1 : gL μ 1 = x.2) : ∃ ν ν', M_enters (gL μ 0) μ = some ν ∧ M_enters (gL ν 1) ν = some ν' ∧ MR k ρ L w reb (zr Z (r ++ [x.1, x.2])) ν' ∧ (∀ j, j ≠ 1 → gI ν' j = gI μ j) ∧ (∀ j, gA ν' j = gA μ j) ∧ gL ν' = gL μ := by
  obtain ⟨a1, a2⟩ := M_enters_ok h (by omega) x.1
  obtain ⟨b1, b2⟩ := M_enters_ok a2 (by rw [List.length_append]; show r.length + 1 < 160; omega) x.2
  rw [List.append_assoc] at b2
  refine ⟨_, _, by rw [h0]; exact a1, ?_, b2, fun j hj => ?_, fun _ => rfl, rfl⟩
  · rw [show gL (tlM μ r x.1) 1 = gL μ 1 from rfl, h1]; exact b1
  · unfold tlM
    rw [gI_sI, if_neg hj, gI_sB, gI_sI, if_neg hj, gI_sB]
theorem MR.v {k : Nat} {ρ : RC} {L : LC} {w : Nat} {reb : Int32} {Z : ZZ} {μ μ' : MS} (h : MR k ρ L w reb Z μ) (q : MV μ μ') : MR k ρ L w reb Z μ' := h.q q.u
theorem M_entersSummary_ok {k : Nat} {ρ : RC} {L : LC} {w pn w' l : Nat} {reb : Int32} {Z : ZZ} {r : List Int64} {μ : MS} (hR : RV ρ) (h : MR k ρ L w reb (zr Z r) μ) (hr : r.length < 150) (hL : LOK k L pn w') (hk5 : k ≤ 5) (hl : l < k) : ∃ μ', M_entersSummary (nI l) μ = some μ' ∧ MR k ρ L w reb (zr Z (r ++ [(smy ρ L l).1, (smy ρ L l).2])) μ' ∧ (∀ j, j ≠ 1 → gI μ' j = gI μ j) := by
  obtain ⟨μ1, a1, a2, a3, a4⟩ := M_summary_ok hR h hL hk5 hl
  obtain ⟨μ2, μ3, b1, b2, b3, b4, -⟩ := M_tellP (h.v a2) hr a3 a4
  refine ⟨μ3, ?_, b3, fun j hj => (b4 j hj).trans (a2.1 j)⟩
  unfold M_entersSummary
  rw [a1, Option.bind_some, b1, Option.bind_some, b2]; rfl
