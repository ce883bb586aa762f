set_option maxRecDepth 100000
/-! windows -/
theorem itm_pushes : ∀ (vs : List Nat) (pn w : Nat) (cs : List CL), itm (pushes pn w vs cs) = vs.reverse ++ itm cs
  | [], _, _, _ => rfl
  | v :: vs, pn, w, cs => by
    show itm (pushes (pn + 1) (w + 1) vs ((pn, w, v) :: cs)) = _
    rw [itm_pushes vs, List.reverse_cons, List.append_assoc]; rfl
theorem lay_items (L : LC) (l pn w : Nat) (its : List Nat) (first : Nat) : itemsOf (layL L l pn w its first) l = its := by
  unfold itemsOf
  rw [lay_0, lay_1, itm_pushes, itm_pushes, List.reverse_reverse, List.reverse_append, List.reverse_reverse]
  show its.take first ++ [] ++ ([] ++ its.drop first) = its
  rw [List.append_nil, List.nil_append, List.take_append_drop]
theorem tkL_items (L : LC) (l e pn w : Nat) : itemsOf (tkL L l e pn w) l = itemsOf L l := by
  unfold tkL
  split
  · exact lay_items _ _ _ _ _ _
  · rfl
theorem tkA_items {L : LC} {l pn w : Nat} (hs : 0 < szL L l) : itemsOf (tkA L l 0 pn w) l = (itemsOf L l).tail := by
  obtain ⟨c, cs, hc⟩ := tk_ne L l pn w (e := 0) (by decide) hs
  rw [← tkL_items L l 0 pn w]
  unfold itemsOf tkA
  rw [upL_s, upL_c _ (.inr (by decide)), hc]; rfl
theorem put_items {L : LC} {l : Nat} {c : CL} : itemsOf (upL L l 1 (c :: L l 1)) l = itemsOf L l ++ [c.2.2] := by
  unfold itemsOf
  rw [upL_s, upL_c _ (.inr (by decide)), List.append_assoc]
  congr 1
  show (c.2.2 :: itm (L l 1)).reverse = _
  rw [List.reverse_cons]
/-- what is told of the first m windows -/
def rowW (ρ : RC) (its : List Nat) (win : Nat) : Nat → List Int64
  | 0 => []
  | m + 1 => rowW ρ its win m ++ [(fo ρ (seg its m win)).1, (fo ρ (seg its m win)).2]
theorem rowW_len (ρ : RC) (its : List Nat) (win : Nat) : ∀ m, (rowW ρ its win m).length = 2 * m
  | 0 => rfl
  | m + 1 => by
    show (rowW ρ its win m ++ [(fo ρ (seg its m win)).1, (fo ρ (seg its m win)).2]).length = _
    rw [List.length_append, rowW_len ρ its win m]
    show 2 * m + 2 = _; omega
theorem seg_len {its : List Nat} {i m : Nat} (h : i + m ≤ its.length) : (seg its i m).length = m := by
  unfold seg; rw [List.length_take, List.length_drop]; omega
theorem seg_tail {its : List Nat} {i m : Nat} : (seg its i (m + 1)).tail = seg its (i + 1) m := by
  unfold seg
  have h : its.drop (i + 1) = (its.drop i).tail := by rw [List.tail_drop]
  rw [h]
  cases its.drop i with
  | nil => simp
  | cons a b => rfl
theorem win_sz {L : LC} {its : List Nat} {i m : Nat} (h : itemsOf L 4 = seg its i m) (hb : i + m ≤ its.length) : szL L 4 = m := by rw [← items_len, h, seg_len hb]
/-- a summary is told of the window at hand -/
theorem win_tell {ρ : RC} {L : LC} {w : Nat} {reb : Int32} {Z : ZZ} {σ : XS} (hR : RV ρ) {its : List Nat} {win m : Nat} (hm : m ≤ 63) (hX : XR 5 ρ L w reb (zr Z (rowW ρ its win m)) σ) (hL : LOK 5 L (xN σ) w) (hit : itemsOf L 4 = seg its m win) : ∃ σ1 σ2, Xl_sums 4 2 σ = some σ1 ∧ X_tellsPair 2 σ1 = some σ2 ∧ XR 5 ρ L w reb (zr Z (rowW ρ its win (m + 1))) σ2 ∧ xN σ2 = xN σ ∧ xA σ2 4 = xA σ 4 := by
  obtain ⟨σ1, p1, p2, p3, p4, p5, p6⟩ := X_sums_ok hR hX hL (show 4 < 5 by decide) (i := 2) (by decide)
  have hX1 := hX.q hL p2
  rw [smy_fo hR hL (show 4 < 5 by decide), hit] at p3
  have hrl := rowW_len ρ its win m
  obtain ⟨t1, t2⟩ := X_tellsPair_ok hX1 (by omega) (by have := hX1.n3; omega) p3
  exact ⟨σ1, _, p1, t1, t2, p5, p6 4 (by decide)⟩
theorem win_loop {ρ : RC} {L0 : LC} {Z : ZZ} (hR : RV ρ) {its : List Nat} {n win : Nat} (hn : its.length = n) (h64 : n ≤ 63 ∨ 2 ≤ win ∨ n ≤ 64) (hn64 : n ≤ 64) (h9 : ∀ v ∈ its, v ≤ 9999) (hw1 : 1 ≤ win) (hwn : win ≤ n) (x4 : Int64) (x6 : Int32) : ∀ (d k f : Nat) (σ : XS) (L : LC) (w : Nat) (reb : Int32) (u v : Nat), k + d = n → d < f → XR 5 ρ L w reb (zr Z (rowW ρ its win (k + 1 - win))) σ → LOK 5 L (xN σ) w → (∀ l e, l < 4 → L l e = L0 l e) → itemsOf L 4 = seg its (k - win) (min k win) → (∀ t, t < n → xA σ 4 t = nI (its.getD t 0)) → u + 71 * d ≤ 4560 → v + 540 * d ≤ 34800 → ∃ (σ' : XS) (L' : LC) (w' : Nat) (reb' : Int32), X_windows_73 f (nI win) (nI n) x4 x6 (nI k) σ u v = some (nI n - nI win + nI 1, zI (zL σ' 0 x4) 3 x6) ∧ XR 5 ρ L' w' reb' (zr Z (rowW ρ its win (n + 1 - win))) σ' ∧ (∀ l e, l < 4 → L' l e = L0 l e) ∧ xN σ ≤ xN σ' := by
  intro d
  induction d with
  | zero =>
    intro k f σ L w reb u v hk hf hX hL h0 hit hr hu hv
    obtain ⟨f, rfl⟩ : ∃ z, f = z + 1 := ⟨f - 1, by omega⟩
    have hk : k = n := by omega
    subst hk
    exact ⟨σ, L, w, reb, if_pos (nI_le (Nat.le_refl _) (by omega)), hX, h0, Nat.le_refl _⟩
  | succ d ih =>
    intro k f σ L w reb u v hk hf hX hL h0 hit hr hu hv
    obtain ⟨f, rfl⟩ : ∃ z, f = z + 1 := ⟨f - 1, by omega⟩
    have hx9 := h9 _ (gD_mem (show k < its.length by omega))
    have hsz : szL L 4 = min k win := win_sz hit (by omega)
    obtain ⟨σ1, p1, p2, p3, p4, -⟩ := X_put_ok (e := 1) (v := its.getD k 0) hR hL hX (by decide) (show 4 < 5 by decide) (by decide) hx9
    by_cases hfull : szL L 4 < 64
    · have hL1 := hL.put (l := 4) (e := 1) (v := its.getD k 0) hX.n3 (by decide) (by decide) (by unfold szL at hfull; omega) hx9
      rw [← p3] at hL1
      have hit1 : itemsOf (upL L 4 1 ((xN σ, w, its.getD k 0) :: L 4 1)) 4 = seg its (k - win) (min k win + 1) := by
        rw [put_items, hit, seg_s (by omega), show k - win + min k win = k by omega]
      have hb1 : k - win + (min k win + 1) ≤ its.length := by omega
      have hs1 := X_sz p2 (show 4 < 5 by decide)
      rw [win_sz hit1 hb1] at hs1
      have hst : X_windows_73 (f + 1) (nI win) (nI n) x4 x6 (nI k) σ u v = if min k win + 1 ≤ win then X_windows_114 (X_windows_73 f) (nI win) (nI n) x4 x6 (nI k) σ1 (u + 1) (v + 6) else ((Xl_take 4 (nI 0) σ1).bind fun q10 => X_windows_114 (X_windows_73 f) (nI win) (nI n) x4 x6 (nI k) q10.2 ((u + 1) + 70) ((v + 6) + 534)) := by
        show (if nI n ≤ nI k then _ else (if nI k < 0 ∨ 64 ≤ (nI k).toNatClampNeg then none else (if u + 1 ≤ 4560 ∧ v + 6 ≤ 34800 then ((Xl_put 4 (nI 1) (xA σ 4 (nI k).toNatClampNeg) σ).bind fun q7 => ((Xl_size 4 q7).bind fun q9 => (if q9.1 ≤ nI win then X_windows_114 (X_windows_73 f) (nI win) (nI n) x4 x6 (nI k) q9.2 (u + 1) (v + 6) else (if (u + 1) + 70 ≤ 4560 ∧ (v + 6) + 534 ≤ 34800 then ((Xl_take 4 (nI 0) q9.2).bind fun q10 => X_windows_114 (X_windows_73 f) (nI win) (nI n) x4 x6 (nI k) q10.2 ((u + 1) + 70) ((v + 6) + 534)) else none)))) else none))) = _
        rw [if_neg (nI_ge (by omega) (by omega)), if_neg (nI_in (by omega) (by decide)), if_pos ⟨by omega, by omega⟩, nI_clamp (by omega), hr k (by omega), p1, obs, hs1, obs]
        by_cases hc : min k win + 1 ≤ win
        · rw [if_pos hc, if_pos (nI_le hc (by omega))]
        · rw [if_neg hc, if_neg (nI_ge (by omega) (by omega)), if_pos ⟨by omega, by omega⟩]
      rw [hst]
      have h01 : ∀ l e, l < 4 → upL L 4 1 ((xN σ, w, its.getD k 0) :: L 4 1) l e = L0 l e := fun l e hl => by rw [upL_c _ (.inl (by omega))]; exact h0 l e hl
      have hr1 : ∀ t, t < n → xA σ1 4 t = nI (its.getD t 0) := fun t ht => by rw [p4 4 (by decide) (by decide)]; exact hr t ht
      by_cases hc : min k win + 1 ≤ win
      · rw [if_pos hc]
        by_cases hc2 : k + 1 = win
        · rw [show k + 1 - win = 0 by omega] at p2
          obtain ⟨σ2, σ3, s1, s2, s3, s4, s5⟩ := win_tell hR (by decide) p2 hL1 (by rw [hit1]; congr 1 <;> omega)
          obtain ⟨σ', L', w', reb', e1, e2, e3, e4⟩ := ih (k + 1) f σ3 _ _ _ (u + 1) (v + 6) (by omega) (by omega) (by rw [show k + 1 + 1 - win = 0 + 1 by omega]; exact s3) (by rw [s4]; exact hL1) h01 (by rw [hit1]; congr 1 <;> omega) (fun t ht => by rw [s5]; exact hr1 t ht) (by omega) (by omega)
          refine ⟨σ', L', w', reb', ?_, e2, e3, by omega⟩
          rw [← e1]
          unfold X_windows_114 X_windows_147
          rw [hs1, obs, if_pos (nI_le (by omega) (by omega)), s1, obs, s2, obs, nI_add]
        · obtain ⟨σ', L', w', reb', e1, e2, e3, e4⟩ := ih (k + 1) f σ1 _ _ _ (u + 1) (v + 6) (by omega) (by omega) (by rw [show k + 1 + 1 - win = k + 1 - win by omega]; exact p2) hL1 h01 (by rw [hit1]; congr 1 <;> omega) hr1 (by omega) (by omega)
          refine ⟨σ', L', w', reb', ?_, e2, e3, by omega⟩
          rw [← e1]
          unfold X_windows_114 X_windows_147
          rw [hs1, obs, if_neg (nI_ge (by omega) (by omega)), nI_add]
      · rw [if_neg hc]
        have hsz1 := win_sz hit1 hb1
        obtain ⟨σ2, g1, g2, g3, g4⟩ := X_take_ok (l := 4) (e := 0) hR p2 hL1 (by decide) (by decide) (by decide) (by omega)
        obtain ⟨hL2, -, -⟩ := tkA_lok (e := 0) hL1 p2.n3 (show 4 < 5 by decide) (by decide)
        rw [← g3] at hL2
        have hit2 := tkA_items (pn := xN σ1) (w := w + 1) (show 0 < szL (upL L 4 1 ((xN σ, w, its.getD k 0) :: L 4 1)) 4 by omega)
        rw [hit1, seg_tail] at hit2
        have hit2 : itemsOf (tkA (upL L 4 1 ((xN σ, w, its.getD k 0) :: L 4 1)) 4 0 (xN σ1) (w + 1)) 4 = seg its (k + 1 - win) win := by rw [hit2]; congr 1 <;> omega
        have hs2 := X_sz g2 (show 4 < 5 by decide)
        rw [win_sz hit2 (by omega)] at hs2
        obtain ⟨σ3, σ4, s1, s2, s3, s4, s5⟩ := win_tell hR (by omega) g2 hL2 hit2
        obtain ⟨σ', L', w', reb', e1, e2, e3, e4⟩ := ih (k + 1) f σ4 _ _ _ (u + 1 + 70) (v + 6 + 534) (by omega) (by omega) (by rw [show k + 1 + 1 - win = k + 1 - win + 1 by omega]; exact s3) (by rw [s4]; exact hL2) (fun l e hl => by rw [tkA_c _ (by omega)]; exact h01 l e hl) (by rw [hit2]; congr 1; omega) (fun t ht => by rw [s5, g4 4 (by decide) (by decide) (by decide)]; exact hr1 t ht) (by omega) (by omega)
        refine ⟨σ', L', w', reb', ?_, e2, e3, by omega⟩
        rw [← e1, g1, obs]
        unfold X_windows_114 X_windows_147
        rw [hs2, obs, if_pos (nI_le (Nat.le_refl _) (by omega)), s1, obs, s2, obs, nI_add]
    · exfalso; omega
theorem M_win_loop {ρ : RC} {L : LC} {w l : Nat} {reb : Int32} {Z : ZZ} (hR : RV ρ) (hl : l < 4) (hs : szL L l ≤ 64) (h9 : ∀ v ∈ itemsOf L l, v ≤ 9999) {win m : Nat} (hw1 : 1 ≤ win) (hm : m + win = szL L l + 1) : ∀ (d i f : Nat) (μ : MS), i + d = m → d < f → MR 4 ρ L w reb (zr Z (rowW ρ (itemsOf L l) win i)) μ → ∃ μ', M_windows_52 f (nI l) (nI win) (nI m) (nI i) μ = some (nI m, μ') ∧ MR 4 ρ L w reb (zr Z (rowW ρ (itemsOf L l) win m)) μ' := by
  intro d
  induction d with
  | zero =>
    intro i f μ hi hf hM
    obtain ⟨f, rfl⟩ : ∃ z, f = z + 1 := ⟨f - 1, by omega⟩
    have hi : i = m := by omega
    subst hi
    exact ⟨μ, if_pos (nI_le (Nat.le_refl _) (by omega)), hM⟩
  | succ d ih =>
    intro i f μ hi hf hM
    obtain ⟨f, rfl⟩ : ∃ z, f = z + 1 := ⟨f - 1, by omega⟩
    obtain ⟨μ1, m1, m2, m3, m4⟩ := M_sums_ok hR (show l < 5 by omega) hs h9 (i := i) (m := win) (by omega) hM.1 (hM.ln hl)
    have hrl := rowW_len ρ (itemsOf L l) win i
    obtain ⟨ν, ν', e1, e2, e3, -⟩ := M_tellP (hM.v m2) (by omega) m3 m4
    obtain ⟨μ', q1, q2⟩ := ih (i + 1) f ν' (by omega) (by omega) e3
    refine ⟨μ', ?_, q2⟩
    rw [← q1]
    show (if nI m ≤ nI i then _ else ((M_sums (nI l) (nI i) (nI win) μ).bind fun q4 => ((M_enters (gL q4 0) q4).bind fun q5 => ((M_enters (gL q5 1) q5).bind fun q6 => M_windows_52 f (nI l) (nI win) (nI m) (nI i + (nI 1)) q6)))) = _
    rw [if_neg (nI_ge (by omega) (by omega)), m1, obs, e1, obs, e2, obs, nI_add]
theorem XR.wr {k : Nat} {ρ : RC} {L L' : LC} {w w' : Nat} {reb reb' : Int32} {Z : ZZ} {σ : XS} (h : XR 5 ρ L' w' reb' Z σ) (hL : ∀ l e, l < 4 → L' l e = L l e) : XR 4 ρ L w reb Z (zI (zL σ 0 (lN w)) 3 reb) := by
  obtain ⟨a1, a2, ⟨a3, a4, a5, a6, a7⟩, a8, a9, a10, a11⟩ := h
  exact ⟨a1, a2, ⟨rfl, a4, a5, a6, rfl⟩, a8, a9, fun l e hl he => by
    obtain ⟨b1, b2⟩ := a10 l e (by omega) he
    rw [hL l e hl] at b1 b2
    exact ⟨b1, XCh.same0 (σ := σ) _ _ (Nat.le_refl _) rfl b2⟩, a11⟩
theorem E_windows_ok (n : Nat) : E_windows (RR n) (RR (n + 1)) := by
  intro σ μ x1 x2 h
  have h0 := h.stay (nI 0)
  obtain ⟨ρ, L, w, reb, Z, hR, hL, hZ, hX, hM, hw, hr⟩ := h
  have hM0 := hM.q (MU.sI μ (k := 0) (.inl rfl) (nI 0))
  rcases isL x1 with ⟨a1, b1⟩ | ⟨l, hl, rfl, a1, b1⟩
  · exact ⟨-1, σ, _, by unfold X_windows; simp only [a1, obs, n10, n00, n20, if_false, if_true, and_self, Nat.reduceAdd, Nat.reduceLeDiff], by unfold M_windows; simp only [b1, obs, n10, n00, n20, if_false, if_true, and_self, Nat.reduceAdd, Nat.reduceLeDiff], h0⟩
  have cl : (nI l).toNatClampNeg = l := nI_clamp (by omega)
  have dl : ¬ (nI l < 0 ∨ 4 ≤ l) := by rw [zN_lt0 (by omega), false_or]; omega
  rcases isW x2 σ with ⟨a2, b2⟩ | ⟨win, hw1, hw2, rfl, a2, b2⟩
  · exact ⟨-1, σ, _, by unfold X_windows; simp only [a1, a2, obs, n10, n00, n20, if_false, if_true, and_self, Nat.reduceAdd, Nat.reduceLeDiff], by unfold M_windows; simp only [b1, b2, obs, n10, n00, n20, if_false, if_true, and_self, Nat.reduceAdd, Nat.reduceLeDiff], h0⟩
  obtain ⟨h64, h9, hs64⟩ := its9 hL hl
  have hil := items_len L l
  have s2 := M_size_ok hM0 (by decide) hl
  obtain ⟨σ1, p1, p2, p3, p4, -⟩ := hX.lay1 hL hl
  have hL1 : LOK 4 L (xN σ1) w := by rw [p3]; exact hL
  by_cases hc : win ≤ szL L l
  · obtain ⟨σ2, q1, q2, q3, q4, -⟩ := X_empties_ok p2 (l := 4) (k' := 5) (by decide) (fun l' h1 h2 => by omega) (by decide)
    have hL2 : LOK 5 (clr L 4) (xN σ2) w := by rw [q3]; exact LOK_clr hL1 (fun l' h1 h2 => by omega)
    have hX2 : XR 5 ρ (clr L 4) w reb (zr Z (rowW ρ (itemsOf L l) win (0 + 1 - win))) (zI σ2 5 (nI 0)) := by
      rw [show 0 + 1 - win = 0 by omega]; exact X_reset q2
    have hw0 : xL σ1 0 = lN w := p2.work
    have hreb : xI σ1 3 = reb := p2.2.2.1.1
    have hit0 : itemsOf (clr L 4) 4 = seg (itemsOf L l) (0 - win) (min 0 win) := by
      rw [Nat.zero_min]; rfl
    obtain ⟨σ', L', w', reb', e1, e2, e3, e4⟩ := win_loop (L0 := L) hR hil (.inr (.inr hs64)) hs64 h9 hw1 hc (lN w) reb (szL L l) 0 FU (zI σ2 5 (nI 0)) (clr L 4) w reb (0 + 6) (0 + 150) (by omega) (by unfold FU; omega) hX2 hL2 (fun l' e hl' => if_neg (by omega)) hit0 (fun t ht => by rw [show xA (zI σ2 5 (nI 0)) 4 = xA σ2 4 from rfl, q4 4 (by decide)]; exact p4 t (by omega)) (by omega) (by omega)
    have hX3 : XR 4 ρ L w reb (zr Z (rowW ρ (itemsOf L l) win (szL L l + 1 - win))) (zI (zL σ' 0 (lN w)) 3 reb) := XR.wr (k := 4) e2 e3
    obtain ⟨μ', k1, k2⟩ := M_win_loop hR hl hs64 h9 hw1 (show szL L l + 1 - win + win = szL L l + 1 by omega) (szL L l + 1 - win) 0 FU (sI (sI μ 0 (nI 0)) 1 (nI 0)) (by omega) (by unfold FU; omega) (M_reset hM0)
    have hk : nI (szL L l) - nI win + nI 1 = nI (szL L l + 1 - win) := by rw [pk_sub hc, nI_add, show szL L l - win + 1 = szL L l + 1 - win by omega]
    have hx : X_windows (nI l) (nI win) σ = some (nI (szL L l + 1 - win), zI (zL σ' 0 (lN w)) 3 reb) := by
      unfold X_windows
      rw [a1, obs, if_neg (show ¬ nI 1 = 0 by decide), a2, obs, if_neg (show ¬ nI 1 = 0 by decide), if_neg (by rw [cl]; exact dl), if_pos ⟨by decide, by decide⟩, cl, p1, obs, if_pos (nI_le hc (by omega)), q1, obs, hw0, hreb]
      rw [e1, hk]
    have hm : M_windows (nI l) (nI win) μ = some (nI (szL L l + 1 - win), μ') := by
      unfold M_windows
      rw [b1, obs, if_neg (show ¬ nI 1 = 0 by decide), b2, obs, if_neg (show ¬ nI 1 = 0 by decide), s2, obs, hk, if_pos (nI_le (by omega) (by omega))]
      exact k1
    have hrl := rowW_len ρ (itemsOf L l) win (szL L l + 1 - win)
    have hnn : xN σ ≤ xN σ' := by
      have e4 : xN σ2 ≤ xN σ' := e4
      omega
    exact ⟨_, _, μ', hx, hm, ρ, L, w, reb, _, hR, hL.up hnn (Nat.le_refl _), hZ.row (by omega), hX3, k2, by omega, by show Z.2.2.2 ≤ n + 1; omega⟩
  · have hx : X_windows (nI l) (nI win) σ = some (-2, σ1) := by
      unfold X_windows
      rw [a1, obs, if_neg (show ¬ nI 1 = 0 by decide), a2, obs, if_neg (show ¬ nI 1 = 0 by decide), if_neg (by rw [cl]; exact dl), if_pos ⟨by decide, by decide⟩, cl, p1, obs, if_neg (nI_ge (by omega) (by omega))]
    have hm : M_windows (nI l) (nI win) μ = some (-2, sI μ 0 (nI 0)) := by
      unfold M_windows
      rw [b1, obs, if_neg (show ¬ nI 1 = 0 by decide), b2, obs, if_neg (show ¬ nI 1 = 0 by decide), s2, obs, if_neg (no_win (by omega) (by omega))]
    exact ⟨-2, σ1, _, hx, hm, RR.fin hR hL hZ hw hr hZ.2.2 p2 hM0 p3⟩
