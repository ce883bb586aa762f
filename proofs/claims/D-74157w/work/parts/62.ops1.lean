set_option maxRecDepth 100000
/-! the operations, one by one -/
theorem n10 : (nI 1 = 0) = False := eq_false (by decide)
theorem n00 : (nI 0 = 0) = True := eq_true rfl
theorem n20 : (nI 2 = 0) = False := eq_false (by decide)
theorem RR.stay {n : Nat} {σ : XS} {μ : MS} (h : RR n σ μ) (x : Int32) : RR (n + 1) σ (sI μ 0 x) := by
  obtain ⟨ρ, L, w, reb, Z, hR, hL, hZ, hX, hM, hw, hr⟩ := h
  exact ⟨ρ, L, w, reb, Z, hR, hL, hZ, hX, hM.q (MU.sI μ (.inl rfl) x), by omega, by omega⟩
theorem RR.up {n : Nat} {σ : XS} {μ : MS} (h : RR n σ μ) : RR (n + 1) σ μ := by
  obtain ⟨ρ, L, w, reb, Z, hR, hL, hZ, hX, hM, hw, hr⟩ := h
  exact ⟨ρ, L, w, reb, Z, hR, hL, hZ, hX, hM, by omega, by omega⟩
theorem ZW.row {Z : ZZ} (h : ZW Z) {r : List Int64} (hr : r.length ≤ 128) : ZW (zr Z r) := ⟨h.1, h.2.1, hr⟩
theorem sz_eq {L : LC} {k pn w l m : Nat} (hL : LOK k L pn w) (hl : l < k) (hm : m < 2 ^ 31) : (nI (szL L l) = nI m) = (szL L l = m) := zN_eq (by have := hL.2.1 l hl; unfold szL; omega) hm
theorem X_sz {k : Nat} {ρ : RC} {L : LC} {w l : Nat} {reb : Int32} {Z : ZZ} {σ : XS} (h : XR k ρ L w reb Z σ) (hl : l < k) : Xl_size l σ = some (nI (szL L l), σ) := Xl_size_ok h hl
theorem up_sz {L : LC} {l e : Nat} {c : CL} (he : e < 2) : szL (upL L l e (c :: L l e)) l = szL L l + 1 := by
  unfold szL
  rcases (show e = 0 ∨ e = 1 by omega) with rfl | rfl
  · rw [upL_s, upL_c L (.inr (by decide))]; simp only [List.length_cons]; omega
  · rw [upL_s, upL_c L (.inr (by decide))]; simp only [List.length_cons]; omega
theorem E_puts_ok (n : Nat) : E_puts (RR n) (RR (n + 1)) := by
  intro σ μ x1 x2 x3 h
  have h0 := h.stay (nI 0)
  obtain ⟨ρ, L, w, reb, Z, hR, hL, hZ, hX, hM, hw, hr⟩ := h
  rcases isL x1 with ⟨a1, b1⟩ | ⟨l, hl, rfl, a1, b1⟩
  · exact ⟨-1, σ, _, by unfold X_puts; simp only [a1, Option.bind_some, n10, n00, n20, if_false, if_true, and_self, Nat.reduceAdd, Nat.reduceLeDiff], by unfold M_puts; simp only [b1, Option.bind_some, n10, n00, n20, if_false, if_true, and_self, Nat.reduceAdd, Nat.reduceLeDiff], h0⟩
  rcases isE x2 with ⟨a2, b2⟩ | ⟨e, he, rfl, a2, b2⟩
  · exact ⟨-1, σ, _, by unfold X_puts; simp only [a1, a2, Option.bind_some, n10, n00, n20, if_false, if_true, and_self, Nat.reduceAdd, Nat.reduceLeDiff], by unfold M_puts; simp only [b1, b2, Option.bind_some, n10, n00, n20, if_false, if_true, and_self, Nat.reduceAdd, Nat.reduceLeDiff], h0⟩
  rcases isI x3 with ⟨a3, b3⟩ | ⟨v, hv, rfl, a3, b3⟩
  · exact ⟨-1, σ, _, by unfold X_puts; simp only [a1, a2, a3, Option.bind_some, n10, n00, n20, if_false, if_true, and_self, Nat.reduceAdd, Nat.reduceLeDiff], by unfold M_puts; simp only [b1, b2, b3, Option.bind_some, n10, n00, n20, if_false, if_true, and_self, Nat.reduceAdd, Nat.reduceLeDiff], h0⟩
  have cl : (nI l).toNatClampNeg = l := nI_clamp (by omega)
  have dl : ¬ (nI l < 0 ∨ 4 ≤ l) := by rw [zN_lt0 (by omega), false_or]; omega
  have hM0 := hM.q (MU.sI μ (k := 0) (.inl rfl) (nI 0))
  have s1 := X_sz hX hl
  have s2 := M_size_ok hM0 (by decide) hl
  by_cases h64 : szL L l = 64
  · have hq : (nI (szL L l) = nI 64) = True := eq_true (by rw [h64])
    exact ⟨-3, σ, _, by unfold X_puts; simp only [a1, a2, a3, cl, dl, s1, hq, Option.bind_some, n10, n00, n20, if_false, if_true, and_self, Nat.reduceAdd, Nat.reduceLeDiff], by unfold M_puts; simp only [b1, b2, b3, s2, hq, Option.bind_some, n10, n00, n20, if_false, if_true, and_self, Nat.reduceAdd, Nat.reduceLeDiff], h0⟩
  · have hq : (nI (szL L l) = nI 64) = False := eq_false (fun z => h64 ((nI_eq (by have := hL.2.1 l hl; unfold szL; omega) (by decide)).mp z))
    have hs64 : szL L l < 64 := by have := hL.2.1 l hl; unfold szL at h64 ⊢; omega
    obtain ⟨σ1, p1, p2, p3, -⟩ := X_put_ok hR hL hX (by decide) hl he hv
    obtain ⟨μ1, q1, q2, -⟩ := M_makes_ok hR hM0 hL (by decide) hl he hs64 hv
    have hL1 := hL.put (l := l) (e := e) (v := v) hX.n3 hl he hs64 hv
    have s3 := X_sz p2 hl
    have s4 := M_size_ok q2 (by decide) hl
    refine ⟨nI (szL L l + 1), σ1, μ1, by unfold X_puts; simp only [a1, a2, a3, cl, dl, s1, hq, p1, s3, up_sz he, Option.bind_some, n10, n00, n20, if_false, if_true, and_self, Nat.reduceAdd, Nat.reduceLeDiff], by unfold M_puts; simp only [b1, b2, b3, s2, hq, pk_mul, nI_add, q1, s4, up_sz he, Option.bind_some, n10, n00, n20, if_false, if_true, and_self, Nat.reduceAdd, Nat.reduceLeDiff], ρ, _, _, reb, Z, hR, by rw [p3]; exact hL1, hZ, p2, q2, by omega, by omega⟩
theorem tk_8000 {L : LC} {k pn w l e : Nat} (hL : LOK k L pn w) (hl : l < k) : tkN L l e ≤ 64 := by
  have := hL.2.1 l hl
  unfold tkN szL
  split <;> omega
theorem lN_s {a b : Nat} : lN (a + b) - lN a = lN b := by rw [lN_sub (by omega), show a + b - a = b by omega]
theorem nI_s {a b : Nat} : nI (a + b) - nI a = nI b := by rw [pk_sub (by omega), show a + b - a = b by omega]
theorem E_takes_ok (n : Nat) : E_takes (RR n) (RR (n + 1)) := by
  intro σ μ x1 x2 h
  have h0 := h.stay (nI 0)
  obtain ⟨ρ, L, w, reb, Z, hR, hL, hZ, hX, hM, hw, hr⟩ := h
  rcases isL x1 with ⟨a1, b1⟩ | ⟨l, hl, rfl, a1, b1⟩
  · exact ⟨-1, σ, _, by unfold X_takes; simp only [a1, Option.bind_some, n10, n00, n20, if_false, if_true, and_self, Nat.reduceAdd, Nat.reduceLeDiff], by unfold M_takes; simp only [b1, Option.bind_some, n10, n00, n20, if_false, if_true, and_self, Nat.reduceAdd, Nat.reduceLeDiff], h0⟩
  rcases isE x2 with ⟨a2, b2⟩ | ⟨e, he, rfl, a2, b2⟩
  · exact ⟨-1, σ, _, by unfold X_takes; simp only [a1, a2, Option.bind_some, n10, n00, n20, if_false, if_true, and_self, Nat.reduceAdd, Nat.reduceLeDiff], by unfold M_takes; simp only [b1, b2, Option.bind_some, n10, n00, n20, if_false, if_true, and_self, Nat.reduceAdd, Nat.reduceLeDiff], h0⟩
  have cl : (nI l).toNatClampNeg = l := nI_clamp (by omega)
  have dl : ¬ (nI l < 0 ∨ 4 ≤ l) := by rw [zN_lt0 (by omega), false_or]; omega
  have hM0 := hM.q (MU.sI μ (k := 0) (.inl rfl) (nI 0))
  have s1 := X_sz hX hl
  have s2 := M_size_ok hM0 (by decide) hl
  have hs := hL.2.1 l hl
  by_cases hz : szL L l = 0
  · have hq : (nI (szL L l) = 0) = True := eq_true (by rw [hz]; rfl)
    exact ⟨-2, σ, _, by unfold X_takes; simp only [a1, a2, cl, dl, s1, hq, Option.bind_some, n10, n00, n20, if_false, if_true, and_self, Nat.reduceAdd, Nat.reduceLeDiff], by unfold M_takes; simp only [b1, b2, s2, hq, Option.bind_some, n10, n00, n20, if_false, if_true, and_self, Nat.reduceAdd, Nat.reduceLeDiff], h0⟩
  · have hq : (nI (szL L l) = 0) = False := eq_false (nI_ne0 (by omega) (by unfold szL; omega))
    obtain ⟨σ1, p1, p2, p3, -⟩ := X_take_ok (e := e) hR hX hL (by decide) hl he (by omega)
    obtain ⟨μ1, q1, q2, -⟩ := M_take_ok (e := e) hR hM0 hL hX.n3 (by decide) hl he (by omega)
    obtain ⟨hL1, -, -⟩ := tkA_lok (e := e) hL hX.n3 hl he
    have h64 := tk_8000 (e := e) hL hl
    obtain ⟨t1, t2⟩ := X_tells_ok (X_reset p2) (r := []) (by decide) (lN (tkN L l e))
    obtain ⟨u1, u2⟩ := M_enters_ok (M_reset q2) (r := []) (by decide) (lN (tkN L l e))
    have w0 : xL σ 0 = lN w := hX.2.2.1.2.2.2.2
    have w1 : xL (zI σ1 5 (nI 0)) 0 = lN (w + tkN L l e) := p2.2.2.1.2.2.2.2
    have v0 : gI (sI μ 0 (nI 0)) 8 = nI w := hM0.2.1.2.2.1
    have v1 : gI (sI μ1 1 (nI 0)) 8 = nI (w + tkN L l e) := q2.2.1.2.2.1
    refine ⟨nI (tkV L l e (xN σ) w), _, _, by unfold X_takes; simp only [a1, a2, cl, dl, s1, hq, p1, w0, w1, lN_s, t1, Option.bind_some, n10, n00, n20, if_false, if_true, and_self, Nat.reduceAdd, Nat.reduceLeDiff], by unfold M_takes M_tellsWork; simp only [b1, b2, s2, hq, q1, v0, v1, nI_s, nI_l (show tkN L l e < 2 ^ 31 by omega), u1, Option.bind_some, n10, n00, n20, if_false, if_true, and_self, Nat.reduceAdd, Nat.reduceLeDiff], ρ, _, _, _, _, hR, ?_, hZ.row (r := [lN (tkN L l e)]) (by show 1 ≤ 128; decide), t2, u2, by omega, by show Z.2.2.2 ≤ n + 1; omega⟩
    show LOK 4 _ (xN σ1) _
    rw [p3]; exact hL1
theorem E_clears_ok (n : Nat) : E_clears (RR n) (RR (n + 1)) := by
  intro σ μ x1 h
  have h0 := h.stay (nI 0)
  obtain ⟨ρ, L, w, reb, Z, hR, hL, hZ, hX, hM, hw, hr⟩ := h
  rcases isL x1 with ⟨a1, b1⟩ | ⟨l, hl, rfl, a1, b1⟩
  · exact ⟨-1, σ, _, by unfold X_clears; simp only [a1, Option.bind_some, n10, n00, n20, if_false, if_true, and_self, Nat.reduceAdd, Nat.reduceLeDiff], by unfold M_clears; simp only [b1, Option.bind_some, n10, n00, n20, if_false, if_true, and_self, Nat.reduceAdd, Nat.reduceLeDiff], h0⟩
  have cl : (nI l).toNatClampNeg = l := nI_clamp (by omega)
  have dl : ¬ (nI l < 0 ∨ 4 ≤ l) := by rw [zN_lt0 (by omega), false_or]; omega
  have hM0 := hM.q (MU.sI μ (k := 0) (.inl rfl) (nI 0))
  have s1 := X_sz hX hl
  have s2 := M_size_ok hM0 (by decide) hl
  obtain ⟨σ1, p1, p2, p3, -⟩ := X_empties_ok (k' := 4) hX (show l < 5 by omega) (fun _ q _ => q) (by decide)
  have q2 := hM0.clr (l := l) (k' := 4) hL (fun _ q _ => q)
  have hL1 := LOK_clr (l := l) (k' := 4) hL (fun _ q _ => q)
  have i1 : ¬ (nI (2 * l) < 0 ∨ 10 ≤ 2 * l) := by rw [zN_lt0 (by omega), false_or]; omega
  have i2 : ¬ (nI (2 * l + 1) < 0 ∨ 10 ≤ 2 * l + 1) := by rw [zN_lt0 (by omega), false_or]; omega
  have i5 : ¬ (nI (2 * l + 1) < 0 ∨ 9 ≤ 2 * l) := by rw [zN_lt0 (by omega), false_or]; omega
  have i3 : (nI (2 * l)).toNatClampNeg = 2 * l := nI_clamp (by omega)
  have i4 : (nI (2 * l + 1)).toNatClampNeg = 2 * l + 1 := nI_clamp (by omega)
  exact ⟨nI (szL L l), σ1, _, by unfold X_clears; simp only [a1, cl, dl, s1, p1, Option.bind_some, n10, n00, n20, if_false, if_true, and_self, Nat.reduceAdd, Nat.reduceLeDiff], by unfold M_clears; simp only [b1, s2, pk_mul, nI_add, i1, i2, i5, i3, i4, Option.bind_some, n10, n00, n20, if_false, if_true, and_self, Nat.reduceAdd, Nat.reduceLeDiff], ρ, _, _, reb, Z, hR, by rw [p3]; exact hL1, hZ, p2, q2, by omega, by omega⟩
theorem E_count_ok (n : Nat) : E_count (RR n) (RR (n + 1)) := by
  intro σ μ x h
  have h0 := h.stay (nI 0)
  obtain ⟨ρ, L, w, reb, Z, hR, hL, hZ, hX, hM, hw, hr⟩ := h
  have hM0 := hM.q (MU.sI μ (k := 0) (.inl rfl) (nI 0))
  have g0 : xI σ 0 = nI ρ.1 := hX.2.1.1
  have g1 : xI σ 1 = nI ρ.2.1 := hX.2.1.2.1
  have g2 : xI σ 2 = nI ρ.2.2.1 := hX.2.1.2.2.1
  obtain ⟨g3, g4, g5, g6, g7⟩ := hX.2.2.1
  have m0 : gI (sI μ 0 (nI 0)) 5 = nI ρ.1 := hM0.1.1
  have m1 : gI (sI μ 0 (nI 0)) 6 = nI ρ.2.1 := hM0.1.2.1
  have m2 : gI (sI μ 0 (nI 0)) 7 = nI ρ.2.2.1 := hM0.1.2.2.1
  obtain ⟨m3, m4, m5, m6⟩ := hM0.2.1
  have e3 : (3 : Int64) = lN 3 := rfl
  rcases in_cases x 0 3 (by decide) (by decide) with h | ⟨v, -, hv, rfl, h⟩
  · have hne : ∀ k : Nat, k < 4 → ¬ x = nI k := by
      intro k hk e
      subst e
      rw [X_in_nI (by omega) (by decide) (by decide), if_pos (by omega)] at h
      exact absurd (Option.some.inj h) (by decide)
    have n0 := eq_false (hne 0 (by decide))
    have n1 := eq_false (hne 1 (by decide))
    have n2 := eq_false (hne 2 (by decide))
    have n3 := eq_false (hne 3 (by decide))
    by_cases q4 : x = nI 4
    · have q4 := eq_true q4
      exact ⟨nI ρ.1, σ, _, by unfold X_count; simp only [e3, h, q4, g0, g1, g2, g3, g4, g5, g6, g7, lN_i, Option.bind_some, n00, if_true, if_false], by unfold M_count; simp only [n0, n1, n2, n3, q4, m0, m1, m2, m3, m4, m5, m6, if_true, if_false], h0⟩
    have q4 := eq_false q4
    by_cases q5 : x = nI 5
    · have q5 := eq_true q5
      exact ⟨nI ρ.2.1, σ, _, by unfold X_count; simp only [e3, h, q4, q5, g0, g1, g2, g3, g4, g5, g6, g7, lN_i, Option.bind_some, n00, if_true, if_false], by unfold M_count; simp only [n0, n1, n2, n3, q4, q5, m0, m1, m2, m3, m4, m5, m6, if_true, if_false], h0⟩
    have q5 := eq_false q5
    by_cases q6 : x = nI 6
    · have q6 := eq_true q6
      exact ⟨nI ρ.2.2.1, σ, _, by unfold X_count; simp only [e3, h, q4, q5, q6, g0, g1, g2, g3, g4, g5, g6, g7, lN_i, Option.bind_some, n00, if_true, if_false], by unfold M_count; simp only [n0, n1, n2, n3, q4, q5, q6, m0, m1, m2, m3, m4, m5, m6, if_true, if_false], h0⟩
    have q6 := eq_false q6
    by_cases q7 : x = nI 7
    · have q7 := eq_true q7
      exact ⟨nI w, σ, _, by unfold X_count; simp only [e3, h, q4, q5, q6, q7, g0, g1, g2, g3, g4, g5, g6, g7, lN_i, Option.bind_some, n00, if_true, if_false], by unfold M_count; simp only [n0, n1, n2, n3, q4, q5, q6, q7, m0, m1, m2, m3, m4, m5, m6, if_true, if_false], h0⟩
    have q7 := eq_false q7
    by_cases q8 : x = nI 8
    · have q8 := eq_true q8
      exact ⟨reb, σ, _, by unfold X_count; simp only [e3, h, q4, q5, q6, q7, q8, g0, g1, g2, g3, g4, g5, g6, g7, lN_i, Option.bind_some, n00, if_true, if_false], by unfold M_count; simp only [n0, n1, n2, n3, q4, q5, q6, q7, q8, m0, m1, m2, m3, m4, m5, m6, if_true, if_false], h0⟩
    have q8 := eq_false q8
    by_cases q9 : x = nI 9
    · have q9 := eq_true q9
      exact ⟨nI Z.2.2.1.length, σ, _, by unfold X_count; simp only [e3, h, q4, q5, q6, q7, q8, q9, g0, g1, g2, g3, g4, g5, g6, g7, lN_i, Option.bind_some, n00, if_true, if_false], by unfold M_count; simp only [n0, n1, n2, n3, q4, q5, q6, q7, q8, q9, m0, m1, m2, m3, m4, m5, m6, if_true, if_false], h0⟩
    have q9 := eq_false q9
    by_cases q10 : x = nI 10
    · have q10 := eq_true q10
      exact ⟨nI Z.2.1, σ, _, by unfold X_count; simp only [e3, h, q4, q5, q6, q7, q8, q9, q10, g0, g1, g2, g3, g4, g5, g6, g7, lN_i, Option.bind_some, n00, if_true, if_false], by unfold M_count; simp only [n0, n1, n2, n3, q4, q5, q6, q7, q8, q9, q10, m0, m1, m2, m3, m4, m5, m6, if_true, if_false], h0⟩
    have q10 := eq_false q10
    exact ⟨-1, σ, _, by unfold X_count; simp only [e3, h, q4, q5, q6, q7, q8, q9, q10, Option.bind_some, n00, if_true, if_false], by unfold M_count; simp only [n0, n1, n2, n3, q4, q5, q6, q7, q8, q9, q10, if_true, if_false], h0⟩
  · have hl : v < 4 := by omega
    have s1 := X_sz hX hl
    have s2 := M_size_ok hM0 (by decide) hl
    have cl : (nI v).toNatClampNeg = v := nI_clamp (by omega)
    have dl : ¬ (nI v < 0 ∨ 4 ≤ v) := by rw [zN_lt0 (by omega), false_or]; omega
    refine ⟨nI (szL L v), σ, sI μ 0 (nI 0), by unfold X_count; simp only [e3, h, cl, dl, s1, Option.bind_some, n10, if_false], ?_, h0⟩
    have hm : M_count_64 (nI v) (sI μ 0 (nI 0)) = some (nI (szL L v), sI μ 0 (nI 0)) := by unfold M_count_64; rw [s2]; rfl
    rw [← hm]
    unfold M_count
    rcases (show v = 0 ∨ v = 1 ∨ v = 2 ∨ v = 3 by omega) with rfl | rfl | rfl | rfl
    · rw [if_pos rfl]
    · rw [if_neg (by decide), if_pos rfl]
    · rw [if_neg (by decide), if_neg (by decide), if_pos rfl]
    · rw [if_neg (by decide), if_neg (by decide), if_neg (by decide), if_pos rfl]
theorem E_row_ok (n : Nat) : E_row (RR n) (RR (n + 1)) := by
  intro σ μ x h
  have hst := h
  obtain ⟨ρ, L, w, reb, Z, hR, hL, hZ, hX, hM, hw, hr⟩ := h
  have g5 : xI σ 5 = nI Z.2.2.1.length := hX.2.2.1.2.2.1
  have m1 : gI μ 1 = nI Z.2.2.1.length := hM.2.1.1
  have hz := hZ.2.2
  have f0 : M_flag (nI 0) = some (nI 0) := rfl
  have f1 : M_flag (nI 1) = some (nI 1) := rfl
  have k1 : (nI 0 = nI 1) = False := eq_false (by decide)
  rcases at_cases x Z.2.2.1.length (by omega) with q | ⟨v, hv, rfl, q⟩
  · have t : gI (sI μ 0 (nI 1)) 0 = nI 1 := rfl
    refine ⟨lN 0, sI μ 0 (nI 1), ?_, .inr ⟨σ, ?_, t, hst.stay (nI 1)⟩⟩
    · unfold M_row M_row_22
      simp only [M_in_eq, m1, q, Option.bind_some, n00, if_true, f1, t]
    · unfold X_rowT
      simp only [g5, q, Option.bind_some, n00, if_true]
  · have t : gI (sI μ 0 (nI 0)) 0 = nI 0 := rfl
    have c1 : (nI v).toNatClampNeg = v := nI_clamp (by omega)
    have d1 : ¬ (nI v < 0 ∨ 128 ≤ v) := by rw [zN_lt0 (by omega), false_or]; omega
    have d2 : ¬ (nI v < 0 ∨ 160 ≤ v) := by rw [zN_lt0 (by omega), false_or]; omega
    have t2 : gB (sI μ 0 (nI 0)) 0 v = Z.2.2.1.getD v 0 := hM.2.2.2.1 v hv
    have t3 : xB σ 0 v = Z.2.2.1.getD v 0 := hX.2.2.2.2.1 v hv
    refine ⟨Z.2.2.1.getD v 0, sI μ 0 (nI 0), ?_, .inl ⟨σ, ?_, t, hst.stay (nI 0)⟩⟩
    · unfold M_row M_row_22
      simp only [M_in_eq, m1, q, Option.bind_some, n10, if_false, f0, t, k1, c1, d2, t2]
    · unfold X_row
      simp only [g5, q, Option.bind_some, n10, if_false, c1, d1, t3]
/-- a byte that is signed -/
theorem byte_sx (y : Int32) : y.toInt8.toInt32 = sx (y.toBitVec.toNat % 256) := by
  have h1 : (y.toInt8.toInt32).toInt = y.toInt.bmod 256 := by
    rw [Int8.toInt_toInt32, Int32.toInt_toInt8]
  have h2 : y.toInt = y.toBitVec.toInt := rfl
  have h3 := BitVec.toInt_eq_toNat_bmod y.toBitVec
  refine Int32.toInt_inj.mp ?_
  rw [h1, h2, h3]
  have h4 : y.toBitVec.toNat < 2 ^ 32 := y.toBitVec.isLt
  generalize y.toBitVec.toNat = b at h4
  unfold sx
  split
  · rw [nI_toInt (by omega)]
    rw [Int.bmod_def, Int.bmod_def]
    split <;> split <;> omega
  · rw [pk_sub_toInt (by omega) (by decide)]
    rw [Int.bmod_def, Int.bmod_def]
    split <;> split <;> omega
theorem E_end_ok (n : Nat) : E_end (RR n) (RR (n + 1)) := by
  intro σ μ x h
  have h0 := h.stay (nI 0)
  obtain ⟨ρ, L, w, reb, Z, hR, hL, hZ, hX, hM, hw, hr⟩ := h
  have g4 : xI σ 4 = nI Z.2.1 := hX.2.2.1.2.1
  have m2 : gI (sI μ 0 (nI 0)) 2 = nI Z.2.1 := hM.2.1.2.1
  have hz := hZ.1
  have e1 : (nI Z.2.1).toInt64 = lN Z.2.1 := nI_l (by omega)
  rcases in_cases x 0 Z.2.1 (by decide) (by omega) with q | ⟨v, -, hv, rfl, q⟩
  · exact ⟨nI 0, σ, _, by unfold X_end; simp only [g4, e1, q, Option.bind_some, n00, if_true], by unfold M_end; simp only [M_in_eq, m2, e1, q, Option.bind_some, n00, if_true], h0⟩
  · refine ⟨nI 1, zI σ 4 (nI v), sI (sI μ 0 (nI 0)) 2 (nI v), by unfold X_end; simp only [g4, e1, q, Option.bind_some, n10, if_false], by unfold M_end; simp only [M_in_eq, m2, e1, q, Option.bind_some, n10, if_false], ρ, L, w, reb, (Z.1, v, Z.2.2), hR, hL, ⟨by show v ≤ 100; omega, fun i hi => hZ.2.1 i (Nat.lt_of_lt_of_le hi hv), hZ.2.2⟩, ?_, ?_, by omega, by show Z.2.2.2 ≤ n + 1; omega⟩
    · obtain ⟨a1, a2, ⟨a3, a4, a5, a6, a7⟩, a8, a9, a10, a11⟩ := hX
      exact ⟨a1, a2, ⟨a3, rfl, a5, a6, a7⟩, fun i hi => a8 i (Nat.lt_of_lt_of_le hi hv), a9, fun l e hl he => ⟨(a10 l e hl he).1, XCh.same0 (σ := σ) _ _ (Nat.le_refl _) rfl (a10 l e hl he).2⟩, a11⟩
    · obtain ⟨a1, ⟨a2, a3, a4, a5⟩, a6, a7, a8⟩ := hM
      exact ⟨a1, ⟨a2, rfl, a4, a5⟩, fun i hi => a6 i (Nat.lt_of_lt_of_le hi hv), a7, fun l e hl he => ⟨(a8 l e hl he).1, MCh.same (μ := μ) _ (fun _ _ => ⟨rfl, rfl, rfl, rfl⟩) (a8 l e hl he).2⟩⟩
/-- the four bytes of a number -/
def by4 (x : Int32) (k : Nat) : Nat := (x >>> nI (24 - 8 * k)).toBitVec.toNat % 256
def txS (t : Nat → Nat) (n : Nat) (x : Int32) : Nat → Nat := fun i => if n ≤ i ∧ i < n + 4 then by4 x (i - n) else t i
theorem E_sign_ok (n : Nat) : E_sign (RR n) (RR (n + 1)) := by
  intro σ μ x h
  have h0 := h.stay (nI 0)
  obtain ⟨ρ, L, w, reb, Z, hR, hL, hZ, hX, hM, hw, hr⟩ := h
  have g4 : xI σ 4 = nI Z.2.1 := hX.2.2.1.2.1
  have m2 : gI (sI μ 0 (nI 0)) 2 = nI Z.2.1 := hM.2.1.2.1
  have hz := hZ.1
  by_cases hc : Z.2.1 ≤ 96
  · obtain ⟨tx, tn, rw', rn⟩ := Z
    have g4 : xI σ 4 = nI tn := g4
    have m2 : gI (sI μ 0 (nI 0)) 2 = nI tn := m2
    have hc : tn ≤ 96 := hc
    have hr : rn ≤ n := hr
    have hxs : ∀ (k f : Nat) (τ : XS), k < 4 → xI τ 4 = nI (tn + k) → X_sign_16 (f + 1) x (nI (24 - 8 * k)) τ = X_sign_16 f x (nI (24 - 8 * k) + (-8 : Int32)) (zI (zA τ 2 (tn + k) (sx (by4 x k))) 4 (nI (tn + (k + 1)))) := by
      intro k f τ hk hτ
      show (if nI (24 - 8 * k) < 0 then _ else (if xI τ 4 < 0 ∨ 100 ≤ (xI τ 4).toNatClampNeg then none else _)) = _
      rw [if_neg (nI_pos (by omega)), hτ, if_neg (nI_in (by omega) (by decide)), nI_clamp (by omega)]
      have e1 : nI (24 - 8 * k) &&& 31 = nI (24 - 8 * k) := by rcases (show k = 0 ∨ k = 1 ∨ k = 2 ∨ k = 3 by omega) with rfl | rfl | rfl | rfl <;> rfl
      rw [e1, pk_vb, byte_sx]
      show X_sign_16 f x (nI (24 - 8 * k) + (-8 : Int32)) (zI (zA τ 2 (tn + k) (sx (by4 x k))) 4 (xI τ 4 + nI 1)) = _
      rw [hτ, nI_add]; rfl
    have hms : ∀ (k f : Nat) (ν : MS), k < 4 → gI ν 2 = nI tn → M_sign_18 (f + 1) x (nI k) ν = M_sign_18 f x (nI (k + 1)) (sA ν 0 (tn + k) (nI (by4 x k))) := by
      intro k f ν hk hν
      show (if nI 4 ≤ nI k then _ else (if gI ν 2 + nI k < 0 ∨ 100 ≤ (gI ν 2 + nI k).toNatClampNeg then none else _)) = _
      rw [if_neg (nI_ge hk (by decide)), hν, nI_add, if_neg (nI_in (by omega) (by decide)), nI_clamp (by omega), nI_add]
      have e1 : (nI 24 - nI 8 * nI k) &&& 31 = nI (24 - 8 * k) := by rcases (show k = 0 ∨ k = 1 ∨ k = 2 ∨ k = 3 by omega) with rfl | rfl | rfl | rfl <;> rfl
      rw [e1, pk_and _ 8 (by decide)]; rfl
    obtain ⟨a1, a2, ⟨a3, a4, a5, a6, a7⟩, a8, a9, a10, a11⟩ := hX
    obtain ⟨b1, ⟨b2, b3, b4, b5⟩, b6, b7, b8⟩ := hM
    refine ⟨nI (tn + 4), zI (zA (zI (zA (zI (zA (zI (zA σ 2 (tn + 0) (sx (by4 x 0))) 4 (nI (tn + 1))) 2 (tn + 1) (sx (by4 x 1))) 4 (nI (tn + 2))) 2 (tn + 2) (sx (by4 x 2))) 4 (nI (tn + 3))) 2 (tn + 3) (sx (by4 x 3))) 4 (nI (tn + 4)), sI (sA (sA (sA (sA (sI μ 0 (nI 0)) 0 (tn + 0) (nI (by4 x 0))) 0 (tn + 1) (nI (by4 x 1))) 0 (tn + 2) (nI (by4 x 2))) 0 (tn + 3) (nI (by4 x 3))) 2 (nI (tn + 4)), ?_, ?_, ρ, L, w, reb, (txS tx tn x, tn + 4, rw', rn), hR, hL, ⟨by show tn + 4 ≤ 100; omega, fun i hi => ?_, hZ.2.2⟩, ⟨a1, ⟨a2.1, a2.2.1, a2.2.2.1, fun k hk i hi => ?_, fun i j hi hj => ?_⟩, ⟨a3, rfl, a5, a6, a7⟩, fun i hi => ?_, a9, fun l e hl he => ⟨?_, XCh.same0 (σ := σ) _ _ (Nat.le_refl _) rfl (a10 l e hl he).2⟩, a11⟩, ⟨b1, ⟨b2, rfl, b4, b5⟩, fun i hi => ?_, b7, fun l e hl he => ⟨(b8 l e hl he).1, MCh.same (μ := μ) _ (fun _ _ => ⟨rfl, rfl, rfl, rfl⟩) (b8 l e hl he).2⟩⟩, by omega, by show rn ≤ n + 1; omega⟩
    · unfold X_sign
      rw [g4, nI_add, if_pos (nI_le (by omega) (by decide)), show FU = 19995 + 1 + 1 + 1 + 1 + 1 from rfl]
      rw [show nI 24 = nI (24 - 8 * 0) from rfl, hxs 0 _ _ (by decide) g4]
      rw [show nI (24 - 8 * 0) + (-8 : Int32) = nI (24 - 8 * 1) from rfl, hxs 1 _ _ (by decide) rfl]
      rw [show nI (24 - 8 * 1) + (-8 : Int32) = nI (24 - 8 * 2) from rfl, hxs 2 _ _ (by decide) rfl]
      rw [show nI (24 - 8 * 2) + (-8 : Int32) = nI (24 - 8 * 3) from rfl, hxs 3 _ _ (by decide) rfl]
      show (if nI (24 - 8 * 3) + (-8 : Int32) < 0 then _ else _) = _
      rw [if_pos (by decide)]; rfl
    · unfold M_sign
      rw [m2, if_pos (nI_le (by omega) (by decide)), show FU = 19995 + 1 + 1 + 1 + 1 + 1 from rfl]
      rw [hms 0 _ _ (by decide) m2]
      rw [hms 1 _ (sA (sI μ 0 (nI 0)) 0 (tn + 0) (nI (by4 x 0))) (by decide) m2]
      rw [hms 2 _ (sA (sA (sI μ 0 (nI 0)) 0 (tn + 0) (nI (by4 x 0))) 0 (tn + 1) (nI (by4 x 1))) (by decide) m2]
      rw [hms 3 _ (sA (sA (sA (sI μ 0 (nI 0)) 0 (tn + 0) (nI (by4 x 0))) 0 (tn + 1) (nI (by4 x 1))) 0 (tn + 2) (nI (by4 x 2))) (by decide) m2]
      show (if nI 4 ≤ nI 4 then some (gI (sI _ 2 (gI (sI μ 0 (nI 0)) 2 + nI 4)) 2, sI _ 2 (gI (sI μ 0 (nI 0)) 2 + nI 4)) else _) = _
      rw [if_pos (nI_le (Nat.le_refl _) (by decide)), m2, nI_add]; rfl
    · show txS tx tn x i < 256
      unfold txS
      split
      · exact Nat.mod_lt _ (by decide)
      · exact hZ.2.1 i (by have hi : i < tn + 4 := hi; show i < tn; omega)
    · simp only [xA_zI, xA_zA]
      rw [if_neg (by omega), if_neg (by omega), if_neg (by omega), if_neg (by omega)]
      exact a2.2.2.2.1 k hk i hi
    · simp only [xA_zI, xA_zA]
      rw [if_neg (by decide), if_neg (by decide), if_neg (by decide), if_neg (by decide)]
      exact a2.2.2.2.2 i j hi hj
    · have hi : i < tn + 4 := hi
      simp only [xA_zI, xA_zA, if_true]
      show _ = sx (txS tx tn x i)
      unfold txS
      by_cases h3 : i = tn + 3
      · subst h3; rw [if_pos rfl, if_pos (by omega), show tn + 3 - tn = 3 by omega]
      by_cases h2 : i = tn + 2
      · subst h2; rw [if_neg h3, if_pos rfl, if_pos (by omega), show tn + 2 - tn = 2 by omega]
      by_cases h1 : i = tn + 1
      · subst h1; rw [if_neg h3, if_neg h2, if_pos rfl, if_pos (by omega), show tn + 1 - tn = 1 by omega]
      by_cases h0' : i = tn + 0
      · rw [if_neg h3, if_neg h2, if_neg h1, if_pos h0', if_pos (by omega), show i - tn = 0 by omega]
      rw [if_neg h3, if_neg h2, if_neg h1, if_neg h0', if_neg (by omega)]
      exact a8 i (show i < tn by omega)
    · simp only [xA_zI, xA_zA]
      rw [if_neg (by omega), if_neg (by omega), if_neg (by omega), if_neg (by omega)]
      exact (a10 l e hl he).1
    · have hi : i < tn + 4 := hi
      show gA (sI (sA (sA (sA (sA (sI μ 0 (nI 0)) 0 (tn + 0) (nI (by4 x 0))) 0 (tn + 1) (nI (by4 x 1))) 0 (tn + 2) (nI (by4 x 2))) 0 (tn + 3) (nI (by4 x 3))) 2 (nI (tn + 4))) 0 i = nI (txS tx tn x i)
      simp only [gA_sI, gA_sA, if_true]
      unfold txS
      by_cases h3 : i = tn + 3
      · subst h3; rw [if_pos rfl, if_pos (by omega), show tn + 3 - tn = 3 by omega]
      by_cases h2 : i = tn + 2
      · subst h2; rw [if_neg h3, if_pos rfl, if_pos (by omega), show tn + 2 - tn = 2 by omega]
      by_cases h1 : i = tn + 1
      · subst h1; rw [if_neg h3, if_neg h2, if_pos rfl, if_pos (by omega), show tn + 1 - tn = 1 by omega]
      by_cases h0' : i = tn + 0
      · rw [if_neg h3, if_neg h2, if_neg h1, if_pos h0', if_pos (by omega), show i - tn = 0 by omega]
      rw [if_neg h3, if_neg h2, if_neg h1, if_neg h0', if_neg (by omega)]
      exact b6 i (show i < tn by omega)
  · exact ⟨-1, σ, _, by unfold X_sign; rw [g4, nI_add, if_neg (nI_ge (by omega) (by omega))], by unfold M_sign; rw [m2, if_neg (nI_ge (by omega) (by omega))], h0⟩
