set_option maxRecDepth 100000
/-! the table is read -/
theorem sx_48 : ∀ b : Nat, b < 256 → 48 ≤ b → b ≤ 57 → sx b - nI 48 = nI (b - 48) := by decide +kernel
/-- an entry, by its place in the text -/
def TB (b : Nat → Nat) (n r k : Nat) : Nat := b (r * (n + 1) + k) - 48
/-- the twin reads: only where it is, how wide, the row read -/
def MD (μ μ' : MS) : Prop := MU μ μ' ∧ gI μ' 4 = gI μ 4 ∧ (∀ j, j ≠ 9 → gA μ' j = gA μ j)
theorem MD.refl (μ : MS) : MD μ μ := ⟨MU.refl μ, rfl, fun _ _ => rfl⟩
theorem MD.trans {μ μ1 μ2 : MS} (h : MD μ μ1) (g : MD μ1 μ2) : MD μ μ2 := ⟨h.1.trans g.1, g.2.1.trans h.2.1, fun j a => (g.2.2 j a).trans (h.2.2 j a)⟩
theorem MD.i (μ : MS) {k : Nat} (hk : k = 3 ∨ k = 10) (x : Int32) : MD μ (sI μ k x) := ⟨MU.sI μ (by omega) x, by rw [gI_sI, if_neg (by omega)], fun _ _ => rfl⟩
theorem MD.a (μ : MS) (i : Nat) (x : Int32) : MD μ (sA μ 9 i x) := ⟨MU.sA μ (by decide) i x, rfl, fun j h1 => by funext n; rw [gA_sA, if_neg h1]⟩
theorem TM.d {μ μ' : MS} {b : Nat → Nat} {many : Nat} (h : TM μ b many) (q : MD μ μ') : TM μ' b many := ⟨q.2.1.trans h.1, fun i hi => by rw [q.2.2 0 (by decide)]; exact h.2 i hi⟩
theorem wide_ok {t : Nat → Int32} {b : Nat → Nat} {many : Nat} (h : TX t b many) : ∀ (r n f : Nat) (μ : MS), r + n = 5 → r < f → n ≤ many → TM μ b many → gI μ 10 = nI n → ∃ μ', MD μ μ' ∧ gA μ' 9 = gA μ 9 ∧ gI μ' 3 = gI μ 3 ∧ gI μ' 10 = nI (X_rt1 t many r n) ∧ n ≤ X_rt1 t many r n ∧ X_rt1 t many r n ≤ 5 ∧ X_rt1 t many r n ≤ many ∧ M_readsTable_5 f μ = M_readsTable_59 μ' := by
  have h100 := h.1
  intro r
  induction r with
  | zero =>
    intro n f μ hn hf hm hM h10
    obtain ⟨f, rfl⟩ : ∃ z, f = z + 1 := ⟨f - 1, by omega⟩
    have : n = 5 := by omega
    subst this
    refine ⟨μ, MD.refl μ, rfl, rfl, h10, Nat.le_refl _, Nat.le_refl _, hm, ?_⟩
    show (if nI 5 ≤ gI μ 10 then M_readsTable_59 μ else _) = _
    rw [h10, if_pos (nI_le (Nat.le_refl _) (by decide))]
  | succ r ih =>
    intro n f μ hn hf hm hM h10
    obtain ⟨f, rfl⟩ : ∃ z, f = z + 1 := ⟨f - 1, by omega⟩
    have e : X_rt1 t many (r + 1) n = if dgt (ch t many n) 5 = true then X_rt1 t many r (n + 1) else n := rfl
    rw [e]
    by_cases hlt : n < many
    · have hb := h.2.2 n hlt
      have hst : M_readsTable_5 (f + 1) μ = if 48 ≤ b n ∧ b n ≤ 52 then M_readsTable_5 f (sI μ 10 (nI (n + 1))) else M_readsTable_59 μ := by
        show (if nI 5 ≤ gI μ 10 then M_readsTable_59 μ else (if gI μ 4 ≤ gI μ 10 then M_readsTable_59 μ else (if gI μ 10 < 0 ∨ 100 ≤ (gI μ 10).toNatClampNeg then none else ((M_in ((gA μ 0 (gI μ 10).toNatClampNeg).toInt64) (48 : Int64) (52 : Int64)).bind fun q1 => (if q1 = 0 then M_readsTable_59 μ else M_readsTable_5 f (sI μ 10 (gI μ 10 + nI 1))))))) = _
        rw [h10, hM.1, if_neg (nI_ge (by omega) (by decide)), if_neg (nI_ge hlt (by omega)), if_neg (nI_in (by omega) (by decide)), nI_clamp (by omega), hM.2 n hlt, M_in_eq, show (48 : Int64) = lN 48 from rfl, show (52 : Int64) = lN 52 from rfl, X_in_nI (by omega) (by decide) (by decide), obs, nI_add]
        by_cases c : 48 ≤ b n ∧ b n ≤ 52
        · rw [if_pos c, if_pos c, if_neg (show ¬ nI 1 = 0 by decide)]
        · rw [if_neg c, if_neg c, if_pos (show nI 0 = 0 from rfl)]
      rw [hst, ch_in h hlt, dgt_n hb (by decide) (by decide)]
      by_cases c : 48 ≤ b n ∧ b n ≤ 52
      · rw [if_pos c, if_pos (decide_eq_true (by omega))]
        have hq := MD.i μ (k := 10) (by decide) (nI (n + 1))
        obtain ⟨μ', q1, q2, q3, q4, q5, q6, q7, q8⟩ := ih (n + 1) f (sI μ 10 (nI (n + 1))) (by omega) (by omega) (by omega) (hM.d hq) rfl
        exact ⟨μ', hq.trans q1, q2, q3, q4, by omega, q6, q7, q8⟩
      · rw [if_neg c, if_neg (fun z => c (by have := of_decide_eq_true z; omega))]
        exact ⟨μ, MD.refl μ, rfl, rfl, h10, Nat.le_refl _, by omega, hm, rfl⟩
    · rw [ch_out (by omega), dgt_m _ (by decide) (by decide), if_neg (by decide)]
      refine ⟨μ, MD.refl μ, rfl, rfl, h10, Nat.le_refl _, by omega, hm, ?_⟩
      show (if nI 5 ≤ gI μ 10 then M_readsTable_59 μ else (if gI μ 4 ≤ gI μ 10 then M_readsTable_59 μ else _)) = _
      rw [h10, hM.1, if_neg (nI_ge (by omega) (by decide)), if_pos (nI_le (by omega) (by omega))]
/-- one row of the table -/
theorem row_ok {t : Nat → Int32} {b : Nat → Nat} {many n r : Nat} (h : TX t b many) (hn1 : 1 ≤ n) (hn : n ≤ 5) (hr : r < n) (k70 : Int32 → MS → Option (Int32 × MS)) : ∀ (x k s f : Nat) (F : Nat → Int32) (μ : MS), k + x = n → x < f → s ≤ many → TM μ b many → gI μ 3 = nI s → gI μ 10 = nI n → ∃ (μ' : MS) (F' : Nat → Int32), MD μ μ' ∧ gI μ' 10 = nI n ∧ ((∃ a, X_rt3 t many n r x k s F = (F', .inr a) ∧ M_readsTable_95 k70 f (nI r) (nI k) μ = some (nI 0, μ') ∧ gI μ' 3 = nI a ∧ a ≤ many) ∨ (X_rt3 t many n r x k s F = (F', .inl (s + x)) ∧ s + x ≤ many ∧ M_readsTable_95 k70 f (nI r) (nI k) μ = k70 (nI (r + 1)) μ' ∧ gI μ' 3 = nI (s + x) ∧ (∀ i, i < x → 48 ≤ b (s + i) ∧ b (s + i) < 48 + n) ∧ (∀ i, i < x → F' (5 * r + k + i) = nI (b (s + i) - 48) ∧ gA μ' 9 (n * r + k + i) = nI (b (s + i) - 48)) ∧ (∀ j, j < 5 * r + k → F' j = F j) ∧ (∀ j, j < n * r + k → gA μ' 9 j = gA μ 9 j))) := by
  have h100 := h.1
  intro x
  induction x with
  | zero =>
    intro k s f F μ hk hf hs hM h3 h10
    obtain ⟨f, rfl⟩ : ∃ z, f = z + 1 := ⟨f - 1, by omega⟩
    refine ⟨μ, F, MD.refl μ, h10, .inr ⟨rfl, hs, ?_, h3, fun i hi => absurd hi (Nat.not_lt_zero _), fun i hi => absurd hi (Nat.not_lt_zero _), fun _ _ => rfl, fun _ _ => rfl⟩⟩
    show (if gI μ 10 ≤ nI k then k70 (nI r + nI 1) μ else _) = _
    rw [h10, if_pos (nI_le (by omega) (by omega)), nI_add]
  | succ x ih =>
    intro k s f F μ hk hf hs hM h3 h10
    obtain ⟨f, rfl⟩ : ∃ z, f = z + 1 := ⟨f - 1, by omega⟩
    have hdg := M_isDigit_ok h.2.2 h100 hM h3 hs
    have hnr : n * r + k < 25 := by
      have : n * r ≤ 5 * r := Nat.mul_le_mul_right r hn
      have h2 : n * r ≤ n * (n - 1) := Nat.mul_le_mul_left n (by omega)
      have h3 : n * (n - 1) + n = n * n := by
        obtain ⟨m, rfl⟩ : ∃ m, n = m + 1 := ⟨n - 1, by omega⟩
        rw [Nat.add_sub_cancel, Nat.mul_succ]
      have h4 : n * n ≤ 5 * 5 := Nat.mul_le_mul hn hn
      omega
    have hst : M_readsTable_95 k70 (f + 1) (nI r) (nI k) μ = if s < many ∧ 48 ≤ b s ∧ b s < 48 + n then M_readsTable_95 k70 f (nI r) (nI (k + 1)) (sI (sA μ 9 (n * r + k) (nI (b s - 48))) 3 (nI (s + 1))) else some (nI 0, μ) := by
      show (if gI μ 10 ≤ nI k then _ else ((M_isDigit μ).bind fun q3 => (if q3.1 = 0 then some ((nI 0), q3.2) else (if (gI q3.2 3) < 0 ∨ 100 ≤ (gI q3.2 3).toNatClampNeg then none else (if ((gA q3.2 0 (gI q3.2 3).toNatClampNeg) - (nI 48)) < (gI q3.2 10) then (if (gI q3.2 3) < 0 ∨ 100 ≤ (gI q3.2 3).toNatClampNeg then none else (if (((gI q3.2 10) * nI r) + nI k) < 0 ∨ 25 ≤ (((gI q3.2 10) * nI r) + nI k).toNatClampNeg then none else M_readsTable_95 k70 f (nI r) (nI k + (nI 1)) (sI (sA q3.2 9 (((gI q3.2 10) * nI r) + nI k).toNatClampNeg ((gA q3.2 0 (gI q3.2 3).toNatClampNeg) - (nI 48))) 3 ((gI (sA q3.2 9 (((gI q3.2 10) * nI r) + nI k).toNatClampNeg ((gA q3.2 0 (gI q3.2 3).toNatClampNeg) - (nI 48))) 3) + (nI 1))))) else some ((nI 0), q3.2)))))) = _
      rw [h10, if_neg (nI_ge (by omega) (by omega)), hdg, obs]
      by_cases cd : isd b many s = true
      · have cc := of_decide_eq_true cd
        have hc3 : (nI s).toNatClampNeg = s := nI_clamp (by omega)
        have hd3 : ¬ (nI s < 0 ∨ 100 ≤ s) := nI_dn (by omega) (by decide)
        have hcn : (nI (n * r + k)).toNatClampNeg = n * r + k := nI_clamp (by omega)
        have hdn : ¬ (nI (n * r + k) < 0 ∨ 25 ≤ n * r + k) := nI_dn hnr (by decide)
        rw [if_pos cd, if_neg (show ¬ nI 1 = 0 by decide), h3, h10, hc3, if_neg hd3, hM.2 s cc.1, pk_sub (by omega), pk_mul, nI_add, nI_add, hcn, if_neg hd3, if_neg hdn, gI_sA, h3, nI_add]
        by_cases c : b s < 48 + n
        · rw [if_pos ((nI_ltI (by omega) (by omega)).mpr (by omega)), if_pos ⟨cc.1, cc.2.1, c⟩]
        · rw [if_neg (fun z => c (by have := (nI_ltI (by omega) (by omega)).mp z; omega)), if_neg (fun z => c z.2.2)]
      · rw [if_neg cd, if_pos (show nI 0 = 0 from rfl), if_neg (fun z => cd (decide_eq_true ⟨z.1, z.2.1, by omega⟩))]
    have e : X_rt3 t many n r (x + 1) k s F = if dgt (ch t many s) n = true then X_rt3 t many n r x (k + 1) (s + 1) (upd F (5 * r + k) (t s - nI 48)) else (F, .inr s) := rfl
    have hdd : (dgt (ch t many s) n = true) ↔ (s < many ∧ 48 ≤ b s ∧ b s < 48 + n) := by
      by_cases hlt : s < many
      · rw [ch_in h hlt, dgt_n (h.2.2 s hlt) hn1 (by omega), decide_eq_true_iff]
        constructor
        · exact fun z => ⟨hlt, z⟩
        · exact fun z => z.2
      · rw [ch_out (by omega), dgt_m n hn1 (by omega)]
        constructor
        · intro z; exact absurd z (by decide)
        · intro z; exact absurd z.1 hlt
    rw [e, hst]
    by_cases c : s < many ∧ 48 ≤ b s ∧ b s < 48 + n
    · rw [if_pos c, if_pos (hdd.mpr c), h.2.1 s c.1, sx_48 _ (h.2.2 s c.1) c.2.1 (by omega)]
      have hq := (MD.a μ (n * r + k) (nI (b s - 48))).trans (MD.i _ (k := 3) (by decide) (nI (s + 1)))
      obtain ⟨μ', F', q1, q2, q3⟩ := ih (k + 1) (s + 1) f (upd F (5 * r + k) (nI (b s - 48))) _ (by omega) (by omega) (by omega) (hM.d hq) rfl h10
      refine ⟨μ', F', hq.trans q1, q2, ?_⟩
      rcases q3 with q3 | ⟨w1, w2, w3, w4, w5, w6, w7, w8⟩
      · exact .inl q3
      · refine .inr ⟨by rw [w1, show s + 1 + x = s + (x + 1) by omega], by omega, w3, by rw [w4, show s + 1 + x = s + (x + 1) by omega], fun i hi => ?_, fun i hi => ?_, fun j hj => ?_, fun j hj => ?_⟩
        · cases i with
          | zero => exact c.2
          | succ i => rw [show s + (i + 1) = s + 1 + i by omega]; exact w5 i (by omega)
        · cases i with
          | zero =>
            refine ⟨?_, ?_⟩
            · rw [w7 _ (by omega)]; exact if_pos rfl
            · rw [w8 _ (by omega), gA_sI, gA_sA, if_pos rfl, if_pos (by omega)]; rfl
          | succ i =>
            rw [show 5 * r + k + (i + 1) = 5 * r + (k + 1) + i by omega, show n * r + k + (i + 1) = n * r + (k + 1) + i by omega, show s + (i + 1) = s + 1 + i by omega]
            exact w6 i (by omega)
        · rw [w7 j (by omega)]; exact if_neg (by omega)
        · rw [w8 j (by omega), gA_sI, gA_sA, if_pos rfl, if_neg (by omega)]
    · rw [if_neg c, if_neg (fun z => c (hdd.mp z))]
      exact ⟨μ, F, MD.refl μ, h10, .inl ⟨s, rfl, rfl, h3, hs⟩⟩
theorem takesSign_ok {b : Nat → Nat} {many s : Nat} {μ : MS} (hm : many ≤ 100) (hb : ∀ i, i < many → b i < 256) (hs : s ≤ many) (hM : TM μ b many) (h3 : gI μ 3 = nI s) : ∃ μ', MD μ μ' ∧ gA μ' 9 = gA μ 9 ∧ gI μ' 10 = gI μ 10 ∧ ((s < many ∧ b s = 47) → M_takesSign (nI 47) μ = some (nI 1, μ') ∧ gI μ' 3 = nI (s + 1)) ∧ (¬ (s < many ∧ b s = 47) → M_takesSign (nI 47) μ = some (nI 0, μ') ∧ gI μ' 3 = nI s) := by
  have f0 : M_flag (nI 0) = some (nI 0) := rfl
  have f1 : M_flag (nI 1) = some (nI 1) := rfl
  have h28 : M_takesSign_28 μ = some (nI 0, sI μ 3 (nI s)) := by
    unfold M_takesSign_28 M_takesSign_29
    rw [f0, obs, if_pos (by decide), h3, nI_add]; rfl
  have h29 : M_takesSign_29 (nI 1) μ = some (nI 1, sI μ 3 (nI (s + 1))) := by
    unfold M_takesSign_29
    rw [f1, obs, if_pos (by decide), h3, nI_add]
  have hst : M_takesSign (nI 47) μ = if s < many ∧ b s = 47 then M_takesSign_29 (nI 1) μ else M_takesSign_28 μ := by
    unfold M_takesSign
    rw [hM.1, h3]
    by_cases hlt : s < many
    · rw [if_neg (nI_ge hlt (by omega)), if_neg (nI_in (by omega) (by decide)), nI_clamp (by omega), hM.2 s hlt]
      by_cases c : b s = 47
      · rw [if_pos (by rw [c]), if_pos ⟨hlt, c⟩]
      · rw [if_neg (fun z => c ((nI_eq (by have := hb s hlt; omega) (by decide)).mp z)), if_neg (fun z => c z.2)]
    · rw [if_pos (nI_le (by omega) (by omega)), if_neg (fun z => hlt z.1)]
  by_cases c : s < many ∧ b s = 47
  · exact ⟨_, MD.i μ (k := 3) (by decide) (nI (s + 1)), rfl, rfl, fun _ => ⟨by rw [hst, if_pos c, h29], rfl⟩, fun z => absurd c z⟩
  · exact ⟨_, MD.i μ (k := 3) (by decide) (nI s), rfl, rfl, fun z => absurd z c, fun _ => ⟨by rw [hst, if_neg c, h28], rfl⟩⟩
/-- the entries that are read -/
def RDok (F : Nat → Int32) (μ : MS) (b : Nat → Nat) (n r : Nat) : Prop := ∀ i k, i < r → k < n → F (5 * i + k) = nI (TB b n i k) ∧ gA μ 9 (n * i + k) = nI (TB b n i k) ∧ TB b n i k < n
theorem rows_ok {t : Nat → Int32} {b : Nat → Nat} {many n : Nat} (h : TX t b many) (hn1 : 1 ≤ n) (hn : n ≤ 5) : ∀ (x r s f : Nat) (F : Nat → Int32) (μ : MS), r + x = n → x < f → s ≤ many → TM μ b many → gI μ 3 = nI s → gI μ 10 = nI n → (r = 0 ∧ s = 0 ∨ 0 < r ∧ s + 1 = r * (n + 1)) → RDok F μ b n r → ∃ (μ' : MS) (F' : Nat → Int32), MD μ μ' ∧ gI μ' 10 = nI n ∧ ((∃ a, X_rt2 t many n x r s F = (F', .inr a) ∧ M_readsTable_70 f (nI r) μ = some (nI 0, μ') ∧ gI μ' 3 = nI a ∧ a ≤ many) ∨ (∃ s', X_rt2 t many n x r s F = (F', .inl s') ∧ s' ≤ many ∧ M_readsTable_70 f (nI r) μ = some (if s' = many then nI 1 else nI 0, μ') ∧ gI μ' 3 = nI s' ∧ RDok F' μ' b n n)) := by
  have h100 := h.1
  intro x
  induction x with
  | zero =>
    intro r s f F μ hr hf hs hM h3 h10 hrs hF
    obtain ⟨f, rfl⟩ : ∃ z, f = z + 1 := ⟨f - 1, by omega⟩
    have : r = n := by omega
    subst this
    refine ⟨μ, F, MD.refl μ, h10, .inr ⟨s, rfl, hs, ?_, h3, hF⟩⟩
    show (if gI μ 10 ≤ nI r then (if gI μ 3 = gI μ 4 then some (nI 1, μ) else some (nI 0, μ)) else _) = _
    rw [h10, if_pos (nI_le (Nat.le_refl _) (by omega)), h3, hM.1]
    by_cases c : s = many
    · rw [if_pos (by rw [c]), if_pos c]
    · rw [if_neg (fun z => c ((nI_eq (by omega) (by omega)).mp z)), if_neg c]
  | succ x ih =>
    intro r s f F μ hr hf hs hM h3 h10 hrs hF
    obtain ⟨f, rfl⟩ : ∃ z, f = z + 1 := ⟨f - 1, by omega⟩
    -- a row from place s1 on, in a state where the sign was passed
    have key : ∀ (s1 : Nat) (μ1 : MS), s1 ≤ many → s1 = r * (n + 1) → MD μ μ1 → gA μ1 9 = gA μ 9 → gI μ1 3 = nI s1 → gI μ1 10 = nI n → ∃ (μ' : MS) (F' : Nat → Int32), MD μ μ' ∧ gI μ' 10 = nI n ∧ ((∃ a, X_rt4 (X_rt2 t many n x (r + 1)) (X_rt3 t many n r n 0 s1 F) = (F', .inr a) ∧ M_readsTable_93 (M_readsTable_70 f) (nI r) μ1 = some (nI 0, μ') ∧ gI μ' 3 = nI a ∧ a ≤ many) ∨ (∃ s', X_rt4 (X_rt2 t many n x (r + 1)) (X_rt3 t many n r n 0 s1 F) = (F', .inl s') ∧ s' ≤ many ∧ M_readsTable_93 (M_readsTable_70 f) (nI r) μ1 = some (if s' = many then nI 1 else nI 0, μ') ∧ gI μ' 3 = nI s' ∧ RDok F' μ' b n n)) := by
      intro s1 μ1 hs1 hs1r hq h9 h13 h110
      obtain ⟨μ2, F2, q1, q2, q3⟩ := row_ok h hn1 hn (show r < n by omega) (M_readsTable_70 f) n 0 s1 FU F μ1 (by omega) (by unfold FU; omega) hs1 (hM.d hq) h13 h110
      rcases q3 with ⟨a, w1, w2, w3, w4⟩ | ⟨w1, w2, w3, w4, w5, w6, w7, w8⟩
      · exact ⟨μ2, F2, hq.trans q1, q2, .inl ⟨a, by rw [w1]; rfl, w2, w3, w4⟩⟩
      · have hF2 : RDok F2 μ2 b n (r + 1) := by
          intro i k hi hk
          by_cases hir : i = r
          · subst hir
            obtain ⟨y1, y2⟩ := w6 k hk
            obtain ⟨z1, z2⟩ := w5 k hk
            rw [Nat.add_zero] at y1 y2
            unfold TB
            rw [← hs1r]
            exact ⟨y1, y2, by omega⟩
          · obtain ⟨y1, y2, y3⟩ := hF i k (by omega) hk
            have e5 : 5 * i + k < 5 * r := by omega
            have en : n * i + k < n * r := by
              have : n * (i + 1) ≤ n * r := Nat.mul_le_mul_left n (by omega)
              rw [Nat.mul_succ] at this
              omega
            exact ⟨by rw [w7 _ (by omega)]; exact y1, by rw [w8 _ (by omega), h9]; exact y2, y3⟩
        obtain ⟨μ3, F3, p1, p2, p3⟩ := ih (r + 1) (s1 + n) f F2 μ2 (by omega) (by omega) w2 ((hM.d hq).d q1) w4 q2 (.inr ⟨by omega, by rw [Nat.succ_mul]; omega⟩) hF2
        refine ⟨μ3, F3, (hq.trans q1).trans p1, p2, ?_⟩
        have e93 : M_readsTable_93 (M_readsTable_70 f) (nI r) μ1 = M_readsTable_70 f (nI (r + 1)) μ2 := w3
        have e4 : X_rt4 (X_rt2 t many n x (r + 1)) (X_rt3 t many n r n 0 s1 F) = X_rt2 t many n x (r + 1) (s1 + n) F2 := by rw [w1]; rfl
        rw [e93, e4]
        exact p3
    have ex : X_rt2 t many n (x + 1) r s F = if r = 0 then X_rt4 (X_rt2 t many n x (r + 1)) (X_rt3 t many n r n 0 s F) else if ch t many s = nI 47 then X_rt4 (X_rt2 t many n x (r + 1)) (X_rt3 t many n r n 0 (s + 1) F) else (F, .inr s) := rfl
    have em : M_readsTable_70 (f + 1) (nI r) μ = if nI r ≤ 0 then M_readsTable_93 (M_readsTable_70 f) (nI r) μ else ((M_takesSign (nI 47) μ).bind fun q2 => (if q2.1 = 0 then some ((nI 0), q2.2) else M_readsTable_93 (M_readsTable_70 f) (nI r) q2.2)) := by
      show (if gI μ 10 ≤ nI r then _ else _) = _
      rw [h10, if_neg (nI_ge (by omega) (by omega))]
    rw [ex, em]
    rcases hrs with ⟨r0, s0⟩ | ⟨r0, s0⟩
    · rw [if_pos r0, if_pos (by rw [r0]; decide)]
      exact key s μ hs (by rw [s0, r0, Nat.zero_mul]) (MD.refl μ) rfl h3 h10
    · rw [if_neg (by omega), if_neg (nI_nle r0 (by omega))]
      obtain ⟨μ1, q1, q2, q3, q4, q5⟩ := takesSign_ok h100 h.2.2 hs hM h3
      have hch : (ch t many s = nI 47) ↔ (s < many ∧ b s = 47) := by
        by_cases hlt : s < many
        · rw [ch_in h hlt, nI_eq (by have := h.2.2 s hlt; omega) (by decide)]
          exact ⟨fun z => ⟨hlt, z⟩, fun z => z.2⟩
        · rw [ch_out (by omega)]
          exact ⟨fun z => absurd z (by decide), fun z => absurd z.1 hlt⟩
      by_cases c : s < many ∧ b s = 47
      · obtain ⟨w1, w2⟩ := q4 c
        rw [if_pos (hch.mpr c), w1, obs, if_neg (show ¬ nI 1 = 0 by decide)]
        exact key (s + 1) μ1 (by omega) s0 q1 q2 w2 (q3.trans h10)
      · obtain ⟨w1, w2⟩ := q5 c
        rw [if_neg (fun z => c (hch.mp z)), w1, obs, if_pos (show nI 0 = 0 from rfl)]
        exact ⟨μ1, F, q1, q3.trans h10, .inl ⟨s, rfl, rfl, w2, hs⟩⟩
/-- the whole table -/
theorem read_ok {t : Nat → Int32} {b : Nat → Nat} {many : Nat} {μ : MS} (h : TX t b many) (hM : TM μ b many) (h3 : gI μ 3 = nI 0) (F : Nat → Int32) : ∃ (μ' : MS) (F' : Nat → Int32), MD μ μ' ∧ ((∃ a, X_readTable t many F = (F', .inr a) ∧ M_readsTable μ = some (nI 0, μ') ∧ gI μ' 3 = nI a) ∨ (∃ n, 1 ≤ n ∧ n ≤ 5 ∧ X_readTable t many F = (F', .inl n) ∧ M_readsTable μ = some (nI 1, μ') ∧ gI μ' 10 = nI n ∧ RDok F' μ' b n n)) := by
  have h100 := h.1
  have hq := MD.i μ (k := 10) (by decide) (nI 0)
  obtain ⟨μ1, q1, q2, q3, q4, q5, q6, q7, q8⟩ := wide_ok h 5 0 FU (sI μ 10 (nI 0)) rfl (by unfold FU; omega) (Nat.zero_le _) (hM.d hq) rfl
  have e : M_readsTable μ = M_readsTable_59 μ1 := q8
  have q3 : gI μ1 3 = nI 0 := q3.trans h3
  unfold X_readTable
  rw [e]
  generalize X_rt1 t many 5 0 = n at q4 q5 q6 q7
  unfold M_readsTable_59
  rw [q4]
  by_cases hn : n = 0
  · rw [if_pos hn, if_pos (by rw [hn]; rfl)]
    exact ⟨μ1, F, hq.trans q1, .inl ⟨0, rfl, rfl, q3⟩⟩
  · rw [if_neg hn, if_neg (nI_ne0 (by omega) (by omega))]
    obtain ⟨μ2, F2, p1, p2, p3⟩ := rows_ok h (show 1 ≤ n by omega) q6 n 0 0 FU F μ1 (by omega) (by unfold FU; omega) (Nat.zero_le _) ((hM.d hq).d q1) q3 q4 (.inl ⟨rfl, rfl⟩) (fun i k hi _ => absurd hi (Nat.not_lt_zero _))
    refine ⟨μ2, F2, (hq.trans q1).trans p1, ?_⟩
    rcases p3 with ⟨a, w1, w2, w3, w4⟩ | ⟨s', w1, w2, w3, w4, w5⟩
    · exact .inl ⟨a, by rw [w1]; rfl, w2, w3⟩
    · by_cases c : s' = many
      · refine .inr ⟨n, by omega, q6, ?_, by rw [w3, if_pos c], p2, w5⟩
        rw [w1]
        show (if s' < many then _ else _) = _
        rw [if_neg (by omega)]
      · refine .inl ⟨s', ?_, by rw [w3, if_neg c], w4⟩
        rw [w1]
        show (if s' < many then _ else _) = _
        rw [if_pos (by omega)]
