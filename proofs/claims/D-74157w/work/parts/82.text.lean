set_option maxRecDepth 100000
/-! acts are read -/
theorem sx_255 : ∀ b : Nat, b < 256 → sx b &&& nI 255 = nI b := by decide +kernel
theorem ixF_ok : ∀ c : Nat, c < 256 → ((0 ≤ ixF c) ↔ (c = 102 ∨ c = 98 ∨ c = 70 ∨ c = 66 ∨ c = 114)) := by decide +kernel
/-- the text, as the component and as the twin have it -/
def TX (t : Nat → Int32) (b : Nat → Nat) (many : Nat) : Prop := many ≤ 100 ∧ (∀ i, i < many → t i = sx (b i)) ∧ ∀ i, i < many → b i < 256
def TM (μ : MS) (b : Nat → Nat) (many : Nat) : Prop := gI μ 4 = nI many ∧ ∀ i, i < many → gA μ 0 i = nI (b i)
theorem ch_in {t : Nat → Int32} {b : Nat → Nat} {many s : Nat} (h : TX t b many) (hs : s < many) : ch t many s = nI (b s) := by
  unfold ch
  rw [if_neg (by omega), h.2.1 s hs, sx_255 _ (h.2.2 s hs)]
theorem ch_out {t : Nat → Int32} {many s : Nat} (hs : many ≤ s) : ch t many s = -1 := if_pos hs
theorem dgt_n {c n : Nat} (hc : c < 256) (hn1 : 1 ≤ n) (hn : n ≤ 10) : dgt (nI c) n = decide (48 ≤ c ∧ c < 48 + n) := by
  unfold dgt
  rw [nI_add, pk_sub (by omega)]
  refine decide_eq_decide.mpr ?_
  rw [nI_leI (by decide) (by omega), nI_leI (by omega) (by omega)]
  omega
theorem dgt_m (n : Nat) (hn1 : 1 ≤ n) (hn : n ≤ 10) : dgt (-1 : Int32) n = false := by
  unfold dgt
  refine decide_eq_false (fun z => ?_)
  exact absurd z.1 (by decide)
/-- whether a digit is next -/
def isd (b : Nat → Nat) (many s : Nat) : Bool := decide (s < many ∧ 48 ≤ b s ∧ b s ≤ 57)
theorem dgt_isd {t : Nat → Int32} {b : Nat → Nat} {many s : Nat} (h : TX t b many) : dgt (ch t many s) 10 = isd b many s := by
  by_cases hs : s < many
  · rw [ch_in h hs, dgt_n (h.2.2 s hs) (by decide) (by decide)]
    unfold isd
    refine decide_eq_decide.mpr ?_
    omega
  · rw [ch_out (by omega), dgt_m _ (by decide) (by decide)]
    unfold isd
    rw [decide_eq_false (fun z => hs z.1)]
theorem M_isDigit_ok {μ : MS} {b : Nat → Nat} {many s : Nat} (hb : ∀ i, i < many → b i < 256) (hm : many ≤ 100) (h : TM μ b many) (h3 : gI μ 3 = nI s) (hs : s ≤ many) : M_isDigit μ = some (if isd b many s = true then nI 1 else nI 0, μ) := by
  unfold M_isDigit
  rw [h.1, h3]
  by_cases hlt : s < many
  · rw [if_neg (nI_ge hlt (by omega)), if_neg (nI_in (by omega) (by decide)), nI_clamp (by omega), h.2 s hlt]
    have hb := hb s hlt
    rw [M_in_eq, show (48 : Int64) = lN 48 from rfl, show (57 : Int64) = lN 57 from rfl, X_in_nI (by omega) (by decide) (by decide)]
    unfold isd
    by_cases c : 48 ≤ b s ∧ b s ≤ 57
    · rw [if_pos c, if_pos (decide_eq_true ⟨hlt, c⟩)]; rfl
    · rw [if_neg c, if_neg (fun z => c (of_decide_eq_true z).2)]; rfl
  · rw [if_pos (nI_le (by omega) (by omega)), if_neg (fun z => hlt (of_decide_eq_true z).1)]
/-- the twin's reading: only where it is, the acts -/
def MT (μ μ' : MS) : Prop := MU μ μ' ∧ gI μ' 4 = gI μ 4 ∧ (∀ j, j ≠ 10 → j ≠ 11 → gA μ' j = gA μ j)
theorem MT.refl (μ : MS) : MT μ μ := ⟨MU.refl μ, rfl, fun _ _ _ => rfl⟩
theorem MT.trans {μ μ1 μ2 : MS} (h : MT μ μ1) (g : MT μ1 μ2) : MT μ μ2 := ⟨h.1.trans g.1, g.2.1.trans h.2.1, fun j a b => (g.2.2 j a b).trans (h.2.2 j a b)⟩
theorem MT.s3 (μ : MS) (x : Int32) : MT μ (sI μ 3 x) := ⟨MU.sI μ (by decide) x, rfl, fun _ _ _ => rfl⟩
theorem MT.a (μ : MS) {k : Nat} (hk : k = 10 ∨ k = 11) (i : Nat) (x : Int32) : MT μ (sA μ k i x) := ⟨MU.sA μ (by omega) i x, rfl, fun j h1 h2 => by funext n; rw [gA_sA, if_neg (by omega)]⟩
theorem TM.t {μ μ' : MS} {b : Nat → Nat} {many : Nat} (h : TM μ b many) (q : MT μ μ') : TM μ' b many := ⟨q.2.1.trans h.1, fun i hi => by rw [q.2.2 0 (by decide) (by decide)]; exact h.2 i hi⟩
theorem passes_ok {t : Nat → Int32} {b : Nat → Nat} {many : Nat} (h : TX t b many) : ∀ (d s r f : Nat) (μ : MS), s + d = many → d < r → d < f → TM μ b many → gI μ 3 = nI s → ∃ μ', M_passes_0 f μ = some μ' ∧ MT μ μ' ∧ gA μ' = gA μ ∧ gI μ' 3 = nI (X_ra1 t many r s) ∧ s ≤ X_ra1 t many r s ∧ X_ra1 t many r s ≤ many := by
  have h100 := h.1
  intro d
  induction d with
  | zero =>
    intro s r f μ hs hr hf hM h3
    obtain ⟨r, rfl⟩ : ∃ z, r = z + 1 := ⟨r - 1, by omega⟩
    obtain ⟨f, rfl⟩ : ∃ z, f = z + 1 := ⟨f - 1, by omega⟩
    have e : X_ra1 t many (r + 1) s = s := by
      show (if ch t many s = nI 32 then _ else s) = s
      rw [ch_out (by omega), if_neg (by decide)]
    rw [e]
    refine ⟨μ, ?_, MT.refl μ, rfl, h3, Nat.le_refl _, by omega⟩
    show (if gI μ 4 ≤ gI μ 3 then some μ else _) = _
    rw [hM.1, h3, if_pos (nI_le (by omega) (by omega))]
  | succ d ih =>
    intro s r f μ hs hr hf hM h3
    obtain ⟨r, rfl⟩ : ∃ z, r = z + 1 := ⟨r - 1, by omega⟩
    obtain ⟨f, rfl⟩ : ∃ z, f = z + 1 := ⟨f - 1, by omega⟩
    have hb := h.2.2 s (by omega)
    have e : X_ra1 t many (r + 1) s = if nI (b s) = nI 32 then X_ra1 t many r (s + 1) else s := by
      show (if ch t many s = nI 32 then X_ra1 t many r (s + 1) else s) = _
      rw [ch_in h (by omega)]
    have hst : M_passes_0 (f + 1) μ = if nI (b s) = nI 32 then M_passes_0 f (sI μ 3 (nI (s + 1))) else some μ := by
      show (if gI μ 4 ≤ gI μ 3 then some μ else (if gI μ 3 < 0 ∨ 100 ≤ (gI μ 3).toNatClampNeg then none else (if gA μ 0 (gI μ 3).toNatClampNeg = nI 32 then M_passes_0 f (sI μ 3 (gI μ 3 + nI 1)) else some μ))) = _
      rw [hM.1, h3, if_neg (nI_ge (by omega) (by omega)), if_neg (nI_in (by omega) (by decide)), nI_clamp (by omega), hM.2 s (by omega), nI_add]
    rw [e, hst]
    by_cases c : nI (b s) = nI 32
    · rw [if_pos c, if_pos c]
      have hq := MT.s3 μ (nI (s + 1))
      obtain ⟨μ', q1, q2, q3, q4, q5, q6⟩ := ih (s + 1) r f (sI μ 3 (nI (s + 1))) (by omega) (by omega) (by omega) (hM.t hq) rfl
      exact ⟨μ', q1, hq.trans q2, q3, q4, by omega, q6⟩
    · rw [if_neg c, if_neg c]
      exact ⟨μ, rfl, MT.refl μ, rfl, h3, Nat.le_refl _, by omega⟩
/-- the digits of an act -/
theorem digits_ok {t : Nat → Int32} {b : Nat → Nat} {many k : Nat} (h : TX t b many) (hk : k < 100) : ∀ (r d v s f : Nat) (μ : MS), r + d = 4 → r < f → s ≤ many → TM μ b many → gI μ 3 = nI s → v < 10 ^ d → ∃ μ', MT μ μ' ∧ gA μ' 10 = gA μ 10 ∧ (∀ j, j ≠ k → gA μ' 11 j = gA μ 11 j) ∧ ((∃ a, X_ra3 t many r d v s = .inr a ∧ M_readsAct_81 f (nI k) (nI v) (nI d) μ = some (nI 0, μ') ∧ gI μ' 3 = nI a ∧ a ≤ many) ∨ (∃ d' v' s', X_ra3 t many r d v s = .inl (d', v', s') ∧ d ≤ d' ∧ s ≤ s' ∧ s' ≤ many ∧ v' < 10000 ∧ M_readsAct_81 f (nI k) (nI v) (nI d) μ = some (if d' = 0 then nI 0 else nI 1, μ') ∧ gI μ' 3 = nI s' ∧ gA μ' 11 k = nI v')) := by
  have h100 := h.1
  intro r
  induction r with
  | zero =>
    intro d v s f μ hd hf hs hM h3 hv
    obtain ⟨f, rfl⟩ : ∃ z, f = z + 1 := ⟨f - 1, by omega⟩
    have hd : d = 4 := by omega
    subst hd
    have hv : v < 10000 := hv
    have hdg := M_isDigit_ok h.2.2 h100 hM h3 hs
    have hq := MT.a μ (k := 11) (by decide) k (nI v)
    have hdg2 := M_isDigit_ok h.2.2 h100 (hM.t hq) (show gI (sA μ 11 k (nI v)) 3 = nI s from h3) hs
    have h130 : M_readsAct_130 (nI k) (nI v) (nI 4) μ = some (if isd b many s = true then nI 0 else nI 1, sA μ 11 k (nI v)) := by
      unfold M_readsAct_130
      rw [if_neg (nI_in hk (by decide)), if_neg (show ¬ nI 4 ≤ 0 by decide), nI_clamp (by omega), hdg2, obs]
      by_cases c : isd b many s = true
      · rw [if_pos c, if_pos c, if_neg (show ¬ nI 1 = 0 by decide)]
      · rw [if_neg c, if_neg c, if_pos (show nI 0 = 0 from rfl)]
    have hst : M_readsAct_81 (f + 1) (nI k) (nI v) (nI 4) μ = some (if isd b many s = true then nI 0 else nI 1, sA μ 11 k (nI v)) := by
      show ((M_isDigit μ).bind fun q1 => (if q1.1 = 0 then M_readsAct_130 (nI k) (nI v) (nI 4) q1.2 else (if (nI 4) ≤ nI 4 then M_readsAct_130 (nI k) (nI v) (nI 4) q1.2 else _))) = _
      rw [hdg, obs, h130]
      by_cases c : isd b many s = true
      · rw [if_pos c, if_neg (show ¬ nI 1 = 0 by decide), if_pos (nI_le (Nat.le_refl _) (by decide))]
      · rw [if_neg c, if_pos (show nI 0 = 0 from rfl)]
    refine ⟨sA μ 11 k (nI v), hq, by funext n; rw [gA_sA, if_neg (by decide)], fun j hj => by rw [gA_sA, if_pos rfl, if_neg hj], ?_⟩
    rw [hst]
    have e : X_ra3 t many 0 4 v s = if dgt (ch t many s) 10 = true then .inr s else .inl (4, v, s) := rfl
    rw [e, dgt_isd h]
    by_cases c : isd b many s = true
    · rw [if_pos c, if_pos c]
      exact .inl ⟨s, rfl, rfl, h3, hs⟩
    · rw [if_neg c, if_neg c]
      exact .inr ⟨4, v, s, rfl, Nat.le_refl _, Nat.le_refl _, hs, hv, rfl, h3, by rw [gA_sA, if_pos rfl, if_pos rfl]⟩
  | succ r ih =>
    intro d v s f μ hd hf hs hM h3 hv
    obtain ⟨f, rfl⟩ : ∃ z, f = z + 1 := ⟨f - 1, by omega⟩
    have hd3 : d ≤ 3 := by omega
    have hp3 : 10 ^ d ≤ 10 ^ 3 := Nat.pow_le_pow_right (by decide) hd3
    have hdg := M_isDigit_ok h.2.2 h100 hM h3 hs
    have e : X_ra3 t many (r + 1) d v s = if dgt (ch t many s) 10 = true then X_ra3 t many r (d + 1) (10 * v + ((ch t many s).toNatClampNeg - 48)) (s + 1) else .inl (d, v, s) := rfl
    rw [e, dgt_isd h]
    by_cases c : isd b many s = true
    · rw [if_pos c]
      have cc := of_decide_eq_true c
      have hst : M_readsAct_81 (f + 1) (nI k) (nI v) (nI d) μ = M_readsAct_81 f (nI k) (nI (10 * v + (b s - 48))) (nI (d + 1)) (sI μ 3 (nI (s + 1))) := by
        show ((M_isDigit μ).bind fun q1 => (if q1.1 = 0 then _ else (if (nI 4) ≤ nI d then _ else (if (gI q1.2 3) < 0 ∨ 100 ≤ (gI q1.2 3).toNatClampNeg then none else M_readsAct_81 f (nI k) ((((nI 10) * nI v) + (gA q1.2 0 (gI q1.2 3).toNatClampNeg)) - (nI 48)) (nI d + (nI 1)) (sI q1.2 3 ((gI q1.2 3) + (nI 1))))))) = _
        rw [hdg, obs, if_pos c, if_neg (show ¬ nI 1 = 0 by decide), if_neg (nI_ge (by omega) (by decide)), h3, if_neg (nI_in (by omega) (by decide)), nI_clamp (by omega), hM.2 s cc.1, pk_mul, nI_add, pk_sub (by omega), nI_add, nI_add, show 10 * v + b s - 48 = 10 * v + (b s - 48) by omega]
      rw [hst, ch_in h cc.1, nI_clamp (by omega)]
      have hq := MT.s3 μ (nI (s + 1))
      obtain ⟨μ', q1, q2, q3, q4⟩ := ih (d + 1) (10 * v + (b s - 48)) (s + 1) f (sI μ 3 (nI (s + 1))) (by omega) (by omega) (by omega) (hM.t hq) rfl (by rw [Nat.pow_succ]; omega)
      refine ⟨μ', hq.trans q1, q2, q3, ?_⟩
      rcases q4 with q | ⟨d', v', s', w1, w2, w3, w4, w5, w6, w7, w8⟩
      · exact .inl q
      · exact .inr ⟨d', v', s', w1, by omega, by omega, w4, w5, w6, w7, w8⟩
    · rw [if_neg c]
      have hq := MT.a μ (k := 11) (by decide) k (nI v)
      have hdg2 := M_isDigit_ok h.2.2 h100 (hM.t hq) (show gI (sA μ 11 k (nI v)) 3 = nI s from h3) hs
      have hst : M_readsAct_81 (f + 1) (nI k) (nI v) (nI d) μ = some (if d = 0 then nI 0 else nI 1, sA μ 11 k (nI v)) := by
        show ((M_isDigit μ).bind fun q1 => (if q1.1 = 0 then M_readsAct_130 (nI k) (nI v) (nI d) q1.2 else _)) = _
        rw [hdg, obs, if_neg c, if_pos (show nI 0 = 0 from rfl)]
        unfold M_readsAct_130
        rw [if_neg (nI_in hk (by decide)), nI_clamp (by omega), hdg2]
        by_cases c0 : d = 0
        · rw [if_pos c0, if_pos (by rw [c0]; decide)]
        · rw [if_neg c0, if_neg (nI_nle (by omega) (by omega)), obs, if_neg c, if_pos (show nI 0 = 0 from rfl)]
      refine ⟨sA μ 11 k (nI v), hq, by funext n; rw [gA_sA, if_neg (by decide)], fun j hj => by rw [gA_sA, if_pos rfl, if_neg hj], ?_⟩
      rw [hst]
      exact .inr ⟨d, v, s, rfl, Nat.le_refl _, Nat.le_refl _, hs, by omega, rfl, h3, by rw [gA_sA, if_pos rfl, if_pos rfl]⟩
/-- one act is read -/
theorem act_ok {t : Nat → Int32} {b : Nat → Nat} {many s k : Nat} {μ : MS} (h : TX t b many) (hk : k < 100) (hs : s < many) (hM : TM μ b many) (h3 : gI μ 3 = nI s) (K : Nat → List Nat → List Nat ⊕ Nat) (acc : List Nat) : ∃ μ', MT μ μ' ∧ (∀ j, j ≠ k → gA μ' 10 j = gA μ 10 j ∧ gA μ' 11 j = gA μ 11 j) ∧ ((∃ a, X_ra5 K t many s acc (b s) = .inr a ∧ M_readsAct (nI k) μ = some (nI 0, μ') ∧ gI μ' 3 = nI a ∧ a ≤ many) ∨ (∃ v s', X_ra5 K t many s acc (b s) = K s' (acc ++ [b s, v]) ∧ s < s' ∧ s' ≤ many ∧ v ≤ 9999 ∧ (b s = 102 ∨ b s = 98 ∨ b s = 70 ∨ b s = 66 ∨ b s = 114) ∧ M_readsAct (nI k) μ = some (nI 1, μ') ∧ gI μ' 3 = nI s' ∧ gA μ' 10 k = nI (b s) ∧ ((b s = 102 ∨ b s = 98) → gA μ' 11 k = nI v))) := by
  have h100 := h.1
  have hb := h.2.2 s hs
  have heq : ∀ c : Nat, c < 256 → ((nI (b s) = nI c) ↔ b s = c) := fun c hc => nI_eq (by omega) (by omega)
  have hqa := (MT.s3 μ (nI (s + 1))).trans (MT.a (sI μ 3 (nI (s + 1))) (k := 10) (by decide) k (nI (b s)))
  have h52 : ∀ x3 : Int32, M_readsAct_52 (nI k) (nI (b s)) x3 μ = if x3 = 0 then some (nI 1, sA (sI μ 3 (nI (s + 1))) 10 k (nI (b s))) else M_readsAct_81 FU (nI k) (nI 0) (nI 0) (sA (sI μ 3 (nI (s + 1))) 10 k (nI (b s))) := by
    intro x3
    unfold M_readsAct_52
    rw [if_neg (nI_in hk (by decide)), nI_clamp (by omega), h3, nI_add]
  have hread : M_readsAct (nI k) μ = if b s = 102 then M_readsAct_52 (nI k) (nI (b s)) (nI 1) μ else if b s = 98 then M_readsAct_52 (nI k) (nI (b s)) (nI 1) μ else if b s = 70 then M_readsAct_52 (nI k) (nI (b s)) (nI 0) μ else if b s = 66 then M_readsAct_52 (nI k) (nI (b s)) (nI 0) μ else if b s = 114 then M_readsAct_52 (nI k) (nI (b s)) (nI 0) μ else some (nI 0, μ) := by
    unfold M_readsAct M_readsAct_22 M_readsAct_27
    rw [h3, if_neg (nI_in (by omega) (by decide)), nI_clamp (by omega), hM.2 s hs, if_neg (show ¬ nI 1 = 0 by decide), if_pos (show nI 0 = 0 from rfl)]
    simp only [heq 102 (by decide), heq 98 (by decide), heq 70 (by decide), heq 66 (by decide), heq 114 (by decide)]
  have hput : (b s = 102 ∨ b s = 98) → M_readsAct (nI k) μ = M_readsAct_81 FU (nI k) (nI 0) (nI 0) (sA (sI μ 3 (nI (s + 1))) 10 k (nI (b s))) := by
    intro hc
    rw [hread]
    rcases hc with hc | hc
    · rw [if_pos hc, h52, if_neg (show ¬ nI 1 = 0 by decide)]
    · rw [if_neg (by omega), if_pos hc, h52, if_neg (show ¬ nI 1 = 0 by decide)]
  have hact : (b s = 70 ∨ b s = 66 ∨ b s = 114) → M_readsAct (nI k) μ = some (nI 1, sA (sI μ 3 (nI (s + 1))) 10 k (nI (b s))) := by
    intro hc
    rw [hread, if_neg (by omega), if_neg (by omega)]
    rcases hc with hc | hc | hc
    · rw [if_pos hc, h52, if_pos (show nI 0 = 0 from rfl)]
    · rw [if_neg (by omega), if_pos hc, h52, if_pos (show nI 0 = 0 from rfl)]
    · rw [if_neg (by omega), if_neg (by omega), if_pos hc, h52, if_pos (show nI 0 = 0 from rfl)]
  by_cases c : b s = 102 ∨ b s = 98 ∨ b s = 70 ∨ b s = 66 ∨ b s = 114
  · have hix := (ixF_ok _ hb).mpr c
    by_cases cp : b s = 102 ∨ b s = 98
    · have e : X_ra5 K t many s acc (b s) = X_ra6 K (b s) acc (X_ra3 t many 4 0 0 (s + 1)) := by
        unfold X_ra5
        rw [if_pos hix, if_pos cp]
      rw [e, hput cp]
      obtain ⟨μ', q1, q2, q3, q4⟩ := digits_ok h hk 4 0 0 (s + 1) FU _ rfl (by unfold FU; omega) (by omega) (hM.t hqa) rfl (by decide)
      refine ⟨μ', hqa.trans q1, fun j hj => ⟨?_, ?_⟩, ?_⟩
      · rw [q2, gA_sA, if_pos rfl, if_neg hj]; rfl
      · rw [q3 j hj, gA_sA, if_neg (by decide)]; rfl
      · rcases q4 with ⟨a, w1, w2, w3, w4⟩ | ⟨d', v', s', w1, w2, w3, w4, w5, w6, w7, w8⟩
        · exact .inl ⟨a, by rw [w1]; rfl, w2, w3, w4⟩
        · rw [w1, w6]
          by_cases cd : d' = 0
          · exact .inl ⟨s', by show (if d' = 0 then _ else _) = _; rw [if_pos cd], by rw [if_pos cd], w7, w4⟩
          · exact .inr ⟨v', s', by show (if d' = 0 then _ else _) = _; rw [if_neg cd], by omega, w4, by omega, c, by rw [if_neg cd], w7, by rw [q2, gA_sA, if_pos rfl, if_pos rfl], fun _ => w8⟩
    · have e : X_ra5 K t many s acc (b s) = K (s + 1) (acc ++ [b s, 0]) := by
        unfold X_ra5
        rw [if_pos hix, if_neg cp]
      rw [e, hact (by omega)]
      refine ⟨_, hqa, fun j hj => ⟨?_, rfl⟩, .inr ⟨0, s + 1, rfl, by omega, by omega, by decide, c, rfl, rfl, ?_, fun z => absurd z cp⟩⟩
      · rw [gA_sA, if_pos rfl, if_neg hj]; rfl
      · rw [gA_sA, if_pos rfl, if_pos rfl]
  · have e : X_ra5 K t many s acc (b s) = .inr s := by
      unfold X_ra5
      rw [if_neg (fun z => c ((ixF_ok _ hb).mp z))]
    rw [e, hread, if_neg (by omega), if_neg (by omega), if_neg (by omega), if_neg (by omega), if_neg (by omega)]
    exact ⟨μ, MT.refl μ, fun j _ => ⟨rfl, rfl⟩, .inl ⟨s, rfl, rfl, h3, by omega⟩⟩
/-- acts as both have them -/
def actsM (μ : MS) (ps : List (Nat × Nat)) : Prop := ∀ j, j < ps.length → gA μ 10 j = nI (ps.getD j (0, 0)).1 ∧ (((ps.getD j (0, 0)).1 = 102 ∨ (ps.getD j (0, 0)).1 = 98) → gA μ 11 j = nI (ps.getD j (0, 0)).2)
def flatP (ps : List (Nat × Nat)) : List Nat := ps.flatMap fun p => [p.1, p.2]
def okP (ps : List (Nat × Nat)) : Prop := ∀ p ∈ ps, (p.1 = 102 ∨ p.1 = 98 ∨ p.1 = 70 ∨ p.1 = 66 ∨ p.1 = 114) ∧ p.2 ≤ 9999
theorem flatP_snoc (ps : List (Nat × Nat)) (c v : Nat) : flatP (ps ++ [(c, v)]) = flatP ps ++ [c, v] := by unfold flatP; rw [List.flatMap_append]; rfl
theorem actsM_snoc {μ μ' : MS} {ps : List (Nat × Nat)} {c v : Nat} (h : actsM μ ps) (hk : ∀ j, j ≠ ps.length → gA μ' 10 j = gA μ 10 j ∧ gA μ' 11 j = gA μ 11 j) (h1 : gA μ' 10 ps.length = nI c) (h2 : (c = 102 ∨ c = 98) → gA μ' 11 ps.length = nI v) : actsM μ' (ps ++ [(c, v)]) := by
  intro j hj
  rw [List.length_append] at hj
  have hj : j < ps.length + 1 := hj
  by_cases hh : j = ps.length
  · subst hh
    have e : (ps ++ [(c, v)]).getD ps.length (0, 0) = (c, v) := by
      rw [List.getD_eq_getElem?_getD, List.getElem?_append_right (Nat.le_refl _), Nat.sub_self]; rfl
    rw [e]; exact ⟨h1, h2⟩
  · have e : (ps ++ [(c, v)]).getD j (0, 0) = ps.getD j (0, 0) := by
      rw [List.getD_eq_getElem?_getD, List.getElem?_append_left (by omega), List.getD_eq_getElem?_getD]
    rw [e, (hk j hh).1, (hk j hh).2]; exact h j (by omega)
theorem actsM_same {μ μ' : MS} {ps : List (Nat × Nat)} (h : actsM μ ps) (h1 : gA μ' 10 = gA μ 10) (h2 : gA μ' 11 = gA μ 11) : actsM μ' ps := fun j hj => by rw [h1, h2]; exact h j hj
/-- all acts are read -/
theorem acts_ok {t : Nat → Int32} {b : Nat → Nat} {many l : Nat} (h : TX t b many) : ∀ (d s r f : Nat) (ps : List (Nat × Nat)) (μ : MS), X_ra1 t many (many + 1) s + d = many → d < r → d < f → s ≤ many → ps.length ≤ s → TM μ b many → gI μ 3 = nI (X_ra1 t many (many + 1) s) → s ≤ X_ra1 t many (many + 1) s → actsM μ ps → okP ps → ∃ μ', MT μ μ' ∧ ((∃ a, X_ra4 t many r s (flatP ps) = .inr a ∧ M_run_24 f (nI l) (nI ps.length) μ = some ((-21 : Int32) - nI a, μ')) ∨ (∃ ps', X_ra4 t many r s (flatP ps) = .inl (flatP ps') ∧ okP ps' ∧ actsM μ' ps' ∧ ps'.length ≤ 100 ∧ M_run_24 f (nI l) (nI ps.length) μ = M_run_69 FU (nI l) (nI ps'.length) (gI μ' 8) (nI 0) μ')) := by
  have h100 := h.1
  intro d
  induction d using Nat.strongRecOn with
  | ind d ih =>
    intro s r f ps μ hd hr hf hs hps hM h3 hle ha ho
    obtain ⟨r, rfl⟩ : ∃ z, r = z + 1 := ⟨r - 1, by omega⟩
    obtain ⟨f, rfl⟩ : ∃ z, f = z + 1 := ⟨f - 1, by omega⟩
    generalize hs' : X_ra1 t many (many + 1) s = s' at hd h3 hle
    have e : X_ra4 t many (r + 1) s (flatP ps) = if s' = many then .inl (flatP ps) else X_ra5 (X_ra4 t many r) t many s' (flatP ps) (ch t many s').toNatClampNeg := by
      show (if X_ra1 t many (many + 1) s = many then _ else X_ra5 (X_ra4 t many r) t many (X_ra1 t many (many + 1) s) (flatP ps) (ch t many (X_ra1 t many (many + 1) s)).toNatClampNeg) = _
      rw [hs']
    rw [e]
    by_cases hend : s' = many
    · rw [if_pos hend]
      refine ⟨μ, MT.refl μ, .inr ⟨ps, rfl, ho, ha, by omega, ?_⟩⟩
      show (if gI μ 4 ≤ gI μ 3 then M_run_69 FU (nI l) (nI ps.length) (gI μ 8) (nI 0) μ else _) = _
      rw [hM.1, h3, if_pos (nI_le (by omega) (by omega))]
    · rw [if_neg hend, ch_in h (by omega), nI_clamp (by have := h.2.2 s' (by omega); omega)]
      obtain ⟨μ1, a1, a2, a3⟩ := act_ok (k := ps.length) h (by omega) (show s' < many by omega) hM h3 (X_ra4 t many r) (flatP ps)
      have hst : M_run_24 (f + 1) (nI l) (nI ps.length) μ = ((M_readsAct (nI ps.length) μ).bind fun q4 => (if q4.1 = 0 then some (((-21 : Int32) - (gI q4.2 3)), q4.2) else ((M_passes q4.2).bind fun q5 => M_run_24 f (nI l) (nI (ps.length + 1)) q5))) := by
        show (if gI μ 4 ≤ gI μ 3 then _ else ((M_readsAct (nI ps.length) μ).bind fun q4 => (if q4.1 = 0 then some (((-21 : Int32) - (gI q4.2 3)), q4.2) else ((M_passes q4.2).bind fun q5 => M_run_24 f (nI l) (nI ps.length + (nI 1)) q5)))) = _
        rw [hM.1, h3, if_neg (nI_ge (by omega) (by omega)), nI_add]
      rw [hst]
      rcases a3 with ⟨a, w1, w2, w3, w4⟩ | ⟨v, s2, w1, w2, w3, w4, w5, w6, w7, w8, w9⟩
      · refine ⟨μ1, a1, .inl ⟨a, w1, ?_⟩⟩
        rw [w2, obs, if_pos (show nI 0 = 0 from rfl), w3]
      · rw [w1, w6, obs, if_neg (show ¬ nI 1 = 0 by decide), ← flatP_snoc]
        obtain ⟨μ2, p1, p2, p3, p4, p5, p6⟩ := passes_ok h (many - s2) s2 (many + 1) FU μ1 (by omega) (by omega) (by unfold FU; omega) (hM.t a1) w7
        have ha2 : actsM μ2 (ps ++ [(b s', v)]) := actsM_same (actsM_snoc ha a2 w8 w9) (by rw [p3]) (by rw [p3])
        have ho2 : okP (ps ++ [(b s', v)]) := fun p hp => by
          rcases List.mem_append.mp hp with hp | hp
          · exact ho p hp
          · rw [List.mem_singleton.mp hp]; exact ⟨w5, w4⟩
        have hlen : (ps ++ [(b s', v)]).length = ps.length + 1 := by rw [List.length_append]; rfl
        obtain ⟨μ', q1, q2⟩ := ih (many - X_ra1 t many (many + 1) s2) (by omega) s2 r f (ps ++ [(b s', v)]) μ2 (by omega) (by omega) (by omega) w3 (by omega) ((hM.t a1).t p2) p4 p5 ha2 ho2
        rw [hlen] at q2
        refine ⟨μ', (a1.trans p2).trans q1, ?_⟩
        unfold M_passes
        rw [p1, obs]
        exact q2
