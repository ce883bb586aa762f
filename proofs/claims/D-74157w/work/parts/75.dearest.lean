set_option maxRecDepth 100000
/-! dearest -/
/-- what so many takes cost, their ends by bits -/
def dcs : Nat → Nat → Nat → Nat → Nat
  | 0, _, _, _ => 0
  | d + 1, x, a, b => (cst (x % 2) a b).1 + dcs d (x / 2) (cst (x % 2) a b).2.1 (cst (x % 2) a b).2.2
theorem dcs_s (d x a b : Nat) : dcs (d + 1) x a b = (cst (x % 2) a b).1 + dcs d (x / 2) (cst (x % 2) a b).2.1 (cst (x % 2) a b).2.2 := rfl
theorem dcs_le : ∀ d x a b, d ≤ a + b → a + b ≤ 64 → dcs d x a b ≤ 64 * d
  | 0, _, _, _, _, _ => Nat.le_refl _
  | d + 1, x, a, b, h, h64 => by
    rw [dcs_s]
    have h1 := cst_le (x % 2) a b
    have h2 := cst_sum (e := x % 2) (show 0 < a + b by omega)
    have := dcs_le d (x / 2) (cst (x % 2) a b).2.1 (cst (x % 2) a b).2.2 (by omega) (by omega)
    omega
/-- at least as dear, at the same cost the smaller ends -/
def bst (W E W' E' : Nat) : Prop := W' < W ∨ (W' = W ∧ E ≤ E')
theorem bst.refl (W E : Nat) : bst W E W E := .inr ⟨rfl, Nat.le_refl _⟩
theorem bst.trans {a b c d e f : Nat} (h : bst a b c d) (g : bst c d e f) : bst a b e f := by
  rcases h with h | ⟨h1, h2⟩ <;> rcases g with g | ⟨g1, g2⟩
  · exact .inl (by omega)
  · exact .inl (by omega)
  · exact .inl (by omega)
  · exact .inr ⟨by omega, by omega⟩
theorem or_bit : ∀ k : Nat, k < 12 → ∀ e : Nat, e < 2 ^ k → (nI e ||| ((nI 1) <<< (nI k &&& 31))) = nI (e + 2 ^ k) := by decide +kernel
theorem one_shl : ∀ n : Nat, n < 13 → (nI 1 <<< (nI n &&& 31)) = nI (2 ^ n) := by decide +kernel
theorem tries_st {f n k a b c e : Nat} {σ : XS} (hk : k < n) (hn : n ≤ 12) (h0 : 0 < a + b) (h64 : a + b ≤ 64) : X_tries (f + 1) (nI a) (nI b) (nI k) (nI n) (nI c) (nI e) σ = (X_tries f (nI (cst 0 a b).2.1) (nI (cst 0 a b).2.2) (nI (k + 1)) (nI n) (nI (c + (cst 0 a b).1)) (nI e) σ).bind fun q1 => X_tries f (nI (cst 1 a b).2.1) (nI (cst 1 a b).2.2) (nI (k + 1)) (nI n) (nI (c + (cst 1 a b).1)) (nI e ||| (nI 1 <<< (nI k &&& 31))) q1 := by
  have hkn : (nI k = nI n) = False := eq_false (fun z => absurd ((nI_eq (by omega) (by omega)).mp z) (by omega))
  have key : ∀ (o p : Option XS), p = o → (o.bind fun q => some q) = p := fun o p h => by rw [ob_some, h]
  unfold cst
  by_cases ha : a = 0
  · subst ha
    have hb : ¬ b = 0 := by omega
    have hb' : (nI b = 0) = False := eq_false (nI_ne0 (by omega) (by omega))
    have e1 : nI b - nI ((b + 1) / 2) = nI (b - (b + 1) / 2) := pk_sub (by omega)
    have e2 : nI ((b + 1) / 2) - nI 1 = nI ((b + 1) / 2 - 1) := pk_sub (by omega)
    have e3 : nI (b + 1) / nI 2 = nI ((b + 1) / 2) := pk_div (by omega) (by decide) (by decide)
    have e4 : nI b - nI 1 = nI (b - 1) := pk_sub (by omega)
    simp only [X_tries, X_tries_69, X_tries_83, X_tries_99, X_tries_117, X_tries_132, X_tries_149, X_tries_160, X_tries_180, hkn, n00, n10, n20, hb', hb, if_true, if_false, nI_add, e1, e2, e3, e4, Nat.zero_add, ob_some, show ((1 : Nat) = 0) = False from eq_false (by decide)]
  · have ha' : (nI a = 0) = False := eq_false (nI_ne0 (by omega) (by omega))
    have e5 : nI a - nI 1 = nI (a - 1) := pk_sub (by omega)
    by_cases hb : b = 0
    · subst hb
      have e1 : nI a - nI ((a + 1) / 2) = nI (a - (a + 1) / 2) := pk_sub (by omega)
      have e2 : nI ((a + 1) / 2) - nI 1 = nI ((a + 1) / 2 - 1) := pk_sub (by omega)
      have e3 : nI (a + 1) / nI 2 = nI ((a + 1) / 2) := pk_div (by omega) (by decide) (by decide)
      simp only [X_tries, X_tries_69, X_tries_83, X_tries_99, X_tries_117, X_tries_132, X_tries_149, X_tries_160, X_tries_180, hkn, n00, n10, n20, ha', ha, if_true, if_false, nI_add, e1, e2, e3, e5, Nat.add_zero, ob_some, show ((1 : Nat) = 0) = False from eq_false (by decide)]
    · have hb' : (nI b = 0) = False := eq_false (nI_ne0 (by omega) (by omega))
      have e4 : nI b - nI 1 = nI (b - 1) := pk_sub (by omega)
      simp only [X_tries, X_tries_69, X_tries_83, X_tries_99, X_tries_117, X_tries_132, X_tries_149, X_tries_160, X_tries_180, hkn, n00, n10, n20, ha', ha, hb', hb, if_true, if_false, nI_add, e4, e5, ob_some, show ((1 : Nat) = 0) = False from eq_false (by decide)]
theorem tries_ok {n : Nat} (hn : n ≤ 12) : ∀ (d k a b c e f W E : Nat) (σ : XS), k + d = n → d < f → d ≤ a + b → a + b ≤ 64 → e < 2 ^ k → xI σ 7 = nI W → xI σ 8 = nI E → W ≤ 1000 → E ≤ 4096 → c + 64 * d ≤ 1000 → ∃ (σ' : XS) (W' E' : Nat), X_tries f (nI a) (nI b) (nI k) (nI n) (nI c) (nI e) σ = some σ' ∧ (∀ n0, XQ n0 σ σ') ∧ xN σ' = xN σ ∧ xI σ' 7 = nI W' ∧ xI σ' 8 = nI E' ∧ W' ≤ 1000 ∧ E' ≤ 4096 ∧ bst W' E' W E ∧ (∀ x, x < 2 ^ d → bst W' E' (c + dcs d x a b) (e + 2 ^ k * x)) ∧ ((W' = W ∧ E' = E) ∨ ∃ x, x < 2 ^ d ∧ W' = c + dcs d x a b ∧ E' = e + 2 ^ k * x) := by
  intro d
  induction d with
  | zero =>
    intro k a b c e f W E σ hk hf hd h64 he h7 h8 hW hE hc
    obtain ⟨f, rfl⟩ : ∃ z, f = z + 1 := ⟨f - 1, by omega⟩
    have hk : k = n := by omega
    subst hk
    have he2 : 2 ^ k ≤ 2 ^ 12 := Nat.pow_le_pow_right (by decide) hn
    have hst : X_tries (f + 1) (nI a) (nI b) (nI k) (nI k) (nI c) (nI e) σ = if nI c < nI W then some σ else (if nI c = nI W then (if nI e ≤ nI E then some (zI (zI σ 7 (nI c)) 8 (nI e)) else some σ) else some (zI (zI σ 7 (nI c)) 8 (nI e))) := by
      show (if nI k = nI k then (if nI c < xI σ 7 then some σ else (if nI c = xI σ 7 then (if nI e ≤ xI σ 8 then some (zI (zI σ 7 (nI c)) 8 (nI e)) else some σ) else some (zI (zI σ 7 (nI c)) 8 (nI e)))) else _) = _
      rw [if_pos rfl, h7, h8]
    have hold : bst W E c e → ∃ (σ' : XS) (W' E' : Nat), some σ = some σ' ∧ (∀ n0, XQ n0 σ σ') ∧ xN σ' = xN σ ∧ xI σ' 7 = nI W' ∧ xI σ' 8 = nI E' ∧ W' ≤ 1000 ∧ E' ≤ 4096 ∧ bst W' E' W E ∧ (∀ x, x < 2 ^ 0 → bst W' E' (c + dcs 0 x a b) (e + 2 ^ k * x)) ∧ ((W' = W ∧ E' = E) ∨ ∃ x, x < 2 ^ 0 ∧ W' = c + dcs 0 x a b ∧ E' = e + 2 ^ k * x) := by
      intro hb
      refine ⟨σ, W, E, rfl, fun n0 => XQ.refl n0 σ, rfl, h7, h8, hW, hE, bst.refl W E, fun x hx => ?_, .inl ⟨rfl, rfl⟩⟩
      have : x = 0 := by simpa using hx
      subst this
      exact hb
    have hnew : bst c e W E → ∃ (σ' : XS) (W' E' : Nat), some (zI (zI σ 7 (nI c)) 8 (nI e)) = some σ' ∧ (∀ n0, XQ n0 σ σ') ∧ xN σ' = xN σ ∧ xI σ' 7 = nI W' ∧ xI σ' 8 = nI E' ∧ W' ≤ 1000 ∧ E' ≤ 4096 ∧ bst W' E' W E ∧ (∀ x, x < 2 ^ 0 → bst W' E' (c + dcs 0 x a b) (e + 2 ^ k * x)) ∧ ((W' = W ∧ E' = E) ∨ ∃ x, x < 2 ^ 0 ∧ W' = c + dcs 0 x a b ∧ E' = e + 2 ^ k * x) := by
      intro hb
      refine ⟨_, c, e, rfl, fun n0 => (XQ.zI σ (by decide) _).trans (XQ.zI _ (by decide) _), rfl, rfl, rfl, by omega, by omega, hb, fun x hx => ?_, .inr ⟨0, by decide, rfl, rfl⟩⟩
      have : x = 0 := by simpa using hx
      subst this
      exact bst.refl c e
    rw [hst]
    by_cases c1 : c < W
    · rw [if_pos ((nI_ltI (by omega) (by omega)).mpr c1)]
      exact hold (.inl c1)
    · rw [if_neg (fun z => c1 ((nI_ltI (by omega) (by omega)).mp z))]
      by_cases c2 : c = W
      · rw [if_pos (by rw [c2])]
        by_cases c3 : e ≤ E
        · rw [if_pos (nI_le c3 (by omega))]
          exact hnew (.inr ⟨c2.symm, c3⟩)
        · rw [if_neg (nI_ge (by omega) (by omega))]
          exact hold (.inr ⟨c2, by omega⟩)
      · rw [if_neg (fun z => c2 ((nI_eq (by omega) (by omega)).mp z))]
        exact hnew (.inl (by omega))
  | succ d ih =>
    intro k a b c e f W E σ hk hf hd h64 he h7 h8 hW hE hc
    obtain ⟨f, rfl⟩ : ∃ z, f = z + 1 := ⟨f - 1, by omega⟩
    rw [tries_st (by omega) hn (by omega) h64, or_bit k (by omega) e he]
    have l0 := cst_le 0 a b
    have l1 := cst_le 1 a b
    have s0 := cst_sum (e := 0) (show 0 < a + b by omega)
    have s1 := cst_sum (e := 1) (show 0 < a + b by omega)
    have hp : 2 ^ (k + 1) = 2 * 2 ^ k := by rw [Nat.pow_succ]; omega
    have hpd : 2 ^ (d + 1) = 2 * 2 ^ d := by rw [Nat.pow_succ]; omega
    have hk0 : 0 < 2 ^ k := Nat.two_pow_pos k
    obtain ⟨σ1, W1, E1, q1, q2, q3, q4, q5, q6, q7, q8, q9, q10⟩ := ih (k + 1) (cst 0 a b).2.1 (cst 0 a b).2.2 (c + (cst 0 a b).1) e f W E σ (by omega) (by omega) (by omega) (by omega) (by omega) h7 h8 hW hE (by omega)
    obtain ⟨σ2, W2, E2, r1, r2, r3, r4, r5, r6, r7, r8, r9, r10⟩ := ih (k + 1) (cst 1 a b).2.1 (cst 1 a b).2.2 (c + (cst 1 a b).1) (e + 2 ^ k) f W1 E1 σ1 (by omega) (by omega) (by omega) (by omega) (by omega) q4 q5 q6 q7 (by omega)
    have hev : ∀ x, dcs (d + 1) (2 * x) a b = (cst 0 a b).1 + dcs d x (cst 0 a b).2.1 (cst 0 a b).2.2 := fun x => by rw [dcs_s, show 2 * x % 2 = 0 by omega, show 2 * x / 2 = x by omega]
    have hod : ∀ x, dcs (d + 1) (2 * x + 1) a b = (cst 1 a b).1 + dcs d x (cst 1 a b).2.1 (cst 1 a b).2.2 := fun x => by rw [dcs_s, show (2 * x + 1) % 2 = 1 by omega, show (2 * x + 1) / 2 = x by omega]
    have eev : ∀ x, e + 2 ^ k * (2 * x) = e + 2 ^ (k + 1) * x := fun x => by rw [hp, ← Nat.mul_assoc, Nat.mul_comm (2 ^ k) 2]
    have eod : ∀ x, e + 2 ^ k * (2 * x + 1) = e + 2 ^ k + 2 ^ (k + 1) * x := fun x => by rw [hp, Nat.mul_add, ← Nat.mul_assoc, Nat.mul_comm (2 ^ k) 2]; omega
    refine ⟨σ2, W2, E2, by rw [q1, Option.bind_some]; exact r1, fun n0 => (q2 n0).trans (r2 n0), r3.trans q3, r4, r5, r6, r7, r8.trans q8, fun x hx => ?_, ?_⟩
    · rcases Nat.mod_two_eq_zero_or_one x with hm | hm
      · obtain ⟨y, rfl⟩ : ∃ y, x = 2 * y := ⟨x / 2, by omega⟩
        rw [hev, eev, ← Nat.add_assoc]
        exact r8.trans (q9 y (by omega))
      · obtain ⟨y, rfl⟩ : ∃ y, x = 2 * y + 1 := ⟨x / 2, by omega⟩
        rw [hod, eod, ← Nat.add_assoc]
        exact r9 y (by omega)
    · rcases r10 with ⟨z1, z2⟩ | ⟨y, y1, y2, y3⟩
      · rcases q10 with ⟨w1, w2⟩ | ⟨y, y1, y2, y3⟩
        · exact .inl ⟨z1.trans w1, z2.trans w2⟩
        · exact .inr ⟨2 * y, by omega, by rw [z1, y2, hev, Nat.add_assoc], by rw [z2, y3, eev]⟩
      · exact .inr ⟨2 * y + 1, by omega, by rw [y2, hod, Nat.add_assoc], by rw [y3, eod]⟩
theorem M_dear_in {n E : Nat} (hn : n ≤ 12) (hE : E < 2 ^ n) (k46 : Int32 → Int32 → Int32 → Int32 → Int32 → MS → Option (Int32 × MS)) (x1 best most : Int32) : ∀ (d k a b c f : Nat) (μ : MS), k + d = n → d < f → d ≤ a + b → a + b ≤ 64 → gI μ 11 = nI a → gI μ 12 = nI b → ∃ μ', MU μ μ' ∧ M_dearest_65 k46 f x1 (nI n) best most (nI E) (nI c) (nI k) μ = if nI (c + dcs d (E / 2 ^ k) a b) ≤ most then k46 x1 (nI n) best most (nI (E + 1)) μ' else k46 x1 (nI n) (nI E) (nI (c + dcs d (E / 2 ^ k) a b)) (nI (E + 1)) μ' := by
  have hE2 : 2 ^ n ≤ 2 ^ 12 := Nat.pow_le_pow_right (by decide) hn
  intro d
  induction d with
  | zero =>
    intro k a b c f μ hk hf hd h64 g1 g2
    obtain ⟨f, rfl⟩ : ∃ z, f = z + 1 := ⟨f - 1, by omega⟩
    have hk : k = n := by omega
    subst hk
    refine ⟨μ, MU.refl μ, ?_⟩
    show (if nI k ≤ nI k then (if nI c ≤ most then k46 x1 (nI k) best most (nI E + nI 1) μ else k46 x1 (nI k) (nI E) (nI c) (nI E + nI 1) μ) else _) = _
    rw [if_pos (nI_le (Nat.le_refl _) (by omega)), nI_add]; rfl
  | succ d ih =>
    intro k a b c f μ hk hf hd h64 g1 g2
    obtain ⟨f, rfl⟩ : ∃ z, f = z + 1 := ⟨f - 1, by omega⟩
    have he : E / 2 ^ k % 2 < 2 := Nat.mod_lt _ (by decide)
    obtain ⟨μ1, a1, a2, a3, a4⟩ := M_costs_ok he (by omega) h64 g1 g2
    have hs := cst_sum (e := E / 2 ^ k % 2) (show 0 < a + b by omega)
    obtain ⟨μ2, q1, q2⟩ := ih (k + 1) _ _ (c + (cst (E / 2 ^ k % 2) a b).1) f μ1 (by omega) (by omega) (by omega) (by omega) a3 a4
    refine ⟨μ2, a2.trans q1, ?_⟩
    have hdd : E / 2 ^ (k + 1) = E / 2 ^ k / 2 := by rw [Nat.pow_succ, Nat.div_div_eq_div_mul]
    rw [hdd] at q2
    rw [dcs_s, ← Nat.add_assoc, ← q2]
    show (if nI n ≤ nI k then _ else ((M_costs ((nI E >>> (nI k &&& 31)) &&& (nI 1)) μ).bind fun q6 => M_dearest_65 k46 f x1 (nI n) best most (nI E) (nI c + q6.1) (nI k + nI 1) q6.2)) = _
    rw [if_neg (nI_ge (by omega) (by omega)), bit_of (by omega) (by omega), a1, Option.bind_some, nI_add, nI_add]
theorem M_dear_out {ρ : RC} {L : LC} {w l : Nat} {reb : Int32} {Z : ZZ} {n W E0 : Nat} (hl : l < 4) (hn : n ≤ 12) (hns : n ≤ (L l 0).length + (L l 1).length) (h64 : (L l 0).length + (L l 1).length ≤ 64) (hE : E0 < 2 ^ n) (hW : W = dcs n E0 (L l 0).length (L l 1).length) (hB : ∀ x, x < 2 ^ n → bst W E0 (dcs n x (L l 0).length (L l 1).length) x) : ∀ (d t g : Nat) (best most : Int32) (μ : MS), t + d = 2 ^ n → d < g → MR 4 ρ L w reb Z μ → ((t ≤ E0 ∧ (most = -1 ∨ ∃ W', most = nI W' ∧ W' < W)) ∨ (E0 < t ∧ best = nI E0 ∧ most = nI W)) → ∃ μ', M_dearest_46 g (nI l) (nI n) best most (nI t) μ = some (nI W, μ') ∧ MR 4 ρ L w reb (zr Z [(nI E0).toInt64]) μ' := by
  have hE2 : 2 ^ n ≤ 2 ^ 12 := Nat.pow_le_pow_right (by decide) hn
  have hWle := dcs_le n E0 _ _ hns h64
  intro d
  induction d with
  | zero =>
    intro t g best most μ ht hg hM hst
    obtain ⟨g, rfl⟩ : ∃ z, g = z + 1 := ⟨g - 1, by omega⟩
    rcases hst with ⟨q, -⟩ | ⟨-, q2, q3⟩
    · omega
    · subst q2; subst q3
      obtain ⟨e1, e2⟩ := M_enters_ok (M_reset hM) (r := []) (by decide) (nI E0).toInt64
      refine ⟨_, ?_, e2⟩
      show (if ((nI 1) <<< (nI n &&& 31)) ≤ nI t then ((M_enters ((nI E0).toInt64) (sI μ 1 (nI 0))).bind fun q4 => some (nI W, q4)) else _) = _
      rw [one_shl n (by omega), if_pos (nI_le (by omega) (by omega)), e1]; rfl
  | succ d ih =>
    intro t g best most μ ht hg hM hst
    obtain ⟨g, rfl⟩ : ∃ z, g = z + 1 := ⟨g - 1, by omega⟩
    obtain ⟨μ1, b1, b2, b3, b4⟩ := M_begins_ok (show l < 5 by omega) (hM.ln hl)
    obtain ⟨μ2, c1, c2⟩ := M_dear_in hn (show t < 2 ^ n by omega) (M_dearest_46 g) (nI l) best most n 0 _ _ 0 FU μ1 (by omega) (by unfold FU; omega) hns h64 b3 b4
    rw [Nat.pow_zero, Nat.div_one, Nat.zero_add] at c2
    have hM2 := (hM.q b2).q c1
    have hd : M_dearest_46 (g + 1) (nI l) (nI n) best most (nI t) μ = M_dearest_65 (M_dearest_46 g) FU (nI l) (nI n) best most (nI t) (nI 0) (nI 0) μ1 := by
      show (if ((nI 1) <<< (nI n &&& 31)) ≤ nI t then _ else ((M_begins (nI l) μ).bind fun q5 => M_dearest_65 (M_dearest_46 g) FU (nI l) (nI n) best most (nI t) (nI 0) (nI 0) q5)) = _
      rw [one_shl n (by omega), if_neg (nI_ge (by omega) (by omega)), b1, Option.bind_some]
    rw [hd, c2]
    have hBt := hB t (by omega)
    have hct := dcs_le n t _ _ hns h64
    rcases hst with ⟨q1, q2⟩ | ⟨q1, q2, q3⟩
    · by_cases hte : t = E0
      · subst hte
        have hnot : ¬ nI (dcs n t (L l 0).length (L l 1).length) ≤ most := by
          rw [← hW]
          rcases q2 with q2 | ⟨W', q2, q3⟩
          · rw [q2]; intro z
            exact absurd (Int32.le_trans (nI_pos' (show W < 2 ^ 31 by omega)) z) (by decide)
          · rw [q2]; exact nI_ge q3 (by omega)
        rw [if_neg hnot]
        exact ih (t + 1) g _ _ μ2 (by omega) (by omega) hM2 (.inr ⟨by omega, rfl, by rw [← hW]⟩)
      · have hlt : dcs n t (L l 0).length (L l 1).length < W := by
          rcases hBt with h | ⟨h1, h2⟩
          · exact h
          · omega
        split
        · exact ih (t + 1) g _ _ μ2 (by omega) (by omega) hM2 (.inl ⟨by omega, q2⟩)
        · exact ih (t + 1) g _ _ μ2 (by omega) (by omega) hM2 (.inl ⟨by omega, .inr ⟨_, rfl, hlt⟩⟩)
    · have hle : dcs n t (L l 0).length (L l 1).length ≤ W := by
        rcases hBt with h | ⟨h1, h2⟩ <;> omega
      rw [q3, if_pos (nI_le hle (by omega))]
      exact ih (t + 1) g _ _ μ2 (by omega) (by omega) hM2 (.inr ⟨by omega, q2, rfl⟩)
theorem X_dear_run {σ σ1 σ2 : XS} {l n s a b r : Nat} (hl : l < 4) (a1 : X_isLine (nI l) = some (nI 1)) (a2 : X_in (nI n).toInt64 (lN 1) (12 : Int64) = some (nI 1)) (s1 : Xl_size l σ = some (nI s, σ)) (hns : nI n ≤ nI s) (l0 : xA σ (5 + l) 0 = nI a) (l1 : xA σ (5 + l) 1 = nI b) (ht : X_tries TD (nI a) (nI b) (nI 0) (nI n) (nI 0) (nI 0) (zI (zI σ 7 (nI 0)) 8 (nI 4096)) = some σ1) (h8 : xI σ1 8 = nI r) (htl : X_tells (nI r).toInt64 (zI σ1 5 (nI 0)) = some σ2) : X_dearest (nI l) (nI n) σ = some (xI σ2 7, σ2) := by
  have cl : (nI l).toNatClampNeg = l := nI_clamp (by omega)
  have dl : ¬ (nI l < 0 ∨ 4 ≤ l) := by rw [zN_lt0 (by omega), false_or]; omega
  unfold X_dearest
  rw [a1, obs, if_neg (show ¬ nI 1 = 0 by decide), a2, obs, if_neg (show ¬ nI 1 = 0 by decide), if_neg (by rw [cl]; exact dl), cl, s1, obs, if_pos hns, if_neg (e2i (by decide)), if_neg (e2i (by decide)), e2 (by decide), e2 (by decide), show xA (zI (zI σ 7 (nI 0)) 8 (nI 4096)) (5 + l) 0 = nI a from l0, show xA (zI (zI σ 7 (nI 0)) 8 (nI 4096)) (5 + l) 1 = nI b from l1, ht, obs, show xI (zI σ1 5 (nI 0)) 8 = nI r from h8, htl, obs]
theorem is12 (x : Int32) : (X_in x.toInt64 (lN 1) (12 : Int64) = some (nI 0)) ∨ ∃ n : Nat, 1 ≤ n ∧ n ≤ 12 ∧ x = nI n ∧ X_in x.toInt64 (lN 1) (12 : Int64) = some (nI 1) := by
  rcases in_cases x 1 12 (by decide) (by decide) with h | ⟨v, h0, h1, h2, h3⟩
  · exact .inl h
  · exact .inr ⟨v, h0, h1, h2, h3⟩
theorem E_dearest_ok (n : Nat) : E_dearest (RR n) (RR (n + 1)) := by
  intro σ μ x1 x2 h
  have h0 := h.stay (nI 0)
  obtain ⟨ρ, L, w, reb, Z, hR, hL, hZ, hX, hM, hw, hr⟩ := h
  have hM0 := hM.q (MU.sI μ (k := 0) (.inl rfl) (nI 0))
  rcases isL x1 with ⟨a1, b1⟩ | ⟨l, hl, rfl, a1, b1⟩
  · exact ⟨-1, σ, _, by unfold X_dearest; simp only [a1, obs, n10, n00, n20, if_false, if_true, and_self, Nat.reduceAdd, Nat.reduceLeDiff], by unfold M_dearest; simp only [b1, obs, n10, n00, n20, if_false, if_true, and_self, Nat.reduceAdd, Nat.reduceLeDiff], h0⟩
  have cl : (nI l).toNatClampNeg = l := nI_clamp (by omega)
  have dl : ¬ (nI l < 0 ∨ 4 ≤ l) := by rw [zN_lt0 (by omega), false_or]; omega
  rcases is12 x2 with q | ⟨m, hm1, hm, rfl, q⟩
  · exact ⟨-1, σ, _, by unfold X_dearest; simp only [a1, q, obs, n10, n00, n20, if_false, if_true, and_self, Nat.reduceAdd, Nat.reduceLeDiff], by unfold M_dearest; simp only [b1, M_in_eq, q, obs, n10, n00, n20, if_false, if_true, and_self, Nat.reduceAdd, Nat.reduceLeDiff], h0⟩
  have s1 := X_sz hX hl
  have s2 := M_size_ok hM0 (by decide) hl
  have hs64 : szL L l ≤ 64 := hL.2.1 l hl
  have hs' : (L l 0).length + (L l 1).length ≤ 64 := hs64
  by_cases hns : m ≤ szL L l
  · have hns' : m ≤ (L l 0).length + (L l 1).length := hns
    have l0 : xA σ (5 + l) 0 = nI (L l 0).length := (hX.2.2.2.2.2.1 l 0 hl (by decide)).1
    have l1 : xA σ (5 + l) 1 = nI (L l 1).length := (hX.2.2.2.2.2.1 l 1 hl (by decide)).1
    have hqz : XQ (xN σ) σ (zI (zI σ 7 (nI 0)) 8 (nI 4096)) := (XQ.zI σ (by decide) _).trans (XQ.zI _ (by decide) _)
    obtain ⟨σ1, W, E0, t1, t2, t3, t4, t5, t6, t7, t8, t9, t10⟩ := tries_ok hm m 0 (L l 0).length (L l 1).length 0 0 TD 0 4096 (zI (zI σ 7 (nI 0)) 8 (nI 4096)) (by omega) (by show m < 14; omega) hns' hs' (by decide) rfl rfl (by decide) (by decide) (by omega)
    have t9' : ∀ x, x < 2 ^ m → bst W E0 (dcs m x (L l 0).length (L l 1).length) x := fun x hx => by
      have := t9 x hx
      rw [Nat.pow_zero, Nat.one_mul, Nat.zero_add, Nat.zero_add] at this
      exact this
    have hp := Nat.two_pow_pos m
    obtain ⟨hE, hW⟩ : E0 < 2 ^ m ∧ W = dcs m E0 (L l 0).length (L l 1).length := by
      rcases t10 with ⟨z1, z2⟩ | ⟨x, y1, y2, y3⟩
      · have := t9' 0 hp
        rw [z1, z2] at this
        rcases this with h | ⟨-, h⟩
        · omega
        · omega
      · rw [Nat.pow_zero, Nat.one_mul, Nat.zero_add] at y3
        rw [Nat.zero_add] at y2
        rw [y3]; exact ⟨y1, y2⟩
    have hX1 := (hX.q hL hqz).q hL (t2 (xN σ))
    obtain ⟨u1, u2⟩ := X_tells_ok (X_reset hX1) (r := []) (by decide) (nI E0).toInt64
    have hx := X_dear_run hl a1 q s1 (nI_le hns (by omega)) l0 l1 t1 t5 u1
    have hx7 : xI (tlX (zI σ1 5 (nI 0)) [] (nI E0).toInt64) 7 = nI W := t4
    rw [hx7] at hx
    have hE2 : 2 ^ m ≤ 2 ^ 12 := Nat.pow_le_pow_right (by decide) hm
    obtain ⟨μ', k1, k2⟩ := M_dear_out (W := W) (E0 := E0) hl hm hns' hs' hE hW t9' (2 ^ m) 0 FU (nI 0) (-1) (sI μ 0 (nI 0)) (by omega) (by unfold FU; omega) hM0 (.inl ⟨Nat.zero_le _, .inl rfl⟩)
    have hmm : M_dearest (nI l) (nI m) μ = some (nI W, μ') := by
      unfold M_dearest
      rw [b1, obs, if_neg (show ¬ nI 1 = 0 by decide), M_in_eq, q, obs, if_neg (show ¬ nI 1 = 0 by decide), s2, obs, if_pos (nI_le hns (by omega))]
      exact k1
    exact ⟨nI W, _, μ', hx, hmm, RR.fin hR hL hZ hw hr (by show 1 ≤ 128; decide) u2 k2 t3⟩
  · have hq : (nI m ≤ nI (szL L l)) = False := eq_false (nI_ge (by omega) (by omega))
    exact ⟨-2, σ, _, by unfold X_dearest; simp only [a1, cl, dl, q, s1, hq, obs, n10, n00, n20, if_false, if_true, and_self, Nat.reduceAdd, Nat.reduceLeDiff], by unfold M_dearest; simp only [b1, M_in_eq, q, s2, hq, obs, n10, n00, n20, if_false, if_true, and_self, Nat.reduceAdd, Nat.reduceLeDiff], h0⟩
