set_option maxRecDepth 100000
/-! groupings, the neutral one -/
def badT (T : Nat → Nat → Nat) (a b c : Nat) : Prop := T (T a b) c ≠ T a (T b c)
/-- the table, as both have it -/
def TF (f : Nat → Int32) (T : Nat → Nat → Nat) (n : Nat) : Prop := ∀ i k, i < n → k < n → f (5 * i + k) = nI (T i k) ∧ T i k < n
def TG (μ : MS) (T : Nat → Nat → Nat) (n : Nat) : Prop := gI μ 10 = nI n ∧ ∀ i k, i < n → k < n → gA μ 9 (n * i + k) = nI (T i k) ∧ T i k < n
theorem n25 {n i k : Nat} (hn : n ≤ 5) (hi : i < n) (hk : k < n) : n * i + k < 25 := by
  rcases (show n = 1 ∨ n = 2 ∨ n = 3 ∨ n = 4 ∨ n = 5 by omega) with rfl | rfl | rfl | rfl | rfl <;> omega
theorem M_read_ok {μ : MS} {T : Nat → Nat → Nat} {n i k : Nat} (hn : n ≤ 5) (h : TG μ T n) (hi : i < n) (hk : k < n) : M_read (nI i) (nI k) μ = some (nI (T i k), μ) := by
  have := n25 hn hi hk
  unfold M_read
  rw [h.1, pk_mul, nI_add, if_neg (nI_in this (by decide)), nI_clamp (by omega), (h.2 i k hi hk).1]
theorem dec3 {n k : Nat} (hn1 : 1 ≤ n) (hk : k < n * n * n) : k / (n * n) < n ∧ k / n % n < n ∧ k % n < n := by
  refine ⟨?_, Nat.mod_lt _ (by omega), Nat.mod_lt _ (by omega)⟩
  rw [Nat.div_lt_iff_lt_mul (Nat.mul_pos hn1 hn1)]
  rw [Nat.mul_assoc] at hk
  exact hk
def badK (T : Nat → Nat → Nat) (n k : Nat) : Prop := badT T (k / (n * n)) (k / n % n) (k % n)
theorem ung_ok {f : Nat → Int32} {T : Nat → Nat → Nat} {n : Nat} (hn1 : 1 ≤ n) (hn : n ≤ 5) (h : TF f T n) : ∀ (r k : Nat), k + r = n * n * n → (X_ung f n r k = some (-1) ∧ ∀ j, k ≤ j → j < n * n * n → ¬ badK T n j) ∨ ∃ j, k ≤ j ∧ j < n * n * n ∧ X_ung f n r k = some (nI j) ∧ badK T n j ∧ ∀ i, k ≤ i → i < j → ¬ badK T n i := by
  intro r
  induction r with
  | zero =>
    intro k hk
    exact .inl ⟨rfl, fun j h1 h2 => by omega⟩
  | succ r ih =>
    intro k hk
    obtain ⟨ha, hb, hc⟩ := dec3 hn1 (show k < n * n * n by omega)
    have hih := ih (k + 1) (by omega)
    have hstep : X_ung f n (r + 1) k = if T (T (k / (n * n)) (k / n % n)) (k % n) = T (k / (n * n)) (T (k / n % n) (k % n)) then X_ung f n r (k + 1) else some (nI k) := by
      show (if nI 5 * f (5 * (k / (n * n)) + k / n % n) + nI (k % n) < 0 ∨ 25 ≤ (nI 5 * f (5 * (k / (n * n)) + k / n % n) + nI (k % n)).toNatClampNeg then none else (if nI 5 * nI (k / (n * n)) + f (5 * (k / n % n) + k % n) < 0 ∨ 25 ≤ (nI 5 * nI (k / (n * n)) + f (5 * (k / n % n) + k % n)).toNatClampNeg then none else (if f (nI 5 * f (5 * (k / (n * n)) + k / n % n) + nI (k % n)).toNatClampNeg = f (nI 5 * nI (k / (n * n)) + f (5 * (k / n % n) + k % n)).toNatClampNeg then X_ung f n r (k + 1) else some (nI k)))) = _
      generalize k / (n * n) = a at ha
      generalize k / n % n = b at hb
      generalize k % n = c at hc
      obtain ⟨e1, l1⟩ := h a b ha hb
      obtain ⟨e2, l2⟩ := h b c hb hc
      rw [e1, e2, pk_mul, pk_mul, nI_add, nI_add, if_neg (nI_in (by omega) (by decide)), if_neg (nI_in (by omega) (by decide)), nI_clamp (by omega), nI_clamp (by omega)]
      obtain ⟨e3, l3⟩ := h (T a b) c l1 hc
      obtain ⟨e4, l4⟩ := h a (T b c) ha l2
      rw [e3, e4]
      by_cases c : T (T a b) c = T a (T b c)
      · rw [if_pos c, if_pos (by rw [c])]
      · rw [if_neg c, if_neg (fun z => c ((nI_eq (by omega) (by omega)).mp z))]
    rw [hstep]
    by_cases c : T (T (k / (n * n)) (k / n % n)) (k % n) = T (k / (n * n)) (T (k / n % n) (k % n))
    · rw [if_pos c]
      have hnk : ¬ badK T n k := fun z => z c
      rcases hih with ⟨q1, q2⟩ | ⟨j, q1, q2, q3, q4, q5⟩
      · exact .inl ⟨q1, fun j h1 h2 => by
          by_cases hh : j = k
          · rw [hh]; exact hnk
          · exact q2 j (by omega) h2⟩
      · exact .inr ⟨j, by omega, q2, q3, q4, fun i h1 h2 => by
          by_cases hh : i = k
          · rw [hh]; exact hnk
          · exact q5 i (by omega) h2⟩
    · rw [if_neg c]
      exact .inr ⟨k, Nat.le_refl _, by omega, rfl, c, fun i h1 h2 => by omega⟩
/-- the twin's search, place by place -/
theorem unl22 {μ : MS} {T : Nat → Nat → Nat} {n a b : Nat} (hn : n ≤ 5) (h : TG μ T n) (ha : a < n) (hb : b < n) (k2 : Int32 → MS → Option (Int32 × MS)) (k12 : Int32 → Int32 → MS → Option (Int32 × MS)) : ∀ (d c f : Nat), c + d = n → d < f → ((∀ c', c ≤ c' → c' < n → ¬ badT T a b c') → M_hasUnlike_22 k2 k12 f (nI a) (nI b) (nI c) μ = k12 (nI a) (nI (b + 1)) μ) ∧ (∀ c0, c ≤ c0 → c0 < n → badT T a b c0 → (∀ c', c ≤ c' → c' < c0 → ¬ badT T a b c') → M_hasUnlike_22 k2 k12 f (nI a) (nI b) (nI c) μ = ((M_enters ((nI a).toInt64) (sI μ 1 (nI 0))).bind fun q5 => ((M_enters ((nI b).toInt64) q5).bind fun q6 => ((M_enters ((nI c0).toInt64) q6).bind fun q7 => some ((nI 1), q7))))) := by
  intro d
  induction d with
  | zero =>
    intro c f hc hf
    obtain ⟨f, rfl⟩ : ∃ z, f = z + 1 := ⟨f - 1, by omega⟩
    refine ⟨fun _ => ?_, fun c0 h1 h2 => by omega⟩
    show (if gI μ 10 ≤ nI c then k12 (nI a) (nI b + nI 1) μ else _) = _
    rw [h.1, if_pos (nI_le (by omega) (by omega)), nI_add]
  | succ d ih =>
    intro c f hc hf
    obtain ⟨f, rfl⟩ : ∃ z, f = z + 1 := ⟨f - 1, by omega⟩
    have hcn : c < n := by omega
    obtain ⟨-, l1⟩ := h.2 a b ha hb
    obtain ⟨-, l2⟩ := h.2 b c hb hcn
    obtain ⟨-, l3⟩ := h.2 (T a b) c l1 hcn
    obtain ⟨-, l4⟩ := h.2 a (T b c) ha l2
    have hst : M_hasUnlike_22 k2 k12 (f + 1) (nI a) (nI b) (nI c) μ = if T (T a b) c = T a (T b c) then M_hasUnlike_22 k2 k12 f (nI a) (nI b) (nI (c + 1)) μ else ((M_enters ((nI a).toInt64) (sI μ 1 (nI 0))).bind fun q5 => ((M_enters ((nI b).toInt64) q5).bind fun q6 => ((M_enters ((nI c).toInt64) q6).bind fun q7 => some ((nI 1), q7)))) := by
      show (if gI μ 10 ≤ nI c then _ else ((M_read (nI a) (nI b) μ).bind fun q1 => ((M_read q1.1 (nI c) q1.2).bind fun q2 => ((M_read (nI b) (nI c) q2.2).bind fun q3 => ((M_read (nI a) q3.1 q3.2).bind fun q4 => (if q2.1 = q4.1 then M_hasUnlike_22 k2 k12 f (nI a) (nI b) (nI c + (nI 1)) q4.2 else ((M_enters ((nI a).toInt64) (sI q4.2 1 (nI 0))).bind fun q5 => ((M_enters ((nI b).toInt64) q5).bind fun q6 => ((M_enters ((nI c).toInt64) q6).bind fun q7 => some ((nI 1), q7)))))))))) = _
      rw [h.1, if_neg (nI_ge (by omega) (by omega)), M_read_ok hn h ha hb, obs, M_read_ok hn h l1 hcn, obs, M_read_ok hn h hb hcn, obs, M_read_ok hn h ha l2, obs, nI_add]
      by_cases e : T (T a b) c = T a (T b c)
      · rw [if_pos e, if_pos (by rw [e])]
      · rw [if_neg e, if_neg (fun z => e ((nI_eq (by omega) (by omega)).mp z))]
    obtain ⟨g1, g2⟩ := ih (c + 1) f (by omega) (by omega)
    rw [hst]
    refine ⟨fun hall => ?_, fun c0 h1 h2 hbad hbef => ?_⟩
    · have e : T (T a b) c = T a (T b c) := Classical.byContradiction fun z => hall c (Nat.le_refl _) hcn z
      rw [if_pos e]
      exact g1 (fun c' h1 h2 => hall c' (by omega) h2)
    · by_cases hh : c0 = c
      · subst hh
        rw [if_neg hbad]
      · have e : T (T a b) c = T a (T b c) := Classical.byContradiction fun z => hbef c (Nat.le_refl _) (by omega) z
        rw [if_pos e]
        exact g2 c0 (by omega) h2 hbad (fun c' h1 h2 => hbef c' (by omega) h2)
theorem unl12 {μ : MS} {T : Nat → Nat → Nat} {n a : Nat} (hn : n ≤ 5) (h : TG μ T n) (ha : a < n) (k2 : Int32 → MS → Option (Int32 × MS)) : ∀ (d b f : Nat), b + d = n → d < f → ((∀ b' c', b ≤ b' → b' < n → c' < n → ¬ badT T a b' c') → M_hasUnlike_12 k2 f (nI a) (nI b) μ = k2 (nI (a + 1)) μ) ∧ (∀ b0 c0, b ≤ b0 → b0 < n → c0 < n → badT T a b0 c0 → (∀ b' c', b ≤ b' → c' < n → (b' < b0 ∨ (b' = b0 ∧ c' < c0)) → ¬ badT T a b' c') → M_hasUnlike_12 k2 f (nI a) (nI b) μ = ((M_enters ((nI a).toInt64) (sI μ 1 (nI 0))).bind fun q5 => ((M_enters ((nI b0).toInt64) q5).bind fun q6 => ((M_enters ((nI c0).toInt64) q6).bind fun q7 => some ((nI 1), q7))))) := by
  intro d
  induction d with
  | zero =>
    intro b f hb hf
    obtain ⟨f, rfl⟩ : ∃ z, f = z + 1 := ⟨f - 1, by omega⟩
    refine ⟨fun _ => ?_, fun b0 c0 h1 h2 => by omega⟩
    show (if gI μ 10 ≤ nI b then k2 (nI a + nI 1) μ else _) = _
    rw [h.1, if_pos (nI_le (by omega) (by omega)), nI_add]
  | succ d ih =>
    intro b f hb hf
    obtain ⟨f, rfl⟩ : ∃ z, f = z + 1 := ⟨f - 1, by omega⟩
    have hst : M_hasUnlike_12 k2 (f + 1) (nI a) (nI b) μ = M_hasUnlike_22 k2 (M_hasUnlike_12 k2 f) FU (nI a) (nI b) (nI 0) μ := by
      show (if gI μ 10 ≤ nI b then _ else _) = _
      rw [h.1, if_neg (nI_ge (by omega) (by omega))]
    obtain ⟨g1, g2⟩ := ih (b + 1) f (by omega) (by omega)
    obtain ⟨u1, u2⟩ := unl22 hn h ha (show b < n by omega) k2 (M_hasUnlike_12 k2 f) n 0 FU (by omega) (by unfold FU; omega)
    rw [hst]
    refine ⟨fun hall => ?_, fun b0 c0 h1 h2 h3 hbad hbef => ?_⟩
    · rw [u1 (fun c' _ hc => hall b c' (Nat.le_refl _) (by omega) hc)]
      exact g1 (fun b' c' q1 q2 q3 => hall b' c' (by omega) q2 q3)
    · by_cases hh : b0 = b
      · subst hh
        exact u2 c0 (Nat.zero_le _) h3 hbad (fun c' _ hc => hbef b0 c' (Nat.le_refl _) (by omega) (.inr ⟨rfl, hc⟩))
      · rw [u1 (fun c' _ hc => hbef b c' (Nat.le_refl _) hc (.inl (by omega)))]
        exact g2 b0 c0 (by omega) h2 h3 hbad (fun b' c' q1 q2 q3 => hbef b' c' (by omega) q2 q3)
theorem unl2 {μ : MS} {T : Nat → Nat → Nat} {n : Nat} (hn : n ≤ 5) (h : TG μ T n) : ∀ (d a f : Nat), a + d = n → d < f → ((∀ a' b' c', a ≤ a' → a' < n → b' < n → c' < n → ¬ badT T a' b' c') → M_hasUnlike_2 f (nI a) μ = some (nI 0, μ)) ∧ (∀ a0 b0 c0, a ≤ a0 → a0 < n → b0 < n → c0 < n → badT T a0 b0 c0 → (∀ a' b' c', a ≤ a' → b' < n → c' < n → (a' < a0 ∨ (a' = a0 ∧ (b' < b0 ∨ (b' = b0 ∧ c' < c0)))) → ¬ badT T a' b' c') → M_hasUnlike_2 f (nI a) μ = ((M_enters ((nI a0).toInt64) (sI μ 1 (nI 0))).bind fun q5 => ((M_enters ((nI b0).toInt64) q5).bind fun q6 => ((M_enters ((nI c0).toInt64) q6).bind fun q7 => some ((nI 1), q7))))) := by
  intro d
  induction d with
  | zero =>
    intro a f ha hf
    obtain ⟨f, rfl⟩ : ∃ z, f = z + 1 := ⟨f - 1, by omega⟩
    refine ⟨fun _ => ?_, fun a0 b0 c0 h1 h2 => by omega⟩
    show (if gI μ 10 ≤ nI a then some (nI 0, μ) else _) = _
    rw [h.1, if_pos (nI_le (by omega) (by omega))]
  | succ d ih =>
    intro a f ha hf
    obtain ⟨f, rfl⟩ : ∃ z, f = z + 1 := ⟨f - 1, by omega⟩
    have hst : M_hasUnlike_2 (f + 1) (nI a) μ = M_hasUnlike_12 (M_hasUnlike_2 f) FU (nI a) (nI 0) μ := by
      show (if gI μ 10 ≤ nI a then _ else _) = _
      rw [h.1, if_neg (nI_ge (by omega) (by omega))]
    obtain ⟨g1, g2⟩ := ih (a + 1) f (by omega) (by omega)
    obtain ⟨u1, u2⟩ := unl12 hn h (show a < n by omega) (M_hasUnlike_2 f) n 0 FU (by omega) (by unfold FU; omega)
    rw [hst]
    refine ⟨fun hall => ?_, fun a0 b0 c0 h1 h2 h3 h4 hbad hbef => ?_⟩
    · rw [u1 (fun b' c' _ q2 q3 => hall a b' c' (Nat.le_refl _) (by omega) q2 q3)]
      exact g1 (fun a' b' c' q1 q2 q3 q4 => hall a' b' c' (by omega) q2 q3 q4)
    · by_cases hh : a0 = a
      · subst hh
        exact u2 b0 c0 (Nat.zero_le _) h3 h4 hbad (fun b' c' _ q2 q3 => hbef a0 b' c' (Nat.le_refl _) (by omega) q2 (.inr ⟨rfl, q3⟩))
      · rw [u1 (fun b' c' _ q2 q3 => hbef a b' c' (Nat.le_refl _) q2 q3 (.inl (by omega)))]
        exact g2 a0 b0 c0 (by omega) h2 h3 h4 hbad (fun a' b' c' q1 q2 q3 q4 => hbef a' b' c' (by omega) q2 q3 q4)
theorem enc3 {n a b c k : Nat} (hn1 : 1 ≤ n) (hn : n ≤ 5) (ha : a < n) (hb : b < n) (hc : c < n) (hk : k = (a * n + b) * n + c) : k < n * n * n ∧ k / (n * n) = a ∧ k / n % n = b ∧ k % n = c := by
  subst hk
  rcases (show n = 1 ∨ n = 2 ∨ n = 3 ∨ n = 4 ∨ n = 5 by omega) with rfl | rfl | rfl | rfl | rfl <;> (simp only [Nat.reduceMul]; omega)
theorem dec3_lt {n a b c j : Nat} (hn1 : 1 ≤ n) (hn : n ≤ 5) (hj : j < n * n * n) (hb : b < n) (hc : c < n) (h : a < j / (n * n) ∨ (a = j / (n * n) ∧ (b < j / n % n ∨ (b = j / n % n ∧ c < j % n)))) : (a * n + b) * n + c < j := by
  rcases (show n = 1 ∨ n = 2 ∨ n = 3 ∨ n = 4 ∨ n = 5 by omega) with rfl | rfl | rfl | rfl | rfl <;> (simp only [Nat.reduceMul] at *; omega)
/-! the neutral one -/
def nbT (T : Nat → Nat → Nat) (e : Nat) : Nat → Bool
  | 0 => true
  | t + 1 => nbT T e t && decide (T e t = t ∧ T t e = t)
def fnU (p : Nat → Bool) : Nat → Nat → Nat
  | e, 0 => e
  | e, d + 1 => if p e = true then e else fnU p (e + 1) d
def mk (n : Nat) (p : Nat → Bool) : Nat → Nat
  | 0 => 2 ^ n - 1
  | t + 1 => if p t = true then mk n p t else bclr (mk n p t) t
def pv (a b c d e : Bool) (i : Nat) : Bool := if i = 0 then a else if i = 1 then b else if i = 2 then c else if i = 3 then d else e
theorem mk_all : ∀ n : Nat, n < 6 → ∀ a b c d e : Bool, mk n (pv a b c d e) n < 32 ∧ bnx (mk n (pv a b c d e) n) = if fnU (pv a b c d e) 0 n = n then -1 else nI (fnU (pv a b c d e) 0 n) := by decide +kernel
theorem bclr_2 : ∀ k : Nat, k < 32 → ∀ i : Nat, i < 5 → bclr (bclr k i) i = bclr k i := by decide +kernel
theorem mk_lt {n : Nat} (hn : n ≤ 5) (p : Nat → Bool) : ∀ t, t ≤ 5 → mk n p t < 32
  | 0, _ => by
    show 2 ^ n - 1 < 32
    have : 2 ^ n ≤ 2 ^ 5 := Nat.pow_le_pow_right (by decide) hn
    omega
  | t + 1, ht => by
    have ih := mk_lt hn p t (by omega)
    unfold mk
    split
    · exact ih
    · exact ((bs_clr t (by omega)).2 _ ih).2
theorem mk_congr {n : Nat} {p q : Nat → Bool} : ∀ t, (∀ i, i < t → p i = q i) → mk n p t = mk n q t
  | 0, _ => rfl
  | t + 1, h => by
    unfold mk
    rw [h t (Nat.lt_succ_self _), mk_congr t (fun i hi => h i (by omega))]
theorem fnU_congr {p q : Nat → Bool} : ∀ d e, (∀ i, e ≤ i → i < e + d → p i = q i) → fnU p e d = fnU q e d
  | 0, _, _ => rfl
  | d + 1, e, h => by
    unfold fnU
    rw [h e (Nat.le_refl _) (by omega), fnU_congr d (e + 1) (fun i h1 h2 => h i (by omega) (by omega))]
theorem mk_fn {n : Nat} (hn : n ≤ 5) (p : Nat → Bool) : bnx (mk n p n) = if fnU p 0 n = n then -1 else nI (fnU p 0 n) := by
  have hp : ∀ i, i < n → p i = pv (p 0) (p 1) (p 2) (p 3) (p 4) i := by
    intro i hi
    rcases (show i = 0 ∨ i = 1 ∨ i = 2 ∨ i = 3 ∨ i = 4 by omega) with rfl | rfl | rfl | rfl | rfl <;> rfl
  rw [mk_congr n hp, fnU_congr n 0 (fun i _ hi => hp i (by omega))]
  exact (mk_all n (by omega) _ _ _ _ _).2
theorem fnU_le (p : Nat → Bool) : ∀ d e, e ≤ fnU p e d ∧ fnU p e d ≤ e + d
  | 0, e => ⟨Nat.le_refl _, Nat.le_refl _⟩
  | d + 1, e => by
    have := fnU_le p d (e + 1)
    unfold fnU
    split <;> omega
theorem fnU_hit (p : Nat → Bool) : ∀ d e, fnU p e d < e + d → p (fnU p e d) = true
  | 0, e, h => absurd h (Nat.lt_irrefl _)
  | d + 1, e, h => by
    unfold fnU at h ⊢
    split
    · next hp => exact hp
    · next hp =>
      rw [if_neg hp] at h
      exact fnU_hit p d (e + 1) (by omega)
theorem nbT_iff {T : Nat → Nat → Nat} {e : Nat} : ∀ t, nbT T e t = true ↔ ∀ a, a < t → T e a = a ∧ T a e = a
  | 0 => ⟨fun _ a h => absurd h (Nat.not_lt_zero _), fun _ => rfl⟩
  | t + 1 => by
    unfold nbT
    rw [Bool.and_eq_true, decide_eq_true_iff, nbT_iff t]
    constructor
    · intro h a ha
      by_cases hh : a = t
      · rw [hh]; exact h.2
      · exact h.1 a (by omega)
    · exact fun h => ⟨fun a ha => h a (by omega), h t (Nat.lt_succ_self _)⟩
theorem neu2_ok {f : Nat → Int32} {T : Nat → Nat → Nat} {n a k0 : Nat} (hn : n ≤ 5) (h : TF f T n) (ha : a < n) (hk : k0 < 32) : ∀ (r b : Nat), b + r = n → X_neu2 f a r b (if nbT T a b = true then k0 else bclr k0 a) = if nbT T a n = true then k0 else bclr k0 a := by
  intro r
  induction r with
  | zero =>
    intro b hb
    have : b = n := by omega
    subst this
    rfl
  | succ r ih =>
    intro b hb
    rw [← ih (b + 1) (by omega)]
    obtain ⟨e1, l1⟩ := h a b ha (by omega)
    obtain ⟨e2, l2⟩ := h b a (by omega) ha
    show X_neu2 f a r (b + 1) (if f (5 * a + b) = nI b then (if f (5 * b + a) = nI b then (if nbT T a b = true then k0 else bclr k0 a) else bclr (if nbT T a b = true then k0 else bclr k0 a) a) else bclr (if nbT T a b = true then k0 else bclr k0 a) a) = _
    congr 1
    have hs : nbT T a (b + 1) = (nbT T a b && decide (T a b = b ∧ T b a = b)) := rfl
    have hclr : bclr (if nbT T a b = true then k0 else bclr k0 a) a = bclr k0 a := by
      split
      · rfl
      · exact bclr_2 k0 hk a (by omega)
    rw [hs, e1, e2, hclr]
    by_cases c1 : T a b = b
    · by_cases c2 : T b a = b
      · rw [if_pos (by rw [c1]), if_pos (by rw [c2]), decide_eq_true (show T a b = b ∧ T b a = b from ⟨c1, c2⟩), Bool.and_true]
      · rw [if_pos (by rw [c1]), if_neg (fun z => c2 ((nI_eq (by omega) (by omega)).mp z)), decide_eq_false (show ¬ (T a b = b ∧ T b a = b) from fun z => c2 z.2), Bool.and_false, if_neg (by decide)]
    · rw [if_neg (fun z => c1 ((nI_eq (by omega) (by omega)).mp z)), decide_eq_false (show ¬ (T a b = b ∧ T b a = b) from fun z => c1 z.1), Bool.and_false, if_neg (by decide)]
theorem neu1_ok {f : Nat → Int32} {T : Nat → Nat → Nat} {n : Nat} (hn : n ≤ 5) (h : TF f T n) : ∀ (r a : Nat), a + r = n → X_neu1 f n r a (mk n (fun e => nbT T e n) a) = mk n (fun e => nbT T e n) n := by
  intro r
  induction r with
  | zero =>
    intro a ha
    have : a = n := by omega
    subst this
    rfl
  | succ r ih =>
    intro a ha
    rw [← ih (a + 1) (by omega)]
    show X_neu1 f n r (a + 1) (X_neu2 f a n 0 (mk n (fun e => nbT T e n) a)) = _
    have := neu2_ok hn h (show a < n by omega) (mk_lt hn (fun e => nbT T e n) a (by omega)) n 0 (by omega)
    rw [if_pos (show nbT T a 0 = true from rfl)] at this
    rw [this]; rfl
theorem neutral_X {f : Nat → Int32} {T : Nat → Nat → Nat} {n : Nat} (hn : n ≤ 5) (h : TF f T n) : X_neutralOf f n = if fnU (fun e => nbT T e n) 0 n = n then -1 else nI (fnU (fun e => nbT T e n) 0 n) := by
  unfold X_neutralOf
  have := neu1_ok hn h n 0 (by omega)
  rw [show mk n (fun e => nbT T e n) 0 = 2 ^ n - 1 from rfl] at this
  rw [this, mk_fn hn]
theorem isNeu_ok {μ : MS} {T : Nat → Nat → Nat} {n e : Nat} (hn : n ≤ 5) (h : TG μ T n) (he : e < n) : ∀ (d a f : Nat), a + d = n → d < f → M_isNeutral_4 f (nI e) (if nbT T e a = true then nI 1 else nI 0) (nI a) μ = some (if nbT T e n = true then nI 1 else nI 0, μ) := by
  intro d
  induction d with
  | zero =>
    intro a f ha hf
    obtain ⟨f, rfl⟩ : ∃ z, f = z + 1 := ⟨f - 1, by omega⟩
    have : a = n := by omega
    subst this
    show (if gI μ 10 ≤ nI a then (if (if nbT T e a = true then nI 1 else nI 0) = 0 ∨ (if nbT T e a = true then nI 1 else nI 0) = 1 then some ((if nbT T e a = true then nI 1 else nI 0), μ) else none) else _) = _
    rw [h.1, if_pos (nI_le (Nat.le_refl _) (by omega)), if_pos]
    split
    · exact .inr rfl
    · exact .inl rfl
  | succ d ih =>
    intro a f ha hf
    obtain ⟨f, rfl⟩ : ∃ z, f = z + 1 := ⟨f - 1, by omega⟩
    have hi := ih (a + 1) f (by omega) (by omega)
    rw [← hi]
    obtain ⟨-, l1⟩ := h.2 e a he (by omega)
    obtain ⟨-, l2⟩ := h.2 a e (by omega) he
    have hs : nbT T e (a + 1) = (nbT T e a && decide (T e a = a ∧ T a e = a)) := rfl
    show (if gI μ 10 ≤ nI a then _ else (if (if nbT T e a = true then nI 1 else nI 0) = 0 then M_isNeutral_4 f (nI e) (nI 0) (nI a + (nI 1)) μ else ((M_read (nI e) (nI a) μ).bind fun q1 => (if q1.1 = nI a then ((M_read (nI a) (nI e) q1.2).bind fun q2 => (if q2.1 = nI a then M_isNeutral_4 f (nI e) (nI 1) (nI a + (nI 1)) q2.2 else M_isNeutral_4 f (nI e) (nI 0) (nI a + (nI 1)) q2.2)) else M_isNeutral_4 f (nI e) (nI 0) (nI a + (nI 1)) q1.2)))) = _
    rw [h.1, if_neg (nI_ge (by omega) (by omega)), M_read_ok hn h he (by omega), obs, M_read_ok hn h (by omega) he, obs, nI_add, hs]
    by_cases c0 : nbT T e a = true
    · rw [c0, Bool.true_and, if_pos rfl, if_neg (show ¬ nI 1 = 0 by decide)]
      by_cases c1 : T e a = a
      · rw [if_pos (show nI (T e a) = nI a by rw [c1])]
        by_cases c2 : T a e = a
        · rw [if_pos (show nI (T a e) = nI a by rw [c2]), if_pos (decide_eq_true ⟨c1, c2⟩)]
        · rw [if_neg (fun z => c2 ((nI_eq (by omega) (by omega)).mp z)), if_neg (fun z => c2 (of_decide_eq_true z).2)]
      · rw [if_neg (fun z => c1 ((nI_eq (by omega) (by omega)).mp z)), if_neg (fun z => c1 (of_decide_eq_true z).1)]
    · have c0 : nbT T e a = false := by rw [Bool.not_eq_true] at c0; exact c0
      rw [c0, Bool.false_and, if_neg (show ¬ (false = true) by decide), if_pos (show nI 0 = 0 from rfl)]
theorem neutral_M {μ : MS} {T : Nat → Nat → Nat} {n : Nat} (hn : n ≤ 5) (h : TG μ T n) : ∀ (d e f : Nat), e + d = n → d < f → M_table_36 f (nI e) μ = M_table_58 (nI (fnU (fun e => nbT T e n) e d)) μ := by
  intro d
  induction d with
  | zero =>
    intro e f he hf
    obtain ⟨f, rfl⟩ : ∃ z, f = z + 1 := ⟨f - 1, by omega⟩
    show (if gI μ 10 ≤ nI e then M_table_58 (nI e) μ else _) = _
    rw [h.1, if_pos (nI_le (by omega) (by omega))]; rfl
  | succ d ih =>
    intro e f he hf
    obtain ⟨f, rfl⟩ : ∃ z, f = z + 1 := ⟨f - 1, by omega⟩
    have hneu : M_isNeutral (nI e) μ = some (if nbT T e n = true then nI 1 else nI 0, μ) := isNeu_ok hn h (show e < n by omega) n 0 FU (by omega) (by unfold FU; omega)
    show (if gI μ 10 ≤ nI e then _ else ((M_isNeutral (nI e) μ).bind fun q4 => (if q4.1 = 0 then M_table_36 f (nI e + (nI 1)) q4.2 else M_table_58 (nI e) q4.2))) = _
    rw [h.1, if_neg (nI_ge (by omega) (by omega)), hneu, obs, nI_add]
    have e2 : fnU (fun e => nbT T e n) e (d + 1) = if nbT T e n = true then e else fnU (fun e => nbT T e n) (e + 1) d := rfl
    rw [e2]
    by_cases c : nbT T e n = true
    · rw [if_pos c, if_neg (show ¬ nI 1 = 0 by decide), if_pos c]
    · rw [if_neg c, if_pos (show nI 0 = 0 from rfl), if_neg c, ih (e + 1) f (by omega) (by omega)]
