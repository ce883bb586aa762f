set_option maxRecDepth 100000
/-! THE PURE PART: what both sides compute -/
theorem zN_lt0 {n : Nat} (h : n < 2 ^ 31) : (nI n < 0) = False := eq_false (nI_pos h)
theorem zN_ge0 {n : Nat} (h : n < 2 ^ 31) : (0 ≤ nI n) = True := eq_true (nI_pos' h)
theorem zN_e0 {n : Nat} (h : n < 2 ^ 31) : (nI n = 0) = (n = 0) := propext (nI_eq (b := 0) h (by decide))
theorem zN_e1 {n : Nat} (h : n < 2 ^ 31) : (nI n = 1) = (n = 1) := propext (nI_eq (b := 1) h (by decide))
theorem zN_le0 {n : Nat} (h : n < 2 ^ 31) : (nI n ≤ 0) = (n = 0) := propext ((nI_leI (b := 0) h (by decide)).trans (by omega))
theorem zN_in {c N : Nat} (h : c < 2 ^ 31) : (nI c < 0 ∨ N ≤ (nI c).toNatClampNeg) = (N ≤ c) := by rw [zN_lt0 h, nI_clamp h, false_or]
theorem zN_le {a b : Nat} (ha : a < 2 ^ 31) (hb : b < 2 ^ 31) : (nI a ≤ nI b) = (a ≤ b) := propext (nI_leI ha hb)
theorem zN_lt {a b : Nat} (ha : a < 2 ^ 31) (hb : b < 2 ^ 31) : (nI a < nI b) = (a < b) := propext (nI_ltI ha hb)
theorem zN_eq {a b : Nat} (ha : a < 2 ^ 31) (hb : b < 2 ^ 31) : (nI a = nI b) = (a = b) := propext (nI_eq ha hb)
/-- a number that is looked at: it is out of range, or a small number -/
theorem in_cases (x : Int32) (a b : Nat) (ha : a < 2 ^ 31) (hb : b < 2 ^ 31) : X_in x.toInt64 (lN a) (lN b) = some (nI 0) ∨ ∃ v : Nat, a ≤ v ∧ v ≤ b ∧ x = nI v ∧ X_in x.toInt64 (lN a) (lN b) = some (nI 1) := by
  unfold X_in
  by_cases h1 : lg_cmp x.toInt64 (lN a) < 0
  · left; rw [if_pos h1]
  · by_cases h2 : 0 < lg_cmp x.toInt64 (lN b)
    · left; rw [if_neg h1, if_pos h2]
    · right
      have h3 : lN a ≤ x.toInt64 := Int64.not_lt.mp (fun z => h1 ((lg_cmp_lt _ _).mpr z))
      have h4 : x.toInt64 ≤ lN b := Int64.not_lt.mp (fun z => h2 ((lg_cmp_gt _ _).mpr z))
      rw [Int64.le_iff_toInt_le, Int32.toInt_toInt64, lN_toInt ha] at h3
      rw [Int64.le_iff_toInt_le, Int32.toInt_toInt64, lN_toInt hb] at h4
      have h5 : x = nI x.toInt.toNat := Int32.toInt_inj.mp (by rw [nI_toInt (by omega)]; omega)
      exact ⟨x.toInt.toNat, by omega, by omega, h5, by rw [if_neg h1, if_neg h2]⟩
theorem X_in_nI {v a b : Nat} (hv : v < 2 ^ 31) (ha : a < 2 ^ 31) (hb : b < 2 ^ 31) : X_in (nI v).toInt64 (lN a) (lN b) = some (if a ≤ v ∧ v ≤ b then nI 1 else nI 0) := by
  unfold X_in
  rw [nI_l hv]
  by_cases h1 : v < a
  · rw [if_pos ((lg_cmp_lt _ _).mpr ((lN_lt hv ha).mpr h1)), if_neg (by omega)]
  · rw [if_neg (fun z => h1 ((lN_lt hv ha).mp ((lg_cmp_lt _ _).mp z)))]
    by_cases h2 : b < v
    · rw [if_pos ((lg_cmp_gt _ _).mpr ((lN_lt hb hv).mpr h2)), if_neg (by omega)]
    · rw [if_neg (fun z => h2 ((lN_lt hb hv).mp ((lg_cmp_gt _ _).mp z))), if_pos (by omega)]
/-- a number is asked for its place in a row of n -/
theorem at_cases (x : Int32) (n : Nat) (hn : n < 2 ^ 31) : X_in x.toInt64 (lN 0) (nI n - nI 1).toInt64 = some (nI 0) ∨ ∃ v : Nat, v < n ∧ x = nI v ∧ X_in x.toInt64 (lN 0) (nI n - nI 1).toInt64 = some (nI 1) := by
  cases n with
  | zero =>
    left
    unfold X_in
    by_cases h1 : lg_cmp x.toInt64 (lN 0) < 0
    · rw [if_pos h1]
    · have h3 : lN 0 ≤ x.toInt64 := Int64.not_lt.mp (fun z => h1 ((lg_cmp_lt _ _).mpr z))
      rw [if_neg h1, if_pos ((lg_cmp_gt _ _).mpr (Int64.lt_of_lt_of_le (by decide) h3))]
  | succ n =>
    rw [show nI (n + 1) - nI 1 = nI n from nI_pred n, nI_l (by omega)]
    rcases in_cases x 0 n (by decide) (by omega) with h | ⟨v, -, h1, h2, h3⟩
    · exact .inl h
    · exact .inr ⟨v, by omega, h2, h3⟩
theorem M_in_eq (a b c : Int64) : M_in a b c = X_in a b c := rfl
theorem isI (x : Int32) : (X_isItem x = some (nI 0) ∧ M_isItem x = some (nI 0)) ∨ ∃ v : Nat, v ≤ 9999 ∧ x = nI v ∧ X_isItem x = some (nI 1) ∧ M_isItem x = some (nI 1) := by
  unfold X_isItem M_isItem
  rw [M_in_eq]
  rcases in_cases x 0 9999 (by decide) (by decide) with h | ⟨v, -, h1, h2, h3⟩
  · exact .inl ⟨by rw [show (9999 : Int64) = lN 9999 from rfl, h]; rfl, by rw [show (9999 : Int64) = lN 9999 from rfl, h]; rfl⟩
  · exact .inr ⟨v, h1, h2, by rw [show (9999 : Int64) = lN 9999 from rfl, h3]; rfl, by rw [show (9999 : Int64) = lN 9999 from rfl, h3]; rfl⟩
theorem isL (x : Int32) : (X_isLine x = some (nI 0) ∧ M_isLine x = some (nI 0)) ∨ ∃ v : Nat, v < 4 ∧ x = nI v ∧ X_isLine x = some (nI 1) ∧ M_isLine x = some (nI 1) := by
  unfold X_isLine M_isLine
  rw [M_in_eq]
  rcases in_cases x 0 3 (by decide) (by decide) with h | ⟨v, -, h1, h2, h3⟩
  · exact .inl ⟨by rw [show (3 : Int64) = lN 3 from rfl, h]; rfl, by rw [show (3 : Int64) = lN 3 from rfl, h]; rfl⟩
  · exact .inr ⟨v, by omega, h2, by rw [show (3 : Int64) = lN 3 from rfl, h3]; rfl, by rw [show (3 : Int64) = lN 3 from rfl, h3]; rfl⟩
theorem isE (x : Int32) : (X_isEnd x = some (nI 0) ∧ M_isEnd x = some (nI 0)) ∨ ∃ v : Nat, v < 2 ∧ x = nI v ∧ X_isEnd x = some (nI 1) ∧ M_isEnd x = some (nI 1) := by
  unfold X_isEnd M_isEnd
  rw [M_in_eq]
  rcases in_cases x 0 1 (by decide) (by decide) with h | ⟨v, -, h1, h2, h3⟩
  · exact .inl ⟨by rw [h]; rfl, by rw [h]; rfl⟩
  · exact .inr ⟨v, by omega, h2, by rw [h3]; rfl, by rw [h3]; rfl⟩
theorem va_up2 {α : Type} (f : Nat → Nat → α) (k : Nat) (g : Nat → α) (j n : Nat) : va_up f k g j n = if j = k then g n else f j n := by
  unfold va_up
  by_cases h : j = k
  · rw [if_pos h, if_pos h]
  · rw [if_neg h, if_neg h]
/-! reads of the twin's state -/
theorem gI_sI (σ : MS) (k : Nat) (x : Int32) (j : Nat) : gI (sI σ k x) j = if j = k then x else gI σ j := rfl
theorem gI_sL (σ : MS) (k : Nat) (x : Int64) : gI (sL σ k x) = gI σ := rfl
theorem gI_sA (σ : MS) (k i : Nat) (x : Int32) : gI (sA σ k i x) = gI σ := rfl
theorem gI_sB (σ : MS) (k i : Nat) (x : Int64) : gI (sB σ k i x) = gI σ := rfl
theorem gL_sI (σ : MS) (k : Nat) (x : Int32) : gL (sI σ k x) = gL σ := rfl
theorem gL_sL (σ : MS) (k : Nat) (x : Int64) (j : Nat) : gL (sL σ k x) j = if j = k then x else gL σ j := rfl
theorem gL_sA (σ : MS) (k i : Nat) (x : Int32) : gL (sA σ k i x) = gL σ := rfl
theorem gL_sB (σ : MS) (k i : Nat) (x : Int64) : gL (sB σ k i x) = gL σ := rfl
theorem gA_sI (σ : MS) (k : Nat) (x : Int32) : gA (sI σ k x) = gA σ := rfl
theorem gA_sL (σ : MS) (k : Nat) (x : Int64) : gA (sL σ k x) = gA σ := rfl
theorem gA_sA (σ : MS) (k i : Nat) (x : Int32) (j n : Nat) : gA (sA σ k i x) j n = if j = k then (if n = i then x else gA σ k n) else gA σ j n := va_up2 _ _ _ _ _
theorem gA_sB (σ : MS) (k i : Nat) (x : Int64) : gA (sB σ k i x) = gA σ := rfl
theorem gB_sI (σ : MS) (k : Nat) (x : Int32) : gB (sI σ k x) = gB σ := rfl
theorem gB_sL (σ : MS) (k : Nat) (x : Int64) : gB (sL σ k x) = gB σ := rfl
theorem gB_sA (σ : MS) (k i : Nat) (x : Int32) : gB (sA σ k i x) = gB σ := rfl
theorem gB_sB (σ : MS) (k i : Nat) (x : Int64) (j n : Nat) : gB (sB σ k i x) j n = if j = k then (if n = i then x else gB σ k n) else gB σ j n := va_up2 _ _ _ _ _
/-! reads of the component's state -/
/-- a pair gets two numbers -/
def pq (σ : XS) (i : Nat) (x : Int64 × Int64) : XS := zC σ i (uQ (uP (xC σ i) x.1) x.2)
theorem xI_zI (σ : XS) (k : Nat) (x : Int32) (j : Nat) : xI (zI σ k x) j = if j = k then x else xI σ j := rfl
theorem xI_zL (σ : XS) (k : Nat) (x : Int64) : xI (zL σ k x) = xI σ := rfl
theorem xI_zA (σ : XS) (k i : Nat) (x : Int32) : xI (zA σ k i x) = xI σ := rfl
theorem xI_zB (σ : XS) (k i : Nat) (x : Int64) : xI (zB σ k i x) = xI σ := rfl
theorem xI_zT (σ : XS) (k i : Nat) (x : Option Nat) : xI (zT σ k i x) = xI σ := rfl
theorem xI_pq (σ : XS) (k : Nat) (x : Int64 × Int64) : xI (pq σ k x) = xI σ := rfl
theorem xI_zN (σ : XS) (x : PR) : xI (zN σ x) = xI σ := rfl
theorem xI_zC (σ : XS) (k : Nat) (x : PR) : xI (zC σ k x) = xI σ := rfl
theorem xI_zX (σ : XS) (k : Nat) (x : Nat → Int32) : xI (zX σ k x) = xI σ := rfl
theorem xL_zI (σ : XS) (k : Nat) (x : Int32) : xL (zI σ k x) = xL σ := rfl
theorem xL_zL (σ : XS) (k : Nat) (x : Int64) (j : Nat) : xL (zL σ k x) j = if j = k then x else xL σ j := rfl
theorem xL_zA (σ : XS) (k i : Nat) (x : Int32) : xL (zA σ k i x) = xL σ := rfl
theorem xL_zB (σ : XS) (k i : Nat) (x : Int64) : xL (zB σ k i x) = xL σ := rfl
theorem xL_zT (σ : XS) (k i : Nat) (x : Option Nat) : xL (zT σ k i x) = xL σ := rfl
theorem xL_pq (σ : XS) (k : Nat) (x : Int64 × Int64) : xL (pq σ k x) = xL σ := rfl
theorem xL_zN (σ : XS) (x : PR) : xL (zN σ x) = xL σ := rfl
theorem xL_zC (σ : XS) (k : Nat) (x : PR) : xL (zC σ k x) = xL σ := rfl
theorem xL_zX (σ : XS) (k : Nat) (x : Nat → Int32) : xL (zX σ k x) = xL σ := rfl
theorem xA_zI (σ : XS) (k : Nat) (x : Int32) : xA (zI σ k x) = xA σ := rfl
theorem xA_zL (σ : XS) (k : Nat) (x : Int64) : xA (zL σ k x) = xA σ := rfl
theorem xA_zA (σ : XS) (k i : Nat) (x : Int32) (j n : Nat) : xA (zA σ k i x) j n = if j = k then (if n = i then x else xA σ k n) else xA σ j n := va_up2 _ _ _ _ _
theorem xA_zB (σ : XS) (k i : Nat) (x : Int64) : xA (zB σ k i x) = xA σ := rfl
theorem xA_zT (σ : XS) (k i : Nat) (x : Option Nat) : xA (zT σ k i x) = xA σ := rfl
theorem xA_pq (σ : XS) (k : Nat) (x : Int64 × Int64) : xA (pq σ k x) = xA σ := rfl
theorem xA_zN (σ : XS) (x : PR) : xA (zN σ x) = xA σ := rfl
theorem xA_zC (σ : XS) (k : Nat) (x : PR) : xA (zC σ k x) = xA σ := rfl
theorem xA_zX (σ : XS) (k : Nat) (x : Nat → Int32) (j : Nat) : xA (zX σ k x) j = if j = k then x else xA σ j := rfl
theorem xB_zI (σ : XS) (k : Nat) (x : Int32) : xB (zI σ k x) = xB σ := rfl
theorem xB_zL (σ : XS) (k : Nat) (x : Int64) : xB (zL σ k x) = xB σ := rfl
theorem xB_zA (σ : XS) (k i : Nat) (x : Int32) : xB (zA σ k i x) = xB σ := rfl
theorem xB_zB (σ : XS) (k i : Nat) (x : Int64) (j n : Nat) : xB (zB σ k i x) j n = if j = k then (if n = i then x else xB σ k n) else xB σ j n := va_up2 _ _ _ _ _
theorem xB_zT (σ : XS) (k i : Nat) (x : Option Nat) : xB (zT σ k i x) = xB σ := rfl
theorem xB_pq (σ : XS) (k : Nat) (x : Int64 × Int64) : xB (pq σ k x) = xB σ := rfl
theorem xB_zN (σ : XS) (x : PR) : xB (zN σ x) = xB σ := rfl
theorem xB_zC (σ : XS) (k : Nat) (x : PR) : xB (zC σ k x) = xB σ := rfl
theorem xB_zX (σ : XS) (k : Nat) (x : Nat → Int32) : xB (zX σ k x) = xB σ := rfl
theorem xT_zI (σ : XS) (k : Nat) (x : Int32) : xT (zI σ k x) = xT σ := rfl
theorem xT_zL (σ : XS) (k : Nat) (x : Int64) : xT (zL σ k x) = xT σ := rfl
theorem xT_zA (σ : XS) (k i : Nat) (x : Int32) : xT (zA σ k i x) = xT σ := rfl
theorem xT_zB (σ : XS) (k i : Nat) (x : Int64) : xT (zB σ k i x) = xT σ := rfl
theorem xT_zT (σ : XS) (k i : Nat) (x : Option Nat) (j n : Nat) : xT (zT σ k i x) j n = if j = k then (if n = i then x else xT σ k n) else xT σ j n := va_up2 _ _ _ _ _
theorem xT_pq (σ : XS) (k : Nat) (x : Int64 × Int64) : xT (pq σ k x) = xT σ := rfl
theorem xT_zN (σ : XS) (x : PR) : xT (zN σ x) = xT σ := rfl
theorem xT_zC (σ : XS) (k : Nat) (x : PR) : xT (zC σ k x) = xT σ := rfl
theorem xT_zX (σ : XS) (k : Nat) (x : Nat → Int32) : xT (zX σ k x) = xT σ := rfl
theorem xN_zI (σ : XS) (k : Nat) (x : Int32) : xN (zI σ k x) = xN σ := rfl
theorem xN_zL (σ : XS) (k : Nat) (x : Int64) : xN (zL σ k x) = xN σ := rfl
theorem xN_zA (σ : XS) (k i : Nat) (x : Int32) : xN (zA σ k i x) = xN σ := rfl
theorem xN_zB (σ : XS) (k i : Nat) (x : Int64) : xN (zB σ k i x) = xN σ := rfl
theorem xN_zT (σ : XS) (k i : Nat) (x : Option Nat) : xN (zT σ k i x) = xN σ := rfl
theorem xN_pq (σ : XS) (k : Nat) (x : Int64 × Int64) : xN (pq σ k x) = xN σ := rfl
theorem xN_zN (σ : XS) (x : PR) : xN (zN σ x) = xN σ + 1 := rfl
theorem xN_zC (σ : XS) (k : Nat) (x : PR) : xN (zC σ k x) = xN σ := rfl
theorem xN_zX (σ : XS) (k : Nat) (x : Nat → Int32) : xN (zX σ k x) = xN σ := rfl
theorem xC_zI (σ : XS) (k : Nat) (x : Int32) : xC (zI σ k x) = xC σ := rfl
theorem xC_zL (σ : XS) (k : Nat) (x : Int64) : xC (zL σ k x) = xC σ := rfl
theorem xC_zA (σ : XS) (k i : Nat) (x : Int32) : xC (zA σ k i x) = xC σ := rfl
theorem xC_zB (σ : XS) (k i : Nat) (x : Int64) : xC (zB σ k i x) = xC σ := rfl
theorem xC_zT (σ : XS) (k i : Nat) (x : Option Nat) : xC (zT σ k i x) = xC σ := rfl
theorem xC_pq (σ : XS) (k : Nat) (x : Int64 × Int64) (j : Nat) : xC (pq σ k x) j = if j = k then uQ (uP (xC σ k) x.1) x.2 else xC σ j := rfl
theorem xC_zN (σ : XS) (x : PR) (j : Nat) : xC (zN σ x) j = if j = xN σ then x else xC σ j := rfl
theorem xC_zC (σ : XS) (k : Nat) (x : PR) (j : Nat) : xC (zC σ k x) j = if j = k then x else xC σ j := rfl
theorem xC_zX (σ : XS) (k : Nat) (x : Nat → Int32) : xC (zX σ k x) = xC σ := rfl
theorem Xp_is_pq {σ : XS} {i : Nat} (h : i < xN σ) (a b : Int64) : Xp_is i a b σ = some (pq σ i (a, b)) := by
  unfold Xp_is
  rw [if_pos h, if_pos (show i < xN (zC σ i (uP (xC σ i) a)) from h)]
  refine congrArg some ?_
  unfold pq zC
  show (σ.1, σ.2.1, σ.2.2.1, va_up (va_up σ.2.2.2 i (uP (xC σ i) a)) i _) = _
  rw [bx_uu]
  refine congrArg (fun z => (σ.1, σ.2.1, σ.2.2.1, z)) ?_
  refine congrArg (va_up σ.2.2.2 i) ?_
  show uQ (if i = i then uP (xC σ i) a else xC σ i) b = _
  rw [if_pos rfl]
/-! the rules -/
abbrev VV : Type := Int64 × Int64
/-- a rule: its number, the table's width, the neutral one, the table -/
abbrev RC : Type := Nat × Nat × Nat × (Nat → Nat → Nat)
def ARL : List (List Nat) := [[0, 1, 2, 3], [0, 1, 3, 2], [0, 2, 1, 3], [0, 2, 3, 1], [0, 3, 1, 2], [0, 3, 2, 1], [1, 0, 2, 3], [1, 0, 3, 2], [1, 2, 0, 3], [1, 2, 3, 0], [1, 3, 0, 2], [1, 3, 2, 0], [2, 0, 1, 3], [2, 0, 3, 1], [2, 1, 0, 3], [2, 1, 3, 0], [2, 3, 0, 1], [2, 3, 1, 0], [3, 0, 1, 2], [3, 0, 2, 1], [3, 1, 0, 2], [3, 1, 2, 0], [3, 2, 0, 1], [3, 2, 1, 0]]
def AR (n i : Nat) : Nat := (ARL.getD n []).getD i 0
def LPL : List Nat := [0, 1, 1, 2, 2, 3, 1, 2, 2, 3, 3, 4, 2, 3, 3, 4, 4, 5, 3, 4, 4, 5, 5, 6]
def LPn (n : Nat) : Nat := LPL.getD n 0
def CPL : List (List Nat) := [[0, 1, 2, 3, 4, 5, 6, 7, 8, 9, 10, 11, 12, 13, 14, 15, 16, 17, 18, 19, 20, 21, 22, 23], [1, 0, 3, 2, 5, 4, 7, 6, 9, 8, 11, 10, 13, 12, 15, 14, 17, 16, 19, 18, 21, 20, 23, 22], [2, 4, 0, 5, 1, 3, 8, 10, 6, 11, 7, 9, 14, 16, 12, 17, 13, 15, 20, 22, 18, 23, 19, 21], [3, 5, 1, 4, 0, 2, 9, 11, 7, 10, 6, 8, 15, 17, 13, 16, 12, 14, 21, 23, 19, 22, 18, 20], [4, 2, 5, 0, 3, 1, 10, 8, 11, 6, 9, 7, 16, 14, 17, 12, 15, 13, 22, 20, 23, 18, 21, 19], [5, 3, 4, 1, 2, 0, 11, 9, 10, 7, 8, 6, 17, 15, 16, 13, 14, 12, 23, 21, 22, 19, 20, 18], [6, 7, 12, 13, 18, 19, 0, 1, 14, 15, 20, 21, 2, 3, 8, 9, 22, 23, 4, 5, 10, 11, 16, 17], [7, 6, 13, 12, 19, 18, 1, 0, 15, 14, 21, 20, 3, 2, 9, 8, 23, 22, 5, 4, 11, 10, 17, 16], [8, 10, 14, 16, 20, 22, 2, 4, 12, 17, 18, 23, 0, 5, 6, 11, 19, 21, 1, 3, 7, 9, 13, 15], [9, 11, 15, 17, 21, 23, 3, 5, 13, 16, 19, 22, 1, 4, 7, 10, 18, 20, 0, 2, 6, 8, 12, 14], [10, 8, 16, 14, 22, 20, 4, 2, 17, 12, 23, 18, 5, 0, 11, 6, 21, 19, 3, 1, 9, 7, 15, 13], [11, 9, 17, 15, 23, 21, 5, 3, 16, 13, 22, 19, 4, 1, 10, 7, 20, 18, 2, 0, 8, 6, 14, 12], [12, 18, 6, 19, 7, 13, 14, 20, 0, 21, 1, 15, 8, 22, 2, 23, 3, 9, 10, 16, 4, 17, 5, 11], [13, 19, 7, 18, 6, 12, 15, 21, 1, 20, 0, 14, 9, 23, 3, 22, 2, 8, 11, 17, 5, 16, 4, 10], [14, 20, 8, 22, 10, 16, 12, 18, 2, 23, 4, 17, 6, 19, 0, 21, 5, 11, 7, 13, 1, 15, 3, 9], [15, 21, 9, 23, 11, 17, 13, 19, 3, 22, 5, 16, 7, 18, 1, 20, 4, 10, 6, 12, 0, 14, 2, 8], [16, 22, 10, 20, 8, 14, 17, 23, 4, 18, 2, 12, 11, 21, 5, 19, 0, 6, 9, 15, 3, 13, 1, 7], [17, 23, 11, 21, 9, 15, 16, 22, 5, 19, 3, 13, 10, 20, 4, 18, 1, 7, 8, 14, 2, 12, 0, 6], [18, 12, 19, 6, 13, 7, 20, 14, 21, 0, 15, 1, 22, 8, 23, 2, 9, 3, 16, 10, 17, 4, 11, 5], [19, 13, 18, 7, 12, 6, 21, 15, 20, 1, 14, 0, 23, 9, 22, 3, 8, 2, 17, 11, 16, 5, 10, 4], [20, 14, 22, 8, 16, 10, 18, 12, 23, 2, 17, 4, 19, 6, 21, 0, 11, 5, 13, 7, 15, 1, 9, 3], [21, 15, 23, 9, 17, 11, 19, 13, 22, 3, 16, 5, 18, 7, 20, 1, 10, 4, 12, 6, 14, 0, 8, 2], [22, 16, 20, 10, 14, 8, 23, 17, 18, 4, 12, 2, 21, 11, 19, 5, 6, 0, 15, 9, 13, 3, 7, 1], [23, 17, 21, 11, 15, 9, 22, 16, 19, 5, 13, 3, 20, 10, 18, 4, 7, 1, 14, 8, 12, 2, 6, 0]]
def CP (a b : Nat) : Nat := (CPL.getD a []).getD b 0
theorem AR_lt : ∀ n : Nat, n < 24 → ∀ i : Nat, i < 4 → AR n i < 4 := by decide +kernel
theorem CP_lt : ∀ a : Nat, a < 24 → ∀ b : Nat, b < 24 → CP a b < 24 := by decide +kernel
theorem CP_AR : ∀ a : Nat, a < 24 → ∀ b : Nat, b < 24 → ∀ i : Nat, i < 4 → AR b (AR a i) = AR (CP a b) i := by decide +kernel
theorem CP_as : ∀ a : Nat, a < 24 → ∀ b : Nat, b < 24 → ∀ c : Nat, c < 24 → CP (CP a b) c = CP a (CP b c) := by decide +kernel
theorem CP_0 : ∀ a : Nat, a < 24 → CP 0 a = a := by decide +kernel
theorem LPn_lt : ∀ n : Nat, n < 24 → LPn n < 7 := by decide +kernel
theorem AR_inj : ∀ a : Nat, a < 24 → ∀ b : Nat, b < 24 → ¬ (AR a 0 = AR b 0 ∧ AR a 1 = AR b 1 ∧ AR a 2 = AR b 2 ∧ AR a 3 = AR b 3) ∨ a = b := by decide +kernel
theorem LPn_sum : ∀ n : Nat, n < 24 → (if AR n 0 > AR n 1 then 1 else 0) + ((if AR n 0 > AR n 2 then 1 else 0) + (if AR n 1 > AR n 2 then 1 else 0)) + ((if AR n 0 > AR n 3 then 1 else 0) + (if AR n 1 > AR n 3 then 1 else 0) + (if AR n 2 > AR n 3 then 1 else 0)) = LPn n := by decide +kernel
def el (ρ : RC) (v : Nat) : VV := match ρ.1 with
  | 0 => (lN v, lN 1)
  | 3 => (lN (v / 101 % 101), lN (v % 101))
  | 4 => if v % 2 = 0 then (lN 0, lN (v / 2 % 10)) else (lN (v / 2 % 10), lN 0)
  | 5 => (lN (v % 24), lN (LPn (v % 24) % 2))
  | 7 => (lN (v % ρ.2.1), lN 0)
  | _ => (lN v, lN v)
def nN (x : Int64) : Nat := x.toInt.toNat
def jn (ρ : RC) (x y : VV) : VV := match ρ.1 with
  | 0 => (x.1 + y.1, x.2 + y.2)
  | 1 => (if y.1 < x.1 then y.1 else x.1, if y.2 < x.2 then x.2 else y.2)
  | 2 => (lN (Nat.gcd (nN x.1) (nN y.1)), x.2 ^^^ y.2)
  | 3 => (x.1 * y.1 - x.1 * y.1 / (101 : Int64) * (101 : Int64), (y.1 * x.2 + y.2) - (y.1 * x.2 + y.2) / (101 : Int64) * (101 : Int64))
  | 4 => ((x.1 + y.1) - (if y.1 < x.2 then y.1 else x.2), (x.2 + y.2) - (if y.1 < x.2 then y.1 else x.2))
  | 5 => (lN (CP (nN x.1) (nN y.1)), (x.2 + y.2) - (x.2 + y.2) / (2 : Int64) * (2 : Int64))
  | 6 => if x.1 < 0 then y else if y.1 < 0 then x else (x.1, y.2)
  | _ => (lN (ρ.2.2.2 (nN x.1) (nN y.1)), lN 0)
def emp (ρ : RC) : VV := match ρ.1 with
  | 1 => (lN 10000, -1)
  | 3 => (lN 1, lN 0)
  | 6 => (-1, -1)
  | 7 => (lN ρ.2.2.1, lN 0)
  | _ => (lN 0, lN 0)
/-- a rule is one: its table is a monoid -/
def RV (ρ : RC) : Prop := ρ.1 < 8 ∧ 1 ≤ ρ.2.1 ∧ ρ.2.1 ≤ 5 ∧ ρ.2.2.1 < ρ.2.1 ∧ (∀ i j, i < ρ.2.1 → j < ρ.2.1 → ρ.2.2.2 i j < ρ.2.1) ∧ (∀ i, i < ρ.2.1 → ρ.2.2.2 ρ.2.2.1 i = i ∧ ρ.2.2.2 i ρ.2.2.1 = i) ∧ (∀ i j k, i < ρ.2.1 → j < ρ.2.1 → k < ρ.2.1 → ρ.2.2.2 (ρ.2.2.2 i j) k = ρ.2.2.2 i (ρ.2.2.2 j k))
/-- what a pair can hold by a rule -/
def VD (ρ : RC) (x : VV) : Prop := (ρ.1 = 2 → ∃ i : Nat, i ≤ 9999 ∧ x.1 = lN i) ∧ (ρ.1 = 5 → ∃ i : Nat, i < 24 ∧ x.1 = lN i) ∧ (ρ.1 = 6 → x = (-1, -1) ∨ (0 ≤ x.1 ∧ 0 ≤ x.2)) ∧ (ρ.1 = 7 → ∃ i : Nat, i < ρ.2.1 ∧ x.1 = lN i)
