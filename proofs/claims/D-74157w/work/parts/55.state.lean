set_option maxRecDepth 100000
/-! the lines -/
/-- a cell of a line: its place in the pool, its work number, its item -/
abbrev CL : Type := Nat × Nat × Nat
/-- lines: by line and end the cells, the topmost first -/
abbrev LC : Type := Nat → Nat → List CL
/-- what is told, by and by: text, its length, the row told, the round -/
abbrev ZZ : Type := (Nat → Nat) × Nat × List Int64 × Nat
def sv (ρ : RC) (e : Nat) : List CL → VV
  | [] => emp ρ
  | [c] => el ρ c.2.2
  | c :: d :: cs => if e = 0 then jn ρ (el ρ c.2.2) (sv ρ e (d :: cs)) else jn ρ (sv ρ e (d :: cs)) (el ρ c.2.2)
theorem sv_0 {ρ : RC} {c d : CL} {cs : List CL} : sv ρ 0 (c :: d :: cs) = jn ρ (el ρ c.2.2) (sv ρ 0 (d :: cs)) := rfl
theorem sv_1 {ρ : RC} {c d : CL} {cs : List CL} : sv ρ 1 (c :: d :: cs) = jn ρ (sv ρ 1 (d :: cs)) (el ρ c.2.2) := rfl
theorem VD_sv {ρ : RC} (h : RV ρ) (e : Nat) : ∀ cs : List CL, (∀ c ∈ cs, c.2.2 ≤ 9999) → VD ρ (sv ρ e cs)
  | [], _ => VD_emp h
  | [c], hc => VD_el h (hc c List.mem_cons_self)
  | c :: d :: cs, hc => by
    have h1 := VD_el h (hc c List.mem_cons_self)
    have h2 := VD_sv h e (d :: cs) (fun x hx => hc x (List.mem_cons_of_mem _ hx))
    unfold sv
    split
    · exact VD_jn h h1 h2
    · exact VD_jn h h2 h1
def XCh (σ : XS) (ρ : RC) (e : Nat) : Option Nat → List CL → Prop
  | o, [] => o = none
  | o, c :: cs => o = some c.1 ∧ c.1 < xN σ ∧ rK (xC σ c.1) = true ∧ rI (xC σ c.1) = nI c.2.2 ∧ pr σ c.1 = sv ρ e (c :: cs) ∧ XCh σ ρ e (rB (xC σ c.1)) cs
def MCh (μ : MS) (ρ : RC) (e s : Nat) : List CL → Prop
  | [] => True
  | c :: cs => gA μ 7 (64 * s + cs.length) = nI c.2.2 ∧ gA μ 6 (64 * s + cs.length) = nI c.2.1 ∧ gB μ 3 (64 * s + cs.length) = (sv ρ e (c :: cs)).1 ∧ gB μ 4 (64 * s + cs.length) = (sv ρ e (c :: cs)).2 ∧ MCh μ ρ e s cs
def sx (b : Nat) : Int32 := if b < 128 then nI b else nI b - nI 256
/-- the lines are ones: cells that are there, at most 64 a line, place and number name the same cell -/
def LOK (k : Nat) (L : LC) (pn w : Nat) : Prop := (∀ l e, l < k → e < 2 → ∀ c ∈ L l e, 3 ≤ c.1 ∧ c.1 < pn ∧ c.2.1 < w ∧ c.2.2 ≤ 9999) ∧ (∀ l, l < k → (L l 0).length + (L l 1).length ≤ 64) ∧ (∀ l e l' e', l < k → e < 2 → l' < k → e' < 2 → ∀ c ∈ L l e, ∀ c' ∈ L l' e', (c.1 = c'.1 ↔ c.2.1 = c'.2.1) ∧ (c.1 = c'.1 → e = e'))
/-- the component's state tells this -/
def XR (k : Nat) (ρ : RC) (L : LC) (w : Nat) (reb : Int32) (Z : ZZ) (σ : XS) : Prop :=
  VX σ ∧ XG ρ σ ∧ (xI σ 3 = reb ∧ xI σ 4 = nI Z.2.1 ∧ xI σ 5 = nI Z.2.2.1.length ∧ xI σ 6 = nI Z.2.2.2 ∧ xL σ 0 = lN w) ∧ (∀ i, i < Z.2.1 → xA σ 2 i = sx (Z.1 i)) ∧ (∀ i, i < Z.2.2.1.length → xB σ 0 i = Z.2.2.1.getD i 0) ∧
  (∀ l e, l < k → e < 2 → xA σ (5 + l) e = nI (L l e).length ∧ XCh σ ρ e (xT σ l e) (L l e)) ∧ (∀ i, i < xN σ → ∃ j, j ≤ Z.2.2.2 ∧ rR (xC σ i) = nI j)
/-- the twin's state tells this -/
def MR (k : Nat) (ρ : RC) (L : LC) (w : Nat) (reb : Int32) (Z : ZZ) (μ : MS) : Prop :=
  MG ρ μ ∧ (gI μ 1 = nI Z.2.2.1.length ∧ gI μ 2 = nI Z.2.1 ∧ gI μ 8 = nI w ∧ gI μ 9 = reb) ∧ (∀ i, i < Z.2.1 → gA μ 0 i = nI (Z.1 i)) ∧ (∀ i, i < Z.2.2.1.length → gB μ 0 i = Z.2.2.1.getD i 0) ∧
  (∀ l e, l < k → e < 2 → gA μ 5 (2 * l + e) = nI (L l e).length ∧ MCh μ ρ e (2 * l + e) (L l e))
def ZW (Z : ZZ) : Prop := Z.2.1 ≤ 100 ∧ (∀ i, i < Z.2.1 → Z.1 i < 256) ∧ Z.2.2.1.length ≤ 128
/-- both tell the same -/
def RR (n : Nat) (σ : XS) (μ : MS) : Prop := ∃ (ρ : RC) (L : LC) (w : Nat) (reb : Int32) (Z : ZZ), RV ρ ∧ LOK 4 L (xN σ) w ∧ ZW Z ∧ XR 4 ρ L w reb Z σ ∧ MR 4 ρ L w reb Z μ ∧ w ≤ 8000 * n ∧ Z.2.2.2 ≤ n
/-! what doesn't matter -/
/-- the same but for what is laid by and by -/
def XQ (n0 : Nat) (σ σ' : XS) : Prop := (∀ j, j < 7 → xI σ' j = xI σ j) ∧ xL σ' 0 = xL σ 0 ∧ (∀ j, j ≠ 0 → j ≠ 3 → j ≠ 4 → xA σ' j = xA σ j) ∧ xB σ' 0 = xB σ 0 ∧ (∀ l, xT σ' l = xT σ l) ∧ xN σ ≤ xN σ' ∧ (∀ i, 3 ≤ i → i < n0 → xC σ' i = xC σ i) ∧ (∀ i, i < xN σ → rB (xC σ' i) = rB (xC σ i) ∧ rR (xC σ' i) = rR (xC σ i)) ∧ (∀ i, xN σ ≤ i → i < xN σ' → rB (xC σ' i) = none ∧ rR (xC σ' i) = nI 0)
theorem XQ.refl (n0 : Nat) (σ : XS) : XQ n0 σ σ := ⟨fun _ _ => rfl, rfl, fun _ _ _ _ => rfl, rfl, fun _ => rfl, Nat.le_refl _, fun _ _ _ => rfl, fun _ _ => ⟨rfl, rfl⟩, fun i h1 h2 => absurd h2 (Nat.not_lt.mpr h1)⟩
theorem XQ.trans {n0 : Nat} {σ σ1 σ2 : XS} (h : XQ n0 σ σ1) (g : XQ n0 σ1 σ2) : XQ n0 σ σ2 := by
  obtain ⟨a1, a2, a3, a4, a5, a6, a7, a8, a9⟩ := h
  obtain ⟨b1, b2, b3, b4, b5, b6, b7, b8, b9⟩ := g
  refine ⟨fun j hj => (b1 j hj).trans (a1 j hj), b2.trans a2, fun j h1 h2 h3 => (b3 j h1 h2 h3).trans (a3 j h1 h2 h3), b4.trans a4, fun l => (b5 l).trans (a5 l), Nat.le_trans a6 b6, fun i h1 h2 => (b7 i h1 h2).trans (a7 i h1 h2), fun i hi => ?_, fun i h1 h2 => ?_⟩
  · have q := b8 i (by omega)
    exact ⟨q.1.trans (a8 i hi).1, q.2.trans (a8 i hi).2⟩
  · by_cases h : i < xN σ1
    · have q := b8 i h
      exact ⟨q.1.trans (a9 i h1 h).1, q.2.trans (a9 i h1 h).2⟩
    · exact b9 i (Nat.not_lt.mp h) h2
theorem XQ.pq {n0 : Nat} (σ : XS) {i : Nat} (x : VV) (h : i < 3 ∨ n0 ≤ i) : XQ n0 σ (pq σ i x) := by
  refine ⟨fun _ _ => rfl, rfl, fun _ _ _ _ => rfl, rfl, fun _ => rfl, Nat.le_refl _, fun j h1 h2 => ?_, fun j _ => ?_, fun i h1 h2 => absurd h2 (Nat.not_lt.mpr h1)⟩
  · rw [xC_pq, if_neg (by omega)]
  · rw [xC_pq]; split
    · next h => subst h; exact ⟨rfl, rfl⟩
    · exact ⟨rfl, rfl⟩
theorem XQ.zX0 {n0 : Nat} (σ : XS) (f : Nat → Int32) : XQ n0 σ (zX σ 0 f) := ⟨fun _ _ => rfl, rfl, fun j h _ _ => by rw [xA_zX, if_neg h], rfl, fun _ => rfl, Nat.le_refl _, fun _ _ _ => rfl, fun _ _ => ⟨rfl, rfl⟩, fun i h1 h2 => absurd h2 (Nat.not_lt.mpr h1)⟩
theorem XQ.zA {n0 : Nat} (σ : XS) {k : Nat} (hk : k = 3 ∨ k = 4) (i : Nat) (x : Int32) : XQ n0 σ (zA σ k i x) := ⟨fun _ _ => rfl, rfl, fun j h h1 h2 => by funext n; rw [xA_zA, if_neg (by omega)], rfl, fun _ => rfl, Nat.le_refl _, fun _ _ _ => rfl, fun _ _ => ⟨rfl, rfl⟩, fun i h1 h2 => absurd h2 (Nat.not_lt.mpr h1)⟩
theorem XQ.zB {n0 : Nat} (σ : XS) {k : Nat} (hk : k ≠ 0) (i : Nat) (x : Int64) : XQ n0 σ (zB σ k i x) := ⟨fun _ _ => rfl, rfl, fun j h h1 h2 => rfl, by funext n; rw [xB_zB, if_neg (by omega)], fun _ => rfl, Nat.le_refl _, fun _ _ _ => rfl, fun _ _ => ⟨rfl, rfl⟩, fun i h1 h2 => absurd h2 (Nat.not_lt.mpr h1)⟩
theorem XQ.zI {n0 : Nat} (σ : XS) {k : Nat} (hk : 7 ≤ k) (x : Int32) : XQ n0 σ (zI σ k x) := ⟨fun j hj => by rw [xI_zI, if_neg (by omega)], rfl, fun j h h1 h2 => rfl, rfl, fun _ => rfl, Nat.le_refl _, fun _ _ _ => rfl, fun _ _ => ⟨rfl, rfl⟩, fun i h1 h2 => absurd h2 (Nat.not_lt.mpr h1)⟩
theorem XQ.zN {n0 : Nat} (σ : XS) (h : n0 ≤ xN σ) (r : PR) (h1 : rB r = none) (h2 : rR r = nI 0) : XQ n0 σ (zN σ r) := by
  refine ⟨fun _ _ => rfl, rfl, fun _ _ _ _ => rfl, rfl, fun _ => rfl, Nat.le_succ _, fun j g1 g2 => ?_, fun j g => ?_, fun j g1 g2 => ?_⟩
  · rw [xC_zN, if_neg (by omega)]
  · rw [xC_zN, if_neg (by omega)]; exact ⟨rfl, rfl⟩
  · rw [xC_zN, if_pos (by rw [xN_zN] at g2; omega)]; exact ⟨h1, h2⟩
theorem okRef_mono {σ σ' : XS} (h : xN σ ≤ xN σ') {o : Option Nat} (g : okRef σ o = true) : okRef σ' o = true := by
  cases o with
  | none => rfl
  | some i =>
    have g : decide (i < xN σ) = true := g
    show decide (i < xN σ') = true
    rw [decide_eq_true_eq] at g ⊢
    omega
theorem VX.q {n0 : Nat} {σ σ' : XS} (h : VX σ) (q : XQ n0 σ σ') : VX σ' := by
  obtain ⟨a1, a2, a3, a4, a5, a6, a7, a8, a9⟩ := q
  refine ⟨Nat.le_trans h.1 a6, fun i hi => ?_, fun l hl j hj => ?_⟩
  · by_cases h2 : i < xN σ
    · rw [(a8 i h2).1]; exact okRef_mono a6 (h.2.1 i h2)
    · rw [(a9 i (Nat.not_lt.mp h2) hi).1]; rfl
  · rw [a5]; exact okRef_mono a6 (h.2.2 l hl j hj)
theorem XG.q {n0 : Nat} {ρ : RC} {σ σ' : XS} (h : XG ρ σ) (q : XQ n0 σ σ') : XG ρ σ' := by
  obtain ⟨a1, a2, a3, -⟩ := q
  refine ⟨(a1 0 (by decide)).trans h.1, (a1 1 (by decide)).trans h.2.1, (a1 2 (by decide)).trans h.2.2.1, fun n hn i hi => ?_, fun i j hi hj => ?_⟩
  · rw [a3 _ (by omega) (by omega) (by omega)]; exact h.2.2.2.1 n hn i hi
  · rw [a3 1 (by decide) (by decide) (by decide)]; exact h.2.2.2.2 i j hi hj
theorem XCh.same {ρ : RC} {e : Nat} {σ σ' : XS} (hn : xN σ ≤ xN σ') : ∀ (cs : List CL) (o : Option Nat), (∀ c ∈ cs, xC σ' c.1 = xC σ c.1) → XCh σ ρ e o cs → XCh σ' ρ e o cs
  | [], _, _, h => h
  | c :: cs, o, hc, h => by
    obtain ⟨h1, h2, h3, h4, h5, h6⟩ := h
    have hq := hc c List.mem_cons_self
    refine ⟨h1, Nat.lt_of_lt_of_le h2 hn, by rw [hq]; exact h3, by rw [hq]; exact h4, ?_, ?_⟩
    · unfold pr at h5 ⊢; rw [hq]; exact h5
    · rw [hq]; exact XCh.same hn cs _ (fun x hx => hc x (List.mem_cons_of_mem _ hx)) h6
theorem XR.q {k : Nat} {ρ : RC} {L : LC} {w w' n0 : Nat} {reb : Int32} {Z : ZZ} {σ σ' : XS} (h : XR k ρ L w reb Z σ) (hL : LOK k L n0 w') (q : XQ n0 σ σ') : XR k ρ L w reb Z σ' := by
  obtain ⟨h1, h2, ⟨h3, h4, h5, h6, h7⟩, h8, h9, h10, h11⟩ := h
  have hq := q
  obtain ⟨a1, a2, a3, a4, a5, a6, a7, a8, a9⟩ := q
  refine ⟨h1.q hq, h2.q hq, ⟨(a1 3 (by decide)).trans h3, (a1 4 (by decide)).trans h4, (a1 5 (by decide)).trans h5, (a1 6 (by decide)).trans h6, a2.trans h7⟩, fun i hi => ?_, fun i hi => ?_, fun l e hl he => ?_, fun i hi => ?_⟩
  · rw [a3 2 (by decide) (by decide) (by decide)]; exact h8 i hi
  · rw [a4]; exact h9 i hi
  · obtain ⟨g1, g2⟩ := h10 l e hl he
    refine ⟨by rw [a3 (5 + l) (by omega) (by omega) (by omega)]; exact g1, ?_⟩
    rw [a5]
    exact XCh.same a6 _ _ (fun c hc => a7 c.1 (hL.1 l e hl he c hc).1 (hL.1 l e hl he c hc).2.1) g2
  · by_cases g : i < xN σ
    · rw [(a8 i g).2]; exact h11 i g
    · rw [(a9 i (Nat.not_lt.mp g) hi).2]; exact ⟨0, Nat.zero_le _, rfl⟩
/-- the twin's state: the same but for what is laid by and by -/
def MU (μ μ' : MS) : Prop := (gI μ' 1 = gI μ 1 ∧ gI μ' 2 = gI μ 2 ∧ gI μ' 5 = gI μ 5 ∧ gI μ' 6 = gI μ 6 ∧ gI μ' 7 = gI μ 7 ∧ gI μ' 8 = gI μ 8 ∧ gI μ' 9 = gI μ 9) ∧ (gA μ' 0 = gA μ 0 ∧ gA μ' 1 = gA μ 1 ∧ gA μ' 5 = gA μ 5 ∧ gA μ' 6 = gA μ 6 ∧ gA μ' 7 = gA μ 7) ∧ gB μ' 0 = gB μ 0 ∧ gB μ' 3 = gB μ 3 ∧ gB μ' 4 = gB μ 4
theorem MU.refl (μ : MS) : MU μ μ := ⟨⟨rfl, rfl, rfl, rfl, rfl, rfl, rfl⟩, ⟨rfl, rfl, rfl, rfl, rfl⟩, rfl, rfl, rfl⟩
theorem MU.trans {μ μ1 μ2 : MS} (h : MU μ μ1) (g : MU μ1 μ2) : MU μ μ2 := by
  obtain ⟨⟨a1, a2, a3, a4, a5, a6, a7⟩, ⟨a8, a9, a10, a11, a12⟩, a13, a14, a15⟩ := h
  obtain ⟨⟨b1, b2, b3, b4, b5, b6, b7⟩, ⟨b8, b9, b10, b11, b12⟩, b13, b14, b15⟩ := g
  exact ⟨⟨b1.trans a1, b2.trans a2, b3.trans a3, b4.trans a4, b5.trans a5, b6.trans a6, b7.trans a7⟩, ⟨b8.trans a8, b9.trans a9, b10.trans a10, b11.trans a11, b12.trans a12⟩, b13.trans a13, b14.trans a14, b15.trans a15⟩
theorem MU.sL (μ : MS) (k : Nat) (x : Int64) : MU μ (sL μ k x) := MU.refl μ
theorem MU.sI (μ : MS) {k : Nat} (hk : k = 0 ∨ k = 3 ∨ k = 4 ∨ k = 10 ∨ k = 11 ∨ k = 12) (x : Int32) : MU μ (sI μ k x) := by
  refine ⟨⟨?_, ?_, ?_, ?_, ?_, ?_, ?_⟩, ⟨rfl, rfl, rfl, rfl, rfl⟩, rfl, rfl, rfl⟩ <;> (rw [gI_sI, if_neg (by omega)])
theorem MU.sA (μ : MS) {k : Nat} (hk : k = 2 ∨ k = 3 ∨ k = 4 ∨ k = 8 ∨ k = 9 ∨ k = 10 ∨ k = 11) (i : Nat) (x : Int32) : MU μ (sA μ k i x) := by
  refine ⟨⟨rfl, rfl, rfl, rfl, rfl, rfl, rfl⟩, ⟨?_, ?_, ?_, ?_, ?_⟩, rfl, rfl, rfl⟩ <;> (funext n; rw [gA_sA, if_neg (by omega)])
theorem MU.sB (μ : MS) {k : Nat} (hk : k = 1 ∨ k = 2) (i : Nat) (x : Int64) : MU μ (sB μ k i x) := by
  refine ⟨⟨rfl, rfl, rfl, rfl, rfl, rfl, rfl⟩, ⟨rfl, rfl, rfl, rfl, rfl⟩, ?_, ?_, ?_⟩ <;> (funext n; rw [gB_sB, if_neg (by omega)])
theorem MU.w4 (μ : MS) {k : Nat} (hk : k = 2 ∨ k = 3 ∨ k = 4) (a b c d : Nat) : MU μ (w4 μ k a b c d) := (((MU.sA μ (by omega) 0 _).trans (MU.sA _ (by omega) 1 _)).trans (MU.sA _ (by omega) 2 _)).trans (MU.sA _ (by omega) 3 _)
theorem MG.q {ρ : RC} {μ μ' : MS} (h : MG ρ μ) (q : MU μ μ') : MG ρ μ' := by
  obtain ⟨⟨a1, a2, a3, a4, a5, a6, a7⟩, ⟨a8, a9, a10, a11, a12⟩, a13, a14, a15⟩ := q
  exact ⟨a3.trans h.1, a4.trans h.2.1, a5.trans h.2.2.1, fun i j hi hj => by rw [a9]; exact h.2.2.2 i j hi hj⟩
theorem MCh.same {ρ : RC} {e s : Nat} {μ μ' : MS} : ∀ cs : List CL, (∀ j, j < cs.length → gA μ' 7 (64 * s + j) = gA μ 7 (64 * s + j) ∧ gA μ' 6 (64 * s + j) = gA μ 6 (64 * s + j) ∧ gB μ' 3 (64 * s + j) = gB μ 3 (64 * s + j) ∧ gB μ' 4 (64 * s + j) = gB μ 4 (64 * s + j)) → MCh μ ρ e s cs → MCh μ' ρ e s cs
  | [], _, _ => trivial
  | c :: cs, hc, h => by
    obtain ⟨h1, h2, h3, h4, h5⟩ := h
    obtain ⟨q1, q2, q3, q4⟩ := hc cs.length (Nat.lt_succ_self _)
    exact ⟨q1.trans h1, q2.trans h2, q3.trans h3, q4.trans h4, MCh.same cs (fun j hj => hc j (Nat.lt_succ_of_lt hj)) h5⟩
theorem MR.q {k : Nat} {ρ : RC} {L : LC} {w : Nat} {reb : Int32} {Z : ZZ} {μ μ' : MS} (h : MR k ρ L w reb Z μ) (q : MU μ μ') : MR k ρ L w reb Z μ' := by
  obtain ⟨h1, ⟨h2, h3, h4, h5⟩, h6, h7, h8⟩ := h
  have hq := q
  obtain ⟨⟨a1, a2, a3, a4, a5, a6, a7⟩, ⟨a8, a9, a10, a11, a12⟩, a13, a14, a15⟩ := q
  refine ⟨h1.q hq, ⟨a1.trans h2, a2.trans h3, a6.trans h4, a7.trans h5⟩, fun i hi => by rw [a8]; exact h6 i hi, fun i hi => by rw [a13]; exact h7 i hi, fun l e hl he => ?_⟩
  obtain ⟨g1, g2⟩ := h8 l e hl he
  exact ⟨by rw [a10]; exact g1, MCh.same _ (fun j _ => ⟨by rw [a12], by rw [a11], by rw [a14], by rw [a15]⟩) g2⟩
/-! lines that change -/
def upL (L : LC) (l e : Nat) (cs : List CL) : LC := fun l' e' => if l' = l ∧ e' = e then cs else L l' e'
theorem upL_s (L : LC) (l e : Nat) (cs : List CL) : upL L l e cs l e = cs := if_pos ⟨rfl, rfl⟩
theorem upL_n (L : LC) {l e l' e' : Nat} (cs : List CL) (h : ¬ (l' = l ∧ e' = e)) : upL L l e cs l' e' = L l' e' := if_neg h
theorem LOK.up {k : Nat} {L : LC} {pn w pn' w' : Nat} (h : LOK k L pn w) (hp : pn ≤ pn') (hw : w ≤ w') : LOK k L pn' w' := ⟨fun l e hl he c hc => by have := h.1 l e hl he c hc; omega, h.2.1, h.2.2⟩
theorem LOK.down {k k' : Nat} {L : LC} {pn w : Nat} (h : LOK k L pn w) (hk : k' ≤ k) : LOK k' L pn w := ⟨fun l e hl he c hc => h.1 l e (by omega) he c hc, fun l hl => h.2.1 l (by omega), fun l e l' e' h1 h2 h3 h4 => h.2.2 l e l' e' (by omega) h2 (by omega) h4⟩
/-- an end of a line gets other cells, all of them old or one of them new -/
theorem LOK.put {k : Nat} {L : LC} {pn w l e v : Nat} (h : LOK k L pn w) (h3 : 3 ≤ pn) (hl : l < k) (he : e < 2) (hs : (L l 0).length + (L l 1).length < 64) (hv : v ≤ 9999) : LOK k (upL L l e ((pn, w, v) :: L l e)) (pn + 1) (w + 1) := by
  have hm : ∀ l' e' c, l' < k → e' < 2 → c ∈ upL L l e ((pn, w, v) :: L l e) l' e' → (c = (pn, w, v) ∧ e' = e) ∨ c ∈ L l' e' := by
    intro l' e' c h1 h2 hc
    unfold upL at hc
    split at hc
    · next hh =>
      obtain ⟨rfl, rfl⟩ := hh
      exact (List.mem_cons.mp hc).imp (fun z => ⟨z, rfl⟩) id
    · exact .inr hc
  refine ⟨fun l' e' h1 h2 c hc => ?_, fun l' h1 => ?_, fun l1 e1 l2 e2 g1 g2 g3 g4 c hc d hd => ?_⟩
  · rcases hm l' e' c h1 h2 hc with ⟨rfl, -⟩ | hc
    · exact ⟨h3, Nat.lt_succ_self _, Nat.lt_succ_self _, hv⟩
    · have := h.1 l' e' h1 h2 c hc; omega
  · have hq := h.2.1 l' h1
    unfold upL
    by_cases hll : l' = l
    · subst hll
      rcases (show e = 0 ∨ e = 1 by omega) with rfl | rfl
      · rw [if_pos ⟨rfl, rfl⟩, if_neg (by omega)]; show (L l' 0).length + 1 + _ ≤ 64; omega
      · rw [if_neg (by omega), if_pos ⟨rfl, rfl⟩]; show _ + ((L l' 1).length + 1) ≤ 64; omega
    · rw [if_neg (fun z => hll z.1), if_neg (fun z => hll z.1)]; exact hq
  · rcases hm _ _ c g1 g2 hc with ⟨rfl, rfl⟩ | hc <;> rcases hm _ _ d g3 g4 hd with ⟨rfl, rfl⟩ | hd
    · simp
    · have := h.1 l2 e2 g3 g4 d hd
      refine ⟨?_, fun hh => ?_⟩
      · constructor <;> intro hh <;> (simp only at hh; omega)
      · simp only at hh; omega
    · have := h.1 l1 e1 g1 g2 c hc
      refine ⟨?_, fun hh => ?_⟩
      · constructor <;> intro hh <;> (simp only at hh; omega)
      · simp only at hh; omega
    · exact h.2.2 l1 e1 l2 e2 g1 g2 g3 g4 c hc d hd
/-- an end of a line gets old cells -/
theorem LOK.set {k : Nat} {L : LC} {pn w l e : Nat} {cs : List CL} (h : LOK k L pn w) (he : e < 2) (hc : ∀ c ∈ cs, ∃ l', l' < k ∧ c ∈ L l' e) (hs : l < k → cs.length + (L l (1 - e)).length ≤ 64) : LOK k (upL L l e cs) pn w := by
  have hm : ∀ l' e' c, l' < k → e' < 2 → c ∈ upL L l e cs l' e' → ∃ l', l' < k ∧ c ∈ L l' e' := by
    intro l' e' c h1 h2 hcc
    unfold upL at hcc
    split at hcc
    · next hh => rw [hh.2]; exact hc c hcc
    · exact ⟨l', h1, hcc⟩
  refine ⟨fun l' e' h1 h2 c hc => ?_, fun l' h1 => ?_, fun l1 e1 l2 e2 g1 g2 g3 g4 c hc d hd => ?_⟩
  · obtain ⟨a, ha, hab⟩ := hm l' e' c h1 h2 hc
    exact h.1 a e' ha h2 c hab
  · have hq := h.2.1 l' h1
    unfold upL
    by_cases hll : l' = l
    · subst hll
      have hs := hs h1
      rcases (show e = 0 ∨ e = 1 by omega) with rfl | rfl
      · rw [if_pos ⟨rfl, rfl⟩, if_neg (by omega)]; exact hs
      · rw [if_neg (by omega), if_pos ⟨rfl, rfl⟩]; rw [Nat.add_comm]; exact hs
    · rw [if_neg (fun z => hll z.1), if_neg (fun z => hll z.1)]; exact hq
  · obtain ⟨a, ha, hab⟩ := hm _ _ c g1 g2 hc
    obtain ⟨a', ha', hab'⟩ := hm _ _ d g3 g4 hd
    exact h.2.2 a e1 a' e2 ha g2 ha' g4 c hab d hab'
