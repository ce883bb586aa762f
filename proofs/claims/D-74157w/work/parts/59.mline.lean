set_option maxRecDepth 100000
/-! the twin's lines -/
/-- the same but for what elements and joins lay by and by -/
def MV (μ μ' : MS) : Prop := (∀ j, gI μ' j = gI μ j) ∧ (∀ j, j ≠ 2 → j ≠ 3 → j ≠ 4 → gA μ' j = gA μ j) ∧ (∀ j, gB μ' j = gB μ j)
theorem MV.refl (μ : MS) : MV μ μ := ⟨fun _ => rfl, fun _ _ _ _ => rfl, fun _ => rfl⟩
theorem MV.trans {μ μ1 μ2 : MS} (h : MV μ μ1) (g : MV μ1 μ2) : MV μ μ2 := ⟨fun j => (g.1 j).trans (h.1 j), fun j a b c => (g.2.1 j a b c).trans (h.2.1 j a b c), fun j => (g.2.2 j).trans (h.2.2 j)⟩
theorem MV.u {μ μ' : MS} (h : MV μ μ') : MU μ μ' := ⟨⟨h.1 1, h.1 2, h.1 5, h.1 6, h.1 7, h.1 8, h.1 9⟩, ⟨h.2.1 0 (by decide) (by decide) (by decide), h.2.1 1 (by decide) (by decide) (by decide), h.2.1 5 (by decide) (by decide) (by decide), h.2.1 6 (by decide) (by decide) (by decide), h.2.1 7 (by decide) (by decide) (by decide)⟩, h.2.2 0, h.2.2 3, h.2.2 4⟩
theorem MV_w4 (μ : MS) {k : Nat} (hk : k = 2 ∨ k = 3 ∨ k = 4) (a b c d : Nat) : MV μ (w4 μ k a b c d) := by
  refine ⟨fun _ => rfl, fun j h2 h3 h4 => ?_, fun _ => rfl⟩
  funext n
  have hjk : ¬ j = k := by omega
  unfold w4
  rw [gA_sA, if_neg hjk, gA_sA, if_neg hjk, gA_sA, if_neg hjk, gA_sA, if_neg hjk]
theorem MV_sL {μ ν : MS} (h : MV μ ν) (x y : Int64) : MV μ (sL (sL ν 0 x) 1 y) := ⟨h.1, h.2.1, h.2.2⟩
theorem M_element_q {ρ : RC} {μ : MS} (h : MG ρ μ) (hv : RV ρ) {v : Nat} (hv9 : v ≤ 9999) : ∃ μ', M_element (nI v) μ = some μ' ∧ MV μ μ' ∧ gL μ' 0 = (el ρ v).1 ∧ gL μ' 1 = (el ρ v).2 := by
  obtain ⟨ν, h1, h2⟩ := M_element_el h hv hv9
  refine ⟨_, h1, ?_, rfl, rfl⟩
  refine MV_sL ?_ _ _
  rcases h2 with rfl | ⟨a, b, c, d, rfl⟩
  · exact MV.refl _
  · exact MV_w4 μ (.inl rfl) a b c d
theorem M_join_q {ρ : RC} {μ : MS} (h : MG ρ μ) (hv : RV ρ) {x y : VV} (hx : VD ρ x) (hy : VD ρ y) : ∃ μ', M_join x.1 x.2 y.1 y.2 μ = some μ' ∧ MV μ μ' ∧ gL μ' 0 = (jn ρ x y).1 ∧ gL μ' 1 = (jn ρ x y).2 := by
  obtain ⟨ν, h1, h2⟩ := M_join_jn h hv hx hy
  refine ⟨_, h1, ?_, rfl, rfl⟩
  refine MV_sL ?_ _ _
  rcases h2 with rfl | ⟨a, b, c, d, a1, b1, c1, d1, a2, b2, c2, d2, rfl⟩
  · exact MV.refl _
  · have q1 := MV_w4 μ (k := 2) (.inl rfl) a b c d
    generalize w4 μ 2 a b c d = ν1 at q1 ⊢
    have q2 := MV_w4 ν1 (k := 3) (.inr (.inl rfl)) a1 b1 c1 d1
    generalize w4 ν1 3 a1 b1 c1 d1 = ν2 at q2 ⊢
    exact q1.trans (q2.trans (MV_w4 ν2 (.inr (.inr rfl)) a2 b2 c2 d2))
theorem M_empty_q {ρ : RC} {μ : MS} (h : MG ρ μ) (hv : RV ρ) : ∃ μ', M_empty μ = some μ' ∧ MV μ μ' ∧ gL μ' 0 = (emp ρ).1 ∧ gL μ' 1 = (emp ρ).2 := ⟨_, M_empty_emp h hv, MV.refl μ, rfl, rfl⟩
theorem MG.v {ρ : RC} {μ μ' : MS} (h : MG ρ μ) (q : MV μ μ') : MG ρ μ' := h.q q.u
/-- the same but for the lines -/
def MF (n : Nat) (μ μ' : MS) : Prop := (∀ j, j ≠ 8 → j ≠ 9 → gI μ' j = gI μ j) ∧ (∀ j, n ≤ j → gA μ' j = gA μ j)
theorem MF.refl (n : Nat) (μ : MS) : MF n μ μ := ⟨fun _ _ _ => rfl, fun _ _ => rfl⟩
theorem MF.trans {n : Nat} {μ μ1 μ2 : MS} (h : MF n μ μ1) (g : MF n μ1 μ2) : MF n μ μ2 := ⟨fun j a b => (g.1 j a b).trans (h.1 j a b), fun j a => (g.2 j a).trans (h.2 j a)⟩
theorem MF.up {n m : Nat} {μ μ1 : MS} (h : MF n μ μ1) (hm : n ≤ m) : MF m μ μ1 := ⟨h.1, fun j hj => h.2 j (by omega)⟩
/-- the other lines stay -/
def ML (l : Nat) (μ μ' : MS) : Prop := (∀ l' e, l' ≠ l → e < 2 → gA μ' 5 (2 * l' + e) = gA μ 5 (2 * l' + e)) ∧ (∀ l' e j, l' ≠ l → e < 2 → j < 64 → gA μ' 7 (64 * (2 * l' + e) + j) = gA μ 7 (64 * (2 * l' + e) + j) ∧ gA μ' 6 (64 * (2 * l' + e) + j) = gA μ 6 (64 * (2 * l' + e) + j) ∧ gB μ' 3 (64 * (2 * l' + e) + j) = gB μ 3 (64 * (2 * l' + e) + j) ∧ gB μ' 4 (64 * (2 * l' + e) + j) = gB μ 4 (64 * (2 * l' + e) + j))
theorem ML.refl (l : Nat) (μ : MS) : ML l μ μ := ⟨fun _ _ _ _ => rfl, fun _ _ _ _ _ _ => ⟨rfl, rfl, rfl, rfl⟩⟩
theorem ML.trans {l : Nat} {μ μ1 μ2 : MS} (h : ML l μ μ1) (g : ML l μ1 μ2) : ML l μ μ2 := ⟨fun l' e a b => (g.1 l' e a b).trans (h.1 l' e a b), fun l' e j a b c => by
  obtain ⟨x1, x2, x3, x4⟩ := h.2 l' e j a b c
  obtain ⟨y1, y2, y3, y4⟩ := g.2 l' e j a b c
  exact ⟨y1.trans x1, y2.trans x2, y3.trans x3, y4.trans x4⟩⟩
theorem ML.u {l : Nat} {μ μ' : MS} (q : MU μ μ') : ML l μ μ' := by
  obtain ⟨⟨a1, a2, a3, a4, a5, a6, a7⟩, ⟨a8, a9, a10, a11, a12⟩, a13, a14, a15⟩ := q
  exact ⟨fun _ _ _ _ => by rw [a10], fun _ _ _ _ _ _ => ⟨by rw [a12], by rw [a11], by rw [a14], by rw [a15]⟩⟩
def pushM (μ : MS) (s len v w : Nat) (x : VV) : MS := sA (sI (sA (sB (sB (sA μ 7 (64 * s + len) (nI v)) 3 (64 * s + len) x.1) 4 (64 * s + len) x.2) 6 (64 * s + len) (nI w)) 8 (nI (w + 1))) 5 s (nI (len + 1))
theorem pushM_r (μ : MS) (s len v w : Nat) (x : VV) : (∀ n, gA (pushM μ s len v w x) 5 n = if n = s then nI (len + 1) else gA μ 5 n) ∧ (∀ n, gA (pushM μ s len v w x) 6 n = if n = 64 * s + len then nI w else gA μ 6 n) ∧ (∀ n, gA (pushM μ s len v w x) 7 n = if n = 64 * s + len then nI v else gA μ 7 n) ∧ (∀ n, gB (pushM μ s len v w x) 3 n = if n = 64 * s + len then x.1 else gB μ 3 n) ∧ (∀ n, gB (pushM μ s len v w x) 4 n = if n = 64 * s + len then x.2 else gB μ 4 n) := by
  unfold pushM
  refine ⟨fun n => ?_, fun n => ?_, fun n => ?_, fun n => ?_, fun n => ?_⟩
  · rw [gA_sA, if_pos (show (5 : Nat) = 5 from rfl), gA_sI, gA_sA, if_neg (show ¬ (5 : Nat) = 6 by decide), gA_sB, gA_sB, gA_sA, if_neg (show ¬ (5 : Nat) = 7 by decide)]
  · rw [gA_sA, if_neg (show ¬ (6 : Nat) = 5 by decide), gA_sI, gA_sA, if_pos (show (6 : Nat) = 6 from rfl), gA_sB, gA_sB, gA_sA, if_neg (show ¬ (6 : Nat) = 7 by decide)]
  · rw [gA_sA, if_neg (show ¬ (7 : Nat) = 5 by decide), gA_sI, gA_sA, if_neg (show ¬ (7 : Nat) = 6 by decide), gA_sB, gA_sB, gA_sA, if_pos (show (7 : Nat) = 7 from rfl)]
  · rw [gB_sA, gB_sI, gB_sA, gB_sB, if_neg (show ¬ (3 : Nat) = 4 by decide), gB_sB, if_pos (show (3 : Nat) = 3 from rfl), gB_sA]
  · rw [gB_sA, gB_sI, gB_sA, gB_sB, if_pos (show (4 : Nat) = 4 from rfl), gB_sB, if_neg (show ¬ (4 : Nat) = 3 by decide), gB_sA]
theorem ML.push (μ : MS) {l e len v w : Nat} {x : VV} (hlen : len < 64) (he : e < 2) : ML l μ (pushM μ (2 * l + e) len v w x) := by
  obtain ⟨r5, r6, r7, r3, r4⟩ := pushM_r μ (2 * l + e) len v w x
  refine ⟨fun l' e' hl' he' => by rw [r5, if_neg (by omega)], fun l' e' j hl' he' hj => ?_⟩
  have hne : ¬ 64 * (2 * l' + e') + j = 64 * (2 * l + e) + len := by omega
  exact ⟨by rw [r7, if_neg hne], by rw [r6, if_neg hne], by rw [r3, if_neg hne], by rw [r4, if_neg hne]⟩
theorem MR.push {k : Nat} {ρ : RC} {L : LC} {w pn l e v : Nat} {reb : Int32} {Z : ZZ} {μ : MS} (h : MR k ρ L w reb Z μ) (hL : LOK k L pn w) (hl : l < k) (he : e < 2) (hs : szL L l < 64) {x : VV} (hx : x = sv ρ e ((pn, w, v) :: L l e)) : MR k ρ (upL L l e ((pn, w, v) :: L l e)) (w + 1) reb Z (pushM μ (2 * l + e) (L l e).length v w x) := by
  obtain ⟨h1, ⟨h2, h3, h4, h5⟩, h6, h7, h8⟩ := h
  obtain ⟨r5, r6, r7, r3, r4⟩ := pushM_r μ (2 * l + e) (L l e).length v w x
  refine ⟨h1, ⟨h2, h3, rfl, h5⟩, h6, h7, fun l' e' hl' he' => ?_⟩
  obtain ⟨g1, g2⟩ := h8 l' e' hl' he'
  have hb := hL.2.1 l' hl'
  have hbl : (L l' e').length ≤ 64 := by rcases (show e' = 0 ∨ e' = 1 by omega) with rfl | rfl <;> omega
  have hbe : (L l e).length < 64 := by unfold szL at hs; rcases (show e = 0 ∨ e = 1 by omega) with rfl | rfl <;> omega
  by_cases hll : l' = l ∧ e' = e
  · obtain ⟨rfl, rfl⟩ := hll
    rw [upL_s, r5, if_pos rfl]
    refine ⟨rfl, by rw [r7, if_pos rfl], by rw [r6, if_pos rfl], by rw [r3, if_pos rfl, hx], by rw [r4, if_pos rfl, hx], ?_⟩
    refine MCh.same _ (fun j hj => ?_) g2
    have hne : ¬ 64 * (2 * l' + e') + j = 64 * (2 * l' + e') + (L l' e').length := by omega
    exact ⟨by rw [r7, if_neg hne], by rw [r6, if_neg hne], by rw [r3, if_neg hne], by rw [r4, if_neg hne]⟩
  · rw [upL_n _ _ hll, r5, if_neg (by omega)]
    refine ⟨g1, MCh.same _ (fun j hj => ?_) g2⟩
    have hne : ¬ 64 * (2 * l' + e') + j = 64 * (2 * l + e) + (L l e).length := by omega
    exact ⟨by rw [r7, if_neg hne], by rw [r6, if_neg hne], by rw [r3, if_neg hne], by rw [r4, if_neg hne]⟩
theorem s10 {l e : Nat} (hl : l < 5) (he : e < 2) : ¬ (nI (2 * l + e) < 0 ∨ 10 ≤ (nI (2 * l + e)).toNatClampNeg) := nI_in (by omega) (by decide)
theorem M_makes_ok {k : Nat} {ρ : RC} {L : LC} {w pn l e v : Nat} {reb : Int32} {Z : ZZ} {μ : MS} (hR : RV ρ) (h : MR k ρ L w reb Z μ) (hL : LOK k L pn w) (hk5 : k ≤ 5) (hl : l < k) (he : e < 2) (hs : szL L l < 64) (hv : v ≤ 9999) : ∃ μ', M_makes (nI (2 * l + e)) (nI v) μ = some μ' ∧ MR k ρ (upL L l e ((pn, w, v) :: L l e)) (w + 1) reb Z μ' ∧ MF 8 μ μ' ∧ ML l μ μ' := by
  have hlen := (h.2.2.2.2 l e hl he).1
  have hch := (h.2.2.2.2 l e hl he).2
  have hbe : (L l e).length < 64 := by unfold szL at hs; rcases (show e = 0 ∨ e = 1 by omega) with rfl | rfl <;> omega
  have h5 : l < 5 := by omega
  have hc5 : (nI (2 * l + e)).toNatClampNeg = 2 * l + e := nI_clamp (by omega)
  obtain ⟨μ1, a1, a2, a3, a4⟩ := M_element_q h.1 hR hv
  have hA1 : ∀ j, 5 ≤ j → gA μ1 j = gA μ j := fun j hj => a2.2.1 j (by omega) (by omega) (by omega)
  have hits : 64 * (2 * l + e) + (L l e).length < 640 := by omega
  have hci : (nI (64 * (2 * l + e) + (L l e).length)).toNatClampNeg = 64 * (2 * l + e) + (L l e).length := nI_clamp (by omega)
  have hfin : ∀ (ν : MS) (x : VV), MV μ ν → gL ν 0 = x.1 → gL ν 1 = x.2 → M_makes_86 (nI (2 * l + e)) (nI v) (nI (64 * (2 * l + e) + (L l e).length)) ν = some (pushM ν (2 * l + e) (L l e).length v w x) := by
    intro ν x q q0 q1
    have n1 : gI ν 8 = nI w := (q.1 8).trans h.2.1.2.2.1
    have n2 : gA ν 5 (2 * l + e) = nI (L l e).length := by rw [q.2.1 5 (by decide) (by decide) (by decide)]; exact hlen
    have i1 : ¬ (nI (64 * (2 * l + e) + (L l e).length) < 0 ∨ 640 ≤ 64 * (2 * l + e) + (L l e).length) := by rw [zN_lt0 (by omega), false_or]; omega
    have i2 : ¬ (nI (2 * l + e) < 0 ∨ 10 ≤ 2 * l + e) := by rw [zN_lt0 (by omega), false_or]; omega
    unfold M_makes_86 pushM
    simp only [hc5, hci, i1, i2, if_false, gI_sA, gI_sB, gL_sA, gL_sB, q0, q1, n1, nI_add]
    refine congrArg some ?_
    refine congrArg (sA _ 5 (2 * l + e)) ?_
    show gA ν 5 (2 * l + e) + nI 1 = _
    rw [n2, nI_add]
  have hdone : ∀ (ν : MS) (x : VV), MV μ ν → x = sv ρ e ((pn, w, v) :: L l e) → MR k ρ (upL L l e ((pn, w, v) :: L l e)) (w + 1) reb Z (pushM ν (2 * l + e) (L l e).length v w x) ∧ MF 8 μ (pushM ν (2 * l + e) (L l e).length v w x) ∧ ML l μ (pushM ν (2 * l + e) (L l e).length v w x) := by
    intro ν x q hx
    refine ⟨(h.q q.u).push hL hl he hs hx, ⟨fun j h8 h9 => ?_, fun j hj => ?_⟩, (ML.u q.u).trans (ML.push ν hbe he)⟩
    · refine Eq.trans ?_ (q.1 j)
      unfold pushM
      rw [gI_sA, gI_sI, if_neg h8]; rfl
    · refine Eq.trans ?_ (q.2.1 j (by omega) (by omega) (by omega))
      funext n
      unfold pushM
      rw [gA_sA, if_neg (by omega), gA_sI, gA_sA, if_neg (by omega), gA_sB, gA_sB, gA_sA, if_neg (by omega)]
  have hm : M_makes (nI (2 * l + e)) (nI v) μ = (if (gA μ1 5 (2 * l + e)) ≤ 0 then M_makes_86 (nI (2 * l + e)) (nI v) (nI (64 * (2 * l + e) + (L l e).length)) μ1 else (if (nI (64 * (2 * l + e) + (L l e).length) - nI 1) < 0 ∨ 640 ≤ (nI (64 * (2 * l + e) + (L l e).length) - nI 1).toNatClampNeg then none else (if nI e = 0 then (M_join (gL μ1 0) (gL μ1 1) (gB μ1 3 (nI (64 * (2 * l + e) + (L l e).length) - nI 1).toNatClampNeg) (gB μ1 4 (nI (64 * (2 * l + e) + (L l e).length) - nI 1).toNatClampNeg) μ1).bind fun q4 => M_makes_86 (nI (2 * l + e)) (nI v) (nI (64 * (2 * l + e) + (L l e).length)) q4 else (M_join (gB μ1 3 (nI (64 * (2 * l + e) + (L l e).length) - nI 1).toNatClampNeg) (gB μ1 4 (nI (64 * (2 * l + e) + (L l e).length) - nI 1).toNatClampNeg) (gL μ1 0) (gL μ1 1) μ1).bind fun q3 => M_makes_86 (nI (2 * l + e)) (nI v) (nI (64 * (2 * l + e) + (L l e).length)) q3))) := by
    unfold M_makes
    rw [if_neg (s10 h5 he), hc5, hlen]
    show ((M_place (nI (2 * l + e)) (nI (L l e).length)).bind _) = _
    unfold M_place
    rw [pk_mul, nI_add, Option.bind_some, a1, Option.bind_some]
    have i2 : ¬ (nI (2 * l + e) < 0 ∨ 10 ≤ 2 * l + e) := by rw [zN_lt0 (by omega), false_or]; omega
    rw [if_neg i2, if_neg (show ¬ nI 2 = 0 by decide)]
    rw [pk_rem (a := 2 * l + e) (d := 2) (by omega) (by decide) (by decide), show (2 * l + e) % 2 = e by omega]
    split
    · rfl
    · split <;> rfl
  rw [hm, hA1 5 (by decide), hlen]
  obtain ⟨ls, hLe⟩ : ∃ ls, L l e = ls := ⟨_, rfl⟩
  cases ls with
  | nil =>
    rw [if_pos (by rw [hLe]; decide), hfin μ1 (el ρ v) a2 a3 a4]
    obtain ⟨d1, d2⟩ := hdone μ1 (el ρ v) a2 (by rw [hLe]; rfl)
    exact ⟨_, rfl, d1, d2⟩
  | cons c cs =>
    have hpos : 0 < (L l e).length := by rw [hLe]; exact Nat.succ_pos _
    rw [if_neg (nI_nle hpos (by omega)), pk_sub (by omega), if_neg (nI_in (by omega) (by decide)), nI_clamp (by omega)]
    have hch' := hch
    rw [hLe] at hch'
    obtain ⟨-, -, g3, g4, -⟩ := hch'
    have hpp : 64 * (2 * l + e) + (L l e).length - 1 = 64 * (2 * l + e) + cs.length := by rw [hLe]; simp only [List.length_cons]; omega
    have b3 : gB μ1 3 (64 * (2 * l + e) + (L l e).length - 1) = (sv ρ e (c :: cs)).1 := by rw [a2.2.2, hpp]; exact g3
    have b4 : gB μ1 4 (64 * (2 * l + e) + (L l e).length - 1) = (sv ρ e (c :: cs)).2 := by rw [a2.2.2, hpp]; exact g4
    rw [b3, b4, a3, a4]
    have v1 := VD_el hR hv
    have v2 := VD_sv hR e (c :: cs) (fun x hx => (hL.1 l e hl he x (by rw [hLe]; exact hx)).2.2.2)
    rcases (show e = 0 ∨ e = 1 by omega) with rfl | rfl
    · obtain ⟨μ2, f1, f2, f3, f4⟩ := M_join_q (h.1.v a2) hR v1 v2
      rw [if_pos (show nI 0 = 0 from rfl), f1, Option.bind_some, hfin μ2 _ (a2.trans f2) f3 f4]
      obtain ⟨d1, d2⟩ := hdone μ2 _ (a2.trans f2) (show jn ρ (el ρ v) (sv ρ 0 (c :: cs)) = _ by rw [hLe]; rfl)
      exact ⟨_, rfl, d1, d2⟩
    · obtain ⟨μ2, f1, f2, f3, f4⟩ := M_join_q (h.1.v a2) hR v2 v1
      rw [if_neg (show ¬ nI 1 = 0 by decide), f1, Option.bind_some, hfin μ2 _ (a2.trans f2) f3 f4]
      obtain ⟨d1, d2⟩ := hdone μ2 _ (a2.trans f2) (show jn ρ (sv ρ 1 (c :: cs)) (el ρ v) = _ by rw [hLe]; rfl)
      exact ⟨_, rfl, d1, d2⟩
theorem M_size_ok {k : Nat} {ρ : RC} {L : LC} {w l : Nat} {reb : Int32} {Z : ZZ} {μ : MS} (h : MR k ρ L w reb Z μ) (hk5 : k ≤ 5) (hl : l < k) : M_sizeOf (nI l) μ = some (nI (szL L l), μ) := by
  have h0 := (h.2.2.2.2 l 0 hl (by decide)).1
  have h1 := (h.2.2.2.2 l 1 hl (by decide)).1
  unfold M_sizeOf
  rw [pk_mul, nI_add, if_neg (nI_in (by omega) (by decide)), if_neg (nI_in (by omega) (by decide)), nI_clamp (by omega), nI_clamp (by omega), show 2 * l = 2 * l + 0 from rfl, h0, h1, nI_add]; rfl
theorem M_size_st {ρ : RC} {L : LC} {l : Nat} {μ : MS} (hF : ∀ e, e < 2 → gA μ 5 (2 * l + e) = nI (L l e).length ∧ MCh μ ρ e (2 * l + e) (L l e)) (hl5 : l < 5) : M_sizeOf (nI l) μ = some (nI (szL L l), μ) := by
  have h0 := (hF 0 (by decide)).1
  have h1 := (hF 1 (by decide)).1
  unfold M_sizeOf
  rw [pk_mul, nI_add, if_neg (nI_in (by omega) (by decide)), if_neg (nI_in (by omega) (by decide)), nI_clamp (by omega), nI_clamp (by omega), show 2 * l = 2 * l + 0 from rfl, h0, h1, nI_add]; rfl
/-! where a cell lies -/
def c0 : CL := (0, 0, 0)
def cellAt (L : LC) (l i : Nat) : CL := if i < (L l 0).length then (L l 0).getD i c0 else (L l 1).getD ((L l 1).length - 1 - (i - (L l 0).length)) c0
def posAt (L : LC) (l i : Nat) : Nat := if i < (L l 0).length then 64 * (2 * l) + ((L l 0).length - 1 - i) else 64 * (2 * l + 1) + (i - (L l 0).length)
def sufAt (ρ : RC) (L : LC) (l i : Nat) : VV := if i < (L l 0).length then sv ρ 0 ((L l 0).drop i) else sv ρ 1 ((L l 1).drop ((L l 1).length - 1 - (i - (L l 0).length)))
theorem MCh.get {μ : MS} {ρ : RC} {e s : Nat} : ∀ {cs : List CL}, MCh μ ρ e s cs → ∀ i, i < cs.length → gA μ 7 (64 * s + (cs.length - 1 - i)) = nI (cs.getD i c0).2.2 ∧ gA μ 6 (64 * s + (cs.length - 1 - i)) = nI (cs.getD i c0).2.1 ∧ gB μ 3 (64 * s + (cs.length - 1 - i)) = (sv ρ e (cs.drop i)).1 ∧ gB μ 4 (64 * s + (cs.length - 1 - i)) = (sv ρ e (cs.drop i)).2
  | [], _, i, hi => absurd hi (Nat.not_lt_zero _)
  | c :: cs, h, 0, _ => by
    obtain ⟨h1, h2, h3, h4, -⟩ := h
    rw [show (c :: cs).length - 1 - 0 = cs.length by simp]
    exact ⟨h1, h2, h3, h4⟩
  | c :: cs, h, i + 1, hi => by
    obtain ⟨-, -, -, -, h5⟩ := h
    have := h5.get i (by simp only [List.length_cons] at hi; omega)
    rw [show (c :: cs).length - 1 - (i + 1) = cs.length - 1 - i by simp only [List.length_cons]; omega]
    exact this
theorem itm_getD (cs : List CL) (i : Nat) : (itm cs).getD i 0 = (cs.getD i c0).2.2 := by
  unfold itm
  rw [List.getD_eq_getElem?_getD, List.getD_eq_getElem?_getD, List.getElem?_map]
  cases cs[i]? <;> rfl
theorem items_at (L : LC) (l i : Nat) (hi : i < szL L l) : (itemsOf L l).getD i 0 = (cellAt L l i).2.2 := by
  unfold itemsOf cellAt
  have e0 : (itm (L l 0)).length = (L l 0).length := by unfold itm; simp
  have e1 : (itm (L l 1)).length = (L l 1).length := by unfold itm; simp
  by_cases h : i < (L l 0).length
  · rw [if_pos h, gD_l (by omega), itm_getD]
  · rw [if_neg h, gD_r (by omega), e0, ← itm_getD]
    unfold szL at hi
    rw [List.getD_eq_getElem?_getD, List.getD_eq_getElem?_getD, List.getElem?_reverse (by omega), e1]
theorem M_at_st {ρ : RC} {L : LC} {l i : Nat} {μ : MS} (hF : ∀ e, e < 2 → gA μ 5 (2 * l + e) = nI (L l e).length ∧ MCh μ ρ e (2 * l + e) (L l e)) (hs : szL L l ≤ 64) (hl5 : l < 5) (hi : i < szL L l) : M_placeOf (nI l) (nI i) μ = some (nI (posAt L l i), μ) ∧ posAt L l i < 640 ∧ gA μ 7 (posAt L l i) = nI (cellAt L l i).2.2 ∧ gA μ 6 (posAt L l i) = nI (cellAt L l i).2.1 ∧ gB μ 3 (posAt L l i) = (sufAt ρ L l i).1 ∧ gB μ 4 (posAt L l i) = (sufAt ρ L l i).2 := by
  obtain ⟨a0, b0⟩ := hF 0 (by decide)
  obtain ⟨a1, b1⟩ := hF 1 (by decide)
  have hs : (L l 0).length + (L l 1).length ≤ 64 := hs
  unfold szL at hi
  unfold posAt cellAt sufAt M_placeOf
  rw [pk_mul, if_neg (nI_in (by omega) (by decide)), nI_clamp (by omega), show gA μ 5 (2 * l) = nI (L l 0).length from a0]
  by_cases hc : i < (L l 0).length
  · rw [if_neg (nI_ge hc (by omega)), if_pos hc, if_pos hc, if_pos hc]
    refine ⟨?_, by omega, b0.get i hc⟩
    unfold M_place
    rw [pk_sub (by omega), pk_sub (by omega), pk_mul, nI_add]; rfl
  · rw [if_pos (nI_le (by omega) (by omega)), if_neg hc, if_neg hc, if_neg hc]
    refine ⟨?_, by omega, ?_⟩
    · unfold M_place
      rw [pk_sub (by omega), nI_add, pk_mul, nI_add]; rfl
    · have := b1.get ((L l 1).length - 1 - (i - (L l 0).length)) (by omega)
      rw [show (L l 1).length - 1 - ((L l 1).length - 1 - (i - (L l 0).length)) = i - (L l 0).length by omega] at this
      exact this
theorem M_itemAt_st {ρ : RC} {L : LC} {l i : Nat} {μ : MS} (hF : ∀ e, e < 2 → gA μ 5 (2 * l + e) = nI (L l e).length ∧ MCh μ ρ e (2 * l + e) (L l e)) (hs : szL L l ≤ 64) (hl5 : l < 5) (hi : i < szL L l) : M_itemAt (nI l) (nI i) μ = some (nI ((itemsOf L l).getD i 0), μ) := by
  obtain ⟨q1, q2, q3, -⟩ := M_at_st hF hs hl5 hi
  unfold M_itemAt
  rw [q1, Option.bind_some]
  show (if nI (posAt L l i) < 0 ∨ 640 ≤ (nI (posAt L l i)).toNatClampNeg then none else some (gA μ 7 (nI (posAt L l i)).toNatClampNeg, μ)) = _
  rw [if_neg (nI_in q2 (by decide)), nI_clamp (by omega), q3, items_at L l i hi]
theorem MR.at {k : Nat} {ρ : RC} {L : LC} {w pn w' l i : Nat} {reb : Int32} {Z : ZZ} {μ : MS} (h : MR k ρ L w reb Z μ) (hL : LOK k L pn w') (hk5 : k ≤ 5) (hl : l < k) (hi : i < szL L l) : M_placeOf (nI l) (nI i) μ = some (nI (posAt L l i), μ) ∧ posAt L l i < 640 ∧ gA μ 7 (posAt L l i) = nI (cellAt L l i).2.2 ∧ gA μ 6 (posAt L l i) = nI (cellAt L l i).2.1 ∧ gB μ 3 (posAt L l i) = (sufAt ρ L l i).1 ∧ gB μ 4 (posAt L l i) = (sufAt ρ L l i).2 := M_at_st (fun e he => h.2.2.2.2 l e hl he) (hL.2.1 l hl) (by omega) hi
theorem M_itemAt_ok {k : Nat} {ρ : RC} {L : LC} {w pn w' l i : Nat} {reb : Int32} {Z : ZZ} {μ : MS} (h : MR k ρ L w reb Z μ) (hL : LOK k L pn w') (hk5 : k ≤ 5) (hl : l < k) (hi : i < szL L l) : M_itemAt (nI l) (nI i) μ = some (nI ((itemsOf L l).getD i 0), μ) := M_itemAt_st (fun e he => h.2.2.2.2 l e hl he) (hL.2.1 l hl) (by omega) hi
/-- a row of the twin is laid anew -/
def mX (μ : MS) (k : Nat) (f : Nat → Int32) : MS := (μ.1, μ.2.1, va_up μ.2.2.1 k f, μ.2.2.2)
theorem gA_mX (μ : MS) (k : Nat) (f : Nat → Int32) (j : Nat) : gA (mX μ k f) j = if j = k then f else gA μ j := rfl
theorem mX_A (μ : MS) (k : Nat) (f : Nat → Int32) : gA (mX μ k f) k = f := if_pos rfl
theorem sA_mX (μ : MS) (k : Nat) (f : Nat → Int32) (i : Nat) (x : Int32) : sA (mX μ k f) k i x = mX μ k (upd f i x) := by
  show (μ.1, μ.2.1, va_up (va_up μ.2.2.1 k f) k (upd (va_up μ.2.2.1 k f k) i x), μ.2.2.2) = _
  rw [bx_uu]
  have : va_up μ.2.2.1 k f k = f := if_pos rfl
  rw [this]; rfl
theorem mX_self (μ : MS) (k : Nat) : mX μ k (gA μ k) = μ := by
  have : va_up μ.2.2.1 k (μ.2.2.1 k) = μ.2.2.1 := by
    funext j; unfold va_up; split
    · next h => rw [h]
    · rfl
  show (μ.1, μ.2.1, va_up μ.2.2.1 k (μ.2.2.1 k), μ.2.2.2) = μ
  rw [this]
theorem MU.mX (μ : MS) {k : Nat} (hk : k = 2 ∨ k = 3 ∨ k = 4 ∨ k = 8 ∨ k = 9 ∨ k = 10 ∨ k = 11) (f : Nat → Int32) : MU μ (mX μ k f) := by
  refine ⟨⟨rfl, rfl, rfl, rfl, rfl, rfl, rfl⟩, ⟨?_, ?_, ?_, ?_, ?_⟩, rfl, rfl, rfl⟩ <;> (rw [gA_mX, if_neg (by omega)])
theorem M_items_st {ρ : RC} {L : LC} {l : Nat} {μ : MS} (hF : ∀ e, e < 2 → gA μ 5 (2 * l + e) = nI (L l e).length ∧ MCh μ ρ e (2 * l + e) (L l e)) (hs : szL L l ≤ 64) (hl5 : l < 5) : M_takesItems (nI l) μ = some (nI (szL L l), mX μ 8 (wr (gA μ 8) 0 (itemsOf L l))) := by
  have hil := items_len L l
  have hsz : szL L l ≤ 64 := hs
  have hG : ∀ g : Nat → Int32, ∀ e, e < 2 → gA (mX μ 8 g) 5 (2 * l + e) = nI (L l e).length ∧ MCh (mX μ 8 g) ρ e (2 * l + e) (L l e) := fun g e he => ⟨(hF e he).1, MCh.same (μ := μ) _ (fun _ _ => ⟨rfl, rfl, rfl, rfl⟩) (hF e he).2⟩
  have hloop : ∀ (vs : List Nat) (i : Nat) (g : Nat → Int32) (f : Nat), (itemsOf L l).drop i = vs → i + vs.length = szL L l → vs.length < f → M_takesItems_8 f (nI l) (nI (szL L l)) (nI i) (mX μ 8 g) = some (nI (szL L l), mX μ 8 (wr g i vs)) := by
    intro vs
    induction vs with
    | nil =>
      intro i g f hd hi hf
      obtain ⟨f, rfl⟩ : ∃ g, f = g + 1 := ⟨f - 1, by simp at hf; omega⟩
      show (if nI (szL L l) ≤ nI i then some (nI (szL L l), mX μ 8 g) else _) = _
      have hi : i = szL L l := hi
      rw [if_pos (nI_le (by omega) (by omega)), wr_nil]
    | cons v vs ih =>
      intro i g f hd hi hf
      simp only [List.length_cons] at hi hf
      obtain ⟨f, rfl⟩ : ∃ g, f = g + 1 := ⟨f - 1, by omega⟩
      have hd2 := drop_s (its := itemsOf L l) (j := i) (by omega)
      rw [hd] at hd2
      obtain ⟨hv, hvs⟩ := List.cons.inj hd2
      show (if nI (szL L l) ≤ nI i then _ else (M_itemAt (nI l) (nI i) (mX μ 8 g)).bind fun q2 => (if nI i < 0 ∨ 65 ≤ (nI i).toNatClampNeg then none else M_takesItems_8 f (nI l) (nI (szL L l)) (nI i + nI 1) (sA q2.2 8 (nI i).toNatClampNeg q2.1))) = _
      rw [if_neg (nI_ge (by omega) (by omega)), M_itemAt_st (hG g) hs hl5 (by omega), Option.bind_some, if_neg (nI_in (by omega) (by decide)), nI_clamp (by omega), nI_add]
      show M_takesItems_8 f (nI l) (nI (szL L l)) (nI (i + 1)) (sA (mX μ 8 g) 8 i (nI ((itemsOf L l).getD i 0))) = _
      rw [sA_mX, ih (i + 1) _ f hvs.symm (by omega) (by omega), ← hv, wr_cons]
  unfold M_takesItems
  rw [M_size_st hF hl5, Option.bind_some]
  have := hloop (itemsOf L l) 0 (gA μ 8) FU rfl (by omega) (by unfold FU; omega)
  rw [mX_self] at this
  exact this
theorem M_items_ok {k : Nat} {ρ : RC} {L : LC} {w pn w' l : Nat} {reb : Int32} {Z : ZZ} {μ : MS} (h : MR k ρ L w reb Z μ) (hL : LOK k L pn w') (hk5 : k ≤ 5) (hl : l < k) : M_takesItems (nI l) μ = some (nI (szL L l), mX μ 8 (wr (gA μ 8) 0 (itemsOf L l))) := M_items_st (fun e he => h.2.2.2.2 l e hl he) (hL.2.1 l hl) (by omega)
