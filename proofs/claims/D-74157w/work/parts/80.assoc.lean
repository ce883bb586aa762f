set_option maxRecDepth 100000
/-! joins are associative -/
def VE (ρ : RC) (m : Nat) (x : VV) : Prop := VD ρ x ∧ (ρ.1 = 3 → ∃ a b : Nat, a < 101 ∧ b < 101 ∧ x = (lN a, lN b)) ∧ (ρ.1 = 4 → ∃ a b : Nat, a ≤ m ∧ b ≤ m ∧ x = (lN a, lN b)) ∧ (ρ.1 = 5 → ∃ b : Nat, b < 2 ∧ x.2 = lN b)
theorem jn_3 {w ne : Nat} {t : Nat → Nat → Nat} {a b c d : Nat} (ha : a < 101) (hb : b < 101) (hc : c < 101) (hd : d < 101) : jn (3, w, ne, t) (lN a, lN b) (lN c, lN d) = (lN (a * c % 101), lN ((c * b + d) % 101)) := by
  have h1 : a * c ≤ 100 * 100 := Nat.mul_le_mul (by omega) (by omega)
  have h2 : c * b ≤ 100 * 100 := Nat.mul_le_mul (by omega) (by omega)
  show (lN a * lN c - lN a * lN c / lN 101 * lN 101, (lN c * lN b + lN d) - (lN c * lN b + lN d) / lN 101 * lN 101) = _
  rw [lN_mul, lN_mul, lN_add, pk_lRem (by omega) (by decide) (by decide), pk_lRem (by omega) (by decide) (by decide)]
theorem jn_4 {w ne : Nat} {t : Nat → Nat → Nat} {a b c d : Nat} (hb : b < 2 ^ 31) (hc : c < 2 ^ 31) : jn (4, w, ne, t) (lN a, lN b) (lN c, lN d) = (lN (a + (c - b)), lN (d + (b - c))) := by
  show ((lN a + lN c) - (if lN c < lN b then lN c else lN b), (lN b + lN d) - (if lN c < lN b then lN c else lN b)) = _
  rw [lN_add, lN_add]
  by_cases h : c < b
  · rw [if_pos ((lN_lt hc hb).mpr h), lN_sub (by omega), lN_sub (by omega), show a + c - c = a + (c - b) by omega, show b + d - c = d + (b - c) by omega]
  · rw [if_neg (fun z => h ((lN_lt hc hb).mp z)), lN_sub (by omega), lN_sub (by omega), show a + c - b = a + (c - b) by omega, show b + d - b = d + (b - c) by omega]
theorem jn_5 {w ne : Nat} {t : Nat → Nat → Nat} {i j b d : Nat} (hi : i < 24) (hj : j < 24) (hb : b < 2) (hd : d < 2) : jn (5, w, ne, t) (lN i, lN b) (lN j, lN d) = (lN (CP i j), lN ((b + d) % 2)) := by
  show (lN (CP (nN (lN i)) (nN (lN j))), (lN b + lN d) - (lN b + lN d) / lN 2 * lN 2) = _
  rw [nN_lN (by omega), nN_lN (by omega), lN_add, pk_lRem (by omega) (by decide) (by decide)]
theorem VE_5 {w ne : Nat} {t : Nat → Nat → Nat} {m : Nat} {x : VV} (h : VE (5, w, ne, t) m x) : ∃ i b : Nat, i < 24 ∧ b < 2 ∧ x = (lN i, lN b) := by
  obtain ⟨i, hi, e1⟩ := h.1.2.1 rfl
  obtain ⟨b, hb, e2⟩ := h.2.2.2 rfl
  exact ⟨i, b, hi, hb, Prod.ext e1 e2⟩
theorem VE_el {ρ : RC} (hR : RV ρ) {v : Nat} (hv : v ≤ 9999) : VE ρ 10 (el ρ v) := by
  refine ⟨VD_el hR hv, ?_, ?_, ?_⟩
  · obtain ⟨r, w, ne, t⟩ := ρ
    intro e
    have e : r = 3 := e
    subst e
    exact ⟨v / 101 % 101, v % 101, Nat.mod_lt _ (by decide), Nat.mod_lt _ (by decide), rfl⟩
  · obtain ⟨r, w, ne, t⟩ := ρ
    intro e
    have e : r = 4 := e
    subst e
    show ∃ a b : Nat, a ≤ 10 ∧ b ≤ 10 ∧ (if v % 2 = 0 then (lN 0, lN (v / 2 % 10)) else (lN (v / 2 % 10), lN 0)) = (lN a, lN b)
    split
    · exact ⟨0, v / 2 % 10, by decide, by omega, rfl⟩
    · exact ⟨v / 2 % 10, 0, by omega, by decide, rfl⟩
  · obtain ⟨r, w, ne, t⟩ := ρ
    intro e
    have e : r = 5 := e
    subst e
    exact ⟨LPn (v % 24) % 2, Nat.mod_lt _ (by decide), rfl⟩
theorem VE_emp {ρ : RC} (hR : RV ρ) : VE ρ 0 (emp ρ) := by
  refine ⟨VD_emp hR, ?_, ?_, ?_⟩
  · obtain ⟨r, w, ne, t⟩ := ρ
    intro e
    have e : r = 3 := e
    subst e
    exact ⟨1, 0, by decide, by decide, rfl⟩
  · obtain ⟨r, w, ne, t⟩ := ρ
    intro e
    have e : r = 4 := e
    subst e
    exact ⟨0, 0, by decide, by decide, rfl⟩
  · obtain ⟨r, w, ne, t⟩ := ρ
    intro e
    have e : r = 5 := e
    subst e
    exact ⟨0, by decide, rfl⟩
theorem VE_jn {ρ : RC} (hR : RV ρ) {m m' : Nat} {x y : VV} (hx : VE ρ m x) (hy : VE ρ m' y) (hm : m + m' < 2 ^ 31) : VE ρ (m + m') (jn ρ x y) := by
  refine ⟨VD_jn hR hx.1 hy.1, ?_, ?_, ?_⟩
  · obtain ⟨r, w, ne, t⟩ := ρ
    intro e
    have e : r = 3 := e
    subst e
    obtain ⟨a, b, ha, hb, rfl⟩ := hx.2.1 rfl
    obtain ⟨c, d, hc, hd, rfl⟩ := hy.2.1 rfl
    exact ⟨_, _, Nat.mod_lt _ (by decide), Nat.mod_lt _ (by decide), jn_3 ha hb hc hd⟩
  · obtain ⟨r, w, ne, t⟩ := ρ
    intro e
    have e : r = 4 := e
    subst e
    obtain ⟨a, b, ha, hb, rfl⟩ := hx.2.2.1 rfl
    obtain ⟨c, d, hc, hd, rfl⟩ := hy.2.2.1 rfl
    exact ⟨_, _, by omega, by omega, jn_4 (by omega) (by omega)⟩
  · obtain ⟨r, w, ne, t⟩ := ρ
    intro e
    have e : r = 5 := e
    subst e
    obtain ⟨i, b, hi, hb, rfl⟩ := VE_5 hx
    obtain ⟨j, d, hj, hd, rfl⟩ := VE_5 hy
    exact ⟨_, Nat.mod_lt _ (by decide), congrArg Prod.snd (jn_5 hi hj hb hd)⟩
theorem jn_as {ρ : RC} (hR : RV ρ) {m m' m'' : Nat} {x y z : VV} (hx : VE ρ m x) (hy : VE ρ m' y) (hz : VE ρ m'' z) (hm : m + m' + m'' < 2 ^ 31) : jn ρ (jn ρ x y) z = jn ρ x (jn ρ y z) := by
  obtain ⟨r, w, ne, t⟩ := ρ
  have hR' := hR
  obtain ⟨v1, v2, v3, v4, v5, v6, v7⟩ := hR
  have v3 : w ≤ 5 := v3
  rcases r8 v1 with e | e | e | e | e | e | e | e <;> (have e : r = _ := e; subst e)
  · show (x.1 + y.1 + z.1, x.2 + y.2 + z.2) = (x.1 + (y.1 + z.1), x.2 + (y.2 + z.2))
    rw [Int64.add_assoc, Int64.add_assoc]
  · show (if z.1 < (if y.1 < x.1 then y.1 else x.1) then z.1 else (if y.1 < x.1 then y.1 else x.1), if z.2 < (if y.2 < x.2 then x.2 else y.2) then (if y.2 < x.2 then x.2 else y.2) else z.2) = (if (if z.1 < y.1 then z.1 else y.1) < x.1 then (if z.1 < y.1 then z.1 else y.1) else x.1, if (if z.2 < y.2 then y.2 else z.2) < x.2 then x.2 else (if z.2 < y.2 then y.2 else z.2))
    refine Prod.ext ?_ ?_
    · show (if z.1 < (if y.1 < x.1 then y.1 else x.1) then z.1 else (if y.1 < x.1 then y.1 else x.1)) = (if (if z.1 < y.1 then z.1 else y.1) < x.1 then (if z.1 < y.1 then z.1 else y.1) else x.1)
      simp only [Int64.lt_iff_toInt_lt]
      by_cases c1 : y.1.toInt < x.1.toInt <;> by_cases c2 : z.1.toInt < y.1.toInt <;> by_cases c3 : z.1.toInt < x.1.toInt <;> simp only [c1, c2, c3, if_true, if_false] <;> omega
    · show (if z.2 < (if y.2 < x.2 then x.2 else y.2) then (if y.2 < x.2 then x.2 else y.2) else z.2) = (if (if z.2 < y.2 then y.2 else z.2) < x.2 then x.2 else (if z.2 < y.2 then y.2 else z.2))
      simp only [Int64.lt_iff_toInt_lt]
      by_cases c1 : y.2.toInt < x.2.toInt <;> by_cases c2 : z.2.toInt < y.2.toInt <;> by_cases c3 : z.2.toInt < x.2.toInt <;> simp only [c1, c2, c3, if_true, if_false] <;> omega
  · obtain ⟨i, hi, e1⟩ := hx.1.1 rfl
    obtain ⟨j, hj, e2⟩ := hy.1.1 rfl
    obtain ⟨k, hk, e3⟩ := hz.1.1 rfl
    have g1 := gcd_le9 hi hj
    have g2 := gcd_le9 hj hk
    show (lN (Nat.gcd (nN (lN (Nat.gcd (nN x.1) (nN y.1)))) (nN z.1)), x.2 ^^^ y.2 ^^^ z.2) = (lN (Nat.gcd (nN x.1) (nN (lN (Nat.gcd (nN y.1) (nN z.1))))), x.2 ^^^ (y.2 ^^^ z.2))
    rw [e1, e2, e3, nN_lN (show i < 2 ^ 63 by omega), nN_lN (show j < 2 ^ 63 by omega), nN_lN (show k < 2 ^ 63 by omega), nN_lN (show Nat.gcd i j < 2 ^ 63 by omega), nN_lN (show Nat.gcd j k < 2 ^ 63 by omega), Nat.gcd_assoc, Int64.xor_assoc]
  · obtain ⟨a, b, ha, hb, rfl⟩ := hx.2.1 rfl
    obtain ⟨c, d, hc, hd, rfl⟩ := hy.2.1 rfl
    obtain ⟨f, g, hf, hg, rfl⟩ := hz.2.1 rfl
    rw [jn_3 ha hb hc hd, jn_3 hc hd hf hg, jn_3 (Nat.mod_lt _ (by decide)) (Nat.mod_lt _ (by decide)) hf hg, jn_3 ha hb (Nat.mod_lt _ (by decide)) (Nat.mod_lt _ (by decide))]
    refine Prod.ext (congrArg lN ?_) (congrArg lN ?_)
    · rw [Nat.mod_mul_mod, Nat.mul_mod_mod, Nat.mul_assoc]
    · rw [Nat.add_mod (f * ((c * b + d) % 101)), Nat.mul_mod_mod, ← Nat.add_mod, Nat.add_mod (c * f % 101 * b), Nat.mod_mul_mod, Nat.mod_mod, ← Nat.add_mod]
      congr 1
      rw [Nat.mul_add, ← Nat.mul_assoc, Nat.mul_comm f c]; omega
  · obtain ⟨a, b, ha, hb, rfl⟩ := hx.2.2.1 rfl
    obtain ⟨c, d, hc, hd, rfl⟩ := hy.2.2.1 rfl
    obtain ⟨f, g, hf, hg, rfl⟩ := hz.2.2.1 rfl
    rw [jn_4 (by omega) (by omega), jn_4 (by omega) (by omega), jn_4 (by omega) (by omega), jn_4 (by omega) (by omega)]
    refine Prod.ext (congrArg lN ?_) (congrArg lN ?_) <;> omega
  · obtain ⟨i, b, hi, hb, rfl⟩ := VE_5 hx
    obtain ⟨j, d, hj, hd, rfl⟩ := VE_5 hy
    obtain ⟨k, f, hk, hf, rfl⟩ := VE_5 hz
    rw [jn_5 hi hj hb hd, jn_5 hj hk hd hf, jn_5 (CP_lt i hi j hj) hk (Nat.mod_lt _ (by decide)) hf, jn_5 hi (CP_lt j hj k hk) hb (Nat.mod_lt _ (by decide)), CP_as i hi j hj k hk]
    refine Prod.ext rfl (congrArg lN ?_)
    show ((b + d) % 2 + f) % 2 = (b + (d + f) % 2) % 2
    omega
  · show (if (if x.1 < 0 then y else if y.1 < 0 then x else (x.1, y.2)).1 < 0 then z else if z.1 < 0 then (if x.1 < 0 then y else if y.1 < 0 then x else (x.1, y.2)) else ((if x.1 < 0 then y else if y.1 < 0 then x else (x.1, y.2)).1, z.2)) = (if x.1 < 0 then (if y.1 < 0 then z else if z.1 < 0 then y else (y.1, z.2)) else if (if y.1 < 0 then z else if z.1 < 0 then y else (y.1, z.2)).1 < 0 then x else (x.1, (if y.1 < 0 then z else if z.1 < 0 then y else (y.1, z.2)).2))
    by_cases c1 : x.1 < 0 <;> by_cases c2 : y.1 < 0 <;> by_cases c3 : z.1 < 0 <;> simp only [c1, c2, c3, if_true, if_false]
  · have hx := hx.1
    have hy := hy.1
    have hz := hz.1
    obtain ⟨i, hi, e1⟩ := hx.2.2.2 rfl
    obtain ⟨j, hj, e2⟩ := hy.2.2.2 rfl
    obtain ⟨k, hk, e3⟩ := hz.2.2.2 rfl
    have hi : i < w := hi
    have hj : j < w := hj
    have hk : k < w := hk
    have t1 : t i j < w := v5 i j hi hj
    have t2 : t j k < w := v5 j k hj hk
    show (lN (t (nN (lN (t (nN x.1) (nN y.1)))) (nN z.1)), lN 0) = (lN (t (nN x.1) (nN (lN (t (nN y.1) (nN z.1))))), lN 0)
    rw [e1, e2, e3, nN_lN (show i < 2 ^ 63 by omega), nN_lN (show j < 2 ^ 63 by omega), nN_lN (show k < 2 ^ 63 by omega), nN_lN (show t i j < 2 ^ 63 by omega), nN_lN (show t j k < 2 ^ 63 by omega), show t (t i j) k = t i (t j k) from v7 i j k hi hj hk]
theorem VE_up {ρ : RC} {m m' : Nat} {x : VV} (h : VE ρ m x) (hm : m ≤ m') : VE ρ m' x := ⟨h.1, h.2.1, fun e => by
  obtain ⟨a, b, ha, hb, hx⟩ := h.2.2.1 e
  exact ⟨a, b, by omega, by omega, hx⟩, h.2.2.2⟩
theorem list_snoc {α : Type} : ∀ (l : List α), l = [] ∨ ∃ l' a, l = l' ++ [a]
  | [] => .inl rfl
  | a :: l => by
    rcases list_snoc l with rfl | ⟨l', b, rfl⟩
    · exact .inr ⟨[], a, rfl⟩
    · exact .inr ⟨a :: l', b, rfl⟩
theorem VE_fo {ρ : RC} (hR : RV ρ) : ∀ (n : Nat) (vs : List Nat), vs.length = n → n ≤ 1000 → (∀ v ∈ vs, v ≤ 9999) → VE ρ (10 * n) (fo ρ vs)
  | 0, vs, h, _, _ => by
    have : vs = [] := List.eq_nil_of_length_eq_zero h
    subst this
    exact VE_emp hR
  | n + 1, vs, h, hn, h9 => by
    rcases list_snoc vs with rfl | ⟨vs', v, rfl⟩
    · simp at h
    · rw [List.length_append] at h
      have h : vs'.length + 1 = n + 1 := h
      rw [fo_snoc]
      exact VE_jn hR (VE_fo hR n vs' (by omega) (by omega) (fun x hx => h9 x (List.mem_append_left _ hx))) (VE_el hR (h9 v (List.mem_append_right _ (List.mem_singleton.mpr rfl)))) (by show 10 * n + 10 < 2 ^ 31; omega)
theorem fo_1 {ρ : RC} (hR : RV ρ) {v : Nat} (hv : v ≤ 9999) : fo ρ [v] = el ρ v := jn_emp_el hR hv
theorem fo_app {ρ : RC} (hR : RV ρ) (a : List Nat) (h9a : ∀ v ∈ a, v ≤ 9999) (ha : a.length ≤ 100) : ∀ (n : Nat) (b : List Nat), b.length = n + 1 → n ≤ 100 → (∀ v ∈ b, v ≤ 9999) → fo ρ (a ++ b) = jn ρ (fo ρ a) (fo ρ b)
  | 0, b, h, _, h9 => by
    rcases list_snoc b with rfl | ⟨b', v, rfl⟩
    · simp at h
    · rw [List.length_append] at h
      have h : b'.length + 1 = 0 + 1 := h
      have : b' = [] := List.eq_nil_of_length_eq_zero (by omega)
      subst this
      rw [List.nil_append, fo_snoc, fo_1 hR (h9 v (by simp))]
  | n + 1, b, h, hn, h9 => by
    rcases list_snoc b with rfl | ⟨b', v, rfl⟩
    · simp at h
    · rw [List.length_append] at h
      have h : b'.length + 1 = n + 1 + 1 := h
      have hb' : ∀ x ∈ b', x ≤ 9999 := fun x hx => h9 x (List.mem_append_left _ hx)
      have hv := h9 v (List.mem_append_right _ (List.mem_singleton.mpr rfl))
      rw [← List.append_assoc, fo_snoc, fo_snoc, fo_app hR a h9a ha n b' (by omega) (by omega) hb']
      exact jn_as hR (VE_fo hR a.length a rfl (by omega) h9a) (VE_fo hR b'.length b' rfl (by omega) hb') (VE_el hR hv) (by omega)
theorem sv_fo0 {ρ : RC} (hR : RV ρ) : ∀ (cs : List CL), cs.length ≤ 64 → (∀ c ∈ cs, c.2.2 ≤ 9999) → sv ρ 0 cs = fo ρ (itm cs)
  | [], _, _ => rfl
  | [c], _, h => (fo_1 hR (h c (by simp))).symm
  | c :: d :: cs, hl, h => by
    have hl : cs.length + 1 + 1 ≤ 64 := hl
    have ih := sv_fo0 hR (d :: cs) (by simp only [List.length_cons]; omega) (fun x hx => h x (List.mem_cons_of_mem _ hx))
    have h9 : ∀ v ∈ itm (d :: cs), v ≤ 9999 := fun v hv => by
      obtain ⟨q, hq, rfl⟩ := List.mem_map.mp hv
      exact h q (List.mem_cons_of_mem _ hq)
    rw [sv_0, ih, show itm (c :: d :: cs) = [c.2.2] ++ itm (d :: cs) from rfl, fo_app hR [c.2.2] (fun v hv => by rw [List.mem_singleton.mp hv]; exact h c List.mem_cons_self) (by show 1 ≤ 100; decide) cs.length (itm (d :: cs)) (by rw [itm_len]; rfl) (by omega) h9, fo_1 hR (h c List.mem_cons_self)]
theorem sv_fo1 {ρ : RC} (hR : RV ρ) : ∀ (cs : List CL), (∀ c ∈ cs, c.2.2 ≤ 9999) → sv ρ 1 cs = fo ρ (itm cs).reverse
  | [], _ => rfl
  | [c], h => (fo_1 hR (h c (by simp))).symm
  | c :: d :: cs, h => by
    have ih := sv_fo1 hR (d :: cs) (fun x hx => h x (List.mem_cons_of_mem _ hx))
    rw [sv_1, ih, show (itm (c :: d :: cs)).reverse = (itm (d :: cs)).reverse ++ [c.2.2] from List.reverse_cons, fo_snoc]
/-- a line's summary is that of its items -/
theorem smy_fo {ρ : RC} (hR : RV ρ) {k : Nat} {L : LC} {pn w l : Nat} (hL : LOK k L pn w) (hl : l < k) : smy ρ L l = fo ρ (itemsOf L l) := by
  have hs := hL.2.1 l hl
  have h0 : ∀ c ∈ L l 0, c.2.2 ≤ 9999 := fun c hc => (hL.1 l 0 hl (by decide) c hc).2.2.2
  have h1 : ∀ c ∈ L l 1, c.2.2 ≤ 9999 := fun c hc => (hL.1 l 1 hl (by decide) c hc).2.2.2
  have e0 := sv_fo0 hR (L l 0) (by omega) h0
  have e1 := sv_fo1 hR (L l 1) h1
  unfold smy itemsOf
  by_cases z0 : (L l 0).length = 0
  · have n0 : L l 0 = [] := List.eq_nil_of_length_eq_zero z0
    rw [if_pos z0]
    by_cases z1 : (L l 1).length = 0
    · have n1 : L l 1 = [] := List.eq_nil_of_length_eq_zero z1
      rw [if_pos z1, n0, n1]; rfl
    · rw [if_neg z1, e1, n0]; rfl
  · rw [if_neg z0]
    by_cases z1 : (L l 1).length = 0
    · have n1 : L l 1 = [] := List.eq_nil_of_length_eq_zero z1
      rw [if_pos z1, e0, n1, show (itm []).reverse = [] from rfl, List.append_nil]
    · rw [if_neg z1, e0, e1]
      refine (fo_app hR _ (itm9 hL hl (e := 0) (by decide)) (by rw [itm_len]; omega) ((L l 1).length - 1) _ (by rw [List.length_reverse, itm_len]; omega) (by omega) (fun v hv => itm9 hL hl (e := 1) (by decide) v (List.mem_reverse.mp hv))).symm
