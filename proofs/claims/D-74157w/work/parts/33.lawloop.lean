set_option maxRecDepth 100000
/-! THE LAW'S LOOP -/
/-- the script: an old array -/
def SB (A : Nat → Prop) (s : State) (b L : Nat) (xs : Nat → Int32) : Prop := va_X b L xs s s.heap ∧ b < s.heap.size ∧ ¬ A b ∧ L ≤ 256
theorem lg_cmp_self (x : Int64) : lg_cmp x x = 0 := by unfold lg_cmp; simp
theorem wm_at {dA : Nat → ClassId} {GM : Nat → Nat} {μ : MS} : ∀ k : Nat, k < 18 → ∃ e : va_E, (WM dA GM μ)[k]? = some (GM k, e) := by
  intro k hk
  rcases (show k = 0 ∨ k = 1 ∨ k = 2 ∨ k = 3 ∨ k = 4 ∨ k = 5 ∨ k = 6 ∨ k = 7 ∨ k = 8 ∨ k = 9 ∨ k = 10 ∨ k = 11 ∨ k = 12 ∨ k = 13 ∨ k = 14 ∨ k = 15 ∨ k = 16 ∨ k = 17 by omega) with rfl | rfl | rfl | rfl | rfl | rfl | rfl | rfl | rfl | rfl | rfl | rfl | rfl | rfl | rfl | rfl | rfl | rfl <;> exact ⟨_, rfl⟩
theorem ag_eq {dA : Nat → ClassId} {GM : Nat → Nat} {μ : MS} (sz : Nat) : AG GM sz = va_A (WM dA GM μ) sz := by
  funext q
  refine propext ⟨fun h => ?_, fun h => ?_⟩
  · rcases h with ⟨k, hk, rfl⟩ | h
    · obtain ⟨e, he⟩ := wm_at (dA := dA) (GM := GM) (μ := μ) k hk
      exact Or.inl ⟨k, e, he⟩
    · exact Or.inr h
  · rcases h with ⟨k, e, h⟩ | h
    · exact wm_in sz k _ h
    · exact Or.inr h
section ZLW
variable {p : Program} {l : Launch} {e : Env} {s : State} {m : MethodId} {args : Array Value} {below : List Frame} {meth : Method} {c : Code} {cc : ByteArray} {own C : String} {nL : Nat} {D : va_G} {dA : Nat → ClassId} {G GM : Nat → Nat} {A : Nat → Prop} {Q : State → Prop} {Y : va_W} {u v pc : Nat} {lv : List (Nat × Value)} {st rest : List Value}
  {y : MethodName} {bytes : ByteArray} {maxL N n' na index b L : Nat} {rk rs : Nat} {ret : Option FieldType} {As : List Value} {μ μ' : MS} {xs : Nat → Int32}
theorem ct_i {r : Int32} {w : List Cond} (hM : Ct l y w n' 0 0 D dA As (WM dA GM μ) (AG GM) (QfI D dA (WM dA GM μ') r)) : CtX l y w n' 0 0 D dA G As (WM dA GM μ) (QgI D dA (fun _ : Unit => WM dA GM μ') r) := by
  intro sz
  have h := hM sz
  rw [ag_eq (dA := dA) (μ := μ)] at h
  exact MetFree.mono h (fun a U hp => by
    obtain ⟨h0, h1, h2, h3, h4, -⟩ := hp
    exact ⟨h0, h1, h2, h3, h4.weaken (fun k q hk _ => Or.inl ⟨k, q.2, hk⟩)⟩) (fun _ _ _ _ _ h => h) (fun _ _ _ _ _ h => h)
theorem ct_l {r : Int64} {w : List Cond} (hM : Ct l y w n' 0 0 D dA As (WM dA GM μ) (AG GM) (QfL D dA (WM dA GM μ') r)) : CtX l y w n' 0 0 D dA G As (WM dA GM μ) (QgL D dA (fun _ : Unit => WM dA GM μ') r) := by
  intro sz
  have h := hM sz
  rw [ag_eq (dA := dA) (μ := μ)] at h
  exact MetFree.mono h (fun a U hp => by
    obtain ⟨h0, h1, h2, h3, h4, -⟩ := hp
    exact ⟨h0, h1, h2, h3, h4.weaken (fun k q hk _ => Or.inl ⟨k, q.2, hk⟩)⟩) (fun _ _ _ _ _ h => h) (fun _ _ _ _ _ h => h)
theorem mw_vx (hw : MwV y bytes maxL ret C na) : MwX y bytes maxL ret C na := by
  obtain ⟨⟨h0, h1⟩, h2, h3, h4, h5⟩ := hw
  exact ⟨h1, h2, h3, h0 ▸ h4, h5⟩
/-- a call of the twin -/
theorem zw_callTi (hO : Ok p s m args meth c cc own nL D dA A) (hX : XK dA G A s) {r : Int32} (hM : Ct l y (ws_ y bytes maxL ret) n' 0 0 D dA (.ref (GM 0) :: As) (WM dA GM μ) (AG GM) (QfI D dA (WM dA GM μ') r)) (hw : MwV y bytes maxL ret RX4 na) (hlk : Cond.methodLink own index y ∈ lw_all) (hR : n' + 1 ≤ N ∧ 8 + (maxL + 11) + 64 * n' ≤ 64 * N) (hc : u ≤ rk ∧ v ≤ rs) (hn : As.length = na)
    (hst : st = As.reverse ++ .ref (GM 0) :: rest) (hrm : (rest.map fun x => x.category).sum ≤ 8) (hdg : decode cc pc = .ok (.invokevirtual index, 3)) (kk : Go p l e (rmG N rk rs) s m args below meth c D A nL Q (Y ++ WM dA GM μ') u v (pc + 3) lv (.int r :: rest)) : Go p l e (rmG N rk rs) s m args below meth c D A nL Q (Y ++ WM dA GM μ) u v pc lv st := by
  refine zt_perm List.perm_append_comm ?_
  exact zx_callViX (X := Y) hO hX (ct_i hM) (mw_vx hw) hlk hR hc hn hst hrm ⟨0, 0, _, _, rfl, rfl, rfl⟩ hdg (fun _ => zt_perm List.perm_append_comm kk)
theorem zw_callTl (hO : Ok p s m args meth c cc own nL D dA A) (hX : XK dA G A s) {r : Int64} (hM : Ct l y (ws_ y bytes maxL ret) n' 0 0 D dA (.ref (GM 0) :: As) (WM dA GM μ) (AG GM) (QfL D dA (WM dA GM μ') r)) (hw : MwV y bytes maxL ret RX4 na) (hlk : Cond.methodLink own index y ∈ lw_all) (hR : n' + 1 ≤ N ∧ 8 + (maxL + 11) + 64 * n' ≤ 64 * N) (hc : u ≤ rk ∧ v ≤ rs) (hn : As.length = na)
    (hst : st = As.reverse ++ .ref (GM 0) :: rest) (hrm : (rest.map fun x => x.category).sum ≤ 8) (hdg : decode cc pc = .ok (.invokevirtual index, 3)) (kk : Go p l e (rmG N rk rs) s m args below meth c D A nL Q (Y ++ WM dA GM μ') u v (pc + 3) lv (.long r :: rest)) : Go p l e (rmG N rk rs) s m args below meth c D A nL Q (Y ++ WM dA GM μ) u v pc lv st := by
  refine zt_perm List.perm_append_comm ?_
  exact zx_callVlX (X := Y) hO hX (ct_l hM) (mw_vx hw) hlk hR hc hn hst hrm ⟨0, 0, _, _, rfl, rfl, rfl⟩ hdg (fun _ => zt_perm List.perm_append_comm kk)
/-- a number of the script -/
theorem zl_sld (hO : Ok p s m args meth c cc own nL D dA A) (hB : SB A s b L xs) {x : Int32} {j : Nat} (he : x = nI j) (hj : j < L) (hdg : decode cc pc = .ok (.iaload, 1)) (kk : Go p l e (rmG N rk rs) s m args below meth c D A nL Q Y u v (pc + 1) lv (.int (xs j) :: st)) : Go p l e (rmG N rk rs) s m args below meth c D A nL Q Y u v pc lv (.int x :: .ref b :: st) := by
  subst he
  have hL := hB.2.2.2
  have ht : (nI j).toInt = j := bn_int (by omega)
  have h1 : (nI j).toNatClampNeg = j := by show (nI j).toInt.toNat = j; rw [ht]; rfl
  have h2 : ¬ nI j < 0 := by rw [Int32.lt_iff_toInt_lt, ht]; show ¬ (j : Int) < 0; omega
  refine fun H locs ls hP hD hS hl => va_sld hO.1 hO.2.1 hB.1 hB.2.1 hB.2.2.1 hS (i := nI j) (fun z => by rcases z with z | z; exact h2 z; rw [h1] at z; omega) hdg ?_
  rw [h1]
  exact kk H locs ls hP hD hS hl
theorem zl_slen (hO : Ok p s m args meth c cc own nL D dA A) (hB : SB A s b L xs) (hdg : decode cc pc = .ok (.arraylength, 1)) (kk : Go p l e (rmG N rk rs) s m args below meth c D A nL Q Y u v (pc + 1) lv (.int (nI L) :: st)) : Go p l e (rmG N rk rs) s m args below meth c D A nL Q Y u v pc lv (.ref b :: st) :=
  fun H locs ls hP hD hS hl => va_slen hO.1 hO.2.1 hB.1 hB.2.1 hB.2.2.1 hS hdg (kk H locs ls hP hD hS hl)
end ZLW
def E_rule (R R1 : XS → MS → Prop) : Prop := ∀ (σ : XS) (μ : MS) (x1 : Int32), R σ μ → ∃ (r : Int32) (σ1 : XS) (μ1 : MS), X_rule x1 σ = some (r, σ1) ∧ M_rule x1 μ = some (r, μ1) ∧ R1 σ1 μ1
def E_table (R R1 : XS → MS → Prop) : Prop := ∀ (σ : XS) (μ : MS), R σ μ → ∃ (r : Int32) (σ1 : XS) (μ1 : MS), X_table σ = some (r, σ1) ∧ M_table μ = some (r, μ1) ∧ R1 σ1 μ1
def E_commutes (R R1 : XS → MS → Prop) : Prop := ∀ (σ : XS) (μ : MS) (x1 x2 : Int32), R σ μ → ∃ (r : Int32) (σ1 : XS) (μ1 : MS), X_commutes x1 x2 σ = some (r, σ1) ∧ M_commutes x1 x2 μ = some (r, μ1) ∧ R1 σ1 μ1
def E_powers (R R1 : XS → MS → Prop) : Prop := ∀ (σ : XS) (μ : MS) (x1 x2 : Int32), R σ μ → ∃ (r : Int32) (σ1 : XS) (μ1 : MS), X_powers x1 x2 σ = some (r, σ1) ∧ M_powers x1 x2 μ = some (r, μ1) ∧ R1 σ1 μ1
def E_order (R R1 : XS → MS → Prop) : Prop := ∀ (σ : XS) (μ : MS) (x1 : Int32), R σ μ → ∃ (r : Int32) (σ1 : XS) (μ1 : MS), X_order x1 σ = some (r, σ1) ∧ M_order x1 μ = some (r, μ1) ∧ R1 σ1 μ1
def E_undoes (R R1 : XS → MS → Prop) : Prop := ∀ (σ : XS) (μ : MS) (x1 : Int32), R σ μ → ∃ (r : Int32) (σ1 : XS) (μ1 : MS), X_undoes x1 σ = some (r, σ1) ∧ M_undoes x1 μ = some (r, μ1) ∧ R1 σ1 μ1
def E_puts (R R1 : XS → MS → Prop) : Prop := ∀ (σ : XS) (μ : MS) (x1 x2 x3 : Int32), R σ μ → ∃ (r : Int32) (σ1 : XS) (μ1 : MS), X_puts x1 x2 x3 σ = some (r, σ1) ∧ M_puts x1 x2 x3 μ = some (r, μ1) ∧ R1 σ1 μ1
def E_takes (R R1 : XS → MS → Prop) : Prop := ∀ (σ : XS) (μ : MS) (x1 x2 : Int32), R σ μ → ∃ (r : Int32) (σ1 : XS) (μ1 : MS), X_takes x1 x2 σ = some (r, σ1) ∧ M_takes x1 x2 μ = some (r, μ1) ∧ R1 σ1 μ1
def E_copies (R R1 : XS → MS → Prop) : Prop := ∀ (σ : XS) (μ : MS) (x1 x2 : Int32), R σ μ → ∃ (r : Int32) (σ1 : XS) (μ1 : MS), X_copies x1 x2 σ = some (r, σ1) ∧ M_copies x1 x2 μ = some (r, μ1) ∧ R1 σ1 μ1
def E_joins (R R1 : XS → MS → Prop) : Prop := ∀ (σ : XS) (μ : MS) (x1 x2 : Int32), R σ μ → ∃ (r : Int32) (σ1 : XS) (μ1 : MS), X_joins x1 x2 σ = some (r, σ1) ∧ M_joins x1 x2 μ = some (r, μ1) ∧ R1 σ1 μ1
def E_parts (R R1 : XS → MS → Prop) : Prop := ∀ (σ : XS) (μ : MS) (x1 x2 x3 : Int32), R σ μ → ∃ (r : Int32) (σ1 : XS) (μ1 : MS), X_parts x1 x2 x3 σ = some (r, σ1) ∧ M_parts x1 x2 x3 μ = some (r, μ1) ∧ R1 σ1 μ1
def E_reverses (R R1 : XS → MS → Prop) : Prop := ∀ (σ : XS) (μ : MS) (x1 : Int32), R σ μ → ∃ (r : Int32) (σ1 : XS) (μ1 : MS), X_reverses x1 σ = some (r, σ1) ∧ M_reverses x1 μ = some (r, μ1) ∧ R1 σ1 μ1
def E_changes (R R1 : XS → MS → Prop) : Prop := ∀ (σ : XS) (μ : MS) (x1 x2 x3 : Int32), R σ μ → ∃ (r : Int32) (σ1 : XS) (μ1 : MS), X_changes x1 x2 x3 σ = some (r, σ1) ∧ M_changes x1 x2 x3 μ = some (r, μ1) ∧ R1 σ1 μ1
def E_slips (R R1 : XS → MS → Prop) : Prop := ∀ (σ : XS) (μ : MS) (x1 x2 x3 : Int32), R σ μ → ∃ (r : Int32) (σ1 : XS) (μ1 : MS), X_slips x1 x2 x3 σ = some (r, σ1) ∧ M_slips x1 x2 x3 μ = some (r, μ1) ∧ R1 σ1 μ1
def E_drops (R R1 : XS → MS → Prop) : Prop := ∀ (σ : XS) (μ : MS) (x1 x2 : Int32), R σ μ → ∃ (r : Int32) (σ1 : XS) (μ1 : MS), X_drops x1 x2 σ = some (r, σ1) ∧ M_drops x1 x2 μ = some (r, μ1) ∧ R1 σ1 μ1
def E_shifts (R R1 : XS → MS → Prop) : Prop := ∀ (σ : XS) (μ : MS) (x1 x2 x3 : Int32), R σ μ → ∃ (r : Int32) (σ1 : XS) (μ1 : MS), X_shifts x1 x2 x3 σ = some (r, σ1) ∧ M_shifts x1 x2 x3 μ = some (r, μ1) ∧ R1 σ1 μ1
def E_clears (R R1 : XS → MS → Prop) : Prop := ∀ (σ : XS) (μ : MS) (x1 : Int32), R σ μ → ∃ (r : Int32) (σ1 : XS) (μ1 : MS), X_clears x1 σ = some (r, σ1) ∧ M_clears x1 μ = some (r, μ1) ∧ R1 σ1 μ1
def E_run (R R1 : XS → MS → Prop) : Prop := ∀ (σ : XS) (μ : MS) (x1 : Int32), R σ μ → ∃ (r : Int32) (σ1 : XS) (μ1 : MS), X_run x1 σ = some (r, σ1) ∧ M_run x1 μ = some (r, μ1) ∧ R1 σ1 μ1
def E_sign (R R1 : XS → MS → Prop) : Prop := ∀ (σ : XS) (μ : MS) (x1 : Int32), R σ μ → ∃ (r : Int32) (σ1 : XS) (μ1 : MS), X_sign x1 σ = some (r, σ1) ∧ M_sign x1 μ = some (r, μ1) ∧ R1 σ1 μ1
def E_end (R R1 : XS → MS → Prop) : Prop := ∀ (σ : XS) (μ : MS) (x1 : Int32), R σ μ → ∃ (r : Int32) (σ1 : XS) (μ1 : MS), X_end x1 σ = some (r, σ1) ∧ M_end x1 μ = some (r, μ1) ∧ R1 σ1 μ1
def E_sum (R R1 : XS → MS → Prop) : Prop := ∀ (σ : XS) (μ : MS) (x1 : Int32), R σ μ → ∃ (r : Int32) (σ1 : XS) (μ1 : MS), X_sum x1 σ = some (r, σ1) ∧ M_sum x1 μ = some (r, μ1) ∧ R1 σ1 μ1
def E_item (R R1 : XS → MS → Prop) : Prop := ∀ (σ : XS) (μ : MS) (x1 x2 : Int32), R σ μ → ∃ (r : Int32) (μ1 : MS), M_item x1 x2 μ = some (r, μ1) ∧ ((∃ σ1, X_item x1 x2 σ = some (r, σ1) ∧ gI μ1 0 = nI 0 ∧ R1 σ1 μ1) ∨ ∃ σ1, X_itemT x1 x2 σ = some σ1 ∧ gI μ1 0 = nI 1 ∧ R1 σ1 μ1)
def E_part (R R1 : XS → MS → Prop) : Prop := ∀ (σ : XS) (μ : MS) (x1 x2 x3 : Int32), R σ μ → ∃ (r : Int32) (σ1 : XS) (μ1 : MS), X_part x1 x2 x3 σ = some (r, σ1) ∧ M_part x1 x2 x3 μ = some (r, μ1) ∧ R1 σ1 μ1
def E_windows (R R1 : XS → MS → Prop) : Prop := ∀ (σ : XS) (μ : MS) (x1 x2 : Int32), R σ μ → ∃ (r : Int32) (σ1 : XS) (μ1 : MS), X_windows x1 x2 σ = some (r, σ1) ∧ M_windows x1 x2 μ = some (r, μ1) ∧ R1 σ1 μ1
def E_first (R R1 : XS → MS → Prop) : Prop := ∀ (σ : XS) (μ : MS) (x1 x2 : Int32), R σ μ → ∃ (r : Int32) (σ1 : XS) (μ1 : MS), X_first x1 x2 σ = some (r, σ1) ∧ M_first x1 x2 μ = some (r, μ1) ∧ R1 σ1 μ1
def E_longest (R R1 : XS → MS → Prop) : Prop := ∀ (σ : XS) (μ : MS) (x1 x2 : Int32), R σ μ → ∃ (r : Int32) (σ1 : XS) (μ1 : MS), X_longest x1 x2 σ = some (r, σ1) ∧ M_longest x1 x2 μ = some (r, μ1) ∧ R1 σ1 μ1
def E_greatest (R R1 : XS → MS → Prop) : Prop := ∀ (σ : XS) (μ : MS) (x1 x2 : Int32), R σ μ → ∃ (r : Int32) (σ1 : XS) (μ1 : MS), X_greatest x1 x2 σ = some (r, σ1) ∧ M_greatest x1 x2 μ = some (r, μ1) ∧ R1 σ1 μ1
def E_finds (R R1 : XS → MS → Prop) : Prop := ∀ (σ : XS) (μ : MS) (x1 x2 x3 : Int32), R σ μ → ∃ (r : Int32) (σ1 : XS) (μ1 : MS), X_finds x1 x2 x3 σ = some (r, σ1) ∧ M_finds x1 x2 x3 μ = some (r, μ1) ∧ R1 σ1 μ1
def E_drains (R R1 : XS → MS → Prop) : Prop := ∀ (σ : XS) (μ : MS) (x1 : Int32), R σ μ → ∃ (r : Int32) (σ1 : XS) (μ1 : MS), X_drains x1 σ = some (r, σ1) ∧ M_drains x1 μ = some (r, μ1) ∧ R1 σ1 μ1
def E_unlike (R R1 : XS → MS → Prop) : Prop := ∀ (σ : XS) (μ : MS) (x1 : Int32), R σ μ → ∃ (r : Int32) (σ1 : XS) (μ1 : MS), X_unlike x1 σ = some (r, σ1) ∧ M_unlike x1 μ = some (r, μ1) ∧ R1 σ1 μ1
def E_same (R R1 : XS → MS → Prop) : Prop := ∀ (σ : XS) (μ : MS) (x1 x2 : Int32), R σ μ → ∃ (r : Int32) (σ1 : XS) (μ1 : MS), X_same x1 x2 σ = some (r, σ1) ∧ M_same x1 x2 μ = some (r, μ1) ∧ R1 σ1 μ1
def E_shared (R R1 : XS → MS → Prop) : Prop := ∀ (σ : XS) (μ : MS), R σ μ → ∃ (r : Int32) (σ1 : XS) (μ1 : MS), X_shared σ = some (r, σ1) ∧ M_shared μ = some (r, μ1) ∧ R1 σ1 μ1
def E_would (R R1 : XS → MS → Prop) : Prop := ∀ (σ : XS) (μ : MS) (x1 x2 : Int32), R σ μ → ∃ (r : Int32) (σ1 : XS) (μ1 : MS), X_would x1 x2 σ = some (r, σ1) ∧ M_would x1 x2 μ = some (r, μ1) ∧ R1 σ1 μ1
def E_dearest (R R1 : XS → MS → Prop) : Prop := ∀ (σ : XS) (μ : MS) (x1 x2 : Int32), R σ μ → ∃ (r : Int32) (σ1 : XS) (μ1 : MS), X_dearest x1 x2 σ = some (r, σ1) ∧ M_dearest x1 x2 μ = some (r, μ1) ∧ R1 σ1 μ1
def E_count (R R1 : XS → MS → Prop) : Prop := ∀ (σ : XS) (μ : MS) (x1 : Int32), R σ μ → ∃ (r : Int32) (σ1 : XS) (μ1 : MS), X_count x1 σ = some (r, σ1) ∧ M_count x1 μ = some (r, μ1) ∧ R1 σ1 μ1
def E_row (R R1 : XS → MS → Prop) : Prop := ∀ (σ : XS) (μ : MS) (x1 : Int32), R σ μ → ∃ (r : Int64) (μ1 : MS), M_row x1 μ = some (r, μ1) ∧ ((∃ σ1, X_row x1 σ = some (r, σ1) ∧ gI μ1 0 = nI 0 ∧ R1 σ1 μ1) ∨ ∃ σ1, X_rowT x1 σ = some σ1 ∧ gI μ1 0 = nI 1 ∧ R1 σ1 μ1)
theorem law_rule {p : Program} {l : Launch} {e : Env} {s : State} {m : MethodId} {args : Array Value} {below : List Frame} {meth : Method} {c : Code} {D : va_G} {dA : Nat → ClassId} {G GM : Nat → Nat} {A : Nat → Prop} {Q : State → Prop} {b L ou i u v : Nat} {xs : Nat → Int32} {R R1 : XS → MS → Prop} (hO : Ok p s m args meth c cL_law "EndSumsLaw" 8 D dA A) (hX : XK dA G A s) (hl9 : l.stackTraces = false) (hB : SB A s b L xs) (hi : i + 4 ≤ L) (hu : u + 7700 ≤ 1200128 ∧ v + 55500 ≤ 5501098) {tb : Nat} {ad : Nat → Nat} {σ : XS} {μ : MS} {f : Nat → Int64} (hR : R σ μ) (hE : E_rule R R1) (kk : ∀ (tb : Nat) (ad : Nat → Nat) (σ : XS) (μ : MS) (f : Nat → Int64), R1 σ μ → Go p l e (rmG 1626 1200128 5501098) s m args below meth c D A 8 Q (WX dA G tb ad σ ++ [(ou, .inl (dA 1, 1, .inr (.inl f)))] ++ WM dA GM μ) (u + 7700) (v + 55500) 1469 [(4, .int (nI i)), (0, .ref b), (1, .ref (G 0)), (2, .ref (GM 0)), (3, .ref ou)] []) : Go p l e (rmG 1626 1200128 5501098) s m args below meth c D A 8 Q (WX dA G tb ad σ ++ [(ou, .inl (dA 1, 1, .inr (.inl f)))] ++ WM dA GM μ) u v 196 [(4, .int (nI i)), (0, .ref b), (1, .ref (G 0)), (2, .ref (GM 0)), (3, .ref ou)] [] := by
  obtain ⟨r, σ1, μ1, h1, h2, hR1⟩ := hE σ μ (xs (i + 1)) hR
  refine zg_aload_n hO 2 dL_law_196 rfl rfl ?_
  refine zg_aload_n hO 1 dL_law_197 rfl rfl ?_
  refine zg_iload hO 0 dL_law_198 rfl ?_
  refine zg_iconst hO dL_law_200 ic1 ?_
  refine zg_iadd hO dL_law_201 ?_
  refine zl_sld (j := i + 1) hO hB (rI_add i 1).symm (by omega) dL_law_202 ?_
  refine zg_ws (List.append_assoc _ _ _) ?_
  refine zx_callViX (na := 1) (W := WX dA G tb ad σ) (As := [.int (xs (i + 1))]) (rest := []) hO hX (m_X_rule l D dA G tb ad h1) mw_X1_rule q611 ⟨Nat.le_of_ble_eq_true rfl, Nat.le_of_ble_eq_true rfl⟩ ⟨by omega, by omega⟩ rfl rfl (Nat.le_of_ble_eq_true rfl) ⟨0, 1, _, _, rfl, rfl, rfl⟩ dL_law_203 (fun z => ?_)
  refine zg_ws (List.append_assoc _ _ _).symm ?_
  refine zg_aload_n hO 3 dL_law_206 rfl rfl ?_
  refine zg_aload_n hO 1 dL_law_207 rfl rfl ?_
  refine zg_iload hO 0 dL_law_208 rfl ?_
  refine zg_iconst hO dL_law_210 ic1 ?_
  refine zg_iadd hO dL_law_211 ?_
  refine zl_sld (j := i + 1) hO hB (rI_add i 1).symm (by omega) dL_law_212 ?_
  refine zw_callTi (na := 1) (As := [.int (xs (i + 1))]) (rest := [.int r]) hO hX (m_rule l D dA GM h2) mw_X4_rule q1883 ⟨Nat.le_of_ble_eq_true rfl, Nat.le_of_ble_eq_true rfl⟩ ⟨by omega, by omega⟩ rfl rfl (Nat.le_of_ble_eq_true rfl) dL_law_213 ?_
  refine zt_icmp_eq (tgt := 1469) hO rfl dL_law_216 (by decide) ?_
  exact zg_wid (by omega) (by omega) (kk z.2 z.1 σ1 μ1 f hR1)
theorem law_table {p : Program} {l : Launch} {e : Env} {s : State} {m : MethodId} {args : Array Value} {below : List Frame} {meth : Method} {c : Code} {D : va_G} {dA : Nat → ClassId} {G GM : Nat → Nat} {A : Nat → Prop} {Q : State → Prop} {b L ou i u v : Nat} {xs : Nat → Int32} {R R1 : XS → MS → Prop} (hO : Ok p s m args meth c cL_law "EndSumsLaw" 8 D dA A) (hX : XK dA G A s) (hl9 : l.stackTraces = false) (hB : SB A s b L xs) (hi : i + 4 ≤ L) (hu : u + 7700 ≤ 1200128 ∧ v + 55500 ≤ 5501098) {tb : Nat} {ad : Nat → Nat} {σ : XS} {μ : MS} {f : Nat → Int64} (hR : R σ μ) (hE : E_table R R1) (kk : ∀ (tb : Nat) (ad : Nat → Nat) (σ : XS) (μ : MS) (f : Nat → Int64), R1 σ μ → Go p l e (rmG 1626 1200128 5501098) s m args below meth c D A 8 Q (WX dA G tb ad σ ++ [(ou, .inl (dA 1, 1, .inr (.inl f)))] ++ WM dA GM μ) (u + 7700) (v + 55500) 1469 [(4, .int (nI i)), (0, .ref b), (1, .ref (G 0)), (2, .ref (GM 0)), (3, .ref ou)] []) : Go p l e (rmG 1626 1200128 5501098) s m args below meth c D A 8 Q (WX dA G tb ad σ ++ [(ou, .inl (dA 1, 1, .inr (.inl f)))] ++ WM dA GM μ) u v 221 [(4, .int (nI i)), (0, .ref b), (1, .ref (G 0)), (2, .ref (GM 0)), (3, .ref ou)] [] := by
  obtain ⟨r, σ1, μ1, h1, h2, hR1⟩ := hE σ μ hR
  refine zg_aload_n hO 2 dL_law_221 rfl rfl ?_
  refine zg_ws (List.append_assoc _ _ _) ?_
  refine zx_callViWX (na := 0) (W := WX dA G tb ad σ) (As := []) (rest := []) hO hX (m_X_table l hl9 D dA G tb ad h1) ⟨by decide +kernel, q1237, q1238, q85, q1239⟩ q1236 ⟨Nat.le_of_ble_eq_true rfl, Nat.le_of_ble_eq_true rfl⟩ ⟨by omega, by omega⟩ rfl rfl (Nat.le_of_ble_eq_true rfl) ⟨0, 1, _, _, rfl, rfl, rfl⟩ dL_law_222 (fun z => ?_)
  refine zg_ws (List.append_assoc _ _ _).symm ?_
  refine zg_aload_n hO 3 dL_law_225 rfl rfl ?_
  refine zw_callTi (na := 0) (As := []) (rest := [.int r]) hO hX (m_table l D dA GM h2) mw_X4_table q1919 ⟨Nat.le_of_ble_eq_true rfl, Nat.le_of_ble_eq_true rfl⟩ ⟨by omega, by omega⟩ rfl rfl (Nat.le_of_ble_eq_true rfl) dL_law_226 ?_
  refine zt_icmp_eq (tgt := 1469) hO rfl dL_law_229 (by decide) ?_
  exact zg_wid (by omega) (by omega) (kk z.2 z.1 σ1 μ1 f hR1)
theorem law_commutes {p : Program} {l : Launch} {e : Env} {s : State} {m : MethodId} {args : Array Value} {below : List Frame} {meth : Method} {c : Code} {D : va_G} {dA : Nat → ClassId} {G GM : Nat → Nat} {A : Nat → Prop} {Q : State → Prop} {b L ou i u v : Nat} {xs : Nat → Int32} {R R1 : XS → MS → Prop} (hO : Ok p s m args meth c cL_law "EndSumsLaw" 8 D dA A) (hX : XK dA G A s) (hl9 : l.stackTraces = false) (hB : SB A s b L xs) (hi : i + 4 ≤ L) (hu : u + 7700 ≤ 1200128 ∧ v + 55500 ≤ 5501098) {tb : Nat} {ad : Nat → Nat} {σ : XS} {μ : MS} {f : Nat → Int64} (hR : R σ μ) (hE : E_commutes R R1) (kk : ∀ (tb : Nat) (ad : Nat → Nat) (σ : XS) (μ : MS) (f : Nat → Int64), R1 σ μ → Go p l e (rmG 1626 1200128 5501098) s m args below meth c D A 8 Q (WX dA G tb ad σ ++ [(ou, .inl (dA 1, 1, .inr (.inl f)))] ++ WM dA GM μ) (u + 7700) (v + 55500) 1469 [(4, .int (nI i)), (0, .ref b), (1, .ref (G 0)), (2, .ref (GM 0)), (3, .ref ou)] []) : Go p l e (rmG 1626 1200128 5501098) s m args below meth c D A 8 Q (WX dA G tb ad σ ++ [(ou, .inl (dA 1, 1, .inr (.inl f)))] ++ WM dA GM μ) u v 234 [(4, .int (nI i)), (0, .ref b), (1, .ref (G 0)), (2, .ref (GM 0)), (3, .ref ou)] [] := by
  obtain ⟨r, σ1, μ1, h1, h2, hR1⟩ := hE σ μ (xs (i + 1)) (xs (i + 2)) hR
  refine zg_aload_n hO 2 dL_law_234 rfl rfl ?_
  refine zg_aload_n hO 1 dL_law_235 rfl rfl ?_
  refine zg_iload hO 0 dL_law_236 rfl ?_
  refine zg_iconst hO dL_law_238 ic1 ?_
  refine zg_iadd hO dL_law_239 ?_
  refine zl_sld (j := i + 1) hO hB (rI_add i 1).symm (by omega) dL_law_240 ?_
  refine zg_aload_n hO 1 dL_law_241 rfl rfl ?_
  refine zg_iload hO 0 dL_law_242 rfl ?_
  refine zg_iconst hO dL_law_244 ic2 ?_
  refine zg_iadd hO dL_law_245 ?_
  refine zl_sld (j := i + 2) hO hB (rI_add i 2).symm (by omega) dL_law_246 ?_
  refine zg_ws (List.append_assoc _ _ _) ?_
  refine zx_callViX (na := 2) (W := WX dA G tb ad σ) (As := [.int (xs (i + 1)), .int (xs (i + 2))]) (rest := []) hO hX (m_X_commutes l D dA G tb ad h1) mw_X1_commutes q1352 ⟨Nat.le_of_ble_eq_true rfl, Nat.le_of_ble_eq_true rfl⟩ ⟨by omega, by omega⟩ rfl rfl (Nat.le_of_ble_eq_true rfl) ⟨0, 1, _, _, rfl, rfl, rfl⟩ dL_law_247 (fun _ => ?_)
  refine zg_ws (List.append_assoc _ _ _).symm ?_
  refine zg_aload_n hO 3 dL_law_250 rfl rfl ?_
  refine zg_aload_n hO 1 dL_law_251 rfl rfl ?_
  refine zg_iload hO 0 dL_law_252 rfl ?_
  refine zg_iconst hO dL_law_254 ic1 ?_
  refine zg_iadd hO dL_law_255 ?_
  refine zl_sld (j := i + 1) hO hB (rI_add i 1).symm (by omega) dL_law_256 ?_
  refine zg_aload_n hO 1 dL_law_257 rfl rfl ?_
  refine zg_iload hO 0 dL_law_258 rfl ?_
  refine zg_iconst hO dL_law_260 ic2 ?_
  refine zg_iadd hO dL_law_261 ?_
  refine zl_sld (j := i + 2) hO hB (rI_add i 2).symm (by omega) dL_law_262 ?_
  refine zw_callTi (na := 2) (As := [.int (xs (i + 1)), .int (xs (i + 2))]) (rest := [.int r]) hO hX (m_commutes l D dA GM h2) mw_X4_commutes q1808 ⟨Nat.le_of_ble_eq_true rfl, Nat.le_of_ble_eq_true rfl⟩ ⟨by omega, by omega⟩ rfl rfl (Nat.le_of_ble_eq_true rfl) dL_law_263 ?_
  refine zt_icmp_eq (tgt := 1469) hO rfl dL_law_266 (by decide) ?_
  exact zg_wid (by omega) (by omega) (kk tb ad σ1 μ1 f hR1)
theorem law_powers {p : Program} {l : Launch} {e : Env} {s : State} {m : MethodId} {args : Array Value} {below : List Frame} {meth : Method} {c : Code} {D : va_G} {dA : Nat → ClassId} {G GM : Nat → Nat} {A : Nat → Prop} {Q : State → Prop} {b L ou i u v : Nat} {xs : Nat → Int32} {R R1 : XS → MS → Prop} (hO : Ok p s m args meth c cL_law "EndSumsLaw" 8 D dA A) (hX : XK dA G A s) (hl9 : l.stackTraces = false) (hB : SB A s b L xs) (hi : i + 4 ≤ L) (hu : u + 7700 ≤ 1200128 ∧ v + 55500 ≤ 5501098) {tb : Nat} {ad : Nat → Nat} {σ : XS} {μ : MS} {f : Nat → Int64} (hR : R σ μ) (hE : E_powers R R1) (kk : ∀ (tb : Nat) (ad : Nat → Nat) (σ : XS) (μ : MS) (f : Nat → Int64), R1 σ μ → Go p l e (rmG 1626 1200128 5501098) s m args below meth c D A 8 Q (WX dA G tb ad σ ++ [(ou, .inl (dA 1, 1, .inr (.inl f)))] ++ WM dA GM μ) (u + 7700) (v + 55500) 1469 [(4, .int (nI i)), (0, .ref b), (1, .ref (G 0)), (2, .ref (GM 0)), (3, .ref ou)] []) : Go p l e (rmG 1626 1200128 5501098) s m args below meth c D A 8 Q (WX dA G tb ad σ ++ [(ou, .inl (dA 1, 1, .inr (.inl f)))] ++ WM dA GM μ) u v 271 [(4, .int (nI i)), (0, .ref b), (1, .ref (G 0)), (2, .ref (GM 0)), (3, .ref ou)] [] := by
  obtain ⟨r, σ1, μ1, h1, h2, hR1⟩ := hE σ μ (xs (i + 1)) (xs (i + 2)) hR
  refine zg_aload_n hO 2 dL_law_271 rfl rfl ?_
  refine zg_aload_n hO 1 dL_law_272 rfl rfl ?_
  refine zg_iload hO 0 dL_law_273 rfl ?_
  refine zg_iconst hO dL_law_275 ic1 ?_
  refine zg_iadd hO dL_law_276 ?_
  refine zl_sld (j := i + 1) hO hB (rI_add i 1).symm (by omega) dL_law_277 ?_
  refine zg_aload_n hO 1 dL_law_278 rfl rfl ?_
  refine zg_iload hO 0 dL_law_279 rfl ?_
  refine zg_iconst hO dL_law_281 ic2 ?_
  refine zg_iadd hO dL_law_282 ?_
  refine zl_sld (j := i + 2) hO hB (rI_add i 2).symm (by omega) dL_law_283 ?_
  refine zg_ws (List.append_assoc _ _ _) ?_
  refine zx_callViX (na := 2) (W := WX dA G tb ad σ) (As := [.int (xs (i + 1)), .int (xs (i + 2))]) (rest := []) hO hX (m_X_powers l D dA G tb ad h1) mw_X1_powers q1366 ⟨Nat.le_of_ble_eq_true rfl, Nat.le_of_ble_eq_true rfl⟩ ⟨by omega, by omega⟩ rfl rfl (Nat.le_of_ble_eq_true rfl) ⟨0, 1, _, _, rfl, rfl, rfl⟩ dL_law_284 (fun _ => ?_)
  refine zg_ws (List.append_assoc _ _ _).symm ?_
  refine zg_aload_n hO 3 dL_law_287 rfl rfl ?_
  refine zg_aload_n hO 1 dL_law_288 rfl rfl ?_
  refine zg_iload hO 0 dL_law_289 rfl ?_
  refine zg_iconst hO dL_law_291 ic1 ?_
  refine zg_iadd hO dL_law_292 ?_
  refine zl_sld (j := i + 1) hO hB (rI_add i 1).symm (by omega) dL_law_293 ?_
  refine zg_aload_n hO 1 dL_law_294 rfl rfl ?_
  refine zg_iload hO 0 dL_law_295 rfl ?_
  refine zg_iconst hO dL_law_297 ic2 ?_
  refine zg_iadd hO dL_law_298 ?_
  refine zl_sld (j := i + 2) hO hB (rI_add i 2).symm (by omega) dL_law_299 ?_
  refine zw_callTi (na := 2) (As := [.int (xs (i + 1)), .int (xs (i + 2))]) (rest := [.int r]) hO hX (m_powers l D dA GM h2) mw_X4_powers q1860 ⟨Nat.le_of_ble_eq_true rfl, Nat.le_of_ble_eq_true rfl⟩ ⟨by omega, by omega⟩ rfl rfl (Nat.le_of_ble_eq_true rfl) dL_law_300 ?_
  refine zt_icmp_eq (tgt := 1469) hO rfl dL_law_303 (by decide) ?_
  exact zg_wid (by omega) (by omega) (kk tb ad σ1 μ1 f hR1)
theorem law_order {p : Program} {l : Launch} {e : Env} {s : State} {m : MethodId} {args : Array Value} {below : List Frame} {meth : Method} {c : Code} {D : va_G} {dA : Nat → ClassId} {G GM : Nat → Nat} {A : Nat → Prop} {Q : State → Prop} {b L ou i u v : Nat} {xs : Nat → Int32} {R R1 : XS → MS → Prop} (hO : Ok p s m args meth c cL_law "EndSumsLaw" 8 D dA A) (hX : XK dA G A s) (hl9 : l.stackTraces = false) (hB : SB A s b L xs) (hi : i + 4 ≤ L) (hu : u + 7700 ≤ 1200128 ∧ v + 55500 ≤ 5501098) {tb : Nat} {ad : Nat → Nat} {σ : XS} {μ : MS} {f : Nat → Int64} (hR : R σ μ) (hE : E_order R R1) (kk : ∀ (tb : Nat) (ad : Nat → Nat) (σ : XS) (μ : MS) (f : Nat → Int64), R1 σ μ → Go p l e (rmG 1626 1200128 5501098) s m args below meth c D A 8 Q (WX dA G tb ad σ ++ [(ou, .inl (dA 1, 1, .inr (.inl f)))] ++ WM dA GM μ) (u + 7700) (v + 55500) 1469 [(4, .int (nI i)), (0, .ref b), (1, .ref (G 0)), (2, .ref (GM 0)), (3, .ref ou)] []) : Go p l e (rmG 1626 1200128 5501098) s m args below meth c D A 8 Q (WX dA G tb ad σ ++ [(ou, .inl (dA 1, 1, .inr (.inl f)))] ++ WM dA GM μ) u v 308 [(4, .int (nI i)), (0, .ref b), (1, .ref (G 0)), (2, .ref (GM 0)), (3, .ref ou)] [] := by
  obtain ⟨r, σ1, μ1, h1, h2, hR1⟩ := hE σ μ (xs (i + 1)) hR
  refine zg_aload_n hO 2 dL_law_308 rfl rfl ?_
  refine zg_aload_n hO 1 dL_law_309 rfl rfl ?_
  refine zg_iload hO 0 dL_law_310 rfl ?_
  refine zg_iconst hO dL_law_312 ic1 ?_
  refine zg_iadd hO dL_law_313 ?_
  refine zl_sld (j := i + 1) hO hB (rI_add i 1).symm (by omega) dL_law_314 ?_
  refine zg_ws (List.append_assoc _ _ _) ?_
  refine zx_callViX (na := 1) (W := WX dA G tb ad σ) (As := [.int (xs (i + 1))]) (rest := []) hO hX (m_X_order l D dA G tb ad h1) mw_X1_order q1380 ⟨Nat.le_of_ble_eq_true rfl, Nat.le_of_ble_eq_true rfl⟩ ⟨by omega, by omega⟩ rfl rfl (Nat.le_of_ble_eq_true rfl) ⟨0, 1, _, _, rfl, rfl, rfl⟩ dL_law_315 (fun _ => ?_)
  refine zg_ws (List.append_assoc _ _ _).symm ?_
  refine zg_aload_n hO 3 dL_law_318 rfl rfl ?_
  refine zg_aload_n hO 1 dL_law_319 rfl rfl ?_
  refine zg_iload hO 0 dL_law_320 rfl ?_
  refine zg_iconst hO dL_law_322 ic1 ?_
  refine zg_iadd hO dL_law_323 ?_
  refine zl_sld (j := i + 1) hO hB (rI_add i 1).symm (by omega) dL_law_324 ?_
  refine zw_callTi (na := 1) (As := [.int (xs (i + 1))]) (rest := [.int r]) hO hX (m_order l D dA GM h2) mw_X4_order q1875 ⟨Nat.le_of_ble_eq_true rfl, Nat.le_of_ble_eq_true rfl⟩ ⟨by omega, by omega⟩ rfl rfl (Nat.le_of_ble_eq_true rfl) dL_law_325 ?_
  refine zt_icmp_eq (tgt := 1469) hO rfl dL_law_328 (by decide) ?_
  exact zg_wid (by omega) (by omega) (kk tb ad σ1 μ1 f hR1)
theorem law_undoes {p : Program} {l : Launch} {e : Env} {s : State} {m : MethodId} {args : Array Value} {below : List Frame} {meth : Method} {c : Code} {D : va_G} {dA : Nat → ClassId} {G GM : Nat → Nat} {A : Nat → Prop} {Q : State → Prop} {b L ou i u v : Nat} {xs : Nat → Int32} {R R1 : XS → MS → Prop} (hO : Ok p s m args meth c cL_law "EndSumsLaw" 8 D dA A) (hX : XK dA G A s) (hl9 : l.stackTraces = false) (hB : SB A s b L xs) (hi : i + 4 ≤ L) (hu : u + 7700 ≤ 1200128 ∧ v + 55500 ≤ 5501098) {tb : Nat} {ad : Nat → Nat} {σ : XS} {μ : MS} {f : Nat → Int64} (hR : R σ μ) (hE : E_undoes R R1) (kk : ∀ (tb : Nat) (ad : Nat → Nat) (σ : XS) (μ : MS) (f : Nat → Int64), R1 σ μ → Go p l e (rmG 1626 1200128 5501098) s m args below meth c D A 8 Q (WX dA G tb ad σ ++ [(ou, .inl (dA 1, 1, .inr (.inl f)))] ++ WM dA GM μ) (u + 7700) (v + 55500) 1469 [(4, .int (nI i)), (0, .ref b), (1, .ref (G 0)), (2, .ref (GM 0)), (3, .ref ou)] []) : Go p l e (rmG 1626 1200128 5501098) s m args below meth c D A 8 Q (WX dA G tb ad σ ++ [(ou, .inl (dA 1, 1, .inr (.inl f)))] ++ WM dA GM μ) u v 333 [(4, .int (nI i)), (0, .ref b), (1, .ref (G 0)), (2, .ref (GM 0)), (3, .ref ou)] [] := by
  obtain ⟨r, σ1, μ1, h1, h2, hR1⟩ := hE σ μ (xs (i + 1)) hR
  refine zg_aload_n hO 2 dL_law_333 rfl rfl ?_
  refine zg_aload_n hO 1 dL_law_334 rfl rfl ?_
  refine zg_iload hO 0 dL_law_335 rfl ?_
  refine zg_iconst hO dL_law_337 ic1 ?_
  refine zg_iadd hO dL_law_338 ?_
  refine zl_sld (j := i + 1) hO hB (rI_add i 1).symm (by omega) dL_law_339 ?_
  refine zg_ws (List.append_assoc _ _ _) ?_
  refine zx_callViX (na := 1) (W := WX dA G tb ad σ) (As := [.int (xs (i + 1))]) (rest := []) hO hX (m_X_undoes l D dA G tb ad h1) mw_X1_undoes q1384 ⟨Nat.le_of_ble_eq_true rfl, Nat.le_of_ble_eq_true rfl⟩ ⟨by omega, by omega⟩ rfl rfl (Nat.le_of_ble_eq_true rfl) ⟨0, 1, _, _, rfl, rfl, rfl⟩ dL_law_340 (fun z => ?_)
  refine zg_ws (List.append_assoc _ _ _).symm ?_
  refine zg_aload_n hO 3 dL_law_343 rfl rfl ?_
  refine zg_aload_n hO 1 dL_law_344 rfl rfl ?_
  refine zg_iload hO 0 dL_law_345 rfl ?_
  refine zg_iconst hO dL_law_347 ic1 ?_
  refine zg_iadd hO dL_law_348 ?_
  refine zl_sld (j := i + 1) hO hB (rI_add i 1).symm (by omega) dL_law_349 ?_
  refine zw_callTi (na := 1) (As := [.int (xs (i + 1))]) (rest := [.int r]) hO hX (m_undoes l D dA GM h2) mw_X4_undoes q1879 ⟨Nat.le_of_ble_eq_true rfl, Nat.le_of_ble_eq_true rfl⟩ ⟨by omega, by omega⟩ rfl rfl (Nat.le_of_ble_eq_true rfl) dL_law_350 ?_
  refine zt_icmp_eq (tgt := 1469) hO rfl dL_law_353 (by decide) ?_
  exact zg_wid (by omega) (by omega) (kk z.2 z.1 σ1 μ1 f hR1)
theorem law_puts {p : Program} {l : Launch} {e : Env} {s : State} {m : MethodId} {args : Array Value} {below : List Frame} {meth : Method} {c : Code} {D : va_G} {dA : Nat → ClassId} {G GM : Nat → Nat} {A : Nat → Prop} {Q : State → Prop} {b L ou i u v : Nat} {xs : Nat → Int32} {R R1 : XS → MS → Prop} (hO : Ok p s m args meth c cL_law "EndSumsLaw" 8 D dA A) (hX : XK dA G A s) (hl9 : l.stackTraces = false) (hB : SB A s b L xs) (hi : i + 4 ≤ L) (hu : u + 7700 ≤ 1200128 ∧ v + 55500 ≤ 5501098) {tb : Nat} {ad : Nat → Nat} {σ : XS} {μ : MS} {f : Nat → Int64} (hR : R σ μ) (hE : E_puts R R1) (kk : ∀ (tb : Nat) (ad : Nat → Nat) (σ : XS) (μ : MS) (f : Nat → Int64), R1 σ μ → Go p l e (rmG 1626 1200128 5501098) s m args below meth c D A 8 Q (WX dA G tb ad σ ++ [(ou, .inl (dA 1, 1, .inr (.inl f)))] ++ WM dA GM μ) (u + 7700) (v + 55500) 1469 [(4, .int (nI i)), (0, .ref b), (1, .ref (G 0)), (2, .ref (GM 0)), (3, .ref ou)] []) : Go p l e (rmG 1626 1200128 5501098) s m args below meth c D A 8 Q (WX dA G tb ad σ ++ [(ou, .inl (dA 1, 1, .inr (.inl f)))] ++ WM dA GM μ) u v 358 [(4, .int (nI i)), (0, .ref b), (1, .ref (G 0)), (2, .ref (GM 0)), (3, .ref ou)] [] := by
  obtain ⟨r, σ1, μ1, h1, h2, hR1⟩ := hE σ μ (xs (i + 1)) (xs (i + 2)) (xs (i + 3)) hR
  refine zg_aload_n hO 2 dL_law_358 rfl rfl ?_
  refine zg_aload_n hO 1 dL_law_359 rfl rfl ?_
  refine zg_iload hO 0 dL_law_360 rfl ?_
  refine zg_iconst hO dL_law_362 ic1 ?_
  refine zg_iadd hO dL_law_363 ?_
  refine zl_sld (j := i + 1) hO hB (rI_add i 1).symm (by omega) dL_law_364 ?_
  refine zg_aload_n hO 1 dL_law_365 rfl rfl ?_
  refine zg_iload hO 0 dL_law_366 rfl ?_
  refine zg_iconst hO dL_law_368 ic2 ?_
  refine zg_iadd hO dL_law_369 ?_
  refine zl_sld (j := i + 2) hO hB (rI_add i 2).symm (by omega) dL_law_370 ?_
  refine zg_aload_n hO 1 dL_law_371 rfl rfl ?_
  refine zg_iload hO 0 dL_law_372 rfl ?_
  refine zg_iconst hO dL_law_374 ic3 ?_
  refine zg_iadd hO dL_law_375 ?_
  refine zl_sld (j := i + 3) hO hB (rI_add i 3).symm (by omega) dL_law_376 ?_
  refine zg_ws (List.append_assoc _ _ _) ?_
  refine zx_callViX (na := 3) (W := WX dA G tb ad σ) (As := [.int (xs (i + 1)), .int (xs (i + 2)), .int (xs (i + 3))]) (rest := []) hO hX (m_X_puts l D dA G tb ad h1) mw_X1_puts q1394 ⟨Nat.le_of_ble_eq_true rfl, Nat.le_of_ble_eq_true rfl⟩ ⟨by omega, by omega⟩ rfl rfl (Nat.le_of_ble_eq_true rfl) ⟨0, 1, _, _, rfl, rfl, rfl⟩ dL_law_377 (fun z => ?_)
  refine zg_ws (List.append_assoc _ _ _).symm ?_
  refine zg_aload_n hO 3 dL_law_380 rfl rfl ?_
  refine zg_aload_n hO 1 dL_law_381 rfl rfl ?_
  refine zg_iload hO 0 dL_law_382 rfl ?_
  refine zg_iconst hO dL_law_384 ic1 ?_
  refine zg_iadd hO dL_law_385 ?_
  refine zl_sld (j := i + 1) hO hB (rI_add i 1).symm (by omega) dL_law_386 ?_
  refine zg_aload_n hO 1 dL_law_387 rfl rfl ?_
  refine zg_iload hO 0 dL_law_388 rfl ?_
  refine zg_iconst hO dL_law_390 ic2 ?_
  refine zg_iadd hO dL_law_391 ?_
  refine zl_sld (j := i + 2) hO hB (rI_add i 2).symm (by omega) dL_law_392 ?_
  refine zg_aload_n hO 1 dL_law_393 rfl rfl ?_
  refine zg_iload hO 0 dL_law_394 rfl ?_
  refine zg_iconst hO dL_law_396 ic3 ?_
  refine zg_iadd hO dL_law_397 ?_
  refine zl_sld (j := i + 3) hO hB (rI_add i 3).symm (by omega) dL_law_398 ?_
  refine zw_callTi (na := 3) (As := [.int (xs (i + 1)), .int (xs (i + 2)), .int (xs (i + 3))]) (rest := [.int r]) hO hX (m_puts l D dA GM h2) mw_X4_puts q1954 ⟨Nat.le_of_ble_eq_true rfl, Nat.le_of_ble_eq_true rfl⟩ ⟨by omega, by omega⟩ rfl rfl (Nat.le_of_ble_eq_true rfl) dL_law_399 ?_
  refine zt_icmp_eq (tgt := 1469) hO rfl dL_law_402 (by decide) ?_
  exact zg_wid (by omega) (by omega) (kk z.2 z.1 σ1 μ1 f hR1)
theorem law_takes {p : Program} {l : Launch} {e : Env} {s : State} {m : MethodId} {args : Array Value} {below : List Frame} {meth : Method} {c : Code} {D : va_G} {dA : Nat → ClassId} {G GM : Nat → Nat} {A : Nat → Prop} {Q : State → Prop} {b L ou i u v : Nat} {xs : Nat → Int32} {R R1 : XS → MS → Prop} (hO : Ok p s m args meth c cL_law "EndSumsLaw" 8 D dA A) (hX : XK dA G A s) (hl9 : l.stackTraces = false) (hB : SB A s b L xs) (hi : i + 4 ≤ L) (hu : u + 7700 ≤ 1200128 ∧ v + 55500 ≤ 5501098) {tb : Nat} {ad : Nat → Nat} {σ : XS} {μ : MS} {f : Nat → Int64} (hR : R σ μ) (hE : E_takes R R1) (kk : ∀ (tb : Nat) (ad : Nat → Nat) (σ : XS) (μ : MS) (f : Nat → Int64), R1 σ μ → Go p l e (rmG 1626 1200128 5501098) s m args below meth c D A 8 Q (WX dA G tb ad σ ++ [(ou, .inl (dA 1, 1, .inr (.inl f)))] ++ WM dA GM μ) (u + 7700) (v + 55500) 1469 [(4, .int (nI i)), (0, .ref b), (1, .ref (G 0)), (2, .ref (GM 0)), (3, .ref ou)] []) : Go p l e (rmG 1626 1200128 5501098) s m args below meth c D A 8 Q (WX dA G tb ad σ ++ [(ou, .inl (dA 1, 1, .inr (.inl f)))] ++ WM dA GM μ) u v 407 [(4, .int (nI i)), (0, .ref b), (1, .ref (G 0)), (2, .ref (GM 0)), (3, .ref ou)] [] := by
  obtain ⟨r, σ1, μ1, h1, h2, hR1⟩ := hE σ μ (xs (i + 1)) (xs (i + 2)) hR
  refine zg_aload_n hO 2 dL_law_407 rfl rfl ?_
  refine zg_aload_n hO 1 dL_law_408 rfl rfl ?_
  refine zg_iload hO 0 dL_law_409 rfl ?_
  refine zg_iconst hO dL_law_411 ic1 ?_
  refine zg_iadd hO dL_law_412 ?_
  refine zl_sld (j := i + 1) hO hB (rI_add i 1).symm (by omega) dL_law_413 ?_
  refine zg_aload_n hO 1 dL_law_414 rfl rfl ?_
  refine zg_iload hO 0 dL_law_415 rfl ?_
  refine zg_iconst hO dL_law_417 ic2 ?_
  refine zg_iadd hO dL_law_418 ?_
  refine zl_sld (j := i + 2) hO hB (rI_add i 2).symm (by omega) dL_law_419 ?_
  refine zg_ws (List.append_assoc _ _ _) ?_
  refine zx_callViX (na := 2) (W := WX dA G tb ad σ) (As := [.int (xs (i + 1)), .int (xs (i + 2))]) (rest := []) hO hX (m_X_takes l D dA G tb ad h1) mw_X1_takes q1412 ⟨Nat.le_of_ble_eq_true rfl, Nat.le_of_ble_eq_true rfl⟩ ⟨by omega, by omega⟩ rfl rfl (Nat.le_of_ble_eq_true rfl) ⟨0, 1, _, _, rfl, rfl, rfl⟩ dL_law_420 (fun z => ?_)
  refine zg_ws (List.append_assoc _ _ _).symm ?_
  refine zg_aload_n hO 3 dL_law_423 rfl rfl ?_
  refine zg_aload_n hO 1 dL_law_424 rfl rfl ?_
  refine zg_iload hO 0 dL_law_425 rfl ?_
  refine zg_iconst hO dL_law_427 ic1 ?_
  refine zg_iadd hO dL_law_428 ?_
  refine zl_sld (j := i + 1) hO hB (rI_add i 1).symm (by omega) dL_law_429 ?_
  refine zg_aload_n hO 1 dL_law_430 rfl rfl ?_
  refine zg_iload hO 0 dL_law_431 rfl ?_
  refine zg_iconst hO dL_law_433 ic2 ?_
  refine zg_iadd hO dL_law_434 ?_
  refine zl_sld (j := i + 2) hO hB (rI_add i 2).symm (by omega) dL_law_435 ?_
  refine zw_callTi (na := 2) (As := [.int (xs (i + 1)), .int (xs (i + 2))]) (rest := [.int r]) hO hX (m_takes l D dA GM h2) mw_X4_takes q1965 ⟨Nat.le_of_ble_eq_true rfl, Nat.le_of_ble_eq_true rfl⟩ ⟨by omega, by omega⟩ rfl rfl (Nat.le_of_ble_eq_true rfl) dL_law_436 ?_
  refine zt_icmp_eq (tgt := 1469) hO rfl dL_law_439 (by decide) ?_
  exact zg_wid (by omega) (by omega) (kk z.2 z.1 σ1 μ1 f hR1)
theorem law_copies {p : Program} {l : Launch} {e : Env} {s : State} {m : MethodId} {args : Array Value} {below : List Frame} {meth : Method} {c : Code} {D : va_G} {dA : Nat → ClassId} {G GM : Nat → Nat} {A : Nat → Prop} {Q : State → Prop} {b L ou i u v : Nat} {xs : Nat → Int32} {R R1 : XS → MS → Prop} (hO : Ok p s m args meth c cL_law "EndSumsLaw" 8 D dA A) (hX : XK dA G A s) (hl9 : l.stackTraces = false) (hB : SB A s b L xs) (hi : i + 4 ≤ L) (hu : u + 7700 ≤ 1200128 ∧ v + 55500 ≤ 5501098) {tb : Nat} {ad : Nat → Nat} {σ : XS} {μ : MS} {f : Nat → Int64} (hR : R σ μ) (hE : E_copies R R1) (kk : ∀ (tb : Nat) (ad : Nat → Nat) (σ : XS) (μ : MS) (f : Nat → Int64), R1 σ μ → Go p l e (rmG 1626 1200128 5501098) s m args below meth c D A 8 Q (WX dA G tb ad σ ++ [(ou, .inl (dA 1, 1, .inr (.inl f)))] ++ WM dA GM μ) (u + 7700) (v + 55500) 1469 [(4, .int (nI i)), (0, .ref b), (1, .ref (G 0)), (2, .ref (GM 0)), (3, .ref ou)] []) : Go p l e (rmG 1626 1200128 5501098) s m args below meth c D A 8 Q (WX dA G tb ad σ ++ [(ou, .inl (dA 1, 1, .inr (.inl f)))] ++ WM dA GM μ) u v 444 [(4, .int (nI i)), (0, .ref b), (1, .ref (G 0)), (2, .ref (GM 0)), (3, .ref ou)] [] := by
  obtain ⟨r, σ1, μ1, h1, h2, hR1⟩ := hE σ μ (xs (i + 1)) (xs (i + 2)) hR
  refine zg_aload_n hO 2 dL_law_444 rfl rfl ?_
  refine zg_aload_n hO 1 dL_law_445 rfl rfl ?_
  refine zg_iload hO 0 dL_law_446 rfl ?_
  refine zg_iconst hO dL_law_448 ic1 ?_
  refine zg_iadd hO dL_law_449 ?_
  refine zl_sld (j := i + 1) hO hB (rI_add i 1).symm (by omega) dL_law_450 ?_
  refine zg_aload_n hO 1 dL_law_451 rfl rfl ?_
  refine zg_iload hO 0 dL_law_452 rfl ?_
  refine zg_iconst hO dL_law_454 ic2 ?_
  refine zg_iadd hO dL_law_455 ?_
  refine zl_sld (j := i + 2) hO hB (rI_add i 2).symm (by omega) dL_law_456 ?_
  refine zg_ws (List.append_assoc _ _ _) ?_
  refine zx_callViX (na := 2) (W := WX dA G tb ad σ) (As := [.int (xs (i + 1)), .int (xs (i + 2))]) (rest := []) hO hX (m_X_copies l D dA G tb ad h1) mw_X1_copies q1422 ⟨Nat.le_of_ble_eq_true rfl, Nat.le_of_ble_eq_true rfl⟩ ⟨by omega, by omega⟩ rfl rfl (Nat.le_of_ble_eq_true rfl) ⟨0, 1, _, _, rfl, rfl, rfl⟩ dL_law_457 (fun _ => ?_)
  refine zg_ws (List.append_assoc _ _ _).symm ?_
  refine zg_aload_n hO 3 dL_law_460 rfl rfl ?_
  refine zg_aload_n hO 1 dL_law_461 rfl rfl ?_
  refine zg_iload hO 0 dL_law_462 rfl ?_
  refine zg_iconst hO dL_law_464 ic1 ?_
  refine zg_iadd hO dL_law_465 ?_
  refine zl_sld (j := i + 1) hO hB (rI_add i 1).symm (by omega) dL_law_466 ?_
  refine zg_aload_n hO 1 dL_law_467 rfl rfl ?_
  refine zg_iload hO 0 dL_law_468 rfl ?_
  refine zg_iconst hO dL_law_470 ic2 ?_
  refine zg_iadd hO dL_law_471 ?_
  refine zl_sld (j := i + 2) hO hB (rI_add i 2).symm (by omega) dL_law_472 ?_
  refine zw_callTi (na := 2) (As := [.int (xs (i + 1)), .int (xs (i + 2))]) (rest := [.int r]) hO hX (m_copies l D dA GM h2) mw_X4_copies q1977 ⟨Nat.le_of_ble_eq_true rfl, Nat.le_of_ble_eq_true rfl⟩ ⟨by omega, by omega⟩ rfl rfl (Nat.le_of_ble_eq_true rfl) dL_law_473 ?_
  refine zt_icmp_eq (tgt := 1469) hO rfl dL_law_476 (by decide) ?_
  exact zg_wid (by omega) (by omega) (kk tb ad σ1 μ1 f hR1)
theorem law_joins {p : Program} {l : Launch} {e : Env} {s : State} {m : MethodId} {args : Array Value} {below : List Frame} {meth : Method} {c : Code} {D : va_G} {dA : Nat → ClassId} {G GM : Nat → Nat} {A : Nat → Prop} {Q : State → Prop} {b L ou i u v : Nat} {xs : Nat → Int32} {R R1 : XS → MS → Prop} (hO : Ok p s m args meth c cL_law "EndSumsLaw" 8 D dA A) (hX : XK dA G A s) (hl9 : l.stackTraces = false) (hB : SB A s b L xs) (hi : i + 4 ≤ L) (hu : u + 7700 ≤ 1200128 ∧ v + 55500 ≤ 5501098) {tb : Nat} {ad : Nat → Nat} {σ : XS} {μ : MS} {f : Nat → Int64} (hR : R σ μ) (hE : E_joins R R1) (kk : ∀ (tb : Nat) (ad : Nat → Nat) (σ : XS) (μ : MS) (f : Nat → Int64), R1 σ μ → Go p l e (rmG 1626 1200128 5501098) s m args below meth c D A 8 Q (WX dA G tb ad σ ++ [(ou, .inl (dA 1, 1, .inr (.inl f)))] ++ WM dA GM μ) (u + 7700) (v + 55500) 1469 [(4, .int (nI i)), (0, .ref b), (1, .ref (G 0)), (2, .ref (GM 0)), (3, .ref ou)] []) : Go p l e (rmG 1626 1200128 5501098) s m args below meth c D A 8 Q (WX dA G tb ad σ ++ [(ou, .inl (dA 1, 1, .inr (.inl f)))] ++ WM dA GM μ) u v 481 [(4, .int (nI i)), (0, .ref b), (1, .ref (G 0)), (2, .ref (GM 0)), (3, .ref ou)] [] := by
  obtain ⟨r, σ1, μ1, h1, h2, hR1⟩ := hE σ μ (xs (i + 1)) (xs (i + 2)) hR
  refine zg_aload_n hO 2 dL_law_481 rfl rfl ?_
  refine zg_aload_n hO 1 dL_law_482 rfl rfl ?_
  refine zg_iload hO 0 dL_law_483 rfl ?_
  refine zg_iconst hO dL_law_485 ic1 ?_
  refine zg_iadd hO dL_law_486 ?_
  refine zl_sld (j := i + 1) hO hB (rI_add i 1).symm (by omega) dL_law_487 ?_
  refine zg_aload_n hO 1 dL_law_488 rfl rfl ?_
  refine zg_iload hO 0 dL_law_489 rfl ?_
  refine zg_iconst hO dL_law_491 ic2 ?_
  refine zg_iadd hO dL_law_492 ?_
  refine zl_sld (j := i + 2) hO hB (rI_add i 2).symm (by omega) dL_law_493 ?_
  refine zg_ws (List.append_assoc _ _ _) ?_
  refine zx_callViX (na := 2) (W := WX dA G tb ad σ) (As := [.int (xs (i + 1)), .int (xs (i + 2))]) (rest := []) hO hX (m_X_joins l D dA G tb ad h1) mw_X1_joins q1430 ⟨Nat.le_of_ble_eq_true rfl, Nat.le_of_ble_eq_true rfl⟩ ⟨by omega, by omega⟩ rfl rfl (Nat.le_of_ble_eq_true rfl) ⟨0, 1, _, _, rfl, rfl, rfl⟩ dL_law_494 (fun z => ?_)
  refine zg_ws (List.append_assoc _ _ _).symm ?_
  refine zg_aload_n hO 3 dL_law_497 rfl rfl ?_
  refine zg_aload_n hO 1 dL_law_498 rfl rfl ?_
  refine zg_iload hO 0 dL_law_499 rfl ?_
  refine zg_iconst hO dL_law_501 ic1 ?_
  refine zg_iadd hO dL_law_502 ?_
  refine zl_sld (j := i + 1) hO hB (rI_add i 1).symm (by omega) dL_law_503 ?_
  refine zg_aload_n hO 1 dL_law_504 rfl rfl ?_
  refine zg_iload hO 0 dL_law_505 rfl ?_
  refine zg_iconst hO dL_law_507 ic2 ?_
  refine zg_iadd hO dL_law_508 ?_
  refine zl_sld (j := i + 2) hO hB (rI_add i 2).symm (by omega) dL_law_509 ?_
  refine zw_callTi (na := 2) (As := [.int (xs (i + 1)), .int (xs (i + 2))]) (rest := [.int r]) hO hX (m_joins l D dA GM h2) mw_X4_joins q1985 ⟨Nat.le_of_ble_eq_true rfl, Nat.le_of_ble_eq_true rfl⟩ ⟨by omega, by omega⟩ rfl rfl (Nat.le_of_ble_eq_true rfl) dL_law_510 ?_
  refine zt_icmp_eq (tgt := 1469) hO rfl dL_law_513 (by decide) ?_
  exact zg_wid (by omega) (by omega) (kk z.2 z.1 σ1 μ1 f hR1)
theorem law_parts {p : Program} {l : Launch} {e : Env} {s : State} {m : MethodId} {args : Array Value} {below : List Frame} {meth : Method} {c : Code} {D : va_G} {dA : Nat → ClassId} {G GM : Nat → Nat} {A : Nat → Prop} {Q : State → Prop} {b L ou i u v : Nat} {xs : Nat → Int32} {R R1 : XS → MS → Prop} (hO : Ok p s m args meth c cL_law "EndSumsLaw" 8 D dA A) (hX : XK dA G A s) (hl9 : l.stackTraces = false) (hB : SB A s b L xs) (hi : i + 4 ≤ L) (hu : u + 7700 ≤ 1200128 ∧ v + 55500 ≤ 5501098) {tb : Nat} {ad : Nat → Nat} {σ : XS} {μ : MS} {f : Nat → Int64} (hR : R σ μ) (hE : E_parts R R1) (kk : ∀ (tb : Nat) (ad : Nat → Nat) (σ : XS) (μ : MS) (f : Nat → Int64), R1 σ μ → Go p l e (rmG 1626 1200128 5501098) s m args below meth c D A 8 Q (WX dA G tb ad σ ++ [(ou, .inl (dA 1, 1, .inr (.inl f)))] ++ WM dA GM μ) (u + 7700) (v + 55500) 1469 [(4, .int (nI i)), (0, .ref b), (1, .ref (G 0)), (2, .ref (GM 0)), (3, .ref ou)] []) : Go p l e (rmG 1626 1200128 5501098) s m args below meth c D A 8 Q (WX dA G tb ad σ ++ [(ou, .inl (dA 1, 1, .inr (.inl f)))] ++ WM dA GM μ) u v 518 [(4, .int (nI i)), (0, .ref b), (1, .ref (G 0)), (2, .ref (GM 0)), (3, .ref ou)] [] := by
  obtain ⟨r, σ1, μ1, h1, h2, hR1⟩ := hE σ μ (xs (i + 1)) (xs (i + 2)) (xs (i + 3)) hR
  refine zg_aload_n hO 2 dL_law_518 rfl rfl ?_
  refine zg_aload_n hO 1 dL_law_519 rfl rfl ?_
  refine zg_iload hO 0 dL_law_520 rfl ?_
  refine zg_iconst hO dL_law_522 ic1 ?_
  refine zg_iadd hO dL_law_523 ?_
  refine zl_sld (j := i + 1) hO hB (rI_add i 1).symm (by omega) dL_law_524 ?_
  refine zg_aload_n hO 1 dL_law_525 rfl rfl ?_
  refine zg_iload hO 0 dL_law_526 rfl ?_
  refine zg_iconst hO dL_law_528 ic2 ?_
  refine zg_iadd hO dL_law_529 ?_
  refine zl_sld (j := i + 2) hO hB (rI_add i 2).symm (by omega) dL_law_530 ?_
  refine zg_aload_n hO 1 dL_law_531 rfl rfl ?_
  refine zg_iload hO 0 dL_law_532 rfl ?_
  refine zg_iconst hO dL_law_534 ic3 ?_
  refine zg_iadd hO dL_law_535 ?_
  refine zl_sld (j := i + 3) hO hB (rI_add i 3).symm (by omega) dL_law_536 ?_
  refine zg_ws (List.append_assoc _ _ _) ?_
  refine zx_callViX (na := 3) (W := WX dA G tb ad σ) (As := [.int (xs (i + 1)), .int (xs (i + 2)), .int (xs (i + 3))]) (rest := []) hO hX (m_X_parts l D dA G tb ad h1) mw_X1_parts q1434 ⟨Nat.le_of_ble_eq_true rfl, Nat.le_of_ble_eq_true rfl⟩ ⟨by omega, by omega⟩ rfl rfl (Nat.le_of_ble_eq_true rfl) ⟨0, 1, _, _, rfl, rfl, rfl⟩ dL_law_537 (fun z => ?_)
  refine zg_ws (List.append_assoc _ _ _).symm ?_
  refine zg_aload_n hO 3 dL_law_540 rfl rfl ?_
  refine zg_aload_n hO 1 dL_law_541 rfl rfl ?_
  refine zg_iload hO 0 dL_law_542 rfl ?_
  refine zg_iconst hO dL_law_544 ic1 ?_
  refine zg_iadd hO dL_law_545 ?_
  refine zl_sld (j := i + 1) hO hB (rI_add i 1).symm (by omega) dL_law_546 ?_
  refine zg_aload_n hO 1 dL_law_547 rfl rfl ?_
  refine zg_iload hO 0 dL_law_548 rfl ?_
  refine zg_iconst hO dL_law_550 ic2 ?_
  refine zg_iadd hO dL_law_551 ?_
  refine zl_sld (j := i + 2) hO hB (rI_add i 2).symm (by omega) dL_law_552 ?_
  refine zg_aload_n hO 1 dL_law_553 rfl rfl ?_
  refine zg_iload hO 0 dL_law_554 rfl ?_
  refine zg_iconst hO dL_law_556 ic3 ?_
  refine zg_iadd hO dL_law_557 ?_
  refine zl_sld (j := i + 3) hO hB (rI_add i 3).symm (by omega) dL_law_558 ?_
  refine zw_callTi (na := 3) (As := [.int (xs (i + 1)), .int (xs (i + 2)), .int (xs (i + 3))]) (rest := [.int r]) hO hX (m_parts l D dA GM h2) mw_X4_parts q1989 ⟨Nat.le_of_ble_eq_true rfl, Nat.le_of_ble_eq_true rfl⟩ ⟨by omega, by omega⟩ rfl rfl (Nat.le_of_ble_eq_true rfl) dL_law_559 ?_
  refine zt_icmp_eq (tgt := 1469) hO rfl dL_law_562 (by decide) ?_
  exact zg_wid (by omega) (by omega) (kk z.2 z.1 σ1 μ1 f hR1)
theorem law_reverses {p : Program} {l : Launch} {e : Env} {s : State} {m : MethodId} {args : Array Value} {below : List Frame} {meth : Method} {c : Code} {D : va_G} {dA : Nat → ClassId} {G GM : Nat → Nat} {A : Nat → Prop} {Q : State → Prop} {b L ou i u v : Nat} {xs : Nat → Int32} {R R1 : XS → MS → Prop} (hO : Ok p s m args meth c cL_law "EndSumsLaw" 8 D dA A) (hX : XK dA G A s) (hl9 : l.stackTraces = false) (hB : SB A s b L xs) (hi : i + 4 ≤ L) (hu : u + 7700 ≤ 1200128 ∧ v + 55500 ≤ 5501098) {tb : Nat} {ad : Nat → Nat} {σ : XS} {μ : MS} {f : Nat → Int64} (hR : R σ μ) (hE : E_reverses R R1) (kk : ∀ (tb : Nat) (ad : Nat → Nat) (σ : XS) (μ : MS) (f : Nat → Int64), R1 σ μ → Go p l e (rmG 1626 1200128 5501098) s m args below meth c D A 8 Q (WX dA G tb ad σ ++ [(ou, .inl (dA 1, 1, .inr (.inl f)))] ++ WM dA GM μ) (u + 7700) (v + 55500) 1469 [(4, .int (nI i)), (0, .ref b), (1, .ref (G 0)), (2, .ref (GM 0)), (3, .ref ou)] []) : Go p l e (rmG 1626 1200128 5501098) s m args below meth c D A 8 Q (WX dA G tb ad σ ++ [(ou, .inl (dA 1, 1, .inr (.inl f)))] ++ WM dA GM μ) u v 567 [(4, .int (nI i)), (0, .ref b), (1, .ref (G 0)), (2, .ref (GM 0)), (3, .ref ou)] [] := by
  obtain ⟨r, σ1, μ1, h1, h2, hR1⟩ := hE σ μ (xs (i + 1)) hR
  refine zg_aload_n hO 2 dL_law_567 rfl rfl ?_
  refine zg_aload_n hO 1 dL_law_568 rfl rfl ?_
  refine zg_iload hO 0 dL_law_569 rfl ?_
  refine zg_iconst hO dL_law_571 ic1 ?_
  refine zg_iadd hO dL_law_572 ?_
  refine zl_sld (j := i + 1) hO hB (rI_add i 1).symm (by omega) dL_law_573 ?_
  refine zg_ws (List.append_assoc _ _ _) ?_
  refine zx_callViX (na := 1) (W := WX dA G tb ad σ) (As := [.int (xs (i + 1))]) (rest := []) hO hX (m_X_reverses l D dA G tb ad h1) mw_X1_reverses q1440 ⟨Nat.le_of_ble_eq_true rfl, Nat.le_of_ble_eq_true rfl⟩ ⟨by omega, by omega⟩ rfl rfl (Nat.le_of_ble_eq_true rfl) ⟨0, 1, _, _, rfl, rfl, rfl⟩ dL_law_574 (fun z => ?_)
  refine zg_ws (List.append_assoc _ _ _).symm ?_
  refine zg_aload_n hO 3 dL_law_577 rfl rfl ?_
  refine zg_aload_n hO 1 dL_law_578 rfl rfl ?_
  refine zg_iload hO 0 dL_law_579 rfl ?_
  refine zg_iconst hO dL_law_581 ic1 ?_
  refine zg_iadd hO dL_law_582 ?_
  refine zl_sld (j := i + 1) hO hB (rI_add i 1).symm (by omega) dL_law_583 ?_
  refine zw_callTi (na := 1) (As := [.int (xs (i + 1))]) (rest := [.int r]) hO hX (m_reverses l D dA GM h2) mw_X4_reverses q1993 ⟨Nat.le_of_ble_eq_true rfl, Nat.le_of_ble_eq_true rfl⟩ ⟨by omega, by omega⟩ rfl rfl (Nat.le_of_ble_eq_true rfl) dL_law_584 ?_
  refine zt_icmp_eq (tgt := 1469) hO rfl dL_law_587 (by decide) ?_
  exact zg_wid (by omega) (by omega) (kk z.2 z.1 σ1 μ1 f hR1)
theorem law_changes {p : Program} {l : Launch} {e : Env} {s : State} {m : MethodId} {args : Array Value} {below : List Frame} {meth : Method} {c : Code} {D : va_G} {dA : Nat → ClassId} {G GM : Nat → Nat} {A : Nat → Prop} {Q : State → Prop} {b L ou i u v : Nat} {xs : Nat → Int32} {R R1 : XS → MS → Prop} (hO : Ok p s m args meth c cL_law "EndSumsLaw" 8 D dA A) (hX : XK dA G A s) (hl9 : l.stackTraces = false) (hB : SB A s b L xs) (hi : i + 4 ≤ L) (hu : u + 7700 ≤ 1200128 ∧ v + 55500 ≤ 5501098) {tb : Nat} {ad : Nat → Nat} {σ : XS} {μ : MS} {f : Nat → Int64} (hR : R σ μ) (hE : E_changes R R1) (kk : ∀ (tb : Nat) (ad : Nat → Nat) (σ : XS) (μ : MS) (f : Nat → Int64), R1 σ μ → Go p l e (rmG 1626 1200128 5501098) s m args below meth c D A 8 Q (WX dA G tb ad σ ++ [(ou, .inl (dA 1, 1, .inr (.inl f)))] ++ WM dA GM μ) (u + 7700) (v + 55500) 1469 [(4, .int (nI i)), (0, .ref b), (1, .ref (G 0)), (2, .ref (GM 0)), (3, .ref ou)] []) : Go p l e (rmG 1626 1200128 5501098) s m args below meth c D A 8 Q (WX dA G tb ad σ ++ [(ou, .inl (dA 1, 1, .inr (.inl f)))] ++ WM dA GM μ) u v 592 [(4, .int (nI i)), (0, .ref b), (1, .ref (G 0)), (2, .ref (GM 0)), (3, .ref ou)] [] := by
  obtain ⟨r, σ1, μ1, h1, h2, hR1⟩ := hE σ μ (xs (i + 1)) (xs (i + 2)) (xs (i + 3)) hR
  refine zg_aload_n hO 2 dL_law_592 rfl rfl ?_
  refine zg_aload_n hO 1 dL_law_593 rfl rfl ?_
  refine zg_iload hO 0 dL_law_594 rfl ?_
  refine zg_iconst hO dL_law_596 ic1 ?_
  refine zg_iadd hO dL_law_597 ?_
  refine zl_sld (j := i + 1) hO hB (rI_add i 1).symm (by omega) dL_law_598 ?_
  refine zg_aload_n hO 1 dL_law_599 rfl rfl ?_
  refine zg_iload hO 0 dL_law_600 rfl ?_
  refine zg_iconst hO dL_law_602 ic2 ?_
  refine zg_iadd hO dL_law_603 ?_
  refine zl_sld (j := i + 2) hO hB (rI_add i 2).symm (by omega) dL_law_604 ?_
  refine zg_aload_n hO 1 dL_law_605 rfl rfl ?_
  refine zg_iload hO 0 dL_law_606 rfl ?_
  refine zg_iconst hO dL_law_608 ic3 ?_
  refine zg_iadd hO dL_law_609 ?_
  refine zl_sld (j := i + 3) hO hB (rI_add i 3).symm (by omega) dL_law_610 ?_
  refine zg_ws (List.append_assoc _ _ _) ?_
  refine zx_callViX (na := 3) (W := WX dA G tb ad σ) (As := [.int (xs (i + 1)), .int (xs (i + 2)), .int (xs (i + 3))]) (rest := []) hO hX (m_X_changes l D dA G tb ad h1) mw_X1_changes q1448 ⟨Nat.le_of_ble_eq_true rfl, Nat.le_of_ble_eq_true rfl⟩ ⟨by omega, by omega⟩ rfl rfl (Nat.le_of_ble_eq_true rfl) ⟨0, 1, _, _, rfl, rfl, rfl⟩ dL_law_611 (fun z => ?_)
  refine zg_ws (List.append_assoc _ _ _).symm ?_
  refine zg_aload_n hO 3 dL_law_614 rfl rfl ?_
  refine zg_aload_n hO 1 dL_law_615 rfl rfl ?_
  refine zg_iload hO 0 dL_law_616 rfl ?_
  refine zg_iconst hO dL_law_618 ic1 ?_
  refine zg_iadd hO dL_law_619 ?_
  refine zl_sld (j := i + 1) hO hB (rI_add i 1).symm (by omega) dL_law_620 ?_
  refine zg_aload_n hO 1 dL_law_621 rfl rfl ?_
  refine zg_iload hO 0 dL_law_622 rfl ?_
  refine zg_iconst hO dL_law_624 ic2 ?_
  refine zg_iadd hO dL_law_625 ?_
  refine zl_sld (j := i + 2) hO hB (rI_add i 2).symm (by omega) dL_law_626 ?_
  refine zg_aload_n hO 1 dL_law_627 rfl rfl ?_
  refine zg_iload hO 0 dL_law_628 rfl ?_
  refine zg_iconst hO dL_law_630 ic3 ?_
  refine zg_iadd hO dL_law_631 ?_
  refine zl_sld (j := i + 3) hO hB (rI_add i 3).symm (by omega) dL_law_632 ?_
  refine zw_callTi (na := 3) (As := [.int (xs (i + 1)), .int (xs (i + 2)), .int (xs (i + 3))]) (rest := [.int r]) hO hX (m_changes l D dA GM h2) mw_X4_changes q2001 ⟨Nat.le_of_ble_eq_true rfl, Nat.le_of_ble_eq_true rfl⟩ ⟨by omega, by omega⟩ rfl rfl (Nat.le_of_ble_eq_true rfl) dL_law_633 ?_
  refine zt_icmp_eq (tgt := 1469) hO rfl dL_law_636 (by decide) ?_
  exact zg_wid (by omega) (by omega) (kk z.2 z.1 σ1 μ1 f hR1)
theorem law_slips {p : Program} {l : Launch} {e : Env} {s : State} {m : MethodId} {args : Array Value} {below : List Frame} {meth : Method} {c : Code} {D : va_G} {dA : Nat → ClassId} {G GM : Nat → Nat} {A : Nat → Prop} {Q : State → Prop} {b L ou i u v : Nat} {xs : Nat → Int32} {R R1 : XS → MS → Prop} (hO : Ok p s m args meth c cL_law "EndSumsLaw" 8 D dA A) (hX : XK dA G A s) (hl9 : l.stackTraces = false) (hB : SB A s b L xs) (hi : i + 4 ≤ L) (hu : u + 7700 ≤ 1200128 ∧ v + 55500 ≤ 5501098) {tb : Nat} {ad : Nat → Nat} {σ : XS} {μ : MS} {f : Nat → Int64} (hR : R σ μ) (hE : E_slips R R1) (kk : ∀ (tb : Nat) (ad : Nat → Nat) (σ : XS) (μ : MS) (f : Nat → Int64), R1 σ μ → Go p l e (rmG 1626 1200128 5501098) s m args below meth c D A 8 Q (WX dA G tb ad σ ++ [(ou, .inl (dA 1, 1, .inr (.inl f)))] ++ WM dA GM μ) (u + 7700) (v + 55500) 1469 [(4, .int (nI i)), (0, .ref b), (1, .ref (G 0)), (2, .ref (GM 0)), (3, .ref ou)] []) : Go p l e (rmG 1626 1200128 5501098) s m args below meth c D A 8 Q (WX dA G tb ad σ ++ [(ou, .inl (dA 1, 1, .inr (.inl f)))] ++ WM dA GM μ) u v 641 [(4, .int (nI i)), (0, .ref b), (1, .ref (G 0)), (2, .ref (GM 0)), (3, .ref ou)] [] := by
  obtain ⟨r, σ1, μ1, h1, h2, hR1⟩ := hE σ μ (xs (i + 1)) (xs (i + 2)) (xs (i + 3)) hR
  refine zg_aload_n hO 2 dL_law_641 rfl rfl ?_
  refine zg_aload_n hO 1 dL_law_642 rfl rfl ?_
  refine zg_iload hO 0 dL_law_643 rfl ?_
  refine zg_iconst hO dL_law_645 ic1 ?_
  refine zg_iadd hO dL_law_646 ?_
  refine zl_sld (j := i + 1) hO hB (rI_add i 1).symm (by omega) dL_law_647 ?_
  refine zg_aload_n hO 1 dL_law_648 rfl rfl ?_
  refine zg_iload hO 0 dL_law_649 rfl ?_
  refine zg_iconst hO dL_law_651 ic2 ?_
  refine zg_iadd hO dL_law_652 ?_
  refine zl_sld (j := i + 2) hO hB (rI_add i 2).symm (by omega) dL_law_653 ?_
  refine zg_aload_n hO 1 dL_law_654 rfl rfl ?_
  refine zg_iload hO 0 dL_law_655 rfl ?_
  refine zg_iconst hO dL_law_657 ic3 ?_
  refine zg_iadd hO dL_law_658 ?_
  refine zl_sld (j := i + 3) hO hB (rI_add i 3).symm (by omega) dL_law_659 ?_
  refine zg_ws (List.append_assoc _ _ _) ?_
  refine zx_callViX (na := 3) (W := WX dA G tb ad σ) (As := [.int (xs (i + 1)), .int (xs (i + 2)), .int (xs (i + 3))]) (rest := []) hO hX (m_X_slips l D dA G tb ad h1) mw_X1_slips q1472 ⟨Nat.le_of_ble_eq_true rfl, Nat.le_of_ble_eq_true rfl⟩ ⟨by omega, by omega⟩ rfl rfl (Nat.le_of_ble_eq_true rfl) ⟨0, 1, _, _, rfl, rfl, rfl⟩ dL_law_660 (fun z => ?_)
  refine zg_ws (List.append_assoc _ _ _).symm ?_
  refine zg_aload_n hO 3 dL_law_663 rfl rfl ?_
  refine zg_aload_n hO 1 dL_law_664 rfl rfl ?_
  refine zg_iload hO 0 dL_law_665 rfl ?_
  refine zg_iconst hO dL_law_667 ic1 ?_
  refine zg_iadd hO dL_law_668 ?_
  refine zl_sld (j := i + 1) hO hB (rI_add i 1).symm (by omega) dL_law_669 ?_
  refine zg_aload_n hO 1 dL_law_670 rfl rfl ?_
  refine zg_iload hO 0 dL_law_671 rfl ?_
  refine zg_iconst hO dL_law_673 ic2 ?_
  refine zg_iadd hO dL_law_674 ?_
  refine zl_sld (j := i + 2) hO hB (rI_add i 2).symm (by omega) dL_law_675 ?_
  refine zg_aload_n hO 1 dL_law_676 rfl rfl ?_
  refine zg_iload hO 0 dL_law_677 rfl ?_
  refine zg_iconst hO dL_law_679 ic3 ?_
  refine zg_iadd hO dL_law_680 ?_
  refine zl_sld (j := i + 3) hO hB (rI_add i 3).symm (by omega) dL_law_681 ?_
  refine zw_callTi (na := 3) (As := [.int (xs (i + 1)), .int (xs (i + 2)), .int (xs (i + 3))]) (rest := [.int r]) hO hX (m_slips l D dA GM h2) mw_X4_slips q2013 ⟨Nat.le_of_ble_eq_true rfl, Nat.le_of_ble_eq_true rfl⟩ ⟨by omega, by omega⟩ rfl rfl (Nat.le_of_ble_eq_true rfl) dL_law_682 ?_
  refine zt_icmp_eq (tgt := 1469) hO rfl dL_law_685 (by decide) ?_
  exact zg_wid (by omega) (by omega) (kk z.2 z.1 σ1 μ1 f hR1)
theorem law_drops {p : Program} {l : Launch} {e : Env} {s : State} {m : MethodId} {args : Array Value} {below : List Frame} {meth : Method} {c : Code} {D : va_G} {dA : Nat → ClassId} {G GM : Nat → Nat} {A : Nat → Prop} {Q : State → Prop} {b L ou i u v : Nat} {xs : Nat → Int32} {R R1 : XS → MS → Prop} (hO : Ok p s m args meth c cL_law "EndSumsLaw" 8 D dA A) (hX : XK dA G A s) (hl9 : l.stackTraces = false) (hB : SB A s b L xs) (hi : i + 4 ≤ L) (hu : u + 7700 ≤ 1200128 ∧ v + 55500 ≤ 5501098) {tb : Nat} {ad : Nat → Nat} {σ : XS} {μ : MS} {f : Nat → Int64} (hR : R σ μ) (hE : E_drops R R1) (kk : ∀ (tb : Nat) (ad : Nat → Nat) (σ : XS) (μ : MS) (f : Nat → Int64), R1 σ μ → Go p l e (rmG 1626 1200128 5501098) s m args below meth c D A 8 Q (WX dA G tb ad σ ++ [(ou, .inl (dA 1, 1, .inr (.inl f)))] ++ WM dA GM μ) (u + 7700) (v + 55500) 1469 [(4, .int (nI i)), (0, .ref b), (1, .ref (G 0)), (2, .ref (GM 0)), (3, .ref ou)] []) : Go p l e (rmG 1626 1200128 5501098) s m args below meth c D A 8 Q (WX dA G tb ad σ ++ [(ou, .inl (dA 1, 1, .inr (.inl f)))] ++ WM dA GM μ) u v 690 [(4, .int (nI i)), (0, .ref b), (1, .ref (G 0)), (2, .ref (GM 0)), (3, .ref ou)] [] := by
  obtain ⟨r, σ1, μ1, h1, h2, hR1⟩ := hE σ μ (xs (i + 1)) (xs (i + 2)) hR
  refine zg_aload_n hO 2 dL_law_690 rfl rfl ?_
  refine zg_aload_n hO 1 dL_law_691 rfl rfl ?_
  refine zg_iload hO 0 dL_law_692 rfl ?_
  refine zg_iconst hO dL_law_694 ic1 ?_
  refine zg_iadd hO dL_law_695 ?_
  refine zl_sld (j := i + 1) hO hB (rI_add i 1).symm (by omega) dL_law_696 ?_
  refine zg_aload_n hO 1 dL_law_697 rfl rfl ?_
  refine zg_iload hO 0 dL_law_698 rfl ?_
  refine zg_iconst hO dL_law_700 ic2 ?_
  refine zg_iadd hO dL_law_701 ?_
  refine zl_sld (j := i + 2) hO hB (rI_add i 2).symm (by omega) dL_law_702 ?_
  refine zg_ws (List.append_assoc _ _ _) ?_
  refine zx_callViX (na := 2) (W := WX dA G tb ad σ) (As := [.int (xs (i + 1)), .int (xs (i + 2))]) (rest := []) hO hX (m_X_drops l D dA G tb ad h1) mw_X1_drops q1476 ⟨Nat.le_of_ble_eq_true rfl, Nat.le_of_ble_eq_true rfl⟩ ⟨by omega, by omega⟩ rfl rfl (Nat.le_of_ble_eq_true rfl) ⟨0, 1, _, _, rfl, rfl, rfl⟩ dL_law_703 (fun z => ?_)
  refine zg_ws (List.append_assoc _ _ _).symm ?_
  refine zg_aload_n hO 3 dL_law_706 rfl rfl ?_
  refine zg_aload_n hO 1 dL_law_707 rfl rfl ?_
  refine zg_iload hO 0 dL_law_708 rfl ?_
  refine zg_iconst hO dL_law_710 ic1 ?_
  refine zg_iadd hO dL_law_711 ?_
  refine zl_sld (j := i + 1) hO hB (rI_add i 1).symm (by omega) dL_law_712 ?_
  refine zg_aload_n hO 1 dL_law_713 rfl rfl ?_
  refine zg_iload hO 0 dL_law_714 rfl ?_
  refine zg_iconst hO dL_law_716 ic2 ?_
  refine zg_iadd hO dL_law_717 ?_
  refine zl_sld (j := i + 2) hO hB (rI_add i 2).symm (by omega) dL_law_718 ?_
  refine zw_callTi (na := 2) (As := [.int (xs (i + 1)), .int (xs (i + 2))]) (rest := [.int r]) hO hX (m_drops l D dA GM h2) mw_X4_drops q2017 ⟨Nat.le_of_ble_eq_true rfl, Nat.le_of_ble_eq_true rfl⟩ ⟨by omega, by omega⟩ rfl rfl (Nat.le_of_ble_eq_true rfl) dL_law_719 ?_
  refine zt_icmp_eq (tgt := 1469) hO rfl dL_law_722 (by decide) ?_
  exact zg_wid (by omega) (by omega) (kk z.2 z.1 σ1 μ1 f hR1)
theorem law_shifts {p : Program} {l : Launch} {e : Env} {s : State} {m : MethodId} {args : Array Value} {below : List Frame} {meth : Method} {c : Code} {D : va_G} {dA : Nat → ClassId} {G GM : Nat → Nat} {A : Nat → Prop} {Q : State → Prop} {b L ou i u v : Nat} {xs : Nat → Int32} {R R1 : XS → MS → Prop} (hO : Ok p s m args meth c cL_law "EndSumsLaw" 8 D dA A) (hX : XK dA G A s) (hl9 : l.stackTraces = false) (hB : SB A s b L xs) (hi : i + 4 ≤ L) (hu : u + 7700 ≤ 1200128 ∧ v + 55500 ≤ 5501098) {tb : Nat} {ad : Nat → Nat} {σ : XS} {μ : MS} {f : Nat → Int64} (hR : R σ μ) (hE : E_shifts R R1) (kk : ∀ (tb : Nat) (ad : Nat → Nat) (σ : XS) (μ : MS) (f : Nat → Int64), R1 σ μ → Go p l e (rmG 1626 1200128 5501098) s m args below meth c D A 8 Q (WX dA G tb ad σ ++ [(ou, .inl (dA 1, 1, .inr (.inl f)))] ++ WM dA GM μ) (u + 7700) (v + 55500) 1469 [(4, .int (nI i)), (0, .ref b), (1, .ref (G 0)), (2, .ref (GM 0)), (3, .ref ou)] []) : Go p l e (rmG 1626 1200128 5501098) s m args below meth c D A 8 Q (WX dA G tb ad σ ++ [(ou, .inl (dA 1, 1, .inr (.inl f)))] ++ WM dA GM μ) u v 727 [(4, .int (nI i)), (0, .ref b), (1, .ref (G 0)), (2, .ref (GM 0)), (3, .ref ou)] [] := by
  obtain ⟨r, σ1, μ1, h1, h2, hR1⟩ := hE σ μ (xs (i + 1)) (xs (i + 2)) (xs (i + 3)) hR
  refine zg_aload_n hO 2 dL_law_727 rfl rfl ?_
  refine zg_aload_n hO 1 dL_law_728 rfl rfl ?_
  refine zg_iload hO 0 dL_law_729 rfl ?_
  refine zg_iconst hO dL_law_731 ic1 ?_
  refine zg_iadd hO dL_law_732 ?_
  refine zl_sld (j := i + 1) hO hB (rI_add i 1).symm (by omega) dL_law_733 ?_
  refine zg_aload_n hO 1 dL_law_734 rfl rfl ?_
  refine zg_iload hO 0 dL_law_735 rfl ?_
  refine zg_iconst hO dL_law_737 ic2 ?_
  refine zg_iadd hO dL_law_738 ?_
  refine zl_sld (j := i + 2) hO hB (rI_add i 2).symm (by omega) dL_law_739 ?_
  refine zg_aload_n hO 1 dL_law_740 rfl rfl ?_
  refine zg_iload hO 0 dL_law_741 rfl ?_
  refine zg_iconst hO dL_law_743 ic3 ?_
  refine zg_iadd hO dL_law_744 ?_
  refine zl_sld (j := i + 3) hO hB (rI_add i 3).symm (by omega) dL_law_745 ?_
  refine zg_ws (List.append_assoc _ _ _) ?_
  refine zx_callViX (na := 3) (W := WX dA G tb ad σ) (As := [.int (xs (i + 1)), .int (xs (i + 2)), .int (xs (i + 3))]) (rest := []) hO hX (m_X_shifts l D dA G tb ad h1) mw_X1_shifts q1480 ⟨Nat.le_of_ble_eq_true rfl, Nat.le_of_ble_eq_true rfl⟩ ⟨by omega, by omega⟩ rfl rfl (Nat.le_of_ble_eq_true rfl) ⟨0, 1, _, _, rfl, rfl, rfl⟩ dL_law_746 (fun z => ?_)
  refine zg_ws (List.append_assoc _ _ _).symm ?_
  refine zg_aload_n hO 3 dL_law_749 rfl rfl ?_
  refine zg_aload_n hO 1 dL_law_750 rfl rfl ?_
  refine zg_iload hO 0 dL_law_751 rfl ?_
  refine zg_iconst hO dL_law_753 ic1 ?_
  refine zg_iadd hO dL_law_754 ?_
  refine zl_sld (j := i + 1) hO hB (rI_add i 1).symm (by omega) dL_law_755 ?_
  refine zg_aload_n hO 1 dL_law_756 rfl rfl ?_
  refine zg_iload hO 0 dL_law_757 rfl ?_
  refine zg_iconst hO dL_law_759 ic2 ?_
  refine zg_iadd hO dL_law_760 ?_
  refine zl_sld (j := i + 2) hO hB (rI_add i 2).symm (by omega) dL_law_761 ?_
  refine zg_aload_n hO 1 dL_law_762 rfl rfl ?_
  refine zg_iload hO 0 dL_law_763 rfl ?_
  refine zg_iconst hO dL_law_765 ic3 ?_
  refine zg_iadd hO dL_law_766 ?_
  refine zl_sld (j := i + 3) hO hB (rI_add i 3).symm (by omega) dL_law_767 ?_
  refine zw_callTi (na := 3) (As := [.int (xs (i + 1)), .int (xs (i + 2)), .int (xs (i + 3))]) (rest := [.int r]) hO hX (m_shifts l D dA GM h2) mw_X4_shifts q2021 ⟨Nat.le_of_ble_eq_true rfl, Nat.le_of_ble_eq_true rfl⟩ ⟨by omega, by omega⟩ rfl rfl (Nat.le_of_ble_eq_true rfl) dL_law_768 ?_
  refine zt_icmp_eq (tgt := 1469) hO rfl dL_law_771 (by decide) ?_
  exact zg_wid (by omega) (by omega) (kk z.2 z.1 σ1 μ1 f hR1)
theorem law_clears {p : Program} {l : Launch} {e : Env} {s : State} {m : MethodId} {args : Array Value} {below : List Frame} {meth : Method} {c : Code} {D : va_G} {dA : Nat → ClassId} {G GM : Nat → Nat} {A : Nat → Prop} {Q : State → Prop} {b L ou i u v : Nat} {xs : Nat → Int32} {R R1 : XS → MS → Prop} (hO : Ok p s m args meth c cL_law "EndSumsLaw" 8 D dA A) (hX : XK dA G A s) (hl9 : l.stackTraces = false) (hB : SB A s b L xs) (hi : i + 4 ≤ L) (hu : u + 7700 ≤ 1200128 ∧ v + 55500 ≤ 5501098) {tb : Nat} {ad : Nat → Nat} {σ : XS} {μ : MS} {f : Nat → Int64} (hR : R σ μ) (hE : E_clears R R1) (kk : ∀ (tb : Nat) (ad : Nat → Nat) (σ : XS) (μ : MS) (f : Nat → Int64), R1 σ μ → Go p l e (rmG 1626 1200128 5501098) s m args below meth c D A 8 Q (WX dA G tb ad σ ++ [(ou, .inl (dA 1, 1, .inr (.inl f)))] ++ WM dA GM μ) (u + 7700) (v + 55500) 1469 [(4, .int (nI i)), (0, .ref b), (1, .ref (G 0)), (2, .ref (GM 0)), (3, .ref ou)] []) : Go p l e (rmG 1626 1200128 5501098) s m args below meth c D A 8 Q (WX dA G tb ad σ ++ [(ou, .inl (dA 1, 1, .inr (.inl f)))] ++ WM dA GM μ) u v 776 [(4, .int (nI i)), (0, .ref b), (1, .ref (G 0)), (2, .ref (GM 0)), (3, .ref ou)] [] := by
  obtain ⟨r, σ1, μ1, h1, h2, hR1⟩ := hE σ μ (xs (i + 1)) hR
  refine zg_aload_n hO 2 dL_law_776 rfl rfl ?_
  refine zg_aload_n hO 1 dL_law_777 rfl rfl ?_
  refine zg_iload hO 0 dL_law_778 rfl ?_
  refine zg_iconst hO dL_law_780 ic1 ?_
  refine zg_iadd hO dL_law_781 ?_
  refine zl_sld (j := i + 1) hO hB (rI_add i 1).symm (by omega) dL_law_782 ?_
  refine zg_ws (List.append_assoc _ _ _) ?_
  refine zx_callViX (na := 1) (W := WX dA G tb ad σ) (As := [.int (xs (i + 1))]) (rest := []) hO hX (m_X_clears l D dA G tb ad h1) mw_X1_clears q1491 ⟨Nat.le_of_ble_eq_true rfl, Nat.le_of_ble_eq_true rfl⟩ ⟨by omega, by omega⟩ rfl rfl (Nat.le_of_ble_eq_true rfl) ⟨0, 1, _, _, rfl, rfl, rfl⟩ dL_law_783 (fun _ => ?_)
  refine zg_ws (List.append_assoc _ _ _).symm ?_
  refine zg_aload_n hO 3 dL_law_786 rfl rfl ?_
  refine zg_aload_n hO 1 dL_law_787 rfl rfl ?_
  refine zg_iload hO 0 dL_law_788 rfl ?_
  refine zg_iconst hO dL_law_790 ic1 ?_
  refine zg_iadd hO dL_law_791 ?_
  refine zl_sld (j := i + 1) hO hB (rI_add i 1).symm (by omega) dL_law_792 ?_
  refine zw_callTi (na := 1) (As := [.int (xs (i + 1))]) (rest := [.int r]) hO hX (m_clears l D dA GM h2) mw_X4_clears q2034 ⟨Nat.le_of_ble_eq_true rfl, Nat.le_of_ble_eq_true rfl⟩ ⟨by omega, by omega⟩ rfl rfl (Nat.le_of_ble_eq_true rfl) dL_law_793 ?_
  refine zt_icmp_eq (tgt := 1469) hO rfl dL_law_796 (by decide) ?_
  exact zg_wid (by omega) (by omega) (kk tb ad σ1 μ1 f hR1)
theorem law_run {p : Program} {l : Launch} {e : Env} {s : State} {m : MethodId} {args : Array Value} {below : List Frame} {meth : Method} {c : Code} {D : va_G} {dA : Nat → ClassId} {G GM : Nat → Nat} {A : Nat → Prop} {Q : State → Prop} {b L ou i u v : Nat} {xs : Nat → Int32} {R R1 : XS → MS → Prop} (hO : Ok p s m args meth c cL_law "EndSumsLaw" 8 D dA A) (hX : XK dA G A s) (hl9 : l.stackTraces = false) (hB : SB A s b L xs) (hi : i + 4 ≤ L) (hu : u + 7700 ≤ 1200128 ∧ v + 55500 ≤ 5501098) {tb : Nat} {ad : Nat → Nat} {σ : XS} {μ : MS} {f : Nat → Int64} (hR : R σ μ) (hE : E_run R R1) (kk : ∀ (tb : Nat) (ad : Nat → Nat) (σ : XS) (μ : MS) (f : Nat → Int64), R1 σ μ → Go p l e (rmG 1626 1200128 5501098) s m args below meth c D A 8 Q (WX dA G tb ad σ ++ [(ou, .inl (dA 1, 1, .inr (.inl f)))] ++ WM dA GM μ) (u + 7700) (v + 55500) 1469 [(4, .int (nI i)), (0, .ref b), (1, .ref (G 0)), (2, .ref (GM 0)), (3, .ref ou)] []) : Go p l e (rmG 1626 1200128 5501098) s m args below meth c D A 8 Q (WX dA G tb ad σ ++ [(ou, .inl (dA 1, 1, .inr (.inl f)))] ++ WM dA GM μ) u v 801 [(4, .int (nI i)), (0, .ref b), (1, .ref (G 0)), (2, .ref (GM 0)), (3, .ref ou)] [] := by
  obtain ⟨r, σ1, μ1, h1, h2, hR1⟩ := hE σ μ (xs (i + 1)) hR
  refine zg_aload_n hO 2 dL_law_801 rfl rfl ?_
  refine zg_aload_n hO 1 dL_law_802 rfl rfl ?_
  refine zg_iload hO 0 dL_law_803 rfl ?_
  refine zg_iconst hO dL_law_805 ic1 ?_
  refine zg_iadd hO dL_law_806 ?_
  refine zl_sld (j := i + 1) hO hB (rI_add i 1).symm (by omega) dL_law_807 ?_
  refine zg_ws (List.append_assoc _ _ _) ?_
  refine zx_callViWX (na := 1) (W := WX dA G tb ad σ) (As := [.int (xs (i + 1))]) (rest := []) hO hX (m_X_run l hl9 D dA G tb ad h1) ⟨by decide +kernel, q1497, q1498, q85, q1499⟩ q1496 ⟨Nat.le_of_ble_eq_true rfl, Nat.le_of_ble_eq_true rfl⟩ ⟨by omega, by omega⟩ rfl rfl (Nat.le_of_ble_eq_true rfl) ⟨0, 1, _, _, rfl, rfl, rfl⟩ dL_law_808 (fun z => ?_)
  refine zg_ws (List.append_assoc _ _ _).symm ?_
  refine zg_aload_n hO 3 dL_law_811 rfl rfl ?_
  refine zg_aload_n hO 1 dL_law_812 rfl rfl ?_
  refine zg_iload hO 0 dL_law_813 rfl ?_
  refine zg_iconst hO dL_law_815 ic1 ?_
  refine zg_iadd hO dL_law_816 ?_
  refine zl_sld (j := i + 1) hO hB (rI_add i 1).symm (by omega) dL_law_817 ?_
  refine zw_callTi (na := 1) (As := [.int (xs (i + 1))]) (rest := [.int r]) hO hX (m_run l D dA GM h2) mw_X4_run q2038 ⟨Nat.le_of_ble_eq_true rfl, Nat.le_of_ble_eq_true rfl⟩ ⟨by omega, by omega⟩ rfl rfl (Nat.le_of_ble_eq_true rfl) dL_law_818 ?_
  refine zt_icmp_eq (tgt := 1469) hO rfl dL_law_821 (by decide) ?_
  exact zg_wid (by omega) (by omega) (kk z.2 z.1 σ1 μ1 f hR1)
theorem law_sign {p : Program} {l : Launch} {e : Env} {s : State} {m : MethodId} {args : Array Value} {below : List Frame} {meth : Method} {c : Code} {D : va_G} {dA : Nat → ClassId} {G GM : Nat → Nat} {A : Nat → Prop} {Q : State → Prop} {b L ou i u v : Nat} {xs : Nat → Int32} {R R1 : XS → MS → Prop} (hO : Ok p s m args meth c cL_law "EndSumsLaw" 8 D dA A) (hX : XK dA G A s) (hl9 : l.stackTraces = false) (hB : SB A s b L xs) (hi : i + 4 ≤ L) (hu : u + 7700 ≤ 1200128 ∧ v + 55500 ≤ 5501098) {tb : Nat} {ad : Nat → Nat} {σ : XS} {μ : MS} {f : Nat → Int64} (hR : R σ μ) (hE : E_sign R R1) (kk : ∀ (tb : Nat) (ad : Nat → Nat) (σ : XS) (μ : MS) (f : Nat → Int64), R1 σ μ → Go p l e (rmG 1626 1200128 5501098) s m args below meth c D A 8 Q (WX dA G tb ad σ ++ [(ou, .inl (dA 1, 1, .inr (.inl f)))] ++ WM dA GM μ) (u + 7700) (v + 55500) 1469 [(4, .int (nI i)), (0, .ref b), (1, .ref (G 0)), (2, .ref (GM 0)), (3, .ref ou)] []) : Go p l e (rmG 1626 1200128 5501098) s m args below meth c D A 8 Q (WX dA G tb ad σ ++ [(ou, .inl (dA 1, 1, .inr (.inl f)))] ++ WM dA GM μ) u v 826 [(4, .int (nI i)), (0, .ref b), (1, .ref (G 0)), (2, .ref (GM 0)), (3, .ref ou)] [] := by
  obtain ⟨r, σ1, μ1, h1, h2, hR1⟩ := hE σ μ (xs (i + 1)) hR
  refine zg_aload_n hO 2 dL_law_826 rfl rfl ?_
  refine zg_aload_n hO 1 dL_law_827 rfl rfl ?_
  refine zg_iload hO 0 dL_law_828 rfl ?_
  refine zg_iconst hO dL_law_830 ic1 ?_
  refine zg_iadd hO dL_law_831 ?_
  refine zl_sld (j := i + 1) hO hB (rI_add i 1).symm (by omega) dL_law_832 ?_
  refine zg_ws (List.append_assoc _ _ _) ?_
  refine zx_callViX (na := 1) (W := WX dA G tb ad σ) (As := [.int (xs (i + 1))]) (rest := []) hO hX (m_X_sign l D dA G tb ad h1) mw_X1_sign q600 ⟨Nat.le_of_ble_eq_true rfl, Nat.le_of_ble_eq_true rfl⟩ ⟨by omega, by omega⟩ rfl rfl (Nat.le_of_ble_eq_true rfl) ⟨0, 1, _, _, rfl, rfl, rfl⟩ dL_law_833 (fun _ => ?_)
  refine zg_ws (List.append_assoc _ _ _).symm ?_
  refine zg_aload_n hO 3 dL_law_836 rfl rfl ?_
  refine zg_aload_n hO 1 dL_law_837 rfl rfl ?_
  refine zg_iload hO 0 dL_law_838 rfl ?_
  refine zg_iconst hO dL_law_840 ic1 ?_
  refine zg_iadd hO dL_law_841 ?_
  refine zl_sld (j := i + 1) hO hB (rI_add i 1).symm (by omega) dL_law_842 ?_
  refine zw_callTi (na := 1) (As := [.int (xs (i + 1))]) (rest := [.int r]) hO hX (m_sign l D dA GM h2) mw_X4_sign q1694 ⟨Nat.le_of_ble_eq_true rfl, Nat.le_of_ble_eq_true rfl⟩ ⟨by omega, by omega⟩ rfl rfl (Nat.le_of_ble_eq_true rfl) dL_law_843 ?_
  refine zt_icmp_eq (tgt := 1469) hO rfl dL_law_846 (by decide) ?_
  exact zg_wid (by omega) (by omega) (kk tb ad σ1 μ1 f hR1)
theorem law_end {p : Program} {l : Launch} {e : Env} {s : State} {m : MethodId} {args : Array Value} {below : List Frame} {meth : Method} {c : Code} {D : va_G} {dA : Nat → ClassId} {G GM : Nat → Nat} {A : Nat → Prop} {Q : State → Prop} {b L ou i u v : Nat} {xs : Nat → Int32} {R R1 : XS → MS → Prop} (hO : Ok p s m args meth c cL_law "EndSumsLaw" 8 D dA A) (hX : XK dA G A s) (hl9 : l.stackTraces = false) (hB : SB A s b L xs) (hi : i + 4 ≤ L) (hu : u + 7700 ≤ 1200128 ∧ v + 55500 ≤ 5501098) {tb : Nat} {ad : Nat → Nat} {σ : XS} {μ : MS} {f : Nat → Int64} (hR : R σ μ) (hE : E_end R R1) (kk : ∀ (tb : Nat) (ad : Nat → Nat) (σ : XS) (μ : MS) (f : Nat → Int64), R1 σ μ → Go p l e (rmG 1626 1200128 5501098) s m args below meth c D A 8 Q (WX dA G tb ad σ ++ [(ou, .inl (dA 1, 1, .inr (.inl f)))] ++ WM dA GM μ) (u + 7700) (v + 55500) 1469 [(4, .int (nI i)), (0, .ref b), (1, .ref (G 0)), (2, .ref (GM 0)), (3, .ref ou)] []) : Go p l e (rmG 1626 1200128 5501098) s m args below meth c D A 8 Q (WX dA G tb ad σ ++ [(ou, .inl (dA 1, 1, .inr (.inl f)))] ++ WM dA GM μ) u v 851 [(4, .int (nI i)), (0, .ref b), (1, .ref (G 0)), (2, .ref (GM 0)), (3, .ref ou)] [] := by
  obtain ⟨r, σ1, μ1, h1, h2, hR1⟩ := hE σ μ (xs (i + 1)) hR
  refine zg_aload_n hO 2 dL_law_851 rfl rfl ?_
  refine zg_aload_n hO 1 dL_law_852 rfl rfl ?_
  refine zg_iload hO 0 dL_law_853 rfl ?_
  refine zg_iconst hO dL_law_855 ic1 ?_
  refine zg_iadd hO dL_law_856 ?_
  refine zl_sld (j := i + 1) hO hB (rI_add i 1).symm (by omega) dL_law_857 ?_
  refine zg_ws (List.append_assoc _ _ _) ?_
  refine zx_callViX (na := 1) (W := WX dA G tb ad σ) (As := [.int (xs (i + 1))]) (rest := []) hO hX (m_X_end l D dA G tb ad h1) mw_X1_end q604 ⟨Nat.le_of_ble_eq_true rfl, Nat.le_of_ble_eq_true rfl⟩ ⟨by omega, by omega⟩ rfl rfl (Nat.le_of_ble_eq_true rfl) ⟨0, 1, _, _, rfl, rfl, rfl⟩ dL_law_858 (fun _ => ?_)
  refine zg_ws (List.append_assoc _ _ _).symm ?_
  refine zg_aload_n hO 3 dL_law_861 rfl rfl ?_
  refine zg_aload_n hO 1 dL_law_862 rfl rfl ?_
  refine zg_iload hO 0 dL_law_863 rfl ?_
  refine zg_iconst hO dL_law_865 ic1 ?_
  refine zg_iadd hO dL_law_866 ?_
  refine zl_sld (j := i + 1) hO hB (rI_add i 1).symm (by omega) dL_law_867 ?_
  refine zw_callTi (na := 1) (As := [.int (xs (i + 1))]) (rest := [.int r]) hO hX (m_end l D dA GM h2) mw_X4_end q1698 ⟨Nat.le_of_ble_eq_true rfl, Nat.le_of_ble_eq_true rfl⟩ ⟨by omega, by omega⟩ rfl rfl (Nat.le_of_ble_eq_true rfl) dL_law_868 ?_
  refine zt_icmp_eq (tgt := 1469) hO rfl dL_law_871 (by decide) ?_
  exact zg_wid (by omega) (by omega) (kk tb ad σ1 μ1 f hR1)
theorem law_sum {p : Program} {l : Launch} {e : Env} {s : State} {m : MethodId} {args : Array Value} {below : List Frame} {meth : Method} {c : Code} {D : va_G} {dA : Nat → ClassId} {G GM : Nat → Nat} {A : Nat → Prop} {Q : State → Prop} {b L ou i u v : Nat} {xs : Nat → Int32} {R R1 : XS → MS → Prop} (hO : Ok p s m args meth c cL_law "EndSumsLaw" 8 D dA A) (hX : XK dA G A s) (hl9 : l.stackTraces = false) (hB : SB A s b L xs) (hi : i + 4 ≤ L) (hu : u + 7700 ≤ 1200128 ∧ v + 55500 ≤ 5501098) {tb : Nat} {ad : Nat → Nat} {σ : XS} {μ : MS} {f : Nat → Int64} (hR : R σ μ) (hE : E_sum R R1) (kk : ∀ (tb : Nat) (ad : Nat → Nat) (σ : XS) (μ : MS) (f : Nat → Int64), R1 σ μ → Go p l e (rmG 1626 1200128 5501098) s m args below meth c D A 8 Q (WX dA G tb ad σ ++ [(ou, .inl (dA 1, 1, .inr (.inl f)))] ++ WM dA GM μ) (u + 7700) (v + 55500) 1469 [(4, .int (nI i)), (0, .ref b), (1, .ref (G 0)), (2, .ref (GM 0)), (3, .ref ou)] []) : Go p l e (rmG 1626 1200128 5501098) s m args below meth c D A 8 Q (WX dA G tb ad σ ++ [(ou, .inl (dA 1, 1, .inr (.inl f)))] ++ WM dA GM μ) u v 876 [(4, .int (nI i)), (0, .ref b), (1, .ref (G 0)), (2, .ref (GM 0)), (3, .ref ou)] [] := by
  obtain ⟨r, σ1, μ1, h1, h2, hR1⟩ := hE σ μ (xs (i + 1)) hR
  refine zg_aload_n hO 2 dL_law_876 rfl rfl ?_
  refine zg_aload_n hO 1 dL_law_877 rfl rfl ?_
  refine zg_iload hO 0 dL_law_878 rfl ?_
  refine zg_iconst hO dL_law_880 ic1 ?_
  refine zg_iadd hO dL_law_881 ?_
  refine zl_sld (j := i + 1) hO hB (rI_add i 1).symm (by omega) dL_law_882 ?_
  refine zg_ws (List.append_assoc _ _ _) ?_
  refine zx_callViX (na := 1) (W := WX dA G tb ad σ) (As := [.int (xs (i + 1))]) (rest := []) hO hX (m_X_sum l D dA G tb ad h1) mw_X1_sum q1584 ⟨Nat.le_of_ble_eq_true rfl, Nat.le_of_ble_eq_true rfl⟩ ⟨by omega, by omega⟩ rfl rfl (Nat.le_of_ble_eq_true rfl) ⟨0, 1, _, _, rfl, rfl, rfl⟩ dL_law_883 (fun _ => ?_)
  refine zg_ws (List.append_assoc _ _ _).symm ?_
  refine zg_aload_n hO 3 dL_law_886 rfl rfl ?_
  refine zg_aload_n hO 1 dL_law_887 rfl rfl ?_
  refine zg_iload hO 0 dL_law_888 rfl ?_
  refine zg_iconst hO dL_law_890 ic1 ?_
  refine zg_iadd hO dL_law_891 ?_
  refine zl_sld (j := i + 1) hO hB (rI_add i 1).symm (by omega) dL_law_892 ?_
  refine zw_callTi (na := 1) (As := [.int (xs (i + 1))]) (rest := [.int r]) hO hX (m_sum l D dA GM h2) mw_X4_sum q2054 ⟨Nat.le_of_ble_eq_true rfl, Nat.le_of_ble_eq_true rfl⟩ ⟨by omega, by omega⟩ rfl rfl (Nat.le_of_ble_eq_true rfl) dL_law_893 ?_
  refine zt_icmp_eq (tgt := 1469) hO rfl dL_law_896 (by decide) ?_
  exact zg_wid (by omega) (by omega) (kk tb ad σ1 μ1 f hR1)
theorem law_item {p : Program} {l : Launch} {e : Env} {s : State} {m : MethodId} {args : Array Value} {below : List Frame} {meth : Method} {c : Code} {D : va_G} {dA : Nat → ClassId} {G GM : Nat → Nat} {A : Nat → Prop} {Q : State → Prop} {b L ou i u v : Nat} {xs : Nat → Int32} {R R1 : XS → MS → Prop} (hO : Ok p s m args meth c cL_law "EndSumsLaw" 8 D dA A) (hX : XK dA G A s) (hl9 : l.stackTraces = false) (hB : SB A s b L xs) (hi : i + 4 ≤ L) (hu : u + 7700 ≤ 1200128 ∧ v + 55500 ≤ 5501098) {tb : Nat} {ad : Nat → Nat} {σ : XS} {μ : MS} {f : Nat → Int64} (hR : R σ μ) (hE : E_item R R1) (kk : ∀ (tb : Nat) (ad : Nat → Nat) (σ : XS) (μ : MS) (f : Nat → Int64), R1 σ μ → Go p l e (rmG 1626 1200128 5501098) s m args below meth c D A 8 Q (WX dA G tb ad σ ++ [(ou, .inl (dA 1, 1, .inr (.inl f)))] ++ WM dA GM μ) (u + 7700) (v + 55500) 1469 [(4, .int (nI i)), (0, .ref b), (1, .ref (G 0)), (2, .ref (GM 0)), (3, .ref ou)] []) : Go p l e (rmG 1626 1200128 5501098) s m args below meth c D A 8 Q (WX dA G tb ad σ ++ [(ou, .inl (dA 1, 1, .inr (.inl f)))] ++ WM dA GM μ) u v 901 [(4, .int (nI i)), (0, .ref b), (1, .ref (G 0)), (2, .ref (GM 0)), (3, .ref ou)] [] := by
  obtain ⟨r, μ1, h2, h⟩ := hE σ μ (xs (i + 1)) (xs (i + 2)) hR
  refine zg_aload_n hO 2 dL_law_901 rfl rfl ?_
  refine zg_aload_n hO 1 dL_law_902 rfl rfl ?_
  refine zg_iload hO 0 dL_law_903 rfl ?_
  refine zg_iconst hO dL_law_905 ic1 ?_
  refine zg_iadd hO dL_law_906 ?_
  refine zl_sld (j := i + 1) hO hB (rI_add i 1).symm (by omega) dL_law_907 ?_
  refine zg_aload_n hO 1 dL_law_908 rfl rfl ?_
  refine zg_iload hO 0 dL_law_909 rfl ?_
  refine zg_iconst hO dL_law_911 ic2 ?_
  refine zg_iadd hO dL_law_912 ?_
  refine zl_sld (j := i + 2) hO hB (rI_add i 2).symm (by omega) dL_law_913 ?_
  refine zg_aload_n hO 4 dL_law_914 rfl rfl ?_
  rcases h with ⟨σ1, h1, h0, hR1⟩ | ⟨σ1, h1, h0, hR1⟩
  · refine zx_callSiWX (na := 4) (W := WX dA G tb ad σ ++ ([(ou, .inl (dA 1, 1, .inr (.inl f)))] : va_W)) (X := WM dA GM μ) (As := [.ref (G 0), .int (xs (i + 1)), .int (xs (i + 2)), .ref ou]) (rest := []) hO hX (m_L_item l hl9 D dA G tb ad h1) ⟨by decide +kernel, q1674, q84, q1675⟩ q1673 ⟨Nat.le_of_ble_eq_true rfl, Nat.le_of_ble_eq_true rfl⟩ ⟨by omega, by omega⟩ rfl rfl (Nat.le_of_ble_eq_true rfl) dL_law_915 (fun _ => ?_)
    refine zg_istore (lv' := [(5, .int (nI 0)), (4, .int (nI i)), (0, .ref b), (1, .ref (G 0)), (2, .ref (GM 0)), (3, .ref ou)]) hO dL_law_918 (Nat.le_of_ble_eq_true rfl) rfl ?_
    refine zg_aload_n hO 4 dL_law_920 rfl rfl ?_
    refine zg_aload_n hO 2 dL_law_921 rfl rfl ?_
    refine zg_iload hO 1 dL_law_922 rfl ?_
    refine zg_iconst hO dL_law_924 ic1 ?_
    refine zg_iadd hO dL_law_925 ?_
    refine zl_sld (j := i + 1) hO hB (rI_add i 1).symm (by omega) dL_law_926 ?_
    refine zg_aload_n hO 2 dL_law_927 rfl rfl ?_
    refine zg_iload hO 1 dL_law_928 rfl ?_
    refine zg_iconst hO dL_law_930 ic2 ?_
    refine zg_iadd hO dL_law_931 ?_
    refine zl_sld (j := i + 2) hO hB (rI_add i 2).symm (by omega) dL_law_932 ?_
    refine zw_callTi (na := 2) (As := [.int (xs (i + 1)), .int (xs (i + 2))]) (rest := []) hO hX (m_item l D dA GM h2) mw_X4_item q2058 ⟨Nat.le_of_ble_eq_true rfl, Nat.le_of_ble_eq_true rfl⟩ ⟨by omega, by omega⟩ rfl rfl (Nat.le_of_ble_eq_true rfl) dL_law_933 ?_
    refine zg_istore (lv' := [(6, .int r), (5, .int (nI 0)), (4, .int (nI i)), (0, .ref b), (1, .ref (G 0)), (2, .ref (GM 0)), (3, .ref ou)]) hO dL_law_936 (Nat.le_of_ble_eq_true rfl) rfl ?_
    refine zg_aload_n hO 5 dL_law_938 rfl rfl ?_
    refine zw_callTi (As := []) (rest := []) hO hX (m_thrown l D dA GM (σ := μ1) (ρ := (gI μ1 0, μ1)) rfl) mw_X4_thrown q1690 ⟨Nat.le_of_ble_eq_true rfl, Nat.le_of_ble_eq_true rfl⟩ ⟨by omega, by omega⟩ rfl rfl (Nat.le_of_ble_eq_true rfl) dL_law_939 ?_
    refine zg_iload hO 1 dL_law_942 rfl ?_
    refine zt_icmp_eq (tgt := 949) hO h0 dL_law_944 (by decide) ?_
    refine zg_iload hO 1 dL_law_949 rfl ?_
    refine zn_if_ne (tgt := 966) hO rfl dL_law_951 (by decide) ?_
    refine zg_aload_n hO 6 dL_law_954 rfl rfl ?_
    refine zg_iconst hO dL_law_955 ic0 ?_
    refine zg_lld (g := some ()) (z := ()) hO (if_neg (by decide)) (WX dA G tb ad σ1).length (apW (ap0 (L := []))) dL_law_956 (fun _ => ?_)
    rw [show vp_updL f 0 (r.toInt64) (nI 0).toNatClampNeg = r.toInt64 by unfold vp_updL; exact if_pos rfl]
    refine zg_iload hO 0 dL_law_957 rfl ?_
    refine zg_i2l hO dL_law_959 ?_
    refine zg_lcmp hO dL_law_960 ?_
    refine zt_if_eq (tgt := 966) hO (lg_cmp_self _) dL_law_961 (by decide) ?_
    refine zg_goto (tgt := 1469) hO dL_law_966 (by decide) ?_
    refine zg_sub (lv' := [(4, .int (nI i)), (0, .ref b), (1, .ref (G 0)), (2, .ref (GM 0)), (3, .ref ou)]) [2, 3, 4, 5, 6] rfl ?_
    exact zg_wid (by omega) (by omega) (kk tb ad σ1 μ1 _ hR1)
  · refine zx_callSiWX (na := 4) (W := WX dA G tb ad σ ++ ([(ou, .inl (dA 1, 1, .inr (.inl f)))] : va_W)) (X := WM dA GM μ) (As := [.ref (G 0), .int (xs (i + 1)), .int (xs (i + 2)), .ref ou]) (rest := []) hO hX (m_L_itemT l hl9 D dA G tb ad h1) ⟨by decide +kernel, q1674, q84, q1675⟩ q1673 ⟨Nat.le_of_ble_eq_true rfl, Nat.le_of_ble_eq_true rfl⟩ ⟨by omega, by omega⟩ rfl rfl (Nat.le_of_ble_eq_true rfl) dL_law_915 (fun _ => ?_)
    refine zg_istore (lv' := [(5, .int (nI 1)), (4, .int (nI i)), (0, .ref b), (1, .ref (G 0)), (2, .ref (GM 0)), (3, .ref ou)]) hO dL_law_918 (Nat.le_of_ble_eq_true rfl) rfl ?_
    refine zg_aload_n hO 4 dL_law_920 rfl rfl ?_
    refine zg_aload_n hO 2 dL_law_921 rfl rfl ?_
    refine zg_iload hO 1 dL_law_922 rfl ?_
    refine zg_iconst hO dL_law_924 ic1 ?_
    refine zg_iadd hO dL_law_925 ?_
    refine zl_sld (j := i + 1) hO hB (rI_add i 1).symm (by omega) dL_law_926 ?_
    refine zg_aload_n hO 2 dL_law_927 rfl rfl ?_
    refine zg_iload hO 1 dL_law_928 rfl ?_
    refine zg_iconst hO dL_law_930 ic2 ?_
    refine zg_iadd hO dL_law_931 ?_
    refine zl_sld (j := i + 2) hO hB (rI_add i 2).symm (by omega) dL_law_932 ?_
    refine zw_callTi (na := 2) (As := [.int (xs (i + 1)), .int (xs (i + 2))]) (rest := []) hO hX (m_item l D dA GM h2) mw_X4_item q2058 ⟨Nat.le_of_ble_eq_true rfl, Nat.le_of_ble_eq_true rfl⟩ ⟨by omega, by omega⟩ rfl rfl (Nat.le_of_ble_eq_true rfl) dL_law_933 ?_
    refine zg_istore (lv' := [(6, .int r), (5, .int (nI 1)), (4, .int (nI i)), (0, .ref b), (1, .ref (G 0)), (2, .ref (GM 0)), (3, .ref ou)]) hO dL_law_936 (Nat.le_of_ble_eq_true rfl) rfl ?_
    refine zg_aload_n hO 5 dL_law_938 rfl rfl ?_
    refine zw_callTi (As := []) (rest := []) hO hX (m_thrown l D dA GM (σ := μ1) (ρ := (gI μ1 0, μ1)) rfl) mw_X4_thrown q1690 ⟨Nat.le_of_ble_eq_true rfl, Nat.le_of_ble_eq_true rfl⟩ ⟨by omega, by omega⟩ rfl rfl (Nat.le_of_ble_eq_true rfl) dL_law_939 ?_
    refine zg_iload hO 1 dL_law_942 rfl ?_
    refine zt_icmp_eq (tgt := 949) hO h0 dL_law_944 (by decide) ?_
    refine zg_iload hO 1 dL_law_949 rfl ?_
    refine zt_if_ne (tgt := 966) hO (by decide) dL_law_951 (by decide) ?_
    refine zg_goto (tgt := 1469) hO dL_law_966 (by decide) ?_
    refine zg_sub (lv' := [(4, .int (nI i)), (0, .ref b), (1, .ref (G 0)), (2, .ref (GM 0)), (3, .ref ou)]) [2, 3, 4, 5, 6] rfl ?_
    exact zg_wid (by omega) (by omega) (kk tb ad σ1 μ1 _ hR1)
theorem law_part {p : Program} {l : Launch} {e : Env} {s : State} {m : MethodId} {args : Array Value} {below : List Frame} {meth : Method} {c : Code} {D : va_G} {dA : Nat → ClassId} {G GM : Nat → Nat} {A : Nat → Prop} {Q : State → Prop} {b L ou i u v : Nat} {xs : Nat → Int32} {R R1 : XS → MS → Prop} (hO : Ok p s m args meth c cL_law "EndSumsLaw" 8 D dA A) (hX : XK dA G A s) (hl9 : l.stackTraces = false) (hB : SB A s b L xs) (hi : i + 4 ≤ L) (hu : u + 7700 ≤ 1200128 ∧ v + 55500 ≤ 5501098) {tb : Nat} {ad : Nat → Nat} {σ : XS} {μ : MS} {f : Nat → Int64} (hR : R σ μ) (hE : E_part R R1) (kk : ∀ (tb : Nat) (ad : Nat → Nat) (σ : XS) (μ : MS) (f : Nat → Int64), R1 σ μ → Go p l e (rmG 1626 1200128 5501098) s m args below meth c D A 8 Q (WX dA G tb ad σ ++ [(ou, .inl (dA 1, 1, .inr (.inl f)))] ++ WM dA GM μ) (u + 7700) (v + 55500) 1469 [(4, .int (nI i)), (0, .ref b), (1, .ref (G 0)), (2, .ref (GM 0)), (3, .ref ou)] []) : Go p l e (rmG 1626 1200128 5501098) s m args below meth c D A 8 Q (WX dA G tb ad σ ++ [(ou, .inl (dA 1, 1, .inr (.inl f)))] ++ WM dA GM μ) u v 969 [(4, .int (nI i)), (0, .ref b), (1, .ref (G 0)), (2, .ref (GM 0)), (3, .ref ou)] [] := by
  obtain ⟨r, σ1, μ1, h1, h2, hR1⟩ := hE σ μ (xs (i + 1)) (xs (i + 2)) (xs (i + 3)) hR
  refine zg_aload_n hO 2 dL_law_969 rfl rfl ?_
  refine zg_aload_n hO 1 dL_law_970 rfl rfl ?_
  refine zg_iload hO 0 dL_law_971 rfl ?_
  refine zg_iconst hO dL_law_973 ic1 ?_
  refine zg_iadd hO dL_law_974 ?_
  refine zl_sld (j := i + 1) hO hB (rI_add i 1).symm (by omega) dL_law_975 ?_
  refine zg_aload_n hO 1 dL_law_976 rfl rfl ?_
  refine zg_iload hO 0 dL_law_977 rfl ?_
  refine zg_iconst hO dL_law_979 ic2 ?_
  refine zg_iadd hO dL_law_980 ?_
  refine zl_sld (j := i + 2) hO hB (rI_add i 2).symm (by omega) dL_law_981 ?_
  refine zg_aload_n hO 1 dL_law_982 rfl rfl ?_
  refine zg_iload hO 0 dL_law_983 rfl ?_
  refine zg_iconst hO dL_law_985 ic3 ?_
  refine zg_iadd hO dL_law_986 ?_
  refine zl_sld (j := i + 3) hO hB (rI_add i 3).symm (by omega) dL_law_987 ?_
  refine zg_ws (List.append_assoc _ _ _) ?_
  refine zx_callViX (na := 3) (W := WX dA G tb ad σ) (As := [.int (xs (i + 1)), .int (xs (i + 2)), .int (xs (i + 3))]) (rest := []) hO hX (m_X_part l D dA G tb ad h1) mw_X1_part q1588 ⟨Nat.le_of_ble_eq_true rfl, Nat.le_of_ble_eq_true rfl⟩ ⟨by omega, by omega⟩ rfl rfl (Nat.le_of_ble_eq_true rfl) ⟨0, 1, _, _, rfl, rfl, rfl⟩ dL_law_988 (fun _ => ?_)
  refine zg_ws (List.append_assoc _ _ _).symm ?_
  refine zg_aload_n hO 3 dL_law_991 rfl rfl ?_
  refine zg_aload_n hO 1 dL_law_992 rfl rfl ?_
  refine zg_iload hO 0 dL_law_993 rfl ?_
  refine zg_iconst hO dL_law_995 ic1 ?_
  refine zg_iadd hO dL_law_996 ?_
  refine zl_sld (j := i + 1) hO hB (rI_add i 1).symm (by omega) dL_law_997 ?_
  refine zg_aload_n hO 1 dL_law_998 rfl rfl ?_
  refine zg_iload hO 0 dL_law_999 rfl ?_
  refine zg_iconst hO dL_law_1001 ic2 ?_
  refine zg_iadd hO dL_law_1002 ?_
  refine zl_sld (j := i + 2) hO hB (rI_add i 2).symm (by omega) dL_law_1003 ?_
  refine zg_aload_n hO 1 dL_law_1004 rfl rfl ?_
  refine zg_iload hO 0 dL_law_1005 rfl ?_
  refine zg_iconst hO dL_law_1007 ic3 ?_
  refine zg_iadd hO dL_law_1008 ?_
  refine zl_sld (j := i + 3) hO hB (rI_add i 3).symm (by omega) dL_law_1009 ?_
  refine zw_callTi (na := 3) (As := [.int (xs (i + 1)), .int (xs (i + 2)), .int (xs (i + 3))]) (rest := [.int r]) hO hX (m_part l D dA GM h2) mw_X4_part q2062 ⟨Nat.le_of_ble_eq_true rfl, Nat.le_of_ble_eq_true rfl⟩ ⟨by omega, by omega⟩ rfl rfl (Nat.le_of_ble_eq_true rfl) dL_law_1010 ?_
  refine zt_icmp_eq (tgt := 1469) hO rfl dL_law_1013 (by decide) ?_
  exact zg_wid (by omega) (by omega) (kk tb ad σ1 μ1 f hR1)
theorem law_windows {p : Program} {l : Launch} {e : Env} {s : State} {m : MethodId} {args : Array Value} {below : List Frame} {meth : Method} {c : Code} {D : va_G} {dA : Nat → ClassId} {G GM : Nat → Nat} {A : Nat → Prop} {Q : State → Prop} {b L ou i u v : Nat} {xs : Nat → Int32} {R R1 : XS → MS → Prop} (hO : Ok p s m args meth c cL_law "EndSumsLaw" 8 D dA A) (hX : XK dA G A s) (hl9 : l.stackTraces = false) (hB : SB A s b L xs) (hi : i + 4 ≤ L) (hu : u + 7700 ≤ 1200128 ∧ v + 55500 ≤ 5501098) {tb : Nat} {ad : Nat → Nat} {σ : XS} {μ : MS} {f : Nat → Int64} (hR : R σ μ) (hE : E_windows R R1) (kk : ∀ (tb : Nat) (ad : Nat → Nat) (σ : XS) (μ : MS) (f : Nat → Int64), R1 σ μ → Go p l e (rmG 1626 1200128 5501098) s m args below meth c D A 8 Q (WX dA G tb ad σ ++ [(ou, .inl (dA 1, 1, .inr (.inl f)))] ++ WM dA GM μ) (u + 7700) (v + 55500) 1469 [(4, .int (nI i)), (0, .ref b), (1, .ref (G 0)), (2, .ref (GM 0)), (3, .ref ou)] []) : Go p l e (rmG 1626 1200128 5501098) s m args below meth c D A 8 Q (WX dA G tb ad σ ++ [(ou, .inl (dA 1, 1, .inr (.inl f)))] ++ WM dA GM μ) u v 1018 [(4, .int (nI i)), (0, .ref b), (1, .ref (G 0)), (2, .ref (GM 0)), (3, .ref ou)] [] := by
  obtain ⟨r, σ1, μ1, h1, h2, hR1⟩ := hE σ μ (xs (i + 1)) (xs (i + 2)) hR
  refine zg_aload_n hO 2 dL_law_1018 rfl rfl ?_
  refine zg_aload_n hO 1 dL_law_1019 rfl rfl ?_
  refine zg_iload hO 0 dL_law_1020 rfl ?_
  refine zg_iconst hO dL_law_1022 ic1 ?_
  refine zg_iadd hO dL_law_1023 ?_
  refine zl_sld (j := i + 1) hO hB (rI_add i 1).symm (by omega) dL_law_1024 ?_
  refine zg_aload_n hO 1 dL_law_1025 rfl rfl ?_
  refine zg_iload hO 0 dL_law_1026 rfl ?_
  refine zg_iconst hO dL_law_1028 ic2 ?_
  refine zg_iadd hO dL_law_1029 ?_
  refine zl_sld (j := i + 2) hO hB (rI_add i 2).symm (by omega) dL_law_1030 ?_
  refine zg_ws (List.append_assoc _ _ _) ?_
  refine zx_callViX (na := 2) (W := WX dA G tb ad σ) (As := [.int (xs (i + 1)), .int (xs (i + 2))]) (rest := []) hO hX (m_X_windows l D dA G tb ad h1) mw_X1_windows q1596 ⟨Nat.le_of_ble_eq_true rfl, Nat.le_of_ble_eq_true rfl⟩ ⟨by omega, by omega⟩ rfl rfl (Nat.le_of_ble_eq_true rfl) ⟨0, 1, _, _, rfl, rfl, rfl⟩ dL_law_1031 (fun z => ?_)
  refine zg_ws (List.append_assoc _ _ _).symm ?_
  refine zg_aload_n hO 3 dL_law_1034 rfl rfl ?_
  refine zg_aload_n hO 1 dL_law_1035 rfl rfl ?_
  refine zg_iload hO 0 dL_law_1036 rfl ?_
  refine zg_iconst hO dL_law_1038 ic1 ?_
  refine zg_iadd hO dL_law_1039 ?_
  refine zl_sld (j := i + 1) hO hB (rI_add i 1).symm (by omega) dL_law_1040 ?_
  refine zg_aload_n hO 1 dL_law_1041 rfl rfl ?_
  refine zg_iload hO 0 dL_law_1042 rfl ?_
  refine zg_iconst hO dL_law_1044 ic2 ?_
  refine zg_iadd hO dL_law_1045 ?_
  refine zl_sld (j := i + 2) hO hB (rI_add i 2).symm (by omega) dL_law_1046 ?_
  refine zw_callTi (na := 2) (As := [.int (xs (i + 1)), .int (xs (i + 2))]) (rest := [.int r]) hO hX (m_windows l D dA GM h2) mw_X4_windows q2070 ⟨Nat.le_of_ble_eq_true rfl, Nat.le_of_ble_eq_true rfl⟩ ⟨by omega, by omega⟩ rfl rfl (Nat.le_of_ble_eq_true rfl) dL_law_1047 ?_
  refine zt_icmp_eq (tgt := 1469) hO rfl dL_law_1050 (by decide) ?_
  exact zg_wid (by omega) (by omega) (kk z.2 z.1 σ1 μ1 f hR1)
theorem law_first {p : Program} {l : Launch} {e : Env} {s : State} {m : MethodId} {args : Array Value} {below : List Frame} {meth : Method} {c : Code} {D : va_G} {dA : Nat → ClassId} {G GM : Nat → Nat} {A : Nat → Prop} {Q : State → Prop} {b L ou i u v : Nat} {xs : Nat → Int32} {R R1 : XS → MS → Prop} (hO : Ok p s m args meth c cL_law "EndSumsLaw" 8 D dA A) (hX : XK dA G A s) (hl9 : l.stackTraces = false) (hB : SB A s b L xs) (hi : i + 4 ≤ L) (hu : u + 7700 ≤ 1200128 ∧ v + 55500 ≤ 5501098) {tb : Nat} {ad : Nat → Nat} {σ : XS} {μ : MS} {f : Nat → Int64} (hR : R σ μ) (hE : E_first R R1) (kk : ∀ (tb : Nat) (ad : Nat → Nat) (σ : XS) (μ : MS) (f : Nat → Int64), R1 σ μ → Go p l e (rmG 1626 1200128 5501098) s m args below meth c D A 8 Q (WX dA G tb ad σ ++ [(ou, .inl (dA 1, 1, .inr (.inl f)))] ++ WM dA GM μ) (u + 7700) (v + 55500) 1469 [(4, .int (nI i)), (0, .ref b), (1, .ref (G 0)), (2, .ref (GM 0)), (3, .ref ou)] []) : Go p l e (rmG 1626 1200128 5501098) s m args below meth c D A 8 Q (WX dA G tb ad σ ++ [(ou, .inl (dA 1, 1, .inr (.inl f)))] ++ WM dA GM μ) u v 1055 [(4, .int (nI i)), (0, .ref b), (1, .ref (G 0)), (2, .ref (GM 0)), (3, .ref ou)] [] := by
  obtain ⟨r, σ1, μ1, h1, h2, hR1⟩ := hE σ μ (xs (i + 1)) (xs (i + 2)) hR
  refine zg_aload_n hO 2 dL_law_1055 rfl rfl ?_
  refine zg_aload_n hO 1 dL_law_1056 rfl rfl ?_
  refine zg_iload hO 0 dL_law_1057 rfl ?_
  refine zg_iconst hO dL_law_1059 ic1 ?_
  refine zg_iadd hO dL_law_1060 ?_
  refine zl_sld (j := i + 1) hO hB (rI_add i 1).symm (by omega) dL_law_1061 ?_
  refine zg_aload_n hO 1 dL_law_1062 rfl rfl ?_
  refine zg_iload hO 0 dL_law_1063 rfl ?_
  refine zg_iconst hO dL_law_1065 ic2 ?_
  refine zg_iadd hO dL_law_1066 ?_
  refine zl_sld (j := i + 2) hO hB (rI_add i 2).symm (by omega) dL_law_1067 ?_
  refine zg_ws (List.append_assoc _ _ _) ?_
  refine zx_callViX (na := 2) (W := WX dA G tb ad σ) (As := [.int (xs (i + 1)), .int (xs (i + 2))]) (rest := []) hO hX (m_X_first l D dA G tb ad h1) mw_X1_first q1604 ⟨Nat.le_of_ble_eq_true rfl, Nat.le_of_ble_eq_true rfl⟩ ⟨by omega, by omega⟩ rfl rfl (Nat.le_of_ble_eq_true rfl) ⟨0, 1, _, _, rfl, rfl, rfl⟩ dL_law_1068 (fun _ => ?_)
  refine zg_ws (List.append_assoc _ _ _).symm ?_
  refine zg_aload_n hO 3 dL_law_1071 rfl rfl ?_
  refine zg_aload_n hO 1 dL_law_1072 rfl rfl ?_
  refine zg_iload hO 0 dL_law_1073 rfl ?_
  refine zg_iconst hO dL_law_1075 ic1 ?_
  refine zg_iadd hO dL_law_1076 ?_
  refine zl_sld (j := i + 1) hO hB (rI_add i 1).symm (by omega) dL_law_1077 ?_
  refine zg_aload_n hO 1 dL_law_1078 rfl rfl ?_
  refine zg_iload hO 0 dL_law_1079 rfl ?_
  refine zg_iconst hO dL_law_1081 ic2 ?_
  refine zg_iadd hO dL_law_1082 ?_
  refine zl_sld (j := i + 2) hO hB (rI_add i 2).symm (by omega) dL_law_1083 ?_
  refine zw_callTi (na := 2) (As := [.int (xs (i + 1)), .int (xs (i + 2))]) (rest := [.int r]) hO hX (m_first l D dA GM h2) mw_X4_first q2074 ⟨Nat.le_of_ble_eq_true rfl, Nat.le_of_ble_eq_true rfl⟩ ⟨by omega, by omega⟩ rfl rfl (Nat.le_of_ble_eq_true rfl) dL_law_1084 ?_
  refine zt_icmp_eq (tgt := 1469) hO rfl dL_law_1087 (by decide) ?_
  exact zg_wid (by omega) (by omega) (kk tb ad σ1 μ1 f hR1)
theorem law_longest {p : Program} {l : Launch} {e : Env} {s : State} {m : MethodId} {args : Array Value} {below : List Frame} {meth : Method} {c : Code} {D : va_G} {dA : Nat → ClassId} {G GM : Nat → Nat} {A : Nat → Prop} {Q : State → Prop} {b L ou i u v : Nat} {xs : Nat → Int32} {R R1 : XS → MS → Prop} (hO : Ok p s m args meth c cL_law "EndSumsLaw" 8 D dA A) (hX : XK dA G A s) (hl9 : l.stackTraces = false) (hB : SB A s b L xs) (hi : i + 4 ≤ L) (hu : u + 7700 ≤ 1200128 ∧ v + 55500 ≤ 5501098) {tb : Nat} {ad : Nat → Nat} {σ : XS} {μ : MS} {f : Nat → Int64} (hR : R σ μ) (hE : E_longest R R1) (kk : ∀ (tb : Nat) (ad : Nat → Nat) (σ : XS) (μ : MS) (f : Nat → Int64), R1 σ μ → Go p l e (rmG 1626 1200128 5501098) s m args below meth c D A 8 Q (WX dA G tb ad σ ++ [(ou, .inl (dA 1, 1, .inr (.inl f)))] ++ WM dA GM μ) (u + 7700) (v + 55500) 1469 [(4, .int (nI i)), (0, .ref b), (1, .ref (G 0)), (2, .ref (GM 0)), (3, .ref ou)] []) : Go p l e (rmG 1626 1200128 5501098) s m args below meth c D A 8 Q (WX dA G tb ad σ ++ [(ou, .inl (dA 1, 1, .inr (.inl f)))] ++ WM dA GM μ) u v 1092 [(4, .int (nI i)), (0, .ref b), (1, .ref (G 0)), (2, .ref (GM 0)), (3, .ref ou)] [] := by
  obtain ⟨r, σ1, μ1, h1, h2, hR1⟩ := hE σ μ (xs (i + 1)) (xs (i + 2)) hR
  refine zg_aload_n hO 2 dL_law_1092 rfl rfl ?_
  refine zg_aload_n hO 1 dL_law_1093 rfl rfl ?_
  refine zg_iload hO 0 dL_law_1094 rfl ?_
  refine zg_iconst hO dL_law_1096 ic1 ?_
  refine zg_iadd hO dL_law_1097 ?_
  refine zl_sld (j := i + 1) hO hB (rI_add i 1).symm (by omega) dL_law_1098 ?_
  refine zg_aload_n hO 1 dL_law_1099 rfl rfl ?_
  refine zg_iload hO 0 dL_law_1100 rfl ?_
  refine zg_iconst hO dL_law_1102 ic2 ?_
  refine zg_iadd hO dL_law_1103 ?_
  refine zl_sld (j := i + 2) hO hB (rI_add i 2).symm (by omega) dL_law_1104 ?_
  refine zg_ws (List.append_assoc _ _ _) ?_
  refine zx_callViX (na := 2) (W := WX dA G tb ad σ) (As := [.int (xs (i + 1)), .int (xs (i + 2))]) (rest := []) hO hX (m_X_longest l D dA G tb ad h1) mw_X1_longest q1608 ⟨Nat.le_of_ble_eq_true rfl, Nat.le_of_ble_eq_true rfl⟩ ⟨by omega, by omega⟩ rfl rfl (Nat.le_of_ble_eq_true rfl) ⟨0, 1, _, _, rfl, rfl, rfl⟩ dL_law_1105 (fun _ => ?_)
  refine zg_ws (List.append_assoc _ _ _).symm ?_
  refine zg_aload_n hO 3 dL_law_1108 rfl rfl ?_
  refine zg_aload_n hO 1 dL_law_1109 rfl rfl ?_
  refine zg_iload hO 0 dL_law_1110 rfl ?_
  refine zg_iconst hO dL_law_1112 ic1 ?_
  refine zg_iadd hO dL_law_1113 ?_
  refine zl_sld (j := i + 1) hO hB (rI_add i 1).symm (by omega) dL_law_1114 ?_
  refine zg_aload_n hO 1 dL_law_1115 rfl rfl ?_
  refine zg_iload hO 0 dL_law_1116 rfl ?_
  refine zg_iconst hO dL_law_1118 ic2 ?_
  refine zg_iadd hO dL_law_1119 ?_
  refine zl_sld (j := i + 2) hO hB (rI_add i 2).symm (by omega) dL_law_1120 ?_
  refine zw_callTi (na := 2) (As := [.int (xs (i + 1)), .int (xs (i + 2))]) (rest := [.int r]) hO hX (m_longest l D dA GM h2) mw_X4_longest q2078 ⟨Nat.le_of_ble_eq_true rfl, Nat.le_of_ble_eq_true rfl⟩ ⟨by omega, by omega⟩ rfl rfl (Nat.le_of_ble_eq_true rfl) dL_law_1121 ?_
  refine zt_icmp_eq (tgt := 1469) hO rfl dL_law_1124 (by decide) ?_
  exact zg_wid (by omega) (by omega) (kk tb ad σ1 μ1 f hR1)
theorem law_greatest {p : Program} {l : Launch} {e : Env} {s : State} {m : MethodId} {args : Array Value} {below : List Frame} {meth : Method} {c : Code} {D : va_G} {dA : Nat → ClassId} {G GM : Nat → Nat} {A : Nat → Prop} {Q : State → Prop} {b L ou i u v : Nat} {xs : Nat → Int32} {R R1 : XS → MS → Prop} (hO : Ok p s m args meth c cL_law "EndSumsLaw" 8 D dA A) (hX : XK dA G A s) (hl9 : l.stackTraces = false) (hB : SB A s b L xs) (hi : i + 4 ≤ L) (hu : u + 7700 ≤ 1200128 ∧ v + 55500 ≤ 5501098) {tb : Nat} {ad : Nat → Nat} {σ : XS} {μ : MS} {f : Nat → Int64} (hR : R σ μ) (hE : E_greatest R R1) (kk : ∀ (tb : Nat) (ad : Nat → Nat) (σ : XS) (μ : MS) (f : Nat → Int64), R1 σ μ → Go p l e (rmG 1626 1200128 5501098) s m args below meth c D A 8 Q (WX dA G tb ad σ ++ [(ou, .inl (dA 1, 1, .inr (.inl f)))] ++ WM dA GM μ) (u + 7700) (v + 55500) 1469 [(4, .int (nI i)), (0, .ref b), (1, .ref (G 0)), (2, .ref (GM 0)), (3, .ref ou)] []) : Go p l e (rmG 1626 1200128 5501098) s m args below meth c D A 8 Q (WX dA G tb ad σ ++ [(ou, .inl (dA 1, 1, .inr (.inl f)))] ++ WM dA GM μ) u v 1129 [(4, .int (nI i)), (0, .ref b), (1, .ref (G 0)), (2, .ref (GM 0)), (3, .ref ou)] [] := by
  obtain ⟨r, σ1, μ1, h1, h2, hR1⟩ := hE σ μ (xs (i + 1)) (xs (i + 2)) hR
  refine zg_aload_n hO 2 dL_law_1129 rfl rfl ?_
  refine zg_aload_n hO 1 dL_law_1130 rfl rfl ?_
  refine zg_iload hO 0 dL_law_1131 rfl ?_
  refine zg_iconst hO dL_law_1133 ic1 ?_
  refine zg_iadd hO dL_law_1134 ?_
  refine zl_sld (j := i + 1) hO hB (rI_add i 1).symm (by omega) dL_law_1135 ?_
  refine zg_aload_n hO 1 dL_law_1136 rfl rfl ?_
  refine zg_iload hO 0 dL_law_1137 rfl ?_
  refine zg_iconst hO dL_law_1139 ic2 ?_
  refine zg_iadd hO dL_law_1140 ?_
  refine zl_sld (j := i + 2) hO hB (rI_add i 2).symm (by omega) dL_law_1141 ?_
  refine zg_ws (List.append_assoc _ _ _) ?_
  refine zx_callViX (na := 2) (W := WX dA G tb ad σ) (As := [.int (xs (i + 1)), .int (xs (i + 2))]) (rest := []) hO hX (m_X_greatest l D dA G tb ad h1) mw_X1_greatest q1612 ⟨Nat.le_of_ble_eq_true rfl, Nat.le_of_ble_eq_true rfl⟩ ⟨by omega, by omega⟩ rfl rfl (Nat.le_of_ble_eq_true rfl) ⟨0, 1, _, _, rfl, rfl, rfl⟩ dL_law_1142 (fun _ => ?_)
  refine zg_ws (List.append_assoc _ _ _).symm ?_
  refine zg_aload_n hO 3 dL_law_1145 rfl rfl ?_
  refine zg_aload_n hO 1 dL_law_1146 rfl rfl ?_
  refine zg_iload hO 0 dL_law_1147 rfl ?_
  refine zg_iconst hO dL_law_1149 ic1 ?_
  refine zg_iadd hO dL_law_1150 ?_
  refine zl_sld (j := i + 1) hO hB (rI_add i 1).symm (by omega) dL_law_1151 ?_
  refine zg_aload_n hO 1 dL_law_1152 rfl rfl ?_
  refine zg_iload hO 0 dL_law_1153 rfl ?_
  refine zg_iconst hO dL_law_1155 ic2 ?_
  refine zg_iadd hO dL_law_1156 ?_
  refine zl_sld (j := i + 2) hO hB (rI_add i 2).symm (by omega) dL_law_1157 ?_
  refine zw_callTi (na := 2) (As := [.int (xs (i + 1)), .int (xs (i + 2))]) (rest := [.int r]) hO hX (m_greatest l D dA GM h2) mw_X4_greatest q2082 ⟨Nat.le_of_ble_eq_true rfl, Nat.le_of_ble_eq_true rfl⟩ ⟨by omega, by omega⟩ rfl rfl (Nat.le_of_ble_eq_true rfl) dL_law_1158 ?_
  refine zt_icmp_eq (tgt := 1469) hO rfl dL_law_1161 (by decide) ?_
  exact zg_wid (by omega) (by omega) (kk tb ad σ1 μ1 f hR1)
theorem law_finds {p : Program} {l : Launch} {e : Env} {s : State} {m : MethodId} {args : Array Value} {below : List Frame} {meth : Method} {c : Code} {D : va_G} {dA : Nat → ClassId} {G GM : Nat → Nat} {A : Nat → Prop} {Q : State → Prop} {b L ou i u v : Nat} {xs : Nat → Int32} {R R1 : XS → MS → Prop} (hO : Ok p s m args meth c cL_law "EndSumsLaw" 8 D dA A) (hX : XK dA G A s) (hl9 : l.stackTraces = false) (hB : SB A s b L xs) (hi : i + 4 ≤ L) (hu : u + 7700 ≤ 1200128 ∧ v + 55500 ≤ 5501098) {tb : Nat} {ad : Nat → Nat} {σ : XS} {μ : MS} {f : Nat → Int64} (hR : R σ μ) (hE : E_finds R R1) (kk : ∀ (tb : Nat) (ad : Nat → Nat) (σ : XS) (μ : MS) (f : Nat → Int64), R1 σ μ → Go p l e (rmG 1626 1200128 5501098) s m args below meth c D A 8 Q (WX dA G tb ad σ ++ [(ou, .inl (dA 1, 1, .inr (.inl f)))] ++ WM dA GM μ) (u + 7700) (v + 55500) 1469 [(4, .int (nI i)), (0, .ref b), (1, .ref (G 0)), (2, .ref (GM 0)), (3, .ref ou)] []) : Go p l e (rmG 1626 1200128 5501098) s m args below meth c D A 8 Q (WX dA G tb ad σ ++ [(ou, .inl (dA 1, 1, .inr (.inl f)))] ++ WM dA GM μ) u v 1166 [(4, .int (nI i)), (0, .ref b), (1, .ref (G 0)), (2, .ref (GM 0)), (3, .ref ou)] [] := by
  obtain ⟨r, σ1, μ1, h1, h2, hR1⟩ := hE σ μ (xs (i + 1)) (xs (i + 2)) (xs (i + 3)) hR
  refine zg_aload_n hO 2 dL_law_1166 rfl rfl ?_
  refine zg_aload_n hO 1 dL_law_1167 rfl rfl ?_
  refine zg_iload hO 0 dL_law_1168 rfl ?_
  refine zg_iconst hO dL_law_1170 ic1 ?_
  refine zg_iadd hO dL_law_1171 ?_
  refine zl_sld (j := i + 1) hO hB (rI_add i 1).symm (by omega) dL_law_1172 ?_
  refine zg_aload_n hO 1 dL_law_1173 rfl rfl ?_
  refine zg_iload hO 0 dL_law_1174 rfl ?_
  refine zg_iconst hO dL_law_1176 ic2 ?_
  refine zg_iadd hO dL_law_1177 ?_
  refine zl_sld (j := i + 2) hO hB (rI_add i 2).symm (by omega) dL_law_1178 ?_
  refine zg_aload_n hO 1 dL_law_1179 rfl rfl ?_
  refine zg_iload hO 0 dL_law_1180 rfl ?_
  refine zg_iconst hO dL_law_1182 ic3 ?_
  refine zg_iadd hO dL_law_1183 ?_
  refine zl_sld (j := i + 3) hO hB (rI_add i 3).symm (by omega) dL_law_1184 ?_
  refine zg_ws (List.append_assoc _ _ _) ?_
  refine zx_callViX (na := 3) (W := WX dA G tb ad σ) (As := [.int (xs (i + 1)), .int (xs (i + 2)), .int (xs (i + 3))]) (rest := []) hO hX (m_X_finds l D dA G tb ad h1) mw_X1_finds q1616 ⟨Nat.le_of_ble_eq_true rfl, Nat.le_of_ble_eq_true rfl⟩ ⟨by omega, by omega⟩ rfl rfl (Nat.le_of_ble_eq_true rfl) ⟨0, 1, _, _, rfl, rfl, rfl⟩ dL_law_1185 (fun _ => ?_)
  refine zg_ws (List.append_assoc _ _ _).symm ?_
  refine zg_aload_n hO 3 dL_law_1188 rfl rfl ?_
  refine zg_aload_n hO 1 dL_law_1189 rfl rfl ?_
  refine zg_iload hO 0 dL_law_1190 rfl ?_
  refine zg_iconst hO dL_law_1192 ic1 ?_
  refine zg_iadd hO dL_law_1193 ?_
  refine zl_sld (j := i + 1) hO hB (rI_add i 1).symm (by omega) dL_law_1194 ?_
  refine zg_aload_n hO 1 dL_law_1195 rfl rfl ?_
  refine zg_iload hO 0 dL_law_1196 rfl ?_
  refine zg_iconst hO dL_law_1198 ic2 ?_
  refine zg_iadd hO dL_law_1199 ?_
  refine zl_sld (j := i + 2) hO hB (rI_add i 2).symm (by omega) dL_law_1200 ?_
  refine zg_aload_n hO 1 dL_law_1201 rfl rfl ?_
  refine zg_iload hO 0 dL_law_1202 rfl ?_
  refine zg_iconst hO dL_law_1204 ic3 ?_
  refine zg_iadd hO dL_law_1205 ?_
  refine zl_sld (j := i + 3) hO hB (rI_add i 3).symm (by omega) dL_law_1206 ?_
  refine zw_callTi (na := 3) (As := [.int (xs (i + 1)), .int (xs (i + 2)), .int (xs (i + 3))]) (rest := [.int r]) hO hX (m_finds l D dA GM h2) mw_X4_finds q2086 ⟨Nat.le_of_ble_eq_true rfl, Nat.le_of_ble_eq_true rfl⟩ ⟨by omega, by omega⟩ rfl rfl (Nat.le_of_ble_eq_true rfl) dL_law_1207 ?_
  refine zt_icmp_eq (tgt := 1469) hO rfl dL_law_1210 (by decide) ?_
  exact zg_wid (by omega) (by omega) (kk tb ad σ1 μ1 f hR1)
theorem law_drains {p : Program} {l : Launch} {e : Env} {s : State} {m : MethodId} {args : Array Value} {below : List Frame} {meth : Method} {c : Code} {D : va_G} {dA : Nat → ClassId} {G GM : Nat → Nat} {A : Nat → Prop} {Q : State → Prop} {b L ou i u v : Nat} {xs : Nat → Int32} {R R1 : XS → MS → Prop} (hO : Ok p s m args meth c cL_law "EndSumsLaw" 8 D dA A) (hX : XK dA G A s) (hl9 : l.stackTraces = false) (hB : SB A s b L xs) (hi : i + 4 ≤ L) (hu : u + 7700 ≤ 1200128 ∧ v + 55500 ≤ 5501098) {tb : Nat} {ad : Nat → Nat} {σ : XS} {μ : MS} {f : Nat → Int64} (hR : R σ μ) (hE : E_drains R R1) (kk : ∀ (tb : Nat) (ad : Nat → Nat) (σ : XS) (μ : MS) (f : Nat → Int64), R1 σ μ → Go p l e (rmG 1626 1200128 5501098) s m args below meth c D A 8 Q (WX dA G tb ad σ ++ [(ou, .inl (dA 1, 1, .inr (.inl f)))] ++ WM dA GM μ) (u + 7700) (v + 55500) 1469 [(4, .int (nI i)), (0, .ref b), (1, .ref (G 0)), (2, .ref (GM 0)), (3, .ref ou)] []) : Go p l e (rmG 1626 1200128 5501098) s m args below meth c D A 8 Q (WX dA G tb ad σ ++ [(ou, .inl (dA 1, 1, .inr (.inl f)))] ++ WM dA GM μ) u v 1215 [(4, .int (nI i)), (0, .ref b), (1, .ref (G 0)), (2, .ref (GM 0)), (3, .ref ou)] [] := by
  obtain ⟨r, σ1, μ1, h1, h2, hR1⟩ := hE σ μ (xs (i + 1)) hR
  refine zg_aload_n hO 2 dL_law_1215 rfl rfl ?_
  refine zg_aload_n hO 1 dL_law_1216 rfl rfl ?_
  refine zg_iload hO 0 dL_law_1217 rfl ?_
  refine zg_iconst hO dL_law_1219 ic1 ?_
  refine zg_iadd hO dL_law_1220 ?_
  refine zl_sld (j := i + 1) hO hB (rI_add i 1).symm (by omega) dL_law_1221 ?_
  refine zg_ws (List.append_assoc _ _ _) ?_
  refine zx_callViX (na := 1) (W := WX dA G tb ad σ) (As := [.int (xs (i + 1))]) (rest := []) hO hX (m_X_drains l D dA G tb ad h1) mw_X1_drains q1620 ⟨Nat.le_of_ble_eq_true rfl, Nat.le_of_ble_eq_true rfl⟩ ⟨by omega, by omega⟩ rfl rfl (Nat.le_of_ble_eq_true rfl) ⟨0, 1, _, _, rfl, rfl, rfl⟩ dL_law_1222 (fun _ => ?_)
  refine zg_ws (List.append_assoc _ _ _).symm ?_
  refine zg_aload_n hO 3 dL_law_1225 rfl rfl ?_
  refine zg_aload_n hO 1 dL_law_1226 rfl rfl ?_
  refine zg_iload hO 0 dL_law_1227 rfl ?_
  refine zg_iconst hO dL_law_1229 ic1 ?_
  refine zg_iadd hO dL_law_1230 ?_
  refine zl_sld (j := i + 1) hO hB (rI_add i 1).symm (by omega) dL_law_1231 ?_
  refine zw_callTi (na := 1) (As := [.int (xs (i + 1))]) (rest := [.int r]) hO hX (m_drains l D dA GM h2) mw_X4_drains q2090 ⟨Nat.le_of_ble_eq_true rfl, Nat.le_of_ble_eq_true rfl⟩ ⟨by omega, by omega⟩ rfl rfl (Nat.le_of_ble_eq_true rfl) dL_law_1232 ?_
  refine zt_icmp_eq (tgt := 1469) hO rfl dL_law_1235 (by decide) ?_
  exact zg_wid (by omega) (by omega) (kk tb ad σ1 μ1 f hR1)
theorem law_unlike {p : Program} {l : Launch} {e : Env} {s : State} {m : MethodId} {args : Array Value} {below : List Frame} {meth : Method} {c : Code} {D : va_G} {dA : Nat → ClassId} {G GM : Nat → Nat} {A : Nat → Prop} {Q : State → Prop} {b L ou i u v : Nat} {xs : Nat → Int32} {R R1 : XS → MS → Prop} (hO : Ok p s m args meth c cL_law "EndSumsLaw" 8 D dA A) (hX : XK dA G A s) (hl9 : l.stackTraces = false) (hB : SB A s b L xs) (hi : i + 4 ≤ L) (hu : u + 7700 ≤ 1200128 ∧ v + 55500 ≤ 5501098) {tb : Nat} {ad : Nat → Nat} {σ : XS} {μ : MS} {f : Nat → Int64} (hR : R σ μ) (hE : E_unlike R R1) (kk : ∀ (tb : Nat) (ad : Nat → Nat) (σ : XS) (μ : MS) (f : Nat → Int64), R1 σ μ → Go p l e (rmG 1626 1200128 5501098) s m args below meth c D A 8 Q (WX dA G tb ad σ ++ [(ou, .inl (dA 1, 1, .inr (.inl f)))] ++ WM dA GM μ) (u + 7700) (v + 55500) 1469 [(4, .int (nI i)), (0, .ref b), (1, .ref (G 0)), (2, .ref (GM 0)), (3, .ref ou)] []) : Go p l e (rmG 1626 1200128 5501098) s m args below meth c D A 8 Q (WX dA G tb ad σ ++ [(ou, .inl (dA 1, 1, .inr (.inl f)))] ++ WM dA GM μ) u v 1240 [(4, .int (nI i)), (0, .ref b), (1, .ref (G 0)), (2, .ref (GM 0)), (3, .ref ou)] [] := by
  obtain ⟨r, σ1, μ1, h1, h2, hR1⟩ := hE σ μ (xs (i + 1)) hR
  refine zg_aload_n hO 2 dL_law_1240 rfl rfl ?_
  refine zg_aload_n hO 1 dL_law_1241 rfl rfl ?_
  refine zg_iload hO 0 dL_law_1242 rfl ?_
  refine zg_iconst hO dL_law_1244 ic1 ?_
  refine zg_iadd hO dL_law_1245 ?_
  refine zl_sld (j := i + 1) hO hB (rI_add i 1).symm (by omega) dL_law_1246 ?_
  refine zg_ws (List.append_assoc _ _ _) ?_
  refine zx_callViX (na := 1) (W := WX dA G tb ad σ) (As := [.int (xs (i + 1))]) (rest := []) hO hX (m_X_unlike l D dA G tb ad h1) mw_X1_unlike q1629 ⟨Nat.le_of_ble_eq_true rfl, Nat.le_of_ble_eq_true rfl⟩ ⟨by omega, by omega⟩ rfl rfl (Nat.le_of_ble_eq_true rfl) ⟨0, 1, _, _, rfl, rfl, rfl⟩ dL_law_1247 (fun _ => ?_)
  refine zg_ws (List.append_assoc _ _ _).symm ?_
  refine zg_aload_n hO 3 dL_law_1250 rfl rfl ?_
  refine zg_aload_n hO 1 dL_law_1251 rfl rfl ?_
  refine zg_iload hO 0 dL_law_1252 rfl ?_
  refine zg_iconst hO dL_law_1254 ic1 ?_
  refine zg_iadd hO dL_law_1255 ?_
  refine zl_sld (j := i + 1) hO hB (rI_add i 1).symm (by omega) dL_law_1256 ?_
  refine zw_callTi (na := 1) (As := [.int (xs (i + 1))]) (rest := [.int r]) hO hX (m_unlike l D dA GM h2) mw_X4_unlike q2116 ⟨Nat.le_of_ble_eq_true rfl, Nat.le_of_ble_eq_true rfl⟩ ⟨by omega, by omega⟩ rfl rfl (Nat.le_of_ble_eq_true rfl) dL_law_1257 ?_
  refine zt_icmp_eq (tgt := 1469) hO rfl dL_law_1260 (by decide) ?_
  exact zg_wid (by omega) (by omega) (kk tb ad σ1 μ1 f hR1)
theorem law_same {p : Program} {l : Launch} {e : Env} {s : State} {m : MethodId} {args : Array Value} {below : List Frame} {meth : Method} {c : Code} {D : va_G} {dA : Nat → ClassId} {G GM : Nat → Nat} {A : Nat → Prop} {Q : State → Prop} {b L ou i u v : Nat} {xs : Nat → Int32} {R R1 : XS → MS → Prop} (hO : Ok p s m args meth c cL_law "EndSumsLaw" 8 D dA A) (hX : XK dA G A s) (hl9 : l.stackTraces = false) (hB : SB A s b L xs) (hi : i + 4 ≤ L) (hu : u + 7700 ≤ 1200128 ∧ v + 55500 ≤ 5501098) {tb : Nat} {ad : Nat → Nat} {σ : XS} {μ : MS} {f : Nat → Int64} (hR : R σ μ) (hE : E_same R R1) (kk : ∀ (tb : Nat) (ad : Nat → Nat) (σ : XS) (μ : MS) (f : Nat → Int64), R1 σ μ → Go p l e (rmG 1626 1200128 5501098) s m args below meth c D A 8 Q (WX dA G tb ad σ ++ [(ou, .inl (dA 1, 1, .inr (.inl f)))] ++ WM dA GM μ) (u + 7700) (v + 55500) 1469 [(4, .int (nI i)), (0, .ref b), (1, .ref (G 0)), (2, .ref (GM 0)), (3, .ref ou)] []) : Go p l e (rmG 1626 1200128 5501098) s m args below meth c D A 8 Q (WX dA G tb ad σ ++ [(ou, .inl (dA 1, 1, .inr (.inl f)))] ++ WM dA GM μ) u v 1265 [(4, .int (nI i)), (0, .ref b), (1, .ref (G 0)), (2, .ref (GM 0)), (3, .ref ou)] [] := by
  obtain ⟨r, σ1, μ1, h1, h2, hR1⟩ := hE σ μ (xs (i + 1)) (xs (i + 2)) hR
  refine zg_aload_n hO 2 dL_law_1265 rfl rfl ?_
  refine zg_aload_n hO 1 dL_law_1266 rfl rfl ?_
  refine zg_iload hO 0 dL_law_1267 rfl ?_
  refine zg_iconst hO dL_law_1269 ic1 ?_
  refine zg_iadd hO dL_law_1270 ?_
  refine zl_sld (j := i + 1) hO hB (rI_add i 1).symm (by omega) dL_law_1271 ?_
  refine zg_aload_n hO 1 dL_law_1272 rfl rfl ?_
  refine zg_iload hO 0 dL_law_1273 rfl ?_
  refine zg_iconst hO dL_law_1275 ic2 ?_
  refine zg_iadd hO dL_law_1276 ?_
  refine zl_sld (j := i + 2) hO hB (rI_add i 2).symm (by omega) dL_law_1277 ?_
  refine zg_ws (List.append_assoc _ _ _) ?_
  refine zx_callViX (na := 2) (W := WX dA G tb ad σ) (As := [.int (xs (i + 1)), .int (xs (i + 2))]) (rest := []) hO hX (m_X_same l D dA G tb ad h1) mw_X1_same q1633 ⟨Nat.le_of_ble_eq_true rfl, Nat.le_of_ble_eq_true rfl⟩ ⟨by omega, by omega⟩ rfl rfl (Nat.le_of_ble_eq_true rfl) ⟨0, 1, _, _, rfl, rfl, rfl⟩ dL_law_1278 (fun _ => ?_)
  refine zg_ws (List.append_assoc _ _ _).symm ?_
  refine zg_aload_n hO 3 dL_law_1281 rfl rfl ?_
  refine zg_aload_n hO 1 dL_law_1282 rfl rfl ?_
  refine zg_iload hO 0 dL_law_1283 rfl ?_
  refine zg_iconst hO dL_law_1285 ic1 ?_
  refine zg_iadd hO dL_law_1286 ?_
  refine zl_sld (j := i + 1) hO hB (rI_add i 1).symm (by omega) dL_law_1287 ?_
  refine zg_aload_n hO 1 dL_law_1288 rfl rfl ?_
  refine zg_iload hO 0 dL_law_1289 rfl ?_
  refine zg_iconst hO dL_law_1291 ic2 ?_
  refine zg_iadd hO dL_law_1292 ?_
  refine zl_sld (j := i + 2) hO hB (rI_add i 2).symm (by omega) dL_law_1293 ?_
  refine zw_callTi (na := 2) (As := [.int (xs (i + 1)), .int (xs (i + 2))]) (rest := [.int r]) hO hX (m_same l D dA GM h2) mw_X4_same q2121 ⟨Nat.le_of_ble_eq_true rfl, Nat.le_of_ble_eq_true rfl⟩ ⟨by omega, by omega⟩ rfl rfl (Nat.le_of_ble_eq_true rfl) dL_law_1294 ?_
  refine zt_icmp_eq (tgt := 1469) hO rfl dL_law_1297 (by decide) ?_
  exact zg_wid (by omega) (by omega) (kk tb ad σ1 μ1 f hR1)
theorem law_shared {p : Program} {l : Launch} {e : Env} {s : State} {m : MethodId} {args : Array Value} {below : List Frame} {meth : Method} {c : Code} {D : va_G} {dA : Nat → ClassId} {G GM : Nat → Nat} {A : Nat → Prop} {Q : State → Prop} {b L ou i u v : Nat} {xs : Nat → Int32} {R R1 : XS → MS → Prop} (hO : Ok p s m args meth c cL_law "EndSumsLaw" 8 D dA A) (hX : XK dA G A s) (hl9 : l.stackTraces = false) (hB : SB A s b L xs) (hi : i + 4 ≤ L) (hu : u + 7700 ≤ 1200128 ∧ v + 55500 ≤ 5501098) {tb : Nat} {ad : Nat → Nat} {σ : XS} {μ : MS} {f : Nat → Int64} (hR : R σ μ) (hE : E_shared R R1) (kk : ∀ (tb : Nat) (ad : Nat → Nat) (σ : XS) (μ : MS) (f : Nat → Int64), R1 σ μ → Go p l e (rmG 1626 1200128 5501098) s m args below meth c D A 8 Q (WX dA G tb ad σ ++ [(ou, .inl (dA 1, 1, .inr (.inl f)))] ++ WM dA GM μ) (u + 7700) (v + 55500) 1469 [(4, .int (nI i)), (0, .ref b), (1, .ref (G 0)), (2, .ref (GM 0)), (3, .ref ou)] []) : Go p l e (rmG 1626 1200128 5501098) s m args below meth c D A 8 Q (WX dA G tb ad σ ++ [(ou, .inl (dA 1, 1, .inr (.inl f)))] ++ WM dA GM μ) u v 1302 [(4, .int (nI i)), (0, .ref b), (1, .ref (G 0)), (2, .ref (GM 0)), (3, .ref ou)] [] := by
  obtain ⟨r, σ1, μ1, h1, h2, hR1⟩ := hE σ μ hR
  refine zg_aload_n hO 2 dL_law_1302 rfl rfl ?_
  refine zg_ws (List.append_assoc _ _ _) ?_
  refine zx_callViX (na := 0) (W := WX dA G tb ad σ) (As := []) (rest := []) hO hX (m_X_shared l D dA G tb ad h1) mw_X1_shared q1651 ⟨Nat.le_of_ble_eq_true rfl, Nat.le_of_ble_eq_true rfl⟩ ⟨by omega, by omega⟩ rfl rfl (Nat.le_of_ble_eq_true rfl) ⟨0, 1, _, _, rfl, rfl, rfl⟩ dL_law_1303 (fun _ => ?_)
  refine zg_ws (List.append_assoc _ _ _).symm ?_
  refine zg_aload_n hO 3 dL_law_1306 rfl rfl ?_
  refine zw_callTi (na := 0) (As := []) (rest := [.int r]) hO hX (m_shared l D dA GM h2) mw_X4_shared q2129 ⟨Nat.le_of_ble_eq_true rfl, Nat.le_of_ble_eq_true rfl⟩ ⟨by omega, by omega⟩ rfl rfl (Nat.le_of_ble_eq_true rfl) dL_law_1307 ?_
  refine zt_icmp_eq (tgt := 1469) hO rfl dL_law_1310 (by decide) ?_
  exact zg_wid (by omega) (by omega) (kk tb ad σ1 μ1 f hR1)
theorem law_would {p : Program} {l : Launch} {e : Env} {s : State} {m : MethodId} {args : Array Value} {below : List Frame} {meth : Method} {c : Code} {D : va_G} {dA : Nat → ClassId} {G GM : Nat → Nat} {A : Nat → Prop} {Q : State → Prop} {b L ou i u v : Nat} {xs : Nat → Int32} {R R1 : XS → MS → Prop} (hO : Ok p s m args meth c cL_law "EndSumsLaw" 8 D dA A) (hX : XK dA G A s) (hl9 : l.stackTraces = false) (hB : SB A s b L xs) (hi : i + 4 ≤ L) (hu : u + 7700 ≤ 1200128 ∧ v + 55500 ≤ 5501098) {tb : Nat} {ad : Nat → Nat} {σ : XS} {μ : MS} {f : Nat → Int64} (hR : R σ μ) (hE : E_would R R1) (kk : ∀ (tb : Nat) (ad : Nat → Nat) (σ : XS) (μ : MS) (f : Nat → Int64), R1 σ μ → Go p l e (rmG 1626 1200128 5501098) s m args below meth c D A 8 Q (WX dA G tb ad σ ++ [(ou, .inl (dA 1, 1, .inr (.inl f)))] ++ WM dA GM μ) (u + 7700) (v + 55500) 1469 [(4, .int (nI i)), (0, .ref b), (1, .ref (G 0)), (2, .ref (GM 0)), (3, .ref ou)] []) : Go p l e (rmG 1626 1200128 5501098) s m args below meth c D A 8 Q (WX dA G tb ad σ ++ [(ou, .inl (dA 1, 1, .inr (.inl f)))] ++ WM dA GM μ) u v 1315 [(4, .int (nI i)), (0, .ref b), (1, .ref (G 0)), (2, .ref (GM 0)), (3, .ref ou)] [] := by
  obtain ⟨r, σ1, μ1, h1, h2, hR1⟩ := hE σ μ (xs (i + 1)) (xs (i + 2)) hR
  refine zg_aload_n hO 2 dL_law_1315 rfl rfl ?_
  refine zg_aload_n hO 1 dL_law_1316 rfl rfl ?_
  refine zg_iload hO 0 dL_law_1317 rfl ?_
  refine zg_iconst hO dL_law_1319 ic1 ?_
  refine zg_iadd hO dL_law_1320 ?_
  refine zl_sld (j := i + 1) hO hB (rI_add i 1).symm (by omega) dL_law_1321 ?_
  refine zg_aload_n hO 1 dL_law_1322 rfl rfl ?_
  refine zg_iload hO 0 dL_law_1323 rfl ?_
  refine zg_iconst hO dL_law_1325 ic2 ?_
  refine zg_iadd hO dL_law_1326 ?_
  refine zl_sld (j := i + 2) hO hB (rI_add i 2).symm (by omega) dL_law_1327 ?_
  refine zg_ws (List.append_assoc _ _ _) ?_
  refine zx_callViX (na := 2) (W := WX dA G tb ad σ) (As := [.int (xs (i + 1)), .int (xs (i + 2))]) (rest := []) hO hX (m_X_would l D dA G tb ad h1) mw_X1_would q1656 ⟨Nat.le_of_ble_eq_true rfl, Nat.le_of_ble_eq_true rfl⟩ ⟨by omega, by omega⟩ rfl rfl (Nat.le_of_ble_eq_true rfl) ⟨0, 1, _, _, rfl, rfl, rfl⟩ dL_law_1328 (fun _ => ?_)
  refine zg_ws (List.append_assoc _ _ _).symm ?_
  refine zg_aload_n hO 3 dL_law_1331 rfl rfl ?_
  refine zg_aload_n hO 1 dL_law_1332 rfl rfl ?_
  refine zg_iload hO 0 dL_law_1333 rfl ?_
  refine zg_iconst hO dL_law_1335 ic1 ?_
  refine zg_iadd hO dL_law_1336 ?_
  refine zl_sld (j := i + 1) hO hB (rI_add i 1).symm (by omega) dL_law_1337 ?_
  refine zg_aload_n hO 1 dL_law_1338 rfl rfl ?_
  refine zg_iload hO 0 dL_law_1339 rfl ?_
  refine zg_iconst hO dL_law_1341 ic2 ?_
  refine zg_iadd hO dL_law_1342 ?_
  refine zl_sld (j := i + 2) hO hB (rI_add i 2).symm (by omega) dL_law_1343 ?_
  refine zw_callTi (na := 2) (As := [.int (xs (i + 1)), .int (xs (i + 2))]) (rest := [.int r]) hO hX (m_would l D dA GM h2) mw_X4_would q2107 ⟨Nat.le_of_ble_eq_true rfl, Nat.le_of_ble_eq_true rfl⟩ ⟨by omega, by omega⟩ rfl rfl (Nat.le_of_ble_eq_true rfl) dL_law_1344 ?_
  refine zt_icmp_eq (tgt := 1469) hO rfl dL_law_1347 (by decide) ?_
  exact zg_wid (by omega) (by omega) (kk tb ad σ1 μ1 f hR1)
theorem law_dearest {p : Program} {l : Launch} {e : Env} {s : State} {m : MethodId} {args : Array Value} {below : List Frame} {meth : Method} {c : Code} {D : va_G} {dA : Nat → ClassId} {G GM : Nat → Nat} {A : Nat → Prop} {Q : State → Prop} {b L ou i u v : Nat} {xs : Nat → Int32} {R R1 : XS → MS → Prop} (hO : Ok p s m args meth c cL_law "EndSumsLaw" 8 D dA A) (hX : XK dA G A s) (hl9 : l.stackTraces = false) (hB : SB A s b L xs) (hi : i + 4 ≤ L) (hu : u + 7700 ≤ 1200128 ∧ v + 55500 ≤ 5501098) {tb : Nat} {ad : Nat → Nat} {σ : XS} {μ : MS} {f : Nat → Int64} (hR : R σ μ) (hE : E_dearest R R1) (kk : ∀ (tb : Nat) (ad : Nat → Nat) (σ : XS) (μ : MS) (f : Nat → Int64), R1 σ μ → Go p l e (rmG 1626 1200128 5501098) s m args below meth c D A 8 Q (WX dA G tb ad σ ++ [(ou, .inl (dA 1, 1, .inr (.inl f)))] ++ WM dA GM μ) (u + 7700) (v + 55500) 1469 [(4, .int (nI i)), (0, .ref b), (1, .ref (G 0)), (2, .ref (GM 0)), (3, .ref ou)] []) : Go p l e (rmG 1626 1200128 5501098) s m args below meth c D A 8 Q (WX dA G tb ad σ ++ [(ou, .inl (dA 1, 1, .inr (.inl f)))] ++ WM dA GM μ) u v 1352 [(4, .int (nI i)), (0, .ref b), (1, .ref (G 0)), (2, .ref (GM 0)), (3, .ref ou)] [] := by
  obtain ⟨r, σ1, μ1, h1, h2, hR1⟩ := hE σ μ (xs (i + 1)) (xs (i + 2)) hR
  refine zg_aload_n hO 2 dL_law_1352 rfl rfl ?_
  refine zg_aload_n hO 1 dL_law_1353 rfl rfl ?_
  refine zg_iload hO 0 dL_law_1354 rfl ?_
  refine zg_iconst hO dL_law_1356 ic1 ?_
  refine zg_iadd hO dL_law_1357 ?_
  refine zl_sld (j := i + 1) hO hB (rI_add i 1).symm (by omega) dL_law_1358 ?_
  refine zg_aload_n hO 1 dL_law_1359 rfl rfl ?_
  refine zg_iload hO 0 dL_law_1360 rfl ?_
  refine zg_iconst hO dL_law_1362 ic2 ?_
  refine zg_iadd hO dL_law_1363 ?_
  refine zl_sld (j := i + 2) hO hB (rI_add i 2).symm (by omega) dL_law_1364 ?_
  refine zg_ws (List.append_assoc _ _ _) ?_
  refine zx_callViX (na := 2) (W := WX dA G tb ad σ) (As := [.int (xs (i + 1)), .int (xs (i + 2))]) (rest := []) hO hX (m_X_dearest l D dA G tb ad h1) mw_X1_dearest q1660 ⟨Nat.le_of_ble_eq_true rfl, Nat.le_of_ble_eq_true rfl⟩ ⟨by omega, by omega⟩ rfl rfl (Nat.le_of_ble_eq_true rfl) ⟨0, 1, _, _, rfl, rfl, rfl⟩ dL_law_1365 (fun _ => ?_)
  refine zg_ws (List.append_assoc _ _ _).symm ?_
  refine zg_aload_n hO 3 dL_law_1368 rfl rfl ?_
  refine zg_aload_n hO 1 dL_law_1369 rfl rfl ?_
  refine zg_iload hO 0 dL_law_1370 rfl ?_
  refine zg_iconst hO dL_law_1372 ic1 ?_
  refine zg_iadd hO dL_law_1373 ?_
  refine zl_sld (j := i + 1) hO hB (rI_add i 1).symm (by omega) dL_law_1374 ?_
  refine zg_aload_n hO 1 dL_law_1375 rfl rfl ?_
  refine zg_iload hO 0 dL_law_1376 rfl ?_
  refine zg_iconst hO dL_law_1378 ic2 ?_
  refine zg_iadd hO dL_law_1379 ?_
  refine zl_sld (j := i + 2) hO hB (rI_add i 2).symm (by omega) dL_law_1380 ?_
  refine zw_callTi (na := 2) (As := [.int (xs (i + 1)), .int (xs (i + 2))]) (rest := [.int r]) hO hX (m_dearest l D dA GM h2) mw_X4_dearest q2111 ⟨Nat.le_of_ble_eq_true rfl, Nat.le_of_ble_eq_true rfl⟩ ⟨by omega, by omega⟩ rfl rfl (Nat.le_of_ble_eq_true rfl) dL_law_1381 ?_
  refine zt_icmp_eq (tgt := 1469) hO rfl dL_law_1384 (by decide) ?_
  exact zg_wid (by omega) (by omega) (kk tb ad σ1 μ1 f hR1)
theorem law_count {p : Program} {l : Launch} {e : Env} {s : State} {m : MethodId} {args : Array Value} {below : List Frame} {meth : Method} {c : Code} {D : va_G} {dA : Nat → ClassId} {G GM : Nat → Nat} {A : Nat → Prop} {Q : State → Prop} {b L ou i u v : Nat} {xs : Nat → Int32} {R R1 : XS → MS → Prop} (hO : Ok p s m args meth c cL_law "EndSumsLaw" 8 D dA A) (hX : XK dA G A s) (hl9 : l.stackTraces = false) (hB : SB A s b L xs) (hi : i + 4 ≤ L) (hu : u + 7700 ≤ 1200128 ∧ v + 55500 ≤ 5501098) {tb : Nat} {ad : Nat → Nat} {σ : XS} {μ : MS} {f : Nat → Int64} (hR : R σ μ) (hE : E_count R R1) (kk : ∀ (tb : Nat) (ad : Nat → Nat) (σ : XS) (μ : MS) (f : Nat → Int64), R1 σ μ → Go p l e (rmG 1626 1200128 5501098) s m args below meth c D A 8 Q (WX dA G tb ad σ ++ [(ou, .inl (dA 1, 1, .inr (.inl f)))] ++ WM dA GM μ) (u + 7700) (v + 55500) 1469 [(4, .int (nI i)), (0, .ref b), (1, .ref (G 0)), (2, .ref (GM 0)), (3, .ref ou)] []) : Go p l e (rmG 1626 1200128 5501098) s m args below meth c D A 8 Q (WX dA G tb ad σ ++ [(ou, .inl (dA 1, 1, .inr (.inl f)))] ++ WM dA GM μ) u v 1389 [(4, .int (nI i)), (0, .ref b), (1, .ref (G 0)), (2, .ref (GM 0)), (3, .ref ou)] [] := by
  obtain ⟨r, σ1, μ1, h1, h2, hR1⟩ := hE σ μ (xs (i + 1)) hR
  refine zg_aload_n hO 2 dL_law_1389 rfl rfl ?_
  refine zg_aload_n hO 1 dL_law_1390 rfl rfl ?_
  refine zg_iload hO 0 dL_law_1391 rfl ?_
  refine zg_iconst hO dL_law_1393 ic1 ?_
  refine zg_iadd hO dL_law_1394 ?_
  refine zl_sld (j := i + 1) hO hB (rI_add i 1).symm (by omega) dL_law_1395 ?_
  refine zg_ws (List.append_assoc _ _ _) ?_
  refine zx_callViX (na := 1) (W := WX dA G tb ad σ) (As := [.int (xs (i + 1))]) (rest := []) hO hX (m_X_count l D dA G tb ad h1) mw_X1_count q1669 ⟨Nat.le_of_ble_eq_true rfl, Nat.le_of_ble_eq_true rfl⟩ ⟨by omega, by omega⟩ rfl rfl (Nat.le_of_ble_eq_true rfl) ⟨0, 1, _, _, rfl, rfl, rfl⟩ dL_law_1396 (fun _ => ?_)
  refine zg_ws (List.append_assoc _ _ _).symm ?_
  refine zg_aload_n hO 3 dL_law_1399 rfl rfl ?_
  refine zg_aload_n hO 1 dL_law_1400 rfl rfl ?_
  refine zg_iload hO 0 dL_law_1401 rfl ?_
  refine zg_iconst hO dL_law_1403 ic1 ?_
  refine zg_iadd hO dL_law_1404 ?_
  refine zl_sld (j := i + 1) hO hB (rI_add i 1).symm (by omega) dL_law_1405 ?_
  refine zw_callTi (na := 1) (As := [.int (xs (i + 1))]) (rest := [.int r]) hO hX (m_count l D dA GM h2) mw_X4_count q2133 ⟨Nat.le_of_ble_eq_true rfl, Nat.le_of_ble_eq_true rfl⟩ ⟨by omega, by omega⟩ rfl rfl (Nat.le_of_ble_eq_true rfl) dL_law_1406 ?_
  refine zt_icmp_eq (tgt := 1469) hO rfl dL_law_1409 (by decide) ?_
  exact zg_wid (by omega) (by omega) (kk tb ad σ1 μ1 f hR1)
theorem law_row {p : Program} {l : Launch} {e : Env} {s : State} {m : MethodId} {args : Array Value} {below : List Frame} {meth : Method} {c : Code} {D : va_G} {dA : Nat → ClassId} {G GM : Nat → Nat} {A : Nat → Prop} {Q : State → Prop} {b L ou i u v : Nat} {xs : Nat → Int32} {R R1 : XS → MS → Prop} (hO : Ok p s m args meth c cL_law "EndSumsLaw" 8 D dA A) (hX : XK dA G A s) (hl9 : l.stackTraces = false) (hB : SB A s b L xs) (hi : i + 4 ≤ L) (hu : u + 7700 ≤ 1200128 ∧ v + 55500 ≤ 5501098) {tb : Nat} {ad : Nat → Nat} {σ : XS} {μ : MS} {f : Nat → Int64} (hR : R σ μ) (hE : E_row R R1) (kk : ∀ (tb : Nat) (ad : Nat → Nat) (σ : XS) (μ : MS) (f : Nat → Int64), R1 σ μ → Go p l e (rmG 1626 1200128 5501098) s m args below meth c D A 8 Q (WX dA G tb ad σ ++ [(ou, .inl (dA 1, 1, .inr (.inl f)))] ++ WM dA GM μ) (u + 7700) (v + 55500) 1469 [(4, .int (nI i)), (0, .ref b), (1, .ref (G 0)), (2, .ref (GM 0)), (3, .ref ou)] []) : Go p l e (rmG 1626 1200128 5501098) s m args below meth c D A 8 Q (WX dA G tb ad σ ++ [(ou, .inl (dA 1, 1, .inr (.inl f)))] ++ WM dA GM μ) u v 1414 [(4, .int (nI i)), (0, .ref b), (1, .ref (G 0)), (2, .ref (GM 0)), (3, .ref ou)] [] := by
  obtain ⟨r, μ1, h2, h⟩ := hE σ μ (xs (i + 1)) hR
  refine zg_aload_n hO 2 dL_law_1414 rfl rfl ?_
  refine zg_aload_n hO 1 dL_law_1415 rfl rfl ?_
  refine zg_iload hO 0 dL_law_1416 rfl ?_
  refine zg_iconst hO dL_law_1418 ic1 ?_
  refine zg_iadd hO dL_law_1419 ?_
  refine zl_sld (j := i + 1) hO hB (rI_add i 1).symm (by omega) dL_law_1420 ?_
  refine zg_aload_n hO 4 dL_law_1421 rfl rfl ?_
  rcases h with ⟨σ1, h1, h0, hR1⟩ | ⟨σ1, h1, h0, hR1⟩
  · refine zx_callSiWX (na := 3) (W := WX dA G tb ad σ ++ ([(ou, .inl (dA 1, 1, .inr (.inl f)))] : va_W)) (X := WM dA GM μ) (As := [.ref (G 0), .int (xs (i + 1)), .ref ou]) (rest := []) hO hX (m_L_row l hl9 D dA G tb ad h1) ⟨by decide +kernel, q1684, q84, q1685⟩ q1683 ⟨Nat.le_of_ble_eq_true rfl, Nat.le_of_ble_eq_true rfl⟩ ⟨by omega, by omega⟩ rfl rfl (Nat.le_of_ble_eq_true rfl) dL_law_1422 (fun _ => ?_)
    refine zg_istore (lv' := [(5, .int (nI 0)), (4, .int (nI i)), (0, .ref b), (1, .ref (G 0)), (2, .ref (GM 0)), (3, .ref ou)]) hO dL_law_1425 (Nat.le_of_ble_eq_true rfl) rfl ?_
    refine zg_aload_n hO 4 dL_law_1427 rfl rfl ?_
    refine zg_aload_n hO 2 dL_law_1428 rfl rfl ?_
    refine zg_iload hO 1 dL_law_1429 rfl ?_
    refine zg_iconst hO dL_law_1431 ic1 ?_
    refine zg_iadd hO dL_law_1432 ?_
    refine zl_sld (j := i + 1) hO hB (rI_add i 1).symm (by omega) dL_law_1433 ?_
    refine zw_callTl (na := 1) (As := [.int (xs (i + 1))]) (rest := []) hO hX (m_row l D dA GM h2) mw_X4_row q2137 ⟨Nat.le_of_ble_eq_true rfl, Nat.le_of_ble_eq_true rfl⟩ ⟨by omega, by omega⟩ rfl rfl (Nat.le_of_ble_eq_true rfl) dL_law_1434 ?_
    refine zg_lstore (lv' := [(6, .long r), (5, .int (nI 0)), (4, .int (nI i)), (0, .ref b), (1, .ref (G 0)), (2, .ref (GM 0)), (3, .ref ou)]) hO dL_law_1437 (Nat.le_of_ble_eq_true rfl) rfl ?_
    refine zg_aload_n hO 5 dL_law_1439 rfl rfl ?_
    refine zw_callTi (As := []) (rest := []) hO hX (m_thrown l D dA GM (σ := μ1) (ρ := (gI μ1 0, μ1)) rfl) mw_X4_thrown q1690 ⟨Nat.le_of_ble_eq_true rfl, Nat.le_of_ble_eq_true rfl⟩ ⟨by omega, by omega⟩ rfl rfl (Nat.le_of_ble_eq_true rfl) dL_law_1440 ?_
    refine zg_iload hO 1 dL_law_1443 rfl ?_
    refine zt_icmp_eq (tgt := 1450) hO h0 dL_law_1445 (by decide) ?_
    refine zg_iload hO 1 dL_law_1450 rfl ?_
    refine zn_if_ne (tgt := 1466) hO rfl dL_law_1452 (by decide) ?_
    refine zg_aload_n hO 6 dL_law_1455 rfl rfl ?_
    refine zg_iconst hO dL_law_1456 ic0 ?_
    refine zg_lld (g := some ()) (z := ()) hO (if_neg (by decide)) (WX dA G tb ad σ1).length (apW (ap0 (L := []))) dL_law_1457 (fun _ => ?_)
    rw [show vp_updL f 0 (r) (nI 0).toNatClampNeg = r by unfold vp_updL; exact if_pos rfl]
    refine zg_lload hO 0 dL_law_1458 rfl ?_
    refine zg_lcmp hO dL_law_1460 ?_
    refine zt_if_eq (tgt := 1466) hO (lg_cmp_self _) dL_law_1461 (by decide) ?_
    refine zg_goto (tgt := 1469) hO dL_law_1466 (by decide) ?_
    refine zg_sub (lv' := [(4, .int (nI i)), (0, .ref b), (1, .ref (G 0)), (2, .ref (GM 0)), (3, .ref ou)]) [2, 3, 4, 5, 6] rfl ?_
    exact zg_wid (by omega) (by omega) (kk tb ad σ1 μ1 _ hR1)
  · refine zx_callSiWX (na := 3) (W := WX dA G tb ad σ ++ ([(ou, .inl (dA 1, 1, .inr (.inl f)))] : va_W)) (X := WM dA GM μ) (As := [.ref (G 0), .int (xs (i + 1)), .ref ou]) (rest := []) hO hX (m_L_rowT l hl9 D dA G tb ad h1) ⟨by decide +kernel, q1684, q84, q1685⟩ q1683 ⟨Nat.le_of_ble_eq_true rfl, Nat.le_of_ble_eq_true rfl⟩ ⟨by omega, by omega⟩ rfl rfl (Nat.le_of_ble_eq_true rfl) dL_law_1422 (fun _ => ?_)
    refine zg_istore (lv' := [(5, .int (nI 1)), (4, .int (nI i)), (0, .ref b), (1, .ref (G 0)), (2, .ref (GM 0)), (3, .ref ou)]) hO dL_law_1425 (Nat.le_of_ble_eq_true rfl) rfl ?_
    refine zg_aload_n hO 4 dL_law_1427 rfl rfl ?_
    refine zg_aload_n hO 2 dL_law_1428 rfl rfl ?_
    refine zg_iload hO 1 dL_law_1429 rfl ?_
    refine zg_iconst hO dL_law_1431 ic1 ?_
    refine zg_iadd hO dL_law_1432 ?_
    refine zl_sld (j := i + 1) hO hB (rI_add i 1).symm (by omega) dL_law_1433 ?_
    refine zw_callTl (na := 1) (As := [.int (xs (i + 1))]) (rest := []) hO hX (m_row l D dA GM h2) mw_X4_row q2137 ⟨Nat.le_of_ble_eq_true rfl, Nat.le_of_ble_eq_true rfl⟩ ⟨by omega, by omega⟩ rfl rfl (Nat.le_of_ble_eq_true rfl) dL_law_1434 ?_
    refine zg_lstore (lv' := [(6, .long r), (5, .int (nI 1)), (4, .int (nI i)), (0, .ref b), (1, .ref (G 0)), (2, .ref (GM 0)), (3, .ref ou)]) hO dL_law_1437 (Nat.le_of_ble_eq_true rfl) rfl ?_
    refine zg_aload_n hO 5 dL_law_1439 rfl rfl ?_
    refine zw_callTi (As := []) (rest := []) hO hX (m_thrown l D dA GM (σ := μ1) (ρ := (gI μ1 0, μ1)) rfl) mw_X4_thrown q1690 ⟨Nat.le_of_ble_eq_true rfl, Nat.le_of_ble_eq_true rfl⟩ ⟨by omega, by omega⟩ rfl rfl (Nat.le_of_ble_eq_true rfl) dL_law_1440 ?_
    refine zg_iload hO 1 dL_law_1443 rfl ?_
    refine zt_icmp_eq (tgt := 1450) hO h0 dL_law_1445 (by decide) ?_
    refine zg_iload hO 1 dL_law_1450 rfl ?_
    refine zt_if_ne (tgt := 1466) hO (by decide) dL_law_1452 (by decide) ?_
    refine zg_goto (tgt := 1469) hO dL_law_1466 (by decide) ?_
    refine zg_sub (lv' := [(4, .int (nI i)), (0, .ref b), (1, .ref (G 0)), (2, .ref (GM 0)), (3, .ref ou)]) [2, 3, 4, 5, 6] rfl ?_
    exact zg_wid (by omega) (by omega) (kk tb ad σ1 μ1 _ hR1)
/-- all operations answer alike -/
def E_all (R R1 : XS → MS → Prop) : Prop := E_rule R R1 ∧ E_table R R1 ∧ E_commutes R R1 ∧ E_powers R R1 ∧ E_order R R1 ∧ E_undoes R R1 ∧ E_puts R R1 ∧ E_takes R R1 ∧ E_copies R R1 ∧ E_joins R R1 ∧ E_parts R R1 ∧ E_reverses R R1 ∧ E_changes R R1 ∧ E_slips R R1 ∧ E_drops R R1 ∧ E_shifts R R1 ∧ E_clears R R1 ∧ E_run R R1 ∧ E_sign R R1 ∧ E_end R R1 ∧ E_sum R R1 ∧ E_item R R1 ∧ E_part R R1 ∧ E_windows R R1 ∧ E_first R R1 ∧ E_longest R R1 ∧ E_greatest R R1 ∧ E_finds R R1 ∧ E_drains R R1 ∧ E_unlike R R1 ∧ E_same R R1 ∧ E_shared R R1 ∧ E_would R R1 ∧ E_dearest R R1 ∧ E_count R R1 ∧ E_row R R1
theorem law_ix : ∀ j : Nat, j < 36 → ∀ k : Nat, k < 36 → (nI j = nI k ↔ j = k) := by decide +kernel
theorem law_len : ∀ L : Nat, L ≤ 256 → ∀ i : Nat, i < 261 → (nI L - nI 4 < nI i ↔ L < i + 4) := by decide +kernel
theorem law_4 : ∀ i : Nat, i < 257 → nI i + nI 4 = nI (i + 4) := by decide +kernel
theorem law_round {p : Program} {l : Launch} {e : Env} {s : State} {m : MethodId} {args : Array Value} {below : List Frame} {meth : Method} {c : Code} {D : va_G} {dA : Nat → ClassId} {G GM : Nat → Nat} {A : Nat → Prop} {Q : State → Prop} {b L ou i u v : Nat} {xs : Nat → Int32} {R R1 : XS → MS → Prop} (hO : Ok p s m args meth c cL_law "EndSumsLaw" 8 D dA A) (hX : XK dA G A s) (hl9 : l.stackTraces = false) (hB : SB A s b L xs) (hi : i + 4 ≤ L) (hu : u + 7700 ≤ 1200128 ∧ v + 55500 ≤ 5501098) {tb : Nat} {ad : Nat → Nat} {σ : XS} {μ : MS} {f : Nat → Int64} (hR : R σ μ) (hE : E_all R R1) (hmo : ∀ (σ : XS) (μ : MS), R σ μ → R1 σ μ) (kk : ∀ (tb : Nat) (ad : Nat → Nat) (σ : XS) (μ : MS) (f : Nat → Int64), R1 σ μ → Go p l e (rmG 1626 1200128 5501098) s m args below meth c D A 8 Q (WX dA G tb ad σ ++ [(ou, .inl (dA 1, 1, .inr (.inl f)))] ++ WM dA GM μ) (u + 7700) (v + 55500) 1469 [(4, .int (nI i)), (0, .ref b), (1, .ref (G 0)), (2, .ref (GM 0)), (3, .ref ou)] []) : Go p l e (rmG 1626 1200128 5501098) s m args below meth c D A 8 Q (WX dA G tb ad σ ++ [(ou, .inl (dA 1, 1, .inr (.inl f)))] ++ WM dA GM μ) u v 32 [(4, .int (nI i)), (0, .ref b), (1, .ref (G 0)), (2, .ref (GM 0)), (3, .ref ou)] [] := by
  obtain ⟨e0, e1, e2, e3, e4, e5, e6, e7, e8, e9, e10, e11, e12, e13, e14, e15, e16, e17, e18, e19, e20, e21, e22, e23, e24, e25, e26, e27, e28, e29, e30, e31, e32, e33, e34, e35⟩ := hE
  refine zg_aload_n hO 1 dL_law_32 rfl rfl ?_
  refine zg_iload hO 0 dL_law_33 rfl ?_
  refine zl_sld (j := i) hO hB rfl (by omega) dL_law_35 ?_
  refine zg_bipush hO dL_law_36 (by decide : (Int8.ofInt 63).toInt32 = nI 63) ?_
  refine zg_iand hO dL_law_38 ?_
  generalize hz : xs i &&& nI 63 = z
  by_cases h0 : z = nI 0
  · refine zg_tableIn (tgt := 196) hO dL_law_39 (by rw [h0]; decide) (by rw [h0]; decide) (by rw [h0]; rfl) (by decide) ?_
    exact law_rule hO hX hl9 hB hi hu hR e0 kk
  by_cases h1 : z = nI 1
  · refine zg_tableIn (tgt := 221) hO dL_law_39 (by rw [h1]; decide) (by rw [h1]; decide) (by rw [h1]; rfl) (by decide) ?_
    exact law_table hO hX hl9 hB hi hu hR e1 kk
  by_cases h2 : z = nI 2
  · refine zg_tableIn (tgt := 234) hO dL_law_39 (by rw [h2]; decide) (by rw [h2]; decide) (by rw [h2]; rfl) (by decide) ?_
    exact law_commutes hO hX hl9 hB hi hu hR e2 kk
  by_cases h3 : z = nI 3
  · refine zg_tableIn (tgt := 271) hO dL_law_39 (by rw [h3]; decide) (by rw [h3]; decide) (by rw [h3]; rfl) (by decide) ?_
    exact law_powers hO hX hl9 hB hi hu hR e3 kk
  by_cases h4 : z = nI 4
  · refine zg_tableIn (tgt := 308) hO dL_law_39 (by rw [h4]; decide) (by rw [h4]; decide) (by rw [h4]; rfl) (by decide) ?_
    exact law_order hO hX hl9 hB hi hu hR e4 kk
  by_cases h5 : z = nI 5
  · refine zg_tableIn (tgt := 333) hO dL_law_39 (by rw [h5]; decide) (by rw [h5]; decide) (by rw [h5]; rfl) (by decide) ?_
    exact law_undoes hO hX hl9 hB hi hu hR e5 kk
  by_cases h6 : z = nI 6
  · refine zg_tableIn (tgt := 358) hO dL_law_39 (by rw [h6]; decide) (by rw [h6]; decide) (by rw [h6]; rfl) (by decide) ?_
    exact law_puts hO hX hl9 hB hi hu hR e6 kk
  by_cases h7 : z = nI 7
  · refine zg_tableIn (tgt := 407) hO dL_law_39 (by rw [h7]; decide) (by rw [h7]; decide) (by rw [h7]; rfl) (by decide) ?_
    exact law_takes hO hX hl9 hB hi hu hR e7 kk
  by_cases h8 : z = nI 8
  · refine zg_tableIn (tgt := 444) hO dL_law_39 (by rw [h8]; decide) (by rw [h8]; decide) (by rw [h8]; rfl) (by decide) ?_
    exact law_copies hO hX hl9 hB hi hu hR e8 kk
  by_cases h9 : z = nI 9
  · refine zg_tableIn (tgt := 481) hO dL_law_39 (by rw [h9]; decide) (by rw [h9]; decide) (by rw [h9]; rfl) (by decide) ?_
    exact law_joins hO hX hl9 hB hi hu hR e9 kk
  by_cases h10 : z = nI 10
  · refine zg_tableIn (tgt := 518) hO dL_law_39 (by rw [h10]; decide) (by rw [h10]; decide) (by rw [h10]; rfl) (by decide) ?_
    exact law_parts hO hX hl9 hB hi hu hR e10 kk
  by_cases h11 : z = nI 11
  · refine zg_tableIn (tgt := 567) hO dL_law_39 (by rw [h11]; decide) (by rw [h11]; decide) (by rw [h11]; rfl) (by decide) ?_
    exact law_reverses hO hX hl9 hB hi hu hR e11 kk
  by_cases h12 : z = nI 12
  · refine zg_tableIn (tgt := 592) hO dL_law_39 (by rw [h12]; decide) (by rw [h12]; decide) (by rw [h12]; rfl) (by decide) ?_
    exact law_changes hO hX hl9 hB hi hu hR e12 kk
  by_cases h13 : z = nI 13
  · refine zg_tableIn (tgt := 641) hO dL_law_39 (by rw [h13]; decide) (by rw [h13]; decide) (by rw [h13]; rfl) (by decide) ?_
    exact law_slips hO hX hl9 hB hi hu hR e13 kk
  by_cases h14 : z = nI 14
  · refine zg_tableIn (tgt := 690) hO dL_law_39 (by rw [h14]; decide) (by rw [h14]; decide) (by rw [h14]; rfl) (by decide) ?_
    exact law_drops hO hX hl9 hB hi hu hR e14 kk
  by_cases h15 : z = nI 15
  · refine zg_tableIn (tgt := 727) hO dL_law_39 (by rw [h15]; decide) (by rw [h15]; decide) (by rw [h15]; rfl) (by decide) ?_
    exact law_shifts hO hX hl9 hB hi hu hR e15 kk
  by_cases h16 : z = nI 16
  · refine zg_tableIn (tgt := 776) hO dL_law_39 (by rw [h16]; decide) (by rw [h16]; decide) (by rw [h16]; rfl) (by decide) ?_
    exact law_clears hO hX hl9 hB hi hu hR e16 kk
  by_cases h17 : z = nI 17
  · refine zg_tableIn (tgt := 801) hO dL_law_39 (by rw [h17]; decide) (by rw [h17]; decide) (by rw [h17]; rfl) (by decide) ?_
    exact law_run hO hX hl9 hB hi hu hR e17 kk
  by_cases h18 : z = nI 18
  · refine zg_tableIn (tgt := 826) hO dL_law_39 (by rw [h18]; decide) (by rw [h18]; decide) (by rw [h18]; rfl) (by decide) ?_
    exact law_sign hO hX hl9 hB hi hu hR e18 kk
  by_cases h19 : z = nI 19
  · refine zg_tableIn (tgt := 851) hO dL_law_39 (by rw [h19]; decide) (by rw [h19]; decide) (by rw [h19]; rfl) (by decide) ?_
    exact law_end hO hX hl9 hB hi hu hR e19 kk
  by_cases h20 : z = nI 20
  · refine zg_tableIn (tgt := 876) hO dL_law_39 (by rw [h20]; decide) (by rw [h20]; decide) (by rw [h20]; rfl) (by decide) ?_
    exact law_sum hO hX hl9 hB hi hu hR e20 kk
  by_cases h21 : z = nI 21
  · refine zg_tableIn (tgt := 901) hO dL_law_39 (by rw [h21]; decide) (by rw [h21]; decide) (by rw [h21]; rfl) (by decide) ?_
    exact law_item hO hX hl9 hB hi hu hR e21 kk
  by_cases h22 : z = nI 22
  · refine zg_tableIn (tgt := 969) hO dL_law_39 (by rw [h22]; decide) (by rw [h22]; decide) (by rw [h22]; rfl) (by decide) ?_
    exact law_part hO hX hl9 hB hi hu hR e22 kk
  by_cases h23 : z = nI 23
  · refine zg_tableIn (tgt := 1018) hO dL_law_39 (by rw [h23]; decide) (by rw [h23]; decide) (by rw [h23]; rfl) (by decide) ?_
    exact law_windows hO hX hl9 hB hi hu hR e23 kk
  by_cases h24 : z = nI 24
  · refine zg_tableIn (tgt := 1055) hO dL_law_39 (by rw [h24]; decide) (by rw [h24]; decide) (by rw [h24]; rfl) (by decide) ?_
    exact law_first hO hX hl9 hB hi hu hR e24 kk
  by_cases h25 : z = nI 25
  · refine zg_tableIn (tgt := 1092) hO dL_law_39 (by rw [h25]; decide) (by rw [h25]; decide) (by rw [h25]; rfl) (by decide) ?_
    exact law_longest hO hX hl9 hB hi hu hR e25 kk
  by_cases h26 : z = nI 26
  · refine zg_tableIn (tgt := 1129) hO dL_law_39 (by rw [h26]; decide) (by rw [h26]; decide) (by rw [h26]; rfl) (by decide) ?_
    exact law_greatest hO hX hl9 hB hi hu hR e26 kk
  by_cases h27 : z = nI 27
  · refine zg_tableIn (tgt := 1166) hO dL_law_39 (by rw [h27]; decide) (by rw [h27]; decide) (by rw [h27]; rfl) (by decide) ?_
    exact law_finds hO hX hl9 hB hi hu hR e27 kk
  by_cases h28 : z = nI 28
  · refine zg_tableIn (tgt := 1215) hO dL_law_39 (by rw [h28]; decide) (by rw [h28]; decide) (by rw [h28]; rfl) (by decide) ?_
    exact law_drains hO hX hl9 hB hi hu hR e28 kk
  by_cases h29 : z = nI 29
  · refine zg_tableIn (tgt := 1240) hO dL_law_39 (by rw [h29]; decide) (by rw [h29]; decide) (by rw [h29]; rfl) (by decide) ?_
    exact law_unlike hO hX hl9 hB hi hu hR e29 kk
  by_cases h30 : z = nI 30
  · refine zg_tableIn (tgt := 1265) hO dL_law_39 (by rw [h30]; decide) (by rw [h30]; decide) (by rw [h30]; rfl) (by decide) ?_
    exact law_same hO hX hl9 hB hi hu hR e30 kk
  by_cases h31 : z = nI 31
  · refine zg_tableIn (tgt := 1302) hO dL_law_39 (by rw [h31]; decide) (by rw [h31]; decide) (by rw [h31]; rfl) (by decide) ?_
    exact law_shared hO hX hl9 hB hi hu hR e31 kk
  by_cases h32 : z = nI 32
  · refine zg_tableIn (tgt := 1315) hO dL_law_39 (by rw [h32]; decide) (by rw [h32]; decide) (by rw [h32]; rfl) (by decide) ?_
    exact law_would hO hX hl9 hB hi hu hR e32 kk
  by_cases h33 : z = nI 33
  · refine zg_tableIn (tgt := 1352) hO dL_law_39 (by rw [h33]; decide) (by rw [h33]; decide) (by rw [h33]; rfl) (by decide) ?_
    exact law_dearest hO hX hl9 hB hi hu hR e33 kk
  by_cases h34 : z = nI 34
  · refine zg_tableIn (tgt := 1389) hO dL_law_39 (by rw [h34]; decide) (by rw [h34]; decide) (by rw [h34]; rfl) (by decide) ?_
    exact law_count hO hX hl9 hB hi hu hR e34 kk
  by_cases h35 : z = nI 35
  · refine zg_tableIn (tgt := 1414) hO dL_law_39 (by rw [h35]; decide) (by rw [h35]; decide) (by rw [h35]; rfl) (by decide) ?_
    exact law_row hO hX hl9 hB hi hu hR e35 kk
  refine zg_tableOut (tgt := 1469) hO dL_law_39 (zg_swout (lo := 0) (hi := 35) (fun k h1 h2 => by rcases (show k = 0 ∨ k = 1 ∨ k = 2 ∨ k = 3 ∨ k = 4 ∨ k = 5 ∨ k = 6 ∨ k = 7 ∨ k = 8 ∨ k = 9 ∨ k = 10 ∨ k = 11 ∨ k = 12 ∨ k = 13 ∨ k = 14 ∨ k = 15 ∨ k = 16 ∨ k = 17 ∨ k = 18 ∨ k = 19 ∨ k = 20 ∨ k = 21 ∨ k = 22 ∨ k = 23 ∨ k = 24 ∨ k = 25 ∨ k = 26 ∨ k = 27 ∨ k = 28 ∨ k = 29 ∨ k = 30 ∨ k = 31 ∨ k = 32 ∨ k = 33 ∨ k = 34 ∨ k = 35 by omega) with rfl | rfl | rfl | rfl | rfl | rfl | rfl | rfl | rfl | rfl | rfl | rfl | rfl | rfl | rfl | rfl | rfl | rfl | rfl | rfl | rfl | rfl | rfl | rfl | rfl | rfl | rfl | rfl | rfl | rfl | rfl | rfl | rfl | rfl | rfl | rfl <;> assumption)) (by decide) ?_
  exact zg_wid (by omega) (by omega) (kk tb ad σ μ f (hmo σ μ hR))
theorem law_loop {p : Program} {l : Launch} {e : Env} {s : State} {m : MethodId} {args : Array Value} {below : List Frame} {meth : Method} {c : Code} {D : va_G} {dA : Nat → ClassId} {G GM : Nat → Nat} {A : Nat → Prop} {Q : State → Prop} {b L ou : Nat} {xs : Nat → Int32} {R : Nat → XS → MS → Prop} (hO : Ok p s m args meth c cL_law "EndSumsLaw" 8 D dA A) (hX : XK dA G A s) (hl9 : l.stackTraces = false) (hB : SB A s b L xs) (hE : ∀ k : Nat, k < 64 → E_all (R k) (R (k + 1))) (hmo : ∀ (k : Nat) (σ : XS) (μ : MS), R k σ μ → R (k + 1) σ μ)
    (kk : ∀ (W : va_W) (u v : Nat) (lv : List (Nat × Value)), u ≤ 1200128 → v ≤ 5501098 → Go p l e (rmG 1626 1200128 5501098) s m args below meth c D A 8 Q W u v 1475 lv []) : ∀ (n k i u v tb : Nat) (ad : Nat → Nat) (σ : XS) (μ : MS) (f : Nat → Int64), i = 4 * k → L < i + 4 * n → i ≤ 260 → u + 7700 * n ≤ 1200128 → v + 55500 * n ≤ 5501098 → R k σ μ → Go p l e (rmG 1626 1200128 5501098) s m args below meth c D A 8 Q (WX dA G tb ad σ ++ [(ou, .inl (dA 1, 1, .inr (.inl f)))] ++ WM dA GM μ) u v 23 [(4, .int (nI i)), (0, .ref b), (1, .ref (G 0)), (2, .ref (GM 0)), (3, .ref ou)] [] := by
  intro n
  induction n with
  | zero =>
    intro k i u v tb ad σ μ f hk hn hi hu hv hR
    have hL := hB.2.2.2
    refine zg_iload hO 0 dL_law_23 rfl ?_
    refine zg_aload_n hO 1 dL_law_25 rfl rfl ?_
    refine zl_slen hO hB dL_law_26 ?_
    refine zg_iconst hO dL_law_27 ic4 ?_
    refine zg_isub hO dL_law_28 ?_
    refine zt_icmp_gt (tgt := 1475) hO ((law_len L hL i (by omega)).mpr (by omega)) dL_law_29 (by decide) ?_
    exact kk _ _ _ _ (by omega) (by omega)
  | succ n ih =>
    intro k i u v tb ad σ μ f hk hn hi hu hv hR
    have hL := hB.2.2.2
    rw [Nat.mul_succ] at hu hv
    generalize hnn : 55500 * n = nv at hv
    generalize hnu : 7700 * n = nu at hu
    refine zg_iload hO 0 dL_law_23 rfl ?_
    refine zg_aload_n hO 1 dL_law_25 rfl rfl ?_
    refine zl_slen hO hB dL_law_26 ?_
    refine zg_iconst hO dL_law_27 ic4 ?_
    refine zg_isub hO dL_law_28 ?_
    by_cases hlt : L < i + 4
    · refine zt_icmp_gt (tgt := 1475) hO ((law_len L hL i (by omega)).mpr hlt) dL_law_29 (by decide) ?_
      exact kk _ _ _ _ (Nat.le_trans (Nat.le_add_right _ _) hu) (Nat.le_trans (Nat.le_add_right _ _) hv)
    · refine zn_icmp_gt (tgt := 1475) hO (fun z => hlt ((law_len L hL i (by omega)).mp z)) dL_law_29 (by decide) ?_
      have hu2 : u + 7700 ≤ 1200128 := by clear kk ih hE; omega
      have hv2 : v + 55500 ≤ 5501098 := Nat.le_trans (Nat.add_le_add_left (Nat.le_add_left 55500 nv) v) hv
      have hi4 : i + 4 ≤ L := by clear kk ih hE; omega
      refine law_round hO hX hl9 hB hi4 ⟨hu2, hv2⟩ hR (hE k (by clear kk ih hE; omega)) (hmo k) (fun tb ad σ μ f hR => ?_)
      refine zg_iinc (k := 0) (lv' := [(4, .int ((nI i) + (nI 4))), (0, .ref b), (1, .ref (G 0)), (2, .ref (GM 0)), (3, .ref ou)]) hO dL_law_1469 rfl (zii ic4) (Nat.le_of_ble_eq_true rfl) rfl ?_
      rw [law_4 i (by omega)]
      refine zg_goto (tgt := 23) hO dL_law_1472 (by decide) ?_
      exact ih (k + 1) (i + 4) _ _ tb ad σ μ f (by omega) (by omega) (by omega) (by rw [hnu]; omega) (by rw [hnn, Nat.add_assoc, Nat.add_comm 55500 nv]; exact hv) hR
