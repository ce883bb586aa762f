set_option maxRecDepth 100000
/-! layArrangements -/
def X_la2 (n : Nat) : Nat → Nat → List Nat → Nat → Nat → XS → XS
  | 0, _, _, _, _, σ => σ
  | r + 1, k, ts, left, b, σ => X_la2 n r (k + 1) (ts.eraseIdx (left / b)) (left % b) (b / max 1 (3 - k)) (zA σ (20 + n) k (nI (ts.getD (left / b) 0)))
def X_la1 : Nat → Nat → XS → XS
  | 0, _, σ => σ
  | r + 1, n, σ => X_la1 r (n + 1) (X_la2 n 4 0 [0, 1, 2, 3] n 6 σ)
def X_lay (σ : XS) : XS := X_la1 24 0 σ
theorem la_div : ∀ a : Nat, a < 24 → ∀ b : Nat, b < 7 → 0 < b → nI a / nI b = nI (a / b) ∧ nI a - nI (a / b) * nI b = nI (a % b) ∧ ¬ nI b = 0 := by decide +kernel
theorem la_b : ∀ k : Nat, k < 4 → ∀ b : Nat, b < 7 → nI b / (if nI 1 < nI 3 - nI k then nI 3 - nI k else nI 1) = nI (b / max 1 (3 - k)) ∧ ¬ (if nI 1 < nI 3 - nI k then nI 3 - nI k else nI 1) = 0 := by decide +kernel
theorem AX.get {G : Nat → Nat} {B : va_W} : ∀ {xs : List (Nat × Nat)} {as : List Nat} {i : Nat}, AX G B xs as → i < xs.length → BX G B (ndX xs i) (nI (as.getD i 0)) := by
  intro xs
  induction xs with
  | nil => intro as i h hi; exact absurd hi (Nat.not_lt_zero _)
  | cons b t ih =>
    intro as i h hi
    obtain ⟨b1, b2⟩ := b
    cases as with
    | nil => exact h.elim
    | cons d as =>
      cases i with
      | zero => exact h.1
      | succ i => exact ih h.2 (Nat.lt_of_succ_lt_succ hi)
theorem AX.erase {G : Nat → Nat} {B : va_W} : ∀ {xs : List (Nat × Nat)} {as : List Nat} {i : Nat}, AX G B xs as → AX G B (xs.eraseIdx i) (as.eraseIdx i) := by
  intro xs
  induction xs with
  | nil =>
    intro as i h
    cases as with
    | nil => exact h
    | cons d as => exact h.elim
  | cons b t ih =>
    intro as i h
    obtain ⟨b1, b2⟩ := b
    cases as with
    | nil => exact h.elim
    | cons d as =>
      cases i with
      | zero => exact h.2
      | succ i => exact ⟨h.1, ih h.2⟩
theorem BX.any {G : Nat → Nat} {W : va_W} {x : Nat} {y : Int32} (h : BX G [] x y) : BX G W x y := by
  rcases h with ⟨k, h⟩ | h
  · cases h
  · exact Or.inr h
theorem la_item {p : Program} {l : Launch} {e : Env} {s : State} {m : MethodId} {args : Array Value} {below : List Frame} {meth : Method} {c : Code} {D : va_G} {dA : Nat → ClassId} {G : Nat → Nat} {A : Nat → Prop} {Q : State → Prop} (hO : Ok p s m args meth c cX1_layArrangements RX1 6 D dA A) (hX : XK dA G A s) {tb : Nat} {ad : Nat → Nat} {n ll left b k u v : Nat} {mc : Int32} {xs : List (Nat × Nat)} {ts : List Nat} {σ : XS} (hn : n < 24) (hk : k < 4) (hb : b < 7) (hb0 : 0 < b) (hleft : left < 24) (hax : AX G [] xs ts) (hx : xs.length ≤ 4) (hi : left / b < xs.length) (hu : u ≤ 288 ∧ v ≤ 720)
    (kk : Go p l e (rmG 9 288 720) s m args below meth c D A 6 Q (WX dA G tb ad (zA σ (20 + n) k (nI (ts.getD (left / b) 0))) ++ LL ll (mc + nI 1) (xs.eraseIdx (left / b))) u v 44 [(5, .int (nI (k + 1))), (4, .int (nI (b / max 1 (3 - k)))), (3, .ref ll), (2, .int (nI (left % b))), (1, .int (nI n)), (0, .ref (G 0))] []) : Go p l e (rmG 9 288 720) s m args below meth c D A 6 Q (WX dA G tb ad σ ++ LL ll mc xs) u v 44 [(5, .int (nI k)), (4, .int (nI b)), (3, .ref ll), (2, .int (nI left)), (1, .int (nI n)), (0, .ref (G 0))] [] := by
  obtain ⟨d1, d2, d3⟩ := la_div left hleft b hb hb0
  obtain ⟨b1, b2⟩ := la_b k hk b hb
  refine zg_iload hO 0 dX1_layArrangements_44 rfl ?_
  refine zg_iconst hO dX1_layArrangements_46 ic4 ?_
  refine zn_icmp_ge (tgt := 97) hO (fun z => absurd ((rt_le k (by omega) 4 (by omega)).mp z) (by omega)) dX1_layArrangements_47 (by decide) ?_
  refine zg_aload_n hO 5 dX1_layArrangements_50 rfl rfl ?_
  refine zg_get hO fX_1_59 0 rfl rfl dX1_layArrangements_51 ?_
  refine zg_iload_n hO 4 dX1_layArrangements_54 rfl rfl ?_
  refine zg_aldA (t0 := 6) (g := some ()) (z := ()) hO (if_neg (fun z => by rcases z with z | z; exact (rt_nat n (by omega)).2 z; rw [(rt_nat n (by omega)).1] at z; omega)) 11 rfl rfl dX1_layArrangements_55 (fun _ => ?_)
  refine zg_eq (st' := [.ref (G (20 + n))]) rfl (by rw [(rt_nat n (by omega)).1]; rfl) ?_
  refine zg_iload hO 0 dX1_layArrangements_56 rfl ?_
  refine zg_aload_n hO 2 dX1_layArrangements_58 rfl rfl ?_
  refine zg_iload_n hO 3 dX1_layArrangements_59 rfl rfl ?_
  refine zg_iload hO 1 dX1_layArrangements_60 rfl ?_
  refine zg_idiv (f := some ()) (z := ()) hO (if_neg d3) dX1_layArrangements_62 (fun _ => ?_)
  rw [d1]
  refine zx_callVr (na := 1) (As := [.int (nI (left / b))]) (rest := [.int (nI k), .ref (G (20 + n))]) hO hX (m_lremove (W0 := WX dA G tb ad σ) l D dA G hx hi) mw_J11_remove q487 ⟨Nat.le_of_ble_eq_true rfl, Nat.le_of_ble_eq_true rfl⟩ ⟨by omega, by omega⟩ rfl rfl (Nat.le_of_ble_eq_true rfl) ⟨(WX dA G tb ad σ).length, 6, _, _, ap0 (x := LO ll mc xs) (L := LN none none xs), rfl, rfl⟩ dX1_layArrangements_63 (fun _ => ?_)
  have hbb : BX G (WX dA G tb ad σ ++ LL ll (mc + nI 1) (xs.eraseIdx (left / b))) (ndX xs (left / b)) (nI (ts.getD (left / b) 0)) := (hax.get hi).any
  refine zo_cast hO (bx_rc hO hX hbb) q503 dX1_layArrangements_66 ?_
  refine zo_callVi (As := []) (rest := [.int (nI k), .ref (G (20 + n))]) hO hX (m_intValue l D dA G hbb) mw_J13_intValue q504 ⟨Nat.le_of_ble_eq_true rfl, Nat.le_of_ble_eq_true rfl⟩ ⟨by omega, by omega⟩ rfl rfl (Nat.le_of_ble_eq_true rfl) (bx_rc hO hX hbb) dX1_layArrangements_69 (fun _ => ?_)
  refine zg_ist (ws' := (WX dA G tb ad (zA σ (20 + n) k (nI (ts.getD (left / b) 0))) ++ LL ll (mc + nI 1) (xs.eraseIdx (left / b)))) (g := some ()) (z := ()) hO (if_neg (fun z => by rcases z with z | z; exact (rt_nat k (by omega)).2 z; rw [(rt_nat k (by omega)).1] at z; omega)) (12 + n) (apW (wx_row hn)) ?_ dX1_layArrangements_72 (fun _ => ?_)
  · rw [(rt_nat k (by omega)).1, List.set_append_left _ _ (by have h9 := (List.getElem?_eq_some_iff.mp (wx_row (dA := dA) (G := G) (tb := tb) (ad := ad) (σ := σ) hn)).1; exact h9), wx_rowS hn]
  refine zg_iload_n hO 3 dX1_layArrangements_73 rfl rfl ?_
  refine zg_iload hO 1 dX1_layArrangements_74 rfl ?_
  refine zg_irem (f := some ()) (z := ()) hO (if_neg d3) dX1_layArrangements_76 (fun _ => ?_)
  rw [d1, d2]
  refine zg_istore_n (lv' := [(2, .int (nI (left % b))), (5, .int (nI k)), (4, .int (nI b)), (3, .ref ll), (1, .int (nI n)), (0, .ref (G 0))]) hO dX1_layArrangements_77 rfl (Nat.le_of_ble_eq_true rfl) rfl ?_
  refine zg_iload hO 2 dX1_layArrangements_78 rfl ?_
  refine zg_iconst hO dX1_layArrangements_80 ic1 ?_
  refine zg_iconst hO dX1_layArrangements_81 ic3 ?_
  refine zg_iload hO 1 dX1_layArrangements_82 rfl ?_
  refine zg_isub hO dX1_layArrangements_84 ?_
  refine zs_mmax hO q508 (Nat.le_of_ble_eq_true rfl) (Nat.le_of_ble_eq_true rfl) ⟨by omega, by omega⟩ dX1_layArrangements_85 ?_
  refine zg_idiv (f := some ()) (z := ()) hO (if_neg b2) dX1_layArrangements_88 (fun _ => ?_)
  rw [b1]
  refine zg_istore (lv' := [(4, .int (nI (b / max 1 (3 - k)))), (2, .int (nI (left % b))), (5, .int (nI k)), (3, .ref ll), (1, .int (nI n)), (0, .ref (G 0))]) hO dX1_layArrangements_89 (Nat.le_of_ble_eq_true rfl) rfl ?_
  refine zg_iinc (k := 2) (lv' := [(5, .int ((nI k) + (nI 1))), (4, .int (nI (b / max 1 (3 - k)))), (2, .int (nI (left % b))), (3, .ref ll), (1, .int (nI n)), (0, .ref (G 0))]) hO dX1_layArrangements_91 rfl (zii ic1) (Nat.le_of_ble_eq_true rfl) rfl ?_
  rw [rt_suc k (by omega)]
  refine zg_goto (tgt := 44) hO dX1_layArrangements_94 (by decide) ?_
  refine zg_sub (lv' := [(5, .int (nI (k + 1))), (4, .int (nI (b / max 1 (3 - k)))), (3, .ref ll), (2, .int (nI (left % b))), (1, .int (nI n)), (0, .ref (G 0))]) [0, 1, 3, 2, 4, 5] rfl ?_
  exact kk
theorem la_one {p : Program} {l : Launch} {e : Env} {s : State} {m : MethodId} {args : Array Value} {below : List Frame} {meth : Method} {c : Code} {D : va_G} {dA : Nat → ClassId} {G : Nat → Nat} {A : Nat → Prop} {Q : State → Prop} (hO : Ok p s m args meth c cX1_layArrangements RX1 6 D dA A) (hX : XK dA G A s) {tb : Nat} {ad : Nat → Nat} {n : Nat} {σ : XS} (hn : n < 24)
    (kk : Go p l e (rmG 9 288 720) s m args below meth c D A 6 Q (WX dA G tb ad (X_la2 n 4 0 [0, 1, 2, 3] n 6 σ)) (12 * n + 12) (30 * n + 30) 97 [(1, .int (nI n)), (0, .ref (G 0))] []) : Go p l e (rmG 9 288 720) s m args below meth c D A 6 Q (WX dA G tb ad σ) (12 * n) (30 * n) 8 [(1, .int (nI n)), (0, .ref (G 0))] [] := by
  refine zg_iload_n hO 0 dX1_layArrangements_8 rfl rfl ?_
  refine zg_istore_n (lv' := [(2, .int (nI n)), (1, .int (nI n)), (0, .ref (G 0))]) hO dX1_layArrangements_9 rfl (Nat.le_of_ble_eq_true rfl) rfl ?_
  refine zj_new (ci := 6) (fs := [.int (nI 0), .int (nI 0), .null, .null]) (C := RJ11) (T := TJ11) (M := 4) hO in_J11 tyJ11 tyJ11_ok q336 q337 q99 rfl (fun j hj => by rcases (show j = 0 ∨ j = 1 ∨ j = 2 ∨ j = 3 by omega) with rfl | rfl | rfl | rfl <;> rfl) (by omega) (by omega) dX1_layArrangements_10 (fun ll => ?_)
  refine zg_dup hO dX1_layArrangements_13 rfl ?_
  refine zg_iconst hO dX1_layArrangements_14 ic0 ?_
  refine zx_callSr (na := 1) (As := [.int (nI 0)]) (rest := [.ref ll, .ref ll]) hO hX (m_boxold (a := 0) l D dA G (Nat.le_of_ble_eq_true rfl)) mw_J13_valueOf q338 ⟨Nat.le_of_ble_eq_true rfl, Nat.le_of_ble_eq_true rfl⟩ ⟨by omega, by omega⟩ rfl rfl (Nat.le_of_ble_eq_true rfl) dX1_layArrangements_15 (fun _ => ?_)
  refine zg_iconst hO dX1_layArrangements_18 ic1 ?_
  refine zx_callSr (na := 1) (As := [.int (nI 1)]) (rest := [.ref (G (228 + 0)), .ref ll, .ref ll]) hO hX (m_boxold (a := 1) l D dA G (Nat.le_of_ble_eq_true rfl)) mw_J13_valueOf q338 ⟨Nat.le_of_ble_eq_true rfl, Nat.le_of_ble_eq_true rfl⟩ ⟨by omega, by omega⟩ rfl rfl (Nat.le_of_ble_eq_true rfl) dX1_layArrangements_19 (fun _ => ?_)
  refine zg_iconst hO dX1_layArrangements_22 ic2 ?_
  refine zx_callSr (na := 1) (As := [.int (nI 2)]) (rest := [.ref (G (228 + 1)), .ref (G (228 + 0)), .ref ll, .ref ll]) hO hX (m_boxold (a := 2) l D dA G (Nat.le_of_ble_eq_true rfl)) mw_J13_valueOf q338 ⟨Nat.le_of_ble_eq_true rfl, Nat.le_of_ble_eq_true rfl⟩ ⟨by omega, by omega⟩ rfl rfl (Nat.le_of_ble_eq_true rfl) dX1_layArrangements_23 (fun _ => ?_)
  refine zg_iconst hO dX1_layArrangements_26 ic3 ?_
  refine zx_callSr (na := 1) (As := [.int (nI 3)]) (rest := [.ref (G (228 + 2)), .ref (G (228 + 1)), .ref (G (228 + 0)), .ref ll, .ref ll]) hO hX (m_boxold (a := 3) l D dA G (Nat.le_of_ble_eq_true rfl)) mw_J13_valueOf q338 ⟨Nat.le_of_ble_eq_true rfl, Nat.le_of_ble_eq_true rfl⟩ ⟨by omega, by omega⟩ rfl rfl (Nat.le_of_ble_eq_true rfl) dX1_layArrangements_27 (fun _ => ?_)
  refine zx_callSr (na := 4) (As := [.ref (G (228 + 0)), .ref (G (228 + 1)), .ref (G (228 + 2)), .ref (G (228 + 3))]) (rest := [.ref ll, .ref ll]) hO hX (m_listof (W0 := WX dA G tb ad σ ++ ([(ll, .inr (6, [.int (nI 0), .int (nI 0), .null, .null]))] : va_W)) l D dA G (Or.inr ⟨128 + 0, (Nat.le_of_ble_eq_true rfl), rfl⟩) (Or.inr ⟨128 + 1, (Nat.le_of_ble_eq_true rfl), rfl⟩) (Or.inr ⟨128 + 2, (Nat.le_of_ble_eq_true rfl), rfl⟩) (Or.inr ⟨128 + 3, (Nat.le_of_ble_eq_true rfl), rfl⟩)) mw_J1_of q251 ⟨Nat.le_of_ble_eq_true rfl, Nat.le_of_ble_eq_true rfl⟩ ⟨by omega, by omega⟩ rfl rfl (Nat.le_of_ble_eq_true rfl) dX1_layArrangements_30 (fun zl => ?_)
  obtain ⟨es, ln⟩ := zl
  refine zt_perm (ws' := WX dA G tb ad σ ++ [(es, .inl (dA 7, 4, rfA (el4 (G (228 + 0)) (G (228 + 1)) (G (228 + 2)) (G (228 + 3)))))] ++ [(ln, .inr (8, [.ref es, .int (nI 0)]))] ++ [(ll, .inr (6, [.int (nI 0), .int (nI 0), .null, .null]))]) ?_ ?_
  · simp only [List.append_assoc]
    exact (List.perm_append_comm (l₁ := ([(ll, .inr (6, [.int (nI 0), .int (nI 0), .null, .null]))] : va_W)) (l₂ := ([(es, .inl (dA 7, 4, rfA (el4 (G (228 + 0)) (G (228 + 1)) (G (228 + 2)) (G (228 + 3))))), (ln, .inr (8, [.ref es, .int (nI 0)]))] : va_W))).append_left _
  refine zx_callIv (na := 1) (As := [.ref ln]) (rest := [.ref ll]) hO hX (m_llinitC (k0 := (WX dA G tb ad σ).length) (kl := (WX dA G tb ad σ ++ ([(es, .inl (dA 7, 4, rfA (el4 (G (228 + 0)) (G (228 + 1)) (G (228 + 2)) (G (228 + 3)))))] : va_W)).length) l D dA G (apW ap0) (fun j y hy => ?_) ap0) rfl ⟨by decide +kernel, q361, q99, q362⟩ q360 ⟨Nat.le_of_ble_eq_true rfl, Nat.le_of_ble_eq_true rfl⟩ ⟨by omega, by omega⟩ rfl rfl (Nat.le_of_ble_eq_true rfl) dX1_layArrangements_33 (fun z => ?_)
  · unfold el4 at hy
    rcases j with _ | _ | _ | _ | j
    · cases hy; exact ⟨128 + 0, (Nat.le_of_ble_eq_true rfl), rfl⟩
    · cases hy; exact ⟨128 + 1, (Nat.le_of_ble_eq_true rfl), rfl⟩
    · cases hy; exact ⟨128 + 2, (Nat.le_of_ble_eq_true rfl), rfl⟩
    · cases hy; exact ⟨128 + 3, (Nat.le_of_ble_eq_true rfl), rfl⟩
    · cases hy
  obtain ⟨a0, a1, a2, a3⟩ := z
  refine zg_ws (ws' := WX dA G tb ad σ ++ ((es, .inl (dA 7, 4, rfA (el4 (G (228 + 0)) (G (228 + 1)) (G (228 + 2)) (G (228 + 3))))) :: (ln, .inr (8, [.ref es, .int (nI 0)])) :: LL ll (nI 0 + nI 1) [(a0, G (228 + 0)), (a1, G (228 + 1)), (a2, G (228 + 2)), (a3, G (228 + 3))])) (by rw [List.append_assoc, List.append_assoc]; rfl) ?_
  refine zk_erase (ws' := WX dA G tb ad σ ++ ((ln, .inr (8, [.ref es, .int (nI 0)])) :: LL ll (nI 0 + nI 1) [(a0, G (228 + 0)), (a1, G (228 + 1)), (a2, G (228 + 2)), (a3, G (228 + 3))])) ((WX dA G tb ad σ).length + 0) (erN 0) ?_
  refine zk_erase (ws' := WX dA G tb ad σ ++ LL ll (nI 0 + nI 1) [(a0, G (228 + 0)), (a1, G (228 + 1)), (a2, G (228 + 2)), (a3, G (228 + 3))]) ((WX dA G tb ad σ).length + 0) (erN 0) ?_
  refine zg_astore_n (lv' := [(3, .ref ll), (2, .int (nI n)), (1, .int (nI n)), (0, .ref (G 0))]) hO dX1_layArrangements_36 rfl (Nat.le_of_ble_eq_true rfl) rfl ?_
  refine zg_bipush hO dX1_layArrangements_37 (by decide : (Int8.ofInt 6).toInt32 = nI 6) ?_
  refine zg_istore (lv' := [(4, .int (nI 6)), (3, .ref ll), (2, .int (nI n)), (1, .int (nI n)), (0, .ref (G 0))]) hO dX1_layArrangements_39 (Nat.le_of_ble_eq_true rfl) rfl ?_
  refine zg_iconst hO dX1_layArrangements_41 ic0 ?_
  refine zg_istore (lv' := [(5, .int (nI 0)), (4, .int (nI 6)), (3, .ref ll), (2, .int (nI n)), (1, .int (nI n)), (0, .ref (G 0))]) hO dX1_layArrangements_42 (Nat.le_of_ble_eq_true rfl) rfl ?_
  have hax : AX G [] [(a0, G (228 + 0)), (a1, G (228 + 1)), (a2, G (228 + 2)), (a3, G (228 + 3))] [0, 1, 2, 3] := ⟨Or.inr ⟨128, by decide, rfl, by decide⟩, Or.inr ⟨129, by decide, rfl, by decide⟩, Or.inr ⟨130, by decide, rfl, by decide⟩, Or.inr ⟨131, by decide, rfl, by decide⟩, trivial⟩
  refine zg_wid (u' := 12 * n + 12) (v' := 30 * n + 30) (by omega) (by omega) ?_
  generalize nI 0 + nI 1 = mc
  generalize hxs : ([(a0, G (228 + 0)), (a1, G (228 + 1)), (a2, G (228 + 2)), (a3, G (228 + 3))] : List (Nat × Nat)) = xs at hax ⊢
  have hl4 : xs.length = 4 := by rw [← hxs]; rfl
  have hU : 12 * n + 12 ≤ 288 ∧ 30 * n + 30 ≤ 720 := ⟨by omega, by omega⟩
  refine zg_sub (lv' := [(5, .int (nI 0)), (4, .int (nI 6)), (3, .ref ll), (2, .int (nI n)), (1, .int (nI n)), (0, .ref (G 0))]) [0, 1, 2, 3, 4, 5] rfl ?_
  have i0 : n / 6 < 4 := by omega
  refine la_item hO hX hn (by decide) (by decide) (by decide) hn hax (by omega) (by omega) hU ?_
  have l1 : (xs.eraseIdx (n / 6)).length = 3 := by rw [List.length_eraseIdx, hl4, if_pos i0]
  refine la_item (b := 2) hO hX hn (by decide) (by decide) (by decide) (by omega) hax.erase (by omega) (by omega) hU ?_
  have l2 : ((xs.eraseIdx (n / 6)).eraseIdx (n % 6 / 2)).length = 2 := by rw [List.length_eraseIdx, l1, if_pos (by omega)]
  refine la_item (b := 1) hO hX hn (by decide) (by decide) (by decide) (by omega) hax.erase.erase (by omega) (by omega) hU ?_
  have l3 : (((xs.eraseIdx (n / 6)).eraseIdx (n % 6 / 2)).eraseIdx (n % 6 % 2 / 1)).length = 1 := by rw [List.length_eraseIdx, l2, if_pos (by omega)]
  refine la_item (b := 1) hO hX hn (by decide) (by decide) (by decide) (by omega) hax.erase.erase.erase (by omega) (by omega) hU ?_
  refine zg_iload hO 0 dX1_layArrangements_44 rfl ?_
  refine zg_iconst hO dX1_layArrangements_46 ic4 ?_
  refine zt_icmp_ge (tgt := 97) hO (by decide) dX1_layArrangements_47 (by decide) ?_
  refine zj_tail ?_
  refine zg_sub (lv' := [(1, .int (nI n)), (0, .ref (G 0))]) [4, 5] rfl ?_
  exact kk
theorem m_X_layArr (l : Launch) (D : va_G) (dA : Nat → ClassId) (G : Nat → Nat) {σ : XS} (tb : Nat) (ad : Nat → Nat) : CtX l yX1_layArrangements (ws_ yX1_layArrangements cX1_layArrangements 6 none) 9 288 720 D dA G [.ref (G 0)] (WX dA G tb ad σ) (QgV D dA (fun _ : Unit => WX dA G tb ad (X_lay σ))) := by
  refine zx_start (cc := cX1_layArrangements) (nL := 6) (ret := none) (own := RX1) (by decide) rfl rfl (Nat.le_of_ble_eq_true rfl) (fun p e s m args below meth c A hO hX hr hm _ => ?_)
  refine zg_sub (lv' := [(0, .ref (G 0))]) [0] rfl ?_
  have loop : ∀ (r n : Nat) (τ : XS), r + n = 24 → X_la1 r n τ = X_lay σ → Go p l e (rmG 9 288 720) s m args below meth c D A 6 (MQ below (QgV D dA (fun _ : Unit => WX dA G tb ad (X_lay σ)) A) args s 288 720 A) (WX dA G tb ad τ) (12 * n) (30 * n) 2 [(1, .int (nI n)), (0, .ref (G 0))] [] := by
    intro r
    induction r with
    | zero =>
      intro n τ hn h
      have hn : n = 24 := by omega
      subst hn
      have h : τ = X_lay σ := h
      rw [h]
      refine zg_iload_n hO 0 dX1_layArrangements_2 rfl rfl ?_
      refine zg_bipush hO dX1_layArrangements_3 (by decide : (Int8.ofInt 24).toInt32 = nI 24) ?_
      refine zt_icmp_ge (tgt := 103) hO (by decide) dX1_layArrangements_5 (by decide) ?_
      exact zx_vret (f := fun _ : Unit => WX dA G tb ad (X_lay σ)) hO hr () rfl ⟨Nat.le_refl _, Nat.le_refl _⟩ dX1_layArrangements_103
    | succ r ih =>
      intro n τ hn h
      refine zg_iload_n hO 0 dX1_layArrangements_2 rfl rfl ?_
      refine zg_bipush hO dX1_layArrangements_3 (by decide : (Int8.ofInt 24).toInt32 = nI 24) ?_
      refine zn_icmp_ge (tgt := 103) hO (fun z => absurd ((rt_le n (by omega) 24 (by omega)).mp z) (by omega)) dX1_layArrangements_5 (by decide) ?_
      refine la_one hO hX (by omega) ?_
      refine zg_iinc (k := 0) (lv' := [(1, .int ((nI n) + (nI 1))), (0, .ref (G 0))]) hO dX1_layArrangements_97 rfl (zii ic1) (Nat.le_of_ble_eq_true rfl) rfl ?_
      rw [rt_suc n (by omega)]
      refine zg_goto (tgt := 2) hO dX1_layArrangements_100 (by decide) ?_
      have e1 : 12 * n + 12 = 12 * (n + 1) := by omega
      have e2 : 30 * n + 30 = 30 * (n + 1) := by omega
      rw [e1, e2]
      exact ih (n + 1) _ (by omega) h
  refine zg_iconst hO dX1_layArrangements_0 ic0 ?_
  refine zg_istore_n (lv' := [(1, .int (nI 0)), (0, .ref (G 0))]) hO dX1_layArrangements_1 rfl (Nat.le_of_ble_eq_true rfl) rfl ?_
  exact loop 24 0 σ rfl rfl
theorem mw_X1_layArrangements : MwX yX1_layArrangements cX1_layArrangements 6 none RX1 0 := ⟨by decide +kernel, q334, qs10, q85, q335⟩
