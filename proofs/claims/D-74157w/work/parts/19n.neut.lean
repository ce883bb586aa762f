set_option maxRecDepth 100000
def X_neu2 (f : Nat → Int32) (a : Nat) : Nat → Nat → Nat → Nat
  | 0, _, k => k
  | r + 1, b, k => X_neu2 f a r (b + 1) (if f (5 * a + b) = nI b then (if f (5 * b + a) = nI b then k else bclr k a) else bclr k a)
def X_neu1 (f : Nat → Int32) (n : Nat) : Nat → Nat → Nat → Nat
  | 0, _, k => k
  | r + 1, a, k => X_neu1 f n r (a + 1) (X_neu2 f a n 0 k)
def X_neutralOf (f : Nat → Int32) (n : Nat) : Int32 := bnx (X_neu1 f n n 0 (2 ^ n - 1))
theorem ne_ix : ∀ a : Nat, a < 5 → ∀ b : Nat, b < 5 → ¬ (nI 5 * nI a + nI b < 0 ∨ 25 ≤ (nI 5 * nI a + nI b).toNatClampNeg) ∧ (nI 5 * nI a + nI b).toNatClampNeg = 5 * a + b := by decide +kernel
theorem bclr_lt {k a : Nat} (hk : k < 32) : bclr k a < 32 := by
  unfold bclr
  split
  · exact Nat.lt_of_le_of_lt (Nat.sub_le _ _) hk
  · exact hk
theorem neu2_lt {f : Nat → Int32} {a : Nat} : ∀ r b k, k < 32 → X_neu2 f a r b k < 32 := by
  intro r
  induction r with
  | zero => exact fun _ _ h => h
  | succ r ih =>
    intro b k hk
    unfold X_neu2
    refine ih _ _ ?_
    split
    · split
      · exact hk
      · exact bclr_lt hk
    · exact bclr_lt hk
theorem neu1_lt {f : Nat → Int32} {n : Nat} : ∀ r a k, k < 32 → X_neu1 f n r a k < 32 := by
  intro r
  induction r with
  | zero => exact fun _ _ h => h
  | succ r ih => exact fun a k hk => ih _ _ (neu2_lt _ _ _ hk)
theorem neu2_l {p : Program} {l : Launch} {e : Env} {s : State} {m : MethodId} {args : Array Value} {below : List Frame} {meth : Method} {c : Code} {D : va_G} {dA : Nat → ClassId} {G : Nat → Nat} {A : Nat → Prop} (hO : Ok p s m args meth c cX1_neutralOf RX1 5 D dA A) (hX : XK dA G A s) {Q : State → Prop} {W : va_W} {k0 t bs w n a : Nat} {f : Nat → Int32} (ht : W[k0]? = some (t, .inl (dA 0, 25, .inl f))) (hn : n < 6) (ha : a < 5) {mc ms u v : Nat} (hu : u ≤ mc ∧ v ≤ ms) {K : Nat}
    (kk : ∀ lv', lv' = [(2, .ref bs), (3, .int (nI a)), (0, .ref t), (1, .int (nI n))] → Go p l e (rmG 6 mc ms) s m args below meth c D A 5 Q (W ++ BS dA bs w K) u v 68 lv' []) : ∀ r b k, r + b = n → k < 32 → X_neu2 f a r b k = K →
    Go p l e (rmG 6 mc ms) s m args below meth c D A 5 Q (W ++ BS dA bs w k) u v 25 [(4, .int (nI b)), (2, .ref bs), (3, .int (nI a)), (0, .ref t), (1, .int (nI n))] [] := by
  intro r
  induction r with
  | zero =>
    intro b k hb hk h
    cases h
    have hb : b = n := by omega
    subst hb
    refine zg_iload hO 0 dX1_neutralOf_25 rfl ?_
    refine zg_iload_n hO 4 dX1_neutralOf_27 rfl rfl ?_
    refine zt_icmp_ge (tgt := 68) hO (Int32.le_refl _) dX1_neutralOf_28 (by decide) ?_
    refine zg_sub (lv' := [(2, .ref bs), (3, .int (nI a)), (0, .ref t), (1, .int (nI b))]) [1, 2, 3, 4] rfl ?_
    exact kk _ rfl
  | succ r ih =>
    intro b k hb hk h
    unfold X_neu2 at h
    have hb5 : b < 5 := by omega
    obtain ⟨i1, i2⟩ := ne_ix a ha b hb5
    obtain ⟨j1, j2⟩ := ne_ix b hb5 a ha
    refine zg_iload hO 0 dX1_neutralOf_25 rfl ?_
    refine zg_iload_n hO 4 dX1_neutralOf_27 rfl rfl ?_
    refine zn_icmp_ge (tgt := 68) hO (by rw [dq_lt b (by omega) n (by omega)]; omega) dX1_neutralOf_28 (by decide) ?_
    refine zg_aload_n hO 3 dX1_neutralOf_31 rfl rfl ?_
    refine zg_iconst hO dX1_neutralOf_32 ic5 ?_
    refine zg_iload_n hO 2 dX1_neutralOf_33 rfl rfl ?_
    refine zg_imul hO dX1_neutralOf_34 ?_
    refine zg_iload hO 0 dX1_neutralOf_35 rfl ?_
    refine zg_iadd hO dX1_neutralOf_37 ?_
    refine zg_ild (g := some ()) (z := ()) hO (if_neg i1) k0 (apW ht) dX1_neutralOf_38 (fun _ => ?_)
    rw [i2]
    refine zg_iload hO 0 dX1_neutralOf_39 rfl ?_
    by_cases h1 : f (5 * a + b) = nI b
    · rw [if_pos h1] at h
      refine zn_icmp_ne (tgt := 57) hO h1 dX1_neutralOf_41 (by decide) ?_
      refine zg_aload_n hO 3 dX1_neutralOf_44 rfl rfl ?_
      refine zg_iconst hO dX1_neutralOf_45 ic5 ?_
      refine zg_iload hO 0 dX1_neutralOf_46 rfl ?_
      refine zg_imul hO dX1_neutralOf_48 ?_
      refine zg_iload_n hO 2 dX1_neutralOf_49 rfl rfl ?_
      refine zg_iadd hO dX1_neutralOf_50 ?_
      refine zg_ild (g := some ()) (z := ()) hO (if_neg j1) k0 (apW ht) dX1_neutralOf_51 (fun _ => ?_)
      rw [j2]
      refine zg_iload hO 0 dX1_neutralOf_52 rfl ?_
      by_cases h2 : f (5 * b + a) = nI b
      · rw [if_pos h2] at h
        refine zt_icmp_eq (tgt := 62) hO h2 dX1_neutralOf_54 (by decide) ?_
        refine zg_iinc (k := 0) (lv' := [(4, .int ((nI b) + (nI 1))), (2, .ref bs), (3, .int (nI a)), (0, .ref t), (1, .int (nI n))]) hO dX1_neutralOf_62 rfl (zii ic1) (Nat.le_of_ble_eq_true rfl) rfl ?_
        refine zg_goto (tgt := 25) hO dX1_neutralOf_65 (by decide) ?_
        rw [dq_suc b (by omega)]
        refine zg_sub (lv' := [(4, .int (nI (b + 1))), (2, .ref bs), (3, .int (nI a)), (0, .ref t), (1, .int (nI n))]) [0, 1, 2, 3, 4] rfl ?_
        exact ih (b + 1) k (by omega) hk h
      · rw [if_neg h2] at h
        refine zn_icmp_eq (tgt := 62) hO h2 dX1_neutralOf_54 (by decide) ?_
        refine zg_aload_n hO 1 dX1_neutralOf_57 rfl rfl ?_
        refine zg_iload_n hO 2 dX1_neutralOf_58 rfl rfl ?_
        refine zx_callVv (na := 1) (As := [.int (nI a)]) (rest := []) hO hX (m_bsclr l D dA G hk ha) mw_J32_clear q1333 ⟨Nat.le_of_ble_eq_true rfl, Nat.le_of_ble_eq_true rfl⟩ ⟨hu.1, hu.2⟩ rfl rfl (Nat.le_of_ble_eq_true rfl) ⟨W.length, 12, _, _, ap0, rfl, rfl⟩ dX1_neutralOf_59 (fun _ => ?_)
        refine zg_iinc (k := 0) (lv' := [(4, .int ((nI b) + (nI 1))), (2, .ref bs), (3, .int (nI a)), (0, .ref t), (1, .int (nI n))]) hO dX1_neutralOf_62 rfl (zii ic1) (Nat.le_of_ble_eq_true rfl) rfl ?_
        refine zg_goto (tgt := 25) hO dX1_neutralOf_65 (by decide) ?_
        rw [dq_suc b (by omega)]
        refine zg_sub (lv' := [(4, .int (nI (b + 1))), (2, .ref bs), (3, .int (nI a)), (0, .ref t), (1, .int (nI n))]) [0, 1, 2, 3, 4] rfl ?_
        exact ih (b + 1) (bclr k a) (by omega) (bclr_lt hk) h
    · rw [if_neg h1] at h
      refine zt_icmp_ne (tgt := 57) hO h1 dX1_neutralOf_41 (by decide) ?_
      refine zg_aload_n hO 1 dX1_neutralOf_57 rfl rfl ?_
      refine zg_iload_n hO 2 dX1_neutralOf_58 rfl rfl ?_
      refine zx_callVv (na := 1) (As := [.int (nI a)]) (rest := []) hO hX (m_bsclr l D dA G hk ha) mw_J32_clear q1333 ⟨Nat.le_of_ble_eq_true rfl, Nat.le_of_ble_eq_true rfl⟩ ⟨hu.1, hu.2⟩ rfl rfl (Nat.le_of_ble_eq_true rfl) ⟨W.length, 12, _, _, ap0, rfl, rfl⟩ dX1_neutralOf_59 (fun _ => ?_)
      refine zg_iinc (k := 0) (lv' := [(4, .int ((nI b) + (nI 1))), (2, .ref bs), (3, .int (nI a)), (0, .ref t), (1, .int (nI n))]) hO dX1_neutralOf_62 rfl (zii ic1) (Nat.le_of_ble_eq_true rfl) rfl ?_
      refine zg_goto (tgt := 25) hO dX1_neutralOf_65 (by decide) ?_
      rw [dq_suc b (by omega)]
      refine zg_sub (lv' := [(4, .int (nI (b + 1))), (2, .ref bs), (3, .int (nI a)), (0, .ref t), (1, .int (nI n))]) [0, 1, 2, 3, 4] rfl ?_
      exact ih (b + 1) (bclr k a) (by omega) (bclr_lt hk) h
theorem neu1_l {p : Program} {l : Launch} {e : Env} {s : State} {m : MethodId} {args : Array Value} {below : List Frame} {meth : Method} {c : Code} {D : va_G} {dA : Nat → ClassId} {G : Nat → Nat} {A : Nat → Prop} (hO : Ok p s m args meth c cX1_neutralOf RX1 5 D dA A) (hX : XK dA G A s) {Q : State → Prop} {W : va_W} {k0 t bs w n : Nat} {f : Nat → Int32} (ht : W[k0]? = some (t, .inl (dA 0, 25, .inl f))) (hn : n < 6) {mc ms u v : Nat} (hu : u ≤ mc ∧ v ≤ ms) {K : Nat}
    (kk : ∀ lv', lv' = [(2, .ref bs)] → Go p l e (rmG 6 mc ms) s m args below meth c D A 5 Q (W ++ BS dA bs w K) u v 74 lv' []) : ∀ r a k, r + a = n → k < 32 → X_neu1 f n r a k = K →
    Go p l e (rmG 6 mc ms) s m args below meth c D A 5 Q (W ++ BS dA bs w k) u v 17 [(2, .ref bs), (3, .int (nI a)), (0, .ref t), (1, .int (nI n))] [] := by
  intro r
  induction r with
  | zero =>
    intro a k ha hk h
    cases h
    have ha : a = n := by omega
    subst ha
    refine zg_iload_n hO 1 dX1_neutralOf_17 rfl rfl ?_
    refine zg_iload_n hO 3 dX1_neutralOf_18 rfl rfl ?_
    refine zt_icmp_ge (tgt := 74) hO (Int32.le_refl _) dX1_neutralOf_19 (by decide) ?_
    refine zg_sub (lv' := [(2, .ref bs)]) [0] rfl ?_
    exact kk _ rfl
  | succ r ih =>
    intro a k ha hk h
    unfold X_neu1 at h
    have ha5 : a < 5 := by omega
    refine zg_iload_n hO 1 dX1_neutralOf_17 rfl rfl ?_
    refine zg_iload_n hO 3 dX1_neutralOf_18 rfl rfl ?_
    refine zn_icmp_ge (tgt := 74) hO (by rw [dq_lt a (by omega) n (by omega)]; omega) dX1_neutralOf_19 (by decide) ?_
    refine zg_iconst hO dX1_neutralOf_22 ic0 ?_
    refine zg_istore (lv' := [(4, .int (nI 0)), (2, .ref bs), (3, .int (nI a)), (0, .ref t), (1, .int (nI n))]) hO dX1_neutralOf_23 (Nat.le_of_ble_eq_true rfl) rfl ?_
    refine zg_sub (lv' := [(4, .int (nI 0)), (2, .ref bs), (3, .int (nI a)), (0, .ref t), (1, .int (nI n))]) [0, 1, 2, 3, 4] rfl ?_
    refine neu2_l (K := X_neu2 f a n 0 k) hO hX ht hn ha5 hu (fun lv' hlv => ?_) n 0 k (by omega) hk rfl
    subst hlv
    refine zg_iinc (k := 1) (lv' := [(3, .int ((nI a) + (nI 1))), (2, .ref bs), (0, .ref t), (1, .int (nI n))]) hO dX1_neutralOf_68 rfl (zii ic1) (Nat.le_of_ble_eq_true rfl) rfl ?_
    refine zg_goto (tgt := 17) hO dX1_neutralOf_71 (by decide) ?_
    rw [dq_suc a (by omega)]
    refine zg_sub (lv' := [(2, .ref bs), (3, .int (nI (a + 1))), (0, .ref t), (1, .int (nI n))]) [1, 0, 2, 3] rfl ?_
    exact ih (a + 1) _ (by omega) (neu2_lt _ _ _ hk) h
theorem mw_X1_neutralOf : MwS yX1_neutralOf cX1_neutralOf 5 (some .int) 2 := ⟨by decide +kernel, q1277, q85, q1278⟩
theorem ne_two : ∀ n : Nat, n < 6 → 2 ^ n - 1 < 32 := by decide
theorem m_X_neutralOf (l : Launch) (D : va_G) (dA : Nat → ClassId) (G : Nat → Nat) {W : va_W} {k0 t n : Nat} {f : Nat → Int32} (ht : W[k0]? = some (t, .inl (dA 0, 25, .inl f))) (h1 : 1 ≤ n) (hn : n < 6) : CtX l yX1_neutralOf (ws_ yX1_neutralOf cX1_neutralOf 5 (some .int)) 6 2 4 D dA G [.ref t, .int (nI n)] W (QgI D dA (fun _ : Unit => W) (X_neutralOf f n)) := by
  refine zx_start (cc := cX1_neutralOf) (nL := 5) (ret := some .int) (own := RX1) (by decide) rfl rfl (Nat.le_of_ble_eq_true rfl) (fun p e s m args below meth c A hO hX hr hm _ => ?_)
  refine zg_sub (lv' := [(0, .ref t), (1, .int (nI n))]) [0, 1] rfl ?_
  refine zj_new (ci := 12) (fs := [.null, .int (nI 0), .int (nI 0)]) (C := RJ32) (T := TJ32) (M := 3) hO in_J32 tyJ32 tyJ32_ok q1279 q1280 q126 rfl (fun j hj => by rcases (show j = 0 ∨ j = 1 ∨ j = 2 by omega) with rfl | rfl | rfl <;> rfl) (Nat.le_of_ble_eq_true rfl) (Nat.le_of_ble_eq_true rfl) dX1_neutralOf_0 (fun bs => ?_)
  refine zg_dup hO dX1_neutralOf_3 rfl ?_
  refine zg_iconst hO dX1_neutralOf_4 ic5 ?_
  refine zx_callIv (na := 1) (As := [.int (nI 5)]) (rest := [.ref bs]) hO hX (m_bsinit l D dA G) rfl ⟨by decide +kernel, q1282, q126, q1283⟩ q1281 ⟨Nat.le_of_ble_eq_true rfl, Nat.le_of_ble_eq_true rfl⟩ ⟨Nat.le_of_ble_eq_true rfl, Nat.le_of_ble_eq_true rfl⟩ rfl rfl (Nat.le_of_ble_eq_true rfl) dX1_neutralOf_5 (fun w => ?_)
  refine zg_astore_n (lv' := [(2, .ref bs), (0, .ref t), (1, .int (nI n))]) hO dX1_neutralOf_8 rfl (Nat.le_of_ble_eq_true rfl) rfl ?_
  refine zg_aload_n hO 0 dX1_neutralOf_9 rfl rfl ?_
  refine zg_iconst hO dX1_neutralOf_10 ic0 ?_
  refine zg_iload_n hO 2 dX1_neutralOf_11 rfl rfl ?_
  refine zx_callVv (na := 2) (As := [.int (nI 0), .int (nI n)]) (rest := []) hO hX (m_bsset l D dA G h1 hn) mw_J32_set q1302 ⟨Nat.le_of_ble_eq_true rfl, Nat.le_of_ble_eq_true rfl⟩ ⟨Nat.le_of_ble_eq_true rfl, Nat.le_of_ble_eq_true rfl⟩ rfl rfl (Nat.le_of_ble_eq_true rfl) ⟨W.length, 12, _, _, ap0, rfl, rfl⟩ dX1_neutralOf_12 (fun _ => ?_)
  refine zg_iconst hO dX1_neutralOf_15 ic0 ?_
  refine zg_istore_n (lv' := [(3, .int (nI 0)), (2, .ref bs), (0, .ref t), (1, .int (nI n))]) hO dX1_neutralOf_16 rfl (Nat.le_of_ble_eq_true rfl) rfl ?_
  refine zg_sub (lv' := [(2, .ref bs), (3, .int (nI 0)), (0, .ref t), (1, .int (nI n))]) [1, 0, 2, 3] rfl ?_
  refine neu1_l (K := X_neu1 f n n 0 (2 ^ n - 1)) hO hX ht hn ⟨Nat.le_of_ble_eq_true rfl, Nat.le_of_ble_eq_true rfl⟩ (fun lv' hlv => ?_) n 0 (2 ^ n - 1) (by omega) (ne_two n hn) rfl
  subst hlv
  refine zg_aload_n hO 0 dX1_neutralOf_74 rfl rfl ?_
  refine zg_iconst hO dX1_neutralOf_75 ic0 ?_
  refine zx_callVi (na := 1) (As := [.int (nI 0)]) (rest := []) hO hX (m_bsnx l D dA G (neu1_lt n 0 _ (ne_two n hn))) mw_J32_nextSetBit q1341 ⟨Nat.le_of_ble_eq_true rfl, Nat.le_of_ble_eq_true rfl⟩ ⟨Nat.le_of_ble_eq_true rfl, Nat.le_of_ble_eq_true rfl⟩ rfl rfl (Nat.le_of_ble_eq_true rfl) ⟨W.length, 12, _, _, ap0, rfl, rfl⟩ dX1_neutralOf_76 (fun _ => ?_)
  refine zj_tail ?_
  exact zx_iret (f := fun _ : Unit => W) hO hr () rfl rfl ⟨Nat.le_of_ble_eq_true rfl, Nat.le_of_ble_eq_true rfl⟩ dX1_neutralOf_79
def X_ung (f : Nat → Int32) (n : Nat) : Nat → Nat → Option Int32
  | 0, _ => some (-1)
  | r + 1, k => (if nI 5 * f (5 * (k / (n * n)) + k / n % n) + nI (k % n) < 0 ∨ 25 ≤ (nI 5 * f (5 * (k / (n * n)) + k / n % n) + nI (k % n)).toNatClampNeg then none else
      (if nI 5 * nI (k / (n * n)) + f (5 * (k / n % n) + k % n) < 0 ∨ 25 ≤ (nI 5 * nI (k / (n * n)) + f (5 * (k / n % n) + k % n)).toNatClampNeg then none else
      (if f (nI 5 * f (5 * (k / (n * n)) + k / n % n) + nI (k % n)).toNatClampNeg = f (nI 5 * nI (k / (n * n)) + f (5 * (k / n % n) + k % n)).toNatClampNeg then X_ung f n r (k + 1) else some (nI k))))
def X_ungrouped (f : Nat → Int32) (n : Nat) : Option Int32 := X_ung f n (n * n * n) 0
theorem un_d0 : ∀ n : Nat, n < 6 → 1 ≤ n → ¬ nI n = 0 ∧ ¬ nI n * nI n = 0 := by decide +kernel
theorem un_d1 : ∀ n : Nat, n < 6 → 1 ≤ n → ∀ k : Nat, k < 126 → (nI n * nI n * nI n ≤ nI k ↔ n * n * n ≤ k) := by decide +kernel
theorem un_d2 : ∀ n : Nat, n < 6 → 1 ≤ n → ∀ k : Nat, k < 126 → nI k / (nI n * nI n) = nI (k / (n * n)) := by decide +kernel
theorem un_d3 : ∀ n : Nat, n < 6 → 1 ≤ n → ∀ k : Nat, k < 126 → nI k / nI n - nI k / nI n / nI n * nI n = nI (k / n % n) := by decide +kernel
theorem un_d4 : ∀ n : Nat, n < 6 → 1 ≤ n → ∀ k : Nat, k < 126 → nI k - nI k / nI n * nI n = nI (k % n) := by decide +kernel
theorem un_d5 : ∀ k : Nat, k < 126 → nI k + nI 1 = nI (k + 1) := by decide +kernel
theorem un_d (n : Nat) (hn : n < 6) (h1 : 1 ≤ n) : (¬ nI n = 0 ∧ ¬ nI n * nI n = 0) ∧ ∀ k : Nat, k < 126 → (nI n * nI n * nI n ≤ nI k ↔ n * n * n ≤ k) ∧ nI k / (nI n * nI n) = nI (k / (n * n)) ∧ nI k / nI n - nI k / nI n / nI n * nI n = nI (k / n % n) ∧ nI k - nI k / nI n * nI n = nI (k % n) ∧ nI k + nI 1 = nI (k + 1) := ⟨un_d0 n hn h1, fun k hk => ⟨un_d1 n hn h1 k hk, un_d2 n hn h1 k hk, un_d3 n hn h1 k hk, un_d4 n hn h1 k hk, un_d5 k hk⟩⟩
theorem un_b : ∀ n : Nat, n < 6 → 1 ≤ n → n * n * n < 126 ∧ ∀ k : Nat, k < n * n * n → k / (n * n) < 5 ∧ k / n % n < 5 ∧ k % n < 5 := by decide +kernel
theorem ung_l {p : Program} {l : Launch} {e : Env} {s : State} {m : MethodId} {args : Array Value} {below : List Frame} {meth : Method} {c : Code} {D : va_G} {dA : Nat → ClassId} {G : Nat → Nat} {A : Nat → Prop} (hO : Ok p s m args meth c cX1_ungrouped RX1 6 D dA A) (hX : XK dA G A s) (hr : meth.sig.returnType = some .int) {W : va_W} {k0 t n : Nat} {f : Nat → Int32} (ht : W[k0]? = some (t, .inl (dA 0, 25, .inl f))) (h1 : 1 ≤ n) (hn : n < 6) {ρ : Int32} : ∀ r k, r + k = n * n * n → X_ung f n r k = some ρ →
    Go p l e (rmG 0 0 0) s m args below meth c D A 6 (MQ below ((QgI D dA (fun _ : Unit => W) ρ) A) args s 0 0 A) W 0 0 2 [(2, .int (nI k)), (0, .ref t), (1, .int (nI n))] [] := by
  obtain ⟨⟨d1, d2⟩, d3⟩ := un_d n hn h1
  obtain ⟨b1, b2⟩ := un_b n hn h1
  intro r
  induction r with
  | zero =>
    intro k hk h
    obtain ⟨e1, e2, e3, e4, e5⟩ := d3 k (by omega)
    cases h
    refine zg_iload_n hO 0 dX1_ungrouped_2 rfl rfl ?_
    refine zg_iload_n hO 2 dX1_ungrouped_3 rfl rfl ?_
    refine zg_iload_n hO 2 dX1_ungrouped_4 rfl rfl ?_
    refine zg_imul hO dX1_ungrouped_5 ?_
    refine zg_iload_n hO 2 dX1_ungrouped_6 rfl rfl ?_
    refine zg_imul hO dX1_ungrouped_7 ?_
    refine zt_icmp_ge (tgt := 70) hO (e1.mpr (by omega)) dX1_ungrouped_8 (by decide) ?_
    refine zg_iconst hO dX1_ungrouped_70 icm1 ?_
    exact zx_iret (f := fun _ : Unit => W) hO hr () rfl rfl ⟨Nat.le_refl _, Nat.le_refl _⟩ dX1_ungrouped_71
  | succ r ih =>
    intro k hk h
    obtain ⟨e1, e2, e3, e4, e5⟩ := d3 k (by omega)
    obtain ⟨c1, c2, c3⟩ := b2 k (by omega)
    obtain ⟨i1, i2⟩ := ne_ix (k / (n * n)) c1 (k / n % n) c2
    obtain ⟨j1, j2⟩ := ne_ix (k / n % n) c2 (k % n) c3
    unfold X_ung at h
    obtain ⟨q1, h⟩ := zg_none h
    obtain ⟨q2, h⟩ := zg_none h
    refine zg_iload_n hO 0 dX1_ungrouped_2 rfl rfl ?_
    refine zg_iload_n hO 2 dX1_ungrouped_3 rfl rfl ?_
    refine zg_iload_n hO 2 dX1_ungrouped_4 rfl rfl ?_
    refine zg_imul hO dX1_ungrouped_5 ?_
    refine zg_iload_n hO 2 dX1_ungrouped_6 rfl rfl ?_
    refine zg_imul hO dX1_ungrouped_7 ?_
    refine zn_icmp_ge (tgt := 70) hO (fun h => absurd (e1.mp h) (by omega)) dX1_ungrouped_8 (by decide) ?_
    refine zg_iload_n hO 0 dX1_ungrouped_11 rfl rfl ?_
    refine zg_iload_n hO 2 dX1_ungrouped_12 rfl rfl ?_
    refine zg_iload_n hO 2 dX1_ungrouped_13 rfl rfl ?_
    refine zg_imul hO dX1_ungrouped_14 ?_
    refine zg_idiv (f := some ()) (z := ()) hO (if_neg d2) dX1_ungrouped_15 (fun _ => ?_)
    rw [e2]
    refine zg_istore_n (lv' := [(3, .int (nI (k / (n * n)))), (2, .int (nI k)), (0, .ref t), (1, .int (nI n))]) hO dX1_ungrouped_16 rfl (Nat.le_of_ble_eq_true rfl) rfl ?_
    refine zg_iload_n hO 1 dX1_ungrouped_17 rfl rfl ?_
    refine zg_iload_n hO 3 dX1_ungrouped_18 rfl rfl ?_
    refine zg_idiv (f := some ()) (z := ()) hO (if_neg d1) dX1_ungrouped_19 (fun _ => ?_)
    refine zg_iload_n hO 3 dX1_ungrouped_20 rfl rfl ?_
    refine zg_irem (f := some ()) (z := ()) hO (if_neg d1) dX1_ungrouped_21 (fun _ => ?_)
    rw [e3]
    refine zg_istore (lv' := [(4, .int (nI (k / n % n))), (3, .int (nI (k / (n * n)))), (2, .int (nI k)), (0, .ref t), (1, .int (nI n))]) hO dX1_ungrouped_22 (Nat.le_of_ble_eq_true rfl) rfl ?_
    refine zg_iload_n hO 2 dX1_ungrouped_24 rfl rfl ?_
    refine zg_iload_n hO 4 dX1_ungrouped_25 rfl rfl ?_
    refine zg_irem (f := some ()) (z := ()) hO (if_neg d1) dX1_ungrouped_26 (fun _ => ?_)
    rw [e4]
    refine zg_istore (lv' := [(5, .int (nI (k % n))), (4, .int (nI (k / n % n))), (3, .int (nI (k / (n * n)))), (2, .int (nI k)), (0, .ref t), (1, .int (nI n))]) hO dX1_ungrouped_27 (Nat.le_of_ble_eq_true rfl) rfl ?_
    refine zg_aload_n hO 4 dX1_ungrouped_29 rfl rfl ?_
    refine zg_iconst hO dX1_ungrouped_30 ic5 ?_
    refine zg_aload_n hO 4 dX1_ungrouped_31 rfl rfl ?_
    refine zg_iconst hO dX1_ungrouped_32 ic5 ?_
    refine zg_iload_n hO 2 dX1_ungrouped_33 rfl rfl ?_
    refine zg_imul hO dX1_ungrouped_34 ?_
    refine zg_iload hO 1 dX1_ungrouped_35 rfl ?_
    refine zg_iadd hO dX1_ungrouped_37 ?_
    refine zg_ild (g := some ()) (z := ()) hO (if_neg i1) k0 ht dX1_ungrouped_38 (fun _ => ?_)
    rw [i2]
    refine zg_imul hO dX1_ungrouped_39 ?_
    refine zg_iload hO 0 dX1_ungrouped_40 rfl ?_
    refine zg_iadd hO dX1_ungrouped_42 ?_
    refine zg_ild (g := some ()) (z := ()) hO (if_neg q1) k0 ht dX1_ungrouped_43 (fun _ => ?_)
    refine zg_aload_n hO 4 dX1_ungrouped_44 rfl rfl ?_
    refine zg_iconst hO dX1_ungrouped_45 ic5 ?_
    refine zg_iload_n hO 2 dX1_ungrouped_46 rfl rfl ?_
    refine zg_imul hO dX1_ungrouped_47 ?_
    refine zg_aload_n hO 4 dX1_ungrouped_48 rfl rfl ?_
    refine zg_iconst hO dX1_ungrouped_49 ic5 ?_
    refine zg_iload hO 1 dX1_ungrouped_50 rfl ?_
    refine zg_imul hO dX1_ungrouped_52 ?_
    refine zg_iload hO 0 dX1_ungrouped_53 rfl ?_
    refine zg_iadd hO dX1_ungrouped_55 ?_
    refine zg_ild (g := some ()) (z := ()) hO (if_neg j1) k0 ht dX1_ungrouped_56 (fun _ => ?_)
    rw [j2]
    refine zg_iadd hO dX1_ungrouped_57 ?_
    refine zg_ild (g := some ()) (z := ()) hO (if_neg q2) k0 ht dX1_ungrouped_58 (fun _ => ?_)
    by_cases hq : f (nI 5 * (f (5 * (k / (n * n)) + k / n % n)) + nI (k % n)).toNatClampNeg = f (nI 5 * nI (k / (n * n)) + (f (5 * (k / n % n) + k % n))).toNatClampNeg
    · rw [if_pos hq] at h
      refine zt_icmp_eq (tgt := 64) hO hq dX1_ungrouped_59 (by decide) ?_
      refine zg_iinc (k := 3) (lv' := [(2, .int ((nI k) + (nI 1))), (5, .int (nI (k % n))), (4, .int (nI (k / n % n))), (3, .int (nI (k / (n * n)))), (0, .ref t), (1, .int (nI n))]) hO dX1_ungrouped_64 rfl (zii ic1) (Nat.le_of_ble_eq_true rfl) rfl ?_
      refine zg_goto (tgt := 2) hO dX1_ungrouped_67 (by decide) ?_
      rw [e5]
      refine zg_sub (lv' := [(2, .int (nI (k + 1))), (0, .ref t), (1, .int (nI n))]) [0, 4, 5] rfl ?_
      exact ih (k + 1) (by omega) h
    · rw [if_neg hq] at h
      refine zn_icmp_eq (tgt := 64) hO hq dX1_ungrouped_59 (by decide) ?_
      refine zg_iload_n hO 3 dX1_ungrouped_62 rfl rfl ?_
      cases h
      exact zx_iret (f := fun _ : Unit => W) hO hr () rfl rfl ⟨Nat.le_refl _, Nat.le_refl _⟩ dX1_ungrouped_63
theorem mw_X1_ungrouped : MwS yX1_ungrouped cX1_ungrouped 6 (some .int) 2 := ⟨by decide +kernel, q1270, q85, q1271⟩
theorem m_X_ungrouped (l : Launch) (D : va_G) (dA : Nat → ClassId) (G : Nat → Nat) {W : va_W} {k0 t n : Nat} {f : Nat → Int32} (ht : W[k0]? = some (t, .inl (dA 0, 25, .inl f))) (h1 : 1 ≤ n) (hn : n < 6) {ρ : Int32} (h : X_ungrouped f n = some ρ) : CtX l yX1_ungrouped (ws_ yX1_ungrouped cX1_ungrouped 6 (some .int)) 0 0 0 D dA G [.ref t, .int (nI n)] W (QgI D dA (fun _ : Unit => W) ρ) := by
  refine zx_start (cc := cX1_ungrouped) (nL := 6) (ret := some .int) (own := RX1) (by decide) rfl rfl (Nat.le_of_ble_eq_true rfl) (fun p e s m args below meth c A hO hX hr hm _ => ?_)
  refine zg_sub (lv' := [(0, .ref t), (1, .int (nI n))]) [0, 1] rfl ?_
  refine zg_iconst hO dX1_ungrouped_0 ic0 ?_
  refine zg_istore_n (lv' := [(2, .int (nI 0)), (0, .ref t), (1, .int (nI n))]) hO dX1_ungrouped_1 rfl (Nat.le_of_ble_eq_true rfl) rfl ?_
  exact ung_l hO hX hr ht h1 hn (n * n * n) 0 rfl h
