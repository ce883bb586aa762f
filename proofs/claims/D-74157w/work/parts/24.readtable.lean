set_option maxRecDepth 100000
/-! readTable -/
def ch (t : Nat → Int32) (many i : Nat) : Int32 := if many ≤ i then -1 else t i &&& nI 255
def dgt (c : Int32) (n : Nat) : Bool := decide (nI 48 ≤ c ∧ c ≤ nI 48 + nI n - nI 1)
def X_rt1 (t : Nat → Int32) (many : Nat) : Nat → Nat → Nat
  | 0, n => n
  | r + 1, n => if dgt (ch t many n) 5 = true then X_rt1 t many r (n + 1) else n
def X_rt3 (t : Nat → Int32) (many n r : Nat) : Nat → Nat → Nat → (Nat → Int32) → (Nat → Int32) × (Nat ⊕ Nat)
  | 0, _, spot, f => (f, .inl spot)
  | x + 1, k, spot, f => if dgt (ch t many spot) n = true then X_rt3 t many n r x (k + 1) (spot + 1) (upd f (5 * r + k) (t spot - nI 48)) else (f, .inr spot)
def X_rt4 (g : Nat → (Nat → Int32) → (Nat → Int32) × (Nat ⊕ Nat)) : (Nat → Int32) × (Nat ⊕ Nat) → (Nat → Int32) × (Nat ⊕ Nat)
  | (f, .inl spot) => g spot f
  | (f, .inr a) => (f, .inr a)
def X_rt2 (t : Nat → Int32) (many n : Nat) : Nat → Nat → Nat → (Nat → Int32) → (Nat → Int32) × (Nat ⊕ Nat)
  | 0, _, spot, f => (f, .inl spot)
  | x + 1, r, spot, f => if r = 0 then X_rt4 (X_rt2 t many n x (r + 1)) (X_rt3 t many n r n 0 spot f) else
      if ch t many spot = nI 47 then X_rt4 (X_rt2 t many n x (r + 1)) (X_rt3 t many n r n 0 (spot + 1) f) else (f, .inr spot)
def X_readTable (t : Nat → Int32) (many : Nat) (f : Nat → Int32) : (Nat → Int32) × (Nat ⊕ Nat) :=
  if X_rt1 t many 5 0 = 0 then (f, .inr 0) else X_rt4 (fun spot f1 => if spot < many then (f1, .inr spot) else (f1, .inl (X_rt1 t many 5 0))) (X_rt2 t many (X_rt1 t many 5 0) (X_rt1 t many 5 0) 0 0 f)
theorem rt_le : ∀ a : Nat, a < 104 → ∀ b : Nat, b < 104 → (nI b ≤ nI a ↔ b ≤ a) := by decide +kernel
theorem rt_nat : ∀ a : Nat, a < 104 → (nI a).toNatClampNeg = a ∧ ¬ nI a < 0 := by decide +kernel
theorem rt_suc : ∀ a : Nat, a < 104 → nI a + nI 1 = nI (a + 1) := by decide +kernel
theorem rt_z : ∀ a : Nat, a < 104 → (nI a = 0 ↔ a = 0) ∧ (nI a ≤ 0 ↔ a = 0) := by decide +kernel
theorem rt_here {t : Nat → Int32} {σ : XS} (ht : t = xA σ 2) {i many : Nat} (hi : i ≤ 100) (hm : many ≤ 100) : X_here (nI i) (nI many) σ = some (ch t many i, σ) := by
  subst ht
  unfold X_here ch
  by_cases h : many ≤ i
  · rw [if_pos ((rt_le i (by omega) many (by omega)).mpr h), if_pos h]
  · rw [if_neg (fun z => h ((rt_le i (by omega) many (by omega)).mp z)), if_neg h, (rt_nat i (by omega)).1]
    rw [if_neg (fun z => by rcases z with z | z; exact (rt_nat i (by omega)).2 z; omega)]
theorem rt_64 (a b : Int32) : a.toInt64 < b.toInt64 ↔ a < b := by rw [Int64.lt_iff_toInt_lt, Int32.lt_iff_toInt_lt, Int32.toInt_toInt64, Int32.toInt_toInt64]
theorem rt_in (x : Int32) (n : Nat) : X_in x.toInt64 (48 : Int64) (nI 48 + nI n - nI 1).toInt64 = some (if dgt x n = true then nI 1 else nI 0) := by
  unfold X_in dgt
  have e : (48 : Int64) = (nI 48).toInt64 := by decide
  rw [e]
  by_cases h1 : x < nI 48
  · rw [if_pos ((lg_cmp_lt _ _).mpr ((rt_64 _ _).mpr h1)), if_neg (fun z => absurd (decide_eq_true_eq.mp z).1 (Int32.not_le.mpr h1))]
  · rw [if_neg (fun z => h1 ((rt_64 _ _).mp ((lg_cmp_lt _ _).mp z)))]
    by_cases h2 : nI 48 + nI n - nI 1 < x
    · rw [if_pos ((lg_cmp_gt _ _).mpr ((rt_64 _ _).mpr h2)), if_neg (fun z => absurd (decide_eq_true_eq.mp z).2 (Int32.not_le.mpr h2))]
    · rw [if_neg (fun z => h2 ((rt_64 _ _).mp ((lg_cmp_gt _ _).mp z))), if_pos (decide_eq_true ⟨Int32.not_lt.mp h1, Int32.not_lt.mp h2⟩)]
theorem rt_in5 (x : Int32) : X_in x.toInt64 (48 : Int64) (52 : Int64) = some (if dgt x 5 = true then nI 1 else nI 0) := rt_in x 5
theorem dgt_lt {t : Nat → Int32} {many i n : Nat} (h : dgt (ch t many i) n = true) : i < many := by
  refine Nat.lt_of_not_le fun hz => ?_
  unfold dgt ch at h
  rw [if_pos hz] at h
  exact absurd (decide_eq_true_eq.mp h).1 (by decide)
theorem sl_lt {t : Nat → Int32} {many i : Nat} (h : ch t many i = nI 47) : i < many := by
  refine Nat.lt_of_not_le fun hz => ?_
  unfold ch at h
  rw [if_pos hz] at h
  exact absurd h (by decide)
theorem rt1_le {t : Nat → Int32} {many : Nat} : ∀ r n, X_rt1 t many r n ≤ r + n := by
  intro r
  induction r with
  | zero => intro n; exact Nat.le_add_left _ _
  | succ r ih =>
    intro n
    unfold X_rt1
    split
    · have := ih (n + 1)
      omega
    · omega
theorem rt1_l {p : Program} {l : Launch} {e : Env} {s : State} {m : MethodId} {args : Array Value} {below : List Frame} {meth : Method} {c : Code} {D : va_G} {dA : Nat → ClassId} {G : Nat → Nat} {A : Nat → Prop} (hO : Ok p s m args meth c cX1_readTable RX1 7 D dA A) (hX : XK dA G A s) (hl9 : l.stackTraces = false) {Q : State → Prop} {tb : Nat} {ad : Nat → Nat} {σ : XS} {rd many : Nat} {t : Nat → Int32} (ht : t = xA σ 2) (hm : many ≤ 100) {f : Nat → Int32} {n9 : Nat} (kk : Go p l e (rmG 5 1 7) s m args below meth c D A 7 Q (WX dA G tb ad σ ++ [(rd, .inl (dA 0, 25, .inl f))]) 0 0 32 [(3, .int (nI n9)), (0, .ref (G 0)), (1, .ref rd), (2, .int (nI many))] []) : ∀ r n, r + n = 5 → X_rt1 t many r n = n9 → Go p l e (rmG 5 1 7) s m args below meth c D A 7 Q (WX dA G tb ad σ ++ [(rd, .inl (dA 0, 25, .inl f))]) 0 0 2 [(3, .int (nI n)), (0, .ref (G 0)), (1, .ref rd), (2, .int (nI many))] [] := by
  intro r
  induction r with
  | zero =>
    intro n hn h
    cases h
    have hn : n = 5 := by omega
    subst hn
    refine zg_iload_n hO 0 dX1_readTable_2 rfl rfl ?_
    refine zg_iconst hO dX1_readTable_3 ic5 ?_
    refine zt_icmp_ge (tgt := 32) hO (Int32.le_refl _) dX1_readTable_4 (by decide) ?_
    exact kk
  | succ r ih =>
    intro n hn h
    unfold X_rt1 at h
    refine zg_iload_n hO 0 dX1_readTable_2 rfl rfl ?_
    refine zg_iconst hO dX1_readTable_3 ic5 ?_
    refine zn_icmp_ge (tgt := 32) hO (fun z => absurd ((rt_le n (by omega) 5 (by omega)).mp z) (by omega)) dX1_readTable_4 (by decide) ?_
    refine zg_aload_n hO 1 dX1_readTable_7 rfl rfl ?_
    refine zg_iload_n hO 0 dX1_readTable_8 rfl rfl ?_
    refine zg_iload_n hO 3 dX1_readTable_9 rfl rfl ?_
    refine zx_callViX (na := 2) (As := [.int (nI n), .int (nI many)]) (rest := []) hO hX (m_X_here l D dA G tb ad (rt_here ht (by omega) hm)) mw_X1_here q1245 ⟨Nat.le_of_ble_eq_true rfl, Nat.le_of_ble_eq_true rfl⟩ ⟨Nat.le_of_ble_eq_true rfl, Nat.le_of_ble_eq_true rfl⟩ rfl rfl (Nat.le_of_ble_eq_true rfl) ⟨0, 1, _, _, rfl, rfl, rfl⟩ dX1_readTable_10 (fun _ => ?_)
    refine zg_i2l hO dX1_readTable_13 ?_
    refine zg_ldc2 (x := 48) hO q1249 dX1_readTable_14 ?_
    refine zg_ldc2 (x := 52) hO q1250 dX1_readTable_17 ?_
    refine zc_callS0i (As := [.long (ch t many n).toInt64, .long (48 : Int64), .long (52 : Int64)]) (rest := []) hO (m_X_in l D dA (rt_in5 _)) mw_X1_in q608 ⟨Nat.le_of_ble_eq_true rfl, Nat.le_of_ble_eq_true rfl⟩ ⟨Nat.le_of_ble_eq_true rfl, Nat.le_of_ble_eq_true rfl⟩ rfl rfl (Nat.le_of_ble_eq_true rfl) dX1_readTable_20 ?_
    by_cases hd : dgt (ch t many n) 5 = true
    · rw [if_pos hd] at h
      rw [if_pos hd]
      refine zn_if_eq (tgt := 32) hO (by decide) dX1_readTable_23 (by decide) ?_
      refine zg_iinc (k := 0) (lv' := [(3, .int ((nI n) + (nI 1))), (0, .ref (G 0)), (1, .ref rd), (2, .int (nI many))]) hO dX1_readTable_26 rfl (zii ic1) (Nat.le_of_ble_eq_true rfl) rfl ?_
      refine zg_goto (tgt := 2) hO dX1_readTable_29 (by decide) ?_
      rw [rt_suc n (by omega)]
      exact ih (n + 1) (by omega) h
    · rw [if_neg hd] at h
      subst h
      rw [if_neg hd]
      refine zt_if_eq (tgt := 32) hO (by decide) dX1_readTable_23 (by decide) ?_
      exact kk
theorem rt3_l {p : Program} {l : Launch} {e : Env} {s : State} {m : MethodId} {args : Array Value} {below : List Frame} {meth : Method} {c : Code} {D : va_G} {dA : Nat → ClassId} {G : Nat → Nat} {A : Nat → Prop} (hO : Ok p s m args meth c cX1_readTable RX1 7 D dA A) (hX : XK dA G A s) (hl9 : l.stackTraces = false) {Q : State → Prop} {tb : Nat} {ad : Nat → Nat} {σ : XS} {rd many : Nat} {t : Nat → Int32} (ht : t = xA σ 2) (hm : many ≤ 100) {n r : Nat} (hn : n < 6) (hr : r < n) {P : (Nat → Int32) × (Nat ⊕ Nat)} (kk : ∀ (f9 : Nat → Int32) (sp : Nat), P = (f9, .inl sp) → sp ≤ many → Go p l e (rmG 5 1 7) s m args below meth c D A 7 Q (WX dA G tb ad σ ++ [(rd, .inl (dA 0, 25, .inl f9))]) 0 0 158 [(5, .int (nI r)), (3, .int (nI n)), (4, .int (nI sp)), (0, .ref (G 0)), (1, .ref rd), (2, .int (nI many))] [])
    (kx : ∀ (pc : Nat) (lv : List (Nat × Value)) (f9 : Nat → Int32) (a q : Nat), P = (f9, .inr a) → GoX p l e (rmG 5 1 7) s m args below meth c D A 7 Q (WX dA G tb ad σ ++ [(rd, .inl (dA 0, 25, .inl f9))] ++ [(q, .inr (16, [.int (nI a)]))]) 1 7 pc lv [] q) : ∀ x k spot f, x + k = n → spot ≤ many → X_rt3 t many n r x k spot f = P → Go p l e (rmG 5 1 7) s m args below meth c D A 7 Q (WX dA G tb ad σ ++ [(rd, .inl (dA 0, 25, .inl f))]) 0 0 90 [(6, .int (nI k)), (3, .int (nI n)), (4, .int (nI spot)), (5, .int (nI r)), (0, .ref (G 0)), (1, .ref rd), (2, .int (nI many))] [] := by
  intro x
  induction x with
  | zero =>
    intro k spot f hk hsp h
    have hk : k = n := by omega
    subst hk
    refine zg_iload hO 0 dX1_readTable_90 rfl ?_
    refine zg_iload_n hO 1 dX1_readTable_92 rfl rfl ?_
    refine zt_icmp_ge (tgt := 158) hO (Int32.le_refl _) dX1_readTable_93 (by decide) ?_
    refine zg_sub (lv' := [(5, .int (nI r)), (3, .int (nI k)), (4, .int (nI spot)), (0, .ref (G 0)), (1, .ref rd), (2, .int (nI many))]) [3, 1, 2, 4, 5, 6] rfl ?_
    exact kk f spot h.symm hsp
  | succ x ih =>
    intro k spot f hk hsp h
    unfold X_rt3 at h
    refine zg_iload hO 0 dX1_readTable_90 rfl ?_
    refine zg_iload_n hO 1 dX1_readTable_92 rfl rfl ?_
    refine zn_icmp_ge (tgt := 158) hO (fun z => absurd ((rt_le k (by omega) n (by omega)).mp z) (by omega)) dX1_readTable_93 (by decide) ?_
    refine zg_aload_n hO 4 dX1_readTable_96 rfl rfl ?_
    refine zg_iload hO 2 dX1_readTable_97 rfl ?_
    refine zg_iload_n hO 6 dX1_readTable_99 rfl rfl ?_
    refine zx_callViX (na := 2) (As := [.int (nI spot), .int (nI many)]) (rest := []) hO hX (m_X_here l D dA G tb ad (rt_here ht (by omega) hm)) mw_X1_here q1245 ⟨Nat.le_of_ble_eq_true rfl, Nat.le_of_ble_eq_true rfl⟩ ⟨Nat.le_of_ble_eq_true rfl, Nat.le_of_ble_eq_true rfl⟩ rfl rfl (Nat.le_of_ble_eq_true rfl) ⟨0, 1, _, _, rfl, rfl, rfl⟩ dX1_readTable_100 (fun _ => ?_)
    refine zg_i2l hO dX1_readTable_103 ?_
    refine zg_ldc2 (x := 48) hO q1249 dX1_readTable_104 ?_
    refine zg_bipush hO dX1_readTable_107 (by decide : (Int8.ofInt 48).toInt32 = nI 48) ?_
    refine zg_iload_n hO 1 dX1_readTable_109 rfl rfl ?_
    refine zg_iadd hO dX1_readTable_110 ?_
    refine zg_iconst hO dX1_readTable_111 ic1 ?_
    refine zg_isub hO dX1_readTable_112 ?_
    refine zg_i2l hO dX1_readTable_113 ?_
    refine zc_callS0i (As := [.long (ch t many spot).toInt64, .long (48 : Int64), .long (nI 48 + nI n - nI 1).toInt64]) (rest := []) hO (m_X_in l D dA (rt_in _ n)) mw_X1_in q608 ⟨Nat.le_of_ble_eq_true rfl, Nat.le_of_ble_eq_true rfl⟩ ⟨Nat.le_of_ble_eq_true rfl, Nat.le_of_ble_eq_true rfl⟩ rfl rfl (Nat.le_of_ble_eq_true rfl) dX1_readTable_114 ?_
    by_cases hd : dgt (ch t many spot) n = true
    · rw [if_pos hd] at h
      have hlt := dgt_lt hd
      obtain ⟨i1, i2⟩ := ne_ix r (by omega) k (by omega)
      rw [if_pos hd]
      refine zt_if_ne (tgt := 130) hO (by decide) dX1_readTable_117 (by decide) ?_
      refine zg_aload_n hO 5 dX1_readTable_130 rfl rfl ?_
      refine zg_iconst hO dX1_readTable_131 ic5 ?_
      refine zg_iload hO 3 dX1_readTable_132 rfl ?_
      refine zg_imul hO dX1_readTable_134 ?_
      refine zg_iload hO 0 dX1_readTable_135 rfl ?_
      refine zg_iadd hO dX1_readTable_137 ?_
      refine zg_aload_n hO 4 dX1_readTable_138 rfl rfl ?_
      refine zg_get hO fX_1_176 0 rfl rfl dX1_readTable_139 ?_
      refine zg_iload hO 2 dX1_readTable_142 rfl ?_
      refine zg_bld (g := some ()) (z := ()) hO (if_neg (fun z => by rcases z with z | z; exact (rt_nat spot (by omega)).2 z; rw [(rt_nat spot (by omega)).1] at z; omega)) 57 (apW (x := (G 65, _)) (W := WX dA G tb ad σ) rfl) dX1_readTable_144 (fun _ => ?_)
      rw [(rt_nat spot (by omega)).1, ← ht]
      refine zg_bipush hO dX1_readTable_145 (by decide : (Int8.ofInt 48).toInt32 = nI 48) ?_
      refine zg_isub hO dX1_readTable_147 ?_
      refine zg_ist (ws' := (WX dA G tb ad σ ++ [(rd, .inl (dA 0, 25, .inl (upd f (5 * r + k) (t spot - nI 48))))])) (g := some ()) (z := ()) hO (if_neg i1) (WX dA G tb ad σ).length ap0 (by rw [i2]; exact as0) dX1_readTable_148 (fun _ => ?_)
      refine zg_iinc (k := 2) (lv' := [(4, .int ((nI spot) + (nI 1))), (6, .int (nI k)), (3, .int (nI n)), (5, .int (nI r)), (0, .ref (G 0)), (1, .ref rd), (2, .int (nI many))]) hO dX1_readTable_149 rfl (zii ic1) (Nat.le_of_ble_eq_true rfl) rfl ?_
      refine zg_iinc (k := 1) (lv' := [(6, .int ((nI k) + (nI 1))), (4, .int ((nI spot) + (nI 1))), (3, .int (nI n)), (5, .int (nI r)), (0, .ref (G 0)), (1, .ref rd), (2, .int (nI many))]) hO dX1_readTable_152 rfl (zii ic1) (Nat.le_of_ble_eq_true rfl) rfl ?_
      refine zg_goto (tgt := 90) hO dX1_readTable_155 (by decide) ?_
      rw [rt_suc spot (by omega), rt_suc k (by omega)]
      refine zg_sub (lv' := [(6, .int (nI (k + 1))), (3, .int (nI n)), (4, .int (nI (spot + 1))), (5, .int (nI r)), (0, .ref (G 0)), (1, .ref rd), (2, .int (nI many))]) [0, 2, 1, 3, 4, 5, 6] rfl ?_
      exact ih (k + 1) (spot + 1) _ (by omega) (by omega) h
    · rw [if_neg hd] at h
      rw [if_neg hd]
      refine zn_if_ne (tgt := 130) hO (by decide) dX1_readTable_117 (by decide) ?_
      refine zq_new hO q1240 (Nat.le_of_ble_eq_true rfl) (Nat.le_of_ble_eq_true rfl) dX1_readTable_120 (fun q => ?_)
      refine zq_dup hO dX1_readTable_123 ?_
      refine zq_il hO 2 dX1_readTable_124 rfl ?_
      refine zq_init hO hX hl9 q1259 ⟨Nat.le_of_ble_eq_true rfl, Nat.le_of_ble_eq_true rfl⟩ ⟨Nat.le_of_ble_eq_true rfl, Nat.le_of_ble_eq_true rfl⟩ (Nat.le_of_ble_eq_true rfl) dX1_readTable_126 ?_
      refine zq_throw hO dX1_readTable_129 ?_
      exact kx _ _ _ _ q h.symm
theorem rt2_l {p : Program} {l : Launch} {e : Env} {s : State} {m : MethodId} {args : Array Value} {below : List Frame} {meth : Method} {c : Code} {D : va_G} {dA : Nat → ClassId} {G : Nat → Nat} {A : Nat → Prop} (hO : Ok p s m args meth c cX1_readTable RX1 7 D dA A) (hX : XK dA G A s) (hl9 : l.stackTraces = false) {Q : State → Prop} {tb : Nat} {ad : Nat → Nat} {σ : XS} {rd many : Nat} {t : Nat → Int32} (ht : t = xA σ 2) (hm : many ≤ 100) {n : Nat} (hn : n < 6) {P : (Nat → Int32) × (Nat ⊕ Nat)} (kk : ∀ (f9 : Nat → Int32) (sp : Nat), P = (f9, .inl sp) → sp ≤ many → Go p l e (rmG 5 1 7) s m args below meth c D A 7 Q (WX dA G tb ad σ ++ [(rd, .inl (dA 0, 25, .inl f9))]) 0 0 164 [(3, .int (nI n)), (4, .int (nI sp)), (0, .ref (G 0)), (1, .ref rd), (2, .int (nI many))] [])
    (kx : ∀ (pc : Nat) (lv : List (Nat × Value)) (f9 : Nat → Int32) (a q : Nat), P = (f9, .inr a) → GoX p l e (rmG 5 1 7) s m args below meth c D A 7 Q (WX dA G tb ad σ ++ [(rd, .inl (dA 0, 25, .inl f9))] ++ [(q, .inr (16, [.int (nI a)]))]) 1 7 pc lv [] q) : ∀ x r spot f, x + r = n → spot ≤ many → X_rt2 t many n x r spot f = P → Go p l e (rmG 5 1 7) s m args below meth c D A 7 Q (WX dA G tb ad σ ++ [(rd, .inl (dA 0, 25, .inl f))]) 0 0 51 [(5, .int (nI r)), (3, .int (nI n)), (4, .int (nI spot)), (0, .ref (G 0)), (1, .ref rd), (2, .int (nI many))] [] := by
  intro x
  induction x with
  | zero =>
    intro r spot f hk hsp h
    have hk : r = n := by omega
    subst hk
    refine zg_iload hO 0 dX1_readTable_51 rfl ?_
    refine zg_iload_n hO 1 dX1_readTable_53 rfl rfl ?_
    refine zt_icmp_ge (tgt := 164) hO (Int32.le_refl _) dX1_readTable_54 (by decide) ?_
    refine zg_sub (lv' := [(3, .int (nI r)), (4, .int (nI spot)), (0, .ref (G 0)), (1, .ref rd), (2, .int (nI many))]) [1, 2, 3, 4, 5] rfl ?_
    exact kk f spot h.symm hsp
  | succ x ih =>
    intro r spot f hk hsp h
    unfold X_rt2 at h
    refine zg_iload hO 0 dX1_readTable_51 rfl ?_
    refine zg_iload_n hO 1 dX1_readTable_53 rfl rfl ?_
    refine zn_icmp_ge (tgt := 164) hO (fun z => absurd ((rt_le r (by omega) n (by omega)).mp z) (by omega)) dX1_readTable_54 (by decide) ?_
    refine zg_iload hO 0 dX1_readTable_57 rfl ?_
    by_cases h0 : r = 0
    · rw [if_pos h0] at h
      refine zt_if_le (tgt := 87) hO ((rt_z r (by omega)).2.mpr h0) dX1_readTable_59 (by decide) ?_
      refine zg_iconst hO dX1_readTable_87 ic0 ?_
      refine zg_istore (lv' := [(6, .int (nI 0)), (5, .int (nI r)), (3, .int (nI n)), (4, .int (nI spot)), (0, .ref (G 0)), (1, .ref rd), (2, .int (nI many))]) hO dX1_readTable_88 (Nat.le_of_ble_eq_true rfl) rfl ?_
      refine zg_sub (lv' := [(6, .int (nI 0)), (3, .int (nI n)), (4, .int (nI spot)), (5, .int (nI r)), (0, .ref (G 0)), (1, .ref rd), (2, .int (nI many))]) [0, 2, 3, 1, 4, 5, 6] rfl ?_
      refine rt3_l hO hX hl9 ht hm hn (by omega) (P := X_rt3 t many n r n 0 spot f) (fun f9 sp hp hsp2 => ?_) (fun pc lv f9 a q hp => ?_) n 0 spot f (by omega) hsp rfl
      · rw [hp] at h
        refine zg_iinc (k := 0) (lv' := [(5, .int ((nI r) + (nI 1))), (3, .int (nI n)), (4, .int (nI sp)), (0, .ref (G 0)), (1, .ref rd), (2, .int (nI many))]) hO dX1_readTable_158 rfl (zii ic1) (Nat.le_of_ble_eq_true rfl) rfl ?_
        refine zg_goto (tgt := 51) hO dX1_readTable_161 (by decide) ?_
        rw [rt_suc r (by omega)]
        refine zg_sub (lv' := [(5, .int (nI (r + 1))), (3, .int (nI n)), (4, .int (nI sp)), (0, .ref (G 0)), (1, .ref rd), (2, .int (nI many))]) [0, 1, 2, 3, 4, 5] rfl ?_
        exact ih (r + 1) sp f9 (by omega) hsp2 h
      · rw [hp] at h
        exact kx pc lv f9 a q h.symm
    · rw [if_neg h0] at h
      refine zn_if_le (tgt := 87) hO (fun z => h0 ((rt_z r (by omega)).2.mp z)) dX1_readTable_59 (by decide) ?_
      refine zg_aload_n hO 3 dX1_readTable_62 rfl rfl ?_
      refine zg_iload hO 2 dX1_readTable_63 rfl ?_
      refine zg_iload_n hO 5 dX1_readTable_65 rfl rfl ?_
      refine zx_callViX (na := 2) (As := [.int (nI spot), .int (nI many)]) (rest := []) hO hX (m_X_here l D dA G tb ad (rt_here ht (by omega) hm)) mw_X1_here q1245 ⟨Nat.le_of_ble_eq_true rfl, Nat.le_of_ble_eq_true rfl⟩ ⟨Nat.le_of_ble_eq_true rfl, Nat.le_of_ble_eq_true rfl⟩ rfl rfl (Nat.le_of_ble_eq_true rfl) ⟨0, 1, _, _, rfl, rfl, rfl⟩ dX1_readTable_66 (fun _ => ?_)
      refine zg_bipush hO dX1_readTable_69 (by decide : (Int8.ofInt 47).toInt32 = nI 47) ?_
      by_cases hs : ch t many spot = nI 47
      · rw [if_pos hs] at h
        have hlt := sl_lt hs
        refine zt_icmp_eq (tgt := 84) hO hs dX1_readTable_71 (by decide) ?_
        refine zg_iinc (k := 2) (lv' := [(4, .int ((nI spot) + (nI 1))), (5, .int (nI r)), (3, .int (nI n)), (0, .ref (G 0)), (1, .ref rd), (2, .int (nI many))]) hO dX1_readTable_84 rfl (zii ic1) (Nat.le_of_ble_eq_true rfl) rfl ?_
        rw [rt_suc spot (by omega)]
        refine zg_iconst hO dX1_readTable_87 ic0 ?_
        refine zg_istore (lv' := [(6, .int (nI 0)), (4, .int (nI (spot + 1))), (5, .int (nI r)), (3, .int (nI n)), (0, .ref (G 0)), (1, .ref rd), (2, .int (nI many))]) hO dX1_readTable_88 (Nat.le_of_ble_eq_true rfl) rfl ?_
        refine zg_sub (lv' := [(6, .int (nI 0)), (3, .int (nI n)), (4, .int (nI (spot + 1))), (5, .int (nI r)), (0, .ref (G 0)), (1, .ref rd), (2, .int (nI many))]) [0, 3, 1, 2, 4, 5, 6] rfl ?_
        refine rt3_l hO hX hl9 ht hm hn (by omega) (P := X_rt3 t many n r n 0 (spot + 1) f) (fun f9 sp hp hsp2 => ?_) (fun pc lv f9 a q hp => ?_) n 0 (spot + 1) f (by omega) (by omega) rfl
        · rw [hp] at h
          refine zg_iinc (k := 0) (lv' := [(5, .int ((nI r) + (nI 1))), (3, .int (nI n)), (4, .int (nI sp)), (0, .ref (G 0)), (1, .ref rd), (2, .int (nI many))]) hO dX1_readTable_158 rfl (zii ic1) (Nat.le_of_ble_eq_true rfl) rfl ?_
          refine zg_goto (tgt := 51) hO dX1_readTable_161 (by decide) ?_
          rw [rt_suc r (by omega)]
          refine zg_sub (lv' := [(5, .int (nI (r + 1))), (3, .int (nI n)), (4, .int (nI sp)), (0, .ref (G 0)), (1, .ref rd), (2, .int (nI many))]) [0, 1, 2, 3, 4, 5] rfl ?_
          exact ih (r + 1) sp f9 (by omega) hsp2 h
        · rw [hp] at h
          exact kx pc lv f9 a q h.symm
      · rw [if_neg hs] at h
        refine zn_icmp_eq (tgt := 84) hO hs dX1_readTable_71 (by decide) ?_
        refine zq_new hO q1240 (Nat.le_of_ble_eq_true rfl) (Nat.le_of_ble_eq_true rfl) dX1_readTable_74 (fun q => ?_)
        refine zq_dup hO dX1_readTable_77 ?_
        refine zq_il hO 2 dX1_readTable_78 rfl ?_
        refine zq_init hO hX hl9 q1259 ⟨Nat.le_of_ble_eq_true rfl, Nat.le_of_ble_eq_true rfl⟩ ⟨Nat.le_of_ble_eq_true rfl, Nat.le_of_ble_eq_true rfl⟩ (Nat.le_of_ble_eq_true rfl) dX1_readTable_80 ?_
        refine zq_throw hO dX1_readTable_83 ?_
        exact kx _ _ _ _ q h.symm
theorem m_X_readTable (l : Launch) (hl9 : l.stackTraces = false) (D : va_G) (dA : Nat → ClassId) (G : Nat → Nat) {tb : Nat} {ad : Nat → Nat} {σ : XS} {rd many : Nat} (hm : many ≤ 100) {f : Nat → Int32} {P : (Nat → Int32) × (Nat ⊕ Nat)} (h : X_readTable (xA σ 2) many f = P) {ρ : Int32} (hρ : ∀ f9 n, P = (f9, .inl n) → ρ = nI n) :
    CtE l yX1_readTable (ws_ yX1_readTable cX1_readTable 7 (some .int)) 5 1 7 D dA G [.ref (G 0), .ref rd, .int (nI many)] (WX dA G tb ad σ ++ [(rd, .inl (dA 0, 25, .inl f))]) (QgI D dA (fun z : {z : Nat // ∃ n, P = (P.1, .inl n)} => (WX dA G tb ad σ ++ [(rd, .inl (dA 0, 25, .inl P.1))])) ρ) (XgF D dA RX6 (fun (z : {a : Nat // P = (P.1, .inr a)}) q => WX dA G tb ad σ ++ [(rd, .inl (dA 0, 25, .inl P.1))] ++ [(q, .inr (16, [.int (nI z.1)]))])) := by
  refine zx_startE (cc := cX1_readTable) (nL := 7) (ret := some .int) (own := RX1) (by decide) rfl rfl (Nat.le_of_ble_eq_true rfl) (fun p e s m args below meth c A hO hX htab hr hm9 _ => ?_)
  refine zg_sub (lv' := [(0, .ref (G 0)), (1, .ref rd), (2, .int (nI many))]) [0, 1, 2] rfl ?_
  have ht : xA σ 2 = xA σ 2 := rfl
  have kx : ∀ (pc : Nat) (lv : List (Nat × Value)) (f9 : Nat → Int32) (a q : Nat), P = (f9, .inr a) → GoX p l e (rmG 5 1 7) s m args below meth c D A 7 (vq_MQ below (QgI D dA (fun z : {z : Nat // ∃ n, P = (P.1, .inl n)} => (WX dA G tb ad σ ++ [(rd, .inl (dA 0, 25, .inl P.1))])) ρ A) (XgF D dA RX6 (fun (z : {a : Nat // P = (P.1, .inr a)}) q => WX dA G tb ad σ ++ [(rd, .inl (dA 0, 25, .inl P.1))] ++ [(q, .inr (16, [.int (nI z.1)]))]) A) args s 1 7 A) (WX dA G tb ad σ ++ [(rd, .inl (dA 0, 25, .inl f9))] ++ [(q, .inr (16, [.int (nI a)]))]) 1 7 pc lv [] q := by
    intro pc lv f9 a q hp
    subst hp
    exact zq_out hO htab ⟨a, rfl⟩ (WX dA G tb ad σ ++ ([(rd, .inl (dA 0, 25, .inl f9))] : va_W)).length ap0 rfl rfl ⟨Nat.le_refl _, Nat.le_refl _⟩
  unfold X_readTable at h
  have hn5 := rt1_le (t := xA σ 2) (many := many) 5 0
  generalize h1 : X_rt1 (xA σ 2) many 5 0 = n at h hn5
  refine zg_iconst hO dX1_readTable_0 ic0 ?_
  refine zg_istore_n (lv' := [(3, .int (nI 0)), (0, .ref (G 0)), (1, .ref rd), (2, .int (nI many))]) hO dX1_readTable_1 rfl (Nat.le_of_ble_eq_true rfl) rfl ?_
  refine rt1_l hO hX hl9 ht hm (n9 := n) ?_ 5 0 rfl h1
  refine zg_iload_n hO 0 dX1_readTable_32 rfl rfl ?_
  by_cases h0 : n = 0
  · rw [if_pos h0] at h
    refine zn_if_ne (tgt := 45) hO ((rt_z n (by omega)).1.mpr h0) dX1_readTable_33 (by decide) ?_
    refine zq_new hO q1240 (Nat.le_of_ble_eq_true rfl) (Nat.le_of_ble_eq_true rfl) dX1_readTable_36 (fun q => ?_)
    refine zq_dup hO dX1_readTable_39 ?_
    refine zq_ic hO dX1_readTable_40 ic0 ?_
    refine zq_init hO hX hl9 q1259 ⟨Nat.le_of_ble_eq_true rfl, Nat.le_of_ble_eq_true rfl⟩ ⟨Nat.le_of_ble_eq_true rfl, Nat.le_of_ble_eq_true rfl⟩ (Nat.le_of_ble_eq_true rfl) dX1_readTable_41 ?_
    refine zq_throw hO dX1_readTable_44 ?_
    exact kx _ _ _ _ q h.symm
  · rw [if_neg h0] at h
    refine zt_if_ne (tgt := 45) hO (fun z => h0 ((rt_z n (by omega)).1.mp z)) dX1_readTable_33 (by decide) ?_
    refine zg_iconst hO dX1_readTable_45 ic0 ?_
    refine zg_istore (lv' := [(4, .int (nI 0)), (3, .int (nI n)), (0, .ref (G 0)), (1, .ref rd), (2, .int (nI many))]) hO dX1_readTable_46 (Nat.le_of_ble_eq_true rfl) rfl ?_
    refine zg_iconst hO dX1_readTable_48 ic0 ?_
    refine zg_istore (lv' := [(5, .int (nI 0)), (4, .int (nI 0)), (3, .int (nI n)), (0, .ref (G 0)), (1, .ref rd), (2, .int (nI many))]) hO dX1_readTable_49 (Nat.le_of_ble_eq_true rfl) rfl ?_
    refine zg_sub (lv' := [(5, .int (nI 0)), (3, .int (nI n)), (4, .int (nI 0)), (0, .ref (G 0)), (1, .ref rd), (2, .int (nI many))]) [0, 2, 1, 3, 4, 5] rfl ?_
    refine rt2_l hO hX hl9 ht hm (by omega) (P := X_rt2 (xA σ 2) many n n 0 0 f) (fun f9 sp hp hsp => ?_) (fun pc lv f9 a q hp => ?_) n 0 0 f rfl (Nat.zero_le _) rfl
    · rw [hp] at h
      have h : (if sp < many then ((f9, .inr sp) : (Nat → Int32) × (Nat ⊕ Nat)) else (f9, .inl n)) = P := h
      refine zg_iload hO 1 dX1_readTable_164 rfl ?_
      refine zg_iload_n hO 4 dX1_readTable_166 rfl rfl ?_
      by_cases hlt : sp < many
      · rw [if_pos hlt] at h
        refine zn_icmp_ge (tgt := 180) hO (fun z => absurd ((rt_le sp (by omega) many (by omega)).mp z) (by omega)) dX1_readTable_167 (by decide) ?_
        refine zq_new hO q1240 (Nat.le_of_ble_eq_true rfl) (Nat.le_of_ble_eq_true rfl) dX1_readTable_170 (fun q => ?_)
        refine zq_dup hO dX1_readTable_173 ?_
        refine zq_il hO 1 dX1_readTable_174 rfl ?_
        refine zq_init hO hX hl9 q1259 ⟨Nat.le_of_ble_eq_true rfl, Nat.le_of_ble_eq_true rfl⟩ ⟨Nat.le_of_ble_eq_true rfl, Nat.le_of_ble_eq_true rfl⟩ (Nat.le_of_ble_eq_true rfl) dX1_readTable_176 ?_
        refine zq_throw hO dX1_readTable_179 ?_
        exact kx _ _ _ _ q h.symm
      · rw [if_neg hlt] at h
        subst h
        refine zt_icmp_ge (tgt := 180) hO ((rt_le sp (by omega) many (by omega)).mpr (by omega)) dX1_readTable_167 (by decide) ?_
        refine zg_iload_n hO 0 dX1_readTable_180 rfl rfl ?_
        exact zq_ret (zx_iret (f := fun z : {z : Nat // ∃ n9, ((f9, .inl n) : (Nat → Int32) × (Nat ⊕ Nat)) = (f9, .inl n9)} => (WX dA G tb ad σ ++ [(rd, .inl (dA 0, 25, .inl f9))])) hO hr ⟨0, n, rfl⟩ rfl (hρ f9 n rfl).symm ⟨Nat.zero_le _, Nat.zero_le _⟩ dX1_readTable_181)
    · rw [hp] at h
      exact kx pc lv f9 a q h.symm
