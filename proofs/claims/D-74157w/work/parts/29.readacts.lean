set_option maxRecDepth 100000
/-! readActs -/
def X_ra1 (t : Nat → Int32) (many : Nat) : Nat → Nat → Nat
  | 0, s => s
  | r + 1, s => if ch t many s = nI 32 then X_ra1 t many r (s + 1) else s
def X_ra3 (t : Nat → Int32) (many : Nat) : Nat → Nat → Nat → Nat → (Nat × Nat × Nat) ⊕ Nat
  | 0, d, v, s => if dgt (ch t many s) 10 = true then .inr s else .inl (d, v, s)
  | r + 1, d, v, s => if dgt (ch t many s) 10 = true then X_ra3 t many r (d + 1) (10 * v + ((ch t many s).toNatClampNeg - 48)) (s + 1) else .inl (d, v, s)
def X_ra6 (k : Nat → List Nat → List Nat ⊕ Nat) (c : Nat) (acc : List Nat) : (Nat × Nat × Nat) ⊕ Nat → List Nat ⊕ Nat
  | .inl (d, v, s) => if d = 0 then .inr s else k s (acc ++ [c, v])
  | .inr a => .inr a
def X_ra5 (k : Nat → List Nat → List Nat ⊕ Nat) (t : Nat → Int32) (many s : Nat) (acc : List Nat) (c : Nat) : List Nat ⊕ Nat :=
  if 0 ≤ ixF c then (if c = 102 ∨ c = 98 then X_ra6 k c acc (X_ra3 t many 4 0 0 (s + 1)) else k (s + 1) (acc ++ [c, 0])) else .inr s
def X_ra4 (t : Nat → Int32) (many : Nat) : Nat → Nat → List Nat → List Nat ⊕ Nat
  | 0, _, acc => .inl acc
  | r + 1, s, acc => if X_ra1 t many (many + 1) s = many then .inl acc else X_ra5 (X_ra4 t many r) t many (X_ra1 t many (many + 1) s) acc (ch t many (X_ra1 t many (many + 1) s)).toNatClampNeg
def X_readActs (t : Nat → Int32) (many : Nat) : List Nat ⊕ Nat := X_ra4 t many 101 0 []
theorem nI_bv {x : Int32} {c : Nat} (h : x.toBitVec = BitVec.ofNat 32 c) : x = nI c := Int32.toBitVec_inj.mp h
theorem ra_ch {t : Nat → Int32} {many s : Nat} (h : s < many) : ∃ c, c < 256 ∧ ch t many s = nI c := by
  unfold ch
  rw [if_neg (by omega)]
  refine ⟨(t s &&& nI 255).toBitVec.toNat, ?_, nI_bv (BitVec.eq_of_toNat_eq ?_)⟩
  · rw [Int32.toBitVec_and, BitVec.toNat_and]
    exact Nat.lt_of_le_of_lt Nat.and_le_right (by decide)
  · rw [BitVec.toNat_ofNat, Nat.mod_eq_of_lt (BitVec.isLt _)]
theorem ra_256 : ∀ c : Nat, c < 256 → (nI c).toNatClampNeg = c ∧ ((nI c).toUInt32 % 65536).toInt32 = nI c ∧ (nI c = nI 102 ↔ c = 102) ∧ (nI c = nI 98 ↔ c = 98) ∧ (dgt (nI c) 10 = true → 48 ≤ c ∧ c ≤ 57) := by decide +kernel
theorem rt_in10 (x : Int32) : X_in x.toInt64 (48 : Int64) (57 : Int64) = some (if dgt x 10 = true then nI 1 else nI 0) := rt_in x 10
theorem sp_lt {t : Nat → Int32} {many i : Nat} (h : ch t many i = nI 32) : i < many := by
  refine Nat.lt_of_not_le fun hz => ?_
  unfold ch at h
  rw [if_pos hz] at h
  exact absurd h (by decide)
theorem rI_add (a b : Nat) : nI (a + b) = nI a + nI b := Int32.ofNat_add a b
theorem rI_mul (a b : Nat) : nI (a * b) = nI a * nI b := Int32.ofNat_mul a b
theorem ra_dig {v c : Nat} (h : 48 ≤ c) : nI 10 * nI v + nI c - nI 48 = nI (10 * v + (c - 48)) := by
  obtain ⟨k, rfl⟩ : ∃ k, c = k + 48 := ⟨c - 48, by omega⟩
  rw [← rI_mul, ← rI_add, ← Nat.add_assoc, rI_add (10 * v + k) 48, Int32.add_sub_cancel, Nat.add_sub_cancel]
/-- the elements of a list's nodes are boxes of these -/
def AX (G : Nat → Nat) (B : va_W) : List (Nat × Nat) → List Nat → Prop
  | [], [] => True
  | (_, x) :: t, a :: as => BX G B x (nI a) ∧ AX G B t as
  | _, _ => False
theorem AX.app {G : Nat → Nat} {B L : va_W} : ∀ {xs : List (Nat × Nat)} {as : List Nat}, AX G B xs as → AX G (B ++ L) xs as := by
  intro xs
  induction xs with
  | nil => intro as h; cases as <;> first | trivial | exact h
  | cons b t ih =>
    intro as h
    obtain ⟨a, x⟩ := b
    cases as with
    | nil => exact h.elim
    | cons c as => exact ⟨h.1.app, ih h.2⟩
theorem AX.snoc {G : Nat → Nat} {B : va_W} {a x c : Nat} (hx : BX G B x (nI c)) : ∀ {xs : List (Nat × Nat)} {as : List Nat}, AX G B xs as → AX G B (xs ++ [(a, x)]) (as ++ [c]) := by
  intro xs
  induction xs with
  | nil =>
    intro as h
    cases as with
    | nil => exact ⟨hx, trivial⟩
    | cons d as => exact h.elim
  | cons b t ih =>
    intro as h
    obtain ⟨b1, b2⟩ := b
    cases as with
    | nil => exact h.elim
    | cons d as => exact ⟨h.1, ih h.2⟩
theorem AX.len {G : Nat → Nat} {B : va_W} : ∀ {xs : List (Nat × Nat)} {as : List Nat}, AX G B xs as → xs.length = as.length := by
  intro xs
  induction xs with
  | nil =>
    intro as h
    cases as with
    | nil => rfl
    | cons d as => exact h.elim
  | cons b t ih =>
    intro as h
    obtain ⟨b1, b2⟩ := b
    cases as with
    | nil => exact h.elim
    | cons d as => rw [List.length_cons, List.length_cons, ih h.2]
theorem pm_box (W B L F : va_W) : (W ++ B ++ L ++ F).Perm (W ++ (B ++ F) ++ L) := by
  simp only [List.append_assoc]
  exact (List.perm_append_comm.append_left B).append_left W
/-- a list of acts: where it lies, its count of changes, the boxes made, its nodes -/
abbrev RAz (G : Nat → Nat) (P : List Nat ⊕ Nat) : Type := { z : Nat × Int32 × va_W × List (Nat × Nat) // (∃ acc, P = .inl acc ∧ AX G z.2.2.1 z.2.2.2 acc) ∧ ∃ k, z.2.2.2.length = 2 * k ∧ k ≤ 100 }
theorem mw_J11_add : MwX yJ11_add cJ11_add 2 (some .boolean) RJ11 1 := ⟨by decide +kernel, q1558, q1559, q99, q1560⟩
theorem mw_X1_readActs : MwX yX1_readActs cX1_readActs 8 (some (.object "java/util/LinkedList")) RX1 1 := ⟨by decide +kernel, q1502, qs36, q85, q1503⟩
theorem ra1_l {p : Program} {l : Launch} {e : Env} {s : State} {m : MethodId} {args : Array Value} {below : List Frame} {meth : Method} {c : Code} {D : va_G} {dA : Nat → ClassId} {G : Nat → Nat} {A : Nat → Prop} (hO : Ok p s m args meth c cX1_readActs RX1 8 D dA A) (hX : XK dA G A s) (hl9 : l.stackTraces = false) {Q : State → Prop} {tb : Nat} {ad : Nat → Nat} {σ : XS} {ll many : Nat} {t : Nat → Int32} (ht : t = xA σ 2) (hm : many ≤ 100) {B : va_W} {mc : Int32} {xs : List (Nat × Nat)} {u v : Nat} (hu : u + 1 ≤ 410 ∧ v + 7 ≤ 820) {s9 : Nat} (kk : s9 ≤ many → ch t many s9 ≠ nI 32 → Go p l e (rmG 5 410 820) s m args below meth c D A 8 Q (WX dA G tb ad σ ++ B ++ LL ll mc xs) u v 27 [(3, .int (nI s9)), (2, .ref ll), (1, .int (nI many)), (0, .ref (G 0))] []) : ∀ r i, many < r + i → i ≤ many → X_ra1 t many r i = s9 → Go p l e (rmG 5 410 820) s m args below meth c D A 8 Q (WX dA G tb ad σ ++ B ++ LL ll mc xs) u v 10 [(3, .int (nI i)), (2, .ref ll), (1, .int (nI many)), (0, .ref (G 0))] [] := by
  intro r
  induction r with
  | zero =>
    intro i hr hi h
    omega
  | succ r ih =>
    intro i hr hi h
    unfold X_ra1 at h
    refine zg_ws (List.append_assoc _ _ _) ?_
    generalize hXX : B ++ LL ll mc xs = X
    refine zg_aload_n hO 3 dX1_readActs_10 rfl rfl ?_
    refine zg_iload_n hO 0 dX1_readActs_11 rfl rfl ?_
    refine zg_iload_n hO 2 dX1_readActs_12 rfl rfl ?_
    refine zx_callViX (W := WX dA G tb ad σ) (X := X) (na := 2) (As := [.int (nI i), .int (nI many)]) (rest := []) hO hX (m_X_here l D dA G tb ad (rt_here ht (by omega) hm)) mw_X1_here q1245 ⟨Nat.le_of_ble_eq_true rfl, Nat.le_of_ble_eq_true rfl⟩ ⟨by omega, by omega⟩ rfl rfl (Nat.le_of_ble_eq_true rfl) ⟨0, 1, _, _, rfl, rfl, rfl⟩ dX1_readActs_13 (fun _ => ?_)
    refine zg_bipush hO dX1_readActs_16 (by decide : (Int8.ofInt 32).toInt32 = nI 32) ?_
    by_cases hd : ch t many i = nI 32
    · rw [if_pos hd] at h
      have hlt := sp_lt hd
      refine zn_icmp_ne (tgt := 27) hO hd dX1_readActs_18 (by decide) ?_
      refine zg_iinc (k := 0) (lv' := [(3, .int ((nI i) + (nI 1))), (2, .ref ll), (1, .int (nI many)), (0, .ref (G 0))]) hO dX1_readActs_21 rfl (zii ic1) (Nat.le_of_ble_eq_true rfl) rfl ?_
      rw [rt_suc i (by omega)]
      refine zg_goto (tgt := 10) hO dX1_readActs_24 (by decide) ?_
      subst hXX
      refine zg_ws (List.append_assoc _ _ _).symm ?_
      exact ih (i + 1) (by omega) (by omega) h
    · rw [if_neg hd] at h
      subst h
      refine zt_icmp_ne (tgt := 27) hO hd dX1_readActs_18 (by decide) ?_
      subst hXX
      refine zg_ws (List.append_assoc _ _ _).symm ?_
      exact kk hi hd
theorem ra3_l {p : Program} {l : Launch} {e : Env} {s : State} {m : MethodId} {args : Array Value} {below : List Frame} {meth : Method} {c : Code} {D : va_G} {dA : Nat → ClassId} {G : Nat → Nat} {A : Nat → Prop} (hO : Ok p s m args meth c cX1_readActs RX1 8 D dA A) (hX : XK dA G A s) (hl9 : l.stackTraces = false) {Q : State → Prop} {tb : Nat} {ad : Nat → Nat} {σ : XS} {ll many : Nat} {t : Nat → Int32} (ht : t = xA σ 2) (hm : many ≤ 100) {B : va_W} {mc : Int32} {xs : List (Nat × Nat)} {u v : Nat} (hu : u + 1 ≤ 410 ∧ v + 7 ≤ 820) {cc : Nat} {P : (Nat × Nat × Nat) ⊕ Nat} (kk : ∀ (d y i : Nat), P = .inl (d, y, i) → d < 5 → y < 10000 → i ≤ many → Go p l e (rmG 5 410 820) s m args below meth c D A 8 Q (WX dA G tb ad σ ++ B ++ LL ll mc xs) u v 158 [(6, .int (nI d)), (5, .int (nI y)), (3, .int (nI i)), (7, .int (nI 1)), (4, .int (nI cc)), (2, .ref ll), (1, .int (nI many)), (0, .ref (G 0))] [])
    (kx : ∀ (pc : Nat) (lv : List (Nat × Value)) (a q : Nat), P = .inr a → GoX p l e (rmG 5 410 820) s m args below meth c D A 8 Q (WX dA G tb ad σ ++ [(q, .inr (16, [.int (nI a)]))]) (u + 1) (v + 7) pc lv [] q) : ∀ r d y i, r + d = 4 → y < 10 ^ d → i ≤ many → X_ra3 t many r d y i = P → Go p l e (rmG 5 410 820) s m args below meth c D A 8 Q (WX dA G tb ad σ ++ B ++ LL ll mc xs) u v 93 [(6, .int (nI d)), (5, .int (nI y)), (3, .int (nI i)), (7, .int (nI 1)), (4, .int (nI cc)), (2, .ref ll), (1, .int (nI many)), (0, .ref (G 0))] [] := by
  intro r
  induction r with
  | zero =>
    intro d y i hr hy hi h
    have hd4 : d = 4 := by omega
    subst hd4
    unfold X_ra3 at h
    refine zg_ws (List.append_assoc _ _ _) ?_
    generalize hXX : B ++ LL ll mc xs = X
    refine zg_iload hO 3 dX1_readActs_93 rfl ?_
    refine zn_if_eq (tgt := 158) hO (by decide) dX1_readActs_95 (by decide) ?_
    refine zg_aload_n hO 7 dX1_readActs_98 rfl rfl ?_
    refine zg_iload_n hO 2 dX1_readActs_99 rfl rfl ?_
    refine zg_iload_n hO 6 dX1_readActs_100 rfl rfl ?_
    refine zx_callViX (W := WX dA G tb ad σ) (X := X) (na := 2) (As := [.int (nI i), .int (nI many)]) (rest := []) hO hX (m_X_here l D dA G tb ad (rt_here ht (by omega) hm)) mw_X1_here q1245 ⟨Nat.le_of_ble_eq_true rfl, Nat.le_of_ble_eq_true rfl⟩ ⟨by omega, by omega⟩ rfl rfl (Nat.le_of_ble_eq_true rfl) ⟨0, 1, _, _, rfl, rfl, rfl⟩ dX1_readActs_101 (fun _ => ?_)
    refine zg_i2l hO dX1_readActs_104 ?_
    refine zg_ldc2 (x := 48) hO q1249 dX1_readActs_105 ?_
    refine zg_ldc2 (x := 57) hO q1556 dX1_readActs_108 ?_
    refine zc_callS0i (As := [.long (ch t many i).toInt64, .long (48 : Int64), .long (57 : Int64)]) (rest := []) hO (m_X_in l D dA (rt_in10 _)) mw_X1_in q608 ⟨Nat.le_of_ble_eq_true rfl, Nat.le_of_ble_eq_true rfl⟩ ⟨by omega, by omega⟩ rfl rfl (Nat.le_of_ble_eq_true rfl) dX1_readActs_111 ?_
    by_cases hd : dgt (ch t many i) 10 = true
    · rw [if_pos hd] at h
      rw [if_pos hd]
      refine zn_if_eq (tgt := 158) hO (by decide) dX1_readActs_114 (by decide) ?_
      refine zg_iload hO 0 dX1_readActs_117 rfl ?_
      refine zg_iconst hO dX1_readActs_119 ic4 ?_
      refine zn_icmp_ne (tgt := 132) hO rfl dX1_readActs_120 (by decide) ?_
      subst hXX
      refine zg_ws (List.append_assoc _ _ _).symm ?_
      refine zj_tail (zj_tail ?_)
      refine zq_new hO q1240 hu.1 hu.2 dX1_readActs_123 (fun q => ?_)
      refine zq_dup hO dX1_readActs_126 ?_
      refine zq_iln hO 2 dX1_readActs_127 rfl rfl ?_
      refine zq_init hO hX hl9 q1259 ⟨Nat.le_of_ble_eq_true rfl, Nat.le_of_ble_eq_true rfl⟩ ⟨by omega, by omega⟩ (Nat.le_of_ble_eq_true rfl) dX1_readActs_128 ?_
      refine zq_throw hO dX1_readActs_131 ?_
      exact kx _ _ _ q h.symm
    · rw [if_neg hd] at h
      rw [if_neg hd]
      refine zt_if_eq (tgt := 158) hO (by decide) dX1_readActs_114 (by decide) ?_
      subst hXX
      refine zg_ws (List.append_assoc _ _ _).symm ?_
      exact kk 4 y i h.symm (by omega) hy hi
  | succ r ih =>
    intro d y i hr hy hi h
    unfold X_ra3 at h
    refine zg_ws (List.append_assoc _ _ _) ?_
    generalize hXX : B ++ LL ll mc xs = X
    refine zg_iload hO 3 dX1_readActs_93 rfl ?_
    refine zn_if_eq (tgt := 158) hO (by decide) dX1_readActs_95 (by decide) ?_
    refine zg_aload_n hO 7 dX1_readActs_98 rfl rfl ?_
    refine zg_iload_n hO 2 dX1_readActs_99 rfl rfl ?_
    refine zg_iload_n hO 6 dX1_readActs_100 rfl rfl ?_
    refine zx_callViX (W := WX dA G tb ad σ) (X := X) (na := 2) (As := [.int (nI i), .int (nI many)]) (rest := []) hO hX (m_X_here l D dA G tb ad (rt_here ht (by omega) hm)) mw_X1_here q1245 ⟨Nat.le_of_ble_eq_true rfl, Nat.le_of_ble_eq_true rfl⟩ ⟨by omega, by omega⟩ rfl rfl (Nat.le_of_ble_eq_true rfl) ⟨0, 1, _, _, rfl, rfl, rfl⟩ dX1_readActs_101 (fun _ => ?_)
    refine zg_i2l hO dX1_readActs_104 ?_
    refine zg_ldc2 (x := 48) hO q1249 dX1_readActs_105 ?_
    refine zg_ldc2 (x := 57) hO q1556 dX1_readActs_108 ?_
    refine zc_callS0i (As := [.long (ch t many i).toInt64, .long (48 : Int64), .long (57 : Int64)]) (rest := []) hO (m_X_in l D dA (rt_in10 _)) mw_X1_in q608 ⟨Nat.le_of_ble_eq_true rfl, Nat.le_of_ble_eq_true rfl⟩ ⟨by omega, by omega⟩ rfl rfl (Nat.le_of_ble_eq_true rfl) dX1_readActs_111 ?_
    by_cases hd : dgt (ch t many i) 10 = true
    · rw [if_pos hd] at h
      have hlt := dgt_lt hd
      obtain ⟨c1, hc1, hc2⟩ := ra_ch (t := t) hlt
      obtain ⟨g1, -, -, -, g5⟩ := ra_256 c1 hc1
      have g6 := g5 (by rw [← hc2]; exact hd)
      rw [if_pos hd]
      refine zn_if_eq (tgt := 158) hO (by decide) dX1_readActs_114 (by decide) ?_
      refine zg_iload hO 0 dX1_readActs_117 rfl ?_
      refine zg_iconst hO dX1_readActs_119 ic4 ?_
      refine zt_icmp_ne (tgt := 132) hO (fun z => absurd (congrArg Int32.toInt z) (by rw [rt_int d (by omega), rt_int 4 (by omega)]; omega)) dX1_readActs_120 (by decide) ?_
      refine zg_bipush hO dX1_readActs_132 (by decide : (Int8.ofInt 10).toInt32 = nI 10) ?_
      refine zg_iload hO 1 dX1_readActs_134 rfl ?_
      refine zg_imul hO dX1_readActs_136 ?_
      refine zg_aload_n hO 7 dX1_readActs_137 rfl rfl ?_
      refine zg_iload_n hO 2 dX1_readActs_138 rfl rfl ?_
      refine zg_iload_n hO 6 dX1_readActs_139 rfl rfl ?_
      refine zx_callViX (W := WX dA G tb ad σ) (X := X) (na := 2) (As := [.int (nI i), .int (nI many)]) (rest := [.int (nI 10 * nI y)]) hO hX (m_X_here l D dA G tb ad (rt_here ht (by omega) hm)) mw_X1_here q1245 ⟨Nat.le_of_ble_eq_true rfl, Nat.le_of_ble_eq_true rfl⟩ ⟨by omega, by omega⟩ rfl rfl (Nat.le_of_ble_eq_true rfl) ⟨0, 1, _, _, rfl, rfl, rfl⟩ dX1_readActs_140 (fun _ => ?_)
      refine zg_iadd hO dX1_readActs_143 ?_
      refine zg_bipush hO dX1_readActs_144 (by decide : (Int8.ofInt 48).toInt32 = nI 48) ?_
      refine zg_isub hO dX1_readActs_146 ?_
      rw [hc2, ra_dig g6.1]
      refine zg_istore (lv' := [(5, .int (nI (10 * y + (c1 - 48)))), (6, .int (nI d)), (3, .int (nI i)), (7, .int (nI 1)), (4, .int (nI cc)), (2, .ref ll), (1, .int (nI many)), (0, .ref (G 0))]) hO dX1_readActs_147 (Nat.le_of_ble_eq_true rfl) rfl ?_
      refine zg_iinc (k := 1) (lv' := [(6, .int ((nI d) + (nI 1))), (5, .int (nI (10 * y + (c1 - 48)))), (3, .int (nI i)), (7, .int (nI 1)), (4, .int (nI cc)), (2, .ref ll), (1, .int (nI many)), (0, .ref (G 0))]) hO dX1_readActs_149 rfl (zii ic1) (Nat.le_of_ble_eq_true rfl) rfl ?_
      refine zg_iinc (k := 2) (lv' := [(3, .int ((nI i) + (nI 1))), (6, .int ((nI d) + (nI 1))), (5, .int (nI (10 * y + (c1 - 48)))), (7, .int (nI 1)), (4, .int (nI cc)), (2, .ref ll), (1, .int (nI many)), (0, .ref (G 0))]) hO dX1_readActs_152 rfl (zii ic1) (Nat.le_of_ble_eq_true rfl) rfl ?_
      rw [rt_suc d (by omega), rt_suc i (by omega)]
      refine zg_goto (tgt := 93) hO dX1_readActs_155 (by decide) ?_
      subst hXX
      refine zg_ws (List.append_assoc _ _ _).symm ?_
      rw [hc2, g1] at h
      refine zg_sub (lv' := [(6, .int (nI (d + 1))), (5, .int (nI (10 * y + (c1 - 48)))), (3, .int (nI (i + 1))), (7, .int (nI 1)), (4, .int (nI cc)), (2, .ref ll), (1, .int (nI many)), (0, .ref (G 0))]) [1, 2, 0, 3, 4, 5, 6, 7] rfl ?_
      exact ih (d + 1) _ (i + 1) (by omega) (by rw [Nat.pow_succ]; omega) (by omega) h
    · rw [if_neg hd] at h
      rw [if_neg hd]
      refine zt_if_eq (tgt := 158) hO (by decide) dX1_readActs_114 (by decide) ?_
      subst hXX
      refine zg_ws (List.append_assoc _ _ _).symm ?_
      exact kk d y i h.symm (by omega) (Nat.lt_of_lt_of_le hy (Nat.pow_le_pow_right (by decide) (by omega : d ≤ 4))) hi
theorem ra_put {p : Program} {l : Launch} {e : Env} {s : State} {m : MethodId} {args : Array Value} {below : List Frame} {meth : Method} {c : Code} {D : va_G} {dA : Nat → ClassId} {G : Nat → Nat} {A : Nat → Prop} (hO : Ok p s m args meth c cX1_readActs RX1 8 D dA A) (hX : XK dA G A s) (hl9 : l.stackTraces = false) {Q : State → Prop} {tb : Nat} {ad : Nat → Nat} {σ : XS} {ll many : Nat} {t : Nat → Int32} (ht : t = xA σ 2) (hm : many ≤ 100) {B : va_W} {mc : Int32} {xs : List (Nat × Nat)} {u v : Nat} {acc : List Nat} (hax : AX G B xs acc) (hl : xs.length < 206) (hu : u + 4 ≤ 410 ∧ v + 8 ≤ 820) {cc y i : Nat} {x6 x7 : Int32} (hc : cc < 256) (hy : y < 10000)
    (kk : ∀ (B' : va_W) (mc' : Int32) (xs' : List (Nat × Nat)), AX G B' xs' (acc ++ [cc, y]) → Go p l e (rmG 5 410 820) s m args below meth c D A 8 Q (WX dA G tb ad σ ++ B' ++ LL ll mc' xs') (u + 4) (v + 8) 10 [(3, .int (nI i)), (2, .ref ll), (1, .int (nI many)), (0, .ref (G 0))] []) : Go p l e (rmG 5 410 820) s m args below meth c D A 8 Q (WX dA G tb ad σ ++ B ++ LL ll mc xs) u v 177 [(6, .int x6), (5, .int (nI y)), (3, .int (nI i)), (7, .int x7), (4, .int (nI cc)), (2, .ref ll), (1, .int (nI many)), (0, .ref (G 0))] [] := by
  refine zg_aload_n hO 5 dX1_readActs_177 rfl rfl ?_
  refine zg_iload hO 4 dX1_readActs_178 rfl ?_
  refine zx_callSr (na := 1) (As := [.int (nI cc)]) (rest := [.ref ll]) hO hX (m_box l D dA G (by omega)) mw_J13_valueOf q338 ⟨Nat.le_of_ble_eq_true rfl, Nat.le_of_ble_eq_true rfl⟩ ⟨by omega, by omega⟩ rfl rfl (Nat.le_of_ble_eq_true rfl) dX1_readActs_180 (fun q1 => ?_)
  refine zt_perm (pm_box _ _ _ _) ?_
  refine zx_callVi (na := 1) (As := [.ref (bxA G cc q1)]) (rest := []) hO hX (m_lladd (W0 := WX dA G tb ad σ ++ (B ++ bxE cc q1)) l D dA G (mc := mc) (xs := xs) (by omega)) mw_J11_add q1557 ⟨Nat.le_of_ble_eq_true rfl, Nat.le_of_ble_eq_true rfl⟩ ⟨by omega, by omega⟩ rfl rfl (Nat.le_of_ble_eq_true rfl) ⟨(WX dA G tb ad σ ++ (B ++ bxE cc q1)).length, 6, _, _, ap0 (x := LO ll mc xs) (L := LN none none xs), rfl, rfl⟩ dX1_readActs_183 (fun nq1 => ?_)
  refine zg_pop hO dX1_readActs_186 rfl ?_
  refine zg_aload_n hO 5 dX1_readActs_187 rfl rfl ?_
  refine zg_iload hO 1 dX1_readActs_188 rfl ?_
  refine zx_callSr (na := 1) (As := [.int (nI y)]) (rest := [.ref ll]) hO hX (m_box l D dA G hy) mw_J13_valueOf q338 ⟨Nat.le_of_ble_eq_true rfl, Nat.le_of_ble_eq_true rfl⟩ ⟨by omega, by omega⟩ rfl rfl (Nat.le_of_ble_eq_true rfl) dX1_readActs_190 (fun q2 => ?_)
  refine zt_perm (pm_box _ _ _ _) ?_
  refine zx_callVi (na := 1) (As := [.ref (bxA G y q2)]) (rest := []) hO hX (m_lladd (W0 := WX dA G tb ad σ ++ ((B ++ bxE cc q1) ++ bxE y q2)) l D dA G (mc := (mc + nI 1)) (xs := (xs ++ [(nq1, bxA G cc q1)])) (by rw [List.length_append]; show xs.length + 1 < 290; omega)) mw_J11_add q1557 ⟨Nat.le_of_ble_eq_true rfl, Nat.le_of_ble_eq_true rfl⟩ ⟨by omega, by omega⟩ rfl rfl (Nat.le_of_ble_eq_true rfl) ⟨(WX dA G tb ad σ ++ ((B ++ bxE cc q1) ++ bxE y q2)).length, 6, _, _, ap0 (x := LO ll (mc + nI 1) (xs ++ [(nq1, bxA G cc q1)])) (L := LN none none (xs ++ [(nq1, bxA G cc q1)])), rfl, rfl⟩ dX1_readActs_193 (fun nq2 => ?_)
  refine zg_pop hO dX1_readActs_196 rfl ?_
  refine zg_goto (tgt := 10) hO dX1_readActs_197 (by decide) ?_
  refine zg_sub (lv' := [(3, .int (nI i)), (2, .ref ll), (1, .int (nI many)), (0, .ref (G 0))]) [2, 5, 6, 7] rfl ?_
  have e1 : acc ++ [cc, y] = acc ++ [cc] ++ [y] := by rw [List.append_assoc]; rfl
  exact kk _ _ _ (by rw [e1]; exact AX.snoc (BX.pre (bxE_BX G y q2)) (AX.app (AX.snoc (BX.pre (bxE_BX G cc q1)) (AX.app hax))))
theorem ra1_ge {t : Nat → Int32} {many : Nat} : ∀ r i, i ≤ X_ra1 t many r i := by
  intro r
  induction r with
  | zero => intro i; exact Nat.le_refl _
  | succ r ih =>
    intro i
    unfold X_ra1
    split
    · exact Nat.le_trans (Nat.le_succ _) (ih (i + 1))
    · exact Nat.le_refl _
theorem ra3_ge {t : Nat → Int32} {many d' y' i' : Nat} : ∀ {r d y i : Nat}, X_ra3 t many r d y i = .inl (d', y', i') → i ≤ i' := by
  intro r
  induction r with
  | zero =>
    intro d y i h
    unfold X_ra3 at h
    split at h
    · cases h
    · cases h
      exact Nat.le_refl _
  | succ r ih =>
    intro d y i h
    unfold X_ra3 at h
    split at h
    · exact Nat.le_trans (Nat.le_succ _) (ih h)
    · cases h
      exact Nat.le_refl _
theorem ra4_l {p : Program} {l : Launch} {e : Env} {s : State} {m : MethodId} {args : Array Value} {below : List Frame} {meth : Method} {c : Code} {D : va_G} {dA : Nat → ClassId} {G : Nat → Nat} {A : Nat → Prop} (hO : Ok p s m args meth c cX1_readActs RX1 8 D dA A) (hX : XK dA G A s) (hl9 : l.stackTraces = false) {tb : Nat} {ad : Nat → Nat} {σ : XS} {ll many : Nat} {t : Nat → Int32} (ht : t = xA σ 2) (hm : many ≤ 100) (htab : ∀ x ∈ c.exceptionTable.toList, False) (hr : meth.sig.returnType = some (.object "java/util/LinkedList")) {P : List Nat ⊕ Nat} : ∀ r i k, many < r + i → i ≤ many → k ≤ i → ∀ (B : va_W) (mc : Int32) (xs : List (Nat × Nat)) (acc : List Nat), AX G B xs acc → xs.length = 2 * k → X_ra4 t many r i acc = P → Go p l e (rmG 5 410 820) s m args below meth c D A 8 (vq_MQ below (QgF D dA (fun z : RAz G P => WX dA G tb ad σ ++ z.1.2.2.1 ++ LL z.1.1 z.1.2.1 z.1.2.2.2) (fun z => z.1.1) A) (XgF D dA RX6 (fun (z : {a : Nat // P = .inr a}) q => WX dA G tb ad σ ++ [(q, .inr (16, [.int (nI z.1)]))]) A) args s 410 820 A) (WX dA G tb ad σ ++ B ++ LL ll mc xs) (1 + 4 * k) (4 + 8 * k) 10 [(3, .int (nI i)), (2, .ref ll), (1, .int (nI many)), (0, .ref (G 0))] [] := by
  intro r
  induction r with
  | zero =>
    intro i k h1 h2
    omega
  | succ r ih =>
    intro i k h1 h2 h3 B mc xs acc hax hlen h
    unfold X_ra4 at h
    generalize hs9 : X_ra1 t many (many + 1) i = s9 at h
    have kx : ∀ (pc : Nat) (lv : List (Nat × Value)) (a q : Nat), P = .inr a → GoX p l e (rmG 5 410 820) s m args below meth c D A 8 (vq_MQ below (QgF D dA (fun z : RAz G P => WX dA G tb ad σ ++ z.1.2.2.1 ++ LL z.1.1 z.1.2.1 z.1.2.2.2) (fun z => z.1.1) A) (XgF D dA RX6 (fun (z : {a : Nat // P = .inr a}) q => WX dA G tb ad σ ++ [(q, .inr (16, [.int (nI z.1)]))]) A) args s 410 820 A) (WX dA G tb ad σ ++ [(q, .inr (16, [.int (nI a)]))]) (1 + 4 * k + 1) (4 + 8 * k + 7) pc lv [] q := by
      intro pc lv a q hp
      exact zq_out hO htab (⟨a, hp⟩ : {a : Nat // P = .inr a}) (WX dA G tb ad σ).length ap0 rfl rfl ⟨by omega, by omega⟩
    have h6 : i ≤ s9 := by rw [← hs9]; exact ra1_ge _ _
    refine ra1_l hO hX hl9 ht hm ⟨by omega, by omega⟩ (s9 := s9) (fun h4 h5 => ?_) (many + 1) i (by omega) h2 hs9
    refine zg_iload_n hO 0 dX1_readActs_27 rfl rfl ?_
    refine zg_iload_n hO 2 dX1_readActs_28 rfl rfl ?_
    by_cases h0 : s9 = many
    · rw [if_pos h0] at h
      subst h0
      refine zn_icmp_ne (tgt := 34) hO rfl dX1_readActs_29 (by decide) ?_
      refine zg_aload_n hO 1 dX1_readActs_32 rfl rfl ?_
      exact zq_ret (zj_aret (f := fun z : RAz G P => WX dA G tb ad σ ++ z.1.2.2.1 ++ LL z.1.1 z.1.2.1 z.1.2.2.2) (a := fun z => z.1.1) hO hr (Or.inl ⟨_, rfl⟩) ⟨(ll, mc, B, xs), ⟨acc, h.symm, hax⟩, k, hlen, by omega⟩ rfl rfl ⟨by omega, by omega⟩ dX1_readActs_33)
    · rw [if_neg h0] at h
      unfold X_ra5 at h
      obtain ⟨cc, hc1, hc2⟩ := ra_ch (t := t) (show s9 < many by omega)
      obtain ⟨g1, g2, g3, g4, -⟩ := ra_256 cc hc1
      rw [hc2, g1] at h
      refine zt_icmp_ne (tgt := 34) hO (fun z => h0 (by have e9 := congrArg Int32.toInt z; rw [rt_int s9 (by omega), rt_int many (by omega)] at e9; omega)) dX1_readActs_29 (by decide) ?_
      refine zg_ws (List.append_assoc _ _ _) ?_
      generalize hXX : B ++ LL ll mc xs = X
      refine zg_aload_n hO 3 dX1_readActs_34 rfl rfl ?_
      refine zg_iload_n hO 0 dX1_readActs_35 rfl rfl ?_
      refine zg_iload_n hO 2 dX1_readActs_36 rfl rfl ?_
      refine zx_callViX (W := WX dA G tb ad σ) (X := X) (na := 2) (As := [.int (nI s9), .int (nI many)]) (rest := []) hO hX (m_X_here l D dA G tb ad (rt_here ht (by omega) hm)) mw_X1_here q1245 ⟨Nat.le_of_ble_eq_true rfl, Nat.le_of_ble_eq_true rfl⟩ ⟨by omega, by omega⟩ rfl rfl (Nat.le_of_ble_eq_true rfl) ⟨0, 1, _, _, rfl, rfl, rfl⟩ dX1_readActs_37 (fun _ => ?_)
      subst hXX
      refine zg_ws (List.append_assoc _ _ _).symm ?_
      rw [hc2]
      refine zg_istore (lv' := [(4, .int (nI cc)), (3, .int (nI s9)), (2, .ref ll), (1, .int (nI many)), (0, .ref (G 0))]) hO dX1_readActs_40 (Nat.le_of_ble_eq_true rfl) rfl ?_
      refine zo_ldcS hO (bx_str hX).2.1 dX1_readActs_42 ?_
      refine zg_iload hO 0 dX1_readActs_45 rfl ?_
      refine zg_i2c hO dX1_readActs_47 ?_
      rw [g2]
      refine zo_callVi (As := [.int (nI cc)]) (rest := []) hO hX (m_indexOf l D dA G hc1) mw_J25_indexOf q1506 ⟨Nat.le_of_ble_eq_true rfl, Nat.le_of_ble_eq_true rfl⟩ ⟨by omega, by omega⟩ rfl rfl (Nat.le_of_ble_eq_true rfl) (bs_rc hX) dX1_readActs_48 (fun _ => ?_)
      by_cases hi0 : 0 ≤ ixF cc
      · rw [if_pos hi0] at h
        refine zt_if_ge (tgt := 63) hO hi0 dX1_readActs_51 (by decide) ?_
        refine zg_iinc (k := 1) (lv' := [(3, .int ((nI s9) + (nI 1))), (4, .int (nI cc)), (2, .ref ll), (1, .int (nI many)), (0, .ref (G 0))]) hO dX1_readActs_63 rfl (zii ic1) (Nat.le_of_ble_eq_true rfl) rfl ?_
        rw [rt_suc s9 (by omega)]
        refine zg_iconst hO dX1_readActs_66 ic0 ?_
        refine zg_istore (lv' := [(5, .int (nI 0)), (3, .int (nI (s9 + 1))), (4, .int (nI cc)), (2, .ref ll), (1, .int (nI many)), (0, .ref (G 0))]) hO dX1_readActs_67 (Nat.le_of_ble_eq_true rfl) rfl ?_
        refine zg_iconst hO dX1_readActs_69 ic0 ?_
        refine zg_istore (lv' := [(6, .int (nI 0)), (5, .int (nI 0)), (3, .int (nI (s9 + 1))), (4, .int (nI cc)), (2, .ref ll), (1, .int (nI many)), (0, .ref (G 0))]) hO dX1_readActs_70 (Nat.le_of_ble_eq_true rfl) rfl ?_
        refine zg_iload hO 3 dX1_readActs_72 rfl ?_
        refine zg_bipush hO dX1_readActs_74 (by decide : (Int8.ofInt 102).toInt32 = nI 102) ?_
        have kput : ∀ (y i2 : Nat) (x6 x7 : Int32), y < 10000 → i2 ≤ many → s9 < i2 → X_ra4 t many r i2 (acc ++ [cc, y]) = P → Go p l e (rmG 5 410 820) s m args below meth c D A 8 (vq_MQ below (QgF D dA (fun z : RAz G P => WX dA G tb ad σ ++ z.1.2.2.1 ++ LL z.1.1 z.1.2.1 z.1.2.2.2) (fun z => z.1.1) A) (XgF D dA RX6 (fun (z : {a : Nat // P = .inr a}) q => WX dA G tb ad σ ++ [(q, .inr (16, [.int (nI z.1)]))]) A) args s 410 820 A) (WX dA G tb ad σ ++ B ++ LL ll mc xs) (1 + 4 * k) (4 + 8 * k) 177 [(6, .int x6), (5, .int (nI y)), (3, .int (nI i2)), (7, .int x7), (4, .int (nI cc)), (2, .ref ll), (1, .int (nI many)), (0, .ref (G 0))] [] := by
          intro y i2 x6 x7 hy hi2 hlt hP
          refine ra_put hO hX hl9 ht hm hax (by omega) ⟨by omega, by omega⟩ hc1 hy (fun B' mc' xs' hax' => ?_)
          have hl2 := hax'.len
          rw [List.length_append, ← hax.len] at hl2
          exact ih i2 (k + 1) (by omega) hi2 (by omega) B' mc' xs' _ hax' (by rw [hl2, hlen]; show 2 * k + 2 = _; omega) hP
        by_cases hb : cc = 102 ∨ cc = 98
        · rw [if_pos hb] at h
          have k86 : Go p l e (rmG 5 410 820) s m args below meth c D A 8 (vq_MQ below (QgF D dA (fun z : RAz G P => WX dA G tb ad σ ++ z.1.2.2.1 ++ LL z.1.1 z.1.2.1 z.1.2.2.2) (fun z => z.1.1) A) (XgF D dA RX6 (fun (z : {a : Nat // P = .inr a}) q => WX dA G tb ad σ ++ [(q, .inr (16, [.int (nI z.1)]))]) A) args s 410 820 A) (WX dA G tb ad σ ++ B ++ LL ll mc xs) (1 + 4 * k) (4 + 8 * k) 86 [(6, .int (nI 0)), (5, .int (nI 0)), (3, .int (nI (s9 + 1))), (4, .int (nI cc)), (2, .ref ll), (1, .int (nI many)), (0, .ref (G 0))] [] := by
            refine zg_iconst hO dX1_readActs_86 ic1 ?_
            refine zg_goto (tgt := 91) hO dX1_readActs_87 (by decide) ?_
            refine zg_istore (lv' := [(7, .int (nI 1)), (6, .int (nI 0)), (5, .int (nI 0)), (3, .int (nI (s9 + 1))), (4, .int (nI cc)), (2, .ref ll), (1, .int (nI many)), (0, .ref (G 0))]) hO dX1_readActs_91 (Nat.le_of_ble_eq_true rfl) rfl ?_
            refine zg_sub (lv' := [(6, .int (nI 0)), (5, .int (nI 0)), (3, .int (nI (s9 + 1))), (7, .int (nI 1)), (4, .int (nI cc)), (2, .ref ll), (1, .int (nI many)), (0, .ref (G 0))]) [1, 2, 3, 0, 4, 5, 6, 7] rfl ?_
            refine ra3_l hO hX hl9 ht hm ⟨by omega, by omega⟩ (P := X_ra3 t many 4 0 0 (s9 + 1)) (fun d y i2 hp hd4 hy hi2 => ?_) (fun pc lv a q hp => ?_) 4 0 0 (s9 + 1) rfl (by decide) (by omega) rfl
            · rw [hp] at h
              have h : (if d = 0 then (.inr i2 : List Nat ⊕ Nat) else X_ra4 t many r i2 (acc ++ [cc, y])) = P := h
              have hge := ra3_ge hp
              refine zg_iload hO 3 dX1_readActs_158 rfl ?_
              refine zn_if_eq (tgt := 177) hO (by decide) dX1_readActs_160 (by decide) ?_
              refine zg_iload hO 0 dX1_readActs_163 rfl ?_
              by_cases hd0 : d = 0
              · rw [if_pos hd0] at h
                refine zn_if_ne (tgt := 177) hO ((rt_z d (by omega)).1.mpr hd0) dX1_readActs_165 (by decide) ?_
                have hu : 1 + 4 * k + 1 ≤ 410 ∧ 4 + 8 * k + 7 ≤ 820 := ⟨by omega, by omega⟩
                refine zj_tail (zj_tail ?_)
                refine zq_new hO q1240 hu.1 hu.2 dX1_readActs_168 (fun q => ?_)
                refine zq_dup hO dX1_readActs_171 ?_
                refine zq_iln hO 2 dX1_readActs_172 rfl rfl ?_
                refine zq_init hO hX hl9 q1259 ⟨Nat.le_of_ble_eq_true rfl, Nat.le_of_ble_eq_true rfl⟩ ⟨by omega, by omega⟩ (Nat.le_of_ble_eq_true rfl) dX1_readActs_173 ?_
                refine zq_throw hO dX1_readActs_176 ?_
                exact kx _ _ _ q h.symm
              · rw [if_neg hd0] at h
                refine zt_if_ne (tgt := 177) hO (fun z => hd0 ((rt_z d (by omega)).1.mp z)) dX1_readActs_165 (by decide) ?_
                exact kput y i2 _ _ hy hi2 (by omega) h
            · rw [hp] at h
              exact kx pc lv a q h.symm
          by_cases hb1 : cc = 102
          · refine zt_icmp_eq (tgt := 86) hO (g3.mpr hb1) dX1_readActs_76 (by decide) ?_
            exact k86
          · refine zn_icmp_eq (tgt := 86) hO (fun z => hb1 (g3.mp z)) dX1_readActs_76 (by decide) ?_
            refine zg_iload hO 3 dX1_readActs_79 rfl ?_
            refine zg_bipush hO dX1_readActs_81 (by decide : (Int8.ofInt 98).toInt32 = nI 98) ?_
            refine zn_icmp_ne (tgt := 90) hO (g4.mpr (by omega)) dX1_readActs_83 (by decide) ?_
            exact k86
        · rw [if_neg hb] at h
          refine zn_icmp_eq (tgt := 86) hO (fun z => hb (Or.inl (g3.mp z))) dX1_readActs_76 (by decide) ?_
          refine zg_iload hO 3 dX1_readActs_79 rfl ?_
          refine zg_bipush hO dX1_readActs_81 (by decide : (Int8.ofInt 98).toInt32 = nI 98) ?_
          refine zt_icmp_ne (tgt := 90) hO (fun z => hb (Or.inr (g4.mp z))) dX1_readActs_83 (by decide) ?_
          refine zg_iconst hO dX1_readActs_90 ic0 ?_
          refine zg_istore (lv' := [(7, .int (nI 0)), (6, .int (nI 0)), (5, .int (nI 0)), (3, .int (nI (s9 + 1))), (4, .int (nI cc)), (2, .ref ll), (1, .int (nI many)), (0, .ref (G 0))]) hO dX1_readActs_91 (Nat.le_of_ble_eq_true rfl) rfl ?_
          refine zg_iload hO 0 dX1_readActs_93 rfl ?_
          refine zt_if_eq (tgt := 158) hO (by decide) dX1_readActs_95 (by decide) ?_
          refine zg_iload hO 0 dX1_readActs_158 rfl ?_
          refine zt_if_eq (tgt := 177) hO (by decide) dX1_readActs_160 (by decide) ?_
          refine zg_sub (lv' := [(6, .int (nI 0)), (5, .int (nI 0)), (3, .int (nI (s9 + 1))), (7, .int (nI 0)), (4, .int (nI cc)), (2, .ref ll), (1, .int (nI many)), (0, .ref (G 0))]) [1, 2, 3, 0, 4, 5, 6, 7] rfl ?_
          exact kput 0 (s9 + 1) _ _ (by omega) (by omega) (by omega) h
      · rw [if_neg hi0] at h
        refine zn_if_ge (tgt := 63) hO hi0 dX1_readActs_51 (by decide) ?_
        have hu : 1 + 4 * k + 1 ≤ 410 ∧ 4 + 8 * k + 7 ≤ 820 := ⟨by omega, by omega⟩
        refine zj_tail (zj_tail ?_)
        refine zq_new hO q1240 hu.1 hu.2 dX1_readActs_54 (fun q => ?_)
        refine zq_dup hO dX1_readActs_57 ?_
        refine zq_iln hO 1 dX1_readActs_58 rfl rfl ?_
        refine zq_init hO hX hl9 q1259 ⟨Nat.le_of_ble_eq_true rfl, Nat.le_of_ble_eq_true rfl⟩ ⟨by omega, by omega⟩ (Nat.le_of_ble_eq_true rfl) dX1_readActs_59 ?_
        refine zq_throw hO dX1_readActs_62 ?_
        exact kx _ _ _ q h.symm
theorem m_X_readActs (l : Launch) (hl9 : l.stackTraces = false) (D : va_G) (dA : Nat → ClassId) (G : Nat → Nat) {tb : Nat} {ad : Nat → Nat} {σ : XS} {many : Nat} (hm : many ≤ 100) {P : List Nat ⊕ Nat} (h : X_readActs (xA σ 2) many = P) :
    CtE l yX1_readActs (ws_ yX1_readActs cX1_readActs 8 (some (.object "java/util/LinkedList"))) 5 410 820 D dA G [.ref (G 0), .int (nI many)] (WX dA G tb ad σ) (QgF D dA (fun z : RAz G P => WX dA G tb ad σ ++ z.1.2.2.1 ++ LL z.1.1 z.1.2.1 z.1.2.2.2) (fun z => z.1.1)) (XgF D dA RX6 (fun (z : {a : Nat // P = .inr a}) q => WX dA G tb ad σ ++ [(q, .inr (16, [.int (nI z.1)]))])) := by
  refine zx_startE (cc := cX1_readActs) (nL := 8) (ret := (some (.object "java/util/LinkedList"))) (own := RX1) (by decide) rfl rfl (Nat.le_of_ble_eq_true rfl) (fun p e s m args below meth c A hO hX htab hr hm9 _ => ?_)
  refine zg_sub (lv' := [(1, .int (nI many)), (0, .ref (G 0))]) [1, 0] rfl ?_
  refine zj_new (ci := 6) (fs := [.int (nI 0), .int (nI 0), .null, .null]) (C := RJ11) (T := TJ11) (M := 4) hO in_J11 tyJ11 tyJ11_ok q336 q337 q99 rfl (fun j hj => by rcases (show j = 0 ∨ j = 1 ∨ j = 2 ∨ j = 3 by omega) with rfl | rfl | rfl | rfl <;> rfl) (Nat.le_of_ble_eq_true rfl) (Nat.le_of_ble_eq_true rfl) dX1_readActs_0 (fun ll => ?_)
  refine zg_dup hO dX1_readActs_3 rfl ?_
  refine zx_callIv (As := []) (rest := [.ref ll]) hO hX (m_llinit l D dA G) rfl ⟨by decide +kernel, q364, q99, q365⟩ q1504 ⟨Nat.le_of_ble_eq_true rfl, Nat.le_of_ble_eq_true rfl⟩ ⟨Nat.le_of_ble_eq_true rfl, Nat.le_of_ble_eq_true rfl⟩ rfl rfl (Nat.le_of_ble_eq_true rfl) dX1_readActs_4 (fun _ => ?_)
  refine zg_astore_n (lv' := [(2, .ref ll), (1, .int (nI many)), (0, .ref (G 0))]) hO dX1_readActs_7 rfl (Nat.le_of_ble_eq_true rfl) rfl ?_
  refine zg_iconst hO dX1_readActs_8 ic0 ?_
  refine zg_istore_n (lv' := [(3, .int (nI 0)), (2, .ref ll), (1, .int (nI many)), (0, .ref (G 0))]) hO dX1_readActs_9 rfl (Nat.le_of_ble_eq_true rfl) rfl ?_
  refine zg_ws (ws' := WX dA G tb ad σ ++ [] ++ LL ll (nI 0) []) (by rw [List.append_nil]) ?_
  exact ra4_l hO hX hl9 rfl hm htab hr 101 0 0 (by omega) (Nat.zero_le _) (Nat.le_refl _) [] (nI 0) [] [] trivial rfl h
