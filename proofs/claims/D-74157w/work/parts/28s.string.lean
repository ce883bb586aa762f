set_option maxRecDepth 100000
/-! indexOf -/
theorem m_coder (l : Launch) (D : va_G) (dA : Nat → ClassId) (G : Nat → Nat) {W : va_W} : CtX l yJ25_coder (ws_ yJ25_coder cJ25_coder 1 (some .byte)) 0 0 0 D dA G [.ref (G 92)] W (QgI D dA (fun _ : Unit => W) (nI 0)) := by
  refine zx_start (cc := cJ25_coder) (nL := 1) (ret := (some .byte)) (own := RJ25) (by decide) rfl rfl (Nat.le_of_ble_eq_true rfl) (fun p e s m args below meth c A hO hX hr hm _ => ?_)
  refine zg_sub (lv' := [(0, .ref (G 92))]) [0] rfl ?_
  obtain ⟨z1, z2, z3⟩ := bx_str hX
  obtain ⟨o1, o2, o3, o4⟩ := z3.1 0 (by decide)
  refine zj_gets hO z1 q935 dJ25_coder_0 ?_
  refine zn_if_eq (tgt := 13) hO (by decide) dJ25_coder_3 (by decide) ?_
  refine zg_aload_n hO 0 dJ25_coder_6 rfl rfl ?_
  refine zo_of hO o2 q1021 dJ25_coder_7 ?_
  refine zg_goto (tgt := 14) hO dJ25_coder_10 (by decide) ?_
  exact zo_bret (f := fun _ : Unit => W) hO hr rfl () rfl rfl ⟨Nat.zero_le _, Nat.zero_le _⟩ dJ25_coder_14
theorem mw_J25_coder : MwX yJ25_coder cJ25_coder 1 (some .byte) RJ25 0 := ⟨by decide +kernel, q932, q933, q117, q934⟩
theorem m_isLatin1 (l : Launch) (D : va_G) (dA : Nat → ClassId) (G : Nat → Nat) {W : va_W} : CtX l yJ25_isLatin1 (ws_ yJ25_isLatin1 cJ25_isLatin1 1 (some .boolean)) 0 0 0 D dA G [.ref (G 92)] W (QgI D dA (fun _ : Unit => W) (nI 1)) := by
  refine zx_start (cc := cJ25_isLatin1) (nL := 1) (ret := (some .boolean)) (own := RJ25) (by decide) rfl rfl (Nat.le_of_ble_eq_true rfl) (fun p e s m args below meth c A hO hX hr hm _ => ?_)
  refine zg_sub (lv' := [(0, .ref (G 92))]) [0] rfl ?_
  obtain ⟨z1, z2, z3⟩ := bx_str hX
  obtain ⟨o1, o2, o3, o4⟩ := z3.1 0 (by decide)
  refine zj_gets hO z1 q935 dJ25_isLatin1_0 ?_
  refine zn_if_eq (tgt := 17) hO (by decide) dJ25_isLatin1_3 (by decide) ?_
  refine zg_aload_n hO 0 dJ25_isLatin1_6 rfl rfl ?_
  refine zo_of hO o2 q1021 dJ25_isLatin1_7 ?_
  refine zn_if_ne (tgt := 17) hO rfl dJ25_isLatin1_10 (by decide) ?_
  refine zg_iconst hO dJ25_isLatin1_13 ic1 ?_
  refine zg_goto (tgt := 18) hO dJ25_isLatin1_14 (by decide) ?_
  exact zx_zret (f := fun _ : Unit => W) hO hr (Or.inr rfl) () rfl rfl ⟨Nat.zero_le _, Nat.zero_le _⟩ dJ25_isLatin1_18
theorem mw_J25_isLatin1 : MwX yJ25_isLatin1 cJ25_isLatin1 1 (some .boolean) RJ25 0 := ⟨by decide +kernel, q1515, q1516, q117, q1517⟩
theorem m_strlen (l : Launch) (D : va_G) (dA : Nat → ClassId) (G : Nat → Nat) {W : va_W} : CtX l yJ25_length (ws_ yJ25_length cJ25_length 1 (some .int)) 1 0 0 D dA G [.ref (G 92)] W (QgI D dA (fun _ : Unit => W) (nI 5)) := by
  refine zx_start (cc := cJ25_length) (nL := 1) (ret := (some .int)) (own := RJ25) (by decide) rfl rfl (Nat.le_of_ble_eq_true rfl) (fun p e s m args below meth c A hO hX hr hm _ => ?_)
  refine zg_sub (lv' := [(0, .ref (G 92))]) [0] rfl ?_
  obtain ⟨z1, z2, z3⟩ := bx_str hX
  obtain ⟨o1, o2, o3, o4⟩ := z3.1 0 (by decide)
  refine zg_aload_n hO 0 dJ25_length_0 rfl rfl ?_
  refine zo_of hO o3 q1020 dJ25_length_1 ?_
  refine zo_tlen (x := nI 5) hO o4 rfl dJ25_length_4 ?_
  refine zg_aload_n hO 0 dJ25_length_5 rfl rfl ?_
  refine zo_callVi (As := []) (rest := [.int (nI 5)]) hO hX (m_coder l D dA G) mw_J25_coder q931 ⟨Nat.le_of_ble_eq_true rfl, Nat.le_of_ble_eq_true rfl⟩ ⟨Nat.zero_le _, Nat.zero_le _⟩ rfl rfl (Nat.le_of_ble_eq_true rfl) (bs_rc hX) dJ25_length_6 (fun _ => ?_)
  refine zg_ishr hO dJ25_length_9 ?_
  exact zx_iret (f := fun _ : Unit => W) hO hr () rfl (by decide) ⟨Nat.zero_le _, Nat.zero_le _⟩ dJ25_length_10
theorem mw_J25_length : MwX yJ25_length cJ25_length 1 (some .int) RJ25 0 := ⟨by decide +kernel, q928, q929, q117, q930⟩
/-- where a sign lies in "fbFBr" -/
def fbA : Nat → Int32 := fun j => [nI 102, nI 98, nI 70, nI 66, nI 114].getD j 0
def ixN (c : Nat) : Nat → Nat → Int32
  | 0, _ => -1
  | x + 1, k => if fbA k = nI c then nI k else ixN c x (k + 1)
def ixF (c : Nat) : Int32 := if c < 128 then ixN c 5 0 else -1
theorem ix_byte : ∀ a : Nat, a < 128 → (nI a).toInt8.toInt32 = nI a := by decide +kernel
theorem ix_byte2 : ∀ a : Nat, a < 256 → 128 ≤ a → (nI a).toInt8.toInt32 < 0 := by decide +kernel
theorem ix_can : ∀ a : Nat, a < 256 → ¬ nI a < 0 ∧ ¬ nI 255 < nI a := by decide +kernel
theorem ix_fb : ∀ k : Nat, k < 5 → 0 < fbA k ∧ vp_in (nI k) 5 ∧ (nI k).toNatClampNeg = k := by unfold vp_in; decide +kernel
theorem m_canEncode (l : Launch) (D : va_G) (dA : Nat → ClassId) (G : Nat → Nat) {W : va_W} {a : Nat} (ha : a < 256) : CtX l yJ29_canEncode (ws_ yJ29_canEncode cJ29_canEncode 1 (some .boolean)) 0 0 0 D dA G [.int (nI a)] W (QgI D dA (fun _ : Unit => W) (nI 1)) := by
  refine zx_start (cc := cJ29_canEncode) (nL := 1) (ret := (some .boolean)) (own := RJ29) (by decide) rfl rfl (Nat.le_of_ble_eq_true rfl) (fun p e s m args below meth c A hO hX hr hm _ => ?_)
  refine zg_sub (lv' := [(0, .int (nI a))]) [0] rfl ?_
  refine zg_iload_n hO 0 dJ29_canEncode_0 rfl rfl ?_
  refine zn_if_lt (tgt := 15) hO (ix_can a ha).1 dJ29_canEncode_1 (by decide) ?_
  refine zg_iload_n hO 0 dJ29_canEncode_4 rfl rfl ?_
  refine zg_sipush hO dJ29_canEncode_5 (by decide : (Int16.ofInt 255).toInt32 = nI 255) ?_
  refine zn_icmp_gt (tgt := 15) hO (ix_can a ha).2 dJ29_canEncode_8 (by decide) ?_
  refine zg_iconst hO dJ29_canEncode_11 ic1 ?_
  refine zg_goto (tgt := 16) hO dJ29_canEncode_12 (by decide) ?_
  exact zx_zret (f := fun _ : Unit => W) hO hr (Or.inr rfl) () rfl rfl ⟨Nat.zero_le _, Nat.zero_le _⟩ dJ29_canEncode_16
theorem mw_J29_canEncode : MwS yJ29_canEncode cJ29_canEncode 1 (some .boolean) 1 := ⟨by decide +kernel, q1523, q121, q1524⟩
theorem ix_l {p : Program} {l : Launch} {e : Env} {s : State} {m : MethodId} {args : Array Value} {below : List Frame} {meth : Method} {c : Code} {D : va_G} {dA : Nat → ClassId} {G : Nat → Nat} {A : Nat → Prop} {W : va_W} (hO : Ok p s m args meth c cJ29_indexOfChar RJ29 6 D dA A) (hr : meth.sig.returnType = some .int) (o4 : va_T .byte (G 94) 5 (fun j => .int ([nI 102, nI 98, nI 70, nI 66, nI 114].getD j 0)) A s s.heap) {a : Nat} (ha : a < 256) {r : Int32} : ∀ x k, x + k = 5 → (if a < 128 then ixN a x k else -1) = r → Go p l e (rmG 0 0 0) s m args below meth c D A 6 (MQ below ((QgI D dA (fun _ : Unit => W) r) A) args s 0 0 A) W 0 0 7 [(5, .int (nI k)), (4, .int (nI a).toInt8.toInt32), (0, .ref (G 94)), (1, .int (nI a)), (2, .int (nI 0)), (3, .int (nI 5))] [] := by
  intro x
  induction x with
  | zero =>
    intro k hk h
    have hk : k = 5 := by omega
    subst hk
    have h : (-1 : Int32) = r := by
      split at h <;> exact h
    refine zg_iload hO 0 dJ29_indexOfChar_7 rfl ?_
    refine zg_iload_n hO 5 dJ29_indexOfChar_9 rfl rfl ?_
    refine zt_icmp_ge (tgt := 31) hO (Int32.le_refl _) dJ29_indexOfChar_10 (by decide) ?_
    refine zg_iconst hO dJ29_indexOfChar_31 icm1 ?_
    exact zx_iret (f := fun _ : Unit => W) hO hr () rfl h ⟨Nat.zero_le _, Nat.zero_le _⟩ dJ29_indexOfChar_32
  | succ x ih =>
    intro k hk h
    obtain ⟨f1, f2, f3⟩ := ix_fb k (by omega)
    refine zg_iload hO 0 dJ29_indexOfChar_7 rfl ?_
    refine zg_iload_n hO 5 dJ29_indexOfChar_9 rfl rfl ?_
    refine zn_icmp_ge (tgt := 31) hO (fun z => absurd ((rt_le k (by omega) 5 (by omega)).mp z) (by omega)) dJ29_indexOfChar_10 (by decide) ?_
    refine zg_aload_n hO 2 dJ29_indexOfChar_13 rfl rfl ?_
    refine zg_iload hO 0 dJ29_indexOfChar_14 rfl ?_
    refine zo_tb (x := .int (fbA k)) hO o4 f2 (by rw [f3]; rfl) dJ29_indexOfChar_16 ?_
    refine zg_iload hO 1 dJ29_indexOfChar_17 rfl ?_
    by_cases he : fbA k = (nI a).toInt8.toInt32
    · have h8 : a < 128 := by
        refine Nat.lt_of_not_le fun h9 => ?_
        have h7 := ix_byte2 a ha h9
        rw [← he] at h7
        exact absurd h7 (Int32.not_lt.mpr (Int32.le_of_lt f1))
      rw [ix_byte a h8] at he
      rw [if_pos h8] at h
      unfold ixN at h
      rw [if_pos he] at h
      rw [ix_byte a h8]
      refine zn_icmp_ne (tgt := 25) hO he dJ29_indexOfChar_19 (by decide) ?_
      refine zg_iload hO 0 dJ29_indexOfChar_22 rfl ?_
      exact zx_iret (f := fun _ : Unit => W) hO hr () rfl h ⟨Nat.zero_le _, Nat.zero_le _⟩ dJ29_indexOfChar_24
    · refine zt_icmp_ne (tgt := 25) hO he dJ29_indexOfChar_19 (by decide) ?_
      refine zg_iinc (k := 0) (lv' := [(5, .int ((nI k) + (nI 1))), (4, .int (nI a).toInt8.toInt32), (0, .ref (G 94)), (1, .int (nI a)), (2, .int (nI 0)), (3, .int (nI 5))]) hO dJ29_indexOfChar_25 rfl (zii ic1) (Nat.le_of_ble_eq_true rfl) rfl ?_
      rw [rt_suc k (by omega)]
      refine zg_goto (tgt := 7) hO dJ29_indexOfChar_28 (by decide) ?_
      refine ih (k + 1) (by omega) ?_
      by_cases h8 : a < 128
      · rw [if_pos h8] at h ⊢
        unfold ixN at h
        rw [if_neg (fun z => he (by rw [ix_byte a h8]; exact z))] at h
        exact h
      · rw [if_neg h8] at h ⊢
        exact h
theorem m_indexOfChar (l : Launch) (D : va_G) (dA : Nat → ClassId) (G : Nat → Nat) {W : va_W} {a : Nat} (ha : a < 256) : CtX l yJ29_indexOfChar (ws_ yJ29_indexOfChar cJ29_indexOfChar 6 (some .int)) 0 0 0 D dA G [.ref (G 94), .int (nI a), .int (nI 0), .int (nI 5)] W (QgI D dA (fun _ : Unit => W) (ixF a)) := by
  refine zx_start (cc := cJ29_indexOfChar) (nL := 6) (ret := (some .int)) (own := RJ29) (by decide) rfl rfl (Nat.le_of_ble_eq_true rfl) (fun p e s m args below meth c A hO hX hr hm _ => ?_)
  refine zg_sub (lv' := [(0, .ref (G 94)), (1, .int (nI a)), (2, .int (nI 0)), (3, .int (nI 5))]) [0, 1, 2, 3] rfl ?_
  refine zg_iload_n hO 1 dJ29_indexOfChar_0 rfl rfl ?_
  refine zg_i2b hO dJ29_indexOfChar_1 ?_
  refine zg_istore (lv' := [(4, .int (nI a).toInt8.toInt32), (0, .ref (G 94)), (1, .int (nI a)), (2, .int (nI 0)), (3, .int (nI 5))]) hO dJ29_indexOfChar_2 (Nat.le_of_ble_eq_true rfl) rfl ?_
  refine zg_iload_n hO 3 dJ29_indexOfChar_4 rfl rfl ?_
  refine zg_istore (lv' := [(5, .int (nI 0)), (4, .int (nI a).toInt8.toInt32), (0, .ref (G 94)), (1, .int (nI a)), (2, .int (nI 0)), (3, .int (nI 5))]) hO dJ29_indexOfChar_5 (Nat.le_of_ble_eq_true rfl) rfl ?_
  exact ix_l hO hr ((bx_str hX).2.2.1 0 (by decide)).2.2.2 ha 5 0 rfl rfl
theorem mw_J29_indexOfChar : MwS yJ29_indexOfChar cJ29_indexOfChar 6 (some .int) 4 := ⟨by decide +kernel, q1528, q121, q1529⟩
theorem m_indexOfL (l : Launch) (D : va_G) (dA : Nat → ClassId) (G : Nat → Nat) {W : va_W} {a : Nat} (ha : a < 256) : CtX l yJ29_indexOf (ws_ yJ29_indexOf cJ29_indexOf 4 (some .int)) 1 0 0 D dA G [.ref (G 94), .int (nI a), .int (nI 0), .int (nI 5)] W (QgI D dA (fun _ : Unit => W) (ixF a)) := by
  refine zx_start (cc := cJ29_indexOf) (nL := 4) (ret := (some .int)) (own := RJ29) (by decide) rfl rfl (Nat.le_of_ble_eq_true rfl) (fun p e s m args below meth c A hO hX hr hm _ => ?_)
  refine zg_sub (lv' := [(0, .ref (G 94)), (1, .int (nI a)), (2, .int (nI 0)), (3, .int (nI 5))]) [0, 1, 2, 3] rfl ?_
  refine zg_iload_n hO 1 dJ29_indexOf_0 rfl rfl ?_
  refine zx_callSi (na := 1) (As := [.int (nI a)]) (rest := []) hO hX (m_canEncode l D dA G ha) mw_J29_canEncode q1522 ⟨Nat.le_of_ble_eq_true rfl, Nat.le_of_ble_eq_true rfl⟩ ⟨Nat.zero_le _, Nat.zero_le _⟩ rfl rfl (Nat.le_of_ble_eq_true rfl) dJ29_indexOf_1 (fun _ => ?_)
  refine zt_if_ne (tgt := 9) hO (by decide) dJ29_indexOf_4 (by decide) ?_
  refine zg_iload_n hO 2 dJ29_indexOf_9 rfl rfl ?_
  refine zg_iconst hO dJ29_indexOf_10 ic0 ?_
  refine zs_mmax (rest := []) hO q1525 (Nat.le_of_ble_eq_true rfl) (Nat.le_of_ble_eq_true rfl) ⟨Nat.le_of_ble_eq_true rfl, Nat.le_of_ble_eq_true rfl⟩ dJ29_indexOf_11 ?_
  refine zg_istore_n (lv' := [(2, .int (nI 0)), (0, .ref (G 94)), (1, .int (nI a)), (3, .int (nI 5))]) hO dJ29_indexOf_14 rfl (Nat.le_of_ble_eq_true rfl) rfl ?_
  refine zg_iload_n hO 3 dJ29_indexOf_15 rfl rfl ?_
  refine zg_aload_n hO 1 dJ29_indexOf_16 rfl rfl ?_
  refine zo_tlen (x := nI 5) hO ((bx_str hX).2.2.1 0 (by decide)).2.2.2 rfl dJ29_indexOf_17 ?_
  refine zs_mmin (rest := []) hO q1526 (Nat.le_of_ble_eq_true rfl) (Nat.le_of_ble_eq_true rfl) ⟨Nat.le_of_ble_eq_true rfl, Nat.le_of_ble_eq_true rfl⟩ dJ29_indexOf_18 ?_
  refine zg_istore_n (lv' := [(3, .int (nI 5)), (2, .int (nI 0)), (0, .ref (G 94)), (1, .int (nI a))]) hO dJ29_indexOf_21 rfl (Nat.le_of_ble_eq_true rfl) rfl ?_
  refine zg_iload_n hO 1 dJ29_indexOf_22 rfl rfl ?_
  refine zg_iload_n hO 0 dJ29_indexOf_23 rfl rfl ?_
  refine zt_icmp_lt (tgt := 29) hO (by decide) dJ29_indexOf_24 (by decide) ?_
  refine zg_aload_n hO 2 dJ29_indexOf_29 rfl rfl ?_
  refine zg_iload_n hO 3 dJ29_indexOf_30 rfl rfl ?_
  refine zg_iload_n hO 1 dJ29_indexOf_31 rfl rfl ?_
  refine zg_iload_n hO 0 dJ29_indexOf_32 rfl rfl ?_
  refine zx_callSi (na := 4) (As := [.ref (G 94), .int (nI a), .int (nI 0), .int (nI 5)]) (rest := []) hO hX (m_indexOfChar l D dA G ha) mw_J29_indexOfChar q1527 ⟨Nat.le_of_ble_eq_true rfl, Nat.le_of_ble_eq_true rfl⟩ ⟨Nat.zero_le _, Nat.zero_le _⟩ rfl rfl (Nat.le_of_ble_eq_true rfl) dJ29_indexOf_33 (fun _ => ?_)
  exact zx_iret (f := fun _ : Unit => W) hO hr () rfl rfl ⟨Nat.zero_le _, Nat.zero_le _⟩ dJ29_indexOf_36
theorem mw_J29_indexOf : MwS yJ29_indexOf cJ29_indexOf 4 (some .int) 4 := ⟨by decide +kernel, q1520, q121, q1521⟩
theorem m_indexOf2 (l : Launch) (D : va_G) (dA : Nat → ClassId) (G : Nat → Nat) {W : va_W} {a : Nat} (ha : a < 256) : CtX l yJ25_indexOf_2 (ws_ yJ25_indexOf_2 cJ25_indexOf_2 3 (some .int)) 2 0 0 D dA G [.ref (G 92), .int (nI a), .int (nI 0)] W (QgI D dA (fun _ : Unit => W) (ixF a)) := by
  refine zx_start (cc := cJ25_indexOf_2) (nL := 3) (ret := (some .int)) (own := RJ25) (by decide) rfl rfl (Nat.le_of_ble_eq_true rfl) (fun p e s m args below meth c A hO hX hr hm _ => ?_)
  refine zg_sub (lv' := [(0, .ref (G 92)), (1, .int (nI a)), (2, .int (nI 0))]) [0, 1, 2] rfl ?_
  obtain ⟨z1, z2, z3⟩ := bx_str hX
  obtain ⟨o1, o2, o3, o4⟩ := z3.1 0 (by decide)
  refine zg_aload_n hO 0 dJ25_indexOf_2_0 rfl rfl ?_
  refine zo_callVi (As := []) (rest := []) hO hX (m_isLatin1 l D dA G) mw_J25_isLatin1 q1514 ⟨Nat.le_of_ble_eq_true rfl, Nat.le_of_ble_eq_true rfl⟩ ⟨Nat.zero_le _, Nat.zero_le _⟩ rfl rfl (Nat.le_of_ble_eq_true rfl) (bs_rc hX) dJ25_indexOf_2_1 (fun _ => ?_)
  refine zn_if_eq (tgt := 23) hO (by decide) dJ25_indexOf_2_4 (by decide) ?_
  refine zg_aload_n hO 0 dJ25_indexOf_2_7 rfl rfl ?_
  refine zo_of hO o3 q1020 dJ25_indexOf_2_8 ?_
  refine zg_iload_n hO 1 dJ25_indexOf_2_11 rfl rfl ?_
  refine zg_iload_n hO 2 dJ25_indexOf_2_12 rfl rfl ?_
  refine zg_aload_n hO 0 dJ25_indexOf_2_13 rfl rfl ?_
  refine zo_callVi (As := []) (rest := [.int (nI 0), .int (nI a), .ref (G 94)]) hO hX (m_strlen l D dA G) mw_J25_length q1518 ⟨Nat.le_of_ble_eq_true rfl, Nat.le_of_ble_eq_true rfl⟩ ⟨Nat.zero_le _, Nat.zero_le _⟩ rfl rfl (Nat.le_of_ble_eq_true rfl) (bs_rc hX) dJ25_indexOf_2_14 (fun _ => ?_)
  refine zx_callSi (na := 4) (As := [.ref (G 94), .int (nI a), .int (nI 0), .int (nI 5)]) (rest := []) hO hX (m_indexOfL l D dA G ha) mw_J29_indexOf q1519 ⟨Nat.le_of_ble_eq_true rfl, Nat.le_of_ble_eq_true rfl⟩ ⟨Nat.zero_le _, Nat.zero_le _⟩ rfl rfl (Nat.le_of_ble_eq_true rfl) dJ25_indexOf_2_17 (fun _ => ?_)
  refine zg_goto (tgt := 36) hO dJ25_indexOf_2_20 (by decide) ?_
  exact zx_iret (f := fun _ : Unit => W) hO hr () rfl rfl ⟨Nat.zero_le _, Nat.zero_le _⟩ dJ25_indexOf_2_36
theorem mw_J25_indexOf_2 : MwX yJ25_indexOf_2 cJ25_indexOf_2 3 (some .int) RJ25 2 := ⟨by decide +kernel, q1511, q1512, q117, q1513⟩
theorem m_indexOf (l : Launch) (D : va_G) (dA : Nat → ClassId) (G : Nat → Nat) {W : va_W} {a : Nat} (ha : a < 256) : CtX l yJ25_indexOf (ws_ yJ25_indexOf cJ25_indexOf 2 (some .int)) 3 0 0 D dA G [.ref (G 92), .int (nI a)] W (QgI D dA (fun _ : Unit => W) (ixF a)) := by
  refine zx_start (cc := cJ25_indexOf) (nL := 2) (ret := (some .int)) (own := RJ25) (by decide) rfl rfl (Nat.le_of_ble_eq_true rfl) (fun p e s m args below meth c A hO hX hr hm _ => ?_)
  refine zg_sub (lv' := [(0, .ref (G 92)), (1, .int (nI a))]) [0, 1] rfl ?_
  refine zg_aload_n hO 0 dJ25_indexOf_0 rfl rfl ?_
  refine zg_iload_n hO 1 dJ25_indexOf_1 rfl rfl ?_
  refine zg_iconst hO dJ25_indexOf_2 ic0 ?_
  refine zo_callVi (As := [.int (nI a), .int (nI 0)]) (rest := []) hO hX (m_indexOf2 l D dA G ha) mw_J25_indexOf_2 q1510 ⟨Nat.le_of_ble_eq_true rfl, Nat.le_of_ble_eq_true rfl⟩ ⟨Nat.zero_le _, Nat.zero_le _⟩ rfl rfl (Nat.le_of_ble_eq_true rfl) (bs_rc hX) dJ25_indexOf_3 (fun _ => ?_)
  exact zx_iret (f := fun _ : Unit => W) hO hr () rfl rfl ⟨Nat.zero_le _, Nat.zero_le _⟩ dJ25_indexOf_6
theorem mw_J25_indexOf : MwX yJ25_indexOf cJ25_indexOf 2 (some .int) RJ25 1 := ⟨by decide +kernel, q1507, q1508, q117, q1509⟩
