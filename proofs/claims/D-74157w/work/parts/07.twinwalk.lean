set_option maxRecDepth 100000
section ZMW
variable {p : Program} {l : Launch} {e : Env} {s : State} {m : MethodId} {args : Array Value} {below : List Frame} {meth : Method} {c : Code} {D : va_G} {dA : Nat → ClassId} {G : Nat → Nat}
theorem mw_X4_thrown : MwV yX4_thrown cX4_thrown 1 (some .int) RX4 0 := ⟨by decide +kernel, q1691, q1692, q106, q1693⟩
set_option maxHeartbeats 4000000 in
theorem m_thrown (l : Launch) (D : va_G) (dA : Nat → ClassId) (G : Nat → Nat) {σ : MS} {ρ : Int32 × MS} (h : M_thrown σ = some ρ) : Ct l yX4_thrown (ws_ yX4_thrown cX4_thrown 1 (some .int)) 0 0 0 D dA [.ref (G 0)] (WM dA G σ) (AG G) (QfI D dA (WM dA G ρ.2) ρ.1) := by
  refine zc_start (cc := cX4_thrown) (nL := 1) (ret := (some .int)) (own := RX4) (by decide) rfl rfl (Nat.le_of_ble_eq_true rfl) wm_A (fun p e s m args below meth c hO hr _ _ => ?_)
  unfold M_thrown at h
  refine zg_sub (lv' := [(0, .ref (G 0))]) [0] rfl ?_
  refine zg_aload_n hO 0 dX4_thrown_0 rfl rfl ?_
  refine mG_1 hO dX4_thrown_1 ?_
  exact zm_iret hO hr h dX4_thrown_4
set_option maxHeartbeats 4000000 in
theorem w_M_sign_18 (hO : Ok p s m args meth c cX4_sign RX4 3 D dA (AG G s.heap.size)) (hr : meth.sig.returnType = (some .int)) {ρ : Int32 × MS} : ∀ (n : Nat) (x1 : Int32) (x2 : Int32) (σ : MS), M_sign_18 n x1 x2 σ = some ρ → Go p l e (rmG 0 0 0) s m args below meth c D (AG G s.heap.size) 3 (MQ below ((QfI D dA (WM dA G ρ.2) ρ.1) (AG G s.heap.size)) args s 0 0 (AG G s.heap.size)) (WM dA G σ) 0 0 18 [(0, .ref (G 0)), (1, .int x1), (2, .int x2)] [] := by
  intro n
  induction n with
  | zero =>
    intro x1 x2 σ h
    rw [M_sign_18] at h
    cases h
  | succ n ih =>
    intro x1 x2 σ h
    rw [M_sign_18] at h
    refine zg_iload_n hO 2 dX4_sign_18 rfl rfl ?_
    refine zg_iconst hO dX4_sign_19 ic4 ?_
    refine zg_icmp_ge (tgt := 53) hO h dX4_sign_20 (by decide) (fun h => ?_) (fun h => ?_)
    · refine zg_aload_n hO 0 dX4_sign_53 rfl rfl ?_
      refine zg_dup hO dX4_sign_54 rfl ?_
      refine mG_14 hO dX4_sign_55 ?_
      refine zg_iconst hO dX4_sign_58 ic4 ?_
      refine zg_iadd hO dX4_sign_59 ?_
      refine mP_14 hO dX4_sign_60 ?_
      refine zg_aload_n hO 0 dX4_sign_63 rfl rfl ?_
      refine mG_14 hO dX4_sign_64 ?_
      exact zm_iret hO hr h dX4_sign_67
    · refine zg_aload_n hO 0 dX4_sign_23 rfl rfl ?_
      refine mG_17 hO dX4_sign_24 ?_
      refine zg_aload_n hO 0 dX4_sign_27 rfl rfl ?_
      refine mG_14 hO dX4_sign_28 ?_
      refine zg_iload_n hO 2 dX4_sign_31 rfl rfl ?_
      refine zg_iadd hO dX4_sign_32 ?_
      refine zg_iload_n hO 1 dX4_sign_33 rfl rfl ?_
      refine zg_bipush hO dX4_sign_34 bc24 ?_
      refine zg_bipush hO dX4_sign_36 bc8 ?_
      refine zg_iload_n hO 2 dX4_sign_38 rfl rfl ?_
      refine zg_imul hO dX4_sign_39 ?_
      refine zg_isub hO dX4_sign_40 ?_
      refine zg_ishr hO dX4_sign_41 ?_
      refine zg_sipush hO dX4_sign_42 sc255 ?_
      refine zg_iand hO dX4_sign_45 ?_
      refine mS_2 hO h dX4_sign_46 (fun h => ?_)
      refine zg_iinc (k := 2) (lv' := [(2, .int (x2 + (nI 1))), (0, .ref (G 0)), (1, .int x1)]) hO dX4_sign_47 rfl (zii ic1) (Nat.le_of_ble_eq_true rfl) rfl ?_
      refine zg_goto (tgt := 18) hO dX4_sign_50 (by decide) ?_
      exact zg_sub [1, 2, 0] rfl (ih _ _ _ h)
theorem mw_X4_sign : MwV yX4_sign cX4_sign 3 (some .int) RX4 1 := ⟨by decide +kernel, q1695, q1696, q106, q1697⟩
set_option maxHeartbeats 4000000 in
theorem m_sign (l : Launch) (D : va_G) (dA : Nat → ClassId) (G : Nat → Nat) {x1 : Int32} {σ : MS} {ρ : Int32 × MS} (h : M_sign x1 σ = some ρ) : Ct l yX4_sign (ws_ yX4_sign cX4_sign 3 (some .int)) 0 0 0 D dA [.ref (G 0), .int x1] (WM dA G σ) (AG G) (QfI D dA (WM dA G ρ.2) ρ.1) := by
  refine zc_start (cc := cX4_sign) (nL := 3) (ret := (some .int)) (own := RX4) (by decide) rfl rfl (Nat.le_of_ble_eq_true rfl) wm_A (fun p e s m args below meth c hO hr _ _ => ?_)
  unfold M_sign at h
  refine zg_sub (lv' := [(0, .ref (G 0)), (1, .int x1)]) [0, 1] rfl ?_
  refine zg_aload_n hO 0 dX4_sign_0 rfl rfl ?_
  refine zg_iconst hO dX4_sign_1 ic0 ?_
  refine mP_1 hO dX4_sign_2 ?_
  refine zg_aload_n hO 0 dX4_sign_5 rfl rfl ?_
  refine mG_14 hO dX4_sign_6 ?_
  refine zg_bipush hO dX4_sign_9 bc96 ?_
  refine zg_icmp_le (tgt := 16) hO h dX4_sign_11 (by decide) (fun h => ?_) (fun h => ?_)
  · refine zg_iconst hO dX4_sign_16 ic0 ?_
    refine zg_istore_n (lv' := [(2, .int (nI 0)), (0, .ref (G 0)), (1, .int x1)]) hO dX4_sign_17 rfl (Nat.le_of_ble_eq_true rfl) rfl ?_
    exact zg_sub [1, 2, 0] rfl (w_M_sign_18 hO hr _ _ _ _ h)
  · refine zg_iconst hO dX4_sign_14 icm1 ?_
    exact zm_iret hO hr h dX4_sign_15
theorem mw_X4_in : MwS yX4_in cX4_in 6 (some .boolean) 3 := ⟨by decide +kernel, q1703, q106, q1704⟩
set_option maxHeartbeats 4000000 in
theorem m_in (l : Launch) (D : va_G) (dA : Nat → ClassId) {x0 : Int64} {x2 : Int64} {x4 : Int64} {ρ : Int32} (h : M_in x0 x2 x4 = some ρ) : Ct l yX4_in (ws_ yX4_in cX4_in 6 (some .boolean)) 0 0 0 D dA [.long x0, .long x2, .long x4] [] A0s (QfI D dA [] ρ) := by
  refine zc_start (cc := cX4_in) (nL := 6) (ret := (some .boolean)) (own := RX4) (by decide) rfl rfl (Nat.le_of_ble_eq_true rfl) (fun _ _ h => h) (fun p e s m args below meth c hO hr _ _ => ?_)
  unfold M_in at h
  refine zg_sub (lv' := [(0, .long x0), (2, .long x2), (4, .long x4)]) [0, 1, 2] rfl ?_
  refine zg_lload_n hO 0 dX4_in_0 rfl rfl ?_
  refine zg_lload_n hO 1 dX4_in_1 rfl rfl ?_
  refine zg_lcmp hO dX4_in_2 ?_
  refine zg_if_lt (tgt := 17) hO h dX4_in_3 (by decide) (fun h => ?_) (fun h => ?_)
  · refine zg_iconst hO dX4_in_17 ic0 ?_
    exact zs_zret hO hr (Or.inl (by decide)) h dX4_in_18
  · refine zg_lload_n hO 0 dX4_in_6 rfl rfl ?_
    refine zg_lload hO 2 dX4_in_7 rfl ?_
    refine zg_lcmp hO dX4_in_9 ?_
    refine zg_if_gt (tgt := 17) hO h dX4_in_10 (by decide) (fun h => ?_) (fun h => ?_)
    · refine zg_iconst hO dX4_in_17 ic0 ?_
      exact zs_zret hO hr (Or.inl (by decide)) h dX4_in_18
    · refine zg_iconst hO dX4_in_13 ic1 ?_
      refine zg_goto (tgt := 18) hO dX4_in_14 (by decide) ?_
      exact zs_zret hO hr (Or.inr (by decide)) h dX4_in_18
theorem mw_X4_end : MwV yX4_end cX4_end 2 (some .boolean) RX4 1 := ⟨by decide +kernel, q1699, q1700, q106, q1701⟩
set_option maxHeartbeats 4000000 in
theorem m_end (l : Launch) (D : va_G) (dA : Nat → ClassId) (G : Nat → Nat) {x1 : Int32} {σ : MS} {ρ : Int32 × MS} (h : M_end x1 σ = some ρ) : Ct l yX4_end (ws_ yX4_end cX4_end 2 (some .boolean)) 1 0 0 D dA [.ref (G 0), .int x1] (WM dA G σ) (AG G) (QfI D dA (WM dA G ρ.2) ρ.1) := by
  refine zc_start (cc := cX4_end) (nL := 2) (ret := (some .boolean)) (own := RX4) (by decide) rfl rfl (Nat.le_of_ble_eq_true rfl) wm_A (fun p e s m args below meth c hO hr _ _ => ?_)
  unfold M_end at h
  refine zg_sub (lv' := [(0, .ref (G 0)), (1, .int x1)]) [0, 1] rfl ?_
  refine zg_aload_n hO 0 dX4_end_0 rfl rfl ?_
  refine zg_iconst hO dX4_end_1 ic0 ?_
  refine mP_1 hO dX4_end_2 ?_
  refine zg_iload_n hO 1 dX4_end_5 rfl rfl ?_
  refine zg_i2l hO dX4_end_6 ?_
  refine zg_lconst hO dX4_end_7 lc0 ?_
  refine zg_aload_n hO 0 dX4_end_8 rfl rfl ?_
  refine mG_14 hO dX4_end_9 ?_
  refine zg_i2l hO dX4_end_12 ?_
  refine zs_calli (As := [.long (x1.toInt64), .long (lN 0), .long ((gI (sI σ 0 (nI 0)) 2).toInt64)]) (rest := []) hO h (fun q hq => m_in l D dA hq) mw_X4_in q1702 ⟨Nat.le_of_ble_eq_true rfl, Nat.le_of_ble_eq_true rfl⟩ ⟨Nat.le_refl _, Nat.le_refl _⟩ rfl rfl (Nat.le_of_ble_eq_true rfl) dX4_end_13 (fun q1 h => ?_)
  refine zg_if_ne (tgt := 21) hO h dX4_end_16 (by decide) (fun h => ?_) (fun h => ?_)
  · refine zg_aload_n hO 0 dX4_end_21 rfl rfl ?_
    refine zg_iload_n hO 1 dX4_end_22 rfl rfl ?_
    refine mP_14 hO dX4_end_23 ?_
    refine zg_iconst hO dX4_end_26 ic1 ?_
    exact zm_zret hO hr (Or.inr (by decide)) h dX4_end_27
  · refine zg_iconst hO dX4_end_19 ic0 ?_
    exact zm_zret hO hr (Or.inl (by decide)) h dX4_end_20
theorem mw_X4_isItem : MwS yX4_isItem cX4_isItem 1 (some .boolean) 1 := ⟨by decide +kernel, q1813, q106, q1814⟩
set_option maxHeartbeats 4000000 in
theorem m_isItem (l : Launch) (D : va_G) (dA : Nat → ClassId) {x0 : Int32} {ρ : Int32} (h : M_isItem x0 = some ρ) : Ct l yX4_isItem (ws_ yX4_isItem cX4_isItem 1 (some .boolean)) 1 0 0 D dA [.int x0] [] A0s (QfI D dA [] ρ) := by
  refine zc_start (cc := cX4_isItem) (nL := 1) (ret := (some .boolean)) (own := RX4) (by decide) rfl rfl (Nat.le_of_ble_eq_true rfl) (fun _ _ h => h) (fun p e s m args below meth c hO hr _ _ => ?_)
  unfold M_isItem at h
  refine zg_sub (lv' := [(0, .int x0)]) [0] rfl ?_
  refine zg_iload_n hO 0 dX4_isItem_0 rfl rfl ?_
  refine zg_i2l hO dX4_isItem_1 ?_
  refine zg_lconst hO dX4_isItem_2 lc0 ?_
  refine zg_ldc2 (x := 9999) hO q1815 dX4_isItem_3 ?_
  refine zs_calli (As := [.long (x0.toInt64), .long (lN 0), .long (9999 : Int64)]) (rest := []) hO h (fun q hq => m_in l D dA hq) mw_X4_in q1702 ⟨Nat.le_of_ble_eq_true rfl, Nat.le_of_ble_eq_true rfl⟩ ⟨Nat.le_refl _, Nat.le_refl _⟩ rfl rfl (Nat.le_of_ble_eq_true rfl) dX4_isItem_6 (fun q1 h => ?_)
  exact zs_zret hO hr (zg_some h).1 (zg_some h).2 dX4_isItem_9
theorem mw_X4_is : MwV yX4_is cX4_is 5 none RX4 2 := ⟨by decide +kernel, q1826, qs47, q106, q1827⟩
set_option maxHeartbeats 4000000 in
theorem m_is (l : Launch) (D : va_G) (dA : Nat → ClassId) (G : Nat → Nat) {x1 : Int64} {x3 : Int64} {σ : MS} {ρ : MS} (h : M_is x1 x3 σ = some ρ) : Ct l yX4_is (ws_ yX4_is cX4_is 5 none) 0 0 0 D dA [.ref (G 0), .long x1, .long x3] (WM dA G σ) (AG G) (QfV D dA (WM dA G ρ)) := by
  refine zc_start (cc := cX4_is) (nL := 5) (ret := none) (own := RX4) (by decide) rfl rfl (Nat.le_of_ble_eq_true rfl) wm_A (fun p e s m args below meth c hO hr _ _ => ?_)
  unfold M_is at h
  refine zg_sub (lv' := [(0, .ref (G 0)), (1, .long x1), (3, .long x3)]) [0, 1, 2] rfl ?_
  refine zg_aload_n hO 0 dX4_is_0 rfl rfl ?_
  refine zg_lload_n hO 1 dX4_is_1 rfl rfl ?_
  refine mP_96 hO dX4_is_2 ?_
  refine zg_aload_n hO 0 dX4_is_5 rfl rfl ?_
  refine zg_lload_n hO 2 dX4_is_6 rfl rfl ?_
  refine mP_100 hO dX4_is_7 ?_
  exact zm_vret hO hr h dX4_is_10
theorem mw_X4_flag : MwS yX4_flag cX4_flag 1 (some .int) 1 := ⟨by decide +kernel, q1836, q106, q1837⟩
set_option maxHeartbeats 4000000 in
theorem m_flag (l : Launch) (D : va_G) (dA : Nat → ClassId) {x0 : Int32} {ρ : Int32} (h : M_flag x0 = some ρ) : Ct l yX4_flag (ws_ yX4_flag cX4_flag 1 (some .int)) 0 0 0 D dA [.int x0] [] A0s (QfI D dA [] ρ) := by
  refine zc_start (cc := cX4_flag) (nL := 1) (ret := (some .int)) (own := RX4) (by decide) rfl rfl (Nat.le_of_ble_eq_true rfl) (fun _ _ h => h) (fun p e s m args below meth c hO hr _ _ => ?_)
  unfold M_flag at h
  refine zg_sub (lv' := [(0, .int x0)]) [0] rfl ?_
  refine zg_iload_n hO 0 dX4_flag_0 rfl rfl ?_
  refine zg_if_eq (tgt := 8) hO h dX4_flag_1 (by decide) (fun h => ?_) (fun h => ?_)
  · refine zg_iconst hO dX4_flag_8 ic0 ?_
    exact zs_iret hO hr h dX4_flag_9
  · refine zg_iconst hO dX4_flag_4 ic1 ?_
    refine zg_goto (tgt := 9) hO dX4_flag_5 (by decide) ?_
    exact zs_iret hO hr h dX4_flag_9
set_option maxHeartbeats 4000000 in
theorem w_M_lays_p_81 (hO : Ok p s m args meth c cX4_lays RX4 8 D dA (AG G s.heap.size)) (hr : meth.sig.returnType = none) {ρ : MS} {k11 : Int32 → Int32 → Int32 → Int32 → MS → Option (MS)} {k50 : Int32 → Int32 → Int32 → Int32 → Int32 → Int32 → MS → Option (MS)} (K11 : ∀ (x2 : Int32) (x3 : Int32) (x4 : Int32) (x5 : Int32) (σ : MS), k11 x2 x3 x4 x5 σ = some ρ → Go p l e (rmG 1 0 0) s m args below meth c D (AG G s.heap.size) 8 (MQ below ((QfV D dA (WM dA G ρ)) (AG G s.heap.size)) args s 0 0 (AG G s.heap.size)) (WM dA G σ) 0 0 11 [(1, .ref (G 4)), (2, .int x2), (3, .int x3), (4, .int x4), (5, .int x5)] []) (K50 : ∀ (x2 : Int32) (x3 : Int32) (x4 : Int32) (x5 : Int32) (x6 : Int32) (x7 : Int32) (σ : MS), k50 x2 x3 x4 x5 x6 x7 σ = some ρ → Go p l e (rmG 1 0 0) s m args below meth c D (AG G s.heap.size) 8 (MQ below ((QfV D dA (WM dA G ρ)) (AG G s.heap.size)) args s 0 0 (AG G s.heap.size)) (WM dA G σ) 0 0 50 [(1, .ref (G 4)), (2, .int x2), (3, .int x3), (4, .int x4), (5, .int x5), (6, .int x6), (7, .int x7)] []) : ∀ (x2 : Int32) (x3 : Int32) (x4 : Int32) (x5 : Int32) (x7 : Int32) (y0 : Int32) (y1 : Int32) (σ : MS), M_lays_p_81 k11 k50 x2 x3 x4 x5 x7 y0 y1 σ = some ρ → Go p l e (rmG 1 0 0) s m args below meth c D (AG G s.heap.size) 8 (MQ below ((QfV D dA (WM dA G ρ)) (AG G s.heap.size)) args s 0 0 (AG G s.heap.size)) (WM dA G σ) 0 0 81 [(1, .ref (G 4)), (2, .int x2), (3, .int x3), (4, .int x4), (5, .int x5), (7, .int x7)] [.int y0, .int y1] := by
  intro x2 x3 x4 x5 x7 y0 y1 σ h
  unfold M_lays_p_81 at h
  refine zs_calli (As := [.int y0]) (rest := [.int y1]) hO h (fun q hq => m_flag l D dA hq) mw_X4_flag q1835 ⟨Nat.le_of_ble_eq_true rfl, Nat.le_of_ble_eq_true rfl⟩ ⟨Nat.le_refl _, Nat.le_refl _⟩ rfl rfl (Nat.le_of_ble_eq_true rfl) dX4_lays_81 (fun q1 h => ?_)
  refine zg_isub hO dX4_lays_84 ?_
  refine zg_istore (lv' := [(6, .int (y1 - q1)), (1, .ref (G 4)), (2, .int x2), (3, .int x3), (4, .int x4), (5, .int x5), (7, .int x7)]) hO dX4_lays_85 (Nat.le_of_ble_eq_true rfl) rfl ?_
  refine zg_iinc (k := 6) (lv' := [(7, .int (x7 + (nI 1))), (6, .int (y1 - q1)), (1, .ref (G 4)), (2, .int x2), (3, .int x3), (4, .int x4), (5, .int x5)]) hO dX4_lays_87 rfl (zii ic1) (Nat.le_of_ble_eq_true rfl) rfl ?_
  refine zg_goto (tgt := 50) hO dX4_lays_90 (by decide) ?_
  exact zg_sub [2, 3, 4, 5, 6, 1, 0] rfl (K50 _ _ _ _ _ _ _ h)
set_option maxHeartbeats 4000000 in
theorem w_M_lays_p_65 (hO : Ok p s m args meth c cX4_lays RX4 8 D dA (AG G s.heap.size)) (hr : meth.sig.returnType = none) {ρ : MS} {k11 : Int32 → Int32 → Int32 → Int32 → MS → Option (MS)} {k50 : Int32 → Int32 → Int32 → Int32 → Int32 → Int32 → MS → Option (MS)} (K11 : ∀ (x2 : Int32) (x3 : Int32) (x4 : Int32) (x5 : Int32) (σ : MS), k11 x2 x3 x4 x5 σ = some ρ → Go p l e (rmG 1 0 0) s m args below meth c D (AG G s.heap.size) 8 (MQ below ((QfV D dA (WM dA G ρ)) (AG G s.heap.size)) args s 0 0 (AG G s.heap.size)) (WM dA G σ) 0 0 11 [(1, .ref (G 4)), (2, .int x2), (3, .int x3), (4, .int x4), (5, .int x5)] []) (K50 : ∀ (x2 : Int32) (x3 : Int32) (x4 : Int32) (x5 : Int32) (x6 : Int32) (x7 : Int32) (σ : MS), k50 x2 x3 x4 x5 x6 x7 σ = some ρ → Go p l e (rmG 1 0 0) s m args below meth c D (AG G s.heap.size) 8 (MQ below ((QfV D dA (WM dA G ρ)) (AG G s.heap.size)) args s 0 0 (AG G s.heap.size)) (WM dA G σ) 0 0 50 [(1, .ref (G 4)), (2, .int x2), (3, .int x3), (4, .int x4), (5, .int x5), (6, .int x6), (7, .int x7)] []) : ∀ (x2 : Int32) (x3 : Int32) (x4 : Int32) (x5 : Int32) (x6 : Int32) (x7 : Int32) (σ : MS), M_lays_p_65 k11 k50 x2 x3 x4 x5 x6 x7 σ = some ρ → Go p l e (rmG 1 0 0) s m args below meth c D (AG G s.heap.size) 8 (MQ below ((QfV D dA (WM dA G ρ)) (AG G s.heap.size)) args s 0 0 (AG G s.heap.size)) (WM dA G σ) 0 0 65 [(1, .ref (G 4)), (2, .int x2), (3, .int x3), (4, .int x4), (5, .int x5), (6, .int x6), (7, .int x7)] [] := by
  intro x2 x3 x4 x5 x6 x7 σ h
  unfold M_lays_p_65 at h
  refine zg_iload hO 5 dX4_lays_65 rfl ?_
  refine zg_iload_n hO 1 dX4_lays_67 rfl rfl ?_
  refine zg_iload hO 6 dX4_lays_68 rfl ?_
  refine zg_ishr hO dX4_lays_70 ?_
  refine zg_iconst hO dX4_lays_71 ic1 ?_
  refine zg_iand hO dX4_lays_72 ?_
  refine zg_if_ne (tgt := 80) hO h dX4_lays_73 (by decide) (fun h => ?_) (fun h => ?_)
  · refine zg_iconst hO dX4_lays_80 ic0 ?_
    exact zg_sub [0, 1, 2, 3, 4, 6] rfl (w_M_lays_p_81 hO hr K11 K50 _ _ _ _ _ _ _ _ h)
  · refine zg_iconst hO dX4_lays_76 ic1 ?_
    refine zg_goto (tgt := 81) hO dX4_lays_77 (by decide) ?_
    exact zg_sub [0, 1, 2, 3, 4, 6] rfl (w_M_lays_p_81 hO hr K11 K50 _ _ _ _ _ _ _ _ h)
set_option maxHeartbeats 4000000 in
theorem w_M_lays_p_50 (hO : Ok p s m args meth c cX4_lays RX4 8 D dA (AG G s.heap.size)) (hr : meth.sig.returnType = none) {ρ : MS} {k11 : Int32 → Int32 → Int32 → Int32 → MS → Option (MS)} (K11 : ∀ (x2 : Int32) (x3 : Int32) (x4 : Int32) (x5 : Int32) (σ : MS), k11 x2 x3 x4 x5 σ = some ρ → Go p l e (rmG 1 0 0) s m args below meth c D (AG G s.heap.size) 8 (MQ below ((QfV D dA (WM dA G ρ)) (AG G s.heap.size)) args s 0 0 (AG G s.heap.size)) (WM dA G σ) 0 0 11 [(1, .ref (G 4)), (2, .int x2), (3, .int x3), (4, .int x4), (5, .int x5)] []) : ∀ (n : Nat) (x2 : Int32) (x3 : Int32) (x4 : Int32) (x5 : Int32) (x6 : Int32) (x7 : Int32) (σ : MS), M_lays_p_50 k11 n x2 x3 x4 x5 x6 x7 σ = some ρ → Go p l e (rmG 1 0 0) s m args below meth c D (AG G s.heap.size) 8 (MQ below ((QfV D dA (WM dA G ρ)) (AG G s.heap.size)) args s 0 0 (AG G s.heap.size)) (WM dA G σ) 0 0 50 [(1, .ref (G 4)), (2, .int x2), (3, .int x3), (4, .int x4), (5, .int x5), (6, .int x6), (7, .int x7)] [] := by
  intro n
  induction n with
  | zero =>
    intro x2 x3 x4 x5 x6 x7 σ h
    rw [M_lays_p_50] at h
    cases h
  | succ n ih =>
    intro x2 x3 x4 x5 x6 x7 σ h
    rw [M_lays_p_50] at h
    refine zg_iload_n hO 1 dX4_lays_50 rfl rfl ?_
    refine zg_iload hO 6 dX4_lays_51 rfl ?_
    refine zg_ishr hO dX4_lays_53 ?_
    refine zg_iconst hO dX4_lays_54 ic1 ?_
    refine zg_iand hO dX4_lays_55 ?_
    refine zg_iconst hO dX4_lays_56 ic1 ?_
    refine zg_icmp_eq (tgt := 65) hO h dX4_lays_57 (by decide) (fun h => ?_) (fun h => ?_)
    · exact zg_sub [0, 1, 2, 3, 4, 5, 6] rfl (w_M_lays_p_65 hO hr K11 ih _ _ _ _ _ _ _ h)
    · refine zg_iload hO 5 dX4_lays_60 rfl ?_
      refine zg_if_le (tgt := 93) hO h dX4_lays_62 (by decide) (fun h => ?_) (fun h => ?_)
      · refine zg_aload_n hO 0 dX4_lays_93 rfl rfl ?_
        refine zg_iload hO 4 dX4_lays_94 rfl ?_
        refine zg_iload hO 6 dX4_lays_96 rfl ?_
        refine mS_4 hO h dX4_lays_98 (fun h => ?_)
        refine zg_iload_n hO 1 dX4_lays_99 rfl rfl ?_
        refine zg_iconst hO dX4_lays_100 ic1 ?_
        refine zg_iload hO 6 dX4_lays_101 rfl ?_
        refine zg_ishl hO dX4_lays_103 ?_
        refine zg_ior hO dX4_lays_104 ?_
        refine zg_istore_n (lv' := [(2, .int (x2 ||| ((nI 1) <<< (x7 &&& 31)))), (1, .ref (G 4)), (3, .int x3), (4, .int x4), (5, .int x5), (6, .int x6), (7, .int x7)]) hO dX4_lays_105 rfl (Nat.le_of_ble_eq_true rfl) rfl ?_
        refine zg_iinc (k := 4) (lv' := [(5, .int (x5 + (nI 1))), (2, .int (x2 ||| ((nI 1) <<< (x7 &&& 31)))), (1, .ref (G 4)), (3, .int x3), (4, .int x4), (6, .int x6), (7, .int x7)]) hO dX4_lays_106 rfl (zii ic1) (Nat.le_of_ble_eq_true rfl) rfl ?_
        refine zg_goto (tgt := 11) hO dX4_lays_109 (by decide) ?_
        exact zg_sub [2, 1, 3, 4, 0] rfl (K11 _ _ _ _ _ h)
      · exact zg_sub [0, 1, 2, 3, 4, 5, 6] rfl (w_M_lays_p_65 hO hr K11 ih _ _ _ _ _ _ _ h)
set_option maxHeartbeats 4000000 in
theorem w_M_lays_p_45 (hO : Ok p s m args meth c cX4_lays RX4 8 D dA (AG G s.heap.size)) (hr : meth.sig.returnType = none) {ρ : MS} {k11 : Int32 → Int32 → Int32 → Int32 → MS → Option (MS)} (K11 : ∀ (x2 : Int32) (x3 : Int32) (x4 : Int32) (x5 : Int32) (σ : MS), k11 x2 x3 x4 x5 σ = some ρ → Go p l e (rmG 1 0 0) s m args below meth c D (AG G s.heap.size) 8 (MQ below ((QfV D dA (WM dA G ρ)) (AG G s.heap.size)) args s 0 0 (AG G s.heap.size)) (WM dA G σ) 0 0 11 [(1, .ref (G 4)), (2, .int x2), (3, .int x3), (4, .int x4), (5, .int x5)] []) : ∀ (x2 : Int32) (x3 : Int32) (x5 : Int32) (x6 : Int32) (y0 : Int32) (σ : MS), M_lays_p_45 k11 x2 x3 x5 x6 y0 σ = some ρ → Go p l e (rmG 1 0 0) s m args below meth c D (AG G s.heap.size) 8 (MQ below ((QfV D dA (WM dA G ρ)) (AG G s.heap.size)) args s 0 0 (AG G s.heap.size)) (WM dA G σ) 0 0 45 [(1, .ref (G 4)), (2, .int x2), (3, .int x3), (5, .int x5), (6, .int x6)] [.int y0] := by
  intro x2 x3 x5 x6 y0 σ h
  unfold M_lays_p_45 at h
  refine zg_istore (lv' := [(4, .int y0), (1, .ref (G 4)), (2, .int x2), (3, .int x3), (5, .int x5), (6, .int x6)]) hO dX4_lays_45 (Nat.le_of_ble_eq_true rfl) rfl ?_
  refine zg_iconst hO dX4_lays_47 ic0 ?_
  refine zg_istore (lv' := [(7, .int (nI 0)), (4, .int y0), (1, .ref (G 4)), (2, .int x2), (3, .int x3), (5, .int x5), (6, .int x6)]) hO dX4_lays_48 (Nat.le_of_ble_eq_true rfl) rfl ?_
  exact zg_sub [2, 3, 4, 1, 5, 6, 0] rfl (w_M_lays_p_50 hO hr K11 _ _ _ _ _ _ _ _ h)
set_option maxHeartbeats 4000000 in
theorem w_M_lays_p_11 (hO : Ok p s m args meth c cX4_lays RX4 8 D dA (AG G s.heap.size)) (hr : meth.sig.returnType = none) {ρ : MS} : ∀ (n : Nat) (x2 : Int32) (x3 : Int32) (x4 : Int32) (x5 : Int32) (σ : MS), M_lays_p_11 n x2 x3 x4 x5 σ = some ρ → Go p l e (rmG 1 0 0) s m args below meth c D (AG G s.heap.size) 8 (MQ below ((QfV D dA (WM dA G ρ)) (AG G s.heap.size)) args s 0 0 (AG G s.heap.size)) (WM dA G σ) 0 0 11 [(1, .ref (G 4)), (2, .int x2), (3, .int x3), (4, .int x4), (5, .int x5)] [] := by
  intro n
  induction n with
  | zero =>
    intro x2 x3 x4 x5 σ h
    rw [M_lays_p_11] at h
    cases h
  | succ n ih =>
    intro x2 x3 x4 x5 σ h
    rw [M_lays_p_11] at h
    refine zg_iload hO 4 dX4_lays_11 rfl ?_
    refine zg_iconst hO dX4_lays_13 ic4 ?_
    refine zg_icmp_ge (tgt := 112) hO h dX4_lays_14 (by decide) (fun h => ?_) (fun h => ?_)
    · exact zm_vret hO hr h dX4_lays_112
    · refine zg_iload_n hO 2 dX4_lays_17 rfl rfl ?_
      refine zg_iload hO 3 dX4_lays_18 rfl ?_
      refine zg_idiv hO h dX4_lays_20 (fun h => ?_)
      refine zg_istore (lv' := [(6, .int (x3 / x4)), (1, .ref (G 4)), (2, .int x2), (3, .int x3), (4, .int x4), (5, .int x5)]) hO dX4_lays_21 (Nat.le_of_ble_eq_true rfl) rfl ?_
      refine zg_iload_n hO 3 dX4_lays_23 rfl rfl ?_
      refine zg_iload hO 4 dX4_lays_24 rfl ?_
      refine zg_irem hO h dX4_lays_26 (fun h => ?_)
      refine zg_istore_n (lv' := [(3, .int (x3 - x3 / x4 * x4)), (6, .int (x3 / x4)), (1, .ref (G 4)), (2, .int x2), (4, .int x4), (5, .int x5)]) hO dX4_lays_27 rfl (Nat.le_of_ble_eq_true rfl) rfl ?_
      refine zg_iload hO 5 dX4_lays_28 rfl ?_
      refine zg_iconst hO dX4_lays_30 ic2 ?_
      refine zg_icmp_ge (tgt := 44) hO h dX4_lays_31 (by decide) (fun h => ?_) (fun h => ?_)
      · refine zg_iconst hO dX4_lays_44 ic1 ?_
        exact zg_sub [2, 3, 0, 5, 1] rfl (w_M_lays_p_45 hO hr ih _ _ _ _ _ _ h)
      · refine zg_iload hO 4 dX4_lays_34 rfl ?_
        refine zg_iconst hO dX4_lays_36 ic3 ?_
        refine zg_iload hO 5 dX4_lays_37 rfl ?_
        refine zg_isub hO dX4_lays_39 ?_
        refine zg_idiv hO h dX4_lays_40 (fun h => ?_)
        refine zg_goto (tgt := 45) hO dX4_lays_41 (by decide) ?_
        exact zg_sub [2, 3, 0, 5, 1] rfl (w_M_lays_p_45 hO hr ih _ _ _ _ _ _ h)
theorem mw_X4_lays : MwS yX4_lays cX4_lays 8 none 2 := ⟨by decide +kernel, q1833, q106, q1834⟩
set_option maxHeartbeats 4000000 in
theorem m_lays_p (l : Launch) (D : va_G) (dA : Nat → ClassId) (G : Nat → Nat) {x0 : Int32} {σ : MS} {ρ : MS} (h : M_lays_p x0 σ = some ρ) : Ct l yX4_lays (ws_ yX4_lays cX4_lays 8 none) 1 0 0 D dA [.int x0, .ref (G 4)] (WM dA G σ) (AG G) (QfV D dA (WM dA G ρ)) := by
  refine zc_start (cc := cX4_lays) (nL := 8) (ret := none) (own := RX4) (by decide) rfl rfl (Nat.le_of_ble_eq_true rfl) wm_A (fun p e s m args below meth c hO hr _ _ => ?_)
  unfold M_lays_p at h
  refine zg_sub (lv' := [(0, .int x0), (1, .ref (G 4))]) [0, 1] rfl ?_
  refine zg_iconst hO dX4_lays_0 ic0 ?_
  refine zg_istore_n (lv' := [(2, .int (nI 0)), (0, .int x0), (1, .ref (G 4))]) hO dX4_lays_1 rfl (Nat.le_of_ble_eq_true rfl) rfl ?_
  refine zg_iload_n hO 1 dX4_lays_2 rfl rfl ?_
  refine zg_istore_n (lv' := [(3, .int x0), (2, .int (nI 0)), (0, .int x0), (1, .ref (G 4))]) hO dX4_lays_3 rfl (Nat.le_of_ble_eq_true rfl) rfl ?_
  refine zg_bipush hO dX4_lays_4 bc6 ?_
  refine zg_istore (lv' := [(4, .int (nI 6)), (3, .int x0), (2, .int (nI 0)), (0, .int x0), (1, .ref (G 4))]) hO dX4_lays_6 (Nat.le_of_ble_eq_true rfl) rfl ?_
  refine zg_iconst hO dX4_lays_8 ic0 ?_
  refine zg_istore (lv' := [(5, .int (nI 0)), (4, .int (nI 6)), (3, .int x0), (2, .int (nI 0)), (0, .int x0), (1, .ref (G 4))]) hO dX4_lays_9 (Nat.le_of_ble_eq_true rfl) rfl ?_
  exact zg_sub [5, 3, 2, 1, 0] rfl (w_M_lays_p_11 hO hr _ _ _ _ _ _ h)
set_option maxHeartbeats 4000000 in
theorem w_M_lays_o_81 (hO : Ok p s m args meth c cX4_lays RX4 8 D dA (AG G s.heap.size)) (hr : meth.sig.returnType = none) {ρ : MS} {k11 : Int32 → Int32 → Int32 → Int32 → MS → Option (MS)} {k50 : Int32 → Int32 → Int32 → Int32 → Int32 → Int32 → MS → Option (MS)} (K11 : ∀ (x2 : Int32) (x3 : Int32) (x4 : Int32) (x5 : Int32) (σ : MS), k11 x2 x3 x4 x5 σ = some ρ → Go p l e (rmG 1 0 0) s m args below meth c D (AG G s.heap.size) 8 (MQ below ((QfV D dA (WM dA G ρ)) (AG G s.heap.size)) args s 0 0 (AG G s.heap.size)) (WM dA G σ) 0 0 11 [(1, .ref (G 5)), (2, .int x2), (3, .int x3), (4, .int x4), (5, .int x5)] []) (K50 : ∀ (x2 : Int32) (x3 : Int32) (x4 : Int32) (x5 : Int32) (x6 : Int32) (x7 : Int32) (σ : MS), k50 x2 x3 x4 x5 x6 x7 σ = some ρ → Go p l e (rmG 1 0 0) s m args below meth c D (AG G s.heap.size) 8 (MQ below ((QfV D dA (WM dA G ρ)) (AG G s.heap.size)) args s 0 0 (AG G s.heap.size)) (WM dA G σ) 0 0 50 [(1, .ref (G 5)), (2, .int x2), (3, .int x3), (4, .int x4), (5, .int x5), (6, .int x6), (7, .int x7)] []) : ∀ (x2 : Int32) (x3 : Int32) (x4 : Int32) (x5 : Int32) (x7 : Int32) (y0 : Int32) (y1 : Int32) (σ : MS), M_lays_o_81 k11 k50 x2 x3 x4 x5 x7 y0 y1 σ = some ρ → Go p l e (rmG 1 0 0) s m args below meth c D (AG G s.heap.size) 8 (MQ below ((QfV D dA (WM dA G ρ)) (AG G s.heap.size)) args s 0 0 (AG G s.heap.size)) (WM dA G σ) 0 0 81 [(1, .ref (G 5)), (2, .int x2), (3, .int x3), (4, .int x4), (5, .int x5), (7, .int x7)] [.int y0, .int y1] := by
  intro x2 x3 x4 x5 x7 y0 y1 σ h
  unfold M_lays_o_81 at h
  refine zs_calli (As := [.int y0]) (rest := [.int y1]) hO h (fun q hq => m_flag l D dA hq) mw_X4_flag q1835 ⟨Nat.le_of_ble_eq_true rfl, Nat.le_of_ble_eq_true rfl⟩ ⟨Nat.le_refl _, Nat.le_refl _⟩ rfl rfl (Nat.le_of_ble_eq_true rfl) dX4_lays_81 (fun q1 h => ?_)
  refine zg_isub hO dX4_lays_84 ?_
  refine zg_istore (lv' := [(6, .int (y1 - q1)), (1, .ref (G 5)), (2, .int x2), (3, .int x3), (4, .int x4), (5, .int x5), (7, .int x7)]) hO dX4_lays_85 (Nat.le_of_ble_eq_true rfl) rfl ?_
  refine zg_iinc (k := 6) (lv' := [(7, .int (x7 + (nI 1))), (6, .int (y1 - q1)), (1, .ref (G 5)), (2, .int x2), (3, .int x3), (4, .int x4), (5, .int x5)]) hO dX4_lays_87 rfl (zii ic1) (Nat.le_of_ble_eq_true rfl) rfl ?_
  refine zg_goto (tgt := 50) hO dX4_lays_90 (by decide) ?_
  exact zg_sub [2, 3, 4, 5, 6, 1, 0] rfl (K50 _ _ _ _ _ _ _ h)
set_option maxHeartbeats 4000000 in
theorem w_M_lays_o_65 (hO : Ok p s m args meth c cX4_lays RX4 8 D dA (AG G s.heap.size)) (hr : meth.sig.returnType = none) {ρ : MS} {k11 : Int32 → Int32 → Int32 → Int32 → MS → Option (MS)} {k50 : Int32 → Int32 → Int32 → Int32 → Int32 → Int32 → MS → Option (MS)} (K11 : ∀ (x2 : Int32) (x3 : Int32) (x4 : Int32) (x5 : Int32) (σ : MS), k11 x2 x3 x4 x5 σ = some ρ → Go p l e (rmG 1 0 0) s m args below meth c D (AG G s.heap.size) 8 (MQ below ((QfV D dA (WM dA G ρ)) (AG G s.heap.size)) args s 0 0 (AG G s.heap.size)) (WM dA G σ) 0 0 11 [(1, .ref (G 5)), (2, .int x2), (3, .int x3), (4, .int x4), (5, .int x5)] []) (K50 : ∀ (x2 : Int32) (x3 : Int32) (x4 : Int32) (x5 : Int32) (x6 : Int32) (x7 : Int32) (σ : MS), k50 x2 x3 x4 x5 x6 x7 σ = some ρ → Go p l e (rmG 1 0 0) s m args below meth c D (AG G s.heap.size) 8 (MQ below ((QfV D dA (WM dA G ρ)) (AG G s.heap.size)) args s 0 0 (AG G s.heap.size)) (WM dA G σ) 0 0 50 [(1, .ref (G 5)), (2, .int x2), (3, .int x3), (4, .int x4), (5, .int x5), (6, .int x6), (7, .int x7)] []) : ∀ (x2 : Int32) (x3 : Int32) (x4 : Int32) (x5 : Int32) (x6 : Int32) (x7 : Int32) (σ : MS), M_lays_o_65 k11 k50 x2 x3 x4 x5 x6 x7 σ = some ρ → Go p l e (rmG 1 0 0) s m args below meth c D (AG G s.heap.size) 8 (MQ below ((QfV D dA (WM dA G ρ)) (AG G s.heap.size)) args s 0 0 (AG G s.heap.size)) (WM dA G σ) 0 0 65 [(1, .ref (G 5)), (2, .int x2), (3, .int x3), (4, .int x4), (5, .int x5), (6, .int x6), (7, .int x7)] [] := by
  intro x2 x3 x4 x5 x6 x7 σ h
  unfold M_lays_o_65 at h
  refine zg_iload hO 5 dX4_lays_65 rfl ?_
  refine zg_iload_n hO 1 dX4_lays_67 rfl rfl ?_
  refine zg_iload hO 6 dX4_lays_68 rfl ?_
  refine zg_ishr hO dX4_lays_70 ?_
  refine zg_iconst hO dX4_lays_71 ic1 ?_
  refine zg_iand hO dX4_lays_72 ?_
  refine zg_if_ne (tgt := 80) hO h dX4_lays_73 (by decide) (fun h => ?_) (fun h => ?_)
  · refine zg_iconst hO dX4_lays_80 ic0 ?_
    exact zg_sub [0, 1, 2, 3, 4, 6] rfl (w_M_lays_o_81 hO hr K11 K50 _ _ _ _ _ _ _ _ h)
  · refine zg_iconst hO dX4_lays_76 ic1 ?_
    refine zg_goto (tgt := 81) hO dX4_lays_77 (by decide) ?_
    exact zg_sub [0, 1, 2, 3, 4, 6] rfl (w_M_lays_o_81 hO hr K11 K50 _ _ _ _ _ _ _ _ h)
set_option maxHeartbeats 4000000 in
theorem w_M_lays_o_50 (hO : Ok p s m args meth c cX4_lays RX4 8 D dA (AG G s.heap.size)) (hr : meth.sig.returnType = none) {ρ : MS} {k11 : Int32 → Int32 → Int32 → Int32 → MS → Option (MS)} (K11 : ∀ (x2 : Int32) (x3 : Int32) (x4 : Int32) (x5 : Int32) (σ : MS), k11 x2 x3 x4 x5 σ = some ρ → Go p l e (rmG 1 0 0) s m args below meth c D (AG G s.heap.size) 8 (MQ below ((QfV D dA (WM dA G ρ)) (AG G s.heap.size)) args s 0 0 (AG G s.heap.size)) (WM dA G σ) 0 0 11 [(1, .ref (G 5)), (2, .int x2), (3, .int x3), (4, .int x4), (5, .int x5)] []) : ∀ (n : Nat) (x2 : Int32) (x3 : Int32) (x4 : Int32) (x5 : Int32) (x6 : Int32) (x7 : Int32) (σ : MS), M_lays_o_50 k11 n x2 x3 x4 x5 x6 x7 σ = some ρ → Go p l e (rmG 1 0 0) s m args below meth c D (AG G s.heap.size) 8 (MQ below ((QfV D dA (WM dA G ρ)) (AG G s.heap.size)) args s 0 0 (AG G s.heap.size)) (WM dA G σ) 0 0 50 [(1, .ref (G 5)), (2, .int x2), (3, .int x3), (4, .int x4), (5, .int x5), (6, .int x6), (7, .int x7)] [] := by
  intro n
  induction n with
  | zero =>
    intro x2 x3 x4 x5 x6 x7 σ h
    rw [M_lays_o_50] at h
    cases h
  | succ n ih =>
    intro x2 x3 x4 x5 x6 x7 σ h
    rw [M_lays_o_50] at h
    refine zg_iload_n hO 1 dX4_lays_50 rfl rfl ?_
    refine zg_iload hO 6 dX4_lays_51 rfl ?_
    refine zg_ishr hO dX4_lays_53 ?_
    refine zg_iconst hO dX4_lays_54 ic1 ?_
    refine zg_iand hO dX4_lays_55 ?_
    refine zg_iconst hO dX4_lays_56 ic1 ?_
    refine zg_icmp_eq (tgt := 65) hO h dX4_lays_57 (by decide) (fun h => ?_) (fun h => ?_)
    · exact zg_sub [0, 1, 2, 3, 4, 5, 6] rfl (w_M_lays_o_65 hO hr K11 ih _ _ _ _ _ _ _ h)
    · refine zg_iload hO 5 dX4_lays_60 rfl ?_
      refine zg_if_le (tgt := 93) hO h dX4_lays_62 (by decide) (fun h => ?_) (fun h => ?_)
      · refine zg_aload_n hO 0 dX4_lays_93 rfl rfl ?_
        refine zg_iload hO 4 dX4_lays_94 rfl ?_
        refine zg_iload hO 6 dX4_lays_96 rfl ?_
        refine mS_5 hO h dX4_lays_98 (fun h => ?_)
        refine zg_iload_n hO 1 dX4_lays_99 rfl rfl ?_
        refine zg_iconst hO dX4_lays_100 ic1 ?_
        refine zg_iload hO 6 dX4_lays_101 rfl ?_
        refine zg_ishl hO dX4_lays_103 ?_
        refine zg_ior hO dX4_lays_104 ?_
        refine zg_istore_n (lv' := [(2, .int (x2 ||| ((nI 1) <<< (x7 &&& 31)))), (1, .ref (G 5)), (3, .int x3), (4, .int x4), (5, .int x5), (6, .int x6), (7, .int x7)]) hO dX4_lays_105 rfl (Nat.le_of_ble_eq_true rfl) rfl ?_
        refine zg_iinc (k := 4) (lv' := [(5, .int (x5 + (nI 1))), (2, .int (x2 ||| ((nI 1) <<< (x7 &&& 31)))), (1, .ref (G 5)), (3, .int x3), (4, .int x4), (6, .int x6), (7, .int x7)]) hO dX4_lays_106 rfl (zii ic1) (Nat.le_of_ble_eq_true rfl) rfl ?_
        refine zg_goto (tgt := 11) hO dX4_lays_109 (by decide) ?_
        exact zg_sub [2, 1, 3, 4, 0] rfl (K11 _ _ _ _ _ h)
      · exact zg_sub [0, 1, 2, 3, 4, 5, 6] rfl (w_M_lays_o_65 hO hr K11 ih _ _ _ _ _ _ _ h)
set_option maxHeartbeats 4000000 in
theorem w_M_lays_o_45 (hO : Ok p s m args meth c cX4_lays RX4 8 D dA (AG G s.heap.size)) (hr : meth.sig.returnType = none) {ρ : MS} {k11 : Int32 → Int32 → Int32 → Int32 → MS → Option (MS)} (K11 : ∀ (x2 : Int32) (x3 : Int32) (x4 : Int32) (x5 : Int32) (σ : MS), k11 x2 x3 x4 x5 σ = some ρ → Go p l e (rmG 1 0 0) s m args below meth c D (AG G s.heap.size) 8 (MQ below ((QfV D dA (WM dA G ρ)) (AG G s.heap.size)) args s 0 0 (AG G s.heap.size)) (WM dA G σ) 0 0 11 [(1, .ref (G 5)), (2, .int x2), (3, .int x3), (4, .int x4), (5, .int x5)] []) : ∀ (x2 : Int32) (x3 : Int32) (x5 : Int32) (x6 : Int32) (y0 : Int32) (σ : MS), M_lays_o_45 k11 x2 x3 x5 x6 y0 σ = some ρ → Go p l e (rmG 1 0 0) s m args below meth c D (AG G s.heap.size) 8 (MQ below ((QfV D dA (WM dA G ρ)) (AG G s.heap.size)) args s 0 0 (AG G s.heap.size)) (WM dA G σ) 0 0 45 [(1, .ref (G 5)), (2, .int x2), (3, .int x3), (5, .int x5), (6, .int x6)] [.int y0] := by
  intro x2 x3 x5 x6 y0 σ h
  unfold M_lays_o_45 at h
  refine zg_istore (lv' := [(4, .int y0), (1, .ref (G 5)), (2, .int x2), (3, .int x3), (5, .int x5), (6, .int x6)]) hO dX4_lays_45 (Nat.le_of_ble_eq_true rfl) rfl ?_
  refine zg_iconst hO dX4_lays_47 ic0 ?_
  refine zg_istore (lv' := [(7, .int (nI 0)), (4, .int y0), (1, .ref (G 5)), (2, .int x2), (3, .int x3), (5, .int x5), (6, .int x6)]) hO dX4_lays_48 (Nat.le_of_ble_eq_true rfl) rfl ?_
  exact zg_sub [2, 3, 4, 1, 5, 6, 0] rfl (w_M_lays_o_50 hO hr K11 _ _ _ _ _ _ _ _ h)
set_option maxHeartbeats 4000000 in
theorem w_M_lays_o_11 (hO : Ok p s m args meth c cX4_lays RX4 8 D dA (AG G s.heap.size)) (hr : meth.sig.returnType = none) {ρ : MS} : ∀ (n : Nat) (x2 : Int32) (x3 : Int32) (x4 : Int32) (x5 : Int32) (σ : MS), M_lays_o_11 n x2 x3 x4 x5 σ = some ρ → Go p l e (rmG 1 0 0) s m args below meth c D (AG G s.heap.size) 8 (MQ below ((QfV D dA (WM dA G ρ)) (AG G s.heap.size)) args s 0 0 (AG G s.heap.size)) (WM dA G σ) 0 0 11 [(1, .ref (G 5)), (2, .int x2), (3, .int x3), (4, .int x4), (5, .int x5)] [] := by
  intro n
  induction n with
  | zero =>
    intro x2 x3 x4 x5 σ h
    rw [M_lays_o_11] at h
    cases h
  | succ n ih =>
    intro x2 x3 x4 x5 σ h
    rw [M_lays_o_11] at h
    refine zg_iload hO 4 dX4_lays_11 rfl ?_
    refine zg_iconst hO dX4_lays_13 ic4 ?_
    refine zg_icmp_ge (tgt := 112) hO h dX4_lays_14 (by decide) (fun h => ?_) (fun h => ?_)
    · exact zm_vret hO hr h dX4_lays_112
    · refine zg_iload_n hO 2 dX4_lays_17 rfl rfl ?_
      refine zg_iload hO 3 dX4_lays_18 rfl ?_
      refine zg_idiv hO h dX4_lays_20 (fun h => ?_)
      refine zg_istore (lv' := [(6, .int (x3 / x4)), (1, .ref (G 5)), (2, .int x2), (3, .int x3), (4, .int x4), (5, .int x5)]) hO dX4_lays_21 (Nat.le_of_ble_eq_true rfl) rfl ?_
      refine zg_iload_n hO 3 dX4_lays_23 rfl rfl ?_
      refine zg_iload hO 4 dX4_lays_24 rfl ?_
      refine zg_irem hO h dX4_lays_26 (fun h => ?_)
      refine zg_istore_n (lv' := [(3, .int (x3 - x3 / x4 * x4)), (6, .int (x3 / x4)), (1, .ref (G 5)), (2, .int x2), (4, .int x4), (5, .int x5)]) hO dX4_lays_27 rfl (Nat.le_of_ble_eq_true rfl) rfl ?_
      refine zg_iload hO 5 dX4_lays_28 rfl ?_
      refine zg_iconst hO dX4_lays_30 ic2 ?_
      refine zg_icmp_ge (tgt := 44) hO h dX4_lays_31 (by decide) (fun h => ?_) (fun h => ?_)
      · refine zg_iconst hO dX4_lays_44 ic1 ?_
        exact zg_sub [2, 3, 0, 5, 1] rfl (w_M_lays_o_45 hO hr ih _ _ _ _ _ _ h)
      · refine zg_iload hO 4 dX4_lays_34 rfl ?_
        refine zg_iconst hO dX4_lays_36 ic3 ?_
        refine zg_iload hO 5 dX4_lays_37 rfl ?_
        refine zg_isub hO dX4_lays_39 ?_
        refine zg_idiv hO h dX4_lays_40 (fun h => ?_)
        refine zg_goto (tgt := 45) hO dX4_lays_41 (by decide) ?_
        exact zg_sub [2, 3, 0, 5, 1] rfl (w_M_lays_o_45 hO hr ih _ _ _ _ _ _ h)
set_option maxHeartbeats 4000000 in
theorem m_lays_o (l : Launch) (D : va_G) (dA : Nat → ClassId) (G : Nat → Nat) {x0 : Int32} {σ : MS} {ρ : MS} (h : M_lays_o x0 σ = some ρ) : Ct l yX4_lays (ws_ yX4_lays cX4_lays 8 none) 1 0 0 D dA [.int x0, .ref (G 5)] (WM dA G σ) (AG G) (QfV D dA (WM dA G ρ)) := by
  refine zc_start (cc := cX4_lays) (nL := 8) (ret := none) (own := RX4) (by decide) rfl rfl (Nat.le_of_ble_eq_true rfl) wm_A (fun p e s m args below meth c hO hr _ _ => ?_)
  unfold M_lays_o at h
  refine zg_sub (lv' := [(0, .int x0), (1, .ref (G 5))]) [0, 1] rfl ?_
  refine zg_iconst hO dX4_lays_0 ic0 ?_
  refine zg_istore_n (lv' := [(2, .int (nI 0)), (0, .int x0), (1, .ref (G 5))]) hO dX4_lays_1 rfl (Nat.le_of_ble_eq_true rfl) rfl ?_
  refine zg_iload_n hO 1 dX4_lays_2 rfl rfl ?_
  refine zg_istore_n (lv' := [(3, .int x0), (2, .int (nI 0)), (0, .int x0), (1, .ref (G 5))]) hO dX4_lays_3 rfl (Nat.le_of_ble_eq_true rfl) rfl ?_
  refine zg_bipush hO dX4_lays_4 bc6 ?_
  refine zg_istore (lv' := [(4, .int (nI 6)), (3, .int x0), (2, .int (nI 0)), (0, .int x0), (1, .ref (G 5))]) hO dX4_lays_6 (Nat.le_of_ble_eq_true rfl) rfl ?_
  refine zg_iconst hO dX4_lays_8 ic0 ?_
  refine zg_istore (lv' := [(5, .int (nI 0)), (4, .int (nI 6)), (3, .int x0), (2, .int (nI 0)), (0, .int x0), (1, .ref (G 5))]) hO dX4_lays_9 (Nat.le_of_ble_eq_true rfl) rfl ?_
  exact zg_sub [5, 3, 2, 1, 0] rfl (w_M_lays_o_11 hO hr _ _ _ _ _ _ h)
set_option maxHeartbeats 4000000 in
theorem w_M_leaps_50 (hO : Ok p s m args meth c cX4_leaps RX4 5 D dA (AG G s.heap.size)) (hr : meth.sig.returnType = (some .int)) {ρ : Int32 × MS} {k12 : Int32 → Int32 → MS → Option (Int32 × MS)} {k22 : Int32 → Int32 → Int32 → MS → Option (Int32 × MS)} (K12 : ∀ (x2 : Int32) (x3 : Int32) (σ : MS), k12 x2 x3 σ = some ρ → Go p l e (rmG 2 0 0) s m args below meth c D (AG G s.heap.size) 5 (MQ below ((QfI D dA (WM dA G ρ.2) ρ.1) (AG G s.heap.size)) args s 0 0 (AG G s.heap.size)) (WM dA G σ) 0 0 12 [(0, .ref (G 0)), (2, .int x2), (3, .int x3)] []) (K22 : ∀ (x2 : Int32) (x3 : Int32) (x4 : Int32) (σ : MS), k22 x2 x3 x4 σ = some ρ → Go p l e (rmG 2 0 0) s m args below meth c D (AG G s.heap.size) 5 (MQ below ((QfI D dA (WM dA G ρ.2) ρ.1) (AG G s.heap.size)) args s 0 0 (AG G s.heap.size)) (WM dA G σ) 0 0 22 [(0, .ref (G 0)), (2, .int x2), (3, .int x3), (4, .int x4)] []) : ∀ (x3 : Int32) (x4 : Int32) (y0 : Int32) (y1 : Int32) (σ : MS), M_leaps_50 k12 k22 x3 x4 y0 y1 σ = some ρ → Go p l e (rmG 2 0 0) s m args below meth c D (AG G s.heap.size) 5 (MQ below ((QfI D dA (WM dA G ρ.2) ρ.1) (AG G s.heap.size)) args s 0 0 (AG G s.heap.size)) (WM dA G σ) 0 0 50 [(0, .ref (G 0)), (3, .int x3), (4, .int x4)] [.int y0, .int y1] := by
  intro x3 x4 y0 y1 σ h
  unfold M_leaps_50 at h
  refine zs_calli (As := [.int y0]) (rest := [.int y1]) hO h (fun q hq => m_flag l D dA hq) mw_X4_flag q1835 ⟨Nat.le_of_ble_eq_true rfl, Nat.le_of_ble_eq_true rfl⟩ ⟨Nat.le_refl _, Nat.le_refl _⟩ rfl rfl (Nat.le_of_ble_eq_true rfl) dX4_leaps_50 (fun q2 h => ?_)
  refine zg_iadd hO dX4_leaps_53 ?_
  refine zg_istore_n (lv' := [(2, .int (y1 + q2)), (0, .ref (G 0)), (3, .int x3), (4, .int x4)]) hO dX4_leaps_54 rfl (Nat.le_of_ble_eq_true rfl) rfl ?_
  refine zg_iinc (k := 3) (lv' := [(4, .int (x4 + (nI 1))), (2, .int (y1 + q2)), (0, .ref (G 0)), (3, .int x3)]) hO dX4_leaps_55 rfl (zii ic1) (Nat.le_of_ble_eq_true rfl) rfl ?_
  refine zg_goto (tgt := 22) hO dX4_leaps_58 (by decide) ?_
  exact zg_sub [2, 1, 3, 0] rfl (K22 _ _ _ _ h)
set_option maxHeartbeats 4000000 in
theorem w_M_leaps_22 (hO : Ok p s m args meth c cX4_leaps RX4 5 D dA (AG G s.heap.size)) (hr : meth.sig.returnType = (some .int)) {ρ : Int32 × MS} {k12 : Int32 → Int32 → MS → Option (Int32 × MS)} (K12 : ∀ (x2 : Int32) (x3 : Int32) (σ : MS), k12 x2 x3 σ = some ρ → Go p l e (rmG 2 0 0) s m args below meth c D (AG G s.heap.size) 5 (MQ below ((QfI D dA (WM dA G ρ.2) ρ.1) (AG G s.heap.size)) args s 0 0 (AG G s.heap.size)) (WM dA G σ) 0 0 12 [(0, .ref (G 0)), (2, .int x2), (3, .int x3)] []) : ∀ (n : Nat) (x2 : Int32) (x3 : Int32) (x4 : Int32) (σ : MS), M_leaps_22 k12 n x2 x3 x4 σ = some ρ → Go p l e (rmG 2 0 0) s m args below meth c D (AG G s.heap.size) 5 (MQ below ((QfI D dA (WM dA G ρ.2) ρ.1) (AG G s.heap.size)) args s 0 0 (AG G s.heap.size)) (WM dA G σ) 0 0 22 [(0, .ref (G 0)), (2, .int x2), (3, .int x3), (4, .int x4)] [] := by
  intro n
  induction n with
  | zero =>
    intro x2 x3 x4 σ h
    rw [M_leaps_22] at h
    cases h
  | succ n ih =>
    intro x2 x3 x4 σ h
    rw [M_leaps_22] at h
    refine zg_iload hO 3 dX4_leaps_22 rfl ?_
    refine zg_iconst hO dX4_leaps_24 ic4 ?_
    refine zg_icmp_ge (tgt := 61) hO h dX4_leaps_25 (by decide) (fun h => ?_) (fun h => ?_)
    · refine zg_iinc (k := 2) (lv' := [(3, .int (x3 + (nI 1))), (0, .ref (G 0)), (2, .int x2), (4, .int x4)]) hO dX4_leaps_61 rfl (zii ic1) (Nat.le_of_ble_eq_true rfl) rfl ?_
      refine zg_goto (tgt := 12) hO dX4_leaps_64 (by decide) ?_
      exact zg_sub [1, 2, 0] rfl (K12 _ _ _ h)
    · refine zg_iload_n hO 1 dX4_leaps_28 rfl rfl ?_
      refine zg_aload_n hO 0 dX4_leaps_29 rfl rfl ?_
      refine mG_51 hO dX4_leaps_30 ?_
      refine zg_iload_n hO 2 dX4_leaps_33 rfl rfl ?_
      refine mL_4 hO h dX4_leaps_34 (fun h => ?_)
      refine zg_aload_n hO 0 dX4_leaps_35 rfl rfl ?_
      refine mG_51 hO dX4_leaps_36 ?_
      refine zg_iload hO 3 dX4_leaps_39 rfl ?_
      refine mL_4 hO h dX4_leaps_41 (fun h => ?_)
      refine zg_icmp_le (tgt := 49) hO h dX4_leaps_42 (by decide) (fun h => ?_) (fun h => ?_)
      · refine zg_iconst hO dX4_leaps_49 ic0 ?_
        exact zg_sub [0, 2, 3] rfl (w_M_leaps_50 hO hr K12 ih _ _ _ _ _ h)
      · refine zg_iconst hO dX4_leaps_45 ic1 ?_
        refine zg_goto (tgt := 50) hO dX4_leaps_46 (by decide) ?_
        exact zg_sub [0, 2, 3] rfl (w_M_leaps_50 hO hr K12 ih _ _ _ _ _ h)
set_option maxHeartbeats 4000000 in
theorem w_M_leaps_12 (hO : Ok p s m args meth c cX4_leaps RX4 5 D dA (AG G s.heap.size)) (hr : meth.sig.returnType = (some .int)) {ρ : Int32 × MS} : ∀ (n : Nat) (x2 : Int32) (x3 : Int32) (σ : MS), M_leaps_12 n x2 x3 σ = some ρ → Go p l e (rmG 2 0 0) s m args below meth c D (AG G s.heap.size) 5 (MQ below ((QfI D dA (WM dA G ρ.2) ρ.1) (AG G s.heap.size)) args s 0 0 (AG G s.heap.size)) (WM dA G σ) 0 0 12 [(0, .ref (G 0)), (2, .int x2), (3, .int x3)] [] := by
  intro n
  induction n with
  | zero =>
    intro x2 x3 σ h
    rw [M_leaps_12] at h
    cases h
  | succ n ih =>
    intro x2 x3 σ h
    rw [M_leaps_12] at h
    refine zg_iload_n hO 2 dX4_leaps_12 rfl rfl ?_
    refine zg_iconst hO dX4_leaps_13 ic4 ?_
    refine zg_icmp_ge (tgt := 67) hO h dX4_leaps_14 (by decide) (fun h => ?_) (fun h => ?_)
    · refine zg_iload_n hO 1 dX4_leaps_67 rfl rfl ?_
      exact zm_iret hO hr h dX4_leaps_68
    · refine zg_iload_n hO 2 dX4_leaps_17 rfl rfl ?_
      refine zg_iconst hO dX4_leaps_18 ic1 ?_
      refine zg_iadd hO dX4_leaps_19 ?_
      refine zg_istore (lv' := [(4, .int (x3 + (nI 1))), (0, .ref (G 0)), (2, .int x2), (3, .int x3)]) hO dX4_leaps_20 (Nat.le_of_ble_eq_true rfl) rfl ?_
      exact zg_sub [1, 2, 3, 0] rfl (w_M_leaps_22 hO hr ih _ _ _ _ _ h)
theorem mw_X4_leaps : MwV yX4_leaps cX4_leaps 5 (some .int) RX4 1 := ⟨by decide +kernel, q1830, qs48, q106, q1831⟩
set_option maxHeartbeats 4000000 in
theorem m_leaps (l : Launch) (D : va_G) (dA : Nat → ClassId) (G : Nat → Nat) {x1 : Int32} {σ : MS} {ρ : Int32 × MS} (h : M_leaps x1 σ = some ρ) : Ct l yX4_leaps (ws_ yX4_leaps cX4_leaps 5 (some .int)) 2 0 0 D dA [.ref (G 0), .int x1] (WM dA G σ) (AG G) (QfI D dA (WM dA G ρ.2) ρ.1) := by
  refine zc_start (cc := cX4_leaps) (nL := 5) (ret := (some .int)) (own := RX4) (by decide) rfl rfl (Nat.le_of_ble_eq_true rfl) wm_A (fun p e s m args below meth c hO hr _ _ => ?_)
  unfold M_leaps at h
  refine zg_sub (lv' := [(0, .ref (G 0)), (1, .int x1)]) [0, 1] rfl ?_
  refine zg_iload_n hO 1 dX4_leaps_0 rfl rfl ?_
  refine zg_aload_n hO 0 dX4_leaps_1 rfl rfl ?_
  refine mG_51 hO dX4_leaps_2 ?_
  refine zm_callSv (As := [.int x1, .ref (G 4)]) (rest := []) hO h (fun q hq => m_lays_p l D dA G hq) mw_X4_lays q1832 ⟨Nat.le_of_ble_eq_true rfl, Nat.le_of_ble_eq_true rfl⟩ rfl rfl (Nat.le_of_ble_eq_true rfl) dX4_leaps_5 (fun q1 h => ?_)
  refine zg_iconst hO dX4_leaps_8 ic0 ?_
  refine zg_istore_n (lv' := [(2, .int (nI 0)), (0, .ref (G 0)), (1, .int x1)]) hO dX4_leaps_9 rfl (Nat.le_of_ble_eq_true rfl) rfl ?_
  refine zg_iconst hO dX4_leaps_10 ic0 ?_
  refine zg_istore_n (lv' := [(3, .int (nI 0)), (2, .int (nI 0)), (0, .ref (G 0)), (1, .int x1)]) hO dX4_leaps_11 rfl (Nat.le_of_ble_eq_true rfl) rfl ?_
  exact zg_sub [2, 1, 0] rfl (w_M_leaps_12 hO hr _ _ _ _ h)
set_option maxHeartbeats 4000000 in
theorem w_M_element_117 (hO : Ok p s m args meth c cX4_element RX4 2 D dA (AG G s.heap.size)) (hr : meth.sig.returnType = none) {ρ : MS} : ∀ (y0 : Int64) (y1 : Int64) (σ : MS), M_element_117 y0 y1 σ = some ρ → Go p l e (rmG 3 0 0) s m args below meth c D (AG G s.heap.size) 2 (MQ below ((QfV D dA (WM dA G ρ)) (AG G s.heap.size)) args s 0 0 (AG G s.heap.size)) (WM dA G σ) 0 0 117 [] [.long y0, .long y1, .ref (G 0)] := by
  intro y0 y1 σ h
  unfold M_element_117 at h
  refine zm_callVv (As := [.long y1, .long y0]) (rest := []) hO h (fun q hq => m_is l D dA G hq) mw_X4_is q1824 ⟨Nat.le_of_ble_eq_true rfl, Nat.le_of_ble_eq_true rfl⟩ rfl rfl (Nat.le_of_ble_eq_true rfl) dX4_element_117 (fun q7 h => ?_)
  refine zg_goto (tgt := 169) hO dX4_element_120 (by decide) ?_
  exact zm_vret hO hr h dX4_element_169
set_option maxHeartbeats 4000000 in
theorem w_M_element_100 (hO : Ok p s m args meth c cX4_element RX4 2 D dA (AG G s.heap.size)) (hr : meth.sig.returnType = none) {ρ : MS} : ∀ (x1 : Int32) (y0 : Int64) (σ : MS), M_element_100 x1 y0 σ = some ρ → Go p l e (rmG 3 0 0) s m args below meth c D (AG G s.heap.size) 2 (MQ below ((QfV D dA (WM dA G ρ)) (AG G s.heap.size)) args s 0 0 (AG G s.heap.size)) (WM dA G σ) 0 0 100 [(1, .int x1)] [.long y0, .ref (G 0)] := by
  intro x1 y0 σ h
  unfold M_element_100 at h
  refine zg_iload_n hO 0 dX4_element_100 rfl rfl ?_
  refine zg_iconst hO dX4_element_101 ic2 ?_
  refine zg_irem hO h dX4_element_102 (fun h => ?_)
  refine zg_if_ne (tgt := 116) hO h dX4_element_103 (by decide) (fun h => ?_) (fun h => ?_)
  · refine zg_lconst hO dX4_element_116 lc0 ?_
    exact zg_sub [] rfl (w_M_element_117 hO hr _ _ _ h)
  · refine zg_iload_n hO 0 dX4_element_106 rfl rfl ?_
    refine zg_iconst hO dX4_element_107 ic2 ?_
    refine zg_idiv hO h dX4_element_108 (fun h => ?_)
    refine zg_bipush hO dX4_element_109 bc10 ?_
    refine zg_irem hO h dX4_element_111 (fun h => ?_)
    refine zg_i2l hO dX4_element_112 ?_
    refine zg_goto (tgt := 117) hO dX4_element_113 (by decide) ?_
    exact zg_sub [] rfl (w_M_element_117 hO hr _ _ _ h)
set_option maxHeartbeats 4000000 in
theorem w_M_element_161 (hO : Ok p s m args meth c cX4_element RX4 2 D dA (AG G s.heap.size)) (hr : meth.sig.returnType = none) {ρ : MS} : ∀ (x1 : Int32) (σ : MS), M_element_161 x1 σ = some ρ → Go p l e (rmG 3 0 0) s m args below meth c D (AG G s.heap.size) 2 (MQ below ((QfV D dA (WM dA G ρ)) (AG G s.heap.size)) args s 0 0 (AG G s.heap.size)) (WM dA G σ) 0 0 161 [(0, .ref (G 0)), (1, .int x1)] [] := by
  intro x1 σ h
  unfold M_element_161 at h
  refine zg_aload_n hO 0 dX4_element_161 rfl rfl ?_
  refine zg_iload_n hO 1 dX4_element_162 rfl rfl ?_
  refine zg_i2l hO dX4_element_163 ?_
  refine zg_iload_n hO 1 dX4_element_164 rfl rfl ?_
  refine zg_i2l hO dX4_element_165 ?_
  refine zm_callVv (As := [.long (x1.toInt64), .long (x1.toInt64)]) (rest := []) hO h (fun q hq => m_is l D dA G hq) mw_X4_is q1824 ⟨Nat.le_of_ble_eq_true rfl, Nat.le_of_ble_eq_true rfl⟩ rfl rfl (Nat.le_of_ble_eq_true rfl) dX4_element_166 (fun q6 h => ?_)
  exact zm_vret hO hr h dX4_element_169
theorem mw_X4_element : MwV yX4_element cX4_element 2 none RX4 1 := ⟨by decide +kernel, q1822, qs46, q106, q1823⟩
set_option maxHeartbeats 4000000 in
theorem m_element (l : Launch) (D : va_G) (dA : Nat → ClassId) (G : Nat → Nat) {x1 : Int32} {σ : MS} {ρ : MS} (h : M_element x1 σ = some ρ) : Ct l yX4_element (ws_ yX4_element cX4_element 2 none) 3 0 0 D dA [.ref (G 0), .int x1] (WM dA G σ) (AG G) (QfV D dA (WM dA G ρ)) := by
  refine zc_start (cc := cX4_element) (nL := 2) (ret := none) (own := RX4) (by decide) rfl rfl (Nat.le_of_ble_eq_true rfl) wm_A (fun p e s m args below meth c hO hr _ _ => ?_)
  unfold M_element at h
  refine zg_sub (lv' := [(0, .ref (G 0)), (1, .int x1)]) [0, 1] rfl ?_
  refine zg_aload_n hO 0 dX4_element_0 rfl rfl ?_
  refine mG_93 hO dX4_element_1 ?_
  refine zg_ite h (fun e0 h => ?_) (fun e0 h => ?_)
  · refine zg_tableIn (tgt := 52) hO dX4_element_4 (by rw [e0]; decide) (by rw [e0]; decide) (by rw [e0]; rfl) (by decide) ?_
    refine zg_aload_n hO 0 dX4_element_52 rfl rfl ?_
    refine zg_iload_n hO 1 dX4_element_53 rfl rfl ?_
    refine zg_i2l hO dX4_element_54 ?_
    refine zg_lconst hO dX4_element_55 lc1 ?_
    refine zm_callVv (As := [.long (x1.toInt64), .long (lN 1)]) (rest := []) hO h (fun q hq => m_is l D dA G hq) mw_X4_is q1824 ⟨Nat.le_of_ble_eq_true rfl, Nat.le_of_ble_eq_true rfl⟩ rfl rfl (Nat.le_of_ble_eq_true rfl) dX4_element_56 (fun q1 h => ?_)
    refine zg_goto (tgt := 169) hO dX4_element_59 (by decide) ?_
    exact zm_vret hO hr h dX4_element_169
  refine zg_ite h (fun e1 h => ?_) (fun e1 h => ?_)
  · refine zg_tableIn (tgt := 161) hO dX4_element_4 (by rw [e1]; decide) (by rw [e1]; decide) (by rw [e1]; rfl) (by decide) ?_
    exact zg_sub [0, 1] rfl (w_M_element_161 hO hr _ _ h)
  refine zg_ite h (fun e2 h => ?_) (fun e2 h => ?_)
  · refine zg_tableIn (tgt := 161) hO dX4_element_4 (by rw [e2]; decide) (by rw [e2]; decide) (by rw [e2]; rfl) (by decide) ?_
    exact zg_sub [0, 1] rfl (w_M_element_161 hO hr _ _ h)
  refine zg_ite h (fun e3 h => ?_) (fun e3 h => ?_)
  · refine zg_tableIn (tgt := 62) hO dX4_element_4 (by rw [e3]; decide) (by rw [e3]; decide) (by rw [e3]; rfl) (by decide) ?_
    refine zg_aload_n hO 0 dX4_element_62 rfl rfl ?_
    refine zg_iload_n hO 1 dX4_element_63 rfl rfl ?_
    refine zg_bipush hO dX4_element_64 bc101 ?_
    refine zg_idiv hO h dX4_element_66 (fun h => ?_)
    refine zg_bipush hO dX4_element_67 bc101 ?_
    refine zg_irem hO h dX4_element_69 (fun h => ?_)
    refine zg_i2l hO dX4_element_70 ?_
    refine zg_iload_n hO 1 dX4_element_71 rfl rfl ?_
    refine zg_bipush hO dX4_element_72 bc101 ?_
    refine zg_irem hO h dX4_element_74 (fun h => ?_)
    refine zg_i2l hO dX4_element_75 ?_
    refine zm_callVv (As := [.long (((x1 / (nI 101)) - (x1 / (nI 101)) / (nI 101) * (nI 101)).toInt64), .long ((x1 - x1 / (nI 101) * (nI 101)).toInt64)]) (rest := []) hO h (fun q hq => m_is l D dA G hq) mw_X4_is q1824 ⟨Nat.le_of_ble_eq_true rfl, Nat.le_of_ble_eq_true rfl⟩ rfl rfl (Nat.le_of_ble_eq_true rfl) dX4_element_76 (fun q2 h => ?_)
    refine zg_goto (tgt := 169) hO dX4_element_79 (by decide) ?_
    exact zm_vret hO hr h dX4_element_169
  refine zg_ite h (fun e4 h => ?_) (fun e4 h => ?_)
  · refine zg_tableIn (tgt := 82) hO dX4_element_4 (by rw [e4]; decide) (by rw [e4]; decide) (by rw [e4]; rfl) (by decide) ?_
    refine zg_aload_n hO 0 dX4_element_82 rfl rfl ?_
    refine zg_iload_n hO 1 dX4_element_83 rfl rfl ?_
    refine zg_iconst hO dX4_element_84 ic2 ?_
    refine zg_irem hO h dX4_element_85 (fun h => ?_)
    refine zg_if_ne (tgt := 93) hO h dX4_element_86 (by decide) (fun h => ?_) (fun h => ?_)
    · refine zg_iload_n hO 1 dX4_element_93 rfl rfl ?_
      refine zg_iconst hO dX4_element_94 ic2 ?_
      refine zg_idiv hO h dX4_element_95 (fun h => ?_)
      refine zg_bipush hO dX4_element_96 bc10 ?_
      refine zg_irem hO h dX4_element_98 (fun h => ?_)
      refine zg_i2l hO dX4_element_99 ?_
      exact zg_sub [1] rfl (w_M_element_100 hO hr _ _ _ h)
    · refine zg_lconst hO dX4_element_89 lc0 ?_
      refine zg_goto (tgt := 100) hO dX4_element_90 (by decide) ?_
      exact zg_sub [1] rfl (w_M_element_100 hO hr _ _ _ h)
  refine zg_ite h (fun e5 h => ?_) (fun e5 h => ?_)
  · refine zg_tableIn (tgt := 123) hO dX4_element_4 (by rw [e5]; decide) (by rw [e5]; decide) (by rw [e5]; rfl) (by decide) ?_
    refine zg_aload_n hO 0 dX4_element_123 rfl rfl ?_
    refine zg_iload_n hO 1 dX4_element_124 rfl rfl ?_
    refine zg_bipush hO dX4_element_125 bc24 ?_
    refine zg_irem hO h dX4_element_127 (fun h => ?_)
    refine zg_i2l hO dX4_element_128 ?_
    refine zg_aload_n hO 0 dX4_element_129 rfl rfl ?_
    refine zg_iload_n hO 1 dX4_element_130 rfl rfl ?_
    refine zg_bipush hO dX4_element_131 bc24 ?_
    refine zg_irem hO h dX4_element_133 (fun h => ?_)
    refine zm_callVi (As := [.int (x1 - x1 / (nI 24) * (nI 24))]) (rest := [.long ((x1 - x1 / (nI 24) * (nI 24)).toInt64), .ref (G 0)]) hO h (fun q hq => m_leaps l D dA G hq) mw_X4_leaps q1828 ⟨Nat.le_of_ble_eq_true rfl, Nat.le_of_ble_eq_true rfl⟩ rfl rfl (Nat.le_of_ble_eq_true rfl) dX4_element_134 (fun q3 h => ?_)
    refine zg_iconst hO dX4_element_137 ic2 ?_
    refine zg_irem hO h dX4_element_138 (fun h => ?_)
    refine zg_i2l hO dX4_element_139 ?_
    refine zm_callVv (As := [.long ((x1 - x1 / (nI 24) * (nI 24)).toInt64), .long ((q3.1 - q3.1 / (nI 2) * (nI 2)).toInt64)]) (rest := []) hO h (fun q hq => m_is l D dA G hq) mw_X4_is q1824 ⟨Nat.le_of_ble_eq_true rfl, Nat.le_of_ble_eq_true rfl⟩ rfl rfl (Nat.le_of_ble_eq_true rfl) dX4_element_140 (fun q4 h => ?_)
    refine zg_goto (tgt := 169) hO dX4_element_143 (by decide) ?_
    exact zm_vret hO hr h dX4_element_169
  refine zg_ite h (fun e6 h => ?_) (fun e6 h => ?_)
  · refine zg_tableIn (tgt := 161) hO dX4_element_4 (by rw [e6]; decide) (by rw [e6]; decide) (by rw [e6]; rfl) (by decide) ?_
    exact zg_sub [0, 1] rfl (w_M_element_161 hO hr _ _ h)
  refine zg_ite h (fun e7 h => ?_) (fun e7 h => ?_)
  · refine zg_tableIn (tgt := 146) hO dX4_element_4 (by rw [e7]; decide) (by rw [e7]; decide) (by rw [e7]; rfl) (by decide) ?_
    refine zg_aload_n hO 0 dX4_element_146 rfl rfl ?_
    refine zg_iload_n hO 1 dX4_element_147 rfl rfl ?_
    refine zg_aload_n hO 0 dX4_element_148 rfl rfl ?_
    refine mG_45 hO dX4_element_149 ?_
    refine zg_irem hO h dX4_element_152 (fun h => ?_)
    refine zg_i2l hO dX4_element_153 ?_
    refine zg_lconst hO dX4_element_154 lc0 ?_
    refine zm_callVv (As := [.long ((x1 - x1 / (gI σ 6) * (gI σ 6)).toInt64), .long (lN 0)]) (rest := []) hO h (fun q hq => m_is l D dA G hq) mw_X4_is q1824 ⟨Nat.le_of_ble_eq_true rfl, Nat.le_of_ble_eq_true rfl⟩ rfl rfl (Nat.le_of_ble_eq_true rfl) dX4_element_155 (fun q5 h => ?_)
    refine zg_goto (tgt := 169) hO dX4_element_158 (by decide) ?_
    exact zm_vret hO hr h dX4_element_169
  refine zg_tableOut (tgt := 161) hO dX4_element_4 (zg_swout (lo := 0) (hi := 7) (fun k h1 h2 => by rcases (show k = 0 ∨ k = 1 ∨ k = 2 ∨ k = 3 ∨ k = 4 ∨ k = 5 ∨ k = 6 ∨ k = 7 by omega) with rfl|rfl|rfl|rfl|rfl|rfl|rfl|rfl; exact e0; exact e1; exact e2; exact e3; exact e4; exact e5; exact e6; exact e7)) (by decide) ?_
  exact zg_sub [0, 1] rfl (w_M_element_161 hO hr _ _ h)
set_option maxHeartbeats 4000000 in
theorem w_M_common_6 (hO : Ok p s m args meth c cX4_common RX4 10 D dA (A0s s.heap.size)) (hr : meth.sig.returnType = (some .long)) {ρ : Int64} : ∀ (n : Nat) (x4 : Int64) (x6 : Int64), M_common_6 n x4 x6 = some ρ → Go p l e (rmG 0 0 0) s m args below meth c D (A0s s.heap.size) 10 (MQ below ((QfL D dA [] ρ) (A0s s.heap.size)) args s 0 0 (A0s s.heap.size)) [] 0 0 6 [(4, .long x4), (6, .long x6)] [] := by
  intro n
  induction n with
  | zero =>
    intro x4 x6 h
    rw [M_common_6] at h
    cases h
  | succ n ih =>
    intro x4 x6 h
    rw [M_common_6] at h
    refine zg_lload hO 1 dX4_common_6 rfl ?_
    refine zg_lconst hO dX4_common_8 lc0 ?_
    refine zg_lcmp hO dX4_common_9 ?_
    refine zg_if_eq (tgt := 31) hO h dX4_common_10 (by decide) (fun h => ?_) (fun h => ?_)
    · refine zg_lload hO 0 dX4_common_31 rfl ?_
      exact zs_lret hO hr h dX4_common_33
    · refine zg_lload hO 0 dX4_common_13 rfl ?_
      refine zg_lload hO 1 dX4_common_15 rfl ?_
      refine zg_lrem hO h dX4_common_17 (fun h => ?_)
      refine zg_lstore (lv' := [(8, .long (x4 - x4 / x6 * x6)), (4, .long x4), (6, .long x6)]) hO dX4_common_18 (Nat.le_of_ble_eq_true rfl) rfl ?_
      refine zg_lload hO 2 dX4_common_20 rfl ?_
      refine zg_lstore (lv' := [(4, .long x6), (8, .long (x4 - x4 / x6 * x6)), (6, .long x6)]) hO dX4_common_22 (Nat.le_of_ble_eq_true rfl) rfl ?_
      refine zg_lload hO 1 dX4_common_24 rfl ?_
      refine zg_lstore (lv' := [(6, .long (x4 - x4 / x6 * x6)), (4, .long x6), (8, .long (x4 - x4 / x6 * x6))]) hO dX4_common_26 (Nat.le_of_ble_eq_true rfl) rfl ?_
      refine zg_goto (tgt := 6) hO dX4_common_28 (by decide) ?_
      exact zg_sub [1, 0] rfl (ih _ _ h)
theorem mw_X4_common : MwS yX4_common cX4_common 10 (some .long) 2 := ⟨by decide +kernel, q1845, q106, q1846⟩
set_option maxHeartbeats 4000000 in
theorem m_common (l : Launch) (D : va_G) (dA : Nat → ClassId) {x0 : Int64} {x2 : Int64} {ρ : Int64} (h : M_common x0 x2 = some ρ) : Ct l yX4_common (ws_ yX4_common cX4_common 10 (some .long)) 0 0 0 D dA [.long x0, .long x2] [] A0s (QfL D dA [] ρ) := by
  refine zc_start (cc := cX4_common) (nL := 10) (ret := (some .long)) (own := RX4) (by decide) rfl rfl (Nat.le_of_ble_eq_true rfl) (fun _ _ h => h) (fun p e s m args below meth c hO hr _ _ => ?_)
  unfold M_common at h
  refine zg_sub (lv' := [(0, .long x0), (2, .long x2)]) [0, 1] rfl ?_
  refine zg_lload_n hO 0 dX4_common_0 rfl rfl ?_
  refine zg_lstore (lv' := [(4, .long x0), (0, .long x0), (2, .long x2)]) hO dX4_common_1 (Nat.le_of_ble_eq_true rfl) rfl ?_
  refine zg_lload_n hO 2 dX4_common_3 rfl rfl ?_
  refine zg_lstore (lv' := [(6, .long x2), (4, .long x0), (0, .long x0), (2, .long x2)]) hO dX4_common_4 (Nat.le_of_ble_eq_true rfl) rfl ?_
  exact zg_sub [1, 0] rfl (w_M_common_6 hO hr _ _ _ h)
set_option maxHeartbeats 4000000 in
theorem w_M_numberOf_43 (hO : Ok p s m args meth c cX4_numberOf RX4 6 D dA (AG G s.heap.size)) (hr : meth.sig.returnType = (some .int)) {ρ : Int32 × MS} {k7 : Int32 → Int32 → Int32 → MS → Option (Int32 × MS)} {k20 : Int32 → Int32 → Int32 → Int32 → Int32 → MS → Option (Int32 × MS)} (K7 : ∀ (x1 : Int32) (x2 : Int32) (x3 : Int32) (σ : MS), k7 x1 x2 x3 σ = some ρ → Go p l e (rmG 1 0 0) s m args below meth c D (AG G s.heap.size) 6 (MQ below ((QfI D dA (WM dA G ρ.2) ρ.1) (AG G s.heap.size)) args s 0 0 (AG G s.heap.size)) (WM dA G σ) 0 0 7 [(0, .ref (G 6)), (1, .int x1), (2, .int x2), (3, .int x3)] []) (K20 : ∀ (x1 : Int32) (x2 : Int32) (x3 : Int32) (x4 : Int32) (x5 : Int32) (σ : MS), k20 x1 x2 x3 x4 x5 σ = some ρ → Go p l e (rmG 1 0 0) s m args below meth c D (AG G s.heap.size) 6 (MQ below ((QfI D dA (WM dA G ρ.2) ρ.1) (AG G s.heap.size)) args s 0 0 (AG G s.heap.size)) (WM dA G σ) 0 0 20 [(0, .ref (G 6)), (1, .int x1), (2, .int x2), (3, .int x3), (4, .int x4), (5, .int x5)] []) : ∀ (x1 : Int32) (x2 : Int32) (x3 : Int32) (x5 : Int32) (y0 : Int32) (y1 : Int32) (σ : MS), M_numberOf_43 k7 k20 x1 x2 x3 x5 y0 y1 σ = some ρ → Go p l e (rmG 1 0 0) s m args below meth c D (AG G s.heap.size) 6 (MQ below ((QfI D dA (WM dA G ρ.2) ρ.1) (AG G s.heap.size)) args s 0 0 (AG G s.heap.size)) (WM dA G σ) 0 0 43 [(0, .ref (G 6)), (1, .int x1), (2, .int x2), (3, .int x3), (5, .int x5)] [.int y0, .int y1] := by
  intro x1 x2 x3 x5 y0 y1 σ h
  unfold M_numberOf_43 at h
  refine zs_calli (As := [.int y0]) (rest := [.int y1]) hO h (fun q hq => m_flag l D dA hq) mw_X4_flag q1835 ⟨Nat.le_of_ble_eq_true rfl, Nat.le_of_ble_eq_true rfl⟩ ⟨Nat.le_refl _, Nat.le_refl _⟩ rfl rfl (Nat.le_of_ble_eq_true rfl) dX4_numberOf_43 (fun q1 h => ?_)
  refine zg_iadd hO dX4_numberOf_46 ?_
  refine zg_istore (lv' := [(4, .int (y1 + q1)), (0, .ref (G 6)), (1, .int x1), (2, .int x2), (3, .int x3), (5, .int x5)]) hO dX4_numberOf_47 (Nat.le_of_ble_eq_true rfl) rfl ?_
  refine zg_iinc (k := 5) (lv' := [(5, .int (x5 + (nI 1))), (4, .int (y1 + q1)), (0, .ref (G 6)), (1, .int x1), (2, .int x2), (3, .int x3)]) hO dX4_numberOf_49 rfl (zii ic1) (Nat.le_of_ble_eq_true rfl) rfl ?_
  refine zg_goto (tgt := 20) hO dX4_numberOf_52 (by decide) ?_
  exact zg_sub [2, 3, 4, 5, 1, 0] rfl (K20 _ _ _ _ _ _ h)
set_option maxHeartbeats 4000000 in
theorem w_M_numberOf_76 (hO : Ok p s m args meth c cX4_numberOf RX4 6 D dA (AG G s.heap.size)) (hr : meth.sig.returnType = (some .int)) {ρ : Int32 × MS} {k7 : Int32 → Int32 → Int32 → MS → Option (Int32 × MS)} (K7 : ∀ (x1 : Int32) (x2 : Int32) (x3 : Int32) (σ : MS), k7 x1 x2 x3 σ = some ρ → Go p l e (rmG 1 0 0) s m args below meth c D (AG G s.heap.size) 6 (MQ below ((QfI D dA (WM dA G ρ.2) ρ.1) (AG G s.heap.size)) args s 0 0 (AG G s.heap.size)) (WM dA G σ) 0 0 7 [(0, .ref (G 6)), (1, .int x1), (2, .int x2), (3, .int x3)] []) : ∀ (x1 : Int32) (x3 : Int32) (y0 : Int32) (σ : MS), M_numberOf_76 k7 x1 x3 y0 σ = some ρ → Go p l e (rmG 1 0 0) s m args below meth c D (AG G s.heap.size) 6 (MQ below ((QfI D dA (WM dA G ρ.2) ρ.1) (AG G s.heap.size)) args s 0 0 (AG G s.heap.size)) (WM dA G σ) 0 0 76 [(0, .ref (G 6)), (1, .int x1), (3, .int x3)] [.int y0] := by
  intro x1 x3 y0 σ h
  unfold M_numberOf_76 at h
  refine zg_istore_n (lv' := [(2, .int y0), (0, .ref (G 6)), (1, .int x1), (3, .int x3)]) hO dX4_numberOf_76 rfl (Nat.le_of_ble_eq_true rfl) rfl ?_
  refine zg_iinc (k := 3) (lv' := [(3, .int (x3 + (nI 1))), (2, .int y0), (0, .ref (G 6)), (1, .int x1)]) hO dX4_numberOf_77 rfl (zii ic1) (Nat.le_of_ble_eq_true rfl) rfl ?_
  refine zg_goto (tgt := 7) hO dX4_numberOf_80 (by decide) ?_
  exact zg_sub [2, 3, 1, 0] rfl (K7 _ _ _ _ h)
set_option maxHeartbeats 4000000 in
theorem w_M_numberOf_20 (hO : Ok p s m args meth c cX4_numberOf RX4 6 D dA (AG G s.heap.size)) (hr : meth.sig.returnType = (some .int)) {ρ : Int32 × MS} {k7 : Int32 → Int32 → Int32 → MS → Option (Int32 × MS)} (K7 : ∀ (x1 : Int32) (x2 : Int32) (x3 : Int32) (σ : MS), k7 x1 x2 x3 σ = some ρ → Go p l e (rmG 1 0 0) s m args below meth c D (AG G s.heap.size) 6 (MQ below ((QfI D dA (WM dA G ρ.2) ρ.1) (AG G s.heap.size)) args s 0 0 (AG G s.heap.size)) (WM dA G σ) 0 0 7 [(0, .ref (G 6)), (1, .int x1), (2, .int x2), (3, .int x3)] []) : ∀ (n : Nat) (x1 : Int32) (x2 : Int32) (x3 : Int32) (x4 : Int32) (x5 : Int32) (σ : MS), M_numberOf_20 k7 n x1 x2 x3 x4 x5 σ = some ρ → Go p l e (rmG 1 0 0) s m args below meth c D (AG G s.heap.size) 6 (MQ below ((QfI D dA (WM dA G ρ.2) ρ.1) (AG G s.heap.size)) args s 0 0 (AG G s.heap.size)) (WM dA G σ) 0 0 20 [(0, .ref (G 6)), (1, .int x1), (2, .int x2), (3, .int x3), (4, .int x4), (5, .int x5)] [] := by
  intro n
  induction n with
  | zero =>
    intro x1 x2 x3 x4 x5 σ h
    rw [M_numberOf_20] at h
    cases h
  | succ n ih =>
    intro x1 x2 x3 x4 x5 σ h
    rw [M_numberOf_20] at h
    refine zg_iload hO 5 dX4_numberOf_20 rfl ?_
    refine zg_iconst hO dX4_numberOf_22 ic4 ?_
    refine zg_icmp_ge (tgt := 55) hO h dX4_numberOf_23 (by decide) (fun h => ?_) (fun h => ?_)
    · refine zg_iload_n hO 1 dX4_numberOf_55 rfl rfl ?_
      refine zg_iload hO 4 dX4_numberOf_56 rfl ?_
      refine zg_iload_n hO 2 dX4_numberOf_58 rfl rfl ?_
      refine zg_imul hO dX4_numberOf_59 ?_
      refine zg_iadd hO dX4_numberOf_60 ?_
      refine zg_istore_n (lv' := [(1, .int (x1 + (x4 * x2))), (0, .ref (G 6)), (2, .int x2), (3, .int x3), (4, .int x4), (5, .int x5)]) hO dX4_numberOf_61 rfl (Nat.le_of_ble_eq_true rfl) rfl ?_
      refine zg_iload_n hO 3 dX4_numberOf_62 rfl rfl ?_
      refine zg_iconst hO dX4_numberOf_63 ic2 ?_
      refine zg_icmp_ge (tgt := 75) hO h dX4_numberOf_64 (by decide) (fun h => ?_) (fun h => ?_)
      · refine zg_iconst hO dX4_numberOf_75 ic1 ?_
        exact zg_sub [1, 0, 3] rfl (w_M_numberOf_76 hO hr K7 _ _ _ _ h)
      · refine zg_iload_n hO 2 dX4_numberOf_67 rfl rfl ?_
        refine zg_iconst hO dX4_numberOf_68 ic3 ?_
        refine zg_iload_n hO 3 dX4_numberOf_69 rfl rfl ?_
        refine zg_isub hO dX4_numberOf_70 ?_
        refine zg_idiv hO h dX4_numberOf_71 (fun h => ?_)
        refine zg_goto (tgt := 76) hO dX4_numberOf_72 (by decide) ?_
        exact zg_sub [1, 0, 3] rfl (w_M_numberOf_76 hO hr K7 _ _ _ _ h)
    · refine zg_iload hO 4 dX4_numberOf_26 rfl ?_
      refine zg_aload_n hO 0 dX4_numberOf_28 rfl rfl ?_
      refine zg_iload hO 5 dX4_numberOf_29 rfl ?_
      refine mL_6 hO h dX4_numberOf_31 (fun h => ?_)
      refine zg_aload_n hO 0 dX4_numberOf_32 rfl rfl ?_
      refine zg_iload_n hO 3 dX4_numberOf_33 rfl rfl ?_
      refine mL_6 hO h dX4_numberOf_34 (fun h => ?_)
      refine zg_icmp_ge (tgt := 42) hO h dX4_numberOf_35 (by decide) (fun h => ?_) (fun h => ?_)
      · refine zg_iconst hO dX4_numberOf_42 ic0 ?_
        exact zg_sub [0, 1, 2, 3, 5] rfl (w_M_numberOf_43 hO hr K7 ih _ _ _ _ _ _ _ h)
      · refine zg_iconst hO dX4_numberOf_38 ic1 ?_
        refine zg_goto (tgt := 43) hO dX4_numberOf_39 (by decide) ?_
        exact zg_sub [0, 1, 2, 3, 5] rfl (w_M_numberOf_43 hO hr K7 ih _ _ _ _ _ _ _ h)
set_option maxHeartbeats 4000000 in
theorem w_M_numberOf_7 (hO : Ok p s m args meth c cX4_numberOf RX4 6 D dA (AG G s.heap.size)) (hr : meth.sig.returnType = (some .int)) {ρ : Int32 × MS} : ∀ (n : Nat) (x1 : Int32) (x2 : Int32) (x3 : Int32) (σ : MS), M_numberOf_7 n x1 x2 x3 σ = some ρ → Go p l e (rmG 1 0 0) s m args below meth c D (AG G s.heap.size) 6 (MQ below ((QfI D dA (WM dA G ρ.2) ρ.1) (AG G s.heap.size)) args s 0 0 (AG G s.heap.size)) (WM dA G σ) 0 0 7 [(0, .ref (G 6)), (1, .int x1), (2, .int x2), (3, .int x3)] [] := by
  intro n
  induction n with
  | zero =>
    intro x1 x2 x3 σ h
    rw [M_numberOf_7] at h
    cases h
  | succ n ih =>
    intro x1 x2 x3 σ h
    rw [M_numberOf_7] at h
    refine zg_iload_n hO 3 dX4_numberOf_7 rfl rfl ?_
    refine zg_iconst hO dX4_numberOf_8 ic4 ?_
    refine zg_icmp_ge (tgt := 83) hO h dX4_numberOf_9 (by decide) (fun h => ?_) (fun h => ?_)
    · refine zg_iload_n hO 1 dX4_numberOf_83 rfl rfl ?_
      exact zm_iret hO hr h dX4_numberOf_84
    · refine zg_iconst hO dX4_numberOf_12 ic0 ?_
      refine zg_istore (lv' := [(4, .int (nI 0)), (0, .ref (G 6)), (1, .int x1), (2, .int x2), (3, .int x3)]) hO dX4_numberOf_13 (Nat.le_of_ble_eq_true rfl) rfl ?_
      refine zg_iload_n hO 4 dX4_numberOf_15 rfl rfl ?_
      refine zg_iconst hO dX4_numberOf_16 ic1 ?_
      refine zg_iadd hO dX4_numberOf_17 ?_
      refine zg_istore (lv' := [(5, .int (x3 + (nI 1))), (4, .int (nI 0)), (0, .ref (G 6)), (1, .int x1), (2, .int x2), (3, .int x3)]) hO dX4_numberOf_18 (Nat.le_of_ble_eq_true rfl) rfl ?_
      exact zg_sub [2, 3, 4, 5, 1, 0] rfl (w_M_numberOf_20 hO hr ih _ _ _ _ _ _ _ h)
theorem mw_X4_numberOf : MwS yX4_numberOf cX4_numberOf 6 (some .int) 1 := ⟨by decide +kernel, q1853, q106, q1854⟩
set_option maxHeartbeats 4000000 in
theorem m_numberOf (l : Launch) (D : va_G) (dA : Nat → ClassId) (G : Nat → Nat) {σ : MS} {ρ : Int32 × MS} (h : M_numberOf σ = some ρ) : Ct l yX4_numberOf (ws_ yX4_numberOf cX4_numberOf 6 (some .int)) 1 0 0 D dA [.ref (G 6)] (WM dA G σ) (AG G) (QfI D dA (WM dA G ρ.2) ρ.1) := by
  refine zc_start (cc := cX4_numberOf) (nL := 6) (ret := (some .int)) (own := RX4) (by decide) rfl rfl (Nat.le_of_ble_eq_true rfl) wm_A (fun p e s m args below meth c hO hr _ _ => ?_)
  unfold M_numberOf at h
  refine zg_sub (lv' := [(0, .ref (G 6))]) [0] rfl ?_
  refine zg_iconst hO dX4_numberOf_0 ic0 ?_
  refine zg_istore_n (lv' := [(1, .int (nI 0)), (0, .ref (G 6))]) hO dX4_numberOf_1 rfl (Nat.le_of_ble_eq_true rfl) rfl ?_
  refine zg_bipush hO dX4_numberOf_2 bc6 ?_
  refine zg_istore_n (lv' := [(2, .int (nI 6)), (1, .int (nI 0)), (0, .ref (G 6))]) hO dX4_numberOf_4 rfl (Nat.le_of_ble_eq_true rfl) rfl ?_
  refine zg_iconst hO dX4_numberOf_5 ic0 ?_
  refine zg_istore_n (lv' := [(3, .int (nI 0)), (2, .int (nI 6)), (1, .int (nI 0)), (0, .ref (G 6))]) hO dX4_numberOf_6 rfl (Nat.le_of_ble_eq_true rfl) rfl ?_
  exact zg_sub [3, 2, 1, 0] rfl (w_M_numberOf_7 hO hr _ _ _ _ _ h)
set_option maxHeartbeats 4000000 in
theorem w_M_arrangedBy_18 (hO : Ok p s m args meth c cX4_arrangedBy RX4 4 D dA (AG G s.heap.size)) (hr : meth.sig.returnType = (some .int)) {ρ : Int32 × MS} : ∀ (n : Nat) (x3 : Int32) (σ : MS), M_arrangedBy_18 n x3 σ = some ρ → Go p l e (rmG 2 0 0) s m args below meth c D (AG G s.heap.size) 4 (MQ below ((QfI D dA (WM dA G ρ.2) ρ.1) (AG G s.heap.size)) args s 0 0 (AG G s.heap.size)) (WM dA G σ) 0 0 18 [(0, .ref (G 0)), (3, .int x3)] [] := by
  intro n
  induction n with
  | zero =>
    intro x3 σ h
    rw [M_arrangedBy_18] at h
    cases h
  | succ n ih =>
    intro x3 σ h
    rw [M_arrangedBy_18] at h
    refine zg_iload_n hO 1 dX4_arrangedBy_18 rfl rfl ?_
    refine zg_iconst hO dX4_arrangedBy_19 ic4 ?_
    refine zg_icmp_ge (tgt := 46) hO h dX4_arrangedBy_20 (by decide) (fun h => ?_) (fun h => ?_)
    · refine zg_aload_n hO 0 dX4_arrangedBy_46 rfl rfl ?_
      refine mG_57 hO dX4_arrangedBy_47 ?_
      refine zm_callSi (As := [.ref (G 6)]) (rest := []) hO h (fun q hq => m_numberOf l D dA G hq) mw_X4_numberOf q1852 ⟨Nat.le_of_ble_eq_true rfl, Nat.le_of_ble_eq_true rfl⟩ rfl rfl (Nat.le_of_ble_eq_true rfl) dX4_arrangedBy_50 (fun q3 h => ?_)
      exact zm_iret hO hr h dX4_arrangedBy_53
    · refine zg_aload_n hO 0 dX4_arrangedBy_23 rfl rfl ?_
      refine mG_57 hO dX4_arrangedBy_24 ?_
      refine zg_iload_n hO 1 dX4_arrangedBy_27 rfl rfl ?_
      refine zg_aload_n hO 0 dX4_arrangedBy_28 rfl rfl ?_
      refine mG_54 hO dX4_arrangedBy_29 ?_
      refine zg_aload_n hO 0 dX4_arrangedBy_32 rfl rfl ?_
      refine mG_51 hO dX4_arrangedBy_33 ?_
      refine zg_iload_n hO 1 dX4_arrangedBy_36 rfl rfl ?_
      refine mL_4 hO h dX4_arrangedBy_37 (fun h => ?_)
      refine mL_5 hO h dX4_arrangedBy_38 (fun h => ?_)
      refine mS_6 hO h dX4_arrangedBy_39 (fun h => ?_)
      refine zg_iinc (k := 1) (lv' := [(3, .int (x3 + (nI 1))), (0, .ref (G 0))]) hO dX4_arrangedBy_40 rfl (zii ic1) (Nat.le_of_ble_eq_true rfl) rfl ?_
      refine zg_goto (tgt := 18) hO dX4_arrangedBy_43 (by decide) ?_
      exact zg_sub [1, 0] rfl (ih _ _ h)
theorem mw_X4_arrangedBy : MwV yX4_arrangedBy cX4_arrangedBy 4 (some .int) RX4 2 := ⟨by decide +kernel, q1850, qs50, q106, q1851⟩
set_option maxHeartbeats 4000000 in
theorem m_arrangedBy (l : Launch) (D : va_G) (dA : Nat → ClassId) (G : Nat → Nat) {x1 : Int32} {x2 : Int32} {σ : MS} {ρ : Int32 × MS} (h : M_arrangedBy x1 x2 σ = some ρ) : Ct l yX4_arrangedBy (ws_ yX4_arrangedBy cX4_arrangedBy 4 (some .int)) 2 0 0 D dA [.ref (G 0), .int x1, .int x2] (WM dA G σ) (AG G) (QfI D dA (WM dA G ρ.2) ρ.1) := by
  refine zc_start (cc := cX4_arrangedBy) (nL := 4) (ret := (some .int)) (own := RX4) (by decide) rfl rfl (Nat.le_of_ble_eq_true rfl) wm_A (fun p e s m args below meth c hO hr _ _ => ?_)
  unfold M_arrangedBy at h
  refine zg_sub (lv' := [(0, .ref (G 0)), (1, .int x1), (2, .int x2)]) [0, 1, 2] rfl ?_
  refine zg_iload_n hO 1 dX4_arrangedBy_0 rfl rfl ?_
  refine zg_aload_n hO 0 dX4_arrangedBy_1 rfl rfl ?_
  refine mG_51 hO dX4_arrangedBy_2 ?_
  refine zm_callSv (As := [.int x1, .ref (G 4)]) (rest := []) hO h (fun q hq => m_lays_p l D dA G hq) mw_X4_lays q1832 ⟨Nat.le_of_ble_eq_true rfl, Nat.le_of_ble_eq_true rfl⟩ rfl rfl (Nat.le_of_ble_eq_true rfl) dX4_arrangedBy_5 (fun q1 h => ?_)
  refine zg_iload_n hO 2 dX4_arrangedBy_8 rfl rfl ?_
  refine zg_aload_n hO 0 dX4_arrangedBy_9 rfl rfl ?_
  refine mG_54 hO dX4_arrangedBy_10 ?_
  refine zm_callSv (As := [.int x2, .ref (G 5)]) (rest := []) hO h (fun q hq => m_lays_o l D dA G hq) mw_X4_lays q1832 ⟨Nat.le_of_ble_eq_true rfl, Nat.le_of_ble_eq_true rfl⟩ rfl rfl (Nat.le_of_ble_eq_true rfl) dX4_arrangedBy_13 (fun q2 h => ?_)
  refine zg_iconst hO dX4_arrangedBy_16 ic0 ?_
  refine zg_istore_n (lv' := [(3, .int (nI 0)), (0, .ref (G 0)), (1, .int x1), (2, .int x2)]) hO dX4_arrangedBy_17 rfl (Nat.le_of_ble_eq_true rfl) rfl ?_
  exact zg_sub [1, 0] rfl (w_M_arrangedBy_18 hO hr _ _ _ h)
set_option maxHeartbeats 4000000 in
theorem w_M_join_205 (hO : Ok p s m args meth c cX4_join RX4 11 D dA (AG G s.heap.size)) (hr : meth.sig.returnType = none) {ρ : MS} : ∀ (y0 : Int64) (y1 : Int64) (σ : MS), M_join_205 y0 y1 σ = some ρ → Go p l e (rmG 3 0 0) s m args below meth c D (AG G s.heap.size) 11 (MQ below ((QfV D dA (WM dA G ρ)) (AG G s.heap.size)) args s 0 0 (AG G s.heap.size)) (WM dA G σ) 0 0 205 [] [.long y0, .long y1, .ref (G 0)] := by
  intro y0 y1 σ h
  unfold M_join_205 at h
  refine zm_callVv (As := [.long y1, .long y0]) (rest := []) hO h (fun q hq => m_is l D dA G hq) mw_X4_is q1824 ⟨Nat.le_of_ble_eq_true rfl, Nat.le_of_ble_eq_true rfl⟩ rfl rfl (Nat.le_of_ble_eq_true rfl) dX4_join_205 (fun q10 h => ?_)
  refine zg_goto (tgt := 233) hO dX4_join_208 (by decide) ?_
  exact zm_vret hO hr h dX4_join_233
set_option maxHeartbeats 4000000 in
theorem w_M_join_192 (hO : Ok p s m args meth c cX4_join RX4 11 D dA (AG G s.heap.size)) (hr : meth.sig.returnType = none) {ρ : MS} : ∀ (x3 : Int64) (x7 : Int64) (y0 : Int64) (σ : MS), M_join_192 x3 x7 y0 σ = some ρ → Go p l e (rmG 3 0 0) s m args below meth c D (AG G s.heap.size) 11 (MQ below ((QfV D dA (WM dA G ρ)) (AG G s.heap.size)) args s 0 0 (AG G s.heap.size)) (WM dA G σ) 0 0 192 [(3, .long x3), (7, .long x7)] [.long y0, .ref (G 0)] := by
  intro x3 x7 y0 σ h
  unfold M_join_192 at h
  refine zg_lload hO 1 dX4_join_192 rfl ?_
  refine zg_lconst hO dX4_join_194 lc0 ?_
  refine zg_lcmp hO dX4_join_195 ?_
  refine zg_if_ge (tgt := 203) hO h dX4_join_196 (by decide) (fun h => ?_) (fun h => ?_)
  · refine zg_lload hO 1 dX4_join_203 rfl ?_
    exact zg_sub [] rfl (w_M_join_205 hO hr _ _ _ h)
  · refine zg_lload_n hO 0 dX4_join_199 rfl rfl ?_
    refine zg_goto (tgt := 205) hO dX4_join_200 (by decide) ?_
    exact zg_sub [] rfl (w_M_join_205 hO hr _ _ _ h)
theorem mw_X4_join : MwV yX4_join cX4_join 11 none RX4 4 := ⟨by decide +kernel, q1840, qs49, q106, q1841⟩
set_option maxHeartbeats 4000000 in
theorem m_join (l : Launch) (D : va_G) (dA : Nat → ClassId) (G : Nat → Nat) {x1 : Int64} {x3 : Int64} {x5 : Int64} {x7 : Int64} {σ : MS} {ρ : MS} (h : M_join x1 x3 x5 x7 σ = some ρ) : Ct l yX4_join (ws_ yX4_join cX4_join 11 none) 3 0 0 D dA [.ref (G 0), .long x1, .long x3, .long x5, .long x7] (WM dA G σ) (AG G) (QfV D dA (WM dA G ρ)) := by
  refine zc_start (cc := cX4_join) (nL := 11) (ret := none) (own := RX4) (by decide) rfl rfl (Nat.le_of_ble_eq_true rfl) wm_A (fun p e s m args below meth c hO hr _ _ => ?_)
  unfold M_join at h
  refine zg_sub (lv' := [(0, .ref (G 0)), (1, .long x1), (3, .long x3), (5, .long x5), (7, .long x7)]) [0, 1, 2, 3, 4] rfl ?_
  refine zg_aload_n hO 0 dX4_join_0 rfl rfl ?_
  refine mG_93 hO dX4_join_1 ?_
  refine zg_ite h (fun e0 h => ?_) (fun e0 h => ?_)
  · refine zg_tableIn (tgt := 48) hO dX4_join_4 (by rw [e0]; decide) (by rw [e0]; decide) (by rw [e0]; rfl) (by decide) ?_
    refine zg_aload_n hO 0 dX4_join_48 rfl rfl ?_
    refine zg_lload_n hO 1 dX4_join_49 rfl rfl ?_
    refine zg_lload hO 3 dX4_join_50 rfl ?_
    refine zg_ladd hO dX4_join_52 ?_
    refine zg_lload_n hO 2 dX4_join_53 rfl rfl ?_
    refine zg_lload hO 4 dX4_join_54 rfl ?_
    refine zg_ladd hO dX4_join_56 ?_
    refine zm_callVv (As := [.long (x1 + x5), .long (x3 + x7)]) (rest := []) hO h (fun q hq => m_is l D dA G hq) mw_X4_is q1824 ⟨Nat.le_of_ble_eq_true rfl, Nat.le_of_ble_eq_true rfl⟩ rfl rfl (Nat.le_of_ble_eq_true rfl) dX4_join_57 (fun q1 h => ?_)
    refine zg_goto (tgt := 233) hO dX4_join_60 (by decide) ?_
    exact zm_vret hO hr h dX4_join_233
  refine zg_ite h (fun e1 h => ?_) (fun e1 h => ?_)
  · refine zg_tableIn (tgt := 63) hO dX4_join_4 (by rw [e1]; decide) (by rw [e1]; decide) (by rw [e1]; rfl) (by decide) ?_
    refine zg_aload_n hO 0 dX4_join_63 rfl rfl ?_
    refine zg_lload_n hO 1 dX4_join_64 rfl rfl ?_
    refine zg_lload hO 3 dX4_join_65 rfl ?_
    refine zs_mminL hO q1842 (Nat.le_of_ble_eq_true rfl) (Nat.le_of_ble_eq_true rfl) ⟨Nat.le_refl _, Nat.le_refl _⟩ dX4_join_67 ?_
    refine zg_lload_n hO 2 dX4_join_70 rfl rfl ?_
    refine zg_lload hO 4 dX4_join_71 rfl ?_
    refine zs_mmaxL hO q1843 (Nat.le_of_ble_eq_true rfl) (Nat.le_of_ble_eq_true rfl) ⟨Nat.le_refl _, Nat.le_refl _⟩ dX4_join_73 ?_
    refine zm_callVv (As := [.long (if x5 < x1 then x5 else x1), .long (if x7 < x3 then x3 else x7)]) (rest := []) hO h (fun q hq => m_is l D dA G hq) mw_X4_is q1824 ⟨Nat.le_of_ble_eq_true rfl, Nat.le_of_ble_eq_true rfl⟩ rfl rfl (Nat.le_of_ble_eq_true rfl) dX4_join_76 (fun q2 h => ?_)
    refine zg_goto (tgt := 233) hO dX4_join_79 (by decide) ?_
    exact zm_vret hO hr h dX4_join_233
  refine zg_ite h (fun e2 h => ?_) (fun e2 h => ?_)
  · refine zg_tableIn (tgt := 82) hO dX4_join_4 (by rw [e2]; decide) (by rw [e2]; decide) (by rw [e2]; rfl) (by decide) ?_
    refine zg_aload_n hO 0 dX4_join_82 rfl rfl ?_
    refine zg_lload_n hO 1 dX4_join_83 rfl rfl ?_
    refine zg_lload hO 3 dX4_join_84 rfl ?_
    refine zs_calll (As := [.long x1, .long x5]) (rest := [.ref (G 0)]) hO h (fun q hq => m_common l D dA hq) mw_X4_common q1844 ⟨Nat.le_of_ble_eq_true rfl, Nat.le_of_ble_eq_true rfl⟩ ⟨Nat.le_refl _, Nat.le_refl _⟩ rfl rfl (Nat.le_of_ble_eq_true rfl) dX4_join_86 (fun q3 h => ?_)
    refine zg_lload_n hO 2 dX4_join_89 rfl rfl ?_
    refine zg_lload hO 4 dX4_join_90 rfl ?_
    refine zg_lxor hO dX4_join_92 ?_
    refine zm_callVv (As := [.long q3, .long (x3 ^^^ x7)]) (rest := []) hO h (fun q hq => m_is l D dA G hq) mw_X4_is q1824 ⟨Nat.le_of_ble_eq_true rfl, Nat.le_of_ble_eq_true rfl⟩ rfl rfl (Nat.le_of_ble_eq_true rfl) dX4_join_93 (fun q4 h => ?_)
    refine zg_goto (tgt := 233) hO dX4_join_96 (by decide) ?_
    exact zm_vret hO hr h dX4_join_233
  refine zg_ite h (fun e3 h => ?_) (fun e3 h => ?_)
  · refine zg_tableIn (tgt := 99) hO dX4_join_4 (by rw [e3]; decide) (by rw [e3]; decide) (by rw [e3]; rfl) (by decide) ?_
    refine zg_aload_n hO 0 dX4_join_99 rfl rfl ?_
    refine zg_lload_n hO 1 dX4_join_100 rfl rfl ?_
    refine zg_lload hO 3 dX4_join_101 rfl ?_
    refine zg_lmul hO dX4_join_103 ?_
    refine zg_ldc2 (x := 101) hO q1847 dX4_join_104 ?_
    refine zg_lrem hO h dX4_join_107 (fun h => ?_)
    refine zg_lload hO 3 dX4_join_108 rfl ?_
    refine zg_lload_n hO 2 dX4_join_110 rfl rfl ?_
    refine zg_lmul hO dX4_join_111 ?_
    refine zg_lload hO 4 dX4_join_112 rfl ?_
    refine zg_ladd hO dX4_join_114 ?_
    refine zg_ldc2 (x := 101) hO q1847 dX4_join_115 ?_
    refine zg_lrem hO h dX4_join_118 (fun h => ?_)
    refine zm_callVv (As := [.long ((x1 * x5) - (x1 * x5) / (101 : Int64) * (101 : Int64)), .long (((x5 * x3) + x7) - ((x5 * x3) + x7) / (101 : Int64) * (101 : Int64))]) (rest := []) hO h (fun q hq => m_is l D dA G hq) mw_X4_is q1824 ⟨Nat.le_of_ble_eq_true rfl, Nat.le_of_ble_eq_true rfl⟩ rfl rfl (Nat.le_of_ble_eq_true rfl) dX4_join_119 (fun q5 h => ?_)
    refine zg_goto (tgt := 233) hO dX4_join_122 (by decide) ?_
    exact zm_vret hO hr h dX4_join_233
  refine zg_ite h (fun e4 h => ?_) (fun e4 h => ?_)
  · refine zg_tableIn (tgt := 125) hO dX4_join_4 (by rw [e4]; decide) (by rw [e4]; decide) (by rw [e4]; rfl) (by decide) ?_
    refine zg_lload_n hO 2 dX4_join_125 rfl rfl ?_
    refine zg_lload hO 3 dX4_join_126 rfl ?_
    refine zs_mminL hO q1842 (Nat.le_of_ble_eq_true rfl) (Nat.le_of_ble_eq_true rfl) ⟨Nat.le_refl _, Nat.le_refl _⟩ dX4_join_128 ?_
    refine zg_lstore (lv' := [(9, .long (if x5 < x3 then x5 else x3)), (0, .ref (G 0)), (1, .long x1), (3, .long x3), (5, .long x5), (7, .long x7)]) hO dX4_join_131 (Nat.le_of_ble_eq_true rfl) rfl ?_
    refine zg_aload_n hO 1 dX4_join_133 rfl rfl ?_
    refine zg_lload_n hO 2 dX4_join_134 rfl rfl ?_
    refine zg_lload hO 4 dX4_join_135 rfl ?_
    refine zg_ladd hO dX4_join_137 ?_
    refine zg_lload hO 0 dX4_join_138 rfl ?_
    refine zg_lsub hO dX4_join_140 ?_
    refine zg_lload_n hO 3 dX4_join_141 rfl rfl ?_
    refine zg_lload hO 5 dX4_join_142 rfl ?_
    refine zg_ladd hO dX4_join_144 ?_
    refine zg_lload hO 0 dX4_join_145 rfl ?_
    refine zg_lsub hO dX4_join_147 ?_
    refine zm_callVv (As := [.long ((x1 + x5) - (if x5 < x3 then x5 else x3)), .long ((x3 + x7) - (if x5 < x3 then x5 else x3))]) (rest := []) hO h (fun q hq => m_is l D dA G hq) mw_X4_is q1824 ⟨Nat.le_of_ble_eq_true rfl, Nat.le_of_ble_eq_true rfl⟩ rfl rfl (Nat.le_of_ble_eq_true rfl) dX4_join_148 (fun q6 h => ?_)
    refine zg_goto (tgt := 233) hO dX4_join_151 (by decide) ?_
    exact zm_vret hO hr h dX4_join_233
  refine zg_ite h (fun e5 h => ?_) (fun e5 h => ?_)
  · refine zg_tableIn (tgt := 154) hO dX4_join_4 (by rw [e5]; decide) (by rw [e5]; decide) (by rw [e5]; rfl) (by decide) ?_
    refine zg_aload_n hO 0 dX4_join_154 rfl rfl ?_
    refine zg_aload_n hO 0 dX4_join_155 rfl rfl ?_
    refine zg_lload_n hO 1 dX4_join_156 rfl rfl ?_
    refine zg_l2i hO dX4_join_157 ?_
    refine zg_lload hO 3 dX4_join_158 rfl ?_
    refine zg_l2i hO dX4_join_160 ?_
    refine zm_callVi (As := [.int (x1.toInt32), .int (x5.toInt32)]) (rest := [.ref (G 0)]) hO h (fun q hq => m_arrangedBy l D dA G hq) mw_X4_arrangedBy q1848 ⟨Nat.le_of_ble_eq_true rfl, Nat.le_of_ble_eq_true rfl⟩ rfl rfl (Nat.le_of_ble_eq_true rfl) dX4_join_161 (fun q7 h => ?_)
    refine zg_i2l hO dX4_join_164 ?_
    refine zg_lload_n hO 2 dX4_join_165 rfl rfl ?_
    refine zg_lload hO 4 dX4_join_166 rfl ?_
    refine zg_ladd hO dX4_join_168 ?_
    refine zg_ldc2 (x := 2) hO q1855 dX4_join_169 ?_
    refine zg_lrem hO h dX4_join_172 (fun h => ?_)
    refine zm_callVv (As := [.long (q7.1.toInt64), .long ((x3 + x7) - (x3 + x7) / (2 : Int64) * (2 : Int64))]) (rest := []) hO h (fun q hq => m_is l D dA G hq) mw_X4_is q1824 ⟨Nat.le_of_ble_eq_true rfl, Nat.le_of_ble_eq_true rfl⟩ rfl rfl (Nat.le_of_ble_eq_true rfl) dX4_join_173 (fun q8 h => ?_)
    refine zg_goto (tgt := 233) hO dX4_join_176 (by decide) ?_
    exact zm_vret hO hr h dX4_join_233
  refine zg_ite h (fun e6 h => ?_) (fun e6 h => ?_)
  · refine zg_tableIn (tgt := 179) hO dX4_join_4 (by rw [e6]; decide) (by rw [e6]; decide) (by rw [e6]; rfl) (by decide) ?_
    refine zg_aload_n hO 0 dX4_join_179 rfl rfl ?_
    refine zg_lload_n hO 1 dX4_join_180 rfl rfl ?_
    refine zg_lconst hO dX4_join_181 lc0 ?_
    refine zg_lcmp hO dX4_join_182 ?_
    refine zg_if_ge (tgt := 191) hO h dX4_join_183 (by decide) (fun h => ?_) (fun h => ?_)
    · refine zg_lload_n hO 1 dX4_join_191 rfl rfl ?_
      exact zg_sub [2, 4] rfl (w_M_join_192 hO hr _ _ _ _ h)
    · refine zg_lload hO 3 dX4_join_186 rfl ?_
      refine zg_goto (tgt := 192) hO dX4_join_188 (by decide) ?_
      exact zg_sub [2, 4] rfl (w_M_join_192 hO hr _ _ _ _ h)
  refine zg_tableOut (tgt := 211) hO dX4_join_4 (zg_swout (lo := 0) (hi := 6) (fun k h1 h2 => by rcases (show k = 0 ∨ k = 1 ∨ k = 2 ∨ k = 3 ∨ k = 4 ∨ k = 5 ∨ k = 6 by omega) with rfl|rfl|rfl|rfl|rfl|rfl|rfl; exact e0; exact e1; exact e2; exact e3; exact e4; exact e5; exact e6)) (by decide) ?_
  refine zg_aload_n hO 0 dX4_join_211 rfl rfl ?_
  refine zg_aload_n hO 0 dX4_join_212 rfl rfl ?_
  refine mG_48 hO dX4_join_213 ?_
  refine zg_aload_n hO 0 dX4_join_216 rfl rfl ?_
  refine mG_45 hO dX4_join_217 ?_
  refine zg_lload_n hO 1 dX4_join_220 rfl rfl ?_
  refine zg_l2i hO dX4_join_221 ?_
  refine zg_imul hO dX4_join_222 ?_
  refine zg_lload hO 3 dX4_join_223 rfl ?_
  refine zg_l2i hO dX4_join_225 ?_
  refine zg_iadd hO dX4_join_226 ?_
  refine mL_3 hO h dX4_join_227 (fun h => ?_)
  refine zg_i2l hO dX4_join_228 ?_
  refine zg_lconst hO dX4_join_229 lc0 ?_
  refine zm_callVv (As := [.long ((gA σ 1 (((gI σ 6) * (x1.toInt32)) + (x5.toInt32)).toNatClampNeg).toInt64), .long (lN 0)]) (rest := []) hO h (fun q hq => m_is l D dA G hq) mw_X4_is q1824 ⟨Nat.le_of_ble_eq_true rfl, Nat.le_of_ble_eq_true rfl⟩ rfl rfl (Nat.le_of_ble_eq_true rfl) dX4_join_230 (fun q9 h => ?_)
  exact zm_vret hO hr h dX4_join_233
theorem mw_X4_joinsTwo : MwV yX4_joinsTwo cX4_joinsTwo 7 none RX4 2 := ⟨by decide +kernel, q1818, qs45, q106, q1819⟩
set_option maxHeartbeats 4000000 in
theorem m_joinsTwo (l : Launch) (D : va_G) (dA : Nat → ClassId) (G : Nat → Nat) {x1 : Int32} {x2 : Int32} {σ : MS} {ρ : MS} (h : M_joinsTwo x1 x2 σ = some ρ) : Ct l yX4_joinsTwo (ws_ yX4_joinsTwo cX4_joinsTwo 7 none) 4 0 0 D dA [.ref (G 0), .int x1, .int x2] (WM dA G σ) (AG G) (QfV D dA (WM dA G ρ)) := by
  refine zc_start (cc := cX4_joinsTwo) (nL := 7) (ret := none) (own := RX4) (by decide) rfl rfl (Nat.le_of_ble_eq_true rfl) wm_A (fun p e s m args below meth c hO hr _ _ => ?_)
  unfold M_joinsTwo at h
  refine zg_sub (lv' := [(0, .ref (G 0)), (1, .int x1), (2, .int x2)]) [0, 1, 2] rfl ?_
  refine zg_aload_n hO 0 dX4_joinsTwo_0 rfl rfl ?_
  refine zg_iload_n hO 2 dX4_joinsTwo_1 rfl rfl ?_
  refine zm_callVv (As := [.int x2]) (rest := []) hO h (fun q hq => m_element l D dA G hq) mw_X4_element q1820 ⟨Nat.le_of_ble_eq_true rfl, Nat.le_of_ble_eq_true rfl⟩ rfl rfl (Nat.le_of_ble_eq_true rfl) dX4_joinsTwo_2 (fun q1 h => ?_)
  refine zg_aload_n hO 0 dX4_joinsTwo_5 rfl rfl ?_
  refine mG_96 hO dX4_joinsTwo_6 ?_
  refine zg_lstore_n (lv' := [(3, .long (gL q1 0)), (0, .ref (G 0)), (1, .int x1), (2, .int x2)]) hO dX4_joinsTwo_9 rfl (Nat.le_of_ble_eq_true rfl) rfl ?_
  refine zg_aload_n hO 1 dX4_joinsTwo_10 rfl rfl ?_
  refine mG_100 hO dX4_joinsTwo_11 ?_
  refine zg_lstore (lv' := [(5, .long (gL q1 1)), (3, .long (gL q1 0)), (0, .ref (G 0)), (1, .int x1), (2, .int x2)]) hO dX4_joinsTwo_14 (Nat.le_of_ble_eq_true rfl) rfl ?_
  refine zg_aload_n hO 2 dX4_joinsTwo_16 rfl rfl ?_
  refine zg_iload_n hO 3 dX4_joinsTwo_17 rfl rfl ?_
  refine zm_callVv (As := [.int x1]) (rest := []) hO h (fun q hq => m_element l D dA G hq) mw_X4_element q1820 ⟨Nat.le_of_ble_eq_true rfl, Nat.le_of_ble_eq_true rfl⟩ rfl rfl (Nat.le_of_ble_eq_true rfl) dX4_joinsTwo_18 (fun q2 h => ?_)
  refine zg_aload_n hO 2 dX4_joinsTwo_21 rfl rfl ?_
  refine zg_aload_n hO 2 dX4_joinsTwo_22 rfl rfl ?_
  refine mG_96 hO dX4_joinsTwo_23 ?_
  refine zg_aload_n hO 2 dX4_joinsTwo_26 rfl rfl ?_
  refine mG_100 hO dX4_joinsTwo_27 ?_
  refine zg_lload_n hO 1 dX4_joinsTwo_30 rfl rfl ?_
  refine zg_lload hO 0 dX4_joinsTwo_31 rfl ?_
  refine zm_callVv (As := [.long (gL q2 0), .long (gL q2 1), .long (gL q1 0), .long (gL q1 1)]) (rest := []) hO h (fun q hq => m_join l D dA G hq) mw_X4_join q1838 ⟨Nat.le_of_ble_eq_true rfl, Nat.le_of_ble_eq_true rfl⟩ rfl rfl (Nat.le_of_ble_eq_true rfl) dX4_joinsTwo_33 (fun q3 h => ?_)
  exact zm_vret hO hr h dX4_joinsTwo_36
theorem mw_X4_enters : MwV yX4_enters cX4_enters 3 none RX4 1 := ⟨by decide +kernel, q1858, qs51, q106, q1859⟩
set_option maxHeartbeats 4000000 in
theorem m_enters (l : Launch) (D : va_G) (dA : Nat → ClassId) (G : Nat → Nat) {x1 : Int64} {σ : MS} {ρ : MS} (h : M_enters x1 σ = some ρ) : Ct l yX4_enters (ws_ yX4_enters cX4_enters 3 none) 0 0 0 D dA [.ref (G 0), .long x1] (WM dA G σ) (AG G) (QfV D dA (WM dA G ρ)) := by
  refine zc_start (cc := cX4_enters) (nL := 3) (ret := none) (own := RX4) (by decide) rfl rfl (Nat.le_of_ble_eq_true rfl) wm_A (fun p e s m args below meth c hO hr _ _ => ?_)
  unfold M_enters at h
  refine zg_sub (lv' := [(0, .ref (G 0)), (1, .long x1)]) [0, 1] rfl ?_
  refine zg_aload_n hO 0 dX4_enters_0 rfl rfl ?_
  refine mG_7 hO dX4_enters_1 ?_
  refine zg_aload_n hO 0 dX4_enters_4 rfl rfl ?_
  refine mG_11 hO dX4_enters_5 ?_
  refine zg_lload_n hO 1 dX4_enters_8 rfl rfl ?_
  refine mS_1 hO h dX4_enters_9 (fun h => ?_)
  refine zg_aload_n hO 0 dX4_enters_10 rfl rfl ?_
  refine zg_dup hO dX4_enters_11 rfl ?_
  refine mG_11 hO dX4_enters_12 ?_
  refine zg_iconst hO dX4_enters_15 ic1 ?_
  refine zg_iadd hO dX4_enters_16 ?_
  refine mP_11 hO dX4_enters_17 ?_
  exact zm_vret hO hr h dX4_enters_20
set_option maxHeartbeats 4000000 in
theorem w_M_commutes_100 (hO : Ok p s m args meth c cX4_commutes RX4 7 D dA (AG G s.heap.size)) (hr : meth.sig.returnType = (some .int)) {ρ : Int32 × MS} : ∀ (y0 : Int32) (σ : MS), M_commutes_100 y0 σ = some ρ → Go p l e (rmG 5 0 0) s m args below meth c D (AG G s.heap.size) 7 (MQ below ((QfI D dA (WM dA G ρ.2) ρ.1) (AG G s.heap.size)) args s 0 0 (AG G s.heap.size)) (WM dA G σ) 0 0 100 [] [.int y0] := by
  intro y0 σ h
  unfold M_commutes_100 at h
  refine zs_calli (As := [.int y0]) (rest := []) hO h (fun q hq => m_flag l D dA hq) mw_X4_flag q1835 ⟨Nat.le_of_ble_eq_true rfl, Nat.le_of_ble_eq_true rfl⟩ ⟨Nat.le_refl _, Nat.le_refl _⟩ rfl rfl (Nat.le_of_ble_eq_true rfl) dX4_commutes_100 (fun q9 h => ?_)
  exact zm_iret hO hr h dX4_commutes_103
set_option maxHeartbeats 4000000 in
theorem w_M_commutes_99 (hO : Ok p s m args meth c cX4_commutes RX4 7 D dA (AG G s.heap.size)) (hr : meth.sig.returnType = (some .int)) {ρ : Int32 × MS} : ∀ (σ : MS), M_commutes_99 σ = some ρ → Go p l e (rmG 5 0 0) s m args below meth c D (AG G s.heap.size) 7 (MQ below ((QfI D dA (WM dA G ρ.2) ρ.1) (AG G s.heap.size)) args s 0 0 (AG G s.heap.size)) (WM dA G σ) 0 0 99 [] [] := by
  intro σ h
  unfold M_commutes_99 at h
  refine zg_iconst hO dX4_commutes_99 ic0 ?_
  exact zg_sub [] rfl (w_M_commutes_100 hO hr _ _ h)
theorem mw_X4_commutes : MwV yX4_commutes cX4_commutes 7 (some .int) RX4 2 := ⟨by decide +kernel, q1809, q1810, q106, q1811⟩
set_option maxHeartbeats 4000000 in
theorem m_commutes (l : Launch) (D : va_G) (dA : Nat → ClassId) (G : Nat → Nat) {x1 : Int32} {x2 : Int32} {σ : MS} {ρ : Int32 × MS} (h : M_commutes x1 x2 σ = some ρ) : Ct l yX4_commutes (ws_ yX4_commutes cX4_commutes 7 (some .int)) 5 0 0 D dA [.ref (G 0), .int x1, .int x2] (WM dA G σ) (AG G) (QfI D dA (WM dA G ρ.2) ρ.1) := by
  refine zc_start (cc := cX4_commutes) (nL := 7) (ret := (some .int)) (own := RX4) (by decide) rfl rfl (Nat.le_of_ble_eq_true rfl) wm_A (fun p e s m args below meth c hO hr _ _ => ?_)
  unfold M_commutes at h
  refine zg_sub (lv' := [(0, .ref (G 0)), (1, .int x1), (2, .int x2)]) [0, 1, 2] rfl ?_
  refine zg_aload_n hO 0 dX4_commutes_0 rfl rfl ?_
  refine zg_iconst hO dX4_commutes_1 ic0 ?_
  refine mP_1 hO dX4_commutes_2 ?_
  refine zg_iload_n hO 1 dX4_commutes_5 rfl rfl ?_
  refine zs_calli (As := [.int x1]) (rest := []) hO h (fun q hq => m_isItem l D dA hq) mw_X4_isItem q1812 ⟨Nat.le_of_ble_eq_true rfl, Nat.le_of_ble_eq_true rfl⟩ ⟨Nat.le_refl _, Nat.le_refl _⟩ rfl rfl (Nat.le_of_ble_eq_true rfl) dX4_commutes_6 (fun q1 h => ?_)
  refine zg_if_eq (tgt := 19) hO h dX4_commutes_9 (by decide) (fun h => ?_) (fun h => ?_)
  · refine zg_iconst hO dX4_commutes_19 icm1 ?_
    exact zm_iret hO hr h dX4_commutes_20
  · refine zg_iload_n hO 2 dX4_commutes_12 rfl rfl ?_
    refine zs_calli (As := [.int x2]) (rest := []) hO h (fun q hq => m_isItem l D dA hq) mw_X4_isItem q1812 ⟨Nat.le_of_ble_eq_true rfl, Nat.le_of_ble_eq_true rfl⟩ ⟨Nat.le_refl _, Nat.le_refl _⟩ rfl rfl (Nat.le_of_ble_eq_true rfl) dX4_commutes_13 (fun q2 h => ?_)
    refine zg_if_ne (tgt := 21) hO h dX4_commutes_16 (by decide) (fun h => ?_) (fun h => ?_)
    · refine zg_aload_n hO 0 dX4_commutes_21 rfl rfl ?_
      refine zg_iload_n hO 1 dX4_commutes_22 rfl rfl ?_
      refine zg_iload_n hO 2 dX4_commutes_23 rfl rfl ?_
      refine zm_callVv (As := [.int x1, .int x2]) (rest := []) hO h (fun q hq => m_joinsTwo l D dA G hq) mw_X4_joinsTwo q1816 ⟨Nat.le_of_ble_eq_true rfl, Nat.le_of_ble_eq_true rfl⟩ rfl rfl (Nat.le_of_ble_eq_true rfl) dX4_commutes_24 (fun q3 h => ?_)
      refine zg_aload_n hO 0 dX4_commutes_27 rfl rfl ?_
      refine mG_96 hO dX4_commutes_28 ?_
      refine zg_lstore_n (lv' := [(3, .long (gL q3 0)), (0, .ref (G 0)), (1, .int x1), (2, .int x2)]) hO dX4_commutes_31 rfl (Nat.le_of_ble_eq_true rfl) rfl ?_
      refine zg_aload_n hO 1 dX4_commutes_32 rfl rfl ?_
      refine mG_100 hO dX4_commutes_33 ?_
      refine zg_lstore (lv' := [(5, .long (gL q3 1)), (3, .long (gL q3 0)), (0, .ref (G 0)), (1, .int x1), (2, .int x2)]) hO dX4_commutes_36 (Nat.le_of_ble_eq_true rfl) rfl ?_
      refine zg_aload_n hO 2 dX4_commutes_38 rfl rfl ?_
      refine zg_iload_n hO 4 dX4_commutes_39 rfl rfl ?_
      refine zg_iload_n hO 3 dX4_commutes_40 rfl rfl ?_
      refine zm_callVv (As := [.int x2, .int x1]) (rest := []) hO h (fun q hq => m_joinsTwo l D dA G hq) mw_X4_joinsTwo q1816 ⟨Nat.le_of_ble_eq_true rfl, Nat.le_of_ble_eq_true rfl⟩ rfl rfl (Nat.le_of_ble_eq_true rfl) dX4_commutes_41 (fun q4 h => ?_)
      refine zg_aload_n hO 2 dX4_commutes_44 rfl rfl ?_
      refine zg_iconst hO dX4_commutes_45 ic0 ?_
      refine mP_11 hO dX4_commutes_46 ?_
      refine zg_aload_n hO 2 dX4_commutes_49 rfl rfl ?_
      refine zg_lload_n hO 1 dX4_commutes_50 rfl rfl ?_
      refine zm_callVv (As := [.long (gL q3 0)]) (rest := []) hO h (fun q hq => m_enters l D dA G hq) mw_X4_enters q1856 ⟨Nat.le_of_ble_eq_true rfl, Nat.le_of_ble_eq_true rfl⟩ rfl rfl (Nat.le_of_ble_eq_true rfl) dX4_commutes_51 (fun q5 h => ?_)
      refine zg_aload_n hO 2 dX4_commutes_54 rfl rfl ?_
      refine zg_lload hO 0 dX4_commutes_55 rfl ?_
      refine zm_callVv (As := [.long (gL q3 1)]) (rest := []) hO h (fun q hq => m_enters l D dA G hq) mw_X4_enters q1856 ⟨Nat.le_of_ble_eq_true rfl, Nat.le_of_ble_eq_true rfl⟩ rfl rfl (Nat.le_of_ble_eq_true rfl) dX4_commutes_57 (fun q6 h => ?_)
      refine zg_aload_n hO 2 dX4_commutes_60 rfl rfl ?_
      refine zg_aload_n hO 2 dX4_commutes_61 rfl rfl ?_
      refine mG_96 hO dX4_commutes_62 ?_
      refine zm_callVv (As := [.long (gL q6 0)]) (rest := []) hO h (fun q hq => m_enters l D dA G hq) mw_X4_enters q1856 ⟨Nat.le_of_ble_eq_true rfl, Nat.le_of_ble_eq_true rfl⟩ rfl rfl (Nat.le_of_ble_eq_true rfl) dX4_commutes_65 (fun q7 h => ?_)
      refine zg_aload_n hO 2 dX4_commutes_68 rfl rfl ?_
      refine zg_aload_n hO 2 dX4_commutes_69 rfl rfl ?_
      refine mG_100 hO dX4_commutes_70 ?_
      refine zm_callVv (As := [.long (gL q7 1)]) (rest := []) hO h (fun q hq => m_enters l D dA G hq) mw_X4_enters q1856 ⟨Nat.le_of_ble_eq_true rfl, Nat.le_of_ble_eq_true rfl⟩ rfl rfl (Nat.le_of_ble_eq_true rfl) dX4_commutes_73 (fun q8 h => ?_)
      refine zg_lload_n hO 1 dX4_commutes_76 rfl rfl ?_
      refine zg_aload_n hO 2 dX4_commutes_77 rfl rfl ?_
      refine mG_96 hO dX4_commutes_78 ?_
      refine zg_lcmp hO dX4_commutes_81 ?_
      refine zg_if_ne (tgt := 99) hO h dX4_commutes_82 (by decide) (fun h => ?_) (fun h => ?_)
      · exact zg_sub [] rfl (w_M_commutes_99 hO hr _ h)
      · refine zg_lload hO 0 dX4_commutes_85 rfl ?_
        refine zg_aload_n hO 2 dX4_commutes_87 rfl rfl ?_
        refine mG_100 hO dX4_commutes_88 ?_
        refine zg_lcmp hO dX4_commutes_91 ?_
        refine zg_if_ne (tgt := 99) hO h dX4_commutes_92 (by decide) (fun h => ?_) (fun h => ?_)
        · exact zg_sub [] rfl (w_M_commutes_99 hO hr _ h)
        · refine zg_iconst hO dX4_commutes_95 ic1 ?_
          refine zg_goto (tgt := 100) hO dX4_commutes_96 (by decide) ?_
          exact zg_sub [] rfl (w_M_commutes_100 hO hr _ _ h)
    · refine zg_iconst hO dX4_commutes_19 icm1 ?_
      exact zm_iret hO hr h dX4_commutes_20
set_option maxHeartbeats 4000000 in
theorem w_M_empty_96 (hO : Ok p s m args meth c cX4_empty RX4 1 D dA (AG G s.heap.size)) (hr : meth.sig.returnType = none) {ρ : MS} : ∀ (σ : MS), M_empty_96 σ = some ρ → Go p l e (rmG 1 0 0) s m args below meth c D (AG G s.heap.size) 1 (MQ below ((QfV D dA (WM dA G ρ)) (AG G s.heap.size)) args s 0 0 (AG G s.heap.size)) (WM dA G σ) 0 0 96 [(0, .ref (G 0))] [] := by
  intro σ h
  unfold M_empty_96 at h
  refine zg_aload_n hO 0 dX4_empty_96 rfl rfl ?_
  refine zg_lconst hO dX4_empty_97 lc0 ?_
  refine zg_lconst hO dX4_empty_98 lc0 ?_
  refine zm_callVv (As := [.long (lN 0), .long (lN 0)]) (rest := []) hO h (fun q hq => m_is l D dA G hq) mw_X4_is q1824 ⟨Nat.le_of_ble_eq_true rfl, Nat.le_of_ble_eq_true rfl⟩ rfl rfl (Nat.le_of_ble_eq_true rfl) dX4_empty_99 (fun q5 h => ?_)
  exact zm_vret hO hr h dX4_empty_102
theorem mw_X4_empty : MwV yX4_empty cX4_empty 1 none RX4 0 := ⟨by decide +kernel, q1871, qs53, q106, q1872⟩
set_option maxHeartbeats 4000000 in
theorem m_empty (l : Launch) (D : va_G) (dA : Nat → ClassId) (G : Nat → Nat) {σ : MS} {ρ : MS} (h : M_empty σ = some ρ) : Ct l yX4_empty (ws_ yX4_empty cX4_empty 1 none) 1 0 0 D dA [.ref (G 0)] (WM dA G σ) (AG G) (QfV D dA (WM dA G ρ)) := by
  refine zc_start (cc := cX4_empty) (nL := 1) (ret := none) (own := RX4) (by decide) rfl rfl (Nat.le_of_ble_eq_true rfl) wm_A (fun p e s m args below meth c hO hr _ _ => ?_)
  unfold M_empty at h
  refine zg_sub (lv' := [(0, .ref (G 0))]) [0] rfl ?_
  refine zg_aload_n hO 0 dX4_empty_0 rfl rfl ?_
  refine mG_93 hO dX4_empty_1 ?_
  refine zg_ite h (fun e1 h => ?_) (fun e1 h => ?_)
  · refine zg_tableIn (tgt := 48) hO dX4_empty_4 (by rw [e1]; decide) (by rw [e1]; decide) (by rw [e1]; rfl) (by decide) ?_
    refine zg_aload_n hO 0 dX4_empty_48 rfl rfl ?_
    refine zg_ldc2 (x := 10000) hO q1873 dX4_empty_49 ?_
    refine zg_ldc2 (x := -1) hO q1874 dX4_empty_52 ?_
    refine zm_callVv (As := [.long (10000 : Int64), .long (-1 : Int64)]) (rest := []) hO h (fun q hq => m_is l D dA G hq) mw_X4_is q1824 ⟨Nat.le_of_ble_eq_true rfl, Nat.le_of_ble_eq_true rfl⟩ rfl rfl (Nat.le_of_ble_eq_true rfl) dX4_empty_55 (fun q1 h => ?_)
    refine zg_goto (tgt := 102) hO dX4_empty_58 (by decide) ?_
    exact zm_vret hO hr h dX4_empty_102
  refine zg_ite h (fun e2 h => ?_) (fun e2 h => ?_)
  · refine zg_tableIn (tgt := 96) hO dX4_empty_4 (by rw [e2]; decide) (by rw [e2]; decide) (by rw [e2]; rfl) (by decide) ?_
    exact zg_sub [0] rfl (w_M_empty_96 hO hr _ h)
  refine zg_ite h (fun e3 h => ?_) (fun e3 h => ?_)
  · refine zg_tableIn (tgt := 61) hO dX4_empty_4 (by rw [e3]; decide) (by rw [e3]; decide) (by rw [e3]; rfl) (by decide) ?_
    refine zg_aload_n hO 0 dX4_empty_61 rfl rfl ?_
    refine zg_lconst hO dX4_empty_62 lc1 ?_
    refine zg_lconst hO dX4_empty_63 lc0 ?_
    refine zm_callVv (As := [.long (lN 1), .long (lN 0)]) (rest := []) hO h (fun q hq => m_is l D dA G hq) mw_X4_is q1824 ⟨Nat.le_of_ble_eq_true rfl, Nat.le_of_ble_eq_true rfl⟩ rfl rfl (Nat.le_of_ble_eq_true rfl) dX4_empty_64 (fun q2 h => ?_)
    refine zg_goto (tgt := 102) hO dX4_empty_67 (by decide) ?_
    exact zm_vret hO hr h dX4_empty_102
  refine zg_ite h (fun e4 h => ?_) (fun e4 h => ?_)
  · refine zg_tableIn (tgt := 96) hO dX4_empty_4 (by rw [e4]; decide) (by rw [e4]; decide) (by rw [e4]; rfl) (by decide) ?_
    exact zg_sub [0] rfl (w_M_empty_96 hO hr _ h)
  refine zg_ite h (fun e5 h => ?_) (fun e5 h => ?_)
  · refine zg_tableIn (tgt := 96) hO dX4_empty_4 (by rw [e5]; decide) (by rw [e5]; decide) (by rw [e5]; rfl) (by decide) ?_
    exact zg_sub [0] rfl (w_M_empty_96 hO hr _ h)
  refine zg_ite h (fun e6 h => ?_) (fun e6 h => ?_)
  · refine zg_tableIn (tgt := 70) hO dX4_empty_4 (by rw [e6]; decide) (by rw [e6]; decide) (by rw [e6]; rfl) (by decide) ?_
    refine zg_aload_n hO 0 dX4_empty_70 rfl rfl ?_
    refine zg_ldc2 (x := -1) hO q1874 dX4_empty_71 ?_
    refine zg_ldc2 (x := -1) hO q1874 dX4_empty_74 ?_
    refine zm_callVv (As := [.long (-1 : Int64), .long (-1 : Int64)]) (rest := []) hO h (fun q hq => m_is l D dA G hq) mw_X4_is q1824 ⟨Nat.le_of_ble_eq_true rfl, Nat.le_of_ble_eq_true rfl⟩ rfl rfl (Nat.le_of_ble_eq_true rfl) dX4_empty_77 (fun q3 h => ?_)
    refine zg_goto (tgt := 102) hO dX4_empty_80 (by decide) ?_
    exact zm_vret hO hr h dX4_empty_102
  refine zg_ite h (fun e7 h => ?_) (fun e7 h => ?_)
  · refine zg_tableIn (tgt := 83) hO dX4_empty_4 (by rw [e7]; decide) (by rw [e7]; decide) (by rw [e7]; rfl) (by decide) ?_
    refine zg_aload_n hO 0 dX4_empty_83 rfl rfl ?_
    refine zg_aload_n hO 0 dX4_empty_84 rfl rfl ?_
    refine mG_111 hO dX4_empty_85 ?_
    refine zg_i2l hO dX4_empty_88 ?_
    refine zg_lconst hO dX4_empty_89 lc0 ?_
    refine zm_callVv (As := [.long ((gI σ 7).toInt64), .long (lN 0)]) (rest := []) hO h (fun q hq => m_is l D dA G hq) mw_X4_is q1824 ⟨Nat.le_of_ble_eq_true rfl, Nat.le_of_ble_eq_true rfl⟩ rfl rfl (Nat.le_of_ble_eq_true rfl) dX4_empty_90 (fun q4 h => ?_)
    refine zg_goto (tgt := 102) hO dX4_empty_93 (by decide) ?_
    exact zm_vret hO hr h dX4_empty_102
  refine zg_tableOut (tgt := 96) hO dX4_empty_4 (zg_swout (lo := 1) (hi := 7) (fun k h1 h2 => by rcases (show k = 1 ∨ k = 2 ∨ k = 3 ∨ k = 4 ∨ k = 5 ∨ k = 6 ∨ k = 7 by omega) with rfl|rfl|rfl|rfl|rfl|rfl|rfl; exact e1; exact e2; exact e3; exact e4; exact e5; exact e6; exact e7)) (by decide) ?_
  exact zg_sub [0] rfl (w_M_empty_96 hO hr _ h)
theorem mw_X4_power : MwV yX4_power cX4_power 8 (some .int) RX4 2 := ⟨by decide +kernel, q1867, qs52, q106, q1868⟩
set_option maxHeartbeats 4000000 in
theorem m_power (l : Launch) (D : va_G) (dA : Nat → ClassId) (G : Nat → Nat) : ∀ (n : Nat) (x1 x2 : Int32) (σ : MS) (ρ : Int32 × MS), M_power n x1 x2 σ = some ρ → Ct l yX4_power (ws_ yX4_power cX4_power 8 (some .int)) (4 + n) 0 0 D dA [.ref (G 0), .int x1, .int x2] (WM dA G σ) (AG G) (QfI D dA (WM dA G ρ.2) ρ.1) := by
  intro n
  induction n with
  | zero =>
    intro x1 x2 σ ρ h
    rw [M_power] at h
    cases h
  | succ n ih =>
    intro x1 x2 σ ρ h
    refine zc_start (cc := cX4_power) (nL := 8) (ret := (some .int)) (own := RX4) (by decide) rfl rfl (Nat.le_of_ble_eq_true rfl) wm_A (fun p e s m args below meth c hO hr _ _ => ?_)
    rw [M_power] at h
    refine zg_sub (lv' := [(0, .ref (G 0)), (1, .int x1), (2, .int x2)]) [0, 1, 2] rfl ?_
    refine zg_iload_n hO 2 dX4_power_0 rfl rfl ?_
    refine zg_if_ne (tgt := 10) hO h dX4_power_1 (by decide) (fun h => ?_) (fun h => ?_)
    · refine zg_iload_n hO 2 dX4_power_10 rfl rfl ?_
      refine zg_iconst hO dX4_power_11 ic1 ?_
      refine zg_icmp_ne (tgt := 22) hO h dX4_power_12 (by decide) (fun h => ?_) (fun h => ?_)
      · refine zg_aload_n hO 0 dX4_power_22 rfl rfl ?_
        refine zg_iload_n hO 1 dX4_power_23 rfl rfl ?_
        refine zg_iload_n hO 2 dX4_power_24 rfl rfl ?_
        refine zg_iconst hO dX4_power_25 ic2 ?_
        refine zg_idiv hO h dX4_power_26 (fun h => ?_)
        refine zm_callVi (As := [.int x1, .int (x2 / (nI 2))]) (rest := []) hO h (fun q hq => ih _ _ _ _ hq) mw_X4_power q1865 ⟨by omega, by omega⟩ rfl rfl (Nat.le_of_ble_eq_true rfl) dX4_power_27 (fun q1 h => ?_)
        refine zg_iconst hO dX4_power_30 ic1 ?_
        refine zg_iadd hO dX4_power_31 ?_
        refine zg_istore_n (lv' := [(3, .int (q1.1 + (nI 1))), (0, .ref (G 0)), (1, .int x1), (2, .int x2)]) hO dX4_power_32 rfl (Nat.le_of_ble_eq_true rfl) rfl ?_
        refine zg_aload_n hO 1 dX4_power_33 rfl rfl ?_
        refine zg_aload_n hO 1 dX4_power_34 rfl rfl ?_
        refine mG_96 hO dX4_power_35 ?_
        refine zg_aload_n hO 1 dX4_power_38 rfl rfl ?_
        refine mG_100 hO dX4_power_39 ?_
        refine zg_aload_n hO 1 dX4_power_42 rfl rfl ?_
        refine mG_96 hO dX4_power_43 ?_
        refine zg_aload_n hO 1 dX4_power_46 rfl rfl ?_
        refine mG_100 hO dX4_power_47 ?_
        refine zm_callVv (As := [.long (gL q1.2 0), .long (gL q1.2 1), .long (gL q1.2 0), .long (gL q1.2 1)]) (rest := []) hO h (fun q hq => m_join l D dA G hq) mw_X4_join q1838 ⟨by omega, by omega⟩ rfl rfl (Nat.le_of_ble_eq_true rfl) dX4_power_50 (fun q2 h => ?_)
        refine zg_iload_n hO 3 dX4_power_53 rfl rfl ?_
        refine zg_iconst hO dX4_power_54 ic2 ?_
        refine zg_irem hO h dX4_power_55 (fun h => ?_)
        refine zg_if_ne (tgt := 61) hO h dX4_power_56 (by decide) (fun h => ?_) (fun h => ?_)
        · refine zg_aload_n hO 1 dX4_power_61 rfl rfl ?_
          refine mG_96 hO dX4_power_62 ?_
          refine zg_lstore (lv' := [(4, .long (gL q2 0)), (3, .int (q1.1 + (nI 1))), (0, .ref (G 0)), (1, .int x1), (2, .int x2)]) hO dX4_power_65 (Nat.le_of_ble_eq_true rfl) rfl ?_
          refine zg_aload_n hO 2 dX4_power_67 rfl rfl ?_
          refine mG_100 hO dX4_power_68 ?_
          refine zg_lstore (lv' := [(6, .long (gL q2 1)), (4, .long (gL q2 0)), (3, .int (q1.1 + (nI 1))), (0, .ref (G 0)), (1, .int x1), (2, .int x2)]) hO dX4_power_71 (Nat.le_of_ble_eq_true rfl) rfl ?_
          refine zg_aload_n hO 3 dX4_power_73 rfl rfl ?_
          refine zg_iload_n hO 4 dX4_power_74 rfl rfl ?_
          refine zm_callVv (As := [.int x1]) (rest := []) hO h (fun q hq => m_element l D dA G hq) mw_X4_element q1820 ⟨by omega, by omega⟩ rfl rfl (Nat.le_of_ble_eq_true rfl) dX4_power_75 (fun q3 h => ?_)
          refine zg_aload_n hO 3 dX4_power_78 rfl rfl ?_
          refine zg_lload hO 1 dX4_power_79 rfl ?_
          refine zg_lload hO 0 dX4_power_81 rfl ?_
          refine zg_aload_n hO 3 dX4_power_83 rfl rfl ?_
          refine mG_96 hO dX4_power_84 ?_
          refine zg_aload_n hO 3 dX4_power_87 rfl rfl ?_
          refine mG_100 hO dX4_power_88 ?_
          refine zm_callVv (As := [.long (gL q2 0), .long (gL q2 1), .long (gL q3 0), .long (gL q3 1)]) (rest := []) hO h (fun q hq => m_join l D dA G hq) mw_X4_join q1838 ⟨by omega, by omega⟩ rfl rfl (Nat.le_of_ble_eq_true rfl) dX4_power_91 (fun q4 h => ?_)
          refine zg_iload_n hO 2 dX4_power_94 rfl rfl ?_
          refine zg_iconst hO dX4_power_95 ic1 ?_
          refine zg_iadd hO dX4_power_96 ?_
          exact zm_iret hO hr h dX4_power_97
        · refine zg_iload_n hO 0 dX4_power_59 rfl rfl ?_
          exact zm_iret hO hr h dX4_power_60
      · refine zg_aload_n hO 0 dX4_power_15 rfl rfl ?_
        refine zg_iload_n hO 1 dX4_power_16 rfl rfl ?_
        refine zm_callVv (As := [.int x1]) (rest := []) hO h (fun q hq => m_element l D dA G hq) mw_X4_element q1820 ⟨by omega, by omega⟩ rfl rfl (Nat.le_of_ble_eq_true rfl) dX4_power_17 (fun q5 h => ?_)
        refine zg_iconst hO dX4_power_20 ic0 ?_
        exact zm_iret hO hr h dX4_power_21
    · refine zg_aload_n hO 0 dX4_power_4 rfl rfl ?_
      refine zm_callVv (As := []) (rest := []) hO h (fun q hq => m_empty l D dA G hq) mw_X4_empty q1869 ⟨by omega, by omega⟩ rfl rfl (Nat.le_of_ble_eq_true rfl) dX4_power_5 (fun q6 h => ?_)
      refine zg_iconst hO dX4_power_8 ic0 ?_
      exact zm_iret hO hr h dX4_power_9
theorem mw_X4_powers : MwV yX4_powers cX4_powers 4 (some .int) RX4 2 := ⟨by decide +kernel, q1861, q1862, q106, q1863⟩
set_option maxHeartbeats 4000000 in
theorem m_powers (l : Launch) (D : va_G) (dA : Nat → ClassId) (G : Nat → Nat) {x1 : Int32} {x2 : Int32} {σ : MS} {ρ : Int32 × MS} (h : M_powers x1 x2 σ = some ρ) : Ct l yX4_powers (ws_ yX4_powers cX4_powers 4 (some .int)) 45 0 0 D dA [.ref (G 0), .int x1, .int x2] (WM dA G σ) (AG G) (QfI D dA (WM dA G ρ.2) ρ.1) := by
  refine zc_start (cc := cX4_powers) (nL := 4) (ret := (some .int)) (own := RX4) (by decide) rfl rfl (Nat.le_of_ble_eq_true rfl) wm_A (fun p e s m args below meth c hO hr _ _ => ?_)
  unfold M_powers at h
  refine zg_sub (lv' := [(0, .ref (G 0)), (1, .int x1), (2, .int x2)]) [0, 1, 2] rfl ?_
  refine zg_aload_n hO 0 dX4_powers_0 rfl rfl ?_
  refine zg_iconst hO dX4_powers_1 ic0 ?_
  refine mP_1 hO dX4_powers_2 ?_
  refine zg_iload_n hO 1 dX4_powers_5 rfl rfl ?_
  refine zs_calli (As := [.int x1]) (rest := []) hO h (fun q hq => m_isItem l D dA hq) mw_X4_isItem q1812 ⟨Nat.le_of_ble_eq_true rfl, Nat.le_of_ble_eq_true rfl⟩ ⟨Nat.le_refl _, Nat.le_refl _⟩ rfl rfl (Nat.le_of_ble_eq_true rfl) dX4_powers_6 (fun q1 h => ?_)
  refine zg_if_eq (tgt := 24) hO h dX4_powers_9 (by decide) (fun h => ?_) (fun h => ?_)
  · refine zg_iconst hO dX4_powers_24 icm1 ?_
    exact zm_iret hO hr h dX4_powers_25
  · refine zg_iload_n hO 2 dX4_powers_12 rfl rfl ?_
    refine zg_i2l hO dX4_powers_13 ?_
    refine zg_lconst hO dX4_powers_14 lc0 ?_
    refine zg_ldc2 (x := 1000000000) hO q1864 dX4_powers_15 ?_
    refine zs_calli (As := [.long (x2.toInt64), .long (lN 0), .long (1000000000 : Int64)]) (rest := []) hO h (fun q hq => m_in l D dA hq) mw_X4_in q1702 ⟨Nat.le_of_ble_eq_true rfl, Nat.le_of_ble_eq_true rfl⟩ ⟨Nat.le_refl _, Nat.le_refl _⟩ rfl rfl (Nat.le_of_ble_eq_true rfl) dX4_powers_18 (fun q2 h => ?_)
    refine zg_if_ne (tgt := 26) hO h dX4_powers_21 (by decide) (fun h => ?_) (fun h => ?_)
    · refine zg_aload_n hO 0 dX4_powers_26 rfl rfl ?_
      refine zg_iload_n hO 1 dX4_powers_27 rfl rfl ?_
      refine zg_iload_n hO 2 dX4_powers_28 rfl rfl ?_
      refine zm_callVi (As := [.int x1, .int x2]) (rest := []) hO h (fun q hq => m_power l D dA G PW _ _ _ _ hq) mw_X4_power q1865 ⟨Nat.le_of_ble_eq_true rfl, Nat.le_of_ble_eq_true rfl⟩ rfl rfl (Nat.le_of_ble_eq_true rfl) dX4_powers_29 (fun q3 h => ?_)
      refine zg_istore_n (lv' := [(3, .int q3.1), (0, .ref (G 0)), (1, .int x1), (2, .int x2)]) hO dX4_powers_32 rfl (Nat.le_of_ble_eq_true rfl) rfl ?_
      refine zg_aload_n hO 1 dX4_powers_33 rfl rfl ?_
      refine zg_iconst hO dX4_powers_34 ic0 ?_
      refine mP_11 hO dX4_powers_35 ?_
      refine zg_aload_n hO 1 dX4_powers_38 rfl rfl ?_
      refine zg_aload_n hO 1 dX4_powers_39 rfl rfl ?_
      refine mG_96 hO dX4_powers_40 ?_
      refine zm_callVv (As := [.long (gL (sI q3.2 1 (nI 0)) 0)]) (rest := []) hO h (fun q hq => m_enters l D dA G hq) mw_X4_enters q1856 ⟨Nat.le_of_ble_eq_true rfl, Nat.le_of_ble_eq_true rfl⟩ rfl rfl (Nat.le_of_ble_eq_true rfl) dX4_powers_43 (fun q4 h => ?_)
      refine zg_aload_n hO 1 dX4_powers_46 rfl rfl ?_
      refine zg_aload_n hO 1 dX4_powers_47 rfl rfl ?_
      refine mG_100 hO dX4_powers_48 ?_
      refine zm_callVv (As := [.long (gL q4 1)]) (rest := []) hO h (fun q hq => m_enters l D dA G hq) mw_X4_enters q1856 ⟨Nat.le_of_ble_eq_true rfl, Nat.le_of_ble_eq_true rfl⟩ rfl rfl (Nat.le_of_ble_eq_true rfl) dX4_powers_51 (fun q5 h => ?_)
      refine zg_iload_n hO 0 dX4_powers_54 rfl rfl ?_
      exact zm_iret hO hr h dX4_powers_55
    · refine zg_iconst hO dX4_powers_24 icm1 ?_
      exact zm_iret hO hr h dX4_powers_25
set_option maxHeartbeats 4000000 in
theorem w_M_order_158 (hO : Ok p s m args meth c cX4_order RX4 8 D dA (AG G s.heap.size)) (hr : meth.sig.returnType = (some .int)) {ρ : Int32 × MS} {k48 : Int64 → Int64 → Int32 → MS → Option (Int32 × MS)} {k106 : Int64 → Int64 → Int32 → Int32 → MS → Option (Int32 × MS)} (K48 : ∀ (x2 : Int64) (x4 : Int64) (x6 : Int32) (σ : MS), k48 x2 x4 x6 σ = some ρ → Go p l e (rmG 4 0 0) s m args below meth c D (AG G s.heap.size) 8 (MQ below ((QfI D dA (WM dA G ρ.2) ρ.1) (AG G s.heap.size)) args s 0 0 (AG G s.heap.size)) (WM dA G σ) 0 0 48 [(0, .ref (G 0)), (2, .long x2), (4, .long x4), (6, .int x6)] []) (K106 : ∀ (x2 : Int64) (x4 : Int64) (x6 : Int32) (x7 : Int32) (σ : MS), k106 x2 x4 x6 x7 σ = some ρ → Go p l e (rmG 4 0 0) s m args below meth c D (AG G s.heap.size) 8 (MQ below ((QfI D dA (WM dA G ρ.2) ρ.1) (AG G s.heap.size)) args s 0 0 (AG G s.heap.size)) (WM dA G σ) 0 0 106 [(0, .ref (G 0)), (2, .long x2), (4, .long x4), (6, .int x6), (7, .int x7)] []) : ∀ (x2 : Int64) (x4 : Int64) (x6 : Int32) (x7 : Int32) (σ : MS), M_order_158 k48 k106 x2 x4 x6 x7 σ = some ρ → Go p l e (rmG 4 0 0) s m args below meth c D (AG G s.heap.size) 8 (MQ below ((QfI D dA (WM dA G ρ.2) ρ.1) (AG G s.heap.size)) args s 0 0 (AG G s.heap.size)) (WM dA G σ) 0 0 158 [(0, .ref (G 0)), (2, .long x2), (4, .long x4), (6, .int x6), (7, .int x7)] [] := by
  intro x2 x4 x6 x7 σ h
  unfold M_order_158 at h
  refine zg_iinc (k := 4) (lv' := [(7, .int (x7 + (nI 1))), (0, .ref (G 0)), (2, .long x2), (4, .long x4), (6, .int x6)]) hO dX4_order_158 rfl (zii ic1) (Nat.le_of_ble_eq_true rfl) rfl ?_
  refine zg_goto (tgt := 106) hO dX4_order_161 (by decide) ?_
  exact zg_sub [1, 2, 3, 4, 0] rfl (K106 _ _ _ _ _ h)
set_option maxHeartbeats 4000000 in
theorem w_M_order_106 (hO : Ok p s m args meth c cX4_order RX4 8 D dA (AG G s.heap.size)) (hr : meth.sig.returnType = (some .int)) {ρ : Int32 × MS} {k48 : Int64 → Int64 → Int32 → MS → Option (Int32 × MS)} (K48 : ∀ (x2 : Int64) (x4 : Int64) (x6 : Int32) (σ : MS), k48 x2 x4 x6 σ = some ρ → Go p l e (rmG 4 0 0) s m args below meth c D (AG G s.heap.size) 8 (MQ below ((QfI D dA (WM dA G ρ.2) ρ.1) (AG G s.heap.size)) args s 0 0 (AG G s.heap.size)) (WM dA G σ) 0 0 48 [(0, .ref (G 0)), (2, .long x2), (4, .long x4), (6, .int x6)] []) : ∀ (n : Nat) (x2 : Int64) (x4 : Int64) (x6 : Int32) (x7 : Int32) (σ : MS), M_order_106 k48 n x2 x4 x6 x7 σ = some ρ → Go p l e (rmG 4 0 0) s m args below meth c D (AG G s.heap.size) 8 (MQ below ((QfI D dA (WM dA G ρ.2) ρ.1) (AG G s.heap.size)) args s 0 0 (AG G s.heap.size)) (WM dA G σ) 0 0 106 [(0, .ref (G 0)), (2, .long x2), (4, .long x4), (6, .int x6), (7, .int x7)] [] := by
  intro n
  induction n with
  | zero =>
    intro x2 x4 x6 x7 σ h
    rw [M_order_106] at h
    cases h
  | succ n ih =>
    intro x2 x4 x6 x7 σ h
    rw [M_order_106] at h
    refine zg_iload hO 4 dX4_order_106 rfl ?_
    refine zg_iload hO 3 dX4_order_108 rfl ?_
    refine zg_icmp_ge (tgt := 164) hO h dX4_order_110 (by decide) (fun h => ?_) (fun h => ?_)
    · refine zg_iinc (k := 3) (lv' := [(6, .int (x6 + (nI 1))), (0, .ref (G 0)), (2, .long x2), (4, .long x4), (7, .int x7)]) hO dX4_order_164 rfl (zii ic1) (Nat.le_of_ble_eq_true rfl) rfl ?_
      refine zg_goto (tgt := 48) hO dX4_order_167 (by decide) ?_
      exact zg_sub [1, 2, 3, 0] rfl (K48 _ _ _ _ h)
    · refine zg_aload_n hO 0 dX4_order_113 rfl rfl ?_
      refine mG_60 hO dX4_order_114 ?_
      refine zg_iload hO 4 dX4_order_117 rfl ?_
      refine mL_7 hO h dX4_order_119 (fun h => ?_)
      refine zg_aload_n hO 0 dX4_order_120 rfl rfl ?_
      refine mG_96 hO dX4_order_121 ?_
      refine zg_lcmp hO dX4_order_124 ?_
      refine zg_if_ne (tgt := 158) hO h dX4_order_125 (by decide) (fun h => ?_) (fun h => ?_)
      · exact zg_sub [0, 1, 2, 3, 4] rfl (w_M_order_158 hO hr K48 ih _ _ _ _ _ h)
      · refine zg_aload_n hO 0 dX4_order_128 rfl rfl ?_
        refine mG_63 hO dX4_order_129 ?_
        refine zg_iload hO 4 dX4_order_132 rfl ?_
        refine mL_8 hO h dX4_order_134 (fun h => ?_)
        refine zg_aload_n hO 0 dX4_order_135 rfl rfl ?_
        refine mG_100 hO dX4_order_136 ?_
        refine zg_lcmp hO dX4_order_139 ?_
        refine zg_if_ne (tgt := 158) hO h dX4_order_140 (by decide) (fun h => ?_) (fun h => ?_)
        · exact zg_sub [0, 1, 2, 3, 4] rfl (w_M_order_158 hO hr K48 ih _ _ _ _ _ h)
        · refine zg_aload_n hO 0 dX4_order_143 rfl rfl ?_
          refine zg_iconst hO dX4_order_144 ic0 ?_
          refine mP_11 hO dX4_order_145 ?_
          refine zg_aload_n hO 0 dX4_order_148 rfl rfl ?_
          refine zg_iload hO 4 dX4_order_149 rfl ?_
          refine zg_i2l hO dX4_order_151 ?_
          refine zm_callVv (As := [.long (x7.toInt64)]) (rest := []) hO h (fun q hq => m_enters l D dA G hq) mw_X4_enters q1856 ⟨Nat.le_of_ble_eq_true rfl, Nat.le_of_ble_eq_true rfl⟩ rfl rfl (Nat.le_of_ble_eq_true rfl) dX4_order_152 (fun q4 h => ?_)
          refine zg_iload hO 3 dX4_order_155 rfl ?_
          exact zm_iret hO hr h dX4_order_157
set_option maxHeartbeats 4000000 in
theorem w_M_order_48 (hO : Ok p s m args meth c cX4_order RX4 8 D dA (AG G s.heap.size)) (hr : meth.sig.returnType = (some .int)) {ρ : Int32 × MS} : ∀ (n : Nat) (x2 : Int64) (x4 : Int64) (x6 : Int32) (σ : MS), M_order_48 n x2 x4 x6 σ = some ρ → Go p l e (rmG 4 0 0) s m args below meth c D (AG G s.heap.size) 8 (MQ below ((QfI D dA (WM dA G ρ.2) ρ.1) (AG G s.heap.size)) args s 0 0 (AG G s.heap.size)) (WM dA G σ) 0 0 48 [(0, .ref (G 0)), (2, .long x2), (4, .long x4), (6, .int x6)] [] := by
  intro n
  induction n with
  | zero =>
    intro x2 x4 x6 σ h
    rw [M_order_48] at h
    cases h
  | succ n ih =>
    intro x2 x4 x6 σ h
    rw [M_order_48] at h
    refine zg_iload hO 3 dX4_order_48 rfl ?_
    refine zg_sipush hO dX4_order_50 sc128 ?_
    refine zg_icmp_gt (tgt := 170) hO h dX4_order_53 (by decide) (fun h => ?_) (fun h => ?_)
    · refine zg_bipush hO dX4_order_170 bcm2 ?_
      exact zm_iret hO hr h dX4_order_172
    · refine zg_aload_n hO 0 dX4_order_56 rfl rfl ?_
      refine zg_aload_n hO 0 dX4_order_57 rfl rfl ?_
      refine mG_60 hO dX4_order_58 ?_
      refine zg_iload hO 3 dX4_order_61 rfl ?_
      refine zg_iconst hO dX4_order_63 ic1 ?_
      refine zg_isub hO dX4_order_64 ?_
      refine mL_7 hO h dX4_order_65 (fun h => ?_)
      refine zg_aload_n hO 0 dX4_order_66 rfl rfl ?_
      refine mG_63 hO dX4_order_67 ?_
      refine zg_iload hO 3 dX4_order_70 rfl ?_
      refine zg_iconst hO dX4_order_72 ic1 ?_
      refine zg_isub hO dX4_order_73 ?_
      refine mL_8 hO h dX4_order_74 (fun h => ?_)
      refine zg_lload_n hO 1 dX4_order_75 rfl rfl ?_
      refine zg_lload hO 2 dX4_order_76 rfl ?_
      refine zm_callVv (As := [.long (gB σ 1 (x6 - (nI 1)).toNatClampNeg), .long (gB σ 2 (x6 - (nI 1)).toNatClampNeg), .long x2, .long x4]) (rest := []) hO h (fun q hq => m_join l D dA G hq) mw_X4_join q1838 ⟨Nat.le_of_ble_eq_true rfl, Nat.le_of_ble_eq_true rfl⟩ rfl rfl (Nat.le_of_ble_eq_true rfl) dX4_order_78 (fun q3 h => ?_)
      refine zg_aload_n hO 0 dX4_order_81 rfl rfl ?_
      refine mG_60 hO dX4_order_82 ?_
      refine zg_iload hO 3 dX4_order_85 rfl ?_
      refine zg_aload_n hO 0 dX4_order_87 rfl rfl ?_
      refine mG_96 hO dX4_order_88 ?_
      refine mS_7 hO h dX4_order_91 (fun h => ?_)
      refine zg_aload_n hO 0 dX4_order_92 rfl rfl ?_
      refine mG_63 hO dX4_order_93 ?_
      refine zg_iload hO 3 dX4_order_96 rfl ?_
      refine zg_aload_n hO 0 dX4_order_98 rfl rfl ?_
      refine mG_100 hO dX4_order_99 ?_
      refine mS_8 hO h dX4_order_102 (fun h => ?_)
      refine zg_iconst hO dX4_order_103 ic1 ?_
      refine zg_istore (lv' := [(7, .int (nI 1)), (0, .ref (G 0)), (2, .long x2), (4, .long x4), (6, .int x6)]) hO dX4_order_104 (Nat.le_of_ble_eq_true rfl) rfl ?_
      exact zg_sub [1, 2, 3, 4, 0] rfl (w_M_order_106 hO hr ih _ _ _ _ _ _ h)
theorem mw_X4_order : MwV yX4_order cX4_order 8 (some .int) RX4 1 := ⟨by decide +kernel, q1876, q1877, q106, q1878⟩
set_option maxHeartbeats 4000000 in
theorem m_order (l : Launch) (D : va_G) (dA : Nat → ClassId) (G : Nat → Nat) {x1 : Int32} {σ : MS} {ρ : Int32 × MS} (h : M_order x1 σ = some ρ) : Ct l yX4_order (ws_ yX4_order cX4_order 8 (some .int)) 4 0 0 D dA [.ref (G 0), .int x1] (WM dA G σ) (AG G) (QfI D dA (WM dA G ρ.2) ρ.1) := by
  refine zc_start (cc := cX4_order) (nL := 8) (ret := (some .int)) (own := RX4) (by decide) rfl rfl (Nat.le_of_ble_eq_true rfl) wm_A (fun p e s m args below meth c hO hr _ _ => ?_)
  unfold M_order at h
  refine zg_sub (lv' := [(0, .ref (G 0)), (1, .int x1)]) [0, 1] rfl ?_
  refine zg_aload_n hO 0 dX4_order_0 rfl rfl ?_
  refine zg_iconst hO dX4_order_1 ic0 ?_
  refine mP_1 hO dX4_order_2 ?_
  refine zg_iload_n hO 1 dX4_order_5 rfl rfl ?_
  refine zs_calli (As := [.int x1]) (rest := []) hO h (fun q hq => m_isItem l D dA hq) mw_X4_isItem q1812 ⟨Nat.le_of_ble_eq_true rfl, Nat.le_of_ble_eq_true rfl⟩ ⟨Nat.le_refl _, Nat.le_refl _⟩ rfl rfl (Nat.le_of_ble_eq_true rfl) dX4_order_6 (fun q1 h => ?_)
  refine zg_if_ne (tgt := 14) hO h dX4_order_9 (by decide) (fun h => ?_) (fun h => ?_)
  · refine zg_aload_n hO 0 dX4_order_14 rfl rfl ?_
    refine zg_iload_n hO 1 dX4_order_15 rfl rfl ?_
    refine zm_callVv (As := [.int x1]) (rest := []) hO h (fun q hq => m_element l D dA G hq) mw_X4_element q1820 ⟨Nat.le_of_ble_eq_true rfl, Nat.le_of_ble_eq_true rfl⟩ rfl rfl (Nat.le_of_ble_eq_true rfl) dX4_order_16 (fun q2 h => ?_)
    refine zg_aload_n hO 0 dX4_order_19 rfl rfl ?_
    refine mG_96 hO dX4_order_20 ?_
    refine zg_lstore_n (lv' := [(2, .long (gL q2 0)), (0, .ref (G 0)), (1, .int x1)]) hO dX4_order_23 rfl (Nat.le_of_ble_eq_true rfl) rfl ?_
    refine zg_aload_n hO 1 dX4_order_24 rfl rfl ?_
    refine mG_100 hO dX4_order_25 ?_
    refine zg_lstore (lv' := [(4, .long (gL q2 1)), (2, .long (gL q2 0)), (0, .ref (G 0)), (1, .int x1)]) hO dX4_order_28 (Nat.le_of_ble_eq_true rfl) rfl ?_
    refine zg_aload_n hO 2 dX4_order_30 rfl rfl ?_
    refine mG_60 hO dX4_order_31 ?_
    refine zg_iconst hO dX4_order_34 ic1 ?_
    refine zg_lload_n hO 1 dX4_order_35 rfl rfl ?_
    refine mS_7 hO h dX4_order_36 (fun h => ?_)
    refine zg_aload_n hO 2 dX4_order_37 rfl rfl ?_
    refine mG_63 hO dX4_order_38 ?_
    refine zg_iconst hO dX4_order_41 ic1 ?_
    refine zg_lload hO 0 dX4_order_42 rfl ?_
    refine mS_8 hO h dX4_order_44 (fun h => ?_)
    refine zg_iconst hO dX4_order_45 ic2 ?_
    refine zg_istore (lv' := [(6, .int (nI 2)), (4, .long (gL q2 1)), (2, .long (gL q2 0)), (0, .ref (G 0)), (1, .int x1)]) hO dX4_order_46 (Nat.le_of_ble_eq_true rfl) rfl ?_
    exact zg_sub [3, 2, 1, 0] rfl (w_M_order_48 hO hr _ _ _ _ _ h)
  · refine zg_iconst hO dX4_order_12 icm1 ?_
    exact zm_iret hO hr h dX4_order_13
set_option maxHeartbeats 4000000 in
theorem w_M_undoes_111 (hO : Ok p s m args meth c cX4_undoes RX4 8 D dA (AG G s.heap.size)) (hr : meth.sig.returnType = (some .int)) {ρ : Int32 × MS} {k32 : Int32 → Int64 → Int64 → Int32 → MS → Option (Int32 × MS)} (K32 : ∀ (x1 : Int32) (x2 : Int64) (x4 : Int64) (x6 : Int32) (σ : MS), k32 x1 x2 x4 x6 σ = some ρ → Go p l e (rmG 5 0 0) s m args below meth c D (AG G s.heap.size) 8 (MQ below ((QfI D dA (WM dA G ρ.2) ρ.1) (AG G s.heap.size)) args s 0 0 (AG G s.heap.size)) (WM dA G σ) 0 0 32 [(0, .ref (G 0)), (1, .int x1), (2, .long x2), (4, .long x4), (6, .int x6)] []) : ∀ (x1 : Int32) (x2 : Int64) (x4 : Int64) (x6 : Int32) (x7 : Int32) (σ : MS), M_undoes_111 k32 x1 x2 x4 x6 x7 σ = some ρ → Go p l e (rmG 5 0 0) s m args below meth c D (AG G s.heap.size) 8 (MQ below ((QfI D dA (WM dA G ρ.2) ρ.1) (AG G s.heap.size)) args s 0 0 (AG G s.heap.size)) (WM dA G σ) 0 0 111 [(0, .ref (G 0)), (1, .int x1), (2, .long x2), (4, .long x4), (6, .int x6), (7, .int x7)] [] := by
  intro x1 x2 x4 x6 x7 σ h
  unfold M_undoes_111 at h
  refine zg_iload hO 5 dX4_undoes_111 rfl ?_
  refine zg_if_eq (tgt := 119) hO h dX4_undoes_113 (by decide) (fun h => ?_) (fun h => ?_)
  · refine zg_iinc (k := 4) (lv' := [(6, .int (x6 + (nI 1))), (0, .ref (G 0)), (1, .int x1), (2, .long x2), (4, .long x4), (7, .int x7)]) hO dX4_undoes_119 rfl (zii ic1) (Nat.le_of_ble_eq_true rfl) rfl ?_
    refine zg_goto (tgt := 32) hO dX4_undoes_122 (by decide) ?_
    exact zg_sub [1, 2, 3, 4, 0] rfl (K32 _ _ _ _ _ h)
  · refine zg_iload hO 4 dX4_undoes_116 rfl ?_
    exact zm_iret hO hr h dX4_undoes_118
set_option maxHeartbeats 4000000 in
theorem w_M_undoes_109 (hO : Ok p s m args meth c cX4_undoes RX4 8 D dA (AG G s.heap.size)) (hr : meth.sig.returnType = (some .int)) {ρ : Int32 × MS} {k32 : Int32 → Int64 → Int64 → Int32 → MS → Option (Int32 × MS)} (K32 : ∀ (x1 : Int32) (x2 : Int64) (x4 : Int64) (x6 : Int32) (σ : MS), k32 x1 x2 x4 x6 σ = some ρ → Go p l e (rmG 5 0 0) s m args below meth c D (AG G s.heap.size) 8 (MQ below ((QfI D dA (WM dA G ρ.2) ρ.1) (AG G s.heap.size)) args s 0 0 (AG G s.heap.size)) (WM dA G σ) 0 0 32 [(0, .ref (G 0)), (1, .int x1), (2, .long x2), (4, .long x4), (6, .int x6)] []) : ∀ (x1 : Int32) (x2 : Int64) (x4 : Int64) (x6 : Int32) (y0 : Int32) (σ : MS), M_undoes_109 k32 x1 x2 x4 x6 y0 σ = some ρ → Go p l e (rmG 5 0 0) s m args below meth c D (AG G s.heap.size) 8 (MQ below ((QfI D dA (WM dA G ρ.2) ρ.1) (AG G s.heap.size)) args s 0 0 (AG G s.heap.size)) (WM dA G σ) 0 0 109 [(0, .ref (G 0)), (1, .int x1), (2, .long x2), (4, .long x4), (6, .int x6)] [.int y0] := by
  intro x1 x2 x4 x6 y0 σ h
  unfold M_undoes_109 at h
  refine zg_istore (lv' := [(7, .int y0), (0, .ref (G 0)), (1, .int x1), (2, .long x2), (4, .long x4), (6, .int x6)]) hO dX4_undoes_109 (Nat.le_of_ble_eq_true rfl) rfl ?_
  exact zg_sub [1, 2, 3, 4, 5, 0] rfl (w_M_undoes_111 hO hr K32 _ _ _ _ _ _ h)
set_option maxHeartbeats 4000000 in
theorem w_M_undoes_108 (hO : Ok p s m args meth c cX4_undoes RX4 8 D dA (AG G s.heap.size)) (hr : meth.sig.returnType = (some .int)) {ρ : Int32 × MS} {k32 : Int32 → Int64 → Int64 → Int32 → MS → Option (Int32 × MS)} (K32 : ∀ (x1 : Int32) (x2 : Int64) (x4 : Int64) (x6 : Int32) (σ : MS), k32 x1 x2 x4 x6 σ = some ρ → Go p l e (rmG 5 0 0) s m args below meth c D (AG G s.heap.size) 8 (MQ below ((QfI D dA (WM dA G ρ.2) ρ.1) (AG G s.heap.size)) args s 0 0 (AG G s.heap.size)) (WM dA G σ) 0 0 32 [(0, .ref (G 0)), (1, .int x1), (2, .long x2), (4, .long x4), (6, .int x6)] []) : ∀ (x1 : Int32) (x2 : Int64) (x4 : Int64) (x6 : Int32) (σ : MS), M_undoes_108 k32 x1 x2 x4 x6 σ = some ρ → Go p l e (rmG 5 0 0) s m args below meth c D (AG G s.heap.size) 8 (MQ below ((QfI D dA (WM dA G ρ.2) ρ.1) (AG G s.heap.size)) args s 0 0 (AG G s.heap.size)) (WM dA G σ) 0 0 108 [(0, .ref (G 0)), (1, .int x1), (2, .long x2), (4, .long x4), (6, .int x6)] [] := by
  intro x1 x2 x4 x6 σ h
  unfold M_undoes_108 at h
  refine zg_iconst hO dX4_undoes_108 ic0 ?_
  exact zg_sub [0, 1, 2, 3, 4] rfl (w_M_undoes_109 hO hr K32 _ _ _ _ _ _ h)
set_option maxHeartbeats 4000000 in
theorem w_M_undoes_71 (hO : Ok p s m args meth c cX4_undoes RX4 8 D dA (AG G s.heap.size)) (hr : meth.sig.returnType = (some .int)) {ρ : Int32 × MS} {k32 : Int32 → Int64 → Int64 → Int32 → MS → Option (Int32 × MS)} (K32 : ∀ (x1 : Int32) (x2 : Int64) (x4 : Int64) (x6 : Int32) (σ : MS), k32 x1 x2 x4 x6 σ = some ρ → Go p l e (rmG 5 0 0) s m args below meth c D (AG G s.heap.size) 8 (MQ below ((QfI D dA (WM dA G ρ.2) ρ.1) (AG G s.heap.size)) args s 0 0 (AG G s.heap.size)) (WM dA G σ) 0 0 32 [(0, .ref (G 0)), (1, .int x1), (2, .long x2), (4, .long x4), (6, .int x6)] []) : ∀ (x1 : Int32) (x2 : Int64) (x4 : Int64) (x6 : Int32) (y0 : Int32) (σ : MS), M_undoes_71 k32 x1 x2 x4 x6 y0 σ = some ρ → Go p l e (rmG 5 0 0) s m args below meth c D (AG G s.heap.size) 8 (MQ below ((QfI D dA (WM dA G ρ.2) ρ.1) (AG G s.heap.size)) args s 0 0 (AG G s.heap.size)) (WM dA G σ) 0 0 71 [(0, .ref (G 0)), (1, .int x1), (2, .long x2), (4, .long x4), (6, .int x6)] [.int y0] := by
  intro x1 x2 x4 x6 y0 σ h
  unfold M_undoes_71 at h
  refine zg_istore (lv' := [(7, .int y0), (0, .ref (G 0)), (1, .int x1), (2, .long x2), (4, .long x4), (6, .int x6)]) hO dX4_undoes_71 (Nat.le_of_ble_eq_true rfl) rfl ?_
  refine zg_iload hO 0 dX4_undoes_73 rfl ?_
  refine zg_if_eq (tgt := 111) hO h dX4_undoes_75 (by decide) (fun h => ?_) (fun h => ?_)
  · exact zg_sub [1, 2, 3, 4, 5, 0] rfl (w_M_undoes_111 hO hr K32 _ _ _ _ _ _ h)
  · refine zg_aload_n hO 1 dX4_undoes_78 rfl rfl ?_
    refine zg_iload hO 5 dX4_undoes_79 rfl ?_
    refine zg_iload_n hO 2 dX4_undoes_81 rfl rfl ?_
    refine zm_callVv (As := [.int x6, .int x1]) (rest := []) hO h (fun q hq => m_joinsTwo l D dA G hq) mw_X4_joinsTwo q1816 ⟨Nat.le_of_ble_eq_true rfl, Nat.le_of_ble_eq_true rfl⟩ rfl rfl (Nat.le_of_ble_eq_true rfl) dX4_undoes_82 (fun q4 h => ?_)
    refine zg_aload_n hO 1 dX4_undoes_85 rfl rfl ?_
    refine mG_96 hO dX4_undoes_86 ?_
    refine zg_lload_n hO 3 dX4_undoes_89 rfl rfl ?_
    refine zg_lcmp hO dX4_undoes_90 ?_
    refine zg_if_ne (tgt := 108) hO h dX4_undoes_91 (by decide) (fun h => ?_) (fun h => ?_)
    · exact zg_sub [1, 2, 3, 4, 5] rfl (w_M_undoes_108 hO hr K32 _ _ _ _ _ h)
    · refine zg_aload_n hO 1 dX4_undoes_94 rfl rfl ?_
      refine mG_100 hO dX4_undoes_95 ?_
      refine zg_lload hO 4 dX4_undoes_98 rfl ?_
      refine zg_lcmp hO dX4_undoes_100 ?_
      refine zg_if_ne (tgt := 108) hO h dX4_undoes_101 (by decide) (fun h => ?_) (fun h => ?_)
      · exact zg_sub [1, 2, 3, 4, 5] rfl (w_M_undoes_108 hO hr K32 _ _ _ _ _ h)
      · refine zg_iconst hO dX4_undoes_104 ic1 ?_
        refine zg_goto (tgt := 109) hO dX4_undoes_105 (by decide) ?_
        exact zg_sub [1, 2, 3, 4, 5] rfl (w_M_undoes_109 hO hr K32 _ _ _ _ _ _ h)
set_option maxHeartbeats 4000000 in
theorem w_M_undoes_70 (hO : Ok p s m args meth c cX4_undoes RX4 8 D dA (AG G s.heap.size)) (hr : meth.sig.returnType = (some .int)) {ρ : Int32 × MS} {k32 : Int32 → Int64 → Int64 → Int32 → MS → Option (Int32 × MS)} (K32 : ∀ (x1 : Int32) (x2 : Int64) (x4 : Int64) (x6 : Int32) (σ : MS), k32 x1 x2 x4 x6 σ = some ρ → Go p l e (rmG 5 0 0) s m args below meth c D (AG G s.heap.size) 8 (MQ below ((QfI D dA (WM dA G ρ.2) ρ.1) (AG G s.heap.size)) args s 0 0 (AG G s.heap.size)) (WM dA G σ) 0 0 32 [(0, .ref (G 0)), (1, .int x1), (2, .long x2), (4, .long x4), (6, .int x6)] []) : ∀ (x1 : Int32) (x2 : Int64) (x4 : Int64) (x6 : Int32) (σ : MS), M_undoes_70 k32 x1 x2 x4 x6 σ = some ρ → Go p l e (rmG 5 0 0) s m args below meth c D (AG G s.heap.size) 8 (MQ below ((QfI D dA (WM dA G ρ.2) ρ.1) (AG G s.heap.size)) args s 0 0 (AG G s.heap.size)) (WM dA G σ) 0 0 70 [(0, .ref (G 0)), (1, .int x1), (2, .long x2), (4, .long x4), (6, .int x6)] [] := by
  intro x1 x2 x4 x6 σ h
  unfold M_undoes_70 at h
  refine zg_iconst hO dX4_undoes_70 ic0 ?_
  exact zg_sub [0, 1, 2, 3, 4] rfl (w_M_undoes_71 hO hr K32 _ _ _ _ _ _ h)
set_option maxHeartbeats 4000000 in
theorem w_M_undoes_32 (hO : Ok p s m args meth c cX4_undoes RX4 8 D dA (AG G s.heap.size)) (hr : meth.sig.returnType = (some .int)) {ρ : Int32 × MS} : ∀ (n : Nat) (x1 : Int32) (x2 : Int64) (x4 : Int64) (x6 : Int32) (σ : MS), M_undoes_32 n x1 x2 x4 x6 σ = some ρ → Go p l e (rmG 5 0 0) s m args below meth c D (AG G s.heap.size) 8 (MQ below ((QfI D dA (WM dA G ρ.2) ρ.1) (AG G s.heap.size)) args s 0 0 (AG G s.heap.size)) (WM dA G σ) 0 0 32 [(0, .ref (G 0)), (1, .int x1), (2, .long x2), (4, .long x4), (6, .int x6)] [] := by
  intro n
  induction n with
  | zero =>
    intro x1 x2 x4 x6 σ h
    rw [M_undoes_32] at h
    cases h
  | succ n ih =>
    intro x1 x2 x4 x6 σ h
    rw [M_undoes_32] at h
    refine zg_iload hO 4 dX4_undoes_32 rfl ?_
    refine zg_sipush hO dX4_undoes_34 sc9999 ?_
    refine zg_icmp_gt (tgt := 125) hO h dX4_undoes_37 (by decide) (fun h => ?_) (fun h => ?_)
    · refine zg_bipush hO dX4_undoes_125 bcm2 ?_
      exact zm_iret hO hr h dX4_undoes_127
    · refine zg_aload_n hO 0 dX4_undoes_40 rfl rfl ?_
      refine zg_iload_n hO 1 dX4_undoes_41 rfl rfl ?_
      refine zg_iload hO 4 dX4_undoes_42 rfl ?_
      refine zm_callVv (As := [.int x1, .int x6]) (rest := []) hO h (fun q hq => m_joinsTwo l D dA G hq) mw_X4_joinsTwo q1816 ⟨Nat.le_of_ble_eq_true rfl, Nat.le_of_ble_eq_true rfl⟩ rfl rfl (Nat.le_of_ble_eq_true rfl) dX4_undoes_44 (fun q3 h => ?_)
      refine zg_aload_n hO 0 dX4_undoes_47 rfl rfl ?_
      refine mG_96 hO dX4_undoes_48 ?_
      refine zg_lload_n hO 2 dX4_undoes_51 rfl rfl ?_
      refine zg_lcmp hO dX4_undoes_52 ?_
      refine zg_if_ne (tgt := 70) hO h dX4_undoes_53 (by decide) (fun h => ?_) (fun h => ?_)
      · exact zg_sub [0, 1, 2, 3, 4] rfl (w_M_undoes_70 hO hr ih _ _ _ _ _ h)
      · refine zg_aload_n hO 0 dX4_undoes_56 rfl rfl ?_
        refine mG_100 hO dX4_undoes_57 ?_
        refine zg_lload hO 3 dX4_undoes_60 rfl ?_
        refine zg_lcmp hO dX4_undoes_62 ?_
        refine zg_if_ne (tgt := 70) hO h dX4_undoes_63 (by decide) (fun h => ?_) (fun h => ?_)
        · exact zg_sub [0, 1, 2, 3, 4] rfl (w_M_undoes_70 hO hr ih _ _ _ _ _ h)
        · refine zg_iconst hO dX4_undoes_66 ic1 ?_
          refine zg_goto (tgt := 71) hO dX4_undoes_67 (by decide) ?_
          exact zg_sub [0, 1, 2, 3, 4] rfl (w_M_undoes_71 hO hr ih _ _ _ _ _ _ h)
theorem mw_X4_undoes : MwV yX4_undoes cX4_undoes 8 (some .int) RX4 1 := ⟨by decide +kernel, q1880, q1881, q106, q1882⟩
set_option maxHeartbeats 4000000 in
theorem m_undoes (l : Launch) (D : va_G) (dA : Nat → ClassId) (G : Nat → Nat) {x1 : Int32} {σ : MS} {ρ : Int32 × MS} (h : M_undoes x1 σ = some ρ) : Ct l yX4_undoes (ws_ yX4_undoes cX4_undoes 8 (some .int)) 5 0 0 D dA [.ref (G 0), .int x1] (WM dA G σ) (AG G) (QfI D dA (WM dA G ρ.2) ρ.1) := by
  refine zc_start (cc := cX4_undoes) (nL := 8) (ret := (some .int)) (own := RX4) (by decide) rfl rfl (Nat.le_of_ble_eq_true rfl) wm_A (fun p e s m args below meth c hO hr _ _ => ?_)
  unfold M_undoes at h
  refine zg_sub (lv' := [(0, .ref (G 0)), (1, .int x1)]) [0, 1] rfl ?_
  refine zg_aload_n hO 0 dX4_undoes_0 rfl rfl ?_
  refine zg_iconst hO dX4_undoes_1 ic0 ?_
  refine mP_1 hO dX4_undoes_2 ?_
  refine zg_iload_n hO 1 dX4_undoes_5 rfl rfl ?_
  refine zs_calli (As := [.int x1]) (rest := []) hO h (fun q hq => m_isItem l D dA hq) mw_X4_isItem q1812 ⟨Nat.le_of_ble_eq_true rfl, Nat.le_of_ble_eq_true rfl⟩ ⟨Nat.le_refl _, Nat.le_refl _⟩ rfl rfl (Nat.le_of_ble_eq_true rfl) dX4_undoes_6 (fun q1 h => ?_)
  refine zg_if_ne (tgt := 14) hO h dX4_undoes_9 (by decide) (fun h => ?_) (fun h => ?_)
  · refine zg_aload_n hO 0 dX4_undoes_14 rfl rfl ?_
    refine zm_callVv (As := []) (rest := []) hO h (fun q hq => m_empty l D dA G hq) mw_X4_empty q1869 ⟨Nat.le_of_ble_eq_true rfl, Nat.le_of_ble_eq_true rfl⟩ rfl rfl (Nat.le_of_ble_eq_true rfl) dX4_undoes_15 (fun q2 h => ?_)
    refine zg_aload_n hO 0 dX4_undoes_18 rfl rfl ?_
    refine mG_96 hO dX4_undoes_19 ?_
    refine zg_lstore_n (lv' := [(2, .long (gL q2 0)), (0, .ref (G 0)), (1, .int x1)]) hO dX4_undoes_22 rfl (Nat.le_of_ble_eq_true rfl) rfl ?_
    refine zg_aload_n hO 1 dX4_undoes_23 rfl rfl ?_
    refine mG_100 hO dX4_undoes_24 ?_
    refine zg_lstore (lv' := [(4, .long (gL q2 1)), (2, .long (gL q2 0)), (0, .ref (G 0)), (1, .int x1)]) hO dX4_undoes_27 (Nat.le_of_ble_eq_true rfl) rfl ?_
    refine zg_iconst hO dX4_undoes_29 ic0 ?_
    refine zg_istore (lv' := [(6, .int (nI 0)), (4, .long (gL q2 1)), (2, .long (gL q2 0)), (0, .ref (G 0)), (1, .int x1)]) hO dX4_undoes_30 (Nat.le_of_ble_eq_true rfl) rfl ?_
    exact zg_sub [3, 4, 2, 1, 0] rfl (w_M_undoes_32 hO hr _ _ _ _ _ _ h)
  · refine zg_iconst hO dX4_undoes_12 icm1 ?_
    exact zm_iret hO hr h dX4_undoes_13
theorem mw_X4_sizeOf : MwV yX4_sizeOf cX4_sizeOf 2 (some .int) RX4 1 := ⟨by decide +kernel, q1898, qs56, q106, q1899⟩
set_option maxHeartbeats 4000000 in
theorem m_sizeOf (l : Launch) (D : va_G) (dA : Nat → ClassId) (G : Nat → Nat) {x1 : Int32} {σ : MS} {ρ : Int32 × MS} (h : M_sizeOf x1 σ = some ρ) : Ct l yX4_sizeOf (ws_ yX4_sizeOf cX4_sizeOf 2 (some .int)) 0 0 0 D dA [.ref (G 0), .int x1] (WM dA G σ) (AG G) (QfI D dA (WM dA G ρ.2) ρ.1) := by
  refine zc_start (cc := cX4_sizeOf) (nL := 2) (ret := (some .int)) (own := RX4) (by decide) rfl rfl (Nat.le_of_ble_eq_true rfl) wm_A (fun p e s m args below meth c hO hr _ _ => ?_)
  unfold M_sizeOf at h
  refine zg_sub (lv' := [(0, .ref (G 0)), (1, .int x1)]) [0, 1] rfl ?_
  refine zg_aload_n hO 0 dX4_sizeOf_0 rfl rfl ?_
  refine mG_66 hO dX4_sizeOf_1 ?_
  refine zg_iconst hO dX4_sizeOf_4 ic2 ?_
  refine zg_iload_n hO 1 dX4_sizeOf_5 rfl rfl ?_
  refine zg_imul hO dX4_sizeOf_6 ?_
  refine mL_9 hO h dX4_sizeOf_7 (fun h => ?_)
  refine zg_aload_n hO 0 dX4_sizeOf_8 rfl rfl ?_
  refine mG_66 hO dX4_sizeOf_9 ?_
  refine zg_iconst hO dX4_sizeOf_12 ic2 ?_
  refine zg_iload_n hO 1 dX4_sizeOf_13 rfl rfl ?_
  refine zg_imul hO dX4_sizeOf_14 ?_
  refine zg_iconst hO dX4_sizeOf_15 ic1 ?_
  refine zg_iadd hO dX4_sizeOf_16 ?_
  refine mL_9 hO h dX4_sizeOf_17 (fun h => ?_)
  refine zg_iadd hO dX4_sizeOf_18 ?_
  exact zm_iret hO hr h dX4_sizeOf_19
theorem mw_X4_place : MwS yX4_place cX4_place 2 (some .int) 2 := ⟨by decide +kernel, q1909, q106, q1910⟩
set_option maxHeartbeats 4000000 in
theorem m_place (l : Launch) (D : va_G) (dA : Nat → ClassId) {x0 : Int32} {x1 : Int32} {ρ : Int32} (h : M_place x0 x1 = some ρ) : Ct l yX4_place (ws_ yX4_place cX4_place 2 (some .int)) 0 0 0 D dA [.int x0, .int x1] [] A0s (QfI D dA [] ρ) := by
  refine zc_start (cc := cX4_place) (nL := 2) (ret := (some .int)) (own := RX4) (by decide) rfl rfl (Nat.le_of_ble_eq_true rfl) (fun _ _ h => h) (fun p e s m args below meth c hO hr _ _ => ?_)
  unfold M_place at h
  refine zg_sub (lv' := [(0, .int x0), (1, .int x1)]) [0, 1] rfl ?_
  refine zg_bipush hO dX4_place_0 bc64 ?_
  refine zg_iload_n hO 0 dX4_place_2 rfl rfl ?_
  refine zg_imul hO dX4_place_3 ?_
  refine zg_iload_n hO 1 dX4_place_4 rfl rfl ?_
  refine zg_iadd hO dX4_place_5 ?_
  exact zs_iret hO hr h dX4_place_6
theorem mw_X4_placeOf : MwV yX4_placeOf cX4_placeOf 4 (some .int) RX4 2 := ⟨by decide +kernel, q1906, qs58, q106, q1907⟩
set_option maxHeartbeats 4000000 in
theorem m_placeOf (l : Launch) (D : va_G) (dA : Nat → ClassId) (G : Nat → Nat) {x1 : Int32} {x2 : Int32} {σ : MS} {ρ : Int32 × MS} (h : M_placeOf x1 x2 σ = some ρ) : Ct l yX4_placeOf (ws_ yX4_placeOf cX4_placeOf 4 (some .int)) 1 0 0 D dA [.ref (G 0), .int x1, .int x2] (WM dA G σ) (AG G) (QfI D dA (WM dA G ρ.2) ρ.1) := by
  refine zc_start (cc := cX4_placeOf) (nL := 4) (ret := (some .int)) (own := RX4) (by decide) rfl rfl (Nat.le_of_ble_eq_true rfl) wm_A (fun p e s m args below meth c hO hr _ _ => ?_)
  unfold M_placeOf at h
  refine zg_sub (lv' := [(0, .ref (G 0)), (1, .int x1), (2, .int x2)]) [0, 1, 2] rfl ?_
  refine zg_aload_n hO 0 dX4_placeOf_0 rfl rfl ?_
  refine mG_66 hO dX4_placeOf_1 ?_
  refine zg_iconst hO dX4_placeOf_4 ic2 ?_
  refine zg_iload_n hO 1 dX4_placeOf_5 rfl rfl ?_
  refine zg_imul hO dX4_placeOf_6 ?_
  refine mL_9 hO h dX4_placeOf_7 (fun h => ?_)
  refine zg_istore_n (lv' := [(3, .int (gA σ 5 ((nI 2) * x1).toNatClampNeg)), (0, .ref (G 0)), (1, .int x1), (2, .int x2)]) hO dX4_placeOf_8 rfl (Nat.le_of_ble_eq_true rfl) rfl ?_
  refine zg_iload_n hO 3 dX4_placeOf_9 rfl rfl ?_
  refine zg_iload_n hO 0 dX4_placeOf_10 rfl rfl ?_
  refine zg_icmp_ge (tgt := 28) hO h dX4_placeOf_11 (by decide) (fun h => ?_) (fun h => ?_)
  · refine zg_iconst hO dX4_placeOf_28 ic2 ?_
    refine zg_iload_n hO 2 dX4_placeOf_29 rfl rfl ?_
    refine zg_imul hO dX4_placeOf_30 ?_
    refine zg_iconst hO dX4_placeOf_31 ic1 ?_
    refine zg_iadd hO dX4_placeOf_32 ?_
    refine zg_iload_n hO 3 dX4_placeOf_33 rfl rfl ?_
    refine zg_iload_n hO 0 dX4_placeOf_34 rfl rfl ?_
    refine zg_isub hO dX4_placeOf_35 ?_
    refine zs_calli (As := [.int (((nI 2) * x1) + (nI 1)), .int (x2 - (gA σ 5 ((nI 2) * x1).toNatClampNeg))]) (rest := []) hO h (fun q hq => m_place l D dA hq) mw_X4_place q1908 ⟨Nat.le_of_ble_eq_true rfl, Nat.le_of_ble_eq_true rfl⟩ ⟨Nat.le_refl _, Nat.le_refl _⟩ rfl rfl (Nat.le_of_ble_eq_true rfl) dX4_placeOf_36 (fun q1 h => ?_)
    exact zm_iret hO hr h dX4_placeOf_39
  · refine zg_iconst hO dX4_placeOf_14 ic2 ?_
    refine zg_iload_n hO 2 dX4_placeOf_15 rfl rfl ?_
    refine zg_imul hO dX4_placeOf_16 ?_
    refine zg_iload_n hO 0 dX4_placeOf_17 rfl rfl ?_
    refine zg_iconst hO dX4_placeOf_18 ic1 ?_
    refine zg_isub hO dX4_placeOf_19 ?_
    refine zg_iload_n hO 3 dX4_placeOf_20 rfl rfl ?_
    refine zg_isub hO dX4_placeOf_21 ?_
    refine zs_calli (As := [.int ((nI 2) * x1), .int (((gA σ 5 ((nI 2) * x1).toNatClampNeg) - (nI 1)) - x2)]) (rest := []) hO h (fun q hq => m_place l D dA hq) mw_X4_place q1908 ⟨Nat.le_of_ble_eq_true rfl, Nat.le_of_ble_eq_true rfl⟩ ⟨Nat.le_refl _, Nat.le_refl _⟩ rfl rfl (Nat.le_of_ble_eq_true rfl) dX4_placeOf_22 (fun q2 h => ?_)
    refine zg_goto (tgt := 39) hO dX4_placeOf_25 (by decide) ?_
    exact zm_iret hO hr h dX4_placeOf_39
theorem mw_X4_itemAt : MwV yX4_itemAt cX4_itemAt 3 (some .int) RX4 2 := ⟨by decide +kernel, q1902, qs57, q106, q1903⟩
set_option maxHeartbeats 4000000 in
theorem m_itemAt (l : Launch) (D : va_G) (dA : Nat → ClassId) (G : Nat → Nat) {x1 : Int32} {x2 : Int32} {σ : MS} {ρ : Int32 × MS} (h : M_itemAt x1 x2 σ = some ρ) : Ct l yX4_itemAt (ws_ yX4_itemAt cX4_itemAt 3 (some .int)) 2 0 0 D dA [.ref (G 0), .int x1, .int x2] (WM dA G σ) (AG G) (QfI D dA (WM dA G ρ.2) ρ.1) := by
  refine zc_start (cc := cX4_itemAt) (nL := 3) (ret := (some .int)) (own := RX4) (by decide) rfl rfl (Nat.le_of_ble_eq_true rfl) wm_A (fun p e s m args below meth c hO hr _ _ => ?_)
  unfold M_itemAt at h
  refine zg_sub (lv' := [(0, .ref (G 0)), (1, .int x1), (2, .int x2)]) [0, 1, 2] rfl ?_
  refine zg_aload_n hO 0 dX4_itemAt_0 rfl rfl ?_
  refine mG_72 hO dX4_itemAt_1 ?_
  refine zg_aload_n hO 0 dX4_itemAt_4 rfl rfl ?_
  refine zg_iload_n hO 1 dX4_itemAt_5 rfl rfl ?_
  refine zg_iload_n hO 2 dX4_itemAt_6 rfl rfl ?_
  refine zm_callVi (As := [.int x1, .int x2]) (rest := [.ref (G 11)]) hO h (fun q hq => m_placeOf l D dA G hq) mw_X4_placeOf q1904 ⟨Nat.le_of_ble_eq_true rfl, Nat.le_of_ble_eq_true rfl⟩ rfl rfl (Nat.le_of_ble_eq_true rfl) dX4_itemAt_7 (fun q1 h => ?_)
  refine mL_11 hO h dX4_itemAt_10 (fun h => ?_)
  exact zm_iret hO hr h dX4_itemAt_11
set_option maxHeartbeats 4000000 in
theorem w_M_takesItems_8 (hO : Ok p s m args meth c cX4_takesItems RX4 4 D dA (AG G s.heap.size)) (hr : meth.sig.returnType = (some .int)) {ρ : Int32 × MS} : ∀ (n : Nat) (x1 : Int32) (x2 : Int32) (x3 : Int32) (σ : MS), M_takesItems_8 n x1 x2 x3 σ = some ρ → Go p l e (rmG 3 0 0) s m args below meth c D (AG G s.heap.size) 4 (MQ below ((QfI D dA (WM dA G ρ.2) ρ.1) (AG G s.heap.size)) args s 0 0 (AG G s.heap.size)) (WM dA G σ) 0 0 8 [(0, .ref (G 0)), (1, .int x1), (2, .int x2), (3, .int x3)] [] := by
  intro n
  induction n with
  | zero =>
    intro x1 x2 x3 σ h
    rw [M_takesItems_8] at h
    cases h
  | succ n ih =>
    intro x1 x2 x3 σ h
    rw [M_takesItems_8] at h
    refine zg_iload_n hO 3 dX4_takesItems_8 rfl rfl ?_
    refine zg_iload_n hO 2 dX4_takesItems_9 rfl rfl ?_
    refine zg_icmp_ge (tgt := 31) hO h dX4_takesItems_10 (by decide) (fun h => ?_) (fun h => ?_)
    · refine zg_iload_n hO 2 dX4_takesItems_31 rfl rfl ?_
      exact zm_iret hO hr h dX4_takesItems_32
    · refine zg_aload_n hO 0 dX4_takesItems_13 rfl rfl ?_
      refine mG_81 hO dX4_takesItems_14 ?_
      refine zg_iload_n hO 3 dX4_takesItems_17 rfl rfl ?_
      refine zg_aload_n hO 0 dX4_takesItems_18 rfl rfl ?_
      refine zg_iload_n hO 1 dX4_takesItems_19 rfl rfl ?_
      refine zg_iload_n hO 3 dX4_takesItems_20 rfl rfl ?_
      refine zm_callVi (As := [.int x1, .int x3]) (rest := [.int x3, .ref (G 14)]) hO h (fun q hq => m_itemAt l D dA G hq) mw_X4_itemAt q1900 ⟨Nat.le_of_ble_eq_true rfl, Nat.le_of_ble_eq_true rfl⟩ rfl rfl (Nat.le_of_ble_eq_true rfl) dX4_takesItems_21 (fun q2 h => ?_)
      refine mS_14 hO h dX4_takesItems_24 (fun h => ?_)
      refine zg_iinc (k := 3) (lv' := [(3, .int (x3 + (nI 1))), (0, .ref (G 0)), (1, .int x1), (2, .int x2)]) hO dX4_takesItems_25 rfl (zii ic1) (Nat.le_of_ble_eq_true rfl) rfl ?_
      refine zg_goto (tgt := 8) hO dX4_takesItems_28 (by decide) ?_
      exact zg_sub [1, 2, 3, 0] rfl (ih _ _ _ _ h)
theorem mw_X4_takesItems : MwV yX4_takesItems cX4_takesItems 4 (some .int) RX4 1 := ⟨by decide +kernel, q1894, qs55, q106, q1895⟩
set_option maxHeartbeats 4000000 in
theorem m_takesItems (l : Launch) (D : va_G) (dA : Nat → ClassId) (G : Nat → Nat) {x1 : Int32} {σ : MS} {ρ : Int32 × MS} (h : M_takesItems x1 σ = some ρ) : Ct l yX4_takesItems (ws_ yX4_takesItems cX4_takesItems 4 (some .int)) 3 0 0 D dA [.ref (G 0), .int x1] (WM dA G σ) (AG G) (QfI D dA (WM dA G ρ.2) ρ.1) := by
  refine zc_start (cc := cX4_takesItems) (nL := 4) (ret := (some .int)) (own := RX4) (by decide) rfl rfl (Nat.le_of_ble_eq_true rfl) wm_A (fun p e s m args below meth c hO hr _ _ => ?_)
  unfold M_takesItems at h
  refine zg_sub (lv' := [(0, .ref (G 0)), (1, .int x1)]) [0, 1] rfl ?_
  refine zg_aload_n hO 0 dX4_takesItems_0 rfl rfl ?_
  refine zg_iload_n hO 1 dX4_takesItems_1 rfl rfl ?_
  refine zm_callVi (As := [.int x1]) (rest := []) hO h (fun q hq => m_sizeOf l D dA G hq) mw_X4_sizeOf q1896 ⟨Nat.le_of_ble_eq_true rfl, Nat.le_of_ble_eq_true rfl⟩ rfl rfl (Nat.le_of_ble_eq_true rfl) dX4_takesItems_2 (fun q1 h => ?_)
  refine zg_istore_n (lv' := [(2, .int q1.1), (0, .ref (G 0)), (1, .int x1)]) hO dX4_takesItems_5 rfl (Nat.le_of_ble_eq_true rfl) rfl ?_
  refine zg_iconst hO dX4_takesItems_6 ic0 ?_
  refine zg_istore_n (lv' := [(3, .int (nI 0)), (2, .int q1.1), (0, .ref (G 0)), (1, .int x1)]) hO dX4_takesItems_7 rfl (Nat.le_of_ble_eq_true rfl) rfl ?_
  exact zg_sub [2, 3, 1, 0] rfl (w_M_takesItems_8 hO hr _ _ _ _ _ h)
set_option maxHeartbeats 4000000 in
theorem w_M_makes_86 (hO : Ok p s m args meth c cX4_makes RX4 8 D dA (AG G s.heap.size)) (hr : meth.sig.returnType = none) {ρ : MS} : ∀ (x1 : Int32) (x2 : Int32) (x3 : Int32) (σ : MS), M_makes_86 x1 x2 x3 σ = some ρ → Go p l e (rmG 4 0 0) s m args below meth c D (AG G s.heap.size) 8 (MQ below ((QfV D dA (WM dA G ρ)) (AG G s.heap.size)) args s 0 0 (AG G s.heap.size)) (WM dA G σ) 0 0 86 [(0, .ref (G 0)), (1, .int x1), (2, .int x2), (3, .int x3)] [] := by
  intro x1 x2 x3 σ h
  unfold M_makes_86 at h
  refine zg_aload_n hO 0 dX4_makes_86 rfl rfl ?_
  refine mG_72 hO dX4_makes_87 ?_
  refine zg_iload_n hO 3 dX4_makes_90 rfl rfl ?_
  refine zg_iload_n hO 2 dX4_makes_91 rfl rfl ?_
  refine mS_11 hO h dX4_makes_92 (fun h => ?_)
  refine zg_aload_n hO 0 dX4_makes_93 rfl rfl ?_
  refine mG_75 hO dX4_makes_94 ?_
  refine zg_iload_n hO 3 dX4_makes_97 rfl rfl ?_
  refine zg_aload_n hO 0 dX4_makes_98 rfl rfl ?_
  refine mG_96 hO dX4_makes_99 ?_
  refine mS_12 hO h dX4_makes_102 (fun h => ?_)
  refine zg_aload_n hO 0 dX4_makes_103 rfl rfl ?_
  refine mG_78 hO dX4_makes_104 ?_
  refine zg_iload_n hO 3 dX4_makes_107 rfl rfl ?_
  refine zg_aload_n hO 0 dX4_makes_108 rfl rfl ?_
  refine mG_100 hO dX4_makes_109 ?_
  refine mS_13 hO h dX4_makes_112 (fun h => ?_)
  refine zg_aload_n hO 0 dX4_makes_113 rfl rfl ?_
  refine mG_69 hO dX4_makes_114 ?_
  refine zg_iload_n hO 3 dX4_makes_117 rfl rfl ?_
  refine zg_aload_n hO 0 dX4_makes_118 rfl rfl ?_
  refine mG_184 hO dX4_makes_119 ?_
  refine mS_10 hO h dX4_makes_122 (fun h => ?_)
  refine zg_aload_n hO 0 dX4_makes_123 rfl rfl ?_
  refine zg_dup hO dX4_makes_124 rfl ?_
  refine mG_184 hO dX4_makes_125 ?_
  refine zg_iconst hO dX4_makes_128 ic1 ?_
  refine zg_iadd hO dX4_makes_129 ?_
  refine mP_184 hO dX4_makes_130 ?_
  refine zg_aload_n hO 0 dX4_makes_133 rfl rfl ?_
  refine mG_66 hO dX4_makes_134 ?_
  refine zg_iload_n hO 1 dX4_makes_137 rfl rfl ?_
  refine zg_dup2 hO dX4_makes_138 rfl rfl ?_
  refine mL_9 hO h dX4_makes_139 (fun h => ?_)
  refine zg_iconst hO dX4_makes_140 ic1 ?_
  refine zg_iadd hO dX4_makes_141 ?_
  refine mS_9 hO h dX4_makes_142 (fun h => ?_)
  exact zm_vret hO hr h dX4_makes_143
theorem mw_X4_makes : MwV yX4_makes cX4_makes 8 none RX4 2 := ⟨by decide +kernel, q1917, qs60, q106, q1918⟩
set_option maxHeartbeats 4000000 in
theorem m_makes (l : Launch) (D : va_G) (dA : Nat → ClassId) (G : Nat → Nat) {x1 : Int32} {x2 : Int32} {σ : MS} {ρ : MS} (h : M_makes x1 x2 σ = some ρ) : Ct l yX4_makes (ws_ yX4_makes cX4_makes 8 none) 4 0 0 D dA [.ref (G 0), .int x1, .int x2] (WM dA G σ) (AG G) (QfV D dA (WM dA G ρ)) := by
  refine zc_start (cc := cX4_makes) (nL := 8) (ret := none) (own := RX4) (by decide) rfl rfl (Nat.le_of_ble_eq_true rfl) wm_A (fun p e s m args below meth c hO hr _ _ => ?_)
  unfold M_makes at h
  refine zg_sub (lv' := [(0, .ref (G 0)), (1, .int x1), (2, .int x2)]) [0, 1, 2] rfl ?_
  refine zg_iload_n hO 1 dX4_makes_0 rfl rfl ?_
  refine zg_aload_n hO 0 dX4_makes_1 rfl rfl ?_
  refine mG_66 hO dX4_makes_2 ?_
  refine zg_iload_n hO 1 dX4_makes_5 rfl rfl ?_
  refine mL_9 hO h dX4_makes_6 (fun h => ?_)
  refine zs_calli (As := [.int x1, .int (gA σ 5 x1.toNatClampNeg)]) (rest := []) hO h (fun q hq => m_place l D dA hq) mw_X4_place q1908 ⟨Nat.le_of_ble_eq_true rfl, Nat.le_of_ble_eq_true rfl⟩ ⟨Nat.le_refl _, Nat.le_refl _⟩ rfl rfl (Nat.le_of_ble_eq_true rfl) dX4_makes_7 (fun q1 h => ?_)
  refine zg_istore_n (lv' := [(3, .int q1), (0, .ref (G 0)), (1, .int x1), (2, .int x2)]) hO dX4_makes_10 rfl (Nat.le_of_ble_eq_true rfl) rfl ?_
  refine zg_aload_n hO 1 dX4_makes_11 rfl rfl ?_
  refine zg_iload_n hO 3 dX4_makes_12 rfl rfl ?_
  refine zm_callVv (As := [.int x2]) (rest := []) hO h (fun q hq => m_element l D dA G hq) mw_X4_element q1820 ⟨Nat.le_of_ble_eq_true rfl, Nat.le_of_ble_eq_true rfl⟩ rfl rfl (Nat.le_of_ble_eq_true rfl) dX4_makes_13 (fun q2 h => ?_)
  refine zg_aload_n hO 1 dX4_makes_16 rfl rfl ?_
  refine mG_66 hO dX4_makes_17 ?_
  refine zg_iload_n hO 2 dX4_makes_20 rfl rfl ?_
  refine mL_9 hO h dX4_makes_21 (fun h => ?_)
  refine zg_if_le (tgt := 86) hO h dX4_makes_22 (by decide) (fun h => ?_) (fun h => ?_)
  · exact zg_sub [1, 2, 3, 0] rfl (w_M_makes_86 hO hr _ _ _ _ h)
  · refine zg_aload_n hO 1 dX4_makes_25 rfl rfl ?_
    refine mG_75 hO dX4_makes_26 ?_
    refine zg_iload_n hO 0 dX4_makes_29 rfl rfl ?_
    refine zg_iconst hO dX4_makes_30 ic1 ?_
    refine zg_isub hO dX4_makes_31 ?_
    refine mL_12 hO h dX4_makes_32 (fun h => ?_)
    refine zg_lstore (lv' := [(4, .long (gB q2 3 (q1 - (nI 1)).toNatClampNeg)), (3, .int q1), (0, .ref (G 0)), (1, .int x1), (2, .int x2)]) hO dX4_makes_33 (Nat.le_of_ble_eq_true rfl) rfl ?_
    refine zg_aload_n hO 2 dX4_makes_35 rfl rfl ?_
    refine mG_78 hO dX4_makes_36 ?_
    refine zg_iload_n hO 1 dX4_makes_39 rfl rfl ?_
    refine zg_iconst hO dX4_makes_40 ic1 ?_
    refine zg_isub hO dX4_makes_41 ?_
    refine mL_13 hO h dX4_makes_42 (fun h => ?_)
    refine zg_lstore (lv' := [(6, .long (gB q2 4 (q1 - (nI 1)).toNatClampNeg)), (4, .long (gB q2 3 (q1 - (nI 1)).toNatClampNeg)), (3, .int q1), (0, .ref (G 0)), (1, .int x1), (2, .int x2)]) hO dX4_makes_43 (Nat.le_of_ble_eq_true rfl) rfl ?_
    refine zg_iload_n hO 4 dX4_makes_45 rfl rfl ?_
    refine zg_iconst hO dX4_makes_46 ic2 ?_
    refine zg_irem hO h dX4_makes_47 (fun h => ?_)
    refine zg_if_ne (tgt := 70) hO h dX4_makes_48 (by decide) (fun h => ?_) (fun h => ?_)
    · refine zg_aload_n hO 3 dX4_makes_70 rfl rfl ?_
      refine zg_lload hO 1 dX4_makes_71 rfl ?_
      refine zg_lload hO 0 dX4_makes_73 rfl ?_
      refine zg_aload_n hO 3 dX4_makes_75 rfl rfl ?_
      refine mG_96 hO dX4_makes_76 ?_
      refine zg_aload_n hO 3 dX4_makes_79 rfl rfl ?_
      refine mG_100 hO dX4_makes_80 ?_
      refine zm_callVv (As := [.long (gB q2 3 (q1 - (nI 1)).toNatClampNeg), .long (gB q2 4 (q1 - (nI 1)).toNatClampNeg), .long (gL q2 0), .long (gL q2 1)]) (rest := []) hO h (fun q hq => m_join l D dA G hq) mw_X4_join q1838 ⟨Nat.le_of_ble_eq_true rfl, Nat.le_of_ble_eq_true rfl⟩ rfl rfl (Nat.le_of_ble_eq_true rfl) dX4_makes_83 (fun q3 h => ?_)
      exact zg_sub [3, 4, 5, 2] rfl (w_M_makes_86 hO hr _ _ _ _ h)
    · refine zg_aload_n hO 3 dX4_makes_51 rfl rfl ?_
      refine zg_aload_n hO 3 dX4_makes_52 rfl rfl ?_
      refine mG_96 hO dX4_makes_53 ?_
      refine zg_aload_n hO 3 dX4_makes_56 rfl rfl ?_
      refine mG_100 hO dX4_makes_57 ?_
      refine zg_lload hO 1 dX4_makes_60 rfl ?_
      refine zg_lload hO 0 dX4_makes_62 rfl ?_
      refine zm_callVv (As := [.long (gL q2 0), .long (gL q2 1), .long (gB q2 3 (q1 - (nI 1)).toNatClampNeg), .long (gB q2 4 (q1 - (nI 1)).toNatClampNeg)]) (rest := []) hO h (fun q hq => m_join l D dA G hq) mw_X4_join q1838 ⟨Nat.le_of_ble_eq_true rfl, Nat.le_of_ble_eq_true rfl⟩ rfl rfl (Nat.le_of_ble_eq_true rfl) dX4_makes_64 (fun q4 h => ?_)
      refine zg_goto (tgt := 86) hO dX4_makes_67 (by decide) ?_
      exact zg_sub [3, 4, 5, 2] rfl (w_M_makes_86 hO hr _ _ _ _ h)
set_option maxHeartbeats 4000000 in
theorem w_M_lays_2_57 (hO : Ok p s m args meth c cX4_lays_2 RX4 6 D dA (AG G s.heap.size)) (hr : meth.sig.returnType = none) {ρ : MS} : ∀ (n : Nat) (x1 : Int32) (x2 : Int32) (x3 : Int32) (x5 : Int32) (σ : MS), M_lays_2_57 n x1 x2 x3 x5 σ = some ρ → Go p l e (rmG 5 0 0) s m args below meth c D (AG G s.heap.size) 6 (MQ below ((QfV D dA (WM dA G ρ)) (AG G s.heap.size)) args s 0 0 (AG G s.heap.size)) (WM dA G σ) 0 0 57 [(0, .ref (G 0)), (1, .int x1), (2, .int x2), (3, .int x3), (5, .int x5)] [] := by
  intro n
  induction n with
  | zero =>
    intro x1 x2 x3 x5 σ h
    rw [M_lays_2_57] at h
    cases h
  | succ n ih =>
    intro x1 x2 x3 x5 σ h
    rw [M_lays_2_57] at h
    refine zg_iload hO 4 dX4_lays_2_57 rfl ?_
    refine zg_iload_n hO 3 dX4_lays_2_59 rfl rfl ?_
    refine zg_icmp_ge (tgt := 87) hO h dX4_lays_2_60 (by decide) (fun h => ?_) (fun h => ?_)
    · exact zm_vret hO hr h dX4_lays_2_87
    · refine zg_aload_n hO 0 dX4_lays_2_63 rfl rfl ?_
      refine zg_iconst hO dX4_lays_2_64 ic2 ?_
      refine zg_iload_n hO 1 dX4_lays_2_65 rfl rfl ?_
      refine zg_imul hO dX4_lays_2_66 ?_
      refine zg_iconst hO dX4_lays_2_67 ic1 ?_
      refine zg_iadd hO dX4_lays_2_68 ?_
      refine zg_aload_n hO 0 dX4_lays_2_69 rfl rfl ?_
      refine mG_81 hO dX4_lays_2_70 ?_
      refine zg_iload_n hO 2 dX4_lays_2_73 rfl rfl ?_
      refine zg_iload hO 4 dX4_lays_2_74 rfl ?_
      refine zg_iadd hO dX4_lays_2_76 ?_
      refine mL_14 hO h dX4_lays_2_77 (fun h => ?_)
      refine zm_callVv (As := [.int (((nI 2) * x1) + (nI 1)), .int (gA σ 8 (x2 + x5).toNatClampNeg)]) (rest := []) hO h (fun q hq => m_makes l D dA G hq) mw_X4_makes q1915 ⟨Nat.le_of_ble_eq_true rfl, Nat.le_of_ble_eq_true rfl⟩ rfl rfl (Nat.le_of_ble_eq_true rfl) dX4_lays_2_78 (fun q2 h => ?_)
      refine zg_iinc (k := 4) (lv' := [(5, .int (x5 + (nI 1))), (0, .ref (G 0)), (1, .int x1), (2, .int x2), (3, .int x3)]) hO dX4_lays_2_81 rfl (zii ic1) (Nat.le_of_ble_eq_true rfl) rfl ?_
      refine zg_goto (tgt := 57) hO dX4_lays_2_84 (by decide) ?_
      exact zg_sub [1, 2, 3, 4, 0] rfl (ih _ _ _ _ _ h)
set_option maxHeartbeats 4000000 in
theorem w_M_lays_2_26 (hO : Ok p s m args meth c cX4_lays_2 RX4 6 D dA (AG G s.heap.size)) (hr : meth.sig.returnType = none) {ρ : MS} : ∀ (n : Nat) (x1 : Int32) (x2 : Int32) (x3 : Int32) (x4 : Int32) (x5 : Int32) (σ : MS), M_lays_2_26 n x1 x2 x3 x4 x5 σ = some ρ → Go p l e (rmG 5 0 0) s m args below meth c D (AG G s.heap.size) 6 (MQ below ((QfV D dA (WM dA G ρ)) (AG G s.heap.size)) args s 0 0 (AG G s.heap.size)) (WM dA G σ) 0 0 26 [(0, .ref (G 0)), (1, .int x1), (2, .int x2), (3, .int x3), (4, .int x4), (5, .int x5)] [] := by
  intro n
  induction n with
  | zero =>
    intro x1 x2 x3 x4 x5 σ h
    rw [M_lays_2_26] at h
    cases h
  | succ n ih =>
    intro x1 x2 x3 x4 x5 σ h
    rw [M_lays_2_26] at h
    refine zg_iload hO 5 dX4_lays_2_26 rfl ?_
    refine zg_if_lt (tgt := 53) hO h dX4_lays_2_28 (by decide) (fun h => ?_) (fun h => ?_)
    · refine zg_iload hO 4 dX4_lays_2_53 rfl ?_
      refine zg_istore (lv' := [(5, .int x4), (0, .ref (G 0)), (1, .int x1), (2, .int x2), (3, .int x3), (4, .int x4)]) hO dX4_lays_2_55 (Nat.le_of_ble_eq_true rfl) rfl ?_
      exact zg_sub [1, 2, 3, 4, 0] rfl (w_M_lays_2_57 hO hr _ _ _ _ _ _ h)
    · refine zg_aload_n hO 0 dX4_lays_2_31 rfl rfl ?_
      refine zg_iconst hO dX4_lays_2_32 ic2 ?_
      refine zg_iload_n hO 1 dX4_lays_2_33 rfl rfl ?_
      refine zg_imul hO dX4_lays_2_34 ?_
      refine zg_aload_n hO 0 dX4_lays_2_35 rfl rfl ?_
      refine mG_81 hO dX4_lays_2_36 ?_
      refine zg_iload_n hO 2 dX4_lays_2_39 rfl rfl ?_
      refine zg_iload hO 5 dX4_lays_2_40 rfl ?_
      refine zg_iadd hO dX4_lays_2_42 ?_
      refine mL_14 hO h dX4_lays_2_43 (fun h => ?_)
      refine zm_callVv (As := [.int ((nI 2) * x1), .int (gA σ 8 (x2 + x5).toNatClampNeg)]) (rest := []) hO h (fun q hq => m_makes l D dA G hq) mw_X4_makes q1915 ⟨Nat.le_of_ble_eq_true rfl, Nat.le_of_ble_eq_true rfl⟩ rfl rfl (Nat.le_of_ble_eq_true rfl) dX4_lays_2_44 (fun q1 h => ?_)
      refine zg_iinc (k := 5) (lv' := [(5, .int (x5 + (-1 : Int32))), (0, .ref (G 0)), (1, .int x1), (2, .int x2), (3, .int x3), (4, .int x4)]) hO dX4_lays_2_47 rfl (zii icm1) (Nat.le_of_ble_eq_true rfl) rfl ?_
      refine zg_goto (tgt := 26) hO dX4_lays_2_50 (by decide) ?_
      exact zg_sub [1, 2, 3, 4, 5, 0] rfl (ih _ _ _ _ _ _ h)
theorem mw_X4_lays_2 : MwV yX4_lays_2 cX4_lays_2 6 none RX4 4 := ⟨by decide +kernel, q1913, qs59, q106, q1914⟩
set_option maxHeartbeats 4000000 in
theorem m_lays_2 (l : Launch) (D : va_G) (dA : Nat → ClassId) (G : Nat → Nat) {x1 : Int32} {x2 : Int32} {x3 : Int32} {x4 : Int32} {σ : MS} {ρ : MS} (h : M_lays_2 x1 x2 x3 x4 σ = some ρ) : Ct l yX4_lays_2 (ws_ yX4_lays_2 cX4_lays_2 6 none) 5 0 0 D dA [.ref (G 0), .int x1, .int x2, .int x3, .int x4] (WM dA G σ) (AG G) (QfV D dA (WM dA G ρ)) := by
  refine zc_start (cc := cX4_lays_2) (nL := 6) (ret := none) (own := RX4) (by decide) rfl rfl (Nat.le_of_ble_eq_true rfl) wm_A (fun p e s m args below meth c hO hr _ _ => ?_)
  unfold M_lays_2 at h
  refine zg_sub (lv' := [(0, .ref (G 0)), (1, .int x1), (2, .int x2), (3, .int x3), (4, .int x4)]) [0, 1, 2, 3, 4] rfl ?_
  refine zg_aload_n hO 0 dX4_lays_2_0 rfl rfl ?_
  refine mG_66 hO dX4_lays_2_1 ?_
  refine zg_iconst hO dX4_lays_2_4 ic2 ?_
  refine zg_iload_n hO 1 dX4_lays_2_5 rfl rfl ?_
  refine zg_imul hO dX4_lays_2_6 ?_
  refine zg_iconst hO dX4_lays_2_7 ic0 ?_
  refine mS_9 hO h dX4_lays_2_8 (fun h => ?_)
  refine zg_aload_n hO 0 dX4_lays_2_9 rfl rfl ?_
  refine mG_66 hO dX4_lays_2_10 ?_
  refine zg_iconst hO dX4_lays_2_13 ic2 ?_
  refine zg_iload_n hO 1 dX4_lays_2_14 rfl rfl ?_
  refine zg_imul hO dX4_lays_2_15 ?_
  refine zg_iconst hO dX4_lays_2_16 ic1 ?_
  refine zg_iadd hO dX4_lays_2_17 ?_
  refine zg_iconst hO dX4_lays_2_18 ic0 ?_
  refine mS_9 hO h dX4_lays_2_19 (fun h => ?_)
  refine zg_iload hO 4 dX4_lays_2_20 rfl ?_
  refine zg_iconst hO dX4_lays_2_22 ic1 ?_
  refine zg_isub hO dX4_lays_2_23 ?_
  refine zg_istore (lv' := [(5, .int (x4 - (nI 1))), (0, .ref (G 0)), (1, .int x1), (2, .int x2), (3, .int x3), (4, .int x4)]) hO dX4_lays_2_24 (Nat.le_of_ble_eq_true rfl) rfl ?_
  exact zg_sub [1, 2, 3, 4, 5, 0] rfl (w_M_lays_2_26 hO hr _ _ _ _ _ _ _ h)
set_option maxHeartbeats 4000000 in
theorem w_M_laysAll_2 (hO : Ok p s m args meth c cX4_laysAll RX4 4 D dA (AG G s.heap.size)) (hr : meth.sig.returnType = none) {ρ : MS} : ∀ (n : Nat) (x1 : Int32) (σ : MS), M_laysAll_2 n x1 σ = some ρ → Go p l e (rmG 6 0 0) s m args below meth c D (AG G s.heap.size) 4 (MQ below ((QfV D dA (WM dA G ρ)) (AG G s.heap.size)) args s 0 0 (AG G s.heap.size)) (WM dA G σ) 0 0 2 [(0, .ref (G 0)), (1, .int x1)] [] := by
  intro n
  induction n with
  | zero =>
    intro x1 σ h
    rw [M_laysAll_2] at h
    cases h
  | succ n ih =>
    intro x1 σ h
    rw [M_laysAll_2] at h
    refine zg_iload_n hO 1 dX4_laysAll_2 rfl rfl ?_
    refine zg_iconst hO dX4_laysAll_3 ic4 ?_
    refine zg_icmp_ge (tgt := 36) hO h dX4_laysAll_4 (by decide) (fun h => ?_) (fun h => ?_)
    · exact zm_vret hO hr h dX4_laysAll_36
    · refine zg_aload_n hO 0 dX4_laysAll_7 rfl rfl ?_
      refine mG_66 hO dX4_laysAll_8 ?_
      refine zg_iconst hO dX4_laysAll_11 ic2 ?_
      refine zg_iload_n hO 1 dX4_laysAll_12 rfl rfl ?_
      refine zg_imul hO dX4_laysAll_13 ?_
      refine mL_9 hO h dX4_laysAll_14 (fun h => ?_)
      refine zg_istore_n (lv' := [(2, .int (gA σ 5 ((nI 2) * x1).toNatClampNeg)), (0, .ref (G 0)), (1, .int x1)]) hO dX4_laysAll_15 rfl (Nat.le_of_ble_eq_true rfl) rfl ?_
      refine zg_aload_n hO 1 dX4_laysAll_16 rfl rfl ?_
      refine zg_iload_n hO 2 dX4_laysAll_17 rfl rfl ?_
      refine zm_callVi (As := [.int x1]) (rest := []) hO h (fun q hq => m_takesItems l D dA G hq) mw_X4_takesItems q1892 ⟨Nat.le_of_ble_eq_true rfl, Nat.le_of_ble_eq_true rfl⟩ rfl rfl (Nat.le_of_ble_eq_true rfl) dX4_laysAll_18 (fun q1 h => ?_)
      refine zg_istore_n (lv' := [(3, .int q1.1), (2, .int (gA σ 5 ((nI 2) * x1).toNatClampNeg)), (0, .ref (G 0)), (1, .int x1)]) hO dX4_laysAll_21 rfl (Nat.le_of_ble_eq_true rfl) rfl ?_
      refine zg_aload_n hO 2 dX4_laysAll_22 rfl rfl ?_
      refine zg_iload_n hO 3 dX4_laysAll_23 rfl rfl ?_
      refine zg_iconst hO dX4_laysAll_24 ic0 ?_
      refine zg_iload_n hO 0 dX4_laysAll_25 rfl rfl ?_
      refine zg_iload_n hO 1 dX4_laysAll_26 rfl rfl ?_
      refine zm_callVv (As := [.int x1, .int (nI 0), .int q1.1, .int (gA σ 5 ((nI 2) * x1).toNatClampNeg)]) (rest := []) hO h (fun q hq => m_lays_2 l D dA G hq) mw_X4_lays_2 q1911 ⟨Nat.le_of_ble_eq_true rfl, Nat.le_of_ble_eq_true rfl⟩ rfl rfl (Nat.le_of_ble_eq_true rfl) dX4_laysAll_27 (fun q2 h => ?_)
      refine zg_iinc (k := 3) (lv' := [(1, .int (x1 + (nI 1))), (3, .int q1.1), (2, .int (gA σ 5 ((nI 2) * x1).toNatClampNeg)), (0, .ref (G 0))]) hO dX4_laysAll_30 rfl (zii ic1) (Nat.le_of_ble_eq_true rfl) rfl ?_
      refine zg_goto (tgt := 2) hO dX4_laysAll_33 (by decide) ?_
      exact zg_sub [3, 0] rfl (ih _ _ h)
theorem mw_X4_laysAll : MwV yX4_laysAll cX4_laysAll 4 none RX4 0 := ⟨by decide +kernel, q1890, qs54, q106, q1891⟩
set_option maxHeartbeats 4000000 in
theorem m_laysAll (l : Launch) (D : va_G) (dA : Nat → ClassId) (G : Nat → Nat) {σ : MS} {ρ : MS} (h : M_laysAll σ = some ρ) : Ct l yX4_laysAll (ws_ yX4_laysAll cX4_laysAll 4 none) 6 0 0 D dA [.ref (G 0)] (WM dA G σ) (AG G) (QfV D dA (WM dA G ρ)) := by
  refine zc_start (cc := cX4_laysAll) (nL := 4) (ret := none) (own := RX4) (by decide) rfl rfl (Nat.le_of_ble_eq_true rfl) wm_A (fun p e s m args below meth c hO hr _ _ => ?_)
  unfold M_laysAll at h
  refine zg_sub (lv' := [(0, .ref (G 0))]) [0] rfl ?_
  refine zg_iconst hO dX4_laysAll_0 ic0 ?_
  refine zg_istore_n (lv' := [(1, .int (nI 0)), (0, .ref (G 0))]) hO dX4_laysAll_1 rfl (Nat.le_of_ble_eq_true rfl) rfl ?_
  exact zg_sub [1, 0] rfl (w_M_laysAll_2 hO hr _ _ _ h)
theorem mw_X4_rule : MwV yX4_rule cX4_rule 3 (some .int) RX4 1 := ⟨by decide +kernel, q1884, q1885, q106, q1886⟩
set_option maxHeartbeats 4000000 in
theorem m_rule (l : Launch) (D : va_G) (dA : Nat → ClassId) (G : Nat → Nat) {x1 : Int32} {σ : MS} {ρ : Int32 × MS} (h : M_rule x1 σ = some ρ) : Ct l yX4_rule (ws_ yX4_rule cX4_rule 3 (some .int)) 7 0 0 D dA [.ref (G 0), .int x1] (WM dA G σ) (AG G) (QfI D dA (WM dA G ρ.2) ρ.1) := by
  refine zc_start (cc := cX4_rule) (nL := 3) (ret := (some .int)) (own := RX4) (by decide) rfl rfl (Nat.le_of_ble_eq_true rfl) wm_A (fun p e s m args below meth c hO hr _ _ => ?_)
  unfold M_rule at h
  refine zg_sub (lv' := [(0, .ref (G 0)), (1, .int x1)]) [0, 1] rfl ?_
  refine zg_aload_n hO 0 dX4_rule_0 rfl rfl ?_
  refine zg_iconst hO dX4_rule_1 ic0 ?_
  refine mP_1 hO dX4_rule_2 ?_
  refine zg_iload_n hO 1 dX4_rule_5 rfl rfl ?_
  refine zg_i2l hO dX4_rule_6 ?_
  refine zg_lconst hO dX4_rule_7 lc0 ?_
  refine zg_ldc2 (x := 7) hO q1887 dX4_rule_8 ?_
  refine zs_calli (As := [.long (x1.toInt64), .long (lN 0), .long (7 : Int64)]) (rest := []) hO h (fun q hq => m_in l D dA hq) mw_X4_in q1702 ⟨Nat.le_of_ble_eq_true rfl, Nat.le_of_ble_eq_true rfl⟩ ⟨Nat.le_refl _, Nat.le_refl _⟩ rfl rfl (Nat.le_of_ble_eq_true rfl) dX4_rule_11 (fun q1 h => ?_)
  refine zg_if_ne (tgt := 19) hO h dX4_rule_14 (by decide) (fun h => ?_) (fun h => ?_)
  · refine zg_aload_n hO 0 dX4_rule_19 rfl rfl ?_
    refine mG_93 hO dX4_rule_20 ?_
    refine zg_iload_n hO 1 dX4_rule_23 rfl rfl ?_
    refine zg_icmp_ne (tgt := 30) hO h dX4_rule_24 (by decide) (fun h => ?_) (fun h => ?_)
    · refine zg_aload_n hO 0 dX4_rule_30 rfl rfl ?_
      refine mG_93 hO dX4_rule_31 ?_
      refine zg_istore_n (lv' := [(2, .int (gI (sI σ 0 (nI 0)) 5)), (0, .ref (G 0)), (1, .int x1)]) hO dX4_rule_34 rfl (Nat.le_of_ble_eq_true rfl) rfl ?_
      refine zg_aload_n hO 1 dX4_rule_35 rfl rfl ?_
      refine zg_iload_n hO 2 dX4_rule_36 rfl rfl ?_
      refine mP_93 hO dX4_rule_37 ?_
      refine zg_aload_n hO 1 dX4_rule_40 rfl rfl ?_
      refine zm_callVv (As := []) (rest := []) hO h (fun q hq => m_laysAll l D dA G hq) mw_X4_laysAll q1888 ⟨Nat.le_of_ble_eq_true rfl, Nat.le_of_ble_eq_true rfl⟩ rfl rfl (Nat.le_of_ble_eq_true rfl) dX4_rule_41 (fun q2 h => ?_)
      refine zg_iload_n hO 0 dX4_rule_44 rfl rfl ?_
      exact zm_iret hO hr h dX4_rule_45
    · refine zg_bipush hO dX4_rule_27 bcm2 ?_
      exact zm_iret hO hr h dX4_rule_29
  · refine zg_iconst hO dX4_rule_17 icm1 ?_
    exact zm_iret hO hr h dX4_rule_18
theorem mw_X4_reads : MwV yX4_reads cX4_reads 1 none RX4 0 := ⟨by decide +kernel, q1925, qs61, q106, q1926⟩
set_option maxHeartbeats 4000000 in
theorem m_reads (l : Launch) (D : va_G) (dA : Nat → ClassId) (G : Nat → Nat) {σ : MS} {ρ : MS} (h : M_reads σ = some ρ) : Ct l yX4_reads (ws_ yX4_reads cX4_reads 1 none) 0 0 0 D dA [.ref (G 0)] (WM dA G σ) (AG G) (QfV D dA (WM dA G ρ)) := by
  refine zc_start (cc := cX4_reads) (nL := 1) (ret := none) (own := RX4) (by decide) rfl rfl (Nat.le_of_ble_eq_true rfl) wm_A (fun p e s m args below meth c hO hr _ _ => ?_)
  unfold M_reads at h
  refine zg_sub (lv' := [(0, .ref (G 0))]) [0] rfl ?_
  refine zg_aload_n hO 0 dX4_reads_0 rfl rfl ?_
  refine zg_aload_n hO 0 dX4_reads_1 rfl rfl ?_
  refine mG_14 hO dX4_reads_2 ?_
  refine mP_25 hO dX4_reads_5 ?_
  refine zg_aload_n hO 0 dX4_reads_8 rfl rfl ?_
  refine zg_iconst hO dX4_reads_9 ic0 ?_
  refine mP_14 hO dX4_reads_10 ?_
  refine zg_aload_n hO 0 dX4_reads_13 rfl rfl ?_
  refine zg_iconst hO dX4_reads_14 ic0 ?_
  refine mP_28 hO dX4_reads_15 ?_
  exact zm_vret hO hr h dX4_reads_18
set_option maxHeartbeats 4000000 in
theorem w_M_takesSign_29 (hO : Ok p s m args meth c cX4_takesSign RX4 3 D dA (AG G s.heap.size)) (hr : meth.sig.returnType = (some .boolean)) {ρ : Int32 × MS} : ∀ (y0 : Int32) (σ : MS), M_takesSign_29 y0 σ = some ρ → Go p l e (rmG 1 0 0) s m args below meth c D (AG G s.heap.size) 3 (MQ below ((QfI D dA (WM dA G ρ.2) ρ.1) (AG G s.heap.size)) args s 0 0 (AG G s.heap.size)) (WM dA G σ) 0 0 29 [(0, .ref (G 0))] [.int y0] := by
  intro y0 σ h
  unfold M_takesSign_29 at h
  refine zg_istore_n (lv' := [(2, .int y0), (0, .ref (G 0))]) hO dX4_takesSign_29 rfl (Nat.le_of_ble_eq_true rfl) rfl ?_
  refine zg_aload_n hO 1 dX4_takesSign_30 rfl rfl ?_
  refine zg_dup hO dX4_takesSign_31 rfl ?_
  refine mG_28 hO dX4_takesSign_32 ?_
  refine zg_iload_n hO 0 dX4_takesSign_35 rfl rfl ?_
  refine zs_calli (As := [.int y0]) (rest := [.int (gI σ 3), .ref (G 0)]) hO h (fun q hq => m_flag l D dA hq) mw_X4_flag q1835 ⟨Nat.le_of_ble_eq_true rfl, Nat.le_of_ble_eq_true rfl⟩ ⟨Nat.le_refl _, Nat.le_refl _⟩ rfl rfl (Nat.le_of_ble_eq_true rfl) dX4_takesSign_36 (fun q1 h => ?_)
  refine zg_iadd hO dX4_takesSign_39 ?_
  refine mP_28 hO dX4_takesSign_40 ?_
  refine zg_iload_n hO 0 dX4_takesSign_43 rfl rfl ?_
  exact zm_zret hO hr (zg_some h).1 (zg_some h).2 dX4_takesSign_44
set_option maxHeartbeats 4000000 in
theorem w_M_takesSign_28 (hO : Ok p s m args meth c cX4_takesSign RX4 3 D dA (AG G s.heap.size)) (hr : meth.sig.returnType = (some .boolean)) {ρ : Int32 × MS} : ∀ (σ : MS), M_takesSign_28 σ = some ρ → Go p l e (rmG 1 0 0) s m args below meth c D (AG G s.heap.size) 3 (MQ below ((QfI D dA (WM dA G ρ.2) ρ.1) (AG G s.heap.size)) args s 0 0 (AG G s.heap.size)) (WM dA G σ) 0 0 28 [(0, .ref (G 0))] [] := by
  intro σ h
  unfold M_takesSign_28 at h
  refine zg_iconst hO dX4_takesSign_28 ic0 ?_
  exact zg_sub [0] rfl (w_M_takesSign_29 hO hr _ _ h)
theorem mw_X4_takesSign : MwV yX4_takesSign cX4_takesSign 3 (some .boolean) RX4 1 := ⟨by decide +kernel, q1935, qs63, q106, q1936⟩
set_option maxHeartbeats 4000000 in
theorem m_takesSign (l : Launch) (D : va_G) (dA : Nat → ClassId) (G : Nat → Nat) {x1 : Int32} {σ : MS} {ρ : Int32 × MS} (h : M_takesSign x1 σ = some ρ) : Ct l yX4_takesSign (ws_ yX4_takesSign cX4_takesSign 3 (some .boolean)) 1 0 0 D dA [.ref (G 0), .int x1] (WM dA G σ) (AG G) (QfI D dA (WM dA G ρ.2) ρ.1) := by
  refine zc_start (cc := cX4_takesSign) (nL := 3) (ret := (some .boolean)) (own := RX4) (by decide) rfl rfl (Nat.le_of_ble_eq_true rfl) wm_A (fun p e s m args below meth c hO hr _ _ => ?_)
  unfold M_takesSign at h
  refine zg_sub (lv' := [(0, .ref (G 0)), (1, .int x1)]) [0, 1] rfl ?_
  refine zg_aload_n hO 0 dX4_takesSign_0 rfl rfl ?_
  refine mG_28 hO dX4_takesSign_1 ?_
  refine zg_aload_n hO 0 dX4_takesSign_4 rfl rfl ?_
  refine mG_25 hO dX4_takesSign_5 ?_
  refine zg_icmp_ge (tgt := 28) hO h dX4_takesSign_8 (by decide) (fun h => ?_) (fun h => ?_)
  · exact zg_sub [0] rfl (w_M_takesSign_28 hO hr _ h)
  · refine zg_aload_n hO 0 dX4_takesSign_11 rfl rfl ?_
    refine mG_17 hO dX4_takesSign_12 ?_
    refine zg_aload_n hO 0 dX4_takesSign_15 rfl rfl ?_
    refine mG_28 hO dX4_takesSign_16 ?_
    refine mL_2 hO h dX4_takesSign_19 (fun h => ?_)
    refine zg_iload_n hO 1 dX4_takesSign_20 rfl rfl ?_
    refine zg_icmp_ne (tgt := 28) hO h dX4_takesSign_21 (by decide) (fun h => ?_) (fun h => ?_)
    · exact zg_sub [0] rfl (w_M_takesSign_28 hO hr _ h)
    · refine zg_iconst hO dX4_takesSign_24 ic1 ?_
      refine zg_goto (tgt := 29) hO dX4_takesSign_25 (by decide) ?_
      exact zg_sub [0] rfl (w_M_takesSign_29 hO hr _ _ h)
theorem mw_X4_isDigit : MwV yX4_isDigit cX4_isDigit 1 (some .boolean) RX4 0 := ⟨by decide +kernel, q1939, qs64, q106, q1940⟩
set_option maxHeartbeats 4000000 in
theorem m_isDigit (l : Launch) (D : va_G) (dA : Nat → ClassId) (G : Nat → Nat) {σ : MS} {ρ : Int32 × MS} (h : M_isDigit σ = some ρ) : Ct l yX4_isDigit (ws_ yX4_isDigit cX4_isDigit 1 (some .boolean)) 1 0 0 D dA [.ref (G 0)] (WM dA G σ) (AG G) (QfI D dA (WM dA G ρ.2) ρ.1) := by
  refine zc_start (cc := cX4_isDigit) (nL := 1) (ret := (some .boolean)) (own := RX4) (by decide) rfl rfl (Nat.le_of_ble_eq_true rfl) wm_A (fun p e s m args below meth c hO hr _ _ => ?_)
  unfold M_isDigit at h
  refine zg_sub (lv' := [(0, .ref (G 0))]) [0] rfl ?_
  refine zg_aload_n hO 0 dX4_isDigit_0 rfl rfl ?_
  refine mG_28 hO dX4_isDigit_1 ?_
  refine zg_aload_n hO 0 dX4_isDigit_4 rfl rfl ?_
  refine mG_25 hO dX4_isDigit_5 ?_
  refine zg_icmp_ge (tgt := 37) hO h dX4_isDigit_8 (by decide) (fun h => ?_) (fun h => ?_)
  · refine zg_iconst hO dX4_isDigit_37 ic0 ?_
    exact zm_zret hO hr (Or.inl (by decide)) h dX4_isDigit_38
  · refine zg_aload_n hO 0 dX4_isDigit_11 rfl rfl ?_
    refine mG_17 hO dX4_isDigit_12 ?_
    refine zg_aload_n hO 0 dX4_isDigit_15 rfl rfl ?_
    refine mG_28 hO dX4_isDigit_16 ?_
    refine mL_2 hO h dX4_isDigit_19 (fun h => ?_)
    refine zg_i2l hO dX4_isDigit_20 ?_
    refine zg_ldc2 (x := 48) hO q1931 dX4_isDigit_21 ?_
    refine zg_ldc2 (x := 57) hO q1941 dX4_isDigit_24 ?_
    refine zs_calli (As := [.long ((gA σ 0 (gI σ 3).toNatClampNeg).toInt64), .long (48 : Int64), .long (57 : Int64)]) (rest := []) hO h (fun q hq => m_in l D dA hq) mw_X4_in q1702 ⟨Nat.le_of_ble_eq_true rfl, Nat.le_of_ble_eq_true rfl⟩ ⟨Nat.le_refl _, Nat.le_refl _⟩ rfl rfl (Nat.le_of_ble_eq_true rfl) dX4_isDigit_27 (fun q1 h => ?_)
    refine zg_if_eq (tgt := 37) hO h dX4_isDigit_30 (by decide) (fun h => ?_) (fun h => ?_)
    · refine zg_iconst hO dX4_isDigit_37 ic0 ?_
      exact zm_zret hO hr (Or.inl (by decide)) h dX4_isDigit_38
    · refine zg_iconst hO dX4_isDigit_33 ic1 ?_
      refine zg_goto (tgt := 38) hO dX4_isDigit_34 (by decide) ?_
      exact zm_zret hO hr (Or.inr (by decide)) h dX4_isDigit_38
set_option maxHeartbeats 4000000 in
theorem w_M_readsTable_95 (hO : Ok p s m args meth c cX4_readsTable RX4 3 D dA (AG G s.heap.size)) (hr : meth.sig.returnType = (some .boolean)) {ρ : Int32 × MS} {k70 : Int32 → MS → Option (Int32 × MS)} (K70 : ∀ (x1 : Int32) (σ : MS), k70 x1 σ = some ρ → Go p l e (rmG 2 0 0) s m args below meth c D (AG G s.heap.size) 3 (MQ below ((QfI D dA (WM dA G ρ.2) ρ.1) (AG G s.heap.size)) args s 0 0 (AG G s.heap.size)) (WM dA G σ) 0 0 70 [(0, .ref (G 0)), (1, .int x1)] []) : ∀ (n : Nat) (x1 : Int32) (x2 : Int32) (σ : MS), M_readsTable_95 k70 n x1 x2 σ = some ρ → Go p l e (rmG 2 0 0) s m args below meth c D (AG G s.heap.size) 3 (MQ below ((QfI D dA (WM dA G ρ.2) ρ.1) (AG G s.heap.size)) args s 0 0 (AG G s.heap.size)) (WM dA G σ) 0 0 95 [(0, .ref (G 0)), (1, .int x1), (2, .int x2)] [] := by
  intro n
  induction n with
  | zero =>
    intro x1 x2 σ h
    rw [M_readsTable_95] at h
    cases h
  | succ n ih =>
    intro x1 x2 σ h
    rw [M_readsTable_95] at h
    refine zg_iload_n hO 2 dX4_readsTable_95 rfl rfl ?_
    refine zg_aload_n hO 0 dX4_readsTable_96 rfl rfl ?_
    refine mG_210 hO dX4_readsTable_97 ?_
    refine zg_icmp_ge (tgt := 172) hO h dX4_readsTable_100 (by decide) (fun h => ?_) (fun h => ?_)
    · refine zg_iinc (k := 1) (lv' := [(1, .int (x1 + (nI 1))), (0, .ref (G 0)), (2, .int x2)]) hO dX4_readsTable_172 rfl (zii ic1) (Nat.le_of_ble_eq_true rfl) rfl ?_
      refine zg_goto (tgt := 70) hO dX4_readsTable_175 (by decide) ?_
      exact zg_sub [1, 0] rfl (K70 _ _ h)
    · refine zg_aload_n hO 0 dX4_readsTable_103 rfl rfl ?_
      refine zm_callVi (As := []) (rest := []) hO h (fun q hq => m_isDigit l D dA G hq) mw_X4_isDigit q1937 ⟨Nat.le_of_ble_eq_true rfl, Nat.le_of_ble_eq_true rfl⟩ rfl rfl (Nat.le_of_ble_eq_true rfl) dX4_readsTable_104 (fun q3 h => ?_)
      refine zg_if_eq (tgt := 129) hO h dX4_readsTable_107 (by decide) (fun h => ?_) (fun h => ?_)
      · refine zg_iconst hO dX4_readsTable_129 ic0 ?_
        exact zm_zret hO hr (Or.inl (by decide)) h dX4_readsTable_130
      · refine zg_aload_n hO 0 dX4_readsTable_110 rfl rfl ?_
        refine mG_17 hO dX4_readsTable_111 ?_
        refine zg_aload_n hO 0 dX4_readsTable_114 rfl rfl ?_
        refine mG_28 hO dX4_readsTable_115 ?_
        refine mL_2 hO h dX4_readsTable_118 (fun h => ?_)
        refine zg_bipush hO dX4_readsTable_119 bc48 ?_
        refine zg_isub hO dX4_readsTable_121 ?_
        refine zg_aload_n hO 0 dX4_readsTable_122 rfl rfl ?_
        refine mG_210 hO dX4_readsTable_123 ?_
        refine zg_icmp_lt (tgt := 131) hO h dX4_readsTable_126 (by decide) (fun h => ?_) (fun h => ?_)
        · refine zg_aload_n hO 0 dX4_readsTable_131 rfl rfl ?_
          refine mG_84 hO dX4_readsTable_132 ?_
          refine zg_aload_n hO 0 dX4_readsTable_135 rfl rfl ?_
          refine mG_210 hO dX4_readsTable_136 ?_
          refine zg_iload_n hO 1 dX4_readsTable_139 rfl rfl ?_
          refine zg_imul hO dX4_readsTable_140 ?_
          refine zg_iload_n hO 2 dX4_readsTable_141 rfl rfl ?_
          refine zg_iadd hO dX4_readsTable_142 ?_
          refine zg_aload_n hO 0 dX4_readsTable_143 rfl rfl ?_
          refine mG_17 hO dX4_readsTable_144 ?_
          refine zg_aload_n hO 0 dX4_readsTable_147 rfl rfl ?_
          refine mG_28 hO dX4_readsTable_148 ?_
          refine mL_2 hO h dX4_readsTable_151 (fun h => ?_)
          refine zg_bipush hO dX4_readsTable_152 bc48 ?_
          refine zg_isub hO dX4_readsTable_154 ?_
          refine mS_15 hO h dX4_readsTable_155 (fun h => ?_)
          refine zg_aload_n hO 0 dX4_readsTable_156 rfl rfl ?_
          refine zg_dup hO dX4_readsTable_157 rfl ?_
          refine mG_28 hO dX4_readsTable_158 ?_
          refine zg_iconst hO dX4_readsTable_161 ic1 ?_
          refine zg_iadd hO dX4_readsTable_162 ?_
          refine mP_28 hO dX4_readsTable_163 ?_
          refine zg_iinc (k := 2) (lv' := [(2, .int (x2 + (nI 1))), (0, .ref (G 0)), (1, .int x1)]) hO dX4_readsTable_166 rfl (zii ic1) (Nat.le_of_ble_eq_true rfl) rfl ?_
          refine zg_goto (tgt := 95) hO dX4_readsTable_169 (by decide) ?_
          exact zg_sub [1, 2, 0] rfl (ih _ _ _ h)
        · refine zg_iconst hO dX4_readsTable_129 ic0 ?_
          exact zm_zret hO hr (Or.inl (by decide)) h dX4_readsTable_130
set_option maxHeartbeats 4000000 in
theorem w_M_readsTable_93 (hO : Ok p s m args meth c cX4_readsTable RX4 3 D dA (AG G s.heap.size)) (hr : meth.sig.returnType = (some .boolean)) {ρ : Int32 × MS} {k70 : Int32 → MS → Option (Int32 × MS)} (K70 : ∀ (x1 : Int32) (σ : MS), k70 x1 σ = some ρ → Go p l e (rmG 2 0 0) s m args below meth c D (AG G s.heap.size) 3 (MQ below ((QfI D dA (WM dA G ρ.2) ρ.1) (AG G s.heap.size)) args s 0 0 (AG G s.heap.size)) (WM dA G σ) 0 0 70 [(0, .ref (G 0)), (1, .int x1)] []) : ∀ (x1 : Int32) (σ : MS), M_readsTable_93 k70 x1 σ = some ρ → Go p l e (rmG 2 0 0) s m args below meth c D (AG G s.heap.size) 3 (MQ below ((QfI D dA (WM dA G ρ.2) ρ.1) (AG G s.heap.size)) args s 0 0 (AG G s.heap.size)) (WM dA G σ) 0 0 93 [(0, .ref (G 0)), (1, .int x1)] [] := by
  intro x1 σ h
  unfold M_readsTable_93 at h
  refine zg_iconst hO dX4_readsTable_93 ic0 ?_
  refine zg_istore_n (lv' := [(2, .int (nI 0)), (0, .ref (G 0)), (1, .int x1)]) hO dX4_readsTable_94 rfl (Nat.le_of_ble_eq_true rfl) rfl ?_
  exact zg_sub [1, 2, 0] rfl (w_M_readsTable_95 hO hr K70 _ _ _ _ h)
set_option maxHeartbeats 4000000 in
theorem w_M_readsTable_70 (hO : Ok p s m args meth c cX4_readsTable RX4 3 D dA (AG G s.heap.size)) (hr : meth.sig.returnType = (some .boolean)) {ρ : Int32 × MS} : ∀ (n : Nat) (x1 : Int32) (σ : MS), M_readsTable_70 n x1 σ = some ρ → Go p l e (rmG 2 0 0) s m args below meth c D (AG G s.heap.size) 3 (MQ below ((QfI D dA (WM dA G ρ.2) ρ.1) (AG G s.heap.size)) args s 0 0 (AG G s.heap.size)) (WM dA G σ) 0 0 70 [(0, .ref (G 0)), (1, .int x1)] [] := by
  intro n
  induction n with
  | zero =>
    intro x1 σ h
    rw [M_readsTable_70] at h
    cases h
  | succ n ih =>
    intro x1 σ h
    rw [M_readsTable_70] at h
    refine zg_iload_n hO 1 dX4_readsTable_70 rfl rfl ?_
    refine zg_aload_n hO 0 dX4_readsTable_71 rfl rfl ?_
    refine mG_210 hO dX4_readsTable_72 ?_
    refine zg_icmp_ge (tgt := 178) hO h dX4_readsTable_75 (by decide) (fun h => ?_) (fun h => ?_)
    · refine zg_aload_n hO 0 dX4_readsTable_178 rfl rfl ?_
      refine mG_28 hO dX4_readsTable_179 ?_
      refine zg_aload_n hO 0 dX4_readsTable_182 rfl rfl ?_
      refine mG_25 hO dX4_readsTable_183 ?_
      refine zg_icmp_ne (tgt := 193) hO h dX4_readsTable_186 (by decide) (fun h => ?_) (fun h => ?_)
      · refine zg_iconst hO dX4_readsTable_193 ic0 ?_
        exact zm_zret hO hr (Or.inl (by decide)) h dX4_readsTable_194
      · refine zg_iconst hO dX4_readsTable_189 ic1 ?_
        refine zg_goto (tgt := 194) hO dX4_readsTable_190 (by decide) ?_
        exact zm_zret hO hr (Or.inr (by decide)) h dX4_readsTable_194
    · refine zg_iload_n hO 1 dX4_readsTable_78 rfl rfl ?_
      refine zg_if_le (tgt := 93) hO h dX4_readsTable_79 (by decide) (fun h => ?_) (fun h => ?_)
      · exact zg_sub [0, 1] rfl (w_M_readsTable_93 hO hr ih _ _ h)
      · refine zg_aload_n hO 0 dX4_readsTable_82 rfl rfl ?_
        refine zg_bipush hO dX4_readsTable_83 bc47 ?_
        refine zm_callVi (As := [.int (nI 47)]) (rest := []) hO h (fun q hq => m_takesSign l D dA G hq) mw_X4_takesSign q1933 ⟨Nat.le_of_ble_eq_true rfl, Nat.le_of_ble_eq_true rfl⟩ rfl rfl (Nat.le_of_ble_eq_true rfl) dX4_readsTable_85 (fun q2 h => ?_)
        refine zg_if_ne (tgt := 93) hO h dX4_readsTable_88 (by decide) (fun h => ?_) (fun h => ?_)
        · exact zg_sub [0, 1] rfl (w_M_readsTable_93 hO hr ih _ _ h)
        · refine zg_iconst hO dX4_readsTable_91 ic0 ?_
          exact zm_zret hO hr (Or.inl (by decide)) h dX4_readsTable_92
set_option maxHeartbeats 4000000 in
theorem w_M_readsTable_59 (hO : Ok p s m args meth c cX4_readsTable RX4 3 D dA (AG G s.heap.size)) (hr : meth.sig.returnType = (some .boolean)) {ρ : Int32 × MS} : ∀ (σ : MS), M_readsTable_59 σ = some ρ → Go p l e (rmG 2 0 0) s m args below meth c D (AG G s.heap.size) 3 (MQ below ((QfI D dA (WM dA G ρ.2) ρ.1) (AG G s.heap.size)) args s 0 0 (AG G s.heap.size)) (WM dA G σ) 0 0 59 [(0, .ref (G 0))] [] := by
  intro σ h
  unfold M_readsTable_59 at h
  refine zg_aload_n hO 0 dX4_readsTable_59 rfl rfl ?_
  refine mG_210 hO dX4_readsTable_60 ?_
  refine zg_if_ne (tgt := 68) hO h dX4_readsTable_63 (by decide) (fun h => ?_) (fun h => ?_)
  · refine zg_iconst hO dX4_readsTable_68 ic0 ?_
    refine zg_istore_n (lv' := [(1, .int (nI 0)), (0, .ref (G 0))]) hO dX4_readsTable_69 rfl (Nat.le_of_ble_eq_true rfl) rfl ?_
    exact zg_sub [1, 0] rfl (w_M_readsTable_70 hO hr _ _ _ h)
  · refine zg_iconst hO dX4_readsTable_66 ic0 ?_
    exact zm_zret hO hr (Or.inl (by decide)) h dX4_readsTable_67
set_option maxHeartbeats 4000000 in
theorem w_M_readsTable_5 (hO : Ok p s m args meth c cX4_readsTable RX4 3 D dA (AG G s.heap.size)) (hr : meth.sig.returnType = (some .boolean)) {ρ : Int32 × MS} : ∀ (n : Nat) (σ : MS), M_readsTable_5 n σ = some ρ → Go p l e (rmG 2 0 0) s m args below meth c D (AG G s.heap.size) 3 (MQ below ((QfI D dA (WM dA G ρ.2) ρ.1) (AG G s.heap.size)) args s 0 0 (AG G s.heap.size)) (WM dA G σ) 0 0 5 [(0, .ref (G 0))] [] := by
  intro n
  induction n with
  | zero =>
    intro σ h
    rw [M_readsTable_5] at h
    cases h
  | succ n ih =>
    intro σ h
    rw [M_readsTable_5] at h
    refine zg_aload_n hO 0 dX4_readsTable_5 rfl rfl ?_
    refine mG_210 hO dX4_readsTable_6 ?_
    refine zg_iconst hO dX4_readsTable_9 ic5 ?_
    refine zg_icmp_ge (tgt := 59) hO h dX4_readsTable_10 (by decide) (fun h => ?_) (fun h => ?_)
    · exact zg_sub [0] rfl (w_M_readsTable_59 hO hr _ h)
    · refine zg_aload_n hO 0 dX4_readsTable_13 rfl rfl ?_
      refine mG_210 hO dX4_readsTable_14 ?_
      refine zg_aload_n hO 0 dX4_readsTable_17 rfl rfl ?_
      refine mG_25 hO dX4_readsTable_18 ?_
      refine zg_icmp_ge (tgt := 59) hO h dX4_readsTable_21 (by decide) (fun h => ?_) (fun h => ?_)
      · exact zg_sub [0] rfl (w_M_readsTable_59 hO hr _ h)
      · refine zg_aload_n hO 0 dX4_readsTable_24 rfl rfl ?_
        refine mG_17 hO dX4_readsTable_25 ?_
        refine zg_aload_n hO 0 dX4_readsTable_28 rfl rfl ?_
        refine mG_210 hO dX4_readsTable_29 ?_
        refine mL_2 hO h dX4_readsTable_32 (fun h => ?_)
        refine zg_i2l hO dX4_readsTable_33 ?_
        refine zg_ldc2 (x := 48) hO q1931 dX4_readsTable_34 ?_
        refine zg_ldc2 (x := 52) hO q1932 dX4_readsTable_37 ?_
        refine zs_calli (As := [.long ((gA σ 0 (gI σ 10).toNatClampNeg).toInt64), .long (48 : Int64), .long (52 : Int64)]) (rest := []) hO h (fun q hq => m_in l D dA hq) mw_X4_in q1702 ⟨Nat.le_of_ble_eq_true rfl, Nat.le_of_ble_eq_true rfl⟩ ⟨Nat.le_refl _, Nat.le_refl _⟩ rfl rfl (Nat.le_of_ble_eq_true rfl) dX4_readsTable_40 (fun q1 h => ?_)
        refine zg_if_eq (tgt := 59) hO h dX4_readsTable_43 (by decide) (fun h => ?_) (fun h => ?_)
        · exact zg_sub [0] rfl (w_M_readsTable_59 hO hr _ h)
        · refine zg_aload_n hO 0 dX4_readsTable_46 rfl rfl ?_
          refine zg_dup hO dX4_readsTable_47 rfl ?_
          refine mG_210 hO dX4_readsTable_48 ?_
          refine zg_iconst hO dX4_readsTable_51 ic1 ?_
          refine zg_iadd hO dX4_readsTable_52 ?_
          refine mP_210 hO dX4_readsTable_53 ?_
          refine zg_goto (tgt := 5) hO dX4_readsTable_56 (by decide) ?_
          exact zg_sub [0] rfl (ih _ h)
theorem mw_X4_readsTable : MwV yX4_readsTable cX4_readsTable 3 (some .boolean) RX4 0 := ⟨by decide +kernel, q1929, qs62, q106, q1930⟩
set_option maxHeartbeats 4000000 in
theorem m_readsTable (l : Launch) (D : va_G) (dA : Nat → ClassId) (G : Nat → Nat) {σ : MS} {ρ : Int32 × MS} (h : M_readsTable σ = some ρ) : Ct l yX4_readsTable (ws_ yX4_readsTable cX4_readsTable 3 (some .boolean)) 2 0 0 D dA [.ref (G 0)] (WM dA G σ) (AG G) (QfI D dA (WM dA G ρ.2) ρ.1) := by
  refine zc_start (cc := cX4_readsTable) (nL := 3) (ret := (some .boolean)) (own := RX4) (by decide) rfl rfl (Nat.le_of_ble_eq_true rfl) wm_A (fun p e s m args below meth c hO hr _ _ => ?_)
  unfold M_readsTable at h
  refine zg_sub (lv' := [(0, .ref (G 0))]) [0] rfl ?_
  refine zg_aload_n hO 0 dX4_readsTable_0 rfl rfl ?_
  refine zg_iconst hO dX4_readsTable_1 ic0 ?_
  refine mP_210 hO dX4_readsTable_2 ?_
  exact zg_sub [0] rfl (w_M_readsTable_5 hO hr _ _ h)
theorem mw_X4_read : MwV yX4_read cX4_read 3 (some .int) RX4 2 := ⟨by decide +kernel, q1948, qs66, q106, q1949⟩
set_option maxHeartbeats 4000000 in
theorem m_read (l : Launch) (D : va_G) (dA : Nat → ClassId) (G : Nat → Nat) {x1 : Int32} {x2 : Int32} {σ : MS} {ρ : Int32 × MS} (h : M_read x1 x2 σ = some ρ) : Ct l yX4_read (ws_ yX4_read cX4_read 3 (some .int)) 0 0 0 D dA [.ref (G 0), .int x1, .int x2] (WM dA G σ) (AG G) (QfI D dA (WM dA G ρ.2) ρ.1) := by
  refine zc_start (cc := cX4_read) (nL := 3) (ret := (some .int)) (own := RX4) (by decide) rfl rfl (Nat.le_of_ble_eq_true rfl) wm_A (fun p e s m args below meth c hO hr _ _ => ?_)
  unfold M_read at h
  refine zg_sub (lv' := [(0, .ref (G 0)), (1, .int x1), (2, .int x2)]) [0, 1, 2] rfl ?_
  refine zg_aload_n hO 0 dX4_read_0 rfl rfl ?_
  refine mG_84 hO dX4_read_1 ?_
  refine zg_aload_n hO 0 dX4_read_4 rfl rfl ?_
  refine mG_210 hO dX4_read_5 ?_
  refine zg_iload_n hO 1 dX4_read_8 rfl rfl ?_
  refine zg_imul hO dX4_read_9 ?_
  refine zg_iload_n hO 2 dX4_read_10 rfl rfl ?_
  refine zg_iadd hO dX4_read_11 ?_
  refine mL_15 hO h dX4_read_12 (fun h => ?_)
  exact zm_iret hO hr h dX4_read_13
set_option maxHeartbeats 4000000 in
theorem w_M_hasUnlike_22 (hO : Ok p s m args meth c cX4_hasUnlike RX4 4 D dA (AG G s.heap.size)) (hr : meth.sig.returnType = (some .boolean)) {ρ : Int32 × MS} {k2 : Int32 → MS → Option (Int32 × MS)} {k12 : Int32 → Int32 → MS → Option (Int32 × MS)} (K2 : ∀ (x1 : Int32) (σ : MS), k2 x1 σ = some ρ → Go p l e (rmG 1 0 0) s m args below meth c D (AG G s.heap.size) 4 (MQ below ((QfI D dA (WM dA G ρ.2) ρ.1) (AG G s.heap.size)) args s 0 0 (AG G s.heap.size)) (WM dA G σ) 0 0 2 [(0, .ref (G 0)), (1, .int x1)] []) (K12 : ∀ (x1 : Int32) (x2 : Int32) (σ : MS), k12 x1 x2 σ = some ρ → Go p l e (rmG 1 0 0) s m args below meth c D (AG G s.heap.size) 4 (MQ below ((QfI D dA (WM dA G ρ.2) ρ.1) (AG G s.heap.size)) args s 0 0 (AG G s.heap.size)) (WM dA G σ) 0 0 12 [(0, .ref (G 0)), (1, .int x1), (2, .int x2)] []) : ∀ (n : Nat) (x1 : Int32) (x2 : Int32) (x3 : Int32) (σ : MS), M_hasUnlike_22 k2 k12 n x1 x2 x3 σ = some ρ → Go p l e (rmG 1 0 0) s m args below meth c D (AG G s.heap.size) 4 (MQ below ((QfI D dA (WM dA G ρ.2) ρ.1) (AG G s.heap.size)) args s 0 0 (AG G s.heap.size)) (WM dA G σ) 0 0 22 [(0, .ref (G 0)), (1, .int x1), (2, .int x2), (3, .int x3)] [] := by
  intro n
  induction n with
  | zero =>
    intro x1 x2 x3 σ h
    rw [M_hasUnlike_22] at h
    cases h
  | succ n ih =>
    intro x1 x2 x3 σ h
    rw [M_hasUnlike_22] at h
    refine zg_iload_n hO 3 dX4_hasUnlike_22 rfl rfl ?_
    refine zg_aload_n hO 0 dX4_hasUnlike_23 rfl rfl ?_
    refine mG_210 hO dX4_hasUnlike_24 ?_
    refine zg_icmp_ge (tgt := 86) hO h dX4_hasUnlike_27 (by decide) (fun h => ?_) (fun h => ?_)
    · refine zg_iinc (k := 2) (lv' := [(2, .int (x2 + (nI 1))), (0, .ref (G 0)), (1, .int x1), (3, .int x3)]) hO dX4_hasUnlike_86 rfl (zii ic1) (Nat.le_of_ble_eq_true rfl) rfl ?_
      refine zg_goto (tgt := 12) hO dX4_hasUnlike_89 (by decide) ?_
      exact zg_sub [1, 2, 0] rfl (K12 _ _ _ h)
    · refine zg_aload_n hO 0 dX4_hasUnlike_30 rfl rfl ?_
      refine zg_aload_n hO 0 dX4_hasUnlike_31 rfl rfl ?_
      refine zg_iload_n hO 1 dX4_hasUnlike_32 rfl rfl ?_
      refine zg_iload_n hO 2 dX4_hasUnlike_33 rfl rfl ?_
      refine zm_callVi (As := [.int x1, .int x2]) (rest := [.ref (G 0)]) hO h (fun q hq => m_read l D dA G hq) mw_X4_read q1946 ⟨Nat.le_of_ble_eq_true rfl, Nat.le_of_ble_eq_true rfl⟩ rfl rfl (Nat.le_of_ble_eq_true rfl) dX4_hasUnlike_34 (fun q1 h => ?_)
      refine zg_iload_n hO 3 dX4_hasUnlike_37 rfl rfl ?_
      refine zm_callVi (As := [.int q1.1, .int x3]) (rest := []) hO h (fun q hq => m_read l D dA G hq) mw_X4_read q1946 ⟨Nat.le_of_ble_eq_true rfl, Nat.le_of_ble_eq_true rfl⟩ rfl rfl (Nat.le_of_ble_eq_true rfl) dX4_hasUnlike_38 (fun q2 h => ?_)
      refine zg_aload_n hO 0 dX4_hasUnlike_41 rfl rfl ?_
      refine zg_iload_n hO 1 dX4_hasUnlike_42 rfl rfl ?_
      refine zg_aload_n hO 0 dX4_hasUnlike_43 rfl rfl ?_
      refine zg_iload_n hO 2 dX4_hasUnlike_44 rfl rfl ?_
      refine zg_iload_n hO 3 dX4_hasUnlike_45 rfl rfl ?_
      refine zm_callVi (As := [.int x2, .int x3]) (rest := [.int x1, .ref (G 0), .int q2.1]) hO h (fun q hq => m_read l D dA G hq) mw_X4_read q1946 ⟨Nat.le_of_ble_eq_true rfl, Nat.le_of_ble_eq_true rfl⟩ rfl rfl (Nat.le_of_ble_eq_true rfl) dX4_hasUnlike_46 (fun q3 h => ?_)
      refine zm_callVi (As := [.int x1, .int q3.1]) (rest := [.int q2.1]) hO h (fun q hq => m_read l D dA G hq) mw_X4_read q1946 ⟨Nat.le_of_ble_eq_true rfl, Nat.le_of_ble_eq_true rfl⟩ rfl rfl (Nat.le_of_ble_eq_true rfl) dX4_hasUnlike_49 (fun q4 h => ?_)
      refine zg_icmp_eq (tgt := 80) hO h dX4_hasUnlike_52 (by decide) (fun h => ?_) (fun h => ?_)
      · refine zg_iinc (k := 3) (lv' := [(3, .int (x3 + (nI 1))), (0, .ref (G 0)), (1, .int x1), (2, .int x2)]) hO dX4_hasUnlike_80 rfl (zii ic1) (Nat.le_of_ble_eq_true rfl) rfl ?_
        refine zg_goto (tgt := 22) hO dX4_hasUnlike_83 (by decide) ?_
        exact zg_sub [1, 2, 3, 0] rfl (ih _ _ _ _ h)
      · refine zg_aload_n hO 0 dX4_hasUnlike_55 rfl rfl ?_
        refine zg_iconst hO dX4_hasUnlike_56 ic0 ?_
        refine mP_11 hO dX4_hasUnlike_57 ?_
        refine zg_aload_n hO 0 dX4_hasUnlike_60 rfl rfl ?_
        refine zg_iload_n hO 1 dX4_hasUnlike_61 rfl rfl ?_
        refine zg_i2l hO dX4_hasUnlike_62 ?_
        refine zm_callVv (As := [.long (x1.toInt64)]) (rest := []) hO h (fun q hq => m_enters l D dA G hq) mw_X4_enters q1856 ⟨Nat.le_of_ble_eq_true rfl, Nat.le_of_ble_eq_true rfl⟩ rfl rfl (Nat.le_of_ble_eq_true rfl) dX4_hasUnlike_63 (fun q5 h => ?_)
        refine zg_aload_n hO 0 dX4_hasUnlike_66 rfl rfl ?_
        refine zg_iload_n hO 2 dX4_hasUnlike_67 rfl rfl ?_
        refine zg_i2l hO dX4_hasUnlike_68 ?_
        refine zm_callVv (As := [.long (x2.toInt64)]) (rest := []) hO h (fun q hq => m_enters l D dA G hq) mw_X4_enters q1856 ⟨Nat.le_of_ble_eq_true rfl, Nat.le_of_ble_eq_true rfl⟩ rfl rfl (Nat.le_of_ble_eq_true rfl) dX4_hasUnlike_69 (fun q6 h => ?_)
        refine zg_aload_n hO 0 dX4_hasUnlike_72 rfl rfl ?_
        refine zg_iload_n hO 3 dX4_hasUnlike_73 rfl rfl ?_
        refine zg_i2l hO dX4_hasUnlike_74 ?_
        refine zm_callVv (As := [.long (x3.toInt64)]) (rest := []) hO h (fun q hq => m_enters l D dA G hq) mw_X4_enters q1856 ⟨Nat.le_of_ble_eq_true rfl, Nat.le_of_ble_eq_true rfl⟩ rfl rfl (Nat.le_of_ble_eq_true rfl) dX4_hasUnlike_75 (fun q7 h => ?_)
        refine zg_iconst hO dX4_hasUnlike_78 ic1 ?_
        exact zm_zret hO hr (Or.inr (by decide)) h dX4_hasUnlike_79
set_option maxHeartbeats 4000000 in
theorem w_M_hasUnlike_12 (hO : Ok p s m args meth c cX4_hasUnlike RX4 4 D dA (AG G s.heap.size)) (hr : meth.sig.returnType = (some .boolean)) {ρ : Int32 × MS} {k2 : Int32 → MS → Option (Int32 × MS)} (K2 : ∀ (x1 : Int32) (σ : MS), k2 x1 σ = some ρ → Go p l e (rmG 1 0 0) s m args below meth c D (AG G s.heap.size) 4 (MQ below ((QfI D dA (WM dA G ρ.2) ρ.1) (AG G s.heap.size)) args s 0 0 (AG G s.heap.size)) (WM dA G σ) 0 0 2 [(0, .ref (G 0)), (1, .int x1)] []) : ∀ (n : Nat) (x1 : Int32) (x2 : Int32) (σ : MS), M_hasUnlike_12 k2 n x1 x2 σ = some ρ → Go p l e (rmG 1 0 0) s m args below meth c D (AG G s.heap.size) 4 (MQ below ((QfI D dA (WM dA G ρ.2) ρ.1) (AG G s.heap.size)) args s 0 0 (AG G s.heap.size)) (WM dA G σ) 0 0 12 [(0, .ref (G 0)), (1, .int x1), (2, .int x2)] [] := by
  intro n
  induction n with
  | zero =>
    intro x1 x2 σ h
    rw [M_hasUnlike_12] at h
    cases h
  | succ n ih =>
    intro x1 x2 σ h
    rw [M_hasUnlike_12] at h
    refine zg_iload_n hO 2 dX4_hasUnlike_12 rfl rfl ?_
    refine zg_aload_n hO 0 dX4_hasUnlike_13 rfl rfl ?_
    refine mG_210 hO dX4_hasUnlike_14 ?_
    refine zg_icmp_ge (tgt := 92) hO h dX4_hasUnlike_17 (by decide) (fun h => ?_) (fun h => ?_)
    · refine zg_iinc (k := 1) (lv' := [(1, .int (x1 + (nI 1))), (0, .ref (G 0)), (2, .int x2)]) hO dX4_hasUnlike_92 rfl (zii ic1) (Nat.le_of_ble_eq_true rfl) rfl ?_
      refine zg_goto (tgt := 2) hO dX4_hasUnlike_95 (by decide) ?_
      exact zg_sub [1, 0] rfl (K2 _ _ h)
    · refine zg_iconst hO dX4_hasUnlike_20 ic0 ?_
      refine zg_istore_n (lv' := [(3, .int (nI 0)), (0, .ref (G 0)), (1, .int x1), (2, .int x2)]) hO dX4_hasUnlike_21 rfl (Nat.le_of_ble_eq_true rfl) rfl ?_
      exact zg_sub [1, 2, 3, 0] rfl (w_M_hasUnlike_22 hO hr K2 ih _ _ _ _ _ h)
set_option maxHeartbeats 4000000 in
theorem w_M_hasUnlike_2 (hO : Ok p s m args meth c cX4_hasUnlike RX4 4 D dA (AG G s.heap.size)) (hr : meth.sig.returnType = (some .boolean)) {ρ : Int32 × MS} : ∀ (n : Nat) (x1 : Int32) (σ : MS), M_hasUnlike_2 n x1 σ = some ρ → Go p l e (rmG 1 0 0) s m args below meth c D (AG G s.heap.size) 4 (MQ below ((QfI D dA (WM dA G ρ.2) ρ.1) (AG G s.heap.size)) args s 0 0 (AG G s.heap.size)) (WM dA G σ) 0 0 2 [(0, .ref (G 0)), (1, .int x1)] [] := by
  intro n
  induction n with
  | zero =>
    intro x1 σ h
    rw [M_hasUnlike_2] at h
    cases h
  | succ n ih =>
    intro x1 σ h
    rw [M_hasUnlike_2] at h
    refine zg_iload_n hO 1 dX4_hasUnlike_2 rfl rfl ?_
    refine zg_aload_n hO 0 dX4_hasUnlike_3 rfl rfl ?_
    refine mG_210 hO dX4_hasUnlike_4 ?_
    refine zg_icmp_ge (tgt := 98) hO h dX4_hasUnlike_7 (by decide) (fun h => ?_) (fun h => ?_)
    · refine zg_iconst hO dX4_hasUnlike_98 ic0 ?_
      exact zm_zret hO hr (Or.inl (by decide)) h dX4_hasUnlike_99
    · refine zg_iconst hO dX4_hasUnlike_10 ic0 ?_
      refine zg_istore_n (lv' := [(2, .int (nI 0)), (0, .ref (G 0)), (1, .int x1)]) hO dX4_hasUnlike_11 rfl (Nat.le_of_ble_eq_true rfl) rfl ?_
      exact zg_sub [1, 2, 0] rfl (w_M_hasUnlike_12 hO hr ih _ _ _ _ h)
theorem mw_X4_hasUnlike : MwV yX4_hasUnlike cX4_hasUnlike 4 (some .boolean) RX4 0 := ⟨by decide +kernel, q1944, qs65, q106, q1945⟩
set_option maxHeartbeats 4000000 in
theorem m_hasUnlike (l : Launch) (D : va_G) (dA : Nat → ClassId) (G : Nat → Nat) {σ : MS} {ρ : Int32 × MS} (h : M_hasUnlike σ = some ρ) : Ct l yX4_hasUnlike (ws_ yX4_hasUnlike cX4_hasUnlike 4 (some .boolean)) 1 0 0 D dA [.ref (G 0)] (WM dA G σ) (AG G) (QfI D dA (WM dA G ρ.2) ρ.1) := by
  refine zc_start (cc := cX4_hasUnlike) (nL := 4) (ret := (some .boolean)) (own := RX4) (by decide) rfl rfl (Nat.le_of_ble_eq_true rfl) wm_A (fun p e s m args below meth c hO hr _ _ => ?_)
  unfold M_hasUnlike at h
  refine zg_sub (lv' := [(0, .ref (G 0))]) [0] rfl ?_
  refine zg_iconst hO dX4_hasUnlike_0 ic0 ?_
  refine zg_istore_n (lv' := [(1, .int (nI 0)), (0, .ref (G 0))]) hO dX4_hasUnlike_1 rfl (Nat.le_of_ble_eq_true rfl) rfl ?_
  exact zg_sub [1, 0] rfl (w_M_hasUnlike_2 hO hr _ _ _ h)
set_option maxHeartbeats 4000000 in
theorem w_M_isNeutral_41 (hO : Ok p s m args meth c cX4_isNeutral RX4 4 D dA (AG G s.heap.size)) (hr : meth.sig.returnType = (some .boolean)) {ρ : Int32 × MS} {k4 : Int32 → Int32 → Int32 → MS → Option (Int32 × MS)} (K4 : ∀ (x1 : Int32) (x2 : Int32) (x3 : Int32) (σ : MS), k4 x1 x2 x3 σ = some ρ → Go p l e (rmG 1 0 0) s m args below meth c D (AG G s.heap.size) 4 (MQ below ((QfI D dA (WM dA G ρ.2) ρ.1) (AG G s.heap.size)) args s 0 0 (AG G s.heap.size)) (WM dA G σ) 0 0 4 [(0, .ref (G 0)), (1, .int x1), (2, .int x2), (3, .int x3)] []) : ∀ (x1 : Int32) (x3 : Int32) (y0 : Int32) (σ : MS), M_isNeutral_41 k4 x1 x3 y0 σ = some ρ → Go p l e (rmG 1 0 0) s m args below meth c D (AG G s.heap.size) 4 (MQ below ((QfI D dA (WM dA G ρ.2) ρ.1) (AG G s.heap.size)) args s 0 0 (AG G s.heap.size)) (WM dA G σ) 0 0 41 [(0, .ref (G 0)), (1, .int x1), (3, .int x3)] [.int y0] := by
  intro x1 x3 y0 σ h
  unfold M_isNeutral_41 at h
  refine zg_istore_n (lv' := [(2, .int y0), (0, .ref (G 0)), (1, .int x1), (3, .int x3)]) hO dX4_isNeutral_41 rfl (Nat.le_of_ble_eq_true rfl) rfl ?_
  refine zg_iinc (k := 3) (lv' := [(3, .int (x3 + (nI 1))), (2, .int y0), (0, .ref (G 0)), (1, .int x1)]) hO dX4_isNeutral_42 rfl (zii ic1) (Nat.le_of_ble_eq_true rfl) rfl ?_
  refine zg_goto (tgt := 4) hO dX4_isNeutral_45 (by decide) ?_
  exact zg_sub [2, 3, 1, 0] rfl (K4 _ _ _ _ h)
set_option maxHeartbeats 4000000 in
theorem w_M_isNeutral_40 (hO : Ok p s m args meth c cX4_isNeutral RX4 4 D dA (AG G s.heap.size)) (hr : meth.sig.returnType = (some .boolean)) {ρ : Int32 × MS} {k4 : Int32 → Int32 → Int32 → MS → Option (Int32 × MS)} (K4 : ∀ (x1 : Int32) (x2 : Int32) (x3 : Int32) (σ : MS), k4 x1 x2 x3 σ = some ρ → Go p l e (rmG 1 0 0) s m args below meth c D (AG G s.heap.size) 4 (MQ below ((QfI D dA (WM dA G ρ.2) ρ.1) (AG G s.heap.size)) args s 0 0 (AG G s.heap.size)) (WM dA G σ) 0 0 4 [(0, .ref (G 0)), (1, .int x1), (2, .int x2), (3, .int x3)] []) : ∀ (x1 : Int32) (x3 : Int32) (σ : MS), M_isNeutral_40 k4 x1 x3 σ = some ρ → Go p l e (rmG 1 0 0) s m args below meth c D (AG G s.heap.size) 4 (MQ below ((QfI D dA (WM dA G ρ.2) ρ.1) (AG G s.heap.size)) args s 0 0 (AG G s.heap.size)) (WM dA G σ) 0 0 40 [(0, .ref (G 0)), (1, .int x1), (3, .int x3)] [] := by
  intro x1 x3 σ h
  unfold M_isNeutral_40 at h
  refine zg_iconst hO dX4_isNeutral_40 ic0 ?_
  exact zg_sub [0, 1, 2] rfl (w_M_isNeutral_41 hO hr K4 _ _ _ _ h)
set_option maxHeartbeats 4000000 in
theorem w_M_isNeutral_4 (hO : Ok p s m args meth c cX4_isNeutral RX4 4 D dA (AG G s.heap.size)) (hr : meth.sig.returnType = (some .boolean)) {ρ : Int32 × MS} : ∀ (n : Nat) (x1 : Int32) (x2 : Int32) (x3 : Int32) (σ : MS), M_isNeutral_4 n x1 x2 x3 σ = some ρ → Go p l e (rmG 1 0 0) s m args below meth c D (AG G s.heap.size) 4 (MQ below ((QfI D dA (WM dA G ρ.2) ρ.1) (AG G s.heap.size)) args s 0 0 (AG G s.heap.size)) (WM dA G σ) 0 0 4 [(0, .ref (G 0)), (1, .int x1), (2, .int x2), (3, .int x3)] [] := by
  intro n
  induction n with
  | zero =>
    intro x1 x2 x3 σ h
    rw [M_isNeutral_4] at h
    cases h
  | succ n ih =>
    intro x1 x2 x3 σ h
    rw [M_isNeutral_4] at h
    refine zg_iload_n hO 3 dX4_isNeutral_4 rfl rfl ?_
    refine zg_aload_n hO 0 dX4_isNeutral_5 rfl rfl ?_
    refine mG_210 hO dX4_isNeutral_6 ?_
    refine zg_icmp_ge (tgt := 48) hO h dX4_isNeutral_9 (by decide) (fun h => ?_) (fun h => ?_)
    · refine zg_iload_n hO 2 dX4_isNeutral_48 rfl rfl ?_
      exact zm_zret hO hr (zg_some h).1 (zg_some h).2 dX4_isNeutral_49
    · refine zg_iload_n hO 2 dX4_isNeutral_12 rfl rfl ?_
      refine zg_if_eq (tgt := 40) hO h dX4_isNeutral_13 (by decide) (fun h => ?_) (fun h => ?_)
      · exact zg_sub [0, 1, 3] rfl (w_M_isNeutral_40 hO hr ih _ _ _ h)
      · refine zg_aload_n hO 0 dX4_isNeutral_16 rfl rfl ?_
        refine zg_iload_n hO 1 dX4_isNeutral_17 rfl rfl ?_
        refine zg_iload_n hO 3 dX4_isNeutral_18 rfl rfl ?_
        refine zm_callVi (As := [.int x1, .int x3]) (rest := []) hO h (fun q hq => m_read l D dA G hq) mw_X4_read q1946 ⟨Nat.le_of_ble_eq_true rfl, Nat.le_of_ble_eq_true rfl⟩ rfl rfl (Nat.le_of_ble_eq_true rfl) dX4_isNeutral_19 (fun q1 h => ?_)
        refine zg_iload_n hO 3 dX4_isNeutral_22 rfl rfl ?_
        refine zg_icmp_ne (tgt := 40) hO h dX4_isNeutral_23 (by decide) (fun h => ?_) (fun h => ?_)
        · exact zg_sub [0, 1, 3] rfl (w_M_isNeutral_40 hO hr ih _ _ _ h)
        · refine zg_aload_n hO 0 dX4_isNeutral_26 rfl rfl ?_
          refine zg_iload_n hO 3 dX4_isNeutral_27 rfl rfl ?_
          refine zg_iload_n hO 1 dX4_isNeutral_28 rfl rfl ?_
          refine zm_callVi (As := [.int x3, .int x1]) (rest := []) hO h (fun q hq => m_read l D dA G hq) mw_X4_read q1946 ⟨Nat.le_of_ble_eq_true rfl, Nat.le_of_ble_eq_true rfl⟩ rfl rfl (Nat.le_of_ble_eq_true rfl) dX4_isNeutral_29 (fun q2 h => ?_)
          refine zg_iload_n hO 3 dX4_isNeutral_32 rfl rfl ?_
          refine zg_icmp_ne (tgt := 40) hO h dX4_isNeutral_33 (by decide) (fun h => ?_) (fun h => ?_)
          · exact zg_sub [0, 1, 3] rfl (w_M_isNeutral_40 hO hr ih _ _ _ h)
          · refine zg_iconst hO dX4_isNeutral_36 ic1 ?_
            refine zg_goto (tgt := 41) hO dX4_isNeutral_37 (by decide) ?_
            exact zg_sub [0, 1, 3] rfl (w_M_isNeutral_41 hO hr ih _ _ _ _ h)
theorem mw_X4_isNeutral : MwV yX4_isNeutral cX4_isNeutral 4 (some .boolean) RX4 1 := ⟨by decide +kernel, q1952, qs67, q106, q1953⟩
set_option maxHeartbeats 4000000 in
theorem m_isNeutral (l : Launch) (D : va_G) (dA : Nat → ClassId) (G : Nat → Nat) {x1 : Int32} {σ : MS} {ρ : Int32 × MS} (h : M_isNeutral x1 σ = some ρ) : Ct l yX4_isNeutral (ws_ yX4_isNeutral cX4_isNeutral 4 (some .boolean)) 1 0 0 D dA [.ref (G 0), .int x1] (WM dA G σ) (AG G) (QfI D dA (WM dA G ρ.2) ρ.1) := by
  refine zc_start (cc := cX4_isNeutral) (nL := 4) (ret := (some .boolean)) (own := RX4) (by decide) rfl rfl (Nat.le_of_ble_eq_true rfl) wm_A (fun p e s m args below meth c hO hr _ _ => ?_)
  unfold M_isNeutral at h
  refine zg_sub (lv' := [(0, .ref (G 0)), (1, .int x1)]) [0, 1] rfl ?_
  refine zg_iconst hO dX4_isNeutral_0 ic1 ?_
  refine zg_istore_n (lv' := [(2, .int (nI 1)), (0, .ref (G 0)), (1, .int x1)]) hO dX4_isNeutral_1 rfl (Nat.le_of_ble_eq_true rfl) rfl ?_
  refine zg_iconst hO dX4_isNeutral_2 ic0 ?_
  refine zg_istore_n (lv' := [(3, .int (nI 0)), (2, .int (nI 1)), (0, .ref (G 0)), (1, .int x1)]) hO dX4_isNeutral_3 rfl (Nat.le_of_ble_eq_true rfl) rfl ?_
  exact zg_sub [2, 3, 1, 0] rfl (w_M_isNeutral_4 hO hr _ _ _ _ _ h)
set_option maxHeartbeats 4000000 in
theorem w_M_table_128 (hO : Ok p s m args meth c cX4_table RX4 3 D dA (AG G s.heap.size)) (hr : meth.sig.returnType = (some .int)) {ρ : Int32 × MS} : ∀ (σ : MS), M_table_128 σ = some ρ → Go p l e (rmG 7 0 0) s m args below meth c D (AG G s.heap.size) 3 (MQ below ((QfI D dA (WM dA G ρ.2) ρ.1) (AG G s.heap.size)) args s 0 0 (AG G s.heap.size)) (WM dA G σ) 0 0 128 [(0, .ref (G 0))] [] := by
  intro σ h
  unfold M_table_128 at h
  refine zg_aload_n hO 0 dX4_table_128 rfl rfl ?_
  refine mG_45 hO dX4_table_129 ?_
  exact zm_iret hO hr h dX4_table_132
set_option maxHeartbeats 4000000 in
theorem w_M_table_84 (hO : Ok p s m args meth c cX4_table RX4 3 D dA (AG G s.heap.size)) (hr : meth.sig.returnType = (some .int)) {ρ : Int32 × MS} : ∀ (n : Nat) (x2 : Int32) (σ : MS), M_table_84 n x2 σ = some ρ → Go p l e (rmG 7 0 0) s m args below meth c D (AG G s.heap.size) 3 (MQ below ((QfI D dA (WM dA G ρ.2) ρ.1) (AG G s.heap.size)) args s 0 0 (AG G s.heap.size)) (WM dA G σ) 0 0 84 [(0, .ref (G 0)), (2, .int x2)] [] := by
  intro n
  induction n with
  | zero =>
    intro x2 σ h
    rw [M_table_84] at h
    cases h
  | succ n ih =>
    intro x2 σ h
    rw [M_table_84] at h
    refine zg_iload_n hO 1 dX4_table_84 rfl rfl ?_
    refine zg_aload_n hO 0 dX4_table_85 rfl rfl ?_
    refine mG_45 hO dX4_table_86 ?_
    refine zg_aload_n hO 0 dX4_table_89 rfl rfl ?_
    refine mG_45 hO dX4_table_90 ?_
    refine zg_imul hO dX4_table_93 ?_
    refine zg_icmp_ge (tgt := 115) hO h dX4_table_94 (by decide) (fun h => ?_) (fun h => ?_)
    · refine zg_aload_n hO 0 dX4_table_115 rfl rfl ?_
      refine mG_93 hO dX4_table_116 ?_
      refine zg_bipush hO dX4_table_119 bc7 ?_
      refine zg_icmp_ne (tgt := 128) hO h dX4_table_121 (by decide) (fun h => ?_) (fun h => ?_)
      · exact zg_sub [0] rfl (w_M_table_128 hO hr _ h)
      · refine zg_aload_n hO 0 dX4_table_124 rfl rfl ?_
        refine zm_callVv (As := []) (rest := []) hO h (fun q hq => m_laysAll l D dA G hq) mw_X4_laysAll q1888 ⟨Nat.le_of_ble_eq_true rfl, Nat.le_of_ble_eq_true rfl⟩ rfl rfl (Nat.le_of_ble_eq_true rfl) dX4_table_125 (fun q5 h => ?_)
        exact zg_sub [0] rfl (w_M_table_128 hO hr _ h)
    · refine zg_aload_n hO 0 dX4_table_97 rfl rfl ?_
      refine mG_48 hO dX4_table_98 ?_
      refine zg_iload_n hO 1 dX4_table_101 rfl rfl ?_
      refine zg_aload_n hO 0 dX4_table_102 rfl rfl ?_
      refine mG_84 hO dX4_table_103 ?_
      refine zg_iload_n hO 1 dX4_table_106 rfl rfl ?_
      refine mL_15 hO h dX4_table_107 (fun h => ?_)
      refine mS_3 hO h dX4_table_108 (fun h => ?_)
      refine zg_iinc (k := 1) (lv' := [(2, .int (x2 + (nI 1))), (0, .ref (G 0))]) hO dX4_table_109 rfl (zii ic1) (Nat.le_of_ble_eq_true rfl) rfl ?_
      refine zg_goto (tgt := 84) hO dX4_table_112 (by decide) ?_
      exact zg_sub [1, 0] rfl (ih _ _ h)
set_option maxHeartbeats 4000000 in
theorem w_M_table_58 (hO : Ok p s m args meth c cX4_table RX4 3 D dA (AG G s.heap.size)) (hr : meth.sig.returnType = (some .int)) {ρ : Int32 × MS} : ∀ (x1 : Int32) (σ : MS), M_table_58 x1 σ = some ρ → Go p l e (rmG 7 0 0) s m args below meth c D (AG G s.heap.size) 3 (MQ below ((QfI D dA (WM dA G ρ.2) ρ.1) (AG G s.heap.size)) args s 0 0 (AG G s.heap.size)) (WM dA G σ) 0 0 58 [(0, .ref (G 0)), (1, .int x1)] [] := by
  intro x1 σ h
  unfold M_table_58 at h
  refine zg_iload_n hO 1 dX4_table_58 rfl rfl ?_
  refine zg_aload_n hO 0 dX4_table_59 rfl rfl ?_
  refine mG_210 hO dX4_table_60 ?_
  refine zg_icmp_ne (tgt := 69) hO h dX4_table_63 (by decide) (fun h => ?_) (fun h => ?_)
  · refine zg_aload_n hO 0 dX4_table_69 rfl rfl ?_
    refine zg_aload_n hO 0 dX4_table_70 rfl rfl ?_
    refine mG_210 hO dX4_table_71 ?_
    refine mP_45 hO dX4_table_74 ?_
    refine zg_aload_n hO 0 dX4_table_77 rfl rfl ?_
    refine zg_iload_n hO 1 dX4_table_78 rfl rfl ?_
    refine mP_111 hO dX4_table_79 ?_
    refine zg_iconst hO dX4_table_82 ic0 ?_
    refine zg_istore_n (lv' := [(2, .int (nI 0)), (0, .ref (G 0)), (1, .int x1)]) hO dX4_table_83 rfl (Nat.le_of_ble_eq_true rfl) rfl ?_
    exact zg_sub [1, 0] rfl (w_M_table_84 hO hr _ _ _ h)
  · refine zg_bipush hO dX4_table_66 bcm11 ?_
    exact zm_iret hO hr h dX4_table_68
set_option maxHeartbeats 4000000 in
theorem w_M_table_36 (hO : Ok p s m args meth c cX4_table RX4 3 D dA (AG G s.heap.size)) (hr : meth.sig.returnType = (some .int)) {ρ : Int32 × MS} : ∀ (n : Nat) (x1 : Int32) (σ : MS), M_table_36 n x1 σ = some ρ → Go p l e (rmG 7 0 0) s m args below meth c D (AG G s.heap.size) 3 (MQ below ((QfI D dA (WM dA G ρ.2) ρ.1) (AG G s.heap.size)) args s 0 0 (AG G s.heap.size)) (WM dA G σ) 0 0 36 [(0, .ref (G 0)), (1, .int x1)] [] := by
  intro n
  induction n with
  | zero =>
    intro x1 σ h
    rw [M_table_36] at h
    cases h
  | succ n ih =>
    intro x1 σ h
    rw [M_table_36] at h
    refine zg_iload_n hO 1 dX4_table_36 rfl rfl ?_
    refine zg_aload_n hO 0 dX4_table_37 rfl rfl ?_
    refine mG_210 hO dX4_table_38 ?_
    refine zg_icmp_ge (tgt := 58) hO h dX4_table_41 (by decide) (fun h => ?_) (fun h => ?_)
    · exact zg_sub [0, 1] rfl (w_M_table_58 hO hr _ _ h)
    · refine zg_aload_n hO 0 dX4_table_44 rfl rfl ?_
      refine zg_iload_n hO 1 dX4_table_45 rfl rfl ?_
      refine zm_callVi (As := [.int x1]) (rest := []) hO h (fun q hq => m_isNeutral l D dA G hq) mw_X4_isNeutral q1950 ⟨Nat.le_of_ble_eq_true rfl, Nat.le_of_ble_eq_true rfl⟩ rfl rfl (Nat.le_of_ble_eq_true rfl) dX4_table_46 (fun q4 h => ?_)
      refine zg_if_ne (tgt := 58) hO h dX4_table_49 (by decide) (fun h => ?_) (fun h => ?_)
      · exact zg_sub [0, 1] rfl (w_M_table_58 hO hr _ _ h)
      · refine zg_iinc (k := 1) (lv' := [(1, .int (x1 + (nI 1))), (0, .ref (G 0))]) hO dX4_table_52 rfl (zii ic1) (Nat.le_of_ble_eq_true rfl) rfl ?_
        refine zg_goto (tgt := 36) hO dX4_table_55 (by decide) ?_
        exact zg_sub [1, 0] rfl (ih _ _ h)
theorem mw_X4_table : MwV yX4_table cX4_table 3 (some .int) RX4 0 := ⟨by decide +kernel, q1920, q1921, q106, q1922⟩
set_option maxHeartbeats 4000000 in
theorem m_table (l : Launch) (D : va_G) (dA : Nat → ClassId) (G : Nat → Nat) {σ : MS} {ρ : Int32 × MS} (h : M_table σ = some ρ) : Ct l yX4_table (ws_ yX4_table cX4_table 3 (some .int)) 7 0 0 D dA [.ref (G 0)] (WM dA G σ) (AG G) (QfI D dA (WM dA G ρ.2) ρ.1) := by
  refine zc_start (cc := cX4_table) (nL := 3) (ret := (some .int)) (own := RX4) (by decide) rfl rfl (Nat.le_of_ble_eq_true rfl) wm_A (fun p e s m args below meth c hO hr _ _ => ?_)
  unfold M_table at h
  refine zg_sub (lv' := [(0, .ref (G 0))]) [0] rfl ?_
  refine zg_aload_n hO 0 dX4_table_0 rfl rfl ?_
  refine zg_iconst hO dX4_table_1 ic0 ?_
  refine mP_1 hO dX4_table_2 ?_
  refine zg_aload_n hO 0 dX4_table_5 rfl rfl ?_
  refine zm_callVv (As := []) (rest := []) hO h (fun q hq => m_reads l D dA G hq) mw_X4_reads q1923 ⟨Nat.le_of_ble_eq_true rfl, Nat.le_of_ble_eq_true rfl⟩ rfl rfl (Nat.le_of_ble_eq_true rfl) dX4_table_6 (fun q1 h => ?_)
  refine zg_aload_n hO 0 dX4_table_9 rfl rfl ?_
  refine zm_callVi (As := []) (rest := []) hO h (fun q hq => m_readsTable l D dA G hq) mw_X4_readsTable q1927 ⟨Nat.le_of_ble_eq_true rfl, Nat.le_of_ble_eq_true rfl⟩ rfl rfl (Nat.le_of_ble_eq_true rfl) dX4_table_10 (fun q2 h => ?_)
  refine zg_if_ne (tgt := 24) hO h dX4_table_13 (by decide) (fun h => ?_) (fun h => ?_)
  · refine zg_aload_n hO 0 dX4_table_24 rfl rfl ?_
    refine zm_callVi (As := []) (rest := []) hO h (fun q hq => m_hasUnlike l D dA G hq) mw_X4_hasUnlike q1942 ⟨Nat.le_of_ble_eq_true rfl, Nat.le_of_ble_eq_true rfl⟩ rfl rfl (Nat.le_of_ble_eq_true rfl) dX4_table_25 (fun q3 h => ?_)
    refine zg_if_eq (tgt := 34) hO h dX4_table_28 (by decide) (fun h => ?_) (fun h => ?_)
    · refine zg_iconst hO dX4_table_34 ic0 ?_
      refine zg_istore_n (lv' := [(1, .int (nI 0)), (0, .ref (G 0))]) hO dX4_table_35 rfl (Nat.le_of_ble_eq_true rfl) rfl ?_
      exact zg_sub [1, 0] rfl (w_M_table_36 hO hr _ _ _ h)
    · refine zg_bipush hO dX4_table_31 bcm10 ?_
      exact zm_iret hO hr h dX4_table_33
  · refine zg_bipush hO dX4_table_16 bcm21 ?_
    refine zg_aload_n hO 0 dX4_table_18 rfl rfl ?_
    refine mG_28 hO dX4_table_19 ?_
    refine zg_isub hO dX4_table_22 ?_
    exact zm_iret hO hr h dX4_table_23
theorem mw_X4_isLine : MwS yX4_isLine cX4_isLine 1 (some .boolean) 1 := ⟨by decide +kernel, q1959, q106, q1960⟩
set_option maxHeartbeats 4000000 in
theorem m_isLine (l : Launch) (D : va_G) (dA : Nat → ClassId) {x0 : Int32} {ρ : Int32} (h : M_isLine x0 = some ρ) : Ct l yX4_isLine (ws_ yX4_isLine cX4_isLine 1 (some .boolean)) 1 0 0 D dA [.int x0] [] A0s (QfI D dA [] ρ) := by
  refine zc_start (cc := cX4_isLine) (nL := 1) (ret := (some .boolean)) (own := RX4) (by decide) rfl rfl (Nat.le_of_ble_eq_true rfl) (fun _ _ h => h) (fun p e s m args below meth c hO hr _ _ => ?_)
  unfold M_isLine at h
  refine zg_sub (lv' := [(0, .int x0)]) [0] rfl ?_
  refine zg_iload_n hO 0 dX4_isLine_0 rfl rfl ?_
  refine zg_i2l hO dX4_isLine_1 ?_
  refine zg_lconst hO dX4_isLine_2 lc0 ?_
  refine zg_ldc2 (x := 3) hO q1961 dX4_isLine_3 ?_
  refine zs_calli (As := [.long (x0.toInt64), .long (lN 0), .long (3 : Int64)]) (rest := []) hO h (fun q hq => m_in l D dA hq) mw_X4_in q1702 ⟨Nat.le_of_ble_eq_true rfl, Nat.le_of_ble_eq_true rfl⟩ ⟨Nat.le_refl _, Nat.le_refl _⟩ rfl rfl (Nat.le_of_ble_eq_true rfl) dX4_isLine_6 (fun q1 h => ?_)
  exact zs_zret hO hr (zg_some h).1 (zg_some h).2 dX4_isLine_9
theorem mw_X4_isEnd : MwS yX4_isEnd cX4_isEnd 1 (some .boolean) 1 := ⟨by decide +kernel, q1963, q106, q1964⟩
set_option maxHeartbeats 4000000 in
theorem m_isEnd (l : Launch) (D : va_G) (dA : Nat → ClassId) {x0 : Int32} {ρ : Int32} (h : M_isEnd x0 = some ρ) : Ct l yX4_isEnd (ws_ yX4_isEnd cX4_isEnd 1 (some .boolean)) 1 0 0 D dA [.int x0] [] A0s (QfI D dA [] ρ) := by
  refine zc_start (cc := cX4_isEnd) (nL := 1) (ret := (some .boolean)) (own := RX4) (by decide) rfl rfl (Nat.le_of_ble_eq_true rfl) (fun _ _ h => h) (fun p e s m args below meth c hO hr _ _ => ?_)
  unfold M_isEnd at h
  refine zg_sub (lv' := [(0, .int x0)]) [0] rfl ?_
  refine zg_iload_n hO 0 dX4_isEnd_0 rfl rfl ?_
  refine zg_i2l hO dX4_isEnd_1 ?_
  refine zg_lconst hO dX4_isEnd_2 lc0 ?_
  refine zg_lconst hO dX4_isEnd_3 lc1 ?_
  refine zs_calli (As := [.long (x0.toInt64), .long (lN 0), .long (lN 1)]) (rest := []) hO h (fun q hq => m_in l D dA hq) mw_X4_in q1702 ⟨Nat.le_of_ble_eq_true rfl, Nat.le_of_ble_eq_true rfl⟩ ⟨Nat.le_refl _, Nat.le_refl _⟩ rfl rfl (Nat.le_of_ble_eq_true rfl) dX4_isEnd_4 (fun q1 h => ?_)
  exact zs_zret hO hr (zg_some h).1 (zg_some h).2 dX4_isEnd_7
theorem mw_X4_puts : MwV yX4_puts cX4_puts 4 (some .int) RX4 3 := ⟨by decide +kernel, q1955, q1956, q106, q1957⟩
set_option maxHeartbeats 4000000 in
theorem m_puts (l : Launch) (D : va_G) (dA : Nat → ClassId) (G : Nat → Nat) {x1 : Int32} {x2 : Int32} {x3 : Int32} {σ : MS} {ρ : Int32 × MS} (h : M_puts x1 x2 x3 σ = some ρ) : Ct l yX4_puts (ws_ yX4_puts cX4_puts 4 (some .int)) 5 0 0 D dA [.ref (G 0), .int x1, .int x2, .int x3] (WM dA G σ) (AG G) (QfI D dA (WM dA G ρ.2) ρ.1) := by
  refine zc_start (cc := cX4_puts) (nL := 4) (ret := (some .int)) (own := RX4) (by decide) rfl rfl (Nat.le_of_ble_eq_true rfl) wm_A (fun p e s m args below meth c hO hr _ _ => ?_)
  unfold M_puts at h
  refine zg_sub (lv' := [(0, .ref (G 0)), (1, .int x1), (2, .int x2), (3, .int x3)]) [0, 1, 2, 3] rfl ?_
  refine zg_aload_n hO 0 dX4_puts_0 rfl rfl ?_
  refine zg_iconst hO dX4_puts_1 ic0 ?_
  refine mP_1 hO dX4_puts_2 ?_
  refine zg_iload_n hO 1 dX4_puts_5 rfl rfl ?_
  refine zs_calli (As := [.int x1]) (rest := []) hO h (fun q hq => m_isLine l D dA hq) mw_X4_isLine q1958 ⟨Nat.le_of_ble_eq_true rfl, Nat.le_of_ble_eq_true rfl⟩ ⟨Nat.le_refl _, Nat.le_refl _⟩ rfl rfl (Nat.le_of_ble_eq_true rfl) dX4_puts_6 (fun q1 h => ?_)
  refine zg_if_eq (tgt := 26) hO h dX4_puts_9 (by decide) (fun h => ?_) (fun h => ?_)
  · refine zg_iconst hO dX4_puts_26 icm1 ?_
    exact zm_iret hO hr h dX4_puts_27
  · refine zg_iload_n hO 2 dX4_puts_12 rfl rfl ?_
    refine zs_calli (As := [.int x2]) (rest := []) hO h (fun q hq => m_isEnd l D dA hq) mw_X4_isEnd q1962 ⟨Nat.le_of_ble_eq_true rfl, Nat.le_of_ble_eq_true rfl⟩ ⟨Nat.le_refl _, Nat.le_refl _⟩ rfl rfl (Nat.le_of_ble_eq_true rfl) dX4_puts_13 (fun q2 h => ?_)
    refine zg_if_eq (tgt := 26) hO h dX4_puts_16 (by decide) (fun h => ?_) (fun h => ?_)
    · refine zg_iconst hO dX4_puts_26 icm1 ?_
      exact zm_iret hO hr h dX4_puts_27
    · refine zg_iload_n hO 3 dX4_puts_19 rfl rfl ?_
      refine zs_calli (As := [.int x3]) (rest := []) hO h (fun q hq => m_isItem l D dA hq) mw_X4_isItem q1812 ⟨Nat.le_of_ble_eq_true rfl, Nat.le_of_ble_eq_true rfl⟩ ⟨Nat.le_refl _, Nat.le_refl _⟩ rfl rfl (Nat.le_of_ble_eq_true rfl) dX4_puts_20 (fun q3 h => ?_)
      refine zg_if_ne (tgt := 28) hO h dX4_puts_23 (by decide) (fun h => ?_) (fun h => ?_)
      · refine zg_aload_n hO 0 dX4_puts_28 rfl rfl ?_
        refine zg_iload_n hO 1 dX4_puts_29 rfl rfl ?_
        refine zm_callVi (As := [.int x1]) (rest := []) hO h (fun q hq => m_sizeOf l D dA G hq) mw_X4_sizeOf q1896 ⟨Nat.le_of_ble_eq_true rfl, Nat.le_of_ble_eq_true rfl⟩ rfl rfl (Nat.le_of_ble_eq_true rfl) dX4_puts_30 (fun q4 h => ?_)
        refine zg_bipush hO dX4_puts_33 bc64 ?_
        refine zg_icmp_ne (tgt := 41) hO h dX4_puts_35 (by decide) (fun h => ?_) (fun h => ?_)
        · refine zg_aload_n hO 0 dX4_puts_41 rfl rfl ?_
          refine zg_iconst hO dX4_puts_42 ic2 ?_
          refine zg_iload_n hO 1 dX4_puts_43 rfl rfl ?_
          refine zg_imul hO dX4_puts_44 ?_
          refine zg_iload_n hO 2 dX4_puts_45 rfl rfl ?_
          refine zg_iadd hO dX4_puts_46 ?_
          refine zg_iload_n hO 3 dX4_puts_47 rfl rfl ?_
          refine zm_callVv (As := [.int (((nI 2) * x1) + x2), .int x3]) (rest := []) hO h (fun q hq => m_makes l D dA G hq) mw_X4_makes q1915 ⟨Nat.le_of_ble_eq_true rfl, Nat.le_of_ble_eq_true rfl⟩ rfl rfl (Nat.le_of_ble_eq_true rfl) dX4_puts_48 (fun q5 h => ?_)
          refine zg_aload_n hO 0 dX4_puts_51 rfl rfl ?_
          refine zg_iload_n hO 1 dX4_puts_52 rfl rfl ?_
          refine zm_callVi (As := [.int x1]) (rest := []) hO h (fun q hq => m_sizeOf l D dA G hq) mw_X4_sizeOf q1896 ⟨Nat.le_of_ble_eq_true rfl, Nat.le_of_ble_eq_true rfl⟩ rfl rfl (Nat.le_of_ble_eq_true rfl) dX4_puts_53 (fun q6 h => ?_)
          exact zm_iret hO hr h dX4_puts_56
        · refine zg_bipush hO dX4_puts_38 bcm3 ?_
          exact zm_iret hO hr h dX4_puts_40
      · refine zg_iconst hO dX4_puts_26 icm1 ?_
        exact zm_iret hO hr h dX4_puts_27
set_option maxHeartbeats 4000000 in
theorem w_M_takesOne_62 (hO : Ok p s m args meth c cX4_takesOne RX4 6 D dA (AG G s.heap.size)) (hr : meth.sig.returnType = (some .int)) {ρ : Int32 × MS} : ∀ (x3 : Int32) (σ : MS), M_takesOne_62 x3 σ = some ρ → Go p l e (rmG 6 0 0) s m args below meth c D (AG G s.heap.size) 6 (MQ below ((QfI D dA (WM dA G ρ.2) ρ.1) (AG G s.heap.size)) args s 0 0 (AG G s.heap.size)) (WM dA G σ) 0 0 62 [(0, .ref (G 0)), (3, .int x3)] [] := by
  intro x3 σ h
  unfold M_takesOne_62 at h
  refine zg_aload_n hO 0 dX4_takesOne_62 rfl rfl ?_
  refine mG_66 hO dX4_takesOne_63 ?_
  refine zg_iload_n hO 1 dX4_takesOne_66 rfl rfl ?_
  refine zg_dup2 hO dX4_takesOne_67 rfl rfl ?_
  refine mL_9 hO h dX4_takesOne_68 (fun h => ?_)
  refine zg_iconst hO dX4_takesOne_69 ic1 ?_
  refine zg_isub hO dX4_takesOne_70 ?_
  refine mS_9 hO h dX4_takesOne_71 (fun h => ?_)
  refine zg_aload_n hO 0 dX4_takesOne_72 rfl rfl ?_
  refine mG_72 hO dX4_takesOne_73 ?_
  refine zg_iload_n hO 1 dX4_takesOne_76 rfl rfl ?_
  refine zg_aload_n hO 0 dX4_takesOne_77 rfl rfl ?_
  refine mG_66 hO dX4_takesOne_78 ?_
  refine zg_iload_n hO 1 dX4_takesOne_81 rfl rfl ?_
  refine mL_9 hO h dX4_takesOne_82 (fun h => ?_)
  refine zs_calli (As := [.int x3, .int (gA (sA σ 5 x3.toNatClampNeg ((gA σ 5 x3.toNatClampNeg) - (nI 1))) 5 x3.toNatClampNeg)]) (rest := [.ref (G 11)]) hO h (fun q hq => m_place l D dA hq) mw_X4_place q1908 ⟨Nat.le_of_ble_eq_true rfl, Nat.le_of_ble_eq_true rfl⟩ ⟨Nat.le_refl _, Nat.le_refl _⟩ rfl rfl (Nat.le_of_ble_eq_true rfl) dX4_takesOne_83 (fun q3 h => ?_)
  refine mL_11 hO h dX4_takesOne_86 (fun h => ?_)
  exact zm_iret hO hr h dX4_takesOne_87
set_option maxHeartbeats 4000000 in
theorem w_M_takesOne_49 (hO : Ok p s m args meth c cX4_takesOne RX4 6 D dA (AG G s.heap.size)) (hr : meth.sig.returnType = (some .int)) {ρ : Int32 × MS} : ∀ (x3 : Int32) (y0 : Int32) (y1 : Int32) (y2 : Int32) (y3 : Int32) (σ : MS), M_takesOne_49 x3 y0 y1 y2 y3 σ = some ρ → Go p l e (rmG 6 0 0) s m args below meth c D (AG G s.heap.size) 6 (MQ below ((QfI D dA (WM dA G ρ.2) ρ.1) (AG G s.heap.size)) args s 0 0 (AG G s.heap.size)) (WM dA G σ) 0 0 49 [(0, .ref (G 0)), (3, .int x3)] [.int y0, .int y1, .int y2, .int y3, .ref (G 0)] := by
  intro x3 y0 y1 y2 y3 σ h
  unfold M_takesOne_49 at h
  refine zm_callVv (As := [.int y3, .int y2, .int y1, .int y0]) (rest := []) hO h (fun q hq => m_lays_2 l D dA G hq) mw_X4_lays_2 q1911 ⟨Nat.le_of_ble_eq_true rfl, Nat.le_of_ble_eq_true rfl⟩ rfl rfl (Nat.le_of_ble_eq_true rfl) dX4_takesOne_49 (fun q2 h => ?_)
  refine zg_aload_n hO 0 dX4_takesOne_52 rfl rfl ?_
  refine zg_dup hO dX4_takesOne_53 rfl ?_
  refine mG_202 hO dX4_takesOne_54 ?_
  refine zg_iconst hO dX4_takesOne_57 ic1 ?_
  refine zg_iadd hO dX4_takesOne_58 ?_
  refine mP_202 hO dX4_takesOne_59 ?_
  exact zg_sub [0, 1] rfl (w_M_takesOne_62 hO hr _ _ h)
theorem mw_X4_takesOne : MwV yX4_takesOne cX4_takesOne 6 (some .int) RX4 2 := ⟨by decide +kernel, q1971, qs68, q106, q1972⟩
set_option maxHeartbeats 4000000 in
theorem m_takesOne (l : Launch) (D : va_G) (dA : Nat → ClassId) (G : Nat → Nat) {x1 : Int32} {x2 : Int32} {σ : MS} {ρ : Int32 × MS} (h : M_takesOne x1 x2 σ = some ρ) : Ct l yX4_takesOne (ws_ yX4_takesOne cX4_takesOne 6 (some .int)) 6 0 0 D dA [.ref (G 0), .int x1, .int x2] (WM dA G σ) (AG G) (QfI D dA (WM dA G ρ.2) ρ.1) := by
  refine zc_start (cc := cX4_takesOne) (nL := 6) (ret := (some .int)) (own := RX4) (by decide) rfl rfl (Nat.le_of_ble_eq_true rfl) wm_A (fun p e s m args below meth c hO hr _ _ => ?_)
  unfold M_takesOne at h
  refine zg_sub (lv' := [(0, .ref (G 0)), (1, .int x1), (2, .int x2)]) [0, 1, 2] rfl ?_
  refine zg_iconst hO dX4_takesOne_0 ic2 ?_
  refine zg_iload_n hO 1 dX4_takesOne_1 rfl rfl ?_
  refine zg_imul hO dX4_takesOne_2 ?_
  refine zg_iload_n hO 2 dX4_takesOne_3 rfl rfl ?_
  refine zg_iadd hO dX4_takesOne_4 ?_
  refine zg_istore_n (lv' := [(3, .int (((nI 2) * x1) + x2)), (0, .ref (G 0)), (1, .int x1), (2, .int x2)]) hO dX4_takesOne_5 rfl (Nat.le_of_ble_eq_true rfl) rfl ?_
  refine zg_aload_n hO 1 dX4_takesOne_6 rfl rfl ?_
  refine mG_66 hO dX4_takesOne_7 ?_
  refine zg_iload_n hO 0 dX4_takesOne_10 rfl rfl ?_
  refine mL_9 hO h dX4_takesOne_11 (fun h => ?_)
  refine zg_if_ne (tgt := 62) hO h dX4_takesOne_12 (by decide) (fun h => ?_) (fun h => ?_)
  · exact zg_sub [1, 0] rfl (w_M_takesOne_62 hO hr _ _ h)
  · refine zg_aload_n hO 1 dX4_takesOne_15 rfl rfl ?_
    refine zg_iload_n hO 2 dX4_takesOne_16 rfl rfl ?_
    refine zm_callVi (As := [.int x1]) (rest := []) hO h (fun q hq => m_takesItems l D dA G hq) mw_X4_takesItems q1892 ⟨Nat.le_of_ble_eq_true rfl, Nat.le_of_ble_eq_true rfl⟩ rfl rfl (Nat.le_of_ble_eq_true rfl) dX4_takesOne_17 (fun q1 h => ?_)
    refine zg_istore (lv' := [(4, .int q1.1), (3, .int (((nI 2) * x1) + x2)), (0, .ref (G 0)), (1, .int x1), (2, .int x2)]) hO dX4_takesOne_20 (Nat.le_of_ble_eq_true rfl) rfl ?_
    refine zg_iload hO 0 dX4_takesOne_22 rfl ?_
    refine zg_iconst hO dX4_takesOne_24 ic1 ?_
    refine zg_iadd hO dX4_takesOne_25 ?_
    refine zg_iconst hO dX4_takesOne_26 ic2 ?_
    refine zg_idiv hO h dX4_takesOne_27 (fun h => ?_)
    refine zg_istore (lv' := [(5, .int ((q1.1 + (nI 1)) / (nI 2))), (4, .int q1.1), (3, .int (((nI 2) * x1) + x2)), (0, .ref (G 0)), (1, .int x1), (2, .int x2)]) hO dX4_takesOne_28 (Nat.le_of_ble_eq_true rfl) rfl ?_
    refine zg_aload_n hO 3 dX4_takesOne_30 rfl rfl ?_
    refine zg_iload_n hO 4 dX4_takesOne_31 rfl rfl ?_
    refine zg_iconst hO dX4_takesOne_32 ic0 ?_
    refine zg_iload hO 1 dX4_takesOne_33 rfl ?_
    refine zg_iload_n hO 5 dX4_takesOne_35 rfl rfl ?_
    refine zg_if_ne (tgt := 44) hO h dX4_takesOne_36 (by decide) (fun h => ?_) (fun h => ?_)
    · refine zg_iload hO 1 dX4_takesOne_44 rfl ?_
      refine zg_iload hO 0 dX4_takesOne_46 rfl ?_
      refine zg_isub hO dX4_takesOne_48 ?_
      exact zg_sub [3, 2] rfl (w_M_takesOne_49 hO hr _ _ _ _ _ _ h)
    · refine zg_iload hO 0 dX4_takesOne_39 rfl ?_
      refine zg_goto (tgt := 49) hO dX4_takesOne_41 (by decide) ?_
      exact zg_sub [3, 2] rfl (w_M_takesOne_49 hO hr _ _ _ _ _ _ h)
theorem mw_X4_tellsWork : MwV yX4_tellsWork cX4_tellsWork 3 (some .int) RX4 2 := ⟨by decide +kernel, q1975, qs69, q106, q1976⟩
set_option maxHeartbeats 4000000 in
theorem m_tellsWork (l : Launch) (D : va_G) (dA : Nat → ClassId) (G : Nat → Nat) {x1 : Int32} {x2 : Int32} {σ : MS} {ρ : Int32 × MS} (h : M_tellsWork x1 x2 σ = some ρ) : Ct l yX4_tellsWork (ws_ yX4_tellsWork cX4_tellsWork 3 (some .int)) 1 0 0 D dA [.ref (G 0), .int x1, .int x2] (WM dA G σ) (AG G) (QfI D dA (WM dA G ρ.2) ρ.1) := by
  refine zc_start (cc := cX4_tellsWork) (nL := 3) (ret := (some .int)) (own := RX4) (by decide) rfl rfl (Nat.le_of_ble_eq_true rfl) wm_A (fun p e s m args below meth c hO hr _ _ => ?_)
  unfold M_tellsWork at h
  refine zg_sub (lv' := [(0, .ref (G 0)), (1, .int x1), (2, .int x2)]) [0, 1, 2] rfl ?_
  refine zg_aload_n hO 0 dX4_tellsWork_0 rfl rfl ?_
  refine zg_iconst hO dX4_tellsWork_1 ic0 ?_
  refine mP_11 hO dX4_tellsWork_2 ?_
  refine zg_aload_n hO 0 dX4_tellsWork_5 rfl rfl ?_
  refine zg_aload_n hO 0 dX4_tellsWork_6 rfl rfl ?_
  refine mG_184 hO dX4_tellsWork_7 ?_
  refine zg_iload_n hO 1 dX4_tellsWork_10 rfl rfl ?_
  refine zg_isub hO dX4_tellsWork_11 ?_
  refine zg_i2l hO dX4_tellsWork_12 ?_
  refine zm_callVv (As := [.long (((gI (sI σ 1 (nI 0)) 8) - x1).toInt64)]) (rest := []) hO h (fun q hq => m_enters l D dA G hq) mw_X4_enters q1856 ⟨Nat.le_of_ble_eq_true rfl, Nat.le_of_ble_eq_true rfl⟩ rfl rfl (Nat.le_of_ble_eq_true rfl) dX4_tellsWork_13 (fun q1 h => ?_)
  refine zg_iload_n hO 2 dX4_tellsWork_16 rfl rfl ?_
  exact zm_iret hO hr h dX4_tellsWork_17
theorem mw_X4_takes : MwV yX4_takes cX4_takes 5 (some .int) RX4 2 := ⟨by decide +kernel, q1966, q1967, q106, q1968⟩
set_option maxHeartbeats 4000000 in
theorem m_takes (l : Launch) (D : va_G) (dA : Nat → ClassId) (G : Nat → Nat) {x1 : Int32} {x2 : Int32} {σ : MS} {ρ : Int32 × MS} (h : M_takes x1 x2 σ = some ρ) : Ct l yX4_takes (ws_ yX4_takes cX4_takes 5 (some .int)) 7 0 0 D dA [.ref (G 0), .int x1, .int x2] (WM dA G σ) (AG G) (QfI D dA (WM dA G ρ.2) ρ.1) := by
  refine zc_start (cc := cX4_takes) (nL := 5) (ret := (some .int)) (own := RX4) (by decide) rfl rfl (Nat.le_of_ble_eq_true rfl) wm_A (fun p e s m args below meth c hO hr _ _ => ?_)
  unfold M_takes at h
  refine zg_sub (lv' := [(0, .ref (G 0)), (1, .int x1), (2, .int x2)]) [0, 1, 2] rfl ?_
  refine zg_aload_n hO 0 dX4_takes_0 rfl rfl ?_
  refine zg_iconst hO dX4_takes_1 ic0 ?_
  refine mP_1 hO dX4_takes_2 ?_
  refine zg_iload_n hO 1 dX4_takes_5 rfl rfl ?_
  refine zs_calli (As := [.int x1]) (rest := []) hO h (fun q hq => m_isLine l D dA hq) mw_X4_isLine q1958 ⟨Nat.le_of_ble_eq_true rfl, Nat.le_of_ble_eq_true rfl⟩ ⟨Nat.le_refl _, Nat.le_refl _⟩ rfl rfl (Nat.le_of_ble_eq_true rfl) dX4_takes_6 (fun q1 h => ?_)
  refine zg_if_eq (tgt := 19) hO h dX4_takes_9 (by decide) (fun h => ?_) (fun h => ?_)
  · refine zg_iconst hO dX4_takes_19 icm1 ?_
    exact zm_iret hO hr h dX4_takes_20
  · refine zg_iload_n hO 2 dX4_takes_12 rfl rfl ?_
    refine zs_calli (As := [.int x2]) (rest := []) hO h (fun q hq => m_isEnd l D dA hq) mw_X4_isEnd q1962 ⟨Nat.le_of_ble_eq_true rfl, Nat.le_of_ble_eq_true rfl⟩ ⟨Nat.le_refl _, Nat.le_refl _⟩ rfl rfl (Nat.le_of_ble_eq_true rfl) dX4_takes_13 (fun q2 h => ?_)
    refine zg_if_ne (tgt := 21) hO h dX4_takes_16 (by decide) (fun h => ?_) (fun h => ?_)
    · refine zg_aload_n hO 0 dX4_takes_21 rfl rfl ?_
      refine zg_iload_n hO 1 dX4_takes_22 rfl rfl ?_
      refine zm_callVi (As := [.int x1]) (rest := []) hO h (fun q hq => m_sizeOf l D dA G hq) mw_X4_sizeOf q1896 ⟨Nat.le_of_ble_eq_true rfl, Nat.le_of_ble_eq_true rfl⟩ rfl rfl (Nat.le_of_ble_eq_true rfl) dX4_takes_23 (fun q3 h => ?_)
      refine zg_if_ne (tgt := 32) hO h dX4_takes_26 (by decide) (fun h => ?_) (fun h => ?_)
      · refine zg_aload_n hO 0 dX4_takes_32 rfl rfl ?_
        refine mG_184 hO dX4_takes_33 ?_
        refine zg_istore_n (lv' := [(3, .int (gI q3.2 8)), (0, .ref (G 0)), (1, .int x1), (2, .int x2)]) hO dX4_takes_36 rfl (Nat.le_of_ble_eq_true rfl) rfl ?_
        refine zg_aload_n hO 1 dX4_takes_37 rfl rfl ?_
        refine zg_iload_n hO 2 dX4_takes_38 rfl rfl ?_
        refine zg_iload_n hO 3 dX4_takes_39 rfl rfl ?_
        refine zm_callVi (As := [.int x1, .int x2]) (rest := []) hO h (fun q hq => m_takesOne l D dA G hq) mw_X4_takesOne q1969 ⟨Nat.le_of_ble_eq_true rfl, Nat.le_of_ble_eq_true rfl⟩ rfl rfl (Nat.le_of_ble_eq_true rfl) dX4_takes_40 (fun q4 h => ?_)
        refine zg_istore (lv' := [(4, .int q4.1), (3, .int (gI q3.2 8)), (0, .ref (G 0)), (1, .int x1), (2, .int x2)]) hO dX4_takes_43 (Nat.le_of_ble_eq_true rfl) rfl ?_
        refine zg_aload_n hO 2 dX4_takes_45 rfl rfl ?_
        refine zg_iload_n hO 1 dX4_takes_46 rfl rfl ?_
        refine zg_iload hO 0 dX4_takes_47 rfl ?_
        refine zm_callVi (As := [.int (gI q3.2 8), .int q4.1]) (rest := []) hO h (fun q hq => m_tellsWork l D dA G hq) mw_X4_tellsWork q1973 ⟨Nat.le_of_ble_eq_true rfl, Nat.le_of_ble_eq_true rfl⟩ rfl rfl (Nat.le_of_ble_eq_true rfl) dX4_takes_49 (fun q5 h => ?_)
        exact zm_iret hO hr h dX4_takes_52
      · refine zg_bipush hO dX4_takes_29 bcm2 ?_
        exact zm_iret hO hr h dX4_takes_31
    · refine zg_iconst hO dX4_takes_19 icm1 ?_
      exact zm_iret hO hr h dX4_takes_20
set_option maxHeartbeats 4000000 in
theorem w_M_copiesTo_30 (hO : Ok p s m args meth c cX4_copiesTo RX4 7 D dA (AG G s.heap.size)) (hr : meth.sig.returnType = none) {ρ : MS} {k2 : Int32 → Int32 → Int32 → MS → Option (MS)} (K2 : ∀ (x1 : Int32) (x2 : Int32) (x3 : Int32) (σ : MS), k2 x1 x2 x3 σ = some ρ → Go p l e (rmG 1 0 0) s m args below meth c D (AG G s.heap.size) 7 (MQ below ((QfV D dA (WM dA G ρ)) (AG G s.heap.size)) args s 0 0 (AG G s.heap.size)) (WM dA G σ) 0 0 2 [(0, .ref (G 0)), (1, .int x1), (2, .int x2), (3, .int x3)] []) : ∀ (n : Nat) (x1 : Int32) (x2 : Int32) (x3 : Int32) (x4 : Int32) (σ : MS), M_copiesTo_30 k2 n x1 x2 x3 x4 σ = some ρ → Go p l e (rmG 1 0 0) s m args below meth c D (AG G s.heap.size) 7 (MQ below ((QfV D dA (WM dA G ρ)) (AG G s.heap.size)) args s 0 0 (AG G s.heap.size)) (WM dA G σ) 0 0 30 [(0, .ref (G 0)), (1, .int x1), (2, .int x2), (3, .int x3), (4, .int x4)] [] := by
  intro n
  induction n with
  | zero =>
    intro x1 x2 x3 x4 σ h
    rw [M_copiesTo_30] at h
    cases h
  | succ n ih =>
    intro x1 x2 x3 x4 σ h
    rw [M_copiesTo_30] at h
    refine zg_iload hO 4 dX4_copiesTo_30 rfl ?_
    refine zg_aload_n hO 0 dX4_copiesTo_32 rfl rfl ?_
    refine mG_66 hO dX4_copiesTo_33 ?_
    refine zg_iconst hO dX4_copiesTo_36 ic2 ?_
    refine zg_iload_n hO 1 dX4_copiesTo_37 rfl rfl ?_
    refine zg_imul hO dX4_copiesTo_38 ?_
    refine zg_iload_n hO 3 dX4_copiesTo_39 rfl rfl ?_
    refine zg_iadd hO dX4_copiesTo_40 ?_
    refine mL_9 hO h dX4_copiesTo_41 (fun h => ?_)
    refine zg_icmp_ge (tgt := 131) hO h dX4_copiesTo_42 (by decide) (fun h => ?_) (fun h => ?_)
    · refine zg_iinc (k := 3) (lv' := [(3, .int (x3 + (nI 1))), (0, .ref (G 0)), (1, .int x1), (2, .int x2), (4, .int x4)]) hO dX4_copiesTo_131 rfl (zii ic1) (Nat.le_of_ble_eq_true rfl) rfl ?_
      refine zg_goto (tgt := 2) hO dX4_copiesTo_134 (by decide) ?_
      exact zg_sub [1, 2, 3, 0] rfl (K2 _ _ _ _ h)
    · refine zg_iconst hO dX4_copiesTo_45 ic2 ?_
      refine zg_iload_n hO 1 dX4_copiesTo_46 rfl rfl ?_
      refine zg_imul hO dX4_copiesTo_47 ?_
      refine zg_iload_n hO 3 dX4_copiesTo_48 rfl rfl ?_
      refine zg_iadd hO dX4_copiesTo_49 ?_
      refine zg_iload hO 4 dX4_copiesTo_50 rfl ?_
      refine zs_calli (As := [.int (((nI 2) * x1) + x3), .int x4]) (rest := []) hO h (fun q hq => m_place l D dA hq) mw_X4_place q1908 ⟨Nat.le_of_ble_eq_true rfl, Nat.le_of_ble_eq_true rfl⟩ ⟨Nat.le_refl _, Nat.le_refl _⟩ rfl rfl (Nat.le_of_ble_eq_true rfl) dX4_copiesTo_52 (fun q1 h => ?_)
      refine zg_istore (lv' := [(5, .int q1), (0, .ref (G 0)), (1, .int x1), (2, .int x2), (3, .int x3), (4, .int x4)]) hO dX4_copiesTo_55 (Nat.le_of_ble_eq_true rfl) rfl ?_
      refine zg_iconst hO dX4_copiesTo_57 ic2 ?_
      refine zg_iload_n hO 3 dX4_copiesTo_58 rfl rfl ?_
      refine zg_imul hO dX4_copiesTo_59 ?_
      refine zg_iload_n hO 4 dX4_copiesTo_60 rfl rfl ?_
      refine zg_iadd hO dX4_copiesTo_61 ?_
      refine zg_iload hO 5 dX4_copiesTo_62 rfl ?_
      refine zs_calli (As := [.int (((nI 2) * x2) + x3), .int x4]) (rest := []) hO h (fun q hq => m_place l D dA hq) mw_X4_place q1908 ⟨Nat.le_of_ble_eq_true rfl, Nat.le_of_ble_eq_true rfl⟩ ⟨Nat.le_refl _, Nat.le_refl _⟩ rfl rfl (Nat.le_of_ble_eq_true rfl) dX4_copiesTo_64 (fun q2 h => ?_)
      refine zg_istore (lv' := [(6, .int q2), (5, .int q1), (0, .ref (G 0)), (1, .int x1), (2, .int x2), (3, .int x3), (4, .int x4)]) hO dX4_copiesTo_67 (Nat.le_of_ble_eq_true rfl) rfl ?_
      refine zg_aload_n hO 2 dX4_copiesTo_69 rfl rfl ?_
      refine mG_69 hO dX4_copiesTo_70 ?_
      refine zg_iload hO 0 dX4_copiesTo_73 rfl ?_
      refine zg_aload_n hO 2 dX4_copiesTo_75 rfl rfl ?_
      refine mG_69 hO dX4_copiesTo_76 ?_
      refine zg_iload hO 1 dX4_copiesTo_79 rfl ?_
      refine mL_10 hO h dX4_copiesTo_81 (fun h => ?_)
      refine mS_10 hO h dX4_copiesTo_82 (fun h => ?_)
      refine zg_aload_n hO 2 dX4_copiesTo_83 rfl rfl ?_
      refine mG_72 hO dX4_copiesTo_84 ?_
      refine zg_iload hO 0 dX4_copiesTo_87 rfl ?_
      refine zg_aload_n hO 2 dX4_copiesTo_89 rfl rfl ?_
      refine mG_72 hO dX4_copiesTo_90 ?_
      refine zg_iload hO 1 dX4_copiesTo_93 rfl ?_
      refine mL_11 hO h dX4_copiesTo_95 (fun h => ?_)
      refine mS_11 hO h dX4_copiesTo_96 (fun h => ?_)
      refine zg_aload_n hO 2 dX4_copiesTo_97 rfl rfl ?_
      refine mG_75 hO dX4_copiesTo_98 ?_
      refine zg_iload hO 0 dX4_copiesTo_101 rfl ?_
      refine zg_aload_n hO 2 dX4_copiesTo_103 rfl rfl ?_
      refine mG_75 hO dX4_copiesTo_104 ?_
      refine zg_iload hO 1 dX4_copiesTo_107 rfl ?_
      refine mL_12 hO h dX4_copiesTo_109 (fun h => ?_)
      refine mS_12 hO h dX4_copiesTo_110 (fun h => ?_)
      refine zg_aload_n hO 2 dX4_copiesTo_111 rfl rfl ?_
      refine mG_78 hO dX4_copiesTo_112 ?_
      refine zg_iload hO 0 dX4_copiesTo_115 rfl ?_
      refine zg_aload_n hO 2 dX4_copiesTo_117 rfl rfl ?_
      refine mG_78 hO dX4_copiesTo_118 ?_
      refine zg_iload hO 1 dX4_copiesTo_121 rfl ?_
      refine mL_13 hO h dX4_copiesTo_123 (fun h => ?_)
      refine mS_13 hO h dX4_copiesTo_124 (fun h => ?_)
      refine zg_iinc (k := 6) (lv' := [(4, .int (x4 + (nI 1))), (6, .int q2), (5, .int q1), (0, .ref (G 0)), (1, .int x1), (2, .int x2), (3, .int x3)]) hO dX4_copiesTo_125 rfl (zii ic1) (Nat.le_of_ble_eq_true rfl) rfl ?_
      refine zg_goto (tgt := 30) hO dX4_copiesTo_128 (by decide) ?_
      exact zg_sub [3, 4, 5, 6, 0] rfl (ih _ _ _ _ _ h)
set_option maxHeartbeats 4000000 in
theorem w_M_copiesTo_2 (hO : Ok p s m args meth c cX4_copiesTo RX4 7 D dA (AG G s.heap.size)) (hr : meth.sig.returnType = none) {ρ : MS} : ∀ (n : Nat) (x1 : Int32) (x2 : Int32) (x3 : Int32) (σ : MS), M_copiesTo_2 n x1 x2 x3 σ = some ρ → Go p l e (rmG 1 0 0) s m args below meth c D (AG G s.heap.size) 7 (MQ below ((QfV D dA (WM dA G ρ)) (AG G s.heap.size)) args s 0 0 (AG G s.heap.size)) (WM dA G σ) 0 0 2 [(0, .ref (G 0)), (1, .int x1), (2, .int x2), (3, .int x3)] [] := by
  intro n
  induction n with
  | zero =>
    intro x1 x2 x3 σ h
    rw [M_copiesTo_2] at h
    cases h
  | succ n ih =>
    intro x1 x2 x3 σ h
    rw [M_copiesTo_2] at h
    refine zg_iload_n hO 3 dX4_copiesTo_2 rfl rfl ?_
    refine zg_iconst hO dX4_copiesTo_3 ic2 ?_
    refine zg_icmp_ge (tgt := 137) hO h dX4_copiesTo_4 (by decide) (fun h => ?_) (fun h => ?_)
    · exact zm_vret hO hr h dX4_copiesTo_137
    · refine zg_aload_n hO 0 dX4_copiesTo_7 rfl rfl ?_
      refine mG_66 hO dX4_copiesTo_8 ?_
      refine zg_iconst hO dX4_copiesTo_11 ic2 ?_
      refine zg_iload_n hO 2 dX4_copiesTo_12 rfl rfl ?_
      refine zg_imul hO dX4_copiesTo_13 ?_
      refine zg_iload_n hO 3 dX4_copiesTo_14 rfl rfl ?_
      refine zg_iadd hO dX4_copiesTo_15 ?_
      refine zg_aload_n hO 0 dX4_copiesTo_16 rfl rfl ?_
      refine mG_66 hO dX4_copiesTo_17 ?_
      refine zg_iconst hO dX4_copiesTo_20 ic2 ?_
      refine zg_iload_n hO 1 dX4_copiesTo_21 rfl rfl ?_
      refine zg_imul hO dX4_copiesTo_22 ?_
      refine zg_iload_n hO 3 dX4_copiesTo_23 rfl rfl ?_
      refine zg_iadd hO dX4_copiesTo_24 ?_
      refine mL_9 hO h dX4_copiesTo_25 (fun h => ?_)
      refine mS_9 hO h dX4_copiesTo_26 (fun h => ?_)
      refine zg_iconst hO dX4_copiesTo_27 ic0 ?_
      refine zg_istore (lv' := [(4, .int (nI 0)), (0, .ref (G 0)), (1, .int x1), (2, .int x2), (3, .int x3)]) hO dX4_copiesTo_28 (Nat.le_of_ble_eq_true rfl) rfl ?_
      exact zg_sub [1, 2, 3, 4, 0] rfl (w_M_copiesTo_30 hO hr ih _ _ _ _ _ _ h)
theorem mw_X4_copiesTo : MwV yX4_copiesTo cX4_copiesTo 7 none RX4 2 := ⟨by decide +kernel, q1983, qs70, q106, q1984⟩
set_option maxHeartbeats 4000000 in
theorem m_copiesTo (l : Launch) (D : va_G) (dA : Nat → ClassId) (G : Nat → Nat) {x1 : Int32} {x2 : Int32} {σ : MS} {ρ : MS} (h : M_copiesTo x1 x2 σ = some ρ) : Ct l yX4_copiesTo (ws_ yX4_copiesTo cX4_copiesTo 7 none) 1 0 0 D dA [.ref (G 0), .int x1, .int x2] (WM dA G σ) (AG G) (QfV D dA (WM dA G ρ)) := by
  refine zc_start (cc := cX4_copiesTo) (nL := 7) (ret := none) (own := RX4) (by decide) rfl rfl (Nat.le_of_ble_eq_true rfl) wm_A (fun p e s m args below meth c hO hr _ _ => ?_)
  unfold M_copiesTo at h
  refine zg_sub (lv' := [(0, .ref (G 0)), (1, .int x1), (2, .int x2)]) [0, 1, 2] rfl ?_
  refine zg_iconst hO dX4_copiesTo_0 ic0 ?_
  refine zg_istore_n (lv' := [(3, .int (nI 0)), (0, .ref (G 0)), (1, .int x1), (2, .int x2)]) hO dX4_copiesTo_1 rfl (Nat.le_of_ble_eq_true rfl) rfl ?_
  exact zg_sub [1, 2, 3, 0] rfl (w_M_copiesTo_2 hO hr _ _ _ _ _ h)
theorem mw_X4_copies : MwV yX4_copies cX4_copies 3 (some .int) RX4 2 := ⟨by decide +kernel, q1978, q1979, q106, q1980⟩
set_option maxHeartbeats 4000000 in
theorem m_copies (l : Launch) (D : va_G) (dA : Nat → ClassId) (G : Nat → Nat) {x1 : Int32} {x2 : Int32} {σ : MS} {ρ : Int32 × MS} (h : M_copies x1 x2 σ = some ρ) : Ct l yX4_copies (ws_ yX4_copies cX4_copies 3 (some .int)) 2 0 0 D dA [.ref (G 0), .int x1, .int x2] (WM dA G σ) (AG G) (QfI D dA (WM dA G ρ.2) ρ.1) := by
  refine zc_start (cc := cX4_copies) (nL := 3) (ret := (some .int)) (own := RX4) (by decide) rfl rfl (Nat.le_of_ble_eq_true rfl) wm_A (fun p e s m args below meth c hO hr _ _ => ?_)
  unfold M_copies at h
  refine zg_sub (lv' := [(0, .ref (G 0)), (1, .int x1), (2, .int x2)]) [0, 1, 2] rfl ?_
  refine zg_aload_n hO 0 dX4_copies_0 rfl rfl ?_
  refine zg_iconst hO dX4_copies_1 ic0 ?_
  refine mP_1 hO dX4_copies_2 ?_
  refine zg_iload_n hO 1 dX4_copies_5 rfl rfl ?_
  refine zs_calli (As := [.int x1]) (rest := []) hO h (fun q hq => m_isLine l D dA hq) mw_X4_isLine q1958 ⟨Nat.le_of_ble_eq_true rfl, Nat.le_of_ble_eq_true rfl⟩ ⟨Nat.le_refl _, Nat.le_refl _⟩ rfl rfl (Nat.le_of_ble_eq_true rfl) dX4_copies_6 (fun q1 h => ?_)
  refine zg_if_eq (tgt := 19) hO h dX4_copies_9 (by decide) (fun h => ?_) (fun h => ?_)
  · refine zg_iconst hO dX4_copies_19 icm1 ?_
    exact zm_iret hO hr h dX4_copies_20
  · refine zg_iload_n hO 2 dX4_copies_12 rfl rfl ?_
    refine zs_calli (As := [.int x2]) (rest := []) hO h (fun q hq => m_isLine l D dA hq) mw_X4_isLine q1958 ⟨Nat.le_of_ble_eq_true rfl, Nat.le_of_ble_eq_true rfl⟩ ⟨Nat.le_refl _, Nat.le_refl _⟩ rfl rfl (Nat.le_of_ble_eq_true rfl) dX4_copies_13 (fun q2 h => ?_)
    refine zg_if_ne (tgt := 21) hO h dX4_copies_16 (by decide) (fun h => ?_) (fun h => ?_)
    · refine zg_iload_n hO 1 dX4_copies_21 rfl rfl ?_
      refine zg_iload_n hO 2 dX4_copies_22 rfl rfl ?_
      refine zg_icmp_ne (tgt := 29) hO h dX4_copies_23 (by decide) (fun h => ?_) (fun h => ?_)
      · refine zg_aload_n hO 0 dX4_copies_29 rfl rfl ?_
        refine zg_iload_n hO 1 dX4_copies_30 rfl rfl ?_
        refine zg_iload_n hO 2 dX4_copies_31 rfl rfl ?_
        refine zm_callVv (As := [.int x1, .int x2]) (rest := []) hO h (fun q hq => m_copiesTo l D dA G hq) mw_X4_copiesTo q1981 ⟨Nat.le_of_ble_eq_true rfl, Nat.le_of_ble_eq_true rfl⟩ rfl rfl (Nat.le_of_ble_eq_true rfl) dX4_copies_32 (fun q3 h => ?_)
        refine zg_aload_n hO 0 dX4_copies_35 rfl rfl ?_
        refine zg_iload_n hO 1 dX4_copies_36 rfl rfl ?_
        refine zm_callVi (As := [.int x1]) (rest := []) hO h (fun q hq => m_sizeOf l D dA G hq) mw_X4_sizeOf q1896 ⟨Nat.le_of_ble_eq_true rfl, Nat.le_of_ble_eq_true rfl⟩ rfl rfl (Nat.le_of_ble_eq_true rfl) dX4_copies_37 (fun q4 h => ?_)
        exact zm_iret hO hr h dX4_copies_40
      · refine zg_bipush hO dX4_copies_26 bcm2 ?_
        exact zm_iret hO hr h dX4_copies_28
    · refine zg_iconst hO dX4_copies_19 icm1 ?_
      exact zm_iret hO hr h dX4_copies_20
set_option maxHeartbeats 4000000 in
theorem w_M_joins_51 (hO : Ok p s m args meth c cX4_joins RX4 5 D dA (AG G s.heap.size)) (hr : meth.sig.returnType = (some .int)) {ρ : Int32 × MS} : ∀ (n : Nat) (x1 : Int32) (x3 : Int32) (σ : MS), M_joins_51 n x1 x3 σ = some ρ → Go p l e (rmG 7 0 0) s m args below meth c D (AG G s.heap.size) 5 (MQ below ((QfI D dA (WM dA G ρ.2) ρ.1) (AG G s.heap.size)) args s 0 0 (AG G s.heap.size)) (WM dA G σ) 0 0 51 [(0, .ref (G 0)), (1, .int x1), (3, .int x3)] [] := by
  intro n
  induction n with
  | zero =>
    intro x1 x3 σ h
    rw [M_joins_51] at h
    cases h
  | succ n ih =>
    intro x1 x3 σ h
    rw [M_joins_51] at h
    refine zg_aload_n hO 0 dX4_joins_51 rfl rfl ?_
    refine zg_iconst hO dX4_joins_52 ic4 ?_
    refine zm_callVi (As := [.int (nI 4)]) (rest := []) hO h (fun q hq => m_sizeOf l D dA G hq) mw_X4_sizeOf q1896 ⟨Nat.le_of_ble_eq_true rfl, Nat.le_of_ble_eq_true rfl⟩ rfl rfl (Nat.le_of_ble_eq_true rfl) dX4_joins_53 (fun q6 h => ?_)
    refine zg_if_le (tgt := 81) hO h dX4_joins_56 (by decide) (fun h => ?_) (fun h => ?_)
    · refine zg_aload_n hO 0 dX4_joins_81 rfl rfl ?_
      refine zg_iload_n hO 2 dX4_joins_82 rfl rfl ?_
      refine zg_aload_n hO 0 dX4_joins_83 rfl rfl ?_
      refine zg_iload_n hO 1 dX4_joins_84 rfl rfl ?_
      refine zm_callVi (As := [.int x1]) (rest := [.int x3, .ref (G 0)]) hO h (fun q hq => m_sizeOf l D dA G hq) mw_X4_sizeOf q1896 ⟨Nat.le_of_ble_eq_true rfl, Nat.le_of_ble_eq_true rfl⟩ rfl rfl (Nat.le_of_ble_eq_true rfl) dX4_joins_85 (fun q7 h => ?_)
      refine zm_callVi (As := [.int x3, .int q7.1]) (rest := []) hO h (fun q hq => m_tellsWork l D dA G hq) mw_X4_tellsWork q1973 ⟨Nat.le_of_ble_eq_true rfl, Nat.le_of_ble_eq_true rfl⟩ rfl rfl (Nat.le_of_ble_eq_true rfl) dX4_joins_88 (fun q8 h => ?_)
      exact zm_iret hO hr h dX4_joins_91
    · refine zg_aload_n hO 0 dX4_joins_59 rfl rfl ?_
      refine zg_iconst hO dX4_joins_60 ic4 ?_
      refine zg_iconst hO dX4_joins_61 ic0 ?_
      refine zm_callVi (As := [.int (nI 4), .int (nI 0)]) (rest := []) hO h (fun q hq => m_takesOne l D dA G hq) mw_X4_takesOne q1969 ⟨Nat.le_of_ble_eq_true rfl, Nat.le_of_ble_eq_true rfl⟩ rfl rfl (Nat.le_of_ble_eq_true rfl) dX4_joins_62 (fun q9 h => ?_)
      refine zg_istore (lv' := [(4, .int q9.1), (0, .ref (G 0)), (1, .int x1), (3, .int x3)]) hO dX4_joins_65 (Nat.le_of_ble_eq_true rfl) rfl ?_
      refine zg_aload_n hO 1 dX4_joins_67 rfl rfl ?_
      refine zg_iconst hO dX4_joins_68 ic2 ?_
      refine zg_iload_n hO 2 dX4_joins_69 rfl rfl ?_
      refine zg_imul hO dX4_joins_70 ?_
      refine zg_iconst hO dX4_joins_71 ic1 ?_
      refine zg_iadd hO dX4_joins_72 ?_
      refine zg_iload hO 0 dX4_joins_73 rfl ?_
      refine zm_callVv (As := [.int (((nI 2) * x1) + (nI 1)), .int q9.1]) (rest := []) hO h (fun q hq => m_makes l D dA G hq) mw_X4_makes q1915 ⟨Nat.le_of_ble_eq_true rfl, Nat.le_of_ble_eq_true rfl⟩ rfl rfl (Nat.le_of_ble_eq_true rfl) dX4_joins_75 (fun q10 h => ?_)
      refine zg_goto (tgt := 51) hO dX4_joins_78 (by decide) ?_
      exact zg_sub [1, 2, 3] rfl (ih _ _ _ h)
theorem mw_X4_joins : MwV yX4_joins cX4_joins 5 (some .int) RX4 2 := ⟨by decide +kernel, q1986, q1987, q106, q1988⟩
set_option maxHeartbeats 4000000 in
theorem m_joins (l : Launch) (D : va_G) (dA : Nat → ClassId) (G : Nat → Nat) {x1 : Int32} {x2 : Int32} {σ : MS} {ρ : Int32 × MS} (h : M_joins x1 x2 σ = some ρ) : Ct l yX4_joins (ws_ yX4_joins cX4_joins 5 (some .int)) 7 0 0 D dA [.ref (G 0), .int x1, .int x2] (WM dA G σ) (AG G) (QfI D dA (WM dA G ρ.2) ρ.1) := by
  refine zc_start (cc := cX4_joins) (nL := 5) (ret := (some .int)) (own := RX4) (by decide) rfl rfl (Nat.le_of_ble_eq_true rfl) wm_A (fun p e s m args below meth c hO hr _ _ => ?_)
  unfold M_joins at h
  refine zg_sub (lv' := [(0, .ref (G 0)), (1, .int x1), (2, .int x2)]) [0, 1, 2] rfl ?_
  refine zg_aload_n hO 0 dX4_joins_0 rfl rfl ?_
  refine zg_iconst hO dX4_joins_1 ic0 ?_
  refine mP_1 hO dX4_joins_2 ?_
  refine zg_iload_n hO 1 dX4_joins_5 rfl rfl ?_
  refine zs_calli (As := [.int x1]) (rest := []) hO h (fun q hq => m_isLine l D dA hq) mw_X4_isLine q1958 ⟨Nat.le_of_ble_eq_true rfl, Nat.le_of_ble_eq_true rfl⟩ ⟨Nat.le_refl _, Nat.le_refl _⟩ rfl rfl (Nat.le_of_ble_eq_true rfl) dX4_joins_6 (fun q1 h => ?_)
  refine zg_if_eq (tgt := 19) hO h dX4_joins_9 (by decide) (fun h => ?_) (fun h => ?_)
  · refine zg_iconst hO dX4_joins_19 icm1 ?_
    exact zm_iret hO hr h dX4_joins_20
  · refine zg_iload_n hO 2 dX4_joins_12 rfl rfl ?_
    refine zs_calli (As := [.int x2]) (rest := []) hO h (fun q hq => m_isLine l D dA hq) mw_X4_isLine q1958 ⟨Nat.le_of_ble_eq_true rfl, Nat.le_of_ble_eq_true rfl⟩ ⟨Nat.le_refl _, Nat.le_refl _⟩ rfl rfl (Nat.le_of_ble_eq_true rfl) dX4_joins_13 (fun q2 h => ?_)
    refine zg_if_ne (tgt := 21) hO h dX4_joins_16 (by decide) (fun h => ?_) (fun h => ?_)
    · refine zg_aload_n hO 0 dX4_joins_21 rfl rfl ?_
      refine zg_iload_n hO 1 dX4_joins_22 rfl rfl ?_
      refine zm_callVi (As := [.int x1]) (rest := []) hO h (fun q hq => m_sizeOf l D dA G hq) mw_X4_sizeOf q1896 ⟨Nat.le_of_ble_eq_true rfl, Nat.le_of_ble_eq_true rfl⟩ rfl rfl (Nat.le_of_ble_eq_true rfl) dX4_joins_23 (fun q3 h => ?_)
      refine zg_aload_n hO 0 dX4_joins_26 rfl rfl ?_
      refine zg_iload_n hO 2 dX4_joins_27 rfl rfl ?_
      refine zm_callVi (As := [.int x2]) (rest := [.int q3.1]) hO h (fun q hq => m_sizeOf l D dA G hq) mw_X4_sizeOf q1896 ⟨Nat.le_of_ble_eq_true rfl, Nat.le_of_ble_eq_true rfl⟩ rfl rfl (Nat.le_of_ble_eq_true rfl) dX4_joins_28 (fun q4 h => ?_)
      refine zg_iadd hO dX4_joins_31 ?_
      refine zg_bipush hO dX4_joins_32 bc64 ?_
      refine zg_icmp_le (tgt := 40) hO h dX4_joins_34 (by decide) (fun h => ?_) (fun h => ?_)
      · refine zg_aload_n hO 0 dX4_joins_40 rfl rfl ?_
        refine mG_184 hO dX4_joins_41 ?_
        refine zg_istore_n (lv' := [(3, .int (gI q4.2 8)), (0, .ref (G 0)), (1, .int x1), (2, .int x2)]) hO dX4_joins_44 rfl (Nat.le_of_ble_eq_true rfl) rfl ?_
        refine zg_aload_n hO 1 dX4_joins_45 rfl rfl ?_
        refine zg_iload_n hO 3 dX4_joins_46 rfl rfl ?_
        refine zg_iconst hO dX4_joins_47 ic4 ?_
        refine zm_callVv (As := [.int x2, .int (nI 4)]) (rest := []) hO h (fun q hq => m_copiesTo l D dA G hq) mw_X4_copiesTo q1981 ⟨Nat.le_of_ble_eq_true rfl, Nat.le_of_ble_eq_true rfl⟩ rfl rfl (Nat.le_of_ble_eq_true rfl) dX4_joins_48 (fun q5 h => ?_)
        exact zg_sub [1, 2, 0] rfl (w_M_joins_51 hO hr _ _ _ _ h)
      · refine zg_bipush hO dX4_joins_37 bcm3 ?_
        exact zm_iret hO hr h dX4_joins_39
    · refine zg_iconst hO dX4_joins_19 icm1 ?_
      exact zm_iret hO hr h dX4_joins_20
theorem mw_X4_parts : MwV yX4_parts cX4_parts 5 (some .int) RX4 3 := ⟨by decide +kernel, q1990, q1991, q106, q1992⟩
set_option maxHeartbeats 4000000 in
theorem m_parts (l : Launch) (D : va_G) (dA : Nat → ClassId) (G : Nat → Nat) {x1 : Int32} {x2 : Int32} {x3 : Int32} {σ : MS} {ρ : Int32 × MS} (h : M_parts x1 x2 x3 σ = some ρ) : Ct l yX4_parts (ws_ yX4_parts cX4_parts 5 (some .int)) 6 0 0 D dA [.ref (G 0), .int x1, .int x2, .int x3] (WM dA G σ) (AG G) (QfI D dA (WM dA G ρ.2) ρ.1) := by
  refine zc_start (cc := cX4_parts) (nL := 5) (ret := (some .int)) (own := RX4) (by decide) rfl rfl (Nat.le_of_ble_eq_true rfl) wm_A (fun p e s m args below meth c hO hr _ _ => ?_)
  unfold M_parts at h
  refine zg_sub (lv' := [(0, .ref (G 0)), (1, .int x1), (2, .int x2), (3, .int x3)]) [0, 1, 2, 3] rfl ?_
  refine zg_aload_n hO 0 dX4_parts_0 rfl rfl ?_
  refine zg_iconst hO dX4_parts_1 ic0 ?_
  refine mP_1 hO dX4_parts_2 ?_
  refine zg_iload_n hO 1 dX4_parts_5 rfl rfl ?_
  refine zs_calli (As := [.int x1]) (rest := []) hO h (fun q hq => m_isLine l D dA hq) mw_X4_isLine q1958 ⟨Nat.le_of_ble_eq_true rfl, Nat.le_of_ble_eq_true rfl⟩ ⟨Nat.le_refl _, Nat.le_refl _⟩ rfl rfl (Nat.le_of_ble_eq_true rfl) dX4_parts_6 (fun q1 h => ?_)
  refine zg_if_eq (tgt := 23) hO h dX4_parts_9 (by decide) (fun h => ?_) (fun h => ?_)
  · refine zg_iconst hO dX4_parts_23 icm1 ?_
    exact zm_iret hO hr h dX4_parts_24
  · refine zg_iload_n hO 3 dX4_parts_12 rfl rfl ?_
    refine zs_calli (As := [.int x3]) (rest := []) hO h (fun q hq => m_isLine l D dA hq) mw_X4_isLine q1958 ⟨Nat.le_of_ble_eq_true rfl, Nat.le_of_ble_eq_true rfl⟩ ⟨Nat.le_refl _, Nat.le_refl _⟩ rfl rfl (Nat.le_of_ble_eq_true rfl) dX4_parts_13 (fun q2 h => ?_)
    refine zg_if_eq (tgt := 23) hO h dX4_parts_16 (by decide) (fun h => ?_) (fun h => ?_)
    · refine zg_iconst hO dX4_parts_23 icm1 ?_
      exact zm_iret hO hr h dX4_parts_24
    · refine zg_iload_n hO 2 dX4_parts_19 rfl rfl ?_
      refine zg_if_ge (tgt := 25) hO h dX4_parts_20 (by decide) (fun h => ?_) (fun h => ?_)
      · refine zg_iload_n hO 1 dX4_parts_25 rfl rfl ?_
        refine zg_iload_n hO 3 dX4_parts_26 rfl rfl ?_
        refine zg_icmp_ne (tgt := 33) hO h dX4_parts_27 (by decide) (fun h => ?_) (fun h => ?_)
        · refine zg_aload_n hO 0 dX4_parts_33 rfl rfl ?_
          refine zg_iload_n hO 1 dX4_parts_34 rfl rfl ?_
          refine zm_callVi (As := [.int x1]) (rest := []) hO h (fun q hq => m_sizeOf l D dA G hq) mw_X4_sizeOf q1896 ⟨Nat.le_of_ble_eq_true rfl, Nat.le_of_ble_eq_true rfl⟩ rfl rfl (Nat.le_of_ble_eq_true rfl) dX4_parts_35 (fun q3 h => ?_)
          refine zg_istore (lv' := [(4, .int q3.1), (0, .ref (G 0)), (1, .int x1), (2, .int x2), (3, .int x3)]) hO dX4_parts_38 (Nat.le_of_ble_eq_true rfl) rfl ?_
          refine zg_iload_n hO 3 dX4_parts_40 rfl rfl ?_
          refine zg_iload hO 0 dX4_parts_41 rfl ?_
          refine zg_icmp_le (tgt := 49) hO h dX4_parts_43 (by decide) (fun h => ?_) (fun h => ?_)
          · refine zg_aload_n hO 1 dX4_parts_49 rfl rfl ?_
            refine zg_iload_n hO 2 dX4_parts_50 rfl rfl ?_
            refine zm_callVi (As := [.int x1]) (rest := []) hO h (fun q hq => m_takesItems l D dA G hq) mw_X4_takesItems q1892 ⟨Nat.le_of_ble_eq_true rfl, Nat.le_of_ble_eq_true rfl⟩ rfl rfl (Nat.le_of_ble_eq_true rfl) dX4_parts_51 (fun q4 h => ?_)
            refine zg_pop hO dX4_parts_54 rfl ?_
            refine zg_aload_n hO 1 dX4_parts_55 rfl rfl ?_
            refine zg_iload_n hO 2 dX4_parts_56 rfl rfl ?_
            refine zg_iconst hO dX4_parts_57 ic0 ?_
            refine zg_iload_n hO 3 dX4_parts_58 rfl rfl ?_
            refine zg_iload_n hO 3 dX4_parts_59 rfl rfl ?_
            refine zg_iconst hO dX4_parts_60 ic1 ?_
            refine zg_iadd hO dX4_parts_61 ?_
            refine zg_iconst hO dX4_parts_62 ic2 ?_
            refine zg_idiv hO h dX4_parts_63 (fun h => ?_)
            refine zm_callVv (As := [.int x1, .int (nI 0), .int x2, .int ((x2 + (nI 1)) / (nI 2))]) (rest := []) hO h (fun q hq => m_lays_2 l D dA G hq) mw_X4_lays_2 q1911 ⟨Nat.le_of_ble_eq_true rfl, Nat.le_of_ble_eq_true rfl⟩ rfl rfl (Nat.le_of_ble_eq_true rfl) dX4_parts_64 (fun q5 h => ?_)
            refine zg_aload_n hO 1 dX4_parts_67 rfl rfl ?_
            refine zg_iload_n hO 4 dX4_parts_68 rfl rfl ?_
            refine zg_iload_n hO 3 dX4_parts_69 rfl rfl ?_
            refine zg_iload hO 0 dX4_parts_70 rfl ?_
            refine zg_iload_n hO 3 dX4_parts_72 rfl rfl ?_
            refine zg_isub hO dX4_parts_73 ?_
            refine zg_iload hO 0 dX4_parts_74 rfl ?_
            refine zg_iload_n hO 3 dX4_parts_76 rfl rfl ?_
            refine zg_isub hO dX4_parts_77 ?_
            refine zg_iconst hO dX4_parts_78 ic1 ?_
            refine zg_iadd hO dX4_parts_79 ?_
            refine zg_iconst hO dX4_parts_80 ic2 ?_
            refine zg_idiv hO h dX4_parts_81 (fun h => ?_)
            refine zm_callVv (As := [.int x3, .int x2, .int (q3.1 - x2), .int (((q3.1 - x2) + (nI 1)) / (nI 2))]) (rest := []) hO h (fun q hq => m_lays_2 l D dA G hq) mw_X4_lays_2 q1911 ⟨Nat.le_of_ble_eq_true rfl, Nat.le_of_ble_eq_true rfl⟩ rfl rfl (Nat.le_of_ble_eq_true rfl) dX4_parts_82 (fun q6 h => ?_)
            refine zg_iload hO 0 dX4_parts_85 rfl ?_
            refine zg_iload_n hO 3 dX4_parts_87 rfl rfl ?_
            refine zg_isub hO dX4_parts_88 ?_
            exact zm_iret hO hr h dX4_parts_89
          · refine zg_bipush hO dX4_parts_46 bcm3 ?_
            exact zm_iret hO hr h dX4_parts_48
        · refine zg_bipush hO dX4_parts_30 bcm2 ?_
          exact zm_iret hO hr h dX4_parts_32
      · refine zg_iconst hO dX4_parts_23 icm1 ?_
        exact zm_iret hO hr h dX4_parts_24
set_option maxHeartbeats 4000000 in
theorem w_M_turns_20 (hO : Ok p s m args meth c cX4_turns RX4 6 D dA (AG G s.heap.size)) (hr : meth.sig.returnType = (some .int)) {ρ : Int32 × MS} : ∀ (n : Nat) (x1 : Int32) (x2 : Int32) (x3 : Int32) (x4 : Int32) (σ : MS), M_turns_20 n x1 x2 x3 x4 σ = some ρ → Go p l e (rmG 6 0 0) s m args below meth c D (AG G s.heap.size) 6 (MQ below ((QfI D dA (WM dA G ρ.2) ρ.1) (AG G s.heap.size)) args s 0 0 (AG G s.heap.size)) (WM dA G σ) 0 0 20 [(0, .ref (G 0)), (1, .int x1), (2, .int x2), (3, .int x3), (4, .int x4)] [] := by
  intro n
  induction n with
  | zero =>
    intro x1 x2 x3 x4 σ h
    rw [M_turns_20] at h
    cases h
  | succ n ih =>
    intro x1 x2 x3 x4 σ h
    rw [M_turns_20] at h
    refine zg_iload hO 4 dX4_turns_20 rfl ?_
    refine zg_iload_n hO 3 dX4_turns_22 rfl rfl ?_
    refine zg_iconst hO dX4_turns_23 ic2 ?_
    refine zg_idiv hO h dX4_turns_24 (fun h => ?_)
    refine zg_icmp_ge (tgt := 74) hO h dX4_turns_25 (by decide) (fun h => ?_) (fun h => ?_)
    · refine zg_aload_n hO 0 dX4_turns_74 rfl rfl ?_
      refine zg_iload_n hO 1 dX4_turns_75 rfl rfl ?_
      refine zg_iconst hO dX4_turns_76 ic0 ?_
      refine zg_iload_n hO 3 dX4_turns_77 rfl rfl ?_
      refine zg_iload_n hO 2 dX4_turns_78 rfl rfl ?_
      refine zm_callVv (As := [.int x1, .int (nI 0), .int x3, .int x2]) (rest := []) hO h (fun q hq => m_lays_2 l D dA G hq) mw_X4_lays_2 q1911 ⟨Nat.le_of_ble_eq_true rfl, Nat.le_of_ble_eq_true rfl⟩ rfl rfl (Nat.le_of_ble_eq_true rfl) dX4_turns_79 (fun q2 h => ?_)
      refine zg_iload_n hO 3 dX4_turns_82 rfl rfl ?_
      exact zm_iret hO hr h dX4_turns_83
    · refine zg_aload_n hO 0 dX4_turns_28 rfl rfl ?_
      refine mG_81 hO dX4_turns_29 ?_
      refine zg_iload hO 4 dX4_turns_32 rfl ?_
      refine mL_14 hO h dX4_turns_34 (fun h => ?_)
      refine zg_istore (lv' := [(5, .int (gA σ 8 x4.toNatClampNeg)), (0, .ref (G 0)), (1, .int x1), (2, .int x2), (3, .int x3), (4, .int x4)]) hO dX4_turns_35 (Nat.le_of_ble_eq_true rfl) rfl ?_
      refine zg_aload_n hO 1 dX4_turns_37 rfl rfl ?_
      refine mG_81 hO dX4_turns_38 ?_
      refine zg_iload hO 5 dX4_turns_41 rfl ?_
      refine zg_aload_n hO 1 dX4_turns_43 rfl rfl ?_
      refine mG_81 hO dX4_turns_44 ?_
      refine zg_iload_n hO 4 dX4_turns_47 rfl rfl ?_
      refine zg_iconst hO dX4_turns_48 ic1 ?_
      refine zg_isub hO dX4_turns_49 ?_
      refine zg_iload hO 5 dX4_turns_50 rfl ?_
      refine zg_isub hO dX4_turns_52 ?_
      refine mL_14 hO h dX4_turns_53 (fun h => ?_)
      refine mS_14 hO h dX4_turns_54 (fun h => ?_)
      refine zg_aload_n hO 1 dX4_turns_55 rfl rfl ?_
      refine mG_81 hO dX4_turns_56 ?_
      refine zg_iload_n hO 4 dX4_turns_59 rfl rfl ?_
      refine zg_iconst hO dX4_turns_60 ic1 ?_
      refine zg_isub hO dX4_turns_61 ?_
      refine zg_iload hO 5 dX4_turns_62 rfl ?_
      refine zg_isub hO dX4_turns_64 ?_
      refine zg_iload hO 0 dX4_turns_65 rfl ?_
      refine mS_14 hO h dX4_turns_67 (fun h => ?_)
      refine zg_iinc (k := 5) (lv' := [(4, .int (x4 + (nI 1))), (5, .int (gA σ 8 x4.toNatClampNeg)), (0, .ref (G 0)), (1, .int x1), (2, .int x2), (3, .int x3)]) hO dX4_turns_68 rfl (zii ic1) (Nat.le_of_ble_eq_true rfl) rfl ?_
      refine zg_goto (tgt := 20) hO dX4_turns_71 (by decide) ?_
      exact zg_sub [2, 3, 4, 5, 0] rfl (ih _ _ _ _ _ h)
theorem mw_X4_turns : MwV yX4_turns cX4_turns 6 (some .int) RX4 1 := ⟨by decide +kernel, q1999, qs71, q106, q2000⟩
set_option maxHeartbeats 4000000 in
theorem m_turns (l : Launch) (D : va_G) (dA : Nat → ClassId) (G : Nat → Nat) {x1 : Int32} {σ : MS} {ρ : Int32 × MS} (h : M_turns x1 σ = some ρ) : Ct l yX4_turns (ws_ yX4_turns cX4_turns 6 (some .int)) 6 0 0 D dA [.ref (G 0), .int x1] (WM dA G σ) (AG G) (QfI D dA (WM dA G ρ.2) ρ.1) := by
  refine zc_start (cc := cX4_turns) (nL := 6) (ret := (some .int)) (own := RX4) (by decide) rfl rfl (Nat.le_of_ble_eq_true rfl) wm_A (fun p e s m args below meth c hO hr _ _ => ?_)
  unfold M_turns at h
  refine zg_sub (lv' := [(0, .ref (G 0)), (1, .int x1)]) [0, 1] rfl ?_
  refine zg_aload_n hO 0 dX4_turns_0 rfl rfl ?_
  refine mG_66 hO dX4_turns_1 ?_
  refine zg_iconst hO dX4_turns_4 ic2 ?_
  refine zg_iload_n hO 1 dX4_turns_5 rfl rfl ?_
  refine zg_imul hO dX4_turns_6 ?_
  refine zg_iconst hO dX4_turns_7 ic1 ?_
  refine zg_iadd hO dX4_turns_8 ?_
  refine mL_9 hO h dX4_turns_9 (fun h => ?_)
  refine zg_istore_n (lv' := [(2, .int (gA σ 5 (((nI 2) * x1) + (nI 1)).toNatClampNeg)), (0, .ref (G 0)), (1, .int x1)]) hO dX4_turns_10 rfl (Nat.le_of_ble_eq_true rfl) rfl ?_
  refine zg_aload_n hO 1 dX4_turns_11 rfl rfl ?_
  refine zg_iload_n hO 2 dX4_turns_12 rfl rfl ?_
  refine zm_callVi (As := [.int x1]) (rest := []) hO h (fun q hq => m_takesItems l D dA G hq) mw_X4_takesItems q1892 ⟨Nat.le_of_ble_eq_true rfl, Nat.le_of_ble_eq_true rfl⟩ rfl rfl (Nat.le_of_ble_eq_true rfl) dX4_turns_13 (fun q1 h => ?_)
  refine zg_istore_n (lv' := [(3, .int q1.1), (2, .int (gA σ 5 (((nI 2) * x1) + (nI 1)).toNatClampNeg)), (0, .ref (G 0)), (1, .int x1)]) hO dX4_turns_16 rfl (Nat.le_of_ble_eq_true rfl) rfl ?_
  refine zg_iconst hO dX4_turns_17 ic0 ?_
  refine zg_istore (lv' := [(4, .int (nI 0)), (3, .int q1.1), (2, .int (gA σ 5 (((nI 2) * x1) + (nI 1)).toNatClampNeg)), (0, .ref (G 0)), (1, .int x1)]) hO dX4_turns_18 (Nat.le_of_ble_eq_true rfl) rfl ?_
  exact zg_sub [3, 4, 2, 1, 0] rfl (w_M_turns_20 hO hr _ _ _ _ _ _ h)
theorem mw_X4_reverses : MwV yX4_reverses cX4_reverses 2 (some .int) RX4 1 := ⟨by decide +kernel, q1994, q1995, q106, q1996⟩
set_option maxHeartbeats 4000000 in
theorem m_reverses (l : Launch) (D : va_G) (dA : Nat → ClassId) (G : Nat → Nat) {x1 : Int32} {σ : MS} {ρ : Int32 × MS} (h : M_reverses x1 σ = some ρ) : Ct l yX4_reverses (ws_ yX4_reverses cX4_reverses 2 (some .int)) 7 0 0 D dA [.ref (G 0), .int x1] (WM dA G σ) (AG G) (QfI D dA (WM dA G ρ.2) ρ.1) := by
  refine zc_start (cc := cX4_reverses) (nL := 2) (ret := (some .int)) (own := RX4) (by decide) rfl rfl (Nat.le_of_ble_eq_true rfl) wm_A (fun p e s m args below meth c hO hr _ _ => ?_)
  unfold M_reverses at h
  refine zg_sub (lv' := [(0, .ref (G 0)), (1, .int x1)]) [0, 1] rfl ?_
  refine zg_aload_n hO 0 dX4_reverses_0 rfl rfl ?_
  refine zg_iconst hO dX4_reverses_1 ic0 ?_
  refine mP_1 hO dX4_reverses_2 ?_
  refine zg_iload_n hO 1 dX4_reverses_5 rfl rfl ?_
  refine zs_calli (As := [.int x1]) (rest := []) hO h (fun q hq => m_isLine l D dA hq) mw_X4_isLine q1958 ⟨Nat.le_of_ble_eq_true rfl, Nat.le_of_ble_eq_true rfl⟩ ⟨Nat.le_refl _, Nat.le_refl _⟩ rfl rfl (Nat.le_of_ble_eq_true rfl) dX4_reverses_6 (fun q1 h => ?_)
  refine zg_if_ne (tgt := 14) hO h dX4_reverses_9 (by decide) (fun h => ?_) (fun h => ?_)
  · refine zg_aload_n hO 0 dX4_reverses_14 rfl rfl ?_
    refine zg_iload_n hO 1 dX4_reverses_15 rfl rfl ?_
    refine zm_callVi (As := [.int x1]) (rest := []) hO h (fun q hq => m_turns l D dA G hq) mw_X4_turns q1997 ⟨Nat.le_of_ble_eq_true rfl, Nat.le_of_ble_eq_true rfl⟩ rfl rfl (Nat.le_of_ble_eq_true rfl) dX4_reverses_16 (fun q2 h => ?_)
    exact zm_iret hO hr h dX4_reverses_19
  · refine zg_iconst hO dX4_reverses_12 icm1 ?_
    exact zm_iret hO hr h dX4_reverses_13
theorem mw_X4_isAt : MwV yX4_isAt cX4_isAt 3 (some .boolean) RX4 2 := ⟨by decide +kernel, q2007, qs72, q106, q2008⟩
set_option maxHeartbeats 4000000 in
theorem m_isAt (l : Launch) (D : va_G) (dA : Nat → ClassId) (G : Nat → Nat) {x1 : Int32} {x2 : Int32} {σ : MS} {ρ : Int32 × MS} (h : M_isAt x1 x2 σ = some ρ) : Ct l yX4_isAt (ws_ yX4_isAt cX4_isAt 3 (some .boolean)) 1 0 0 D dA [.ref (G 0), .int x1, .int x2] (WM dA G σ) (AG G) (QfI D dA (WM dA G ρ.2) ρ.1) := by
  refine zc_start (cc := cX4_isAt) (nL := 3) (ret := (some .boolean)) (own := RX4) (by decide) rfl rfl (Nat.le_of_ble_eq_true rfl) wm_A (fun p e s m args below meth c hO hr _ _ => ?_)
  unfold M_isAt at h
  refine zg_sub (lv' := [(0, .ref (G 0)), (1, .int x1), (2, .int x2)]) [0, 1, 2] rfl ?_
  refine zg_iload_n hO 2 dX4_isAt_0 rfl rfl ?_
  refine zg_i2l hO dX4_isAt_1 ?_
  refine zg_lconst hO dX4_isAt_2 lc0 ?_
  refine zg_aload_n hO 0 dX4_isAt_3 rfl rfl ?_
  refine zg_iload_n hO 1 dX4_isAt_4 rfl rfl ?_
  refine zm_callVi (As := [.int x1]) (rest := [.long (lN 0), .long (x2.toInt64)]) hO h (fun q hq => m_sizeOf l D dA G hq) mw_X4_sizeOf q1896 ⟨Nat.le_of_ble_eq_true rfl, Nat.le_of_ble_eq_true rfl⟩ rfl rfl (Nat.le_of_ble_eq_true rfl) dX4_isAt_5 (fun q1 h => ?_)
  refine zg_iconst hO dX4_isAt_8 ic1 ?_
  refine zg_isub hO dX4_isAt_9 ?_
  refine zg_i2l hO dX4_isAt_10 ?_
  refine zs_calli (As := [.long (x2.toInt64), .long (lN 0), .long ((q1.1 - (nI 1)).toInt64)]) (rest := []) hO h (fun q hq => m_in l D dA hq) mw_X4_in q1702 ⟨Nat.le_of_ble_eq_true rfl, Nat.le_of_ble_eq_true rfl⟩ ⟨Nat.le_refl _, Nat.le_refl _⟩ rfl rfl (Nat.le_of_ble_eq_true rfl) dX4_isAt_11 (fun q2 h => ?_)
  exact zm_zret hO hr (zg_some h).1 (zg_some h).2 dX4_isAt_14
set_option maxHeartbeats 4000000 in
theorem w_M_makesAgain_24 (hO : Ok p s m args meth c cX4_makesAgain RX4 7 D dA (AG G s.heap.size)) (hr : meth.sig.returnType = none) {ρ : MS} : ∀ (n : Nat) (x5 : Int32) (x6 : Int32) (σ : MS), M_makesAgain_24 n x5 x6 σ = some ρ → Go p l e (rmG 5 0 0) s m args below meth c D (AG G s.heap.size) 7 (MQ below ((QfV D dA (WM dA G ρ)) (AG G s.heap.size)) args s 0 0 (AG G s.heap.size)) (WM dA G σ) 0 0 24 [(0, .ref (G 0)), (5, .int x5), (6, .int x6)] [] := by
  intro n
  induction n with
  | zero =>
    intro x5 x6 σ h
    rw [M_makesAgain_24] at h
    cases h
  | succ n ih =>
    intro x5 x6 σ h
    rw [M_makesAgain_24] at h
    refine zg_iload hO 2 dX4_makesAgain_24 rfl ?_
    refine zg_if_lt (tgt := 48) hO h dX4_makesAgain_26 (by decide) (fun h => ?_) (fun h => ?_)
    · refine zg_goto (tgt := 80) hO dX4_makesAgain_48 (by decide) ?_
      exact zm_vret hO hr h dX4_makesAgain_80
    · refine zg_aload_n hO 0 dX4_makesAgain_29 rfl rfl ?_
      refine zg_iload hO 1 dX4_makesAgain_30 rfl ?_
      refine zg_aload_n hO 0 dX4_makesAgain_32 rfl rfl ?_
      refine mG_81 hO dX4_makesAgain_33 ?_
      refine zg_iload hO 2 dX4_makesAgain_36 rfl ?_
      refine mL_14 hO h dX4_makesAgain_38 (fun h => ?_)
      refine zm_callVv (As := [.int x5, .int (gA σ 8 x6.toNatClampNeg)]) (rest := []) hO h (fun q hq => m_makes l D dA G hq) mw_X4_makes q1915 ⟨Nat.le_of_ble_eq_true rfl, Nat.le_of_ble_eq_true rfl⟩ rfl rfl (Nat.le_of_ble_eq_true rfl) dX4_makesAgain_39 (fun q1 h => ?_)
      refine zg_iinc (k := 2) (lv' := [(6, .int (x6 + (-1 : Int32))), (0, .ref (G 0)), (5, .int x5)]) hO dX4_makesAgain_42 rfl (zii icm1) (Nat.le_of_ble_eq_true rfl) rfl ?_
      refine zg_goto (tgt := 24) hO dX4_makesAgain_45 (by decide) ?_
      exact zg_sub [1, 2, 0] rfl (ih _ _ _ h)
set_option maxHeartbeats 4000000 in
theorem w_M_makesAgain_54 (hO : Ok p s m args meth c cX4_makesAgain RX4 7 D dA (AG G s.heap.size)) (hr : meth.sig.returnType = none) {ρ : MS} : ∀ (n : Nat) (x4 : Int32) (x5 : Int32) (x6 : Int32) (σ : MS), M_makesAgain_54 n x4 x5 x6 σ = some ρ → Go p l e (rmG 5 0 0) s m args below meth c D (AG G s.heap.size) 7 (MQ below ((QfV D dA (WM dA G ρ)) (AG G s.heap.size)) args s 0 0 (AG G s.heap.size)) (WM dA G σ) 0 0 54 [(0, .ref (G 0)), (4, .int x4), (5, .int x5), (6, .int x6)] [] := by
  intro n
  induction n with
  | zero =>
    intro x4 x5 x6 σ h
    rw [M_makesAgain_54] at h
    cases h
  | succ n ih =>
    intro x4 x5 x6 σ h
    rw [M_makesAgain_54] at h
    refine zg_iload hO 3 dX4_makesAgain_54 rfl ?_
    refine zg_iload hO 1 dX4_makesAgain_56 rfl ?_
    refine zg_icmp_ge (tgt := 80) hO h dX4_makesAgain_58 (by decide) (fun h => ?_) (fun h => ?_)
    · exact zm_vret hO hr h dX4_makesAgain_80
    · refine zg_aload_n hO 0 dX4_makesAgain_61 rfl rfl ?_
      refine zg_iload hO 2 dX4_makesAgain_62 rfl ?_
      refine zg_aload_n hO 0 dX4_makesAgain_64 rfl rfl ?_
      refine mG_81 hO dX4_makesAgain_65 ?_
      refine zg_iload hO 3 dX4_makesAgain_68 rfl ?_
      refine mL_14 hO h dX4_makesAgain_70 (fun h => ?_)
      refine zm_callVv (As := [.int x5, .int (gA σ 8 x6.toNatClampNeg)]) (rest := []) hO h (fun q hq => m_makes l D dA G hq) mw_X4_makes q1915 ⟨Nat.le_of_ble_eq_true rfl, Nat.le_of_ble_eq_true rfl⟩ rfl rfl (Nat.le_of_ble_eq_true rfl) dX4_makesAgain_71 (fun q2 h => ?_)
      refine zg_iinc (k := 3) (lv' := [(6, .int (x6 + (nI 1))), (0, .ref (G 0)), (4, .int x4), (5, .int x5)]) hO dX4_makesAgain_74 rfl (zii ic1) (Nat.le_of_ble_eq_true rfl) rfl ?_
      refine zg_goto (tgt := 54) hO dX4_makesAgain_77 (by decide) ?_
      exact zg_sub [1, 2, 3, 0] rfl (ih _ _ _ _ h)
set_option maxHeartbeats 4000000 in
theorem w_M_makesAgain_15 (hO : Ok p s m args meth c cX4_makesAgain RX4 7 D dA (AG G s.heap.size)) (hr : meth.sig.returnType = none) {ρ : MS} : ∀ (x2 : Int32) (x3 : Int32) (x4 : Int32) (y0 : Int32) (σ : MS), M_makesAgain_15 x2 x3 x4 y0 σ = some ρ → Go p l e (rmG 5 0 0) s m args below meth c D (AG G s.heap.size) 7 (MQ below ((QfV D dA (WM dA G ρ)) (AG G s.heap.size)) args s 0 0 (AG G s.heap.size)) (WM dA G σ) 0 0 15 [(0, .ref (G 0)), (2, .int x2), (3, .int x3), (4, .int x4)] [.int y0] := by
  intro x2 x3 x4 y0 σ h
  unfold M_makesAgain_15 at h
  refine zg_istore (lv' := [(5, .int y0), (0, .ref (G 0)), (2, .int x2), (3, .int x3), (4, .int x4)]) hO dX4_makesAgain_15 (Nat.le_of_ble_eq_true rfl) rfl ?_
  refine zg_iload_n hO 2 dX4_makesAgain_17 rfl rfl ?_
  refine zg_if_eq (tgt := 51) hO h dX4_makesAgain_18 (by decide) (fun h => ?_) (fun h => ?_)
  · refine zg_iload_n hO 3 dX4_makesAgain_51 rfl rfl ?_
    refine zg_istore (lv' := [(6, .int x3), (5, .int y0), (0, .ref (G 0)), (2, .int x2), (3, .int x3), (4, .int x4)]) hO dX4_makesAgain_52 (Nat.le_of_ble_eq_true rfl) rfl ?_
    exact zg_sub [2, 5, 1, 0] rfl (w_M_makesAgain_54 hO hr _ _ _ _ _ h)
  · refine zg_iload_n hO 3 dX4_makesAgain_21 rfl rfl ?_
    refine zg_istore (lv' := [(6, .int x3), (5, .int y0), (0, .ref (G 0)), (2, .int x2), (3, .int x3), (4, .int x4)]) hO dX4_makesAgain_22 (Nat.le_of_ble_eq_true rfl) rfl ?_
    exact zg_sub [2, 1, 0] rfl (w_M_makesAgain_24 hO hr _ _ _ _ h)
theorem mw_X4_makesAgain : MwV yX4_makesAgain cX4_makesAgain 7 none RX4 4 := ⟨by decide +kernel, q2011, qs73, q106, q2012⟩
set_option maxHeartbeats 4000000 in
theorem m_makesAgain (l : Launch) (D : va_G) (dA : Nat → ClassId) (G : Nat → Nat) {x1 : Int32} {x2 : Int32} {x3 : Int32} {x4 : Int32} {σ : MS} {ρ : MS} (h : M_makesAgain x1 x2 x3 x4 σ = some ρ) : Ct l yX4_makesAgain (ws_ yX4_makesAgain cX4_makesAgain 7 none) 5 0 0 D dA [.ref (G 0), .int x1, .int x2, .int x3, .int x4] (WM dA G σ) (AG G) (QfV D dA (WM dA G ρ)) := by
  refine zc_start (cc := cX4_makesAgain) (nL := 7) (ret := none) (own := RX4) (by decide) rfl rfl (Nat.le_of_ble_eq_true rfl) wm_A (fun p e s m args below meth c hO hr _ _ => ?_)
  unfold M_makesAgain at h
  refine zg_sub (lv' := [(0, .ref (G 0)), (1, .int x1), (2, .int x2), (3, .int x3), (4, .int x4)]) [0, 1, 2, 3, 4] rfl ?_
  refine zg_iload_n hO 2 dX4_makesAgain_0 rfl rfl ?_
  refine zg_if_eq (tgt := 10) hO h dX4_makesAgain_1 (by decide) (fun h => ?_) (fun h => ?_)
  · refine zg_iconst hO dX4_makesAgain_10 ic2 ?_
    refine zg_iload_n hO 1 dX4_makesAgain_11 rfl rfl ?_
    refine zg_imul hO dX4_makesAgain_12 ?_
    refine zg_iconst hO dX4_makesAgain_13 ic1 ?_
    refine zg_iadd hO dX4_makesAgain_14 ?_
    exact zg_sub [0, 2, 3, 4] rfl (w_M_makesAgain_15 hO hr _ _ _ _ _ h)
  · refine zg_iconst hO dX4_makesAgain_4 ic2 ?_
    refine zg_iload_n hO 1 dX4_makesAgain_5 rfl rfl ?_
    refine zg_imul hO dX4_makesAgain_6 ?_
    refine zg_goto (tgt := 15) hO dX4_makesAgain_7 (by decide) ?_
    exact zg_sub [0, 2, 3, 4] rfl (w_M_makesAgain_15 hO hr _ _ _ _ _ h)
set_option maxHeartbeats 4000000 in
theorem w_M_changes_130 (hO : Ok p s m args meth c cX4_changes RX4 8 D dA (AG G s.heap.size)) (hr : meth.sig.returnType = (some .int)) {ρ : Int32 × MS} : ∀ (x2 : Int32) (x4 : Int32) (x5 : Int32) (x6 : Int32) (y0 : Int32) (y1 : Int32) (σ : MS), M_changes_130 x2 x4 x5 x6 y0 y1 σ = some ρ → Go p l e (rmG 6 0 0) s m args below meth c D (AG G s.heap.size) 8 (MQ below ((QfI D dA (WM dA G ρ.2) ρ.1) (AG G s.heap.size)) args s 0 0 (AG G s.heap.size)) (WM dA G σ) 0 0 130 [(0, .ref (G 0)), (2, .int x2), (4, .int x4), (5, .int x5), (6, .int x6)] [.int y0, .int y1, .ref (G 0)] := by
  intro x2 x4 x5 x6 y0 y1 σ h
  unfold M_changes_130 at h
  refine zg_iload_n hO 1 dX4_changes_130 rfl rfl ?_
  refine zg_iload hO 4 dX4_changes_131 rfl ?_
  refine zm_callVv (As := [.int y1, .int y0, .int x2, .int x6]) (rest := []) hO h (fun q hq => m_makesAgain l D dA G hq) mw_X4_makesAgain q2009 ⟨Nat.le_of_ble_eq_true rfl, Nat.le_of_ble_eq_true rfl⟩ rfl rfl (Nat.le_of_ble_eq_true rfl) dX4_changes_133 (fun q6 h => ?_)
  refine zg_aload_n hO 0 dX4_changes_136 rfl rfl ?_
  refine zg_iload hO 3 dX4_changes_137 rfl ?_
  refine zg_iload hO 2 dX4_changes_139 rfl ?_
  refine zm_callVi (As := [.int x5, .int x4]) (rest := []) hO h (fun q hq => m_tellsWork l D dA G hq) mw_X4_tellsWork q1973 ⟨Nat.le_of_ble_eq_true rfl, Nat.le_of_ble_eq_true rfl⟩ rfl rfl (Nat.le_of_ble_eq_true rfl) dX4_changes_141 (fun q7 h => ?_)
  exact zm_iret hO hr h dX4_changes_144
set_option maxHeartbeats 4000000 in
theorem w_M_changes_117 (hO : Ok p s m args meth c cX4_changes RX4 8 D dA (AG G s.heap.size)) (hr : meth.sig.returnType = (some .int)) {ρ : Int32 × MS} : ∀ (x1 : Int32) (x2 : Int32) (x4 : Int32) (x5 : Int32) (x6 : Int32) (x7 : Int32) (σ : MS), M_changes_117 x1 x2 x4 x5 x6 x7 σ = some ρ → Go p l e (rmG 6 0 0) s m args below meth c D (AG G s.heap.size) 8 (MQ below ((QfI D dA (WM dA G ρ.2) ρ.1) (AG G s.heap.size)) args s 0 0 (AG G s.heap.size)) (WM dA G σ) 0 0 117 [(0, .ref (G 0)), (1, .int x1), (2, .int x2), (4, .int x4), (5, .int x5), (6, .int x6), (7, .int x7)] [] := by
  intro x1 x2 x4 x5 x6 x7 σ h
  unfold M_changes_117 at h
  refine zg_aload_n hO 0 dX4_changes_117 rfl rfl ?_
  refine zg_iload_n hO 1 dX4_changes_118 rfl rfl ?_
  refine zg_iload_n hO 2 dX4_changes_119 rfl rfl ?_
  refine zg_iload hO 6 dX4_changes_120 rfl ?_
  refine zg_icmp_ge (tgt := 129) hO h dX4_changes_122 (by decide) (fun h => ?_) (fun h => ?_)
  · refine zg_iconst hO dX4_changes_129 ic0 ?_
    exact zg_sub [0, 2, 3, 4, 5] rfl (w_M_changes_130 hO hr _ _ _ _ _ _ _ h)
  · refine zg_iconst hO dX4_changes_125 ic1 ?_
    refine zg_goto (tgt := 130) hO dX4_changes_126 (by decide) ?_
    exact zg_sub [0, 2, 3, 4, 5] rfl (w_M_changes_130 hO hr _ _ _ _ _ _ _ h)
theorem mw_X4_changes : MwV yX4_changes cX4_changes 8 (some .int) RX4 3 := ⟨by decide +kernel, q2002, q2003, q106, q2004⟩
set_option maxHeartbeats 4000000 in
theorem m_changes (l : Launch) (D : va_G) (dA : Nat → ClassId) (G : Nat → Nat) {x1 : Int32} {x2 : Int32} {x3 : Int32} {σ : MS} {ρ : Int32 × MS} (h : M_changes x1 x2 x3 σ = some ρ) : Ct l yX4_changes (ws_ yX4_changes cX4_changes 8 (some .int)) 6 0 0 D dA [.ref (G 0), .int x1, .int x2, .int x3] (WM dA G σ) (AG G) (QfI D dA (WM dA G ρ.2) ρ.1) := by
  refine zc_start (cc := cX4_changes) (nL := 8) (ret := (some .int)) (own := RX4) (by decide) rfl rfl (Nat.le_of_ble_eq_true rfl) wm_A (fun p e s m args below meth c hO hr _ _ => ?_)
  unfold M_changes at h
  refine zg_sub (lv' := [(0, .ref (G 0)), (1, .int x1), (2, .int x2), (3, .int x3)]) [0, 1, 2, 3] rfl ?_
  refine zg_aload_n hO 0 dX4_changes_0 rfl rfl ?_
  refine zg_iconst hO dX4_changes_1 ic0 ?_
  refine mP_1 hO dX4_changes_2 ?_
  refine zg_iload_n hO 1 dX4_changes_5 rfl rfl ?_
  refine zs_calli (As := [.int x1]) (rest := []) hO h (fun q hq => m_isLine l D dA hq) mw_X4_isLine q1958 ⟨Nat.le_of_ble_eq_true rfl, Nat.le_of_ble_eq_true rfl⟩ ⟨Nat.le_refl _, Nat.le_refl _⟩ rfl rfl (Nat.le_of_ble_eq_true rfl) dX4_changes_6 (fun q1 h => ?_)
  refine zg_if_eq (tgt := 19) hO h dX4_changes_9 (by decide) (fun h => ?_) (fun h => ?_)
  · refine zg_iconst hO dX4_changes_19 icm1 ?_
    exact zm_iret hO hr h dX4_changes_20
  · refine zg_iload_n hO 3 dX4_changes_12 rfl rfl ?_
    refine zs_calli (As := [.int x3]) (rest := []) hO h (fun q hq => m_isItem l D dA hq) mw_X4_isItem q1812 ⟨Nat.le_of_ble_eq_true rfl, Nat.le_of_ble_eq_true rfl⟩ ⟨Nat.le_refl _, Nat.le_refl _⟩ rfl rfl (Nat.le_of_ble_eq_true rfl) dX4_changes_13 (fun q2 h => ?_)
    refine zg_if_ne (tgt := 21) hO h dX4_changes_16 (by decide) (fun h => ?_) (fun h => ?_)
    · refine zg_aload_n hO 0 dX4_changes_21 rfl rfl ?_
      refine zg_iload_n hO 1 dX4_changes_22 rfl rfl ?_
      refine zg_iload_n hO 2 dX4_changes_23 rfl rfl ?_
      refine zm_callVi (As := [.int x1, .int x2]) (rest := []) hO h (fun q hq => m_isAt l D dA G hq) mw_X4_isAt q2005 ⟨Nat.le_of_ble_eq_true rfl, Nat.le_of_ble_eq_true rfl⟩ rfl rfl (Nat.le_of_ble_eq_true rfl) dX4_changes_24 (fun q3 h => ?_)
      refine zg_if_ne (tgt := 33) hO h dX4_changes_27 (by decide) (fun h => ?_) (fun h => ?_)
      · refine zg_aload_n hO 0 dX4_changes_33 rfl rfl ?_
        refine zg_iload_n hO 1 dX4_changes_34 rfl rfl ?_
        refine zg_iload_n hO 2 dX4_changes_35 rfl rfl ?_
        refine zm_callVi (As := [.int x1, .int x2]) (rest := []) hO h (fun q hq => m_itemAt l D dA G hq) mw_X4_itemAt q1900 ⟨Nat.le_of_ble_eq_true rfl, Nat.le_of_ble_eq_true rfl⟩ rfl rfl (Nat.le_of_ble_eq_true rfl) dX4_changes_36 (fun q4 h => ?_)
        refine zg_istore (lv' := [(4, .int q4.1), (0, .ref (G 0)), (1, .int x1), (2, .int x2), (3, .int x3)]) hO dX4_changes_39 (Nat.le_of_ble_eq_true rfl) rfl ?_
        refine zg_iload hO 0 dX4_changes_41 rfl ?_
        refine zg_iload_n hO 4 dX4_changes_43 rfl rfl ?_
        refine zg_icmp_ne (tgt := 50) hO h dX4_changes_44 (by decide) (fun h => ?_) (fun h => ?_)
        · refine zg_aload_n hO 1 dX4_changes_50 rfl rfl ?_
          refine mG_184 hO dX4_changes_51 ?_
          refine zg_istore (lv' := [(5, .int (gI q4.2 8)), (4, .int q4.1), (0, .ref (G 0)), (1, .int x1), (2, .int x2), (3, .int x3)]) hO dX4_changes_54 (Nat.le_of_ble_eq_true rfl) rfl ?_
          refine zg_aload_n hO 2 dX4_changes_56 rfl rfl ?_
          refine zg_iload_n hO 3 dX4_changes_57 rfl rfl ?_
          refine zm_callVi (As := [.int x1]) (rest := []) hO h (fun q hq => m_takesItems l D dA G hq) mw_X4_takesItems q1892 ⟨Nat.le_of_ble_eq_true rfl, Nat.le_of_ble_eq_true rfl⟩ rfl rfl (Nat.le_of_ble_eq_true rfl) dX4_changes_58 (fun q5 h => ?_)
          refine zg_istore (lv' := [(6, .int q5.1), (5, .int (gI q4.2 8)), (4, .int q4.1), (0, .ref (G 0)), (1, .int x1), (2, .int x2), (3, .int x3)]) hO dX4_changes_61 (Nat.le_of_ble_eq_true rfl) rfl ?_
          refine zg_aload_n hO 3 dX4_changes_63 rfl rfl ?_
          refine mG_66 hO dX4_changes_64 ?_
          refine zg_iconst hO dX4_changes_67 ic2 ?_
          refine zg_iload_n hO 4 dX4_changes_68 rfl rfl ?_
          refine zg_imul hO dX4_changes_69 ?_
          refine mL_9 hO h dX4_changes_70 (fun h => ?_)
          refine zg_istore (lv' := [(7, .int (gA q5.2 5 ((nI 2) * x1).toNatClampNeg)), (6, .int q5.1), (5, .int (gI q4.2 8)), (4, .int q4.1), (0, .ref (G 0)), (1, .int x1), (2, .int x2), (3, .int x3)]) hO dX4_changes_71 (Nat.le_of_ble_eq_true rfl) rfl ?_
          refine zg_aload_n hO 4 dX4_changes_73 rfl rfl ?_
          refine mG_81 hO dX4_changes_74 ?_
          refine zg_iload_n hO 6 dX4_changes_77 rfl rfl ?_
          refine zg_iload_n hO 7 dX4_changes_78 rfl rfl ?_
          refine mS_14 hO h dX4_changes_79 (fun h => ?_)
          refine zg_iload_n hO 6 dX4_changes_80 rfl rfl ?_
          refine zg_iload hO 0 dX4_changes_81 rfl ?_
          refine zg_icmp_ge (tgt := 103) hO h dX4_changes_83 (by decide) (fun h => ?_) (fun h => ?_)
          · refine zg_aload_n hO 4 dX4_changes_103 rfl rfl ?_
            refine mG_66 hO dX4_changes_104 ?_
            refine zg_iconst hO dX4_changes_107 ic2 ?_
            refine zg_iload_n hO 5 dX4_changes_108 rfl rfl ?_
            refine zg_imul hO dX4_changes_109 ?_
            refine zg_iconst hO dX4_changes_110 ic1 ?_
            refine zg_iadd hO dX4_changes_111 ?_
            refine zg_iload_n hO 6 dX4_changes_112 rfl rfl ?_
            refine zg_iload hO 0 dX4_changes_113 rfl ?_
            refine zg_isub hO dX4_changes_115 ?_
            refine mS_9 hO h dX4_changes_116 (fun h => ?_)
            exact zg_sub [4, 5, 6, 3, 2, 1, 0] rfl (w_M_changes_117 hO hr _ _ _ _ _ _ _ h)
          · refine zg_aload_n hO 4 dX4_changes_86 rfl rfl ?_
            refine mG_66 hO dX4_changes_87 ?_
            refine zg_iconst hO dX4_changes_90 ic2 ?_
            refine zg_iload_n hO 5 dX4_changes_91 rfl rfl ?_
            refine zg_imul hO dX4_changes_92 ?_
            refine zg_iload hO 0 dX4_changes_93 rfl ?_
            refine zg_iconst hO dX4_changes_95 ic1 ?_
            refine zg_isub hO dX4_changes_96 ?_
            refine zg_iload_n hO 6 dX4_changes_97 rfl rfl ?_
            refine zg_isub hO dX4_changes_98 ?_
            refine mS_9 hO h dX4_changes_99 (fun h => ?_)
            refine zg_goto (tgt := 117) hO dX4_changes_100 (by decide) ?_
            exact zg_sub [4, 5, 6, 3, 2, 1, 0] rfl (w_M_changes_117 hO hr _ _ _ _ _ _ _ h)
        · refine zg_bipush hO dX4_changes_47 bcm4 ?_
          exact zm_iret hO hr h dX4_changes_49
      · refine zg_bipush hO dX4_changes_30 bcm2 ?_
        exact zm_iret hO hr h dX4_changes_32
    · refine zg_iconst hO dX4_changes_19 icm1 ?_
      exact zm_iret hO hr h dX4_changes_20
set_option maxHeartbeats 4000000 in
theorem w_M_slips_162 (hO : Ok p s m args meth c cX4_slips RX4 7 D dA (AG G s.heap.size)) (hr : meth.sig.returnType = (some .int)) {ρ : Int32 × MS} : ∀ (x2 : Int32) (x4 : Int32) (x5 : Int32) (y0 : Int32) (y1 : Int32) (σ : MS), M_slips_162 x2 x4 x5 y0 y1 σ = some ρ → Go p l e (rmG 6 0 0) s m args below meth c D (AG G s.heap.size) 7 (MQ below ((QfI D dA (WM dA G ρ.2) ρ.1) (AG G s.heap.size)) args s 0 0 (AG G s.heap.size)) (WM dA G σ) 0 0 162 [(0, .ref (G 0)), (2, .int x2), (4, .int x4), (5, .int x5)] [.int y0, .int y1, .ref (G 0)] := by
  intro x2 x4 x5 y0 y1 σ h
  unfold M_slips_162 at h
  refine zg_iload_n hO 1 dX4_slips_162 rfl rfl ?_
  refine zg_iload hO 2 dX4_slips_163 rfl ?_
  refine zg_iconst hO dX4_slips_165 ic1 ?_
  refine zg_iadd hO dX4_slips_166 ?_
  refine zm_callVv (As := [.int y1, .int y0, .int x2, .int (x4 + (nI 1))]) (rest := []) hO h (fun q hq => m_makesAgain l D dA G hq) mw_X4_makesAgain q2009 ⟨Nat.le_of_ble_eq_true rfl, Nat.le_of_ble_eq_true rfl⟩ rfl rfl (Nat.le_of_ble_eq_true rfl) dX4_slips_167 (fun q6 h => ?_)
  refine zg_aload_n hO 0 dX4_slips_170 rfl rfl ?_
  refine zg_iload hO 3 dX4_slips_171 rfl ?_
  refine zg_iload hO 2 dX4_slips_173 rfl ?_
  refine zg_iconst hO dX4_slips_175 ic1 ?_
  refine zg_iadd hO dX4_slips_176 ?_
  refine zm_callVi (As := [.int x5, .int (x4 + (nI 1))]) (rest := []) hO h (fun q hq => m_tellsWork l D dA G hq) mw_X4_tellsWork q1973 ⟨Nat.le_of_ble_eq_true rfl, Nat.le_of_ble_eq_true rfl⟩ rfl rfl (Nat.le_of_ble_eq_true rfl) dX4_slips_177 (fun q7 h => ?_)
  exact zm_iret hO hr h dX4_slips_180
set_option maxHeartbeats 4000000 in
theorem w_M_slips_149 (hO : Ok p s m args meth c cX4_slips RX4 7 D dA (AG G s.heap.size)) (hr : meth.sig.returnType = (some .int)) {ρ : Int32 × MS} : ∀ (x1 : Int32) (x2 : Int32) (x4 : Int32) (x5 : Int32) (x6 : Int32) (σ : MS), M_slips_149 x1 x2 x4 x5 x6 σ = some ρ → Go p l e (rmG 6 0 0) s m args below meth c D (AG G s.heap.size) 7 (MQ below ((QfI D dA (WM dA G ρ.2) ρ.1) (AG G s.heap.size)) args s 0 0 (AG G s.heap.size)) (WM dA G σ) 0 0 149 [(0, .ref (G 0)), (1, .int x1), (2, .int x2), (4, .int x4), (5, .int x5), (6, .int x6)] [] := by
  intro x1 x2 x4 x5 x6 σ h
  unfold M_slips_149 at h
  refine zg_aload_n hO 0 dX4_slips_149 rfl rfl ?_
  refine zg_iload_n hO 1 dX4_slips_150 rfl rfl ?_
  refine zg_iload_n hO 2 dX4_slips_151 rfl rfl ?_
  refine zg_iload hO 5 dX4_slips_152 rfl ?_
  refine zg_icmp_ge (tgt := 161) hO h dX4_slips_154 (by decide) (fun h => ?_) (fun h => ?_)
  · refine zg_iconst hO dX4_slips_161 ic0 ?_
    exact zg_sub [0, 2, 3, 4] rfl (w_M_slips_162 hO hr _ _ _ _ _ _ h)
  · refine zg_iconst hO dX4_slips_157 ic1 ?_
    refine zg_goto (tgt := 162) hO dX4_slips_158 (by decide) ?_
    exact zg_sub [0, 2, 3, 4] rfl (w_M_slips_162 hO hr _ _ _ _ _ _ h)
set_option maxHeartbeats 4000000 in
theorem w_M_slips_69 (hO : Ok p s m args meth c cX4_slips RX4 7 D dA (AG G s.heap.size)) (hr : meth.sig.returnType = (some .int)) {ρ : Int32 × MS} : ∀ (n : Nat) (x1 : Int32) (x2 : Int32) (x3 : Int32) (x4 : Int32) (x5 : Int32) (x6 : Int32) (σ : MS), M_slips_69 n x1 x2 x3 x4 x5 x6 σ = some ρ → Go p l e (rmG 6 0 0) s m args below meth c D (AG G s.heap.size) 7 (MQ below ((QfI D dA (WM dA G ρ.2) ρ.1) (AG G s.heap.size)) args s 0 0 (AG G s.heap.size)) (WM dA G σ) 0 0 69 [(0, .ref (G 0)), (1, .int x1), (2, .int x2), (3, .int x3), (4, .int x4), (5, .int x5), (6, .int x6)] [] := by
  intro n
  induction n with
  | zero =>
    intro x1 x2 x3 x4 x5 x6 σ h
    rw [M_slips_69] at h
    cases h
  | succ n ih =>
    intro x1 x2 x3 x4 x5 x6 σ h
    rw [M_slips_69] at h
    refine zg_iload hO 6 dX4_slips_69 rfl ?_
    refine zg_iload_n hO 2 dX4_slips_71 rfl rfl ?_
    refine zg_icmp_le (tgt := 97) hO h dX4_slips_72 (by decide) (fun h => ?_) (fun h => ?_)
    · refine zg_aload_n hO 0 dX4_slips_97 rfl rfl ?_
      refine mG_81 hO dX4_slips_98 ?_
      refine zg_iload_n hO 2 dX4_slips_101 rfl rfl ?_
      refine zg_iload_n hO 3 dX4_slips_102 rfl rfl ?_
      refine mS_14 hO h dX4_slips_103 (fun h => ?_)
      refine zg_aload_n hO 0 dX4_slips_104 rfl rfl ?_
      refine mG_66 hO dX4_slips_105 ?_
      refine zg_iconst hO dX4_slips_108 ic2 ?_
      refine zg_iload_n hO 1 dX4_slips_109 rfl rfl ?_
      refine zg_imul hO dX4_slips_110 ?_
      refine mL_9 hO h dX4_slips_111 (fun h => ?_)
      refine zg_istore (lv' := [(6, .int (gA (sA σ 8 x2.toNatClampNeg x3) 5 ((nI 2) * x1).toNatClampNeg)), (0, .ref (G 0)), (1, .int x1), (2, .int x2), (3, .int x3), (4, .int x4), (5, .int x5)]) hO dX4_slips_112 (Nat.le_of_ble_eq_true rfl) rfl ?_
      refine zg_iload_n hO 3 dX4_slips_114 rfl rfl ?_
      refine zg_iload hO 0 dX4_slips_115 rfl ?_
      refine zg_icmp_ge (tgt := 135) hO h dX4_slips_117 (by decide) (fun h => ?_) (fun h => ?_)
      · refine zg_aload_n hO 1 dX4_slips_135 rfl rfl ?_
        refine mG_66 hO dX4_slips_136 ?_
        refine zg_iconst hO dX4_slips_139 ic2 ?_
        refine zg_iload_n hO 2 dX4_slips_140 rfl rfl ?_
        refine zg_imul hO dX4_slips_141 ?_
        refine zg_iconst hO dX4_slips_142 ic1 ?_
        refine zg_iadd hO dX4_slips_143 ?_
        refine zg_iload_n hO 3 dX4_slips_144 rfl rfl ?_
        refine zg_iload hO 0 dX4_slips_145 rfl ?_
        refine zg_isub hO dX4_slips_147 ?_
        refine mS_9 hO h dX4_slips_148 (fun h => ?_)
        exact zg_sub [1, 2, 3, 5, 6, 0] rfl (w_M_slips_149 hO hr _ _ _ _ _ _ h)
      · refine zg_aload_n hO 1 dX4_slips_120 rfl rfl ?_
        refine mG_66 hO dX4_slips_121 ?_
        refine zg_iconst hO dX4_slips_124 ic2 ?_
        refine zg_iload_n hO 2 dX4_slips_125 rfl rfl ?_
        refine zg_imul hO dX4_slips_126 ?_
        refine zg_iload hO 0 dX4_slips_127 rfl ?_
        refine zg_iload_n hO 3 dX4_slips_129 rfl rfl ?_
        refine zg_isub hO dX4_slips_130 ?_
        refine mS_9 hO h dX4_slips_131 (fun h => ?_)
        refine zg_goto (tgt := 149) hO dX4_slips_132 (by decide) ?_
        exact zg_sub [1, 2, 3, 5, 6, 0] rfl (w_M_slips_149 hO hr _ _ _ _ _ _ h)
    · refine zg_aload_n hO 0 dX4_slips_75 rfl rfl ?_
      refine mG_81 hO dX4_slips_76 ?_
      refine zg_iload hO 6 dX4_slips_79 rfl ?_
      refine zg_aload_n hO 0 dX4_slips_81 rfl rfl ?_
      refine mG_81 hO dX4_slips_82 ?_
      refine zg_iload hO 6 dX4_slips_85 rfl ?_
      refine zg_iconst hO dX4_slips_87 ic1 ?_
      refine zg_isub hO dX4_slips_88 ?_
      refine mL_14 hO h dX4_slips_89 (fun h => ?_)
      refine mS_14 hO h dX4_slips_90 (fun h => ?_)
      refine zg_iinc (k := 6) (lv' := [(6, .int (x6 + (-1 : Int32))), (0, .ref (G 0)), (1, .int x1), (2, .int x2), (3, .int x3), (4, .int x4), (5, .int x5)]) hO dX4_slips_91 rfl (zii icm1) (Nat.le_of_ble_eq_true rfl) rfl ?_
      refine zg_goto (tgt := 69) hO dX4_slips_94 (by decide) ?_
      exact zg_sub [1, 2, 3, 4, 5, 6, 0] rfl (ih _ _ _ _ _ _ _ h)
theorem mw_X4_slips : MwV yX4_slips cX4_slips 7 (some .int) RX4 3 := ⟨by decide +kernel, q2014, q2015, q106, q2016⟩
set_option maxHeartbeats 4000000 in
theorem m_slips (l : Launch) (D : va_G) (dA : Nat → ClassId) (G : Nat → Nat) {x1 : Int32} {x2 : Int32} {x3 : Int32} {σ : MS} {ρ : Int32 × MS} (h : M_slips x1 x2 x3 σ = some ρ) : Ct l yX4_slips (ws_ yX4_slips cX4_slips 7 (some .int)) 6 0 0 D dA [.ref (G 0), .int x1, .int x2, .int x3] (WM dA G σ) (AG G) (QfI D dA (WM dA G ρ.2) ρ.1) := by
  refine zc_start (cc := cX4_slips) (nL := 7) (ret := (some .int)) (own := RX4) (by decide) rfl rfl (Nat.le_of_ble_eq_true rfl) wm_A (fun p e s m args below meth c hO hr _ _ => ?_)
  unfold M_slips at h
  refine zg_sub (lv' := [(0, .ref (G 0)), (1, .int x1), (2, .int x2), (3, .int x3)]) [0, 1, 2, 3] rfl ?_
  refine zg_aload_n hO 0 dX4_slips_0 rfl rfl ?_
  refine zg_iconst hO dX4_slips_1 ic0 ?_
  refine mP_1 hO dX4_slips_2 ?_
  refine zg_iload_n hO 1 dX4_slips_5 rfl rfl ?_
  refine zs_calli (As := [.int x1]) (rest := []) hO h (fun q hq => m_isLine l D dA hq) mw_X4_isLine q1958 ⟨Nat.le_of_ble_eq_true rfl, Nat.le_of_ble_eq_true rfl⟩ ⟨Nat.le_refl _, Nat.le_refl _⟩ rfl rfl (Nat.le_of_ble_eq_true rfl) dX4_slips_6 (fun q1 h => ?_)
  refine zg_if_eq (tgt := 19) hO h dX4_slips_9 (by decide) (fun h => ?_) (fun h => ?_)
  · refine zg_iconst hO dX4_slips_19 icm1 ?_
    exact zm_iret hO hr h dX4_slips_20
  · refine zg_iload_n hO 3 dX4_slips_12 rfl rfl ?_
    refine zs_calli (As := [.int x3]) (rest := []) hO h (fun q hq => m_isItem l D dA hq) mw_X4_isItem q1812 ⟨Nat.le_of_ble_eq_true rfl, Nat.le_of_ble_eq_true rfl⟩ ⟨Nat.le_refl _, Nat.le_refl _⟩ rfl rfl (Nat.le_of_ble_eq_true rfl) dX4_slips_13 (fun q2 h => ?_)
    refine zg_if_ne (tgt := 21) hO h dX4_slips_16 (by decide) (fun h => ?_) (fun h => ?_)
    · refine zg_aload_n hO 0 dX4_slips_21 rfl rfl ?_
      refine zg_iload_n hO 1 dX4_slips_22 rfl rfl ?_
      refine zm_callVi (As := [.int x1]) (rest := []) hO h (fun q hq => m_sizeOf l D dA G hq) mw_X4_sizeOf q1896 ⟨Nat.le_of_ble_eq_true rfl, Nat.le_of_ble_eq_true rfl⟩ rfl rfl (Nat.le_of_ble_eq_true rfl) dX4_slips_23 (fun q3 h => ?_)
      refine zg_istore (lv' := [(4, .int q3.1), (0, .ref (G 0)), (1, .int x1), (2, .int x2), (3, .int x3)]) hO dX4_slips_26 (Nat.le_of_ble_eq_true rfl) rfl ?_
      refine zg_iload_n hO 3 dX4_slips_28 rfl rfl ?_
      refine zg_i2l hO dX4_slips_29 ?_
      refine zg_lconst hO dX4_slips_30 lc0 ?_
      refine zg_iload hO 0 dX4_slips_31 rfl ?_
      refine zg_i2l hO dX4_slips_33 ?_
      refine zs_calli (As := [.long (x2.toInt64), .long (lN 0), .long (q3.1.toInt64)]) (rest := []) hO h (fun q hq => m_in l D dA hq) mw_X4_in q1702 ⟨Nat.le_of_ble_eq_true rfl, Nat.le_of_ble_eq_true rfl⟩ ⟨Nat.le_refl _, Nat.le_refl _⟩ rfl rfl (Nat.le_of_ble_eq_true rfl) dX4_slips_34 (fun q4 h => ?_)
      refine zg_if_ne (tgt := 43) hO h dX4_slips_37 (by decide) (fun h => ?_) (fun h => ?_)
      · refine zg_iload hO 0 dX4_slips_43 rfl ?_
        refine zg_bipush hO dX4_slips_45 bc64 ?_
        refine zg_icmp_ne (tgt := 53) hO h dX4_slips_47 (by decide) (fun h => ?_) (fun h => ?_)
        · refine zg_aload_n hO 1 dX4_slips_53 rfl rfl ?_
          refine mG_184 hO dX4_slips_54 ?_
          refine zg_istore (lv' := [(5, .int (gI q3.2 8)), (4, .int q3.1), (0, .ref (G 0)), (1, .int x1), (2, .int x2), (3, .int x3)]) hO dX4_slips_57 (Nat.le_of_ble_eq_true rfl) rfl ?_
          refine zg_aload_n hO 2 dX4_slips_59 rfl rfl ?_
          refine zg_iload_n hO 3 dX4_slips_60 rfl rfl ?_
          refine zm_callVi (As := [.int x1]) (rest := []) hO h (fun q hq => m_takesItems l D dA G hq) mw_X4_takesItems q1892 ⟨Nat.le_of_ble_eq_true rfl, Nat.le_of_ble_eq_true rfl⟩ rfl rfl (Nat.le_of_ble_eq_true rfl) dX4_slips_61 (fun q5 h => ?_)
          refine zg_pop hO dX4_slips_64 rfl ?_
          refine zg_iload hO 1 dX4_slips_65 rfl ?_
          refine zg_istore (lv' := [(6, .int q3.1), (5, .int (gI q3.2 8)), (4, .int q3.1), (0, .ref (G 0)), (1, .int x1), (2, .int x2), (3, .int x3)]) hO dX4_slips_67 (Nat.le_of_ble_eq_true rfl) rfl ?_
          exact zg_sub [3, 4, 5, 6, 2, 1, 0] rfl (w_M_slips_69 hO hr _ _ _ _ _ _ _ _ h)
        · refine zg_bipush hO dX4_slips_50 bcm3 ?_
          exact zm_iret hO hr h dX4_slips_52
      · refine zg_bipush hO dX4_slips_40 bcm2 ?_
        exact zm_iret hO hr h dX4_slips_42
    · refine zg_iconst hO dX4_slips_19 icm1 ?_
      exact zm_iret hO hr h dX4_slips_20
set_option maxHeartbeats 4000000 in
theorem w_M_drops_151 (hO : Ok p s m args meth c cX4_drops RX4 8 D dA (AG G s.heap.size)) (hr : meth.sig.returnType = (some .int)) {ρ : Int32 × MS} : ∀ (x3 : Int32) (x4 : Int32) (σ : MS), M_drops_151 x3 x4 σ = some ρ → Go p l e (rmG 6 0 0) s m args below meth c D (AG G s.heap.size) 8 (MQ below ((QfI D dA (WM dA G ρ.2) ρ.1) (AG G s.heap.size)) args s 0 0 (AG G s.heap.size)) (WM dA G σ) 0 0 151 [(0, .ref (G 0)), (3, .int x3), (4, .int x4)] [] := by
  intro x3 x4 σ h
  unfold M_drops_151 at h
  refine zg_aload_n hO 0 dX4_drops_151 rfl rfl ?_
  refine zg_iload_n hO 1 dX4_drops_152 rfl rfl ?_
  refine zg_iload hO 2 dX4_drops_153 rfl ?_
  refine zm_callVi (As := [.int x3, .int x4]) (rest := []) hO h (fun q hq => m_tellsWork l D dA G hq) mw_X4_tellsWork q1973 ⟨Nat.le_of_ble_eq_true rfl, Nat.le_of_ble_eq_true rfl⟩ rfl rfl (Nat.le_of_ble_eq_true rfl) dX4_drops_155 (fun q7 h => ?_)
  exact zm_iret hO hr h dX4_drops_158
set_option maxHeartbeats 4000000 in
theorem w_M_drops_59 (hO : Ok p s m args meth c cX4_drops RX4 8 D dA (AG G s.heap.size)) (hr : meth.sig.returnType = (some .int)) {ρ : Int32 × MS} : ∀ (n : Nat) (x1 : Int32) (x2 : Int32) (x3 : Int32) (x4 : Int32) (x5 : Int32) (x6 : Int32) (x7 : Int32) (σ : MS), M_drops_59 n x1 x2 x3 x4 x5 x6 x7 σ = some ρ → Go p l e (rmG 6 0 0) s m args below meth c D (AG G s.heap.size) 8 (MQ below ((QfI D dA (WM dA G ρ.2) ρ.1) (AG G s.heap.size)) args s 0 0 (AG G s.heap.size)) (WM dA G σ) 0 0 59 [(0, .ref (G 0)), (1, .int x1), (2, .int x2), (3, .int x3), (4, .int x4), (5, .int x5), (6, .int x6), (7, .int x7)] [] := by
  intro n
  induction n with
  | zero =>
    intro x1 x2 x3 x4 x5 x6 x7 σ h
    rw [M_drops_59] at h
    cases h
  | succ n ih =>
    intro x1 x2 x3 x4 x5 x6 x7 σ h
    rw [M_drops_59] at h
    refine zg_iload hO 7 dX4_drops_59 rfl ?_
    refine zg_iconst hO dX4_drops_61 ic1 ?_
    refine zg_iadd hO dX4_drops_62 ?_
    refine zg_iload hO 5 dX4_drops_63 rfl ?_
    refine zg_icmp_ge (tgt := 90) hO h dX4_drops_65 (by decide) (fun h => ?_) (fun h => ?_)
    · refine zg_iload_n hO 2 dX4_drops_90 rfl rfl ?_
      refine zg_iload hO 6 dX4_drops_91 rfl ?_
      refine zg_icmp_ge (tgt := 126) hO h dX4_drops_93 (by decide) (fun h => ?_) (fun h => ?_)
      · refine zg_aload_n hO 0 dX4_drops_126 rfl rfl ?_
        refine mG_66 hO dX4_drops_127 ?_
        refine zg_iconst hO dX4_drops_130 ic2 ?_
        refine zg_iload_n hO 1 dX4_drops_131 rfl rfl ?_
        refine zg_imul hO dX4_drops_132 ?_
        refine zg_iconst hO dX4_drops_133 ic1 ?_
        refine zg_iadd hO dX4_drops_134 ?_
        refine zg_iload_n hO 2 dX4_drops_135 rfl rfl ?_
        refine zg_iload hO 6 dX4_drops_136 rfl ?_
        refine zg_isub hO dX4_drops_138 ?_
        refine mS_9 hO h dX4_drops_139 (fun h => ?_)
        refine zg_aload_n hO 0 dX4_drops_140 rfl rfl ?_
        refine zg_iload_n hO 1 dX4_drops_141 rfl rfl ?_
        refine zg_iconst hO dX4_drops_142 ic0 ?_
        refine zg_iload_n hO 2 dX4_drops_143 rfl rfl ?_
        refine zg_iload hO 5 dX4_drops_144 rfl ?_
        refine zg_iconst hO dX4_drops_146 ic1 ?_
        refine zg_isub hO dX4_drops_147 ?_
        refine zm_callVv (As := [.int x1, .int (nI 0), .int x2, .int (x5 - (nI 1))]) (rest := []) hO h (fun q hq => m_makesAgain l D dA G hq) mw_X4_makesAgain q2009 ⟨Nat.le_of_ble_eq_true rfl, Nat.le_of_ble_eq_true rfl⟩ rfl rfl (Nat.le_of_ble_eq_true rfl) dX4_drops_148 (fun q5 h => ?_)
        exact zg_sub [0, 3, 4] rfl (w_M_drops_151 hO hr _ _ _ h)
      · refine zg_aload_n hO 0 dX4_drops_96 rfl rfl ?_
        refine mG_66 hO dX4_drops_97 ?_
        refine zg_iconst hO dX4_drops_100 ic2 ?_
        refine zg_iload_n hO 1 dX4_drops_101 rfl rfl ?_
        refine zg_imul hO dX4_drops_102 ?_
        refine zg_iload hO 6 dX4_drops_103 rfl ?_
        refine zg_iconst hO dX4_drops_105 ic1 ?_
        refine zg_isub hO dX4_drops_106 ?_
        refine zg_iload_n hO 2 dX4_drops_107 rfl rfl ?_
        refine zg_isub hO dX4_drops_108 ?_
        refine mS_9 hO h dX4_drops_109 (fun h => ?_)
        refine zg_aload_n hO 0 dX4_drops_110 rfl rfl ?_
        refine zg_iload_n hO 1 dX4_drops_111 rfl rfl ?_
        refine zg_iconst hO dX4_drops_112 ic1 ?_
        refine zg_iload_n hO 2 dX4_drops_113 rfl rfl ?_
        refine zg_iconst hO dX4_drops_114 ic1 ?_
        refine zg_isub hO dX4_drops_115 ?_
        refine zg_iload hO 5 dX4_drops_116 rfl ?_
        refine zg_iconst hO dX4_drops_118 ic1 ?_
        refine zg_isub hO dX4_drops_119 ?_
        refine zm_callVv (As := [.int x1, .int (nI 1), .int (x2 - (nI 1)), .int (x5 - (nI 1))]) (rest := []) hO h (fun q hq => m_makesAgain l D dA G hq) mw_X4_makesAgain q2009 ⟨Nat.le_of_ble_eq_true rfl, Nat.le_of_ble_eq_true rfl⟩ rfl rfl (Nat.le_of_ble_eq_true rfl) dX4_drops_120 (fun q6 h => ?_)
        refine zg_goto (tgt := 151) hO dX4_drops_123 (by decide) ?_
        exact zg_sub [0, 3, 4] rfl (w_M_drops_151 hO hr _ _ _ h)
    · refine zg_aload_n hO 0 dX4_drops_68 rfl rfl ?_
      refine mG_81 hO dX4_drops_69 ?_
      refine zg_iload hO 7 dX4_drops_72 rfl ?_
      refine zg_aload_n hO 0 dX4_drops_74 rfl rfl ?_
      refine mG_81 hO dX4_drops_75 ?_
      refine zg_iload hO 7 dX4_drops_78 rfl ?_
      refine zg_iconst hO dX4_drops_80 ic1 ?_
      refine zg_iadd hO dX4_drops_81 ?_
      refine mL_14 hO h dX4_drops_82 (fun h => ?_)
      refine mS_14 hO h dX4_drops_83 (fun h => ?_)
      refine zg_iinc (k := 7) (lv' := [(7, .int (x7 + (nI 1))), (0, .ref (G 0)), (1, .int x1), (2, .int x2), (3, .int x3), (4, .int x4), (5, .int x5), (6, .int x6)]) hO dX4_drops_84 rfl (zii ic1) (Nat.le_of_ble_eq_true rfl) rfl ?_
      refine zg_goto (tgt := 59) hO dX4_drops_87 (by decide) ?_
      exact zg_sub [1, 2, 3, 4, 5, 6, 7, 0] rfl (ih _ _ _ _ _ _ _ _ h)
theorem mw_X4_drops : MwV yX4_drops cX4_drops 8 (some .int) RX4 2 := ⟨by decide +kernel, q2018, q2019, q106, q2020⟩
set_option maxHeartbeats 4000000 in
theorem m_drops (l : Launch) (D : va_G) (dA : Nat → ClassId) (G : Nat → Nat) {x1 : Int32} {x2 : Int32} {σ : MS} {ρ : Int32 × MS} (h : M_drops x1 x2 σ = some ρ) : Ct l yX4_drops (ws_ yX4_drops cX4_drops 8 (some .int)) 6 0 0 D dA [.ref (G 0), .int x1, .int x2] (WM dA G σ) (AG G) (QfI D dA (WM dA G ρ.2) ρ.1) := by
  refine zc_start (cc := cX4_drops) (nL := 8) (ret := (some .int)) (own := RX4) (by decide) rfl rfl (Nat.le_of_ble_eq_true rfl) wm_A (fun p e s m args below meth c hO hr _ _ => ?_)
  unfold M_drops at h
  refine zg_sub (lv' := [(0, .ref (G 0)), (1, .int x1), (2, .int x2)]) [0, 1, 2] rfl ?_
  refine zg_aload_n hO 0 dX4_drops_0 rfl rfl ?_
  refine zg_iconst hO dX4_drops_1 ic0 ?_
  refine mP_1 hO dX4_drops_2 ?_
  refine zg_iload_n hO 1 dX4_drops_5 rfl rfl ?_
  refine zs_calli (As := [.int x1]) (rest := []) hO h (fun q hq => m_isLine l D dA hq) mw_X4_isLine q1958 ⟨Nat.le_of_ble_eq_true rfl, Nat.le_of_ble_eq_true rfl⟩ ⟨Nat.le_refl _, Nat.le_refl _⟩ rfl rfl (Nat.le_of_ble_eq_true rfl) dX4_drops_6 (fun q1 h => ?_)
  refine zg_if_ne (tgt := 14) hO h dX4_drops_9 (by decide) (fun h => ?_) (fun h => ?_)
  · refine zg_aload_n hO 0 dX4_drops_14 rfl rfl ?_
    refine zg_iload_n hO 1 dX4_drops_15 rfl rfl ?_
    refine zg_iload_n hO 2 dX4_drops_16 rfl rfl ?_
    refine zm_callVi (As := [.int x1, .int x2]) (rest := []) hO h (fun q hq => m_isAt l D dA G hq) mw_X4_isAt q2005 ⟨Nat.le_of_ble_eq_true rfl, Nat.le_of_ble_eq_true rfl⟩ rfl rfl (Nat.le_of_ble_eq_true rfl) dX4_drops_17 (fun q2 h => ?_)
    refine zg_if_ne (tgt := 26) hO h dX4_drops_20 (by decide) (fun h => ?_) (fun h => ?_)
    · refine zg_aload_n hO 0 dX4_drops_26 rfl rfl ?_
      refine mG_184 hO dX4_drops_27 ?_
      refine zg_istore_n (lv' := [(3, .int (gI q2.2 8)), (0, .ref (G 0)), (1, .int x1), (2, .int x2)]) hO dX4_drops_30 rfl (Nat.le_of_ble_eq_true rfl) rfl ?_
      refine zg_aload_n hO 1 dX4_drops_31 rfl rfl ?_
      refine zg_iload_n hO 2 dX4_drops_32 rfl rfl ?_
      refine zg_iload_n hO 3 dX4_drops_33 rfl rfl ?_
      refine zm_callVi (As := [.int x1, .int x2]) (rest := []) hO h (fun q hq => m_itemAt l D dA G hq) mw_X4_itemAt q1900 ⟨Nat.le_of_ble_eq_true rfl, Nat.le_of_ble_eq_true rfl⟩ rfl rfl (Nat.le_of_ble_eq_true rfl) dX4_drops_34 (fun q3 h => ?_)
      refine zg_istore (lv' := [(4, .int q3.1), (3, .int (gI q2.2 8)), (0, .ref (G 0)), (1, .int x1), (2, .int x2)]) hO dX4_drops_37 (Nat.le_of_ble_eq_true rfl) rfl ?_
      refine zg_aload_n hO 2 dX4_drops_39 rfl rfl ?_
      refine zg_iload_n hO 3 dX4_drops_40 rfl rfl ?_
      refine zm_callVi (As := [.int x1]) (rest := []) hO h (fun q hq => m_takesItems l D dA G hq) mw_X4_takesItems q1892 ⟨Nat.le_of_ble_eq_true rfl, Nat.le_of_ble_eq_true rfl⟩ rfl rfl (Nat.le_of_ble_eq_true rfl) dX4_drops_41 (fun q4 h => ?_)
      refine zg_istore (lv' := [(5, .int q4.1), (4, .int q3.1), (3, .int (gI q2.2 8)), (0, .ref (G 0)), (1, .int x1), (2, .int x2)]) hO dX4_drops_44 (Nat.le_of_ble_eq_true rfl) rfl ?_
      refine zg_aload_n hO 3 dX4_drops_46 rfl rfl ?_
      refine mG_66 hO dX4_drops_47 ?_
      refine zg_iconst hO dX4_drops_50 ic2 ?_
      refine zg_iload_n hO 4 dX4_drops_51 rfl rfl ?_
      refine zg_imul hO dX4_drops_52 ?_
      refine mL_9 hO h dX4_drops_53 (fun h => ?_)
      refine zg_istore (lv' := [(6, .int (gA q4.2 5 ((nI 2) * x1).toNatClampNeg)), (5, .int q4.1), (4, .int q3.1), (3, .int (gI q2.2 8)), (0, .ref (G 0)), (1, .int x1), (2, .int x2)]) hO dX4_drops_54 (Nat.le_of_ble_eq_true rfl) rfl ?_
      refine zg_iload_n hO 6 dX4_drops_56 rfl rfl ?_
      refine zg_istore (lv' := [(7, .int x2), (6, .int (gA q4.2 5 ((nI 2) * x1).toNatClampNeg)), (5, .int q4.1), (4, .int q3.1), (3, .int (gI q2.2 8)), (0, .ref (G 0)), (1, .int x1), (2, .int x2)]) hO dX4_drops_57 (Nat.le_of_ble_eq_true rfl) rfl ?_
      exact zg_sub [5, 6, 7, 4, 3, 2, 1, 0] rfl (w_M_drops_59 hO hr _ _ _ _ _ _ _ _ _ h)
    · refine zg_bipush hO dX4_drops_23 bcm2 ?_
      exact zm_iret hO hr h dX4_drops_25
  · refine zg_iconst hO dX4_drops_12 icm1 ?_
    exact zm_iret hO hr h dX4_drops_13
set_option maxHeartbeats 4000000 in
theorem w_M_summary_59 (hO : Ok p s m args meth c cX4_summary RX4 6 D dA (AG G s.heap.size)) (hr : meth.sig.returnType = none) {ρ : MS} : ∀ (x2 : Int32) (x3 : Int32) (x4 : Int32) (x5 : Int32) (σ : MS), M_summary_59 x2 x3 x4 x5 σ = some ρ → Go p l e (rmG 4 0 0) s m args below meth c D (AG G s.heap.size) 6 (MQ below ((QfV D dA (WM dA G ρ)) (AG G s.heap.size)) args s 0 0 (AG G s.heap.size)) (WM dA G σ) 0 0 59 [(0, .ref (G 0)), (2, .int x2), (3, .int x3), (4, .int x4), (5, .int x5)] [] := by
  intro x2 x3 x4 x5 σ h
  unfold M_summary_59 at h
  refine zg_iload_n hO 1 dX4_summary_59 rfl rfl ?_
  refine zg_if_ne (tgt := 84) hO h dX4_summary_60 (by decide) (fun h => ?_) (fun h => ?_)
  · refine zg_iload_n hO 2 dX4_summary_84 rfl rfl ?_
    refine zg_if_ne (tgt := 109) hO h dX4_summary_85 (by decide) (fun h => ?_) (fun h => ?_)
    · refine zg_aload_n hO 0 dX4_summary_109 rfl rfl ?_
      refine zg_aload_n hO 0 dX4_summary_110 rfl rfl ?_
      refine mG_75 hO dX4_summary_111 ?_
      refine zg_iload hO 3 dX4_summary_114 rfl ?_
      refine mL_12 hO h dX4_summary_116 (fun h => ?_)
      refine zg_aload_n hO 0 dX4_summary_117 rfl rfl ?_
      refine mG_78 hO dX4_summary_118 ?_
      refine zg_iload hO 3 dX4_summary_121 rfl ?_
      refine mL_13 hO h dX4_summary_123 (fun h => ?_)
      refine zg_aload_n hO 0 dX4_summary_124 rfl rfl ?_
      refine mG_75 hO dX4_summary_125 ?_
      refine zg_iload hO 4 dX4_summary_128 rfl ?_
      refine mL_12 hO h dX4_summary_130 (fun h => ?_)
      refine zg_aload_n hO 0 dX4_summary_131 rfl rfl ?_
      refine mG_78 hO dX4_summary_132 ?_
      refine zg_iload hO 4 dX4_summary_135 rfl ?_
      refine mL_13 hO h dX4_summary_137 (fun h => ?_)
      refine zm_callVv (As := [.long (gB σ 3 x4.toNatClampNeg), .long (gB σ 4 x4.toNatClampNeg), .long (gB σ 3 x5.toNatClampNeg), .long (gB σ 4 x5.toNatClampNeg)]) (rest := []) hO h (fun q hq => m_join l D dA G hq) mw_X4_join q1838 ⟨Nat.le_of_ble_eq_true rfl, Nat.le_of_ble_eq_true rfl⟩ rfl rfl (Nat.le_of_ble_eq_true rfl) dX4_summary_138 (fun q4 h => ?_)
      exact zm_vret hO hr h dX4_summary_141
    · refine zg_aload_n hO 0 dX4_summary_88 rfl rfl ?_
      refine zg_aload_n hO 0 dX4_summary_89 rfl rfl ?_
      refine mG_75 hO dX4_summary_90 ?_
      refine zg_iload hO 3 dX4_summary_93 rfl ?_
      refine mL_12 hO h dX4_summary_95 (fun h => ?_)
      refine zg_aload_n hO 0 dX4_summary_96 rfl rfl ?_
      refine mG_78 hO dX4_summary_97 ?_
      refine zg_iload hO 3 dX4_summary_100 rfl ?_
      refine mL_13 hO h dX4_summary_102 (fun h => ?_)
      refine zm_callVv (As := [.long (gB σ 3 x4.toNatClampNeg), .long (gB σ 4 x4.toNatClampNeg)]) (rest := []) hO h (fun q hq => m_is l D dA G hq) mw_X4_is q1824 ⟨Nat.le_of_ble_eq_true rfl, Nat.le_of_ble_eq_true rfl⟩ rfl rfl (Nat.le_of_ble_eq_true rfl) dX4_summary_103 (fun q5 h => ?_)
      refine zg_goto (tgt := 141) hO dX4_summary_106 (by decide) ?_
      exact zm_vret hO hr h dX4_summary_141
  · refine zg_aload_n hO 0 dX4_summary_63 rfl rfl ?_
    refine zg_aload_n hO 0 dX4_summary_64 rfl rfl ?_
    refine mG_75 hO dX4_summary_65 ?_
    refine zg_iload hO 4 dX4_summary_68 rfl ?_
    refine mL_12 hO h dX4_summary_70 (fun h => ?_)
    refine zg_aload_n hO 0 dX4_summary_71 rfl rfl ?_
    refine mG_78 hO dX4_summary_72 ?_
    refine zg_iload hO 4 dX4_summary_75 rfl ?_
    refine mL_13 hO h dX4_summary_77 (fun h => ?_)
    refine zm_callVv (As := [.long (gB σ 3 x5.toNatClampNeg), .long (gB σ 4 x5.toNatClampNeg)]) (rest := []) hO h (fun q hq => m_is l D dA G hq) mw_X4_is q1824 ⟨Nat.le_of_ble_eq_true rfl, Nat.le_of_ble_eq_true rfl⟩ rfl rfl (Nat.le_of_ble_eq_true rfl) dX4_summary_78 (fun q6 h => ?_)
    refine zg_goto (tgt := 141) hO dX4_summary_81 (by decide) ?_
    exact zm_vret hO hr h dX4_summary_141
theorem mw_X4_summary : MwV yX4_summary cX4_summary 6 none RX4 1 := ⟨by decide +kernel, q2032, qs75, q106, q2033⟩
set_option maxHeartbeats 4000000 in
theorem m_summary (l : Launch) (D : va_G) (dA : Nat → ClassId) (G : Nat → Nat) {x1 : Int32} {σ : MS} {ρ : MS} (h : M_summary x1 σ = some ρ) : Ct l yX4_summary (ws_ yX4_summary cX4_summary 6 none) 4 0 0 D dA [.ref (G 0), .int x1] (WM dA G σ) (AG G) (QfV D dA (WM dA G ρ)) := by
  refine zc_start (cc := cX4_summary) (nL := 6) (ret := none) (own := RX4) (by decide) rfl rfl (Nat.le_of_ble_eq_true rfl) wm_A (fun p e s m args below meth c hO hr _ _ => ?_)
  unfold M_summary at h
  refine zg_sub (lv' := [(0, .ref (G 0)), (1, .int x1)]) [0, 1] rfl ?_
  refine zg_aload_n hO 0 dX4_summary_0 rfl rfl ?_
  refine mG_66 hO dX4_summary_1 ?_
  refine zg_iconst hO dX4_summary_4 ic2 ?_
  refine zg_iload_n hO 1 dX4_summary_5 rfl rfl ?_
  refine zg_imul hO dX4_summary_6 ?_
  refine mL_9 hO h dX4_summary_7 (fun h => ?_)
  refine zg_istore_n (lv' := [(2, .int (gA σ 5 ((nI 2) * x1).toNatClampNeg)), (0, .ref (G 0)), (1, .int x1)]) hO dX4_summary_8 rfl (Nat.le_of_ble_eq_true rfl) rfl ?_
  refine zg_aload_n hO 1 dX4_summary_9 rfl rfl ?_
  refine mG_66 hO dX4_summary_10 ?_
  refine zg_iconst hO dX4_summary_13 ic2 ?_
  refine zg_iload_n hO 2 dX4_summary_14 rfl rfl ?_
  refine zg_imul hO dX4_summary_15 ?_
  refine zg_iconst hO dX4_summary_16 ic1 ?_
  refine zg_iadd hO dX4_summary_17 ?_
  refine mL_9 hO h dX4_summary_18 (fun h => ?_)
  refine zg_istore_n (lv' := [(3, .int (gA σ 5 (((nI 2) * x1) + (nI 1)).toNatClampNeg)), (2, .int (gA σ 5 ((nI 2) * x1).toNatClampNeg)), (0, .ref (G 0)), (1, .int x1)]) hO dX4_summary_19 rfl (Nat.le_of_ble_eq_true rfl) rfl ?_
  refine zg_iconst hO dX4_summary_20 ic2 ?_
  refine zg_iload_n hO 3 dX4_summary_21 rfl rfl ?_
  refine zg_imul hO dX4_summary_22 ?_
  refine zg_iload_n hO 1 dX4_summary_23 rfl rfl ?_
  refine zg_iconst hO dX4_summary_24 ic1 ?_
  refine zg_isub hO dX4_summary_25 ?_
  refine zs_calli (As := [.int ((nI 2) * x1), .int ((gA σ 5 ((nI 2) * x1).toNatClampNeg) - (nI 1))]) (rest := []) hO h (fun q hq => m_place l D dA hq) mw_X4_place q1908 ⟨Nat.le_of_ble_eq_true rfl, Nat.le_of_ble_eq_true rfl⟩ ⟨Nat.le_refl _, Nat.le_refl _⟩ rfl rfl (Nat.le_of_ble_eq_true rfl) dX4_summary_26 (fun q1 h => ?_)
  refine zg_istore (lv' := [(4, .int q1), (3, .int (gA σ 5 (((nI 2) * x1) + (nI 1)).toNatClampNeg)), (2, .int (gA σ 5 ((nI 2) * x1).toNatClampNeg)), (0, .ref (G 0)), (1, .int x1)]) hO dX4_summary_29 (Nat.le_of_ble_eq_true rfl) rfl ?_
  refine zg_iconst hO dX4_summary_31 ic2 ?_
  refine zg_iload_n hO 4 dX4_summary_32 rfl rfl ?_
  refine zg_imul hO dX4_summary_33 ?_
  refine zg_iconst hO dX4_summary_34 ic1 ?_
  refine zg_iadd hO dX4_summary_35 ?_
  refine zg_iload_n hO 1 dX4_summary_36 rfl rfl ?_
  refine zg_iconst hO dX4_summary_37 ic1 ?_
  refine zg_isub hO dX4_summary_38 ?_
  refine zs_calli (As := [.int (((nI 2) * x1) + (nI 1)), .int ((gA σ 5 (((nI 2) * x1) + (nI 1)).toNatClampNeg) - (nI 1))]) (rest := []) hO h (fun q hq => m_place l D dA hq) mw_X4_place q1908 ⟨Nat.le_of_ble_eq_true rfl, Nat.le_of_ble_eq_true rfl⟩ ⟨Nat.le_refl _, Nat.le_refl _⟩ rfl rfl (Nat.le_of_ble_eq_true rfl) dX4_summary_39 (fun q2 h => ?_)
  refine zg_istore (lv' := [(5, .int q2), (4, .int q1), (3, .int (gA σ 5 (((nI 2) * x1) + (nI 1)).toNatClampNeg)), (2, .int (gA σ 5 ((nI 2) * x1).toNatClampNeg)), (0, .ref (G 0)), (1, .int x1)]) hO dX4_summary_42 (Nat.le_of_ble_eq_true rfl) rfl ?_
  refine zg_iload_n hO 3 dX4_summary_44 rfl rfl ?_
  refine zg_if_ne (tgt := 59) hO h dX4_summary_45 (by decide) (fun h => ?_) (fun h => ?_)
  · exact zg_sub [4, 3, 2, 1, 0] rfl (w_M_summary_59 hO hr _ _ _ _ _ h)
  · refine zg_iload_n hO 2 dX4_summary_48 rfl rfl ?_
    refine zg_if_ne (tgt := 59) hO h dX4_summary_49 (by decide) (fun h => ?_) (fun h => ?_)
    · exact zg_sub [4, 3, 2, 1, 0] rfl (w_M_summary_59 hO hr _ _ _ _ _ h)
    · refine zg_aload_n hO 4 dX4_summary_52 rfl rfl ?_
      refine zm_callVv (As := []) (rest := []) hO h (fun q hq => m_empty l D dA G hq) mw_X4_empty q1869 ⟨Nat.le_of_ble_eq_true rfl, Nat.le_of_ble_eq_true rfl⟩ rfl rfl (Nat.le_of_ble_eq_true rfl) dX4_summary_53 (fun q3 h => ?_)
      refine zg_goto (tgt := 141) hO dX4_summary_56 (by decide) ?_
      exact zm_vret hO hr h dX4_summary_141
theorem mw_X4_entersSummary : MwV yX4_entersSummary cX4_entersSummary 2 none RX4 1 := ⟨by decide +kernel, q2028, qs74, q106, q2029⟩
set_option maxHeartbeats 4000000 in
theorem m_entersSummary (l : Launch) (D : va_G) (dA : Nat → ClassId) (G : Nat → Nat) {x1 : Int32} {σ : MS} {ρ : MS} (h : M_entersSummary x1 σ = some ρ) : Ct l yX4_entersSummary (ws_ yX4_entersSummary cX4_entersSummary 2 none) 5 0 0 D dA [.ref (G 0), .int x1] (WM dA G σ) (AG G) (QfV D dA (WM dA G ρ)) := by
  refine zc_start (cc := cX4_entersSummary) (nL := 2) (ret := none) (own := RX4) (by decide) rfl rfl (Nat.le_of_ble_eq_true rfl) wm_A (fun p e s m args below meth c hO hr _ _ => ?_)
  unfold M_entersSummary at h
  refine zg_sub (lv' := [(0, .ref (G 0)), (1, .int x1)]) [0, 1] rfl ?_
  refine zg_aload_n hO 0 dX4_entersSummary_0 rfl rfl ?_
  refine zg_iload_n hO 1 dX4_entersSummary_1 rfl rfl ?_
  refine zm_callVv (As := [.int x1]) (rest := []) hO h (fun q hq => m_summary l D dA G hq) mw_X4_summary q2030 ⟨Nat.le_of_ble_eq_true rfl, Nat.le_of_ble_eq_true rfl⟩ rfl rfl (Nat.le_of_ble_eq_true rfl) dX4_entersSummary_2 (fun q1 h => ?_)
  refine zg_aload_n hO 0 dX4_entersSummary_5 rfl rfl ?_
  refine zg_aload_n hO 0 dX4_entersSummary_6 rfl rfl ?_
  refine mG_96 hO dX4_entersSummary_7 ?_
  refine zm_callVv (As := [.long (gL q1 0)]) (rest := []) hO h (fun q hq => m_enters l D dA G hq) mw_X4_enters q1856 ⟨Nat.le_of_ble_eq_true rfl, Nat.le_of_ble_eq_true rfl⟩ rfl rfl (Nat.le_of_ble_eq_true rfl) dX4_entersSummary_10 (fun q2 h => ?_)
  refine zg_aload_n hO 0 dX4_entersSummary_13 rfl rfl ?_
  refine zg_aload_n hO 0 dX4_entersSummary_14 rfl rfl ?_
  refine mG_100 hO dX4_entersSummary_15 ?_
  refine zm_callVv (As := [.long (gL q2 1)]) (rest := []) hO h (fun q hq => m_enters l D dA G hq) mw_X4_enters q1856 ⟨Nat.le_of_ble_eq_true rfl, Nat.le_of_ble_eq_true rfl⟩ rfl rfl (Nat.le_of_ble_eq_true rfl) dX4_entersSummary_18 (fun q3 h => ?_)
  exact zm_vret hO hr h dX4_entersSummary_21
set_option maxHeartbeats 4000000 in
theorem w_M_shifts_53 (hO : Ok p s m args meth c cX4_shifts RX4 7 D dA (AG G s.heap.size)) (hr : meth.sig.returnType = (some .int)) {ρ : Int32 × MS} : ∀ (n : Nat) (x1 : Int32) (x2 : Int32) (x3 : Int32) (x4 : Int32) (x5 : Int32) (σ : MS), M_shifts_53 n x1 x2 x3 x4 x5 σ = some ρ → Go p l e (rmG 7 0 0) s m args below meth c D (AG G s.heap.size) 7 (MQ below ((QfI D dA (WM dA G ρ.2) ρ.1) (AG G s.heap.size)) args s 0 0 (AG G s.heap.size)) (WM dA G σ) 0 0 53 [(0, .ref (G 0)), (1, .int x1), (2, .int x2), (3, .int x3), (4, .int x4), (5, .int x5)] [] := by
  intro n
  induction n with
  | zero =>
    intro x1 x2 x3 x4 x5 σ h
    rw [M_shifts_53] at h
    cases h
  | succ n ih =>
    intro x1 x2 x3 x4 x5 σ h
    rw [M_shifts_53] at h
    refine zg_iload hO 5 dX4_shifts_53 rfl ?_
    refine zg_iload_n hO 3 dX4_shifts_55 rfl rfl ?_
    refine zg_icmp_ge (tgt := 86) hO h dX4_shifts_56 (by decide) (fun h => ?_) (fun h => ?_)
    · refine zg_aload_n hO 0 dX4_shifts_86 rfl rfl ?_
      refine zg_iconst hO dX4_shifts_87 ic0 ?_
      refine mP_11 hO dX4_shifts_88 ?_
      refine zg_aload_n hO 0 dX4_shifts_91 rfl rfl ?_
      refine zg_iload_n hO 1 dX4_shifts_92 rfl rfl ?_
      refine zm_callVv (As := [.int x1]) (rest := []) hO h (fun q hq => m_entersSummary l D dA G hq) mw_X4_entersSummary q2026 ⟨Nat.le_of_ble_eq_true rfl, Nat.le_of_ble_eq_true rfl⟩ rfl rfl (Nat.le_of_ble_eq_true rfl) dX4_shifts_93 (fun q5 h => ?_)
      refine zg_aload_n hO 0 dX4_shifts_96 rfl rfl ?_
      refine mG_184 hO dX4_shifts_97 ?_
      refine zg_iload hO 4 dX4_shifts_100 rfl ?_
      refine zg_isub hO dX4_shifts_102 ?_
      exact zm_iret hO hr h dX4_shifts_103
    · refine zg_aload_n hO 0 dX4_shifts_59 rfl rfl ?_
      refine zg_iload_n hO 1 dX4_shifts_60 rfl rfl ?_
      refine zg_iload_n hO 2 dX4_shifts_61 rfl rfl ?_
      refine zm_callVi (As := [.int x1, .int x2]) (rest := []) hO h (fun q hq => m_takesOne l D dA G hq) mw_X4_takesOne q1969 ⟨Nat.le_of_ble_eq_true rfl, Nat.le_of_ble_eq_true rfl⟩ rfl rfl (Nat.le_of_ble_eq_true rfl) dX4_shifts_62 (fun q6 h => ?_)
      refine zg_istore (lv' := [(6, .int q6.1), (0, .ref (G 0)), (1, .int x1), (2, .int x2), (3, .int x3), (4, .int x4), (5, .int x5)]) hO dX4_shifts_65 (Nat.le_of_ble_eq_true rfl) rfl ?_
      refine zg_aload_n hO 1 dX4_shifts_67 rfl rfl ?_
      refine zg_iconst hO dX4_shifts_68 ic2 ?_
      refine zg_iload_n hO 2 dX4_shifts_69 rfl rfl ?_
      refine zg_imul hO dX4_shifts_70 ?_
      refine zg_iconst hO dX4_shifts_71 ic1 ?_
      refine zg_iadd hO dX4_shifts_72 ?_
      refine zg_iload_n hO 3 dX4_shifts_73 rfl rfl ?_
      refine zg_isub hO dX4_shifts_74 ?_
      refine zg_iload hO 0 dX4_shifts_75 rfl ?_
      refine zm_callVv (As := [.int ((((nI 2) * x1) + (nI 1)) - x2), .int q6.1]) (rest := []) hO h (fun q hq => m_makes l D dA G hq) mw_X4_makes q1915 ⟨Nat.le_of_ble_eq_true rfl, Nat.le_of_ble_eq_true rfl⟩ rfl rfl (Nat.le_of_ble_eq_true rfl) dX4_shifts_77 (fun q7 h => ?_)
      refine zg_iinc (k := 6) (lv' := [(5, .int (x5 + (nI 1))), (6, .int q6.1), (0, .ref (G 0)), (1, .int x1), (2, .int x2), (3, .int x3), (4, .int x4)]) hO dX4_shifts_80 rfl (zii ic1) (Nat.le_of_ble_eq_true rfl) rfl ?_
      refine zg_goto (tgt := 53) hO dX4_shifts_83 (by decide) ?_
      exact zg_sub [2, 3, 4, 5, 6, 0] rfl (ih _ _ _ _ _ _ h)
theorem mw_X4_shifts : MwV yX4_shifts cX4_shifts 7 (some .int) RX4 3 := ⟨by decide +kernel, q2022, q2023, q106, q2024⟩
set_option maxHeartbeats 4000000 in
theorem m_shifts (l : Launch) (D : va_G) (dA : Nat → ClassId) (G : Nat → Nat) {x1 : Int32} {x2 : Int32} {x3 : Int32} {σ : MS} {ρ : Int32 × MS} (h : M_shifts x1 x2 x3 σ = some ρ) : Ct l yX4_shifts (ws_ yX4_shifts cX4_shifts 7 (some .int)) 7 0 0 D dA [.ref (G 0), .int x1, .int x2, .int x3] (WM dA G σ) (AG G) (QfI D dA (WM dA G ρ.2) ρ.1) := by
  refine zc_start (cc := cX4_shifts) (nL := 7) (ret := (some .int)) (own := RX4) (by decide) rfl rfl (Nat.le_of_ble_eq_true rfl) wm_A (fun p e s m args below meth c hO hr _ _ => ?_)
  unfold M_shifts at h
  refine zg_sub (lv' := [(0, .ref (G 0)), (1, .int x1), (2, .int x2), (3, .int x3)]) [0, 1, 2, 3] rfl ?_
  refine zg_aload_n hO 0 dX4_shifts_0 rfl rfl ?_
  refine zg_iconst hO dX4_shifts_1 ic0 ?_
  refine mP_1 hO dX4_shifts_2 ?_
  refine zg_iload_n hO 1 dX4_shifts_5 rfl rfl ?_
  refine zs_calli (As := [.int x1]) (rest := []) hO h (fun q hq => m_isLine l D dA hq) mw_X4_isLine q1958 ⟨Nat.le_of_ble_eq_true rfl, Nat.le_of_ble_eq_true rfl⟩ ⟨Nat.le_refl _, Nat.le_refl _⟩ rfl rfl (Nat.le_of_ble_eq_true rfl) dX4_shifts_6 (fun q1 h => ?_)
  refine zg_if_eq (tgt := 31) hO h dX4_shifts_9 (by decide) (fun h => ?_) (fun h => ?_)
  · refine zg_iconst hO dX4_shifts_31 icm1 ?_
    exact zm_iret hO hr h dX4_shifts_32
  · refine zg_iload_n hO 2 dX4_shifts_12 rfl rfl ?_
    refine zs_calli (As := [.int x2]) (rest := []) hO h (fun q hq => m_isEnd l D dA hq) mw_X4_isEnd q1962 ⟨Nat.le_of_ble_eq_true rfl, Nat.le_of_ble_eq_true rfl⟩ ⟨Nat.le_refl _, Nat.le_refl _⟩ rfl rfl (Nat.le_of_ble_eq_true rfl) dX4_shifts_13 (fun q2 h => ?_)
    refine zg_if_eq (tgt := 31) hO h dX4_shifts_16 (by decide) (fun h => ?_) (fun h => ?_)
    · refine zg_iconst hO dX4_shifts_31 icm1 ?_
      exact zm_iret hO hr h dX4_shifts_32
    · refine zg_iload_n hO 3 dX4_shifts_19 rfl rfl ?_
      refine zg_i2l hO dX4_shifts_20 ?_
      refine zg_lconst hO dX4_shifts_21 lc1 ?_
      refine zg_ldc2 (x := 64) hO q2025 dX4_shifts_22 ?_
      refine zs_calli (As := [.long (x3.toInt64), .long (lN 1), .long (64 : Int64)]) (rest := []) hO h (fun q hq => m_in l D dA hq) mw_X4_in q1702 ⟨Nat.le_of_ble_eq_true rfl, Nat.le_of_ble_eq_true rfl⟩ ⟨Nat.le_refl _, Nat.le_refl _⟩ rfl rfl (Nat.le_of_ble_eq_true rfl) dX4_shifts_25 (fun q3 h => ?_)
      refine zg_if_ne (tgt := 33) hO h dX4_shifts_28 (by decide) (fun h => ?_) (fun h => ?_)
      · refine zg_aload_n hO 0 dX4_shifts_33 rfl rfl ?_
        refine zg_iload_n hO 1 dX4_shifts_34 rfl rfl ?_
        refine zm_callVi (As := [.int x1]) (rest := []) hO h (fun q hq => m_sizeOf l D dA G hq) mw_X4_sizeOf q1896 ⟨Nat.le_of_ble_eq_true rfl, Nat.le_of_ble_eq_true rfl⟩ rfl rfl (Nat.le_of_ble_eq_true rfl) dX4_shifts_35 (fun q4 h => ?_)
        refine zg_if_ne (tgt := 44) hO h dX4_shifts_38 (by decide) (fun h => ?_) (fun h => ?_)
        · refine zg_aload_n hO 0 dX4_shifts_44 rfl rfl ?_
          refine mG_184 hO dX4_shifts_45 ?_
          refine zg_istore (lv' := [(4, .int (gI q4.2 8)), (0, .ref (G 0)), (1, .int x1), (2, .int x2), (3, .int x3)]) hO dX4_shifts_48 (Nat.le_of_ble_eq_true rfl) rfl ?_
          refine zg_iconst hO dX4_shifts_50 ic0 ?_
          refine zg_istore (lv' := [(5, .int (nI 0)), (4, .int (gI q4.2 8)), (0, .ref (G 0)), (1, .int x1), (2, .int x2), (3, .int x3)]) hO dX4_shifts_51 (Nat.le_of_ble_eq_true rfl) rfl ?_
          exact zg_sub [2, 3, 4, 5, 1, 0] rfl (w_M_shifts_53 hO hr _ _ _ _ _ _ _ h)
        · refine zg_bipush hO dX4_shifts_41 bcm2 ?_
          exact zm_iret hO hr h dX4_shifts_43
      · refine zg_iconst hO dX4_shifts_31 icm1 ?_
        exact zm_iret hO hr h dX4_shifts_32
theorem mw_X4_clears : MwV yX4_clears cX4_clears 3 (some .int) RX4 1 := ⟨by decide +kernel, q2035, q2036, q106, q2037⟩
set_option maxHeartbeats 4000000 in
theorem m_clears (l : Launch) (D : va_G) (dA : Nat → ClassId) (G : Nat → Nat) {x1 : Int32} {σ : MS} {ρ : Int32 × MS} (h : M_clears x1 σ = some ρ) : Ct l yX4_clears (ws_ yX4_clears cX4_clears 3 (some .int)) 2 0 0 D dA [.ref (G 0), .int x1] (WM dA G σ) (AG G) (QfI D dA (WM dA G ρ.2) ρ.1) := by
  refine zc_start (cc := cX4_clears) (nL := 3) (ret := (some .int)) (own := RX4) (by decide) rfl rfl (Nat.le_of_ble_eq_true rfl) wm_A (fun p e s m args below meth c hO hr _ _ => ?_)
  unfold M_clears at h
  refine zg_sub (lv' := [(0, .ref (G 0)), (1, .int x1)]) [0, 1] rfl ?_
  refine zg_aload_n hO 0 dX4_clears_0 rfl rfl ?_
  refine zg_iconst hO dX4_clears_1 ic0 ?_
  refine mP_1 hO dX4_clears_2 ?_
  refine zg_iload_n hO 1 dX4_clears_5 rfl rfl ?_
  refine zs_calli (As := [.int x1]) (rest := []) hO h (fun q hq => m_isLine l D dA hq) mw_X4_isLine q1958 ⟨Nat.le_of_ble_eq_true rfl, Nat.le_of_ble_eq_true rfl⟩ ⟨Nat.le_refl _, Nat.le_refl _⟩ rfl rfl (Nat.le_of_ble_eq_true rfl) dX4_clears_6 (fun q1 h => ?_)
  refine zg_if_ne (tgt := 14) hO h dX4_clears_9 (by decide) (fun h => ?_) (fun h => ?_)
  · refine zg_aload_n hO 0 dX4_clears_14 rfl rfl ?_
    refine zg_iload_n hO 1 dX4_clears_15 rfl rfl ?_
    refine zm_callVi (As := [.int x1]) (rest := []) hO h (fun q hq => m_sizeOf l D dA G hq) mw_X4_sizeOf q1896 ⟨Nat.le_of_ble_eq_true rfl, Nat.le_of_ble_eq_true rfl⟩ rfl rfl (Nat.le_of_ble_eq_true rfl) dX4_clears_16 (fun q2 h => ?_)
    refine zg_istore_n (lv' := [(2, .int q2.1), (0, .ref (G 0)), (1, .int x1)]) hO dX4_clears_19 rfl (Nat.le_of_ble_eq_true rfl) rfl ?_
    refine zg_aload_n hO 1 dX4_clears_20 rfl rfl ?_
    refine mG_66 hO dX4_clears_21 ?_
    refine zg_iconst hO dX4_clears_24 ic2 ?_
    refine zg_iload_n hO 2 dX4_clears_25 rfl rfl ?_
    refine zg_imul hO dX4_clears_26 ?_
    refine zg_iconst hO dX4_clears_27 ic0 ?_
    refine mS_9 hO h dX4_clears_28 (fun h => ?_)
    refine zg_aload_n hO 1 dX4_clears_29 rfl rfl ?_
    refine mG_66 hO dX4_clears_30 ?_
    refine zg_iconst hO dX4_clears_33 ic2 ?_
    refine zg_iload_n hO 2 dX4_clears_34 rfl rfl ?_
    refine zg_imul hO dX4_clears_35 ?_
    refine zg_iconst hO dX4_clears_36 ic1 ?_
    refine zg_iadd hO dX4_clears_37 ?_
    refine zg_iconst hO dX4_clears_38 ic0 ?_
    refine mS_9 hO h dX4_clears_39 (fun h => ?_)
    refine zg_iload_n hO 0 dX4_clears_40 rfl rfl ?_
    exact zm_iret hO hr h dX4_clears_41
  · refine zg_iconst hO dX4_clears_12 icm1 ?_
    exact zm_iret hO hr h dX4_clears_13
set_option maxHeartbeats 4000000 in
theorem w_M_passes_0 (hO : Ok p s m args meth c cX4_passes RX4 1 D dA (AG G s.heap.size)) (hr : meth.sig.returnType = none) {ρ : MS} : ∀ (n : Nat) (σ : MS), M_passes_0 n σ = some ρ → Go p l e (rmG 0 0 0) s m args below meth c D (AG G s.heap.size) 1 (MQ below ((QfV D dA (WM dA G ρ)) (AG G s.heap.size)) args s 0 0 (AG G s.heap.size)) (WM dA G σ) 0 0 0 [(0, .ref (G 0))] [] := by
  intro n
  induction n with
  | zero =>
    intro σ h
    rw [M_passes_0] at h
    cases h
  | succ n ih =>
    intro σ h
    rw [M_passes_0] at h
    refine zg_aload_n hO 0 dX4_passes_0 rfl rfl ?_
    refine mG_28 hO dX4_passes_1 ?_
    refine zg_aload_n hO 0 dX4_passes_4 rfl rfl ?_
    refine mG_25 hO dX4_passes_5 ?_
    refine zg_icmp_ge (tgt := 38) hO h dX4_passes_8 (by decide) (fun h => ?_) (fun h => ?_)
    · exact zm_vret hO hr h dX4_passes_38
    · refine zg_aload_n hO 0 dX4_passes_11 rfl rfl ?_
      refine mG_17 hO dX4_passes_12 ?_
      refine zg_aload_n hO 0 dX4_passes_15 rfl rfl ?_
      refine mG_28 hO dX4_passes_16 ?_
      refine mL_2 hO h dX4_passes_19 (fun h => ?_)
      refine zg_bipush hO dX4_passes_20 bc32 ?_
      refine zg_icmp_ne (tgt := 38) hO h dX4_passes_22 (by decide) (fun h => ?_) (fun h => ?_)
      · exact zm_vret hO hr h dX4_passes_38
      · refine zg_aload_n hO 0 dX4_passes_25 rfl rfl ?_
        refine zg_dup hO dX4_passes_26 rfl ?_
        refine mG_28 hO dX4_passes_27 ?_
        refine zg_iconst hO dX4_passes_30 ic1 ?_
        refine zg_iadd hO dX4_passes_31 ?_
        refine mP_28 hO dX4_passes_32 ?_
        refine zg_goto (tgt := 0) hO dX4_passes_35 (by decide) ?_
        exact zg_sub [0] rfl (ih _ h)
theorem mw_X4_passes : MwV yX4_passes cX4_passes 1 none RX4 0 := ⟨by decide +kernel, q2044, qs76, q106, q2045⟩
set_option maxHeartbeats 4000000 in
theorem m_passes (l : Launch) (D : va_G) (dA : Nat → ClassId) (G : Nat → Nat) {σ : MS} {ρ : MS} (h : M_passes σ = some ρ) : Ct l yX4_passes (ws_ yX4_passes cX4_passes 1 none) 0 0 0 D dA [.ref (G 0)] (WM dA G σ) (AG G) (QfV D dA (WM dA G ρ)) := by
  refine zc_start (cc := cX4_passes) (nL := 1) (ret := none) (own := RX4) (by decide) rfl rfl (Nat.le_of_ble_eq_true rfl) wm_A (fun p e s m args below meth c hO hr _ _ => ?_)
  unfold M_passes at h
  refine zg_sub (lv' := [(0, .ref (G 0))]) [0] rfl ?_
  exact zg_sub [0] rfl (w_M_passes_0 hO hr _ _ h)
set_option maxHeartbeats 4000000 in
theorem w_M_readsAct_130 (hO : Ok p s m args meth c cX4_readsAct RX4 6 D dA (AG G s.heap.size)) (hr : meth.sig.returnType = (some .boolean)) {ρ : Int32 × MS} : ∀ (x1 : Int32) (x4 : Int32) (x5 : Int32) (σ : MS), M_readsAct_130 x1 x4 x5 σ = some ρ → Go p l e (rmG 2 0 0) s m args below meth c D (AG G s.heap.size) 6 (MQ below ((QfI D dA (WM dA G ρ.2) ρ.1) (AG G s.heap.size)) args s 0 0 (AG G s.heap.size)) (WM dA G σ) 0 0 130 [(0, .ref (G 0)), (1, .int x1), (4, .int x4), (5, .int x5)] [] := by
  intro x1 x4 x5 σ h
  unfold M_readsAct_130 at h
  refine zg_aload_n hO 0 dX4_readsAct_130 rfl rfl ?_
  refine mG_90 hO dX4_readsAct_131 ?_
  refine zg_iload_n hO 1 dX4_readsAct_134 rfl rfl ?_
  refine zg_iload hO 2 dX4_readsAct_135 rfl ?_
  refine mS_17 hO h dX4_readsAct_137 (fun h => ?_)
  refine zg_iload hO 3 dX4_readsAct_138 rfl ?_
  refine zg_if_le (tgt := 154) hO h dX4_readsAct_140 (by decide) (fun h => ?_) (fun h => ?_)
  · refine zg_iconst hO dX4_readsAct_154 ic0 ?_
    exact zm_zret hO hr (Or.inl (by decide)) h dX4_readsAct_155
  · refine zg_aload_n hO 0 dX4_readsAct_143 rfl rfl ?_
    refine zm_callVi (As := []) (rest := []) hO h (fun q hq => m_isDigit l D dA G hq) mw_X4_isDigit q1937 ⟨Nat.le_of_ble_eq_true rfl, Nat.le_of_ble_eq_true rfl⟩ rfl rfl (Nat.le_of_ble_eq_true rfl) dX4_readsAct_144 (fun q2 h => ?_)
    refine zg_if_ne (tgt := 154) hO h dX4_readsAct_147 (by decide) (fun h => ?_) (fun h => ?_)
    · refine zg_iconst hO dX4_readsAct_154 ic0 ?_
      exact zm_zret hO hr (Or.inl (by decide)) h dX4_readsAct_155
    · refine zg_iconst hO dX4_readsAct_150 ic1 ?_
      refine zg_goto (tgt := 155) hO dX4_readsAct_151 (by decide) ?_
      exact zm_zret hO hr (Or.inr (by decide)) h dX4_readsAct_155
set_option maxHeartbeats 4000000 in
theorem w_M_readsAct_81 (hO : Ok p s m args meth c cX4_readsAct RX4 6 D dA (AG G s.heap.size)) (hr : meth.sig.returnType = (some .boolean)) {ρ : Int32 × MS} : ∀ (n : Nat) (x1 : Int32) (x4 : Int32) (x5 : Int32) (σ : MS), M_readsAct_81 n x1 x4 x5 σ = some ρ → Go p l e (rmG 2 0 0) s m args below meth c D (AG G s.heap.size) 6 (MQ below ((QfI D dA (WM dA G ρ.2) ρ.1) (AG G s.heap.size)) args s 0 0 (AG G s.heap.size)) (WM dA G σ) 0 0 81 [(0, .ref (G 0)), (1, .int x1), (4, .int x4), (5, .int x5)] [] := by
  intro n
  induction n with
  | zero =>
    intro x1 x4 x5 σ h
    rw [M_readsAct_81] at h
    cases h
  | succ n ih =>
    intro x1 x4 x5 σ h
    rw [M_readsAct_81] at h
    refine zg_aload_n hO 0 dX4_readsAct_81 rfl rfl ?_
    refine zm_callVi (As := []) (rest := []) hO h (fun q hq => m_isDigit l D dA G hq) mw_X4_isDigit q1937 ⟨Nat.le_of_ble_eq_true rfl, Nat.le_of_ble_eq_true rfl⟩ rfl rfl (Nat.le_of_ble_eq_true rfl) dX4_readsAct_82 (fun q1 h => ?_)
    refine zg_if_eq (tgt := 130) hO h dX4_readsAct_85 (by decide) (fun h => ?_) (fun h => ?_)
    · exact zg_sub [0, 1, 2, 3] rfl (w_M_readsAct_130 hO hr _ _ _ _ h)
    · refine zg_iload hO 3 dX4_readsAct_88 rfl ?_
      refine zg_iconst hO dX4_readsAct_90 ic4 ?_
      refine zg_icmp_ge (tgt := 130) hO h dX4_readsAct_91 (by decide) (fun h => ?_) (fun h => ?_)
      · exact zg_sub [0, 1, 2, 3] rfl (w_M_readsAct_130 hO hr _ _ _ _ h)
      · refine zg_bipush hO dX4_readsAct_94 bc10 ?_
        refine zg_iload hO 2 dX4_readsAct_96 rfl ?_
        refine zg_imul hO dX4_readsAct_98 ?_
        refine zg_aload_n hO 0 dX4_readsAct_99 rfl rfl ?_
        refine mG_17 hO dX4_readsAct_100 ?_
        refine zg_aload_n hO 0 dX4_readsAct_103 rfl rfl ?_
        refine mG_28 hO dX4_readsAct_104 ?_
        refine mL_2 hO h dX4_readsAct_107 (fun h => ?_)
        refine zg_iadd hO dX4_readsAct_108 ?_
        refine zg_bipush hO dX4_readsAct_109 bc48 ?_
        refine zg_isub hO dX4_readsAct_111 ?_
        refine zg_istore (lv' := [(4, .int ((((nI 10) * x4) + (gA q1.2 0 (gI q1.2 3).toNatClampNeg)) - (nI 48))), (0, .ref (G 0)), (1, .int x1), (5, .int x5)]) hO dX4_readsAct_112 (Nat.le_of_ble_eq_true rfl) rfl ?_
        refine zg_aload_n hO 1 dX4_readsAct_114 rfl rfl ?_
        refine zg_dup hO dX4_readsAct_115 rfl ?_
        refine mG_28 hO dX4_readsAct_116 ?_
        refine zg_iconst hO dX4_readsAct_119 ic1 ?_
        refine zg_iadd hO dX4_readsAct_120 ?_
        refine mP_28 hO dX4_readsAct_121 ?_
        refine zg_iinc (k := 3) (lv' := [(5, .int (x5 + (nI 1))), (4, .int ((((nI 10) * x4) + (gA q1.2 0 (gI q1.2 3).toNatClampNeg)) - (nI 48))), (0, .ref (G 0)), (1, .int x1)]) hO dX4_readsAct_124 rfl (zii ic1) (Nat.le_of_ble_eq_true rfl) rfl ?_
        refine zg_goto (tgt := 81) hO dX4_readsAct_127 (by decide) ?_
        exact zg_sub [2, 3, 1, 0] rfl (ih _ _ _ _ h)
set_option maxHeartbeats 4000000 in
theorem w_M_readsAct_52 (hO : Ok p s m args meth c cX4_readsAct RX4 6 D dA (AG G s.heap.size)) (hr : meth.sig.returnType = (some .boolean)) {ρ : Int32 × MS} : ∀ (x1 : Int32) (x2 : Int32) (x3 : Int32) (σ : MS), M_readsAct_52 x1 x2 x3 σ = some ρ → Go p l e (rmG 2 0 0) s m args below meth c D (AG G s.heap.size) 6 (MQ below ((QfI D dA (WM dA G ρ.2) ρ.1) (AG G s.heap.size)) args s 0 0 (AG G s.heap.size)) (WM dA G σ) 0 0 52 [(0, .ref (G 0)), (1, .int x1), (2, .int x2), (3, .int x3)] [] := by
  intro x1 x2 x3 σ h
  unfold M_readsAct_52 at h
  refine zg_aload_n hO 0 dX4_readsAct_52 rfl rfl ?_
  refine zg_dup hO dX4_readsAct_53 rfl ?_
  refine mG_28 hO dX4_readsAct_54 ?_
  refine zg_iconst hO dX4_readsAct_57 ic1 ?_
  refine zg_iadd hO dX4_readsAct_58 ?_
  refine mP_28 hO dX4_readsAct_59 ?_
  refine zg_aload_n hO 0 dX4_readsAct_62 rfl rfl ?_
  refine mG_87 hO dX4_readsAct_63 ?_
  refine zg_iload_n hO 1 dX4_readsAct_66 rfl rfl ?_
  refine zg_iload_n hO 2 dX4_readsAct_67 rfl rfl ?_
  refine mS_16 hO h dX4_readsAct_68 (fun h => ?_)
  refine zg_iload_n hO 3 dX4_readsAct_69 rfl rfl ?_
  refine zg_if_ne (tgt := 75) hO h dX4_readsAct_70 (by decide) (fun h => ?_) (fun h => ?_)
  · refine zg_iconst hO dX4_readsAct_75 ic0 ?_
    refine zg_istore (lv' := [(4, .int (nI 0)), (0, .ref (G 0)), (1, .int x1), (2, .int x2), (3, .int x3)]) hO dX4_readsAct_76 (Nat.le_of_ble_eq_true rfl) rfl ?_
    refine zg_iconst hO dX4_readsAct_78 ic0 ?_
    refine zg_istore (lv' := [(5, .int (nI 0)), (4, .int (nI 0)), (0, .ref (G 0)), (1, .int x1), (2, .int x2), (3, .int x3)]) hO dX4_readsAct_79 (Nat.le_of_ble_eq_true rfl) rfl ?_
    exact zg_sub [2, 3, 1, 0] rfl (w_M_readsAct_81 hO hr _ _ _ _ _ h)
  · refine zg_iconst hO dX4_readsAct_73 ic1 ?_
    exact zm_zret hO hr (Or.inr (by decide)) h dX4_readsAct_74
set_option maxHeartbeats 4000000 in
theorem w_M_readsAct_27 (hO : Ok p s m args meth c cX4_readsAct RX4 6 D dA (AG G s.heap.size)) (hr : meth.sig.returnType = (some .boolean)) {ρ : Int32 × MS} : ∀ (x1 : Int32) (x2 : Int32) (y0 : Int32) (σ : MS), M_readsAct_27 x1 x2 y0 σ = some ρ → Go p l e (rmG 2 0 0) s m args below meth c D (AG G s.heap.size) 6 (MQ below ((QfI D dA (WM dA G ρ.2) ρ.1) (AG G s.heap.size)) args s 0 0 (AG G s.heap.size)) (WM dA G σ) 0 0 27 [(0, .ref (G 0)), (1, .int x1), (2, .int x2)] [.int y0] := by
  intro x1 x2 y0 σ h
  unfold M_readsAct_27 at h
  refine zg_istore_n (lv' := [(3, .int y0), (0, .ref (G 0)), (1, .int x1), (2, .int x2)]) hO dX4_readsAct_27 rfl (Nat.le_of_ble_eq_true rfl) rfl ?_
  refine zg_iload_n hO 0 dX4_readsAct_28 rfl rfl ?_
  refine zg_if_ne (tgt := 52) hO h dX4_readsAct_29 (by decide) (fun h => ?_) (fun h => ?_)
  · exact zg_sub [1, 2, 3, 0] rfl (w_M_readsAct_52 hO hr _ _ _ _ h)
  · refine zg_iload_n hO 3 dX4_readsAct_32 rfl rfl ?_
    refine zg_bipush hO dX4_readsAct_33 bc70 ?_
    refine zg_icmp_eq (tgt := 52) hO h dX4_readsAct_35 (by decide) (fun h => ?_) (fun h => ?_)
    · exact zg_sub [1, 2, 3, 0] rfl (w_M_readsAct_52 hO hr _ _ _ _ h)
    · refine zg_iload_n hO 3 dX4_readsAct_38 rfl rfl ?_
      refine zg_bipush hO dX4_readsAct_39 bc66 ?_
      refine zg_icmp_eq (tgt := 52) hO h dX4_readsAct_41 (by decide) (fun h => ?_) (fun h => ?_)
      · exact zg_sub [1, 2, 3, 0] rfl (w_M_readsAct_52 hO hr _ _ _ _ h)
      · refine zg_iload_n hO 3 dX4_readsAct_44 rfl rfl ?_
        refine zg_bipush hO dX4_readsAct_45 bc114 ?_
        refine zg_icmp_eq (tgt := 52) hO h dX4_readsAct_47 (by decide) (fun h => ?_) (fun h => ?_)
        · exact zg_sub [1, 2, 3, 0] rfl (w_M_readsAct_52 hO hr _ _ _ _ h)
        · refine zg_iconst hO dX4_readsAct_50 ic0 ?_
          exact zm_zret hO hr (Or.inl (by decide)) h dX4_readsAct_51
set_option maxHeartbeats 4000000 in
theorem w_M_readsAct_22 (hO : Ok p s m args meth c cX4_readsAct RX4 6 D dA (AG G s.heap.size)) (hr : meth.sig.returnType = (some .boolean)) {ρ : Int32 × MS} : ∀ (x1 : Int32) (x2 : Int32) (σ : MS), M_readsAct_22 x1 x2 σ = some ρ → Go p l e (rmG 2 0 0) s m args below meth c D (AG G s.heap.size) 6 (MQ below ((QfI D dA (WM dA G ρ.2) ρ.1) (AG G s.heap.size)) args s 0 0 (AG G s.heap.size)) (WM dA G σ) 0 0 22 [(0, .ref (G 0)), (1, .int x1), (2, .int x2)] [] := by
  intro x1 x2 σ h
  unfold M_readsAct_22 at h
  refine zg_iconst hO dX4_readsAct_22 ic1 ?_
  refine zg_goto (tgt := 27) hO dX4_readsAct_23 (by decide) ?_
  exact zg_sub [0, 1, 2] rfl (w_M_readsAct_27 hO hr _ _ _ _ h)
theorem mw_X4_readsAct : MwV yX4_readsAct cX4_readsAct 6 (some .boolean) RX4 1 := ⟨by decide +kernel, q2048, qs77, q106, q2049⟩
set_option maxHeartbeats 4000000 in
theorem m_readsAct (l : Launch) (D : va_G) (dA : Nat → ClassId) (G : Nat → Nat) {x1 : Int32} {σ : MS} {ρ : Int32 × MS} (h : M_readsAct x1 σ = some ρ) : Ct l yX4_readsAct (ws_ yX4_readsAct cX4_readsAct 6 (some .boolean)) 2 0 0 D dA [.ref (G 0), .int x1] (WM dA G σ) (AG G) (QfI D dA (WM dA G ρ.2) ρ.1) := by
  refine zc_start (cc := cX4_readsAct) (nL := 6) (ret := (some .boolean)) (own := RX4) (by decide) rfl rfl (Nat.le_of_ble_eq_true rfl) wm_A (fun p e s m args below meth c hO hr _ _ => ?_)
  unfold M_readsAct at h
  refine zg_sub (lv' := [(0, .ref (G 0)), (1, .int x1)]) [0, 1] rfl ?_
  refine zg_aload_n hO 0 dX4_readsAct_0 rfl rfl ?_
  refine mG_17 hO dX4_readsAct_1 ?_
  refine zg_aload_n hO 0 dX4_readsAct_4 rfl rfl ?_
  refine mG_28 hO dX4_readsAct_5 ?_
  refine mL_2 hO h dX4_readsAct_8 (fun h => ?_)
  refine zg_istore_n (lv' := [(2, .int (gA σ 0 (gI σ 3).toNatClampNeg)), (0, .ref (G 0)), (1, .int x1)]) hO dX4_readsAct_9 rfl (Nat.le_of_ble_eq_true rfl) rfl ?_
  refine zg_iload_n hO 0 dX4_readsAct_10 rfl rfl ?_
  refine zg_bipush hO dX4_readsAct_11 bc102 ?_
  refine zg_icmp_eq (tgt := 22) hO h dX4_readsAct_13 (by decide) (fun h => ?_) (fun h => ?_)
  · exact zg_sub [1, 2, 0] rfl (w_M_readsAct_22 hO hr _ _ _ h)
  · refine zg_iload_n hO 0 dX4_readsAct_16 rfl rfl ?_
    refine zg_bipush hO dX4_readsAct_17 bc98 ?_
    refine zg_icmp_ne (tgt := 26) hO h dX4_readsAct_19 (by decide) (fun h => ?_) (fun h => ?_)
    · refine zg_iconst hO dX4_readsAct_26 ic0 ?_
      exact zg_sub [1, 2, 0] rfl (w_M_readsAct_27 hO hr _ _ _ _ h)
    · exact zg_sub [1, 2, 0] rfl (w_M_readsAct_22 hO hr _ _ _ h)
set_option maxHeartbeats 4000000 in
theorem w_M_does_72 (hO : Ok p s m args meth c cX4_does RX4 3 D dA (AG G s.heap.size)) (hr : meth.sig.returnType = (some .boolean)) {ρ : Int32 × MS} : ∀ (x2 : Int32) (y0 : Int32) (y1 : Int32) (σ : MS), M_does_72 x2 y0 y1 σ = some ρ → Go p l e (rmG 7 0 0) s m args below meth c D (AG G s.heap.size) 3 (MQ below ((QfI D dA (WM dA G ρ.2) ρ.1) (AG G s.heap.size)) args s 0 0 (AG G s.heap.size)) (WM dA G σ) 0 0 72 [(0, .ref (G 0)), (2, .int x2)] [.int y0, .int y1, .ref (G 0)] := by
  intro x2 y0 y1 σ h
  unfold M_does_72 at h
  refine zs_calli (As := [.int y0]) (rest := [.int y1, .ref (G 0)]) hO h (fun q hq => m_flag l D dA hq) mw_X4_flag q1835 ⟨Nat.le_of_ble_eq_true rfl, Nat.le_of_ble_eq_true rfl⟩ ⟨Nat.le_refl _, Nat.le_refl _⟩ rfl rfl (Nat.le_of_ble_eq_true rfl) dX4_does_72 (fun q6 h => ?_)
  refine zg_iadd hO dX4_does_75 ?_
  refine zg_aload_n hO 0 dX4_does_76 rfl rfl ?_
  refine mG_90 hO dX4_does_77 ?_
  refine zg_iload_n hO 1 dX4_does_80 rfl rfl ?_
  refine mL_17 hO h dX4_does_81 (fun h => ?_)
  refine zm_callVv (As := [.int (y1 + q6), .int (gA σ 11 x2.toNatClampNeg)]) (rest := []) hO h (fun q hq => m_makes l D dA G hq) mw_X4_makes q1915 ⟨Nat.le_of_ble_eq_true rfl, Nat.le_of_ble_eq_true rfl⟩ rfl rfl (Nat.le_of_ble_eq_true rfl) dX4_does_82 (fun q7 h => ?_)
  refine zg_iconst hO dX4_does_85 ic1 ?_
  exact zm_zret hO hr (Or.inr (by decide)) h dX4_does_86
set_option maxHeartbeats 4000000 in
theorem w_M_does_40 (hO : Ok p s m args meth c cX4_does RX4 3 D dA (AG G s.heap.size)) (hr : meth.sig.returnType = (some .boolean)) {ρ : Int32 × MS} : ∀ (x1 : Int32) (x2 : Int32) (σ : MS), M_does_40 x1 x2 σ = some ρ → Go p l e (rmG 7 0 0) s m args below meth c D (AG G s.heap.size) 3 (MQ below ((QfI D dA (WM dA G ρ.2) ρ.1) (AG G s.heap.size)) args s 0 0 (AG G s.heap.size)) (WM dA G σ) 0 0 40 [(0, .ref (G 0)), (1, .int x1), (2, .int x2)] [] := by
  intro x1 x2 σ h
  unfold M_does_40 at h
  refine zg_aload_n hO 0 dX4_does_40 rfl rfl ?_
  refine zg_iload_n hO 1 dX4_does_41 rfl rfl ?_
  refine zm_callVi (As := [.int x1]) (rest := []) hO h (fun q hq => m_sizeOf l D dA G hq) mw_X4_sizeOf q1896 ⟨Nat.le_of_ble_eq_true rfl, Nat.le_of_ble_eq_true rfl⟩ rfl rfl (Nat.le_of_ble_eq_true rfl) dX4_does_42 (fun q5 h => ?_)
  refine zg_bipush hO dX4_does_45 bc64 ?_
  refine zg_icmp_ne (tgt := 52) hO h dX4_does_47 (by decide) (fun h => ?_) (fun h => ?_)
  · refine zg_aload_n hO 0 dX4_does_52 rfl rfl ?_
    refine zg_iconst hO dX4_does_53 ic2 ?_
    refine zg_iload_n hO 1 dX4_does_54 rfl rfl ?_
    refine zg_imul hO dX4_does_55 ?_
    refine zg_aload_n hO 0 dX4_does_56 rfl rfl ?_
    refine mG_87 hO dX4_does_57 ?_
    refine zg_iload_n hO 2 dX4_does_60 rfl rfl ?_
    refine mL_16 hO h dX4_does_61 (fun h => ?_)
    refine zg_bipush hO dX4_does_62 bc98 ?_
    refine zg_icmp_ne (tgt := 71) hO h dX4_does_64 (by decide) (fun h => ?_) (fun h => ?_)
    · refine zg_iconst hO dX4_does_71 ic0 ?_
      exact zg_sub [0, 2] rfl (w_M_does_72 hO hr _ _ _ _ h)
    · refine zg_iconst hO dX4_does_67 ic1 ?_
      refine zg_goto (tgt := 72) hO dX4_does_68 (by decide) ?_
      exact zg_sub [0, 2] rfl (w_M_does_72 hO hr _ _ _ _ h)
  · refine zg_iconst hO dX4_does_50 ic0 ?_
    exact zm_zret hO hr (Or.inl (by decide)) h dX4_does_51
set_option maxHeartbeats 4000000 in
theorem w_M_does_127 (hO : Ok p s m args meth c cX4_does RX4 3 D dA (AG G s.heap.size)) (hr : meth.sig.returnType = (some .boolean)) {ρ : Int32 × MS} : ∀ (y0 : Int32) (y1 : Int32) (σ : MS), M_does_127 y0 y1 σ = some ρ → Go p l e (rmG 7 0 0) s m args below meth c D (AG G s.heap.size) 3 (MQ below ((QfI D dA (WM dA G ρ.2) ρ.1) (AG G s.heap.size)) args s 0 0 (AG G s.heap.size)) (WM dA G σ) 0 0 127 [] [.int y0, .int y1, .ref (G 0)] := by
  intro y0 y1 σ h
  unfold M_does_127 at h
  refine zs_calli (As := [.int y0]) (rest := [.int y1, .ref (G 0)]) hO h (fun q hq => m_flag l D dA hq) mw_X4_flag q1835 ⟨Nat.le_of_ble_eq_true rfl, Nat.le_of_ble_eq_true rfl⟩ ⟨Nat.le_refl _, Nat.le_refl _⟩ rfl rfl (Nat.le_of_ble_eq_true rfl) dX4_does_127 (fun q3 h => ?_)
  refine zm_callVi (As := [.int y1, .int q3]) (rest := []) hO h (fun q hq => m_takesOne l D dA G hq) mw_X4_takesOne q1969 ⟨Nat.le_of_ble_eq_true rfl, Nat.le_of_ble_eq_true rfl⟩ rfl rfl (Nat.le_of_ble_eq_true rfl) dX4_does_130 (fun q4 h => ?_)
  refine zg_if_lt (tgt := 140) hO h dX4_does_133 (by decide) (fun h => ?_) (fun h => ?_)
  · refine zg_iconst hO dX4_does_140 ic0 ?_
    exact zm_zret hO hr (Or.inl (by decide)) h dX4_does_141
  · refine zg_iconst hO dX4_does_136 ic1 ?_
    refine zg_goto (tgt := 141) hO dX4_does_137 (by decide) ?_
    exact zm_zret hO hr (Or.inr (by decide)) h dX4_does_141
theorem mw_X4_does : MwV yX4_does cX4_does 3 (some .boolean) RX4 2 := ⟨by decide +kernel, q2052, qs78, q106, q2053⟩
set_option maxHeartbeats 4000000 in
theorem m_does (l : Launch) (D : va_G) (dA : Nat → ClassId) (G : Nat → Nat) {x1 : Int32} {x2 : Int32} {σ : MS} {ρ : Int32 × MS} (h : M_does x1 x2 σ = some ρ) : Ct l yX4_does (ws_ yX4_does cX4_does 3 (some .boolean)) 7 0 0 D dA [.ref (G 0), .int x1, .int x2] (WM dA G σ) (AG G) (QfI D dA (WM dA G ρ.2) ρ.1) := by
  refine zc_start (cc := cX4_does) (nL := 3) (ret := (some .boolean)) (own := RX4) (by decide) rfl rfl (Nat.le_of_ble_eq_true rfl) wm_A (fun p e s m args below meth c hO hr _ _ => ?_)
  unfold M_does at h
  refine zg_sub (lv' := [(0, .ref (G 0)), (1, .int x1), (2, .int x2)]) [0, 1, 2] rfl ?_
  refine zg_aload_n hO 0 dX4_does_0 rfl rfl ?_
  refine mG_87 hO dX4_does_1 ?_
  refine zg_iload_n hO 2 dX4_does_4 rfl rfl ?_
  refine mL_16 hO h dX4_does_5 (fun h => ?_)
  refine zg_ite h (fun e98 h => ?_) (fun e98 h => ?_)
  · refine zg_lookup (tgt := 40) hO dX4_does_6 (by decide) (by rw [e98]; try rfl) (by decide) ?_
    exact zg_sub [0, 1, 2] rfl (w_M_does_40 hO hr _ _ _ h)
  refine zg_ite h (fun e102 h => ?_) (fun e102 h => ?_)
  · refine zg_lookup (tgt := 40) hO dX4_does_6 (by decide) (by rw [e102]; try rfl) (by decide) ?_
    exact zg_sub [0, 1, 2] rfl (w_M_does_40 hO hr _ _ _ h)
  refine zg_ite h (fun e114 h => ?_) (fun e114 h => ?_)
  · refine zg_lookup (tgt := 87) hO dX4_does_6 (by decide) (by rw [e114]; try rfl) (by decide) ?_
    refine zg_aload_n hO 0 dX4_does_87 rfl rfl ?_
    refine zg_iload_n hO 1 dX4_does_88 rfl rfl ?_
    refine zm_callVi (As := [.int x1]) (rest := []) hO h (fun q hq => m_turns l D dA G hq) mw_X4_turns q1997 ⟨Nat.le_of_ble_eq_true rfl, Nat.le_of_ble_eq_true rfl⟩ rfl rfl (Nat.le_of_ble_eq_true rfl) dX4_does_89 (fun q1 h => ?_)
    refine zg_if_lt (tgt := 99) hO h dX4_does_92 (by decide) (fun h => ?_) (fun h => ?_)
    · refine zg_iconst hO dX4_does_99 ic0 ?_
      exact zm_zret hO hr (Or.inl (by decide)) h dX4_does_100
    · refine zg_iconst hO dX4_does_95 ic1 ?_
      refine zg_goto (tgt := 100) hO dX4_does_96 (by decide) ?_
      exact zm_zret hO hr (Or.inr (by decide)) h dX4_does_100
  refine zg_lookup (tgt := 101) (off := 95) hO dX4_does_6 (by decide) ((lv_osw e98 (by decide)).trans ((lv_osw e102 (by decide)).trans ((lv_osw e114 (by decide)).trans rfl))) (by decide) ?_
  refine zg_aload_n hO 0 dX4_does_101 rfl rfl ?_
  refine zg_iload_n hO 1 dX4_does_102 rfl rfl ?_
  refine zm_callVi (As := [.int x1]) (rest := []) hO h (fun q hq => m_sizeOf l D dA G hq) mw_X4_sizeOf q1896 ⟨Nat.le_of_ble_eq_true rfl, Nat.le_of_ble_eq_true rfl⟩ rfl rfl (Nat.le_of_ble_eq_true rfl) dX4_does_103 (fun q2 h => ?_)
  refine zg_if_le (tgt := 140) hO h dX4_does_106 (by decide) (fun h => ?_) (fun h => ?_)
  · refine zg_iconst hO dX4_does_140 ic0 ?_
    exact zm_zret hO hr (Or.inl (by decide)) h dX4_does_141
  · refine zg_aload_n hO 0 dX4_does_109 rfl rfl ?_
    refine zg_iload_n hO 1 dX4_does_110 rfl rfl ?_
    refine zg_aload_n hO 0 dX4_does_111 rfl rfl ?_
    refine mG_87 hO dX4_does_112 ?_
    refine zg_iload_n hO 2 dX4_does_115 rfl rfl ?_
    refine mL_16 hO h dX4_does_116 (fun h => ?_)
    refine zg_bipush hO dX4_does_117 bc66 ?_
    refine zg_icmp_ne (tgt := 126) hO h dX4_does_119 (by decide) (fun h => ?_) (fun h => ?_)
    · refine zg_iconst hO dX4_does_126 ic0 ?_
      exact zg_sub [] rfl (w_M_does_127 hO hr _ _ _ h)
    · refine zg_iconst hO dX4_does_122 ic1 ?_
      refine zg_goto (tgt := 127) hO dX4_does_123 (by decide) ?_
      exact zg_sub [] rfl (w_M_does_127 hO hr _ _ _ h)
set_option maxHeartbeats 4000000 in
theorem w_M_run_108 (hO : Ok p s m args meth c cX4_run RX4 5 D dA (AG G s.heap.size)) (hr : meth.sig.returnType = (some .int)) {ρ : Int32 × MS} : ∀ (x1 : Int32) (x3 : Int32) (x4 : Int32) (y0 : Int32) (σ : MS), M_run_108 x1 x3 x4 y0 σ = some ρ → Go p l e (rmG 8 0 0) s m args below meth c D (AG G s.heap.size) 5 (MQ below ((QfI D dA (WM dA G ρ.2) ρ.1) (AG G s.heap.size)) args s 0 0 (AG G s.heap.size)) (WM dA G σ) 0 0 108 [(0, .ref (G 0)), (1, .int x1), (3, .int x3), (4, .int x4)] [.int y0, .ref (G 0)] := by
  intro x1 x3 x4 y0 σ h
  unfold M_run_108 at h
  refine zs_calli (As := [.int y0]) (rest := [.ref (G 0)]) hO h (fun q hq => m_flag l D dA hq) mw_X4_flag q1835 ⟨Nat.le_of_ble_eq_true rfl, Nat.le_of_ble_eq_true rfl⟩ ⟨Nat.le_refl _, Nat.le_refl _⟩ rfl rfl (Nat.le_of_ble_eq_true rfl) dX4_run_108 (fun q7 h => ?_)
  refine zg_i2l hO dX4_run_111 ?_
  refine zm_callVv (As := [.long (q7.toInt64)]) (rest := []) hO h (fun q hq => m_enters l D dA G hq) mw_X4_enters q1856 ⟨Nat.le_of_ble_eq_true rfl, Nat.le_of_ble_eq_true rfl⟩ rfl rfl (Nat.le_of_ble_eq_true rfl) dX4_run_112 (fun q8 h => ?_)
  refine zg_aload_n hO 0 dX4_run_115 rfl rfl ?_
  refine zg_aload_n hO 0 dX4_run_116 rfl rfl ?_
  refine mG_184 hO dX4_run_117 ?_
  refine zg_iload_n hO 2 dX4_run_120 rfl rfl ?_
  refine zg_isub hO dX4_run_121 ?_
  refine zg_i2l hO dX4_run_122 ?_
  refine zm_callVv (As := [.long (((gI q8 8) - x3).toInt64)]) (rest := []) hO h (fun q hq => m_enters l D dA G hq) mw_X4_enters q1856 ⟨Nat.le_of_ble_eq_true rfl, Nat.le_of_ble_eq_true rfl⟩ rfl rfl (Nat.le_of_ble_eq_true rfl) dX4_run_123 (fun q9 h => ?_)
  refine zg_aload_n hO 0 dX4_run_126 rfl rfl ?_
  refine zg_iload_n hO 1 dX4_run_127 rfl rfl ?_
  refine zm_callVv (As := [.int x1]) (rest := []) hO h (fun q hq => m_entersSummary l D dA G hq) mw_X4_entersSummary q2026 ⟨Nat.le_of_ble_eq_true rfl, Nat.le_of_ble_eq_true rfl⟩ rfl rfl (Nat.le_of_ble_eq_true rfl) dX4_run_128 (fun q10 h => ?_)
  refine zg_iload hO 3 dX4_run_131 rfl ?_
  exact zm_iret hO hr h dX4_run_133
set_option maxHeartbeats 4000000 in
theorem w_M_run_91 (hO : Ok p s m args meth c cX4_run RX4 5 D dA (AG G s.heap.size)) (hr : meth.sig.returnType = (some .int)) {ρ : Int32 × MS} : ∀ (x1 : Int32) (x2 : Int32) (x3 : Int32) (x4 : Int32) (σ : MS), M_run_91 x1 x2 x3 x4 σ = some ρ → Go p l e (rmG 8 0 0) s m args below meth c D (AG G s.heap.size) 5 (MQ below ((QfI D dA (WM dA G ρ.2) ρ.1) (AG G s.heap.size)) args s 0 0 (AG G s.heap.size)) (WM dA G σ) 0 0 91 [(0, .ref (G 0)), (1, .int x1), (2, .int x2), (3, .int x3), (4, .int x4)] [] := by
  intro x1 x2 x3 x4 σ h
  unfold M_run_91 at h
  refine zg_aload_n hO 0 dX4_run_91 rfl rfl ?_
  refine zg_iconst hO dX4_run_92 ic0 ?_
  refine mP_11 hO dX4_run_93 ?_
  refine zg_aload_n hO 0 dX4_run_96 rfl rfl ?_
  refine zg_iload hO 4 dX4_run_97 rfl ?_
  refine zg_iload_n hO 2 dX4_run_99 rfl rfl ?_
  refine zg_icmp_ge (tgt := 107) hO h dX4_run_100 (by decide) (fun h => ?_) (fun h => ?_)
  · refine zg_iconst hO dX4_run_107 ic0 ?_
    exact zg_sub [0, 1, 3, 4] rfl (w_M_run_108 hO hr _ _ _ _ _ h)
  · refine zg_iconst hO dX4_run_103 ic1 ?_
    refine zg_goto (tgt := 108) hO dX4_run_104 (by decide) ?_
    exact zg_sub [0, 1, 3, 4] rfl (w_M_run_108 hO hr _ _ _ _ _ h)
set_option maxHeartbeats 4000000 in
theorem w_M_run_69 (hO : Ok p s m args meth c cX4_run RX4 5 D dA (AG G s.heap.size)) (hr : meth.sig.returnType = (some .int)) {ρ : Int32 × MS} : ∀ (n : Nat) (x1 : Int32) (x2 : Int32) (x3 : Int32) (x4 : Int32) (σ : MS), M_run_69 n x1 x2 x3 x4 σ = some ρ → Go p l e (rmG 8 0 0) s m args below meth c D (AG G s.heap.size) 5 (MQ below ((QfI D dA (WM dA G ρ.2) ρ.1) (AG G s.heap.size)) args s 0 0 (AG G s.heap.size)) (WM dA G σ) 0 0 69 [(0, .ref (G 0)), (1, .int x1), (2, .int x2), (3, .int x3), (4, .int x4)] [] := by
  intro n
  induction n with
  | zero =>
    intro x1 x2 x3 x4 σ h
    rw [M_run_69] at h
    cases h
  | succ n ih =>
    intro x1 x2 x3 x4 σ h
    rw [M_run_69] at h
    refine zg_iload hO 4 dX4_run_69 rfl ?_
    refine zg_iload_n hO 2 dX4_run_71 rfl rfl ?_
    refine zg_icmp_ge (tgt := 91) hO h dX4_run_72 (by decide) (fun h => ?_) (fun h => ?_)
    · exact zg_sub [0, 1, 2, 3, 4] rfl (w_M_run_91 hO hr _ _ _ _ _ h)
    · refine zg_aload_n hO 0 dX4_run_75 rfl rfl ?_
      refine zg_iload_n hO 1 dX4_run_76 rfl rfl ?_
      refine zg_iload hO 4 dX4_run_77 rfl ?_
      refine zm_callVi (As := [.int x1, .int x4]) (rest := []) hO h (fun q hq => m_does l D dA G hq) mw_X4_does q2050 ⟨Nat.le_of_ble_eq_true rfl, Nat.le_of_ble_eq_true rfl⟩ rfl rfl (Nat.le_of_ble_eq_true rfl) dX4_run_79 (fun q6 h => ?_)
      refine zg_if_eq (tgt := 91) hO h dX4_run_82 (by decide) (fun h => ?_) (fun h => ?_)
      · exact zg_sub [0, 1, 2, 3, 4] rfl (w_M_run_91 hO hr _ _ _ _ _ h)
      · refine zg_iinc (k := 4) (lv' := [(4, .int (x4 + (nI 1))), (0, .ref (G 0)), (1, .int x1), (2, .int x2), (3, .int x3)]) hO dX4_run_85 rfl (zii ic1) (Nat.le_of_ble_eq_true rfl) rfl ?_
        refine zg_goto (tgt := 69) hO dX4_run_88 (by decide) ?_
        exact zg_sub [1, 2, 3, 4, 0] rfl (ih _ _ _ _ _ h)
set_option maxHeartbeats 4000000 in
theorem w_M_run_24 (hO : Ok p s m args meth c cX4_run RX4 5 D dA (AG G s.heap.size)) (hr : meth.sig.returnType = (some .int)) {ρ : Int32 × MS} : ∀ (n : Nat) (x1 : Int32) (x2 : Int32) (σ : MS), M_run_24 n x1 x2 σ = some ρ → Go p l e (rmG 8 0 0) s m args below meth c D (AG G s.heap.size) 5 (MQ below ((QfI D dA (WM dA G ρ.2) ρ.1) (AG G s.heap.size)) args s 0 0 (AG G s.heap.size)) (WM dA G σ) 0 0 24 [(0, .ref (G 0)), (1, .int x1), (2, .int x2)] [] := by
  intro n
  induction n with
  | zero =>
    intro x1 x2 σ h
    rw [M_run_24] at h
    cases h
  | succ n ih =>
    intro x1 x2 σ h
    rw [M_run_24] at h
    refine zg_aload_n hO 0 dX4_run_24 rfl rfl ?_
    refine mG_28 hO dX4_run_25 ?_
    refine zg_aload_n hO 0 dX4_run_28 rfl rfl ?_
    refine mG_25 hO dX4_run_29 ?_
    refine zg_icmp_ge (tgt := 61) hO h dX4_run_32 (by decide) (fun h => ?_) (fun h => ?_)
    · refine zg_aload_n hO 0 dX4_run_61 rfl rfl ?_
      refine mG_184 hO dX4_run_62 ?_
      refine zg_istore_n (lv' := [(3, .int (gI σ 8)), (0, .ref (G 0)), (1, .int x1), (2, .int x2)]) hO dX4_run_65 rfl (Nat.le_of_ble_eq_true rfl) rfl ?_
      refine zg_iconst hO dX4_run_66 ic0 ?_
      refine zg_istore (lv' := [(4, .int (nI 0)), (3, .int (gI σ 8)), (0, .ref (G 0)), (1, .int x1), (2, .int x2)]) hO dX4_run_67 (Nat.le_of_ble_eq_true rfl) rfl ?_
      exact zg_sub [2, 3, 4, 1, 0] rfl (w_M_run_69 hO hr _ _ _ _ _ _ h)
    · refine zg_aload_n hO 0 dX4_run_35 rfl rfl ?_
      refine zg_iload_n hO 2 dX4_run_36 rfl rfl ?_
      refine zm_callVi (As := [.int x2]) (rest := []) hO h (fun q hq => m_readsAct l D dA G hq) mw_X4_readsAct q2046 ⟨Nat.le_of_ble_eq_true rfl, Nat.le_of_ble_eq_true rfl⟩ rfl rfl (Nat.le_of_ble_eq_true rfl) dX4_run_37 (fun q4 h => ?_)
      refine zg_if_ne (tgt := 51) hO h dX4_run_40 (by decide) (fun h => ?_) (fun h => ?_)
      · refine zg_iinc (k := 2) (lv' := [(2, .int (x2 + (nI 1))), (0, .ref (G 0)), (1, .int x1)]) hO dX4_run_51 rfl (zii ic1) (Nat.le_of_ble_eq_true rfl) rfl ?_
        refine zg_aload_n hO 1 dX4_run_54 rfl rfl ?_
        refine zm_callVv (As := []) (rest := []) hO h (fun q hq => m_passes l D dA G hq) mw_X4_passes q2042 ⟨Nat.le_of_ble_eq_true rfl, Nat.le_of_ble_eq_true rfl⟩ rfl rfl (Nat.le_of_ble_eq_true rfl) dX4_run_55 (fun q5 h => ?_)
        refine zg_goto (tgt := 24) hO dX4_run_58 (by decide) ?_
        exact zg_sub [1, 2, 0] rfl (ih _ _ _ h)
      · refine zg_bipush hO dX4_run_43 bcm21 ?_
        refine zg_aload_n hO 0 dX4_run_45 rfl rfl ?_
        refine mG_28 hO dX4_run_46 ?_
        refine zg_isub hO dX4_run_49 ?_
        exact zm_iret hO hr h dX4_run_50
theorem mw_X4_run : MwV yX4_run cX4_run 5 (some .int) RX4 1 := ⟨by decide +kernel, q2039, q2040, q106, q2041⟩
set_option maxHeartbeats 4000000 in
theorem m_run (l : Launch) (D : va_G) (dA : Nat → ClassId) (G : Nat → Nat) {x1 : Int32} {σ : MS} {ρ : Int32 × MS} (h : M_run x1 σ = some ρ) : Ct l yX4_run (ws_ yX4_run cX4_run 5 (some .int)) 8 0 0 D dA [.ref (G 0), .int x1] (WM dA G σ) (AG G) (QfI D dA (WM dA G ρ.2) ρ.1) := by
  refine zc_start (cc := cX4_run) (nL := 5) (ret := (some .int)) (own := RX4) (by decide) rfl rfl (Nat.le_of_ble_eq_true rfl) wm_A (fun p e s m args below meth c hO hr _ _ => ?_)
  unfold M_run at h
  refine zg_sub (lv' := [(0, .ref (G 0)), (1, .int x1)]) [0, 1] rfl ?_
  refine zg_aload_n hO 0 dX4_run_0 rfl rfl ?_
  refine zg_iconst hO dX4_run_1 ic0 ?_
  refine mP_1 hO dX4_run_2 ?_
  refine zg_aload_n hO 0 dX4_run_5 rfl rfl ?_
  refine zm_callVv (As := []) (rest := []) hO h (fun q hq => m_reads l D dA G hq) mw_X4_reads q1923 ⟨Nat.le_of_ble_eq_true rfl, Nat.le_of_ble_eq_true rfl⟩ rfl rfl (Nat.le_of_ble_eq_true rfl) dX4_run_6 (fun q1 h => ?_)
  refine zg_iload_n hO 1 dX4_run_9 rfl rfl ?_
  refine zs_calli (As := [.int x1]) (rest := []) hO h (fun q hq => m_isLine l D dA hq) mw_X4_isLine q1958 ⟨Nat.le_of_ble_eq_true rfl, Nat.le_of_ble_eq_true rfl⟩ ⟨Nat.le_refl _, Nat.le_refl _⟩ rfl rfl (Nat.le_of_ble_eq_true rfl) dX4_run_10 (fun q2 h => ?_)
  refine zg_if_ne (tgt := 18) hO h dX4_run_13 (by decide) (fun h => ?_) (fun h => ?_)
  · refine zg_iconst hO dX4_run_18 ic0 ?_
    refine zg_istore_n (lv' := [(2, .int (nI 0)), (0, .ref (G 0)), (1, .int x1)]) hO dX4_run_19 rfl (Nat.le_of_ble_eq_true rfl) rfl ?_
    refine zg_aload_n hO 1 dX4_run_20 rfl rfl ?_
    refine zm_callVv (As := []) (rest := []) hO h (fun q hq => m_passes l D dA G hq) mw_X4_passes q2042 ⟨Nat.le_of_ble_eq_true rfl, Nat.le_of_ble_eq_true rfl⟩ rfl rfl (Nat.le_of_ble_eq_true rfl) dX4_run_21 (fun q3 h => ?_)
    exact zg_sub [1, 2, 0] rfl (w_M_run_24 hO hr _ _ _ _ h)
  · refine zg_iconst hO dX4_run_16 icm1 ?_
    exact zm_iret hO hr h dX4_run_17
theorem mw_X4_sum : MwV yX4_sum cX4_sum 2 (some .int) RX4 1 := ⟨by decide +kernel, q2055, q2056, q106, q2057⟩
set_option maxHeartbeats 4000000 in
theorem m_sum (l : Launch) (D : va_G) (dA : Nat → ClassId) (G : Nat → Nat) {x1 : Int32} {σ : MS} {ρ : Int32 × MS} (h : M_sum x1 σ = some ρ) : Ct l yX4_sum (ws_ yX4_sum cX4_sum 2 (some .int)) 6 0 0 D dA [.ref (G 0), .int x1] (WM dA G σ) (AG G) (QfI D dA (WM dA G ρ.2) ρ.1) := by
  refine zc_start (cc := cX4_sum) (nL := 2) (ret := (some .int)) (own := RX4) (by decide) rfl rfl (Nat.le_of_ble_eq_true rfl) wm_A (fun p e s m args below meth c hO hr _ _ => ?_)
  unfold M_sum at h
  refine zg_sub (lv' := [(0, .ref (G 0)), (1, .int x1)]) [0, 1] rfl ?_
  refine zg_aload_n hO 0 dX4_sum_0 rfl rfl ?_
  refine zg_iconst hO dX4_sum_1 ic0 ?_
  refine mP_1 hO dX4_sum_2 ?_
  refine zg_iload_n hO 1 dX4_sum_5 rfl rfl ?_
  refine zs_calli (As := [.int x1]) (rest := []) hO h (fun q hq => m_isLine l D dA hq) mw_X4_isLine q1958 ⟨Nat.le_of_ble_eq_true rfl, Nat.le_of_ble_eq_true rfl⟩ ⟨Nat.le_refl _, Nat.le_refl _⟩ rfl rfl (Nat.le_of_ble_eq_true rfl) dX4_sum_6 (fun q1 h => ?_)
  refine zg_if_ne (tgt := 14) hO h dX4_sum_9 (by decide) (fun h => ?_) (fun h => ?_)
  · refine zg_aload_n hO 0 dX4_sum_14 rfl rfl ?_
    refine zg_iconst hO dX4_sum_15 ic0 ?_
    refine mP_11 hO dX4_sum_16 ?_
    refine zg_aload_n hO 0 dX4_sum_19 rfl rfl ?_
    refine zg_iload_n hO 1 dX4_sum_20 rfl rfl ?_
    refine zm_callVv (As := [.int x1]) (rest := []) hO h (fun q hq => m_entersSummary l D dA G hq) mw_X4_entersSummary q2026 ⟨Nat.le_of_ble_eq_true rfl, Nat.le_of_ble_eq_true rfl⟩ rfl rfl (Nat.le_of_ble_eq_true rfl) dX4_sum_21 (fun q2 h => ?_)
    refine zg_aload_n hO 0 dX4_sum_24 rfl rfl ?_
    refine zg_iload_n hO 1 dX4_sum_25 rfl rfl ?_
    refine zm_callVi (As := [.int x1]) (rest := []) hO h (fun q hq => m_sizeOf l D dA G hq) mw_X4_sizeOf q1896 ⟨Nat.le_of_ble_eq_true rfl, Nat.le_of_ble_eq_true rfl⟩ rfl rfl (Nat.le_of_ble_eq_true rfl) dX4_sum_26 (fun q3 h => ?_)
    exact zm_iret hO hr h dX4_sum_29
  · refine zg_iconst hO dX4_sum_12 icm1 ?_
    exact zm_iret hO hr h dX4_sum_13
set_option maxHeartbeats 4000000 in
theorem w_M_item_101 (hO : Ok p s m args meth c cX4_item RX4 5 D dA (AG G s.heap.size)) (hr : meth.sig.returnType = (some .int)) {ρ : Int32 × MS} : ∀ (x3 : Int32) (y0 : Int64) (σ : MS), M_item_101 x3 y0 σ = some ρ → Go p l e (rmG 2 0 0) s m args below meth c D (AG G s.heap.size) 5 (MQ below ((QfI D dA (WM dA G ρ.2) ρ.1) (AG G s.heap.size)) args s 0 0 (AG G s.heap.size)) (WM dA G σ) 0 0 101 [(0, .ref (G 0)), (3, .int x3)] [.long y0, .ref (G 0)] := by
  intro x3 y0 σ h
  unfold M_item_101 at h
  refine zm_callVv (As := [.long y0]) (rest := []) hO h (fun q hq => m_enters l D dA G hq) mw_X4_enters q1856 ⟨Nat.le_of_ble_eq_true rfl, Nat.le_of_ble_eq_true rfl⟩ rfl rfl (Nat.le_of_ble_eq_true rfl) dX4_item_101 (fun q8 h => ?_)
  refine zg_aload_n hO 0 dX4_item_104 rfl rfl ?_
  refine zg_aload_n hO 0 dX4_item_105 rfl rfl ?_
  refine mG_75 hO dX4_item_106 ?_
  refine zg_iload_n hO 1 dX4_item_109 rfl rfl ?_
  refine mL_12 hO h dX4_item_110 (fun h => ?_)
  refine zm_callVv (As := [.long (gB q8 3 x3.toNatClampNeg)]) (rest := []) hO h (fun q hq => m_enters l D dA G hq) mw_X4_enters q1856 ⟨Nat.le_of_ble_eq_true rfl, Nat.le_of_ble_eq_true rfl⟩ rfl rfl (Nat.le_of_ble_eq_true rfl) dX4_item_111 (fun q9 h => ?_)
  refine zg_aload_n hO 0 dX4_item_114 rfl rfl ?_
  refine zg_aload_n hO 0 dX4_item_115 rfl rfl ?_
  refine mG_78 hO dX4_item_116 ?_
  refine zg_iload_n hO 1 dX4_item_119 rfl rfl ?_
  refine mL_13 hO h dX4_item_120 (fun h => ?_)
  refine zm_callVv (As := [.long (gB q9 4 x3.toNatClampNeg)]) (rest := []) hO h (fun q hq => m_enters l D dA G hq) mw_X4_enters q1856 ⟨Nat.le_of_ble_eq_true rfl, Nat.le_of_ble_eq_true rfl⟩ rfl rfl (Nat.le_of_ble_eq_true rfl) dX4_item_121 (fun q10 h => ?_)
  refine zg_aload_n hO 0 dX4_item_124 rfl rfl ?_
  refine mG_72 hO dX4_item_125 ?_
  refine zg_iload_n hO 1 dX4_item_128 rfl rfl ?_
  refine mL_11 hO h dX4_item_129 (fun h => ?_)
  exact zm_iret hO hr h dX4_item_130
set_option maxHeartbeats 4000000 in
theorem w_M_item_72 (hO : Ok p s m args meth c cX4_item RX4 5 D dA (AG G s.heap.size)) (hr : meth.sig.returnType = (some .int)) {ρ : Int32 × MS} : ∀ (x1 : Int32) (x2 : Int32) (x3 : Int32) (x4 : Int32) (y0 : Int32) (σ : MS), M_item_72 x1 x2 x3 x4 y0 σ = some ρ → Go p l e (rmG 2 0 0) s m args below meth c D (AG G s.heap.size) 5 (MQ below ((QfI D dA (WM dA G ρ.2) ρ.1) (AG G s.heap.size)) args s 0 0 (AG G s.heap.size)) (WM dA G σ) 0 0 72 [(0, .ref (G 0)), (1, .int x1), (2, .int x2), (3, .int x3), (4, .int x4)] [.int y0, .ref (G 0)] := by
  intro x1 x2 x3 x4 y0 σ h
  unfold M_item_72 at h
  refine zs_calli (As := [.int y0]) (rest := [.ref (G 0)]) hO h (fun q hq => m_flag l D dA hq) mw_X4_flag q1835 ⟨Nat.le_of_ble_eq_true rfl, Nat.le_of_ble_eq_true rfl⟩ ⟨Nat.le_refl _, Nat.le_refl _⟩ rfl rfl (Nat.le_of_ble_eq_true rfl) dX4_item_72 (fun q5 h => ?_)
  refine zg_i2l hO dX4_item_75 ?_
  refine zm_callVv (As := [.long (q5.toInt64)]) (rest := []) hO h (fun q hq => m_enters l D dA G hq) mw_X4_enters q1856 ⟨Nat.le_of_ble_eq_true rfl, Nat.le_of_ble_eq_true rfl⟩ rfl rfl (Nat.le_of_ble_eq_true rfl) dX4_item_76 (fun q6 h => ?_)
  refine zg_aload_n hO 0 dX4_item_79 rfl rfl ?_
  refine zg_iload_n hO 2 dX4_item_80 rfl rfl ?_
  refine zg_iload hO 4 dX4_item_81 rfl ?_
  refine zg_icmp_ge (tgt := 91) hO h dX4_item_83 (by decide) (fun h => ?_) (fun h => ?_)
  · refine zg_aload_n hO 0 dX4_item_91 rfl rfl ?_
    refine zg_iload_n hO 1 dX4_item_92 rfl rfl ?_
    refine zm_callVi (As := [.int x1]) (rest := [.ref (G 0)]) hO h (fun q hq => m_sizeOf l D dA G hq) mw_X4_sizeOf q1896 ⟨Nat.le_of_ble_eq_true rfl, Nat.le_of_ble_eq_true rfl⟩ rfl rfl (Nat.le_of_ble_eq_true rfl) dX4_item_93 (fun q7 h => ?_)
    refine zg_iconst hO dX4_item_96 ic1 ?_
    refine zg_isub hO dX4_item_97 ?_
    refine zg_iload_n hO 2 dX4_item_98 rfl rfl ?_
    refine zg_isub hO dX4_item_99 ?_
    refine zg_i2l hO dX4_item_100 ?_
    exact zg_sub [0, 3] rfl (w_M_item_101 hO hr _ _ _ h)
  · refine zg_iload_n hO 2 dX4_item_86 rfl rfl ?_
    refine zg_i2l hO dX4_item_87 ?_
    refine zg_goto (tgt := 101) hO dX4_item_88 (by decide) ?_
    exact zg_sub [0, 3] rfl (w_M_item_101 hO hr _ _ _ h)
set_option maxHeartbeats 4000000 in
theorem w_M_item_22 (hO : Ok p s m args meth c cX4_item RX4 5 D dA (AG G s.heap.size)) (hr : meth.sig.returnType = (some .int)) {ρ : Int32 × MS} : ∀ (x1 : Int32) (x2 : Int32) (y0 : Int32) (σ : MS), M_item_22 x1 x2 y0 σ = some ρ → Go p l e (rmG 2 0 0) s m args below meth c D (AG G s.heap.size) 5 (MQ below ((QfI D dA (WM dA G ρ.2) ρ.1) (AG G s.heap.size)) args s 0 0 (AG G s.heap.size)) (WM dA G σ) 0 0 22 [(0, .ref (G 0)), (1, .int x1), (2, .int x2)] [.int y0, .ref (G 0)] := by
  intro x1 x2 y0 σ h
  unfold M_item_22 at h
  refine zs_calli (As := [.int y0]) (rest := [.ref (G 0)]) hO h (fun q hq => m_flag l D dA hq) mw_X4_flag q1835 ⟨Nat.le_of_ble_eq_true rfl, Nat.le_of_ble_eq_true rfl⟩ ⟨Nat.le_refl _, Nat.le_refl _⟩ rfl rfl (Nat.le_of_ble_eq_true rfl) dX4_item_22 (fun q3 h => ?_)
  refine mP_1 hO dX4_item_25 ?_
  refine zg_aload_n hO 0 dX4_item_28 rfl rfl ?_
  refine mG_1 hO dX4_item_29 ?_
  refine zg_iconst hO dX4_item_32 ic1 ?_
  refine zg_icmp_ne (tgt := 38) hO h dX4_item_33 (by decide) (fun h => ?_) (fun h => ?_)
  · refine zg_aload_n hO 0 dX4_item_38 rfl rfl ?_
    refine zg_iload_n hO 1 dX4_item_39 rfl rfl ?_
    refine zg_iload_n hO 2 dX4_item_40 rfl rfl ?_
    refine zm_callVi (As := [.int x1, .int x2]) (rest := []) hO h (fun q hq => m_placeOf l D dA G hq) mw_X4_placeOf q1904 ⟨Nat.le_of_ble_eq_true rfl, Nat.le_of_ble_eq_true rfl⟩ rfl rfl (Nat.le_of_ble_eq_true rfl) dX4_item_41 (fun q4 h => ?_)
    refine zg_istore_n (lv' := [(3, .int q4.1), (0, .ref (G 0)), (1, .int x1), (2, .int x2)]) hO dX4_item_44 rfl (Nat.le_of_ble_eq_true rfl) rfl ?_
    refine zg_aload_n hO 1 dX4_item_45 rfl rfl ?_
    refine mG_66 hO dX4_item_46 ?_
    refine zg_iconst hO dX4_item_49 ic2 ?_
    refine zg_iload_n hO 2 dX4_item_50 rfl rfl ?_
    refine zg_imul hO dX4_item_51 ?_
    refine mL_9 hO h dX4_item_52 (fun h => ?_)
    refine zg_istore (lv' := [(4, .int (gA q4.2 5 ((nI 2) * x1).toNatClampNeg)), (3, .int q4.1), (0, .ref (G 0)), (1, .int x1), (2, .int x2)]) hO dX4_item_53 (Nat.le_of_ble_eq_true rfl) rfl ?_
    refine zg_aload_n hO 2 dX4_item_55 rfl rfl ?_
    refine zg_iconst hO dX4_item_56 ic0 ?_
    refine mP_11 hO dX4_item_57 ?_
    refine zg_aload_n hO 2 dX4_item_60 rfl rfl ?_
    refine zg_iload_n hO 4 dX4_item_61 rfl rfl ?_
    refine zg_iload hO 0 dX4_item_62 rfl ?_
    refine zg_icmp_lt (tgt := 71) hO h dX4_item_64 (by decide) (fun h => ?_) (fun h => ?_)
    · refine zg_iconst hO dX4_item_71 ic0 ?_
      exact zg_sub [2, 3, 4, 1, 0] rfl (w_M_item_72 hO hr _ _ _ _ _ _ h)
    · refine zg_iconst hO dX4_item_67 ic1 ?_
      refine zg_goto (tgt := 72) hO dX4_item_68 (by decide) ?_
      exact zg_sub [2, 3, 4, 1, 0] rfl (w_M_item_72 hO hr _ _ _ _ _ _ h)
  · refine zg_iconst hO dX4_item_36 ic0 ?_
    exact zm_iret hO hr h dX4_item_37
set_option maxHeartbeats 4000000 in
theorem w_M_item_17 (hO : Ok p s m args meth c cX4_item RX4 5 D dA (AG G s.heap.size)) (hr : meth.sig.returnType = (some .int)) {ρ : Int32 × MS} : ∀ (x1 : Int32) (x2 : Int32) (σ : MS), M_item_17 x1 x2 σ = some ρ → Go p l e (rmG 2 0 0) s m args below meth c D (AG G s.heap.size) 5 (MQ below ((QfI D dA (WM dA G ρ.2) ρ.1) (AG G s.heap.size)) args s 0 0 (AG G s.heap.size)) (WM dA G σ) 0 0 17 [(0, .ref (G 0)), (1, .int x1), (2, .int x2)] [.ref (G 0)] := by
  intro x1 x2 σ h
  unfold M_item_17 at h
  refine zg_iconst hO dX4_item_17 ic1 ?_
  refine zg_goto (tgt := 22) hO dX4_item_18 (by decide) ?_
  exact zg_sub [0, 1, 2] rfl (w_M_item_22 hO hr _ _ _ _ h)
theorem mw_X4_item : MwV yX4_item cX4_item 5 (some .int) RX4 2 := ⟨by decide +kernel, q2059, q2060, q106, q2061⟩
set_option maxHeartbeats 4000000 in
theorem m_item (l : Launch) (D : va_G) (dA : Nat → ClassId) (G : Nat → Nat) {x1 : Int32} {x2 : Int32} {σ : MS} {ρ : Int32 × MS} (h : M_item x1 x2 σ = some ρ) : Ct l yX4_item (ws_ yX4_item cX4_item 5 (some .int)) 2 0 0 D dA [.ref (G 0), .int x1, .int x2] (WM dA G σ) (AG G) (QfI D dA (WM dA G ρ.2) ρ.1) := by
  refine zc_start (cc := cX4_item) (nL := 5) (ret := (some .int)) (own := RX4) (by decide) rfl rfl (Nat.le_of_ble_eq_true rfl) wm_A (fun p e s m args below meth c hO hr _ _ => ?_)
  unfold M_item at h
  refine zg_sub (lv' := [(0, .ref (G 0)), (1, .int x1), (2, .int x2)]) [0, 1, 2] rfl ?_
  refine zg_aload_n hO 0 dX4_item_0 rfl rfl ?_
  refine zg_iload_n hO 1 dX4_item_1 rfl rfl ?_
  refine zs_calli (As := [.int x1]) (rest := [.ref (G 0)]) hO h (fun q hq => m_isLine l D dA hq) mw_X4_isLine q1958 ⟨Nat.le_of_ble_eq_true rfl, Nat.le_of_ble_eq_true rfl⟩ ⟨Nat.le_refl _, Nat.le_refl _⟩ rfl rfl (Nat.le_of_ble_eq_true rfl) dX4_item_2 (fun q1 h => ?_)
  refine zg_if_eq (tgt := 17) hO h dX4_item_5 (by decide) (fun h => ?_) (fun h => ?_)
  · exact zg_sub [0, 1, 2] rfl (w_M_item_17 hO hr _ _ _ h)
  · refine zg_aload_n hO 0 dX4_item_8 rfl rfl ?_
    refine zg_iload_n hO 1 dX4_item_9 rfl rfl ?_
    refine zg_iload_n hO 2 dX4_item_10 rfl rfl ?_
    refine zm_callVi (As := [.int x1, .int x2]) (rest := [.ref (G 0)]) hO h (fun q hq => m_isAt l D dA G hq) mw_X4_isAt q2005 ⟨Nat.le_of_ble_eq_true rfl, Nat.le_of_ble_eq_true rfl⟩ rfl rfl (Nat.le_of_ble_eq_true rfl) dX4_item_11 (fun q2 h => ?_)
    refine zg_if_ne (tgt := 21) hO h dX4_item_14 (by decide) (fun h => ?_) (fun h => ?_)
    · refine zg_iconst hO dX4_item_21 ic0 ?_
      exact zg_sub [0, 1, 2] rfl (w_M_item_22 hO hr _ _ _ _ h)
    · exact zg_sub [0, 1, 2] rfl (w_M_item_17 hO hr _ _ _ h)
set_option maxHeartbeats 4000000 in
theorem w_M_sums_59 (hO : Ok p s m args meth c cX4_sums RX4 9 D dA (AG G s.heap.size)) (hr : meth.sig.returnType = none) {ρ : MS} {k19 : Int32 → Int32 → Int32 → Int64 → Int64 → Int32 → MS → Option (MS)} (K19 : ∀ (x1 : Int32) (x2 : Int32) (x3 : Int32) (x4 : Int64) (x6 : Int64) (x8 : Int32) (σ : MS), k19 x1 x2 x3 x4 x6 x8 σ = some ρ → Go p l e (rmG 4 0 0) s m args below meth c D (AG G s.heap.size) 9 (MQ below ((QfV D dA (WM dA G ρ)) (AG G s.heap.size)) args s 0 0 (AG G s.heap.size)) (WM dA G σ) 0 0 19 [(0, .ref (G 0)), (1, .int x1), (2, .int x2), (3, .int x3), (4, .long x4), (6, .long x6), (8, .int x8)] []) : ∀ (x1 : Int32) (x2 : Int32) (x3 : Int32) (x8 : Int32) (σ : MS), M_sums_59 k19 x1 x2 x3 x8 σ = some ρ → Go p l e (rmG 4 0 0) s m args below meth c D (AG G s.heap.size) 9 (MQ below ((QfV D dA (WM dA G ρ)) (AG G s.heap.size)) args s 0 0 (AG G s.heap.size)) (WM dA G σ) 0 0 59 [(0, .ref (G 0)), (1, .int x1), (2, .int x2), (3, .int x3), (8, .int x8)] [] := by
  intro x1 x2 x3 x8 σ h
  unfold M_sums_59 at h
  refine zg_aload_n hO 0 dX4_sums_59 rfl rfl ?_
  refine mG_96 hO dX4_sums_60 ?_
  refine zg_lstore (lv' := [(4, .long (gL σ 0)), (0, .ref (G 0)), (1, .int x1), (2, .int x2), (3, .int x3), (8, .int x8)]) hO dX4_sums_63 (Nat.le_of_ble_eq_true rfl) rfl ?_
  refine zg_aload_n hO 1 dX4_sums_65 rfl rfl ?_
  refine mG_100 hO dX4_sums_66 ?_
  refine zg_lstore (lv' := [(6, .long (gL σ 1)), (4, .long (gL σ 0)), (0, .ref (G 0)), (1, .int x1), (2, .int x2), (3, .int x3), (8, .int x8)]) hO dX4_sums_69 (Nat.le_of_ble_eq_true rfl) rfl ?_
  refine zg_iinc (k := 6) (lv' := [(8, .int (x8 + (nI 1))), (6, .long (gL σ 1)), (4, .long (gL σ 0)), (0, .ref (G 0)), (1, .int x1), (2, .int x2), (3, .int x3)]) hO dX4_sums_71 rfl (zii ic1) (Nat.le_of_ble_eq_true rfl) rfl ?_
  refine zg_goto (tgt := 19) hO dX4_sums_74 (by decide) ?_
  exact zg_sub [3, 4, 5, 6, 2, 1, 0] rfl (K19 _ _ _ _ _ _ _ h)
set_option maxHeartbeats 4000000 in
theorem w_M_sums_19 (hO : Ok p s m args meth c cX4_sums RX4 9 D dA (AG G s.heap.size)) (hr : meth.sig.returnType = none) {ρ : MS} : ∀ (n : Nat) (x1 : Int32) (x2 : Int32) (x3 : Int32) (x4 : Int64) (x6 : Int64) (x8 : Int32) (σ : MS), M_sums_19 n x1 x2 x3 x4 x6 x8 σ = some ρ → Go p l e (rmG 4 0 0) s m args below meth c D (AG G s.heap.size) 9 (MQ below ((QfV D dA (WM dA G ρ)) (AG G s.heap.size)) args s 0 0 (AG G s.heap.size)) (WM dA G σ) 0 0 19 [(0, .ref (G 0)), (1, .int x1), (2, .int x2), (3, .int x3), (4, .long x4), (6, .long x6), (8, .int x8)] [] := by
  intro n
  induction n with
  | zero =>
    intro x1 x2 x3 x4 x6 x8 σ h
    rw [M_sums_19] at h
    cases h
  | succ n ih =>
    intro x1 x2 x3 x4 x6 x8 σ h
    rw [M_sums_19] at h
    refine zg_iload hO 6 dX4_sums_19 rfl ?_
    refine zg_iload_n hO 3 dX4_sums_21 rfl rfl ?_
    refine zg_icmp_ge (tgt := 77) hO h dX4_sums_22 (by decide) (fun h => ?_) (fun h => ?_)
    · refine zg_aload_n hO 0 dX4_sums_77 rfl rfl ?_
      refine zg_lload hO 4 dX4_sums_78 rfl ?_
      refine zg_lload hO 5 dX4_sums_80 rfl ?_
      refine zm_callVv (As := [.long x4, .long x6]) (rest := []) hO h (fun q hq => m_is l D dA G hq) mw_X4_is q1824 ⟨Nat.le_of_ble_eq_true rfl, Nat.le_of_ble_eq_true rfl⟩ rfl rfl (Nat.le_of_ble_eq_true rfl) dX4_sums_82 (fun q2 h => ?_)
      exact zm_vret hO hr h dX4_sums_85
    · refine zg_aload_n hO 0 dX4_sums_25 rfl rfl ?_
      refine zg_aload_n hO 0 dX4_sums_26 rfl rfl ?_
      refine zg_iload_n hO 1 dX4_sums_27 rfl rfl ?_
      refine zg_iload_n hO 2 dX4_sums_28 rfl rfl ?_
      refine zg_iload hO 6 dX4_sums_29 rfl ?_
      refine zg_iadd hO dX4_sums_31 ?_
      refine zm_callVi (As := [.int x1, .int (x2 + x8)]) (rest := [.ref (G 0)]) hO h (fun q hq => m_itemAt l D dA G hq) mw_X4_itemAt q1900 ⟨Nat.le_of_ble_eq_true rfl, Nat.le_of_ble_eq_true rfl⟩ rfl rfl (Nat.le_of_ble_eq_true rfl) dX4_sums_32 (fun q3 h => ?_)
      refine zm_callVv (As := [.int q3.1]) (rest := []) hO h (fun q hq => m_element l D dA G hq) mw_X4_element q1820 ⟨Nat.le_of_ble_eq_true rfl, Nat.le_of_ble_eq_true rfl⟩ rfl rfl (Nat.le_of_ble_eq_true rfl) dX4_sums_35 (fun q4 h => ?_)
      refine zg_iload hO 6 dX4_sums_38 rfl ?_
      refine zg_if_le (tgt := 59) hO h dX4_sums_40 (by decide) (fun h => ?_) (fun h => ?_)
      · exact zg_sub [0, 1, 2, 3, 6] rfl (w_M_sums_59 hO hr ih _ _ _ _ _ h)
      · refine zg_aload_n hO 0 dX4_sums_43 rfl rfl ?_
        refine zg_lload hO 4 dX4_sums_44 rfl ?_
        refine zg_lload hO 5 dX4_sums_46 rfl ?_
        refine zg_aload_n hO 0 dX4_sums_48 rfl rfl ?_
        refine mG_96 hO dX4_sums_49 ?_
        refine zg_aload_n hO 0 dX4_sums_52 rfl rfl ?_
        refine mG_100 hO dX4_sums_53 ?_
        refine zm_callVv (As := [.long x4, .long x6, .long (gL q4 0), .long (gL q4 1)]) (rest := []) hO h (fun q hq => m_join l D dA G hq) mw_X4_join q1838 ⟨Nat.le_of_ble_eq_true rfl, Nat.le_of_ble_eq_true rfl⟩ rfl rfl (Nat.le_of_ble_eq_true rfl) dX4_sums_56 (fun q5 h => ?_)
        exact zg_sub [0, 1, 2, 3, 6] rfl (w_M_sums_59 hO hr ih _ _ _ _ _ h)
theorem mw_X4_sums : MwV yX4_sums cX4_sums 9 none RX4 3 := ⟨by decide +kernel, q2068, qs79, q106, q2069⟩
set_option maxHeartbeats 4000000 in
theorem m_sums (l : Launch) (D : va_G) (dA : Nat → ClassId) (G : Nat → Nat) {x1 : Int32} {x2 : Int32} {x3 : Int32} {σ : MS} {ρ : MS} (h : M_sums x1 x2 x3 σ = some ρ) : Ct l yX4_sums (ws_ yX4_sums cX4_sums 9 none) 4 0 0 D dA [.ref (G 0), .int x1, .int x2, .int x3] (WM dA G σ) (AG G) (QfV D dA (WM dA G ρ)) := by
  refine zc_start (cc := cX4_sums) (nL := 9) (ret := none) (own := RX4) (by decide) rfl rfl (Nat.le_of_ble_eq_true rfl) wm_A (fun p e s m args below meth c hO hr _ _ => ?_)
  unfold M_sums at h
  refine zg_sub (lv' := [(0, .ref (G 0)), (1, .int x1), (2, .int x2), (3, .int x3)]) [0, 1, 2, 3] rfl ?_
  refine zg_aload_n hO 0 dX4_sums_0 rfl rfl ?_
  refine zm_callVv (As := []) (rest := []) hO h (fun q hq => m_empty l D dA G hq) mw_X4_empty q1869 ⟨Nat.le_of_ble_eq_true rfl, Nat.le_of_ble_eq_true rfl⟩ rfl rfl (Nat.le_of_ble_eq_true rfl) dX4_sums_1 (fun q1 h => ?_)
  refine zg_aload_n hO 0 dX4_sums_4 rfl rfl ?_
  refine mG_96 hO dX4_sums_5 ?_
  refine zg_lstore (lv' := [(4, .long (gL q1 0)), (0, .ref (G 0)), (1, .int x1), (2, .int x2), (3, .int x3)]) hO dX4_sums_8 (Nat.le_of_ble_eq_true rfl) rfl ?_
  refine zg_aload_n hO 1 dX4_sums_10 rfl rfl ?_
  refine mG_100 hO dX4_sums_11 ?_
  refine zg_lstore (lv' := [(6, .long (gL q1 1)), (4, .long (gL q1 0)), (0, .ref (G 0)), (1, .int x1), (2, .int x2), (3, .int x3)]) hO dX4_sums_14 (Nat.le_of_ble_eq_true rfl) rfl ?_
  refine zg_iconst hO dX4_sums_16 ic0 ?_
  refine zg_istore (lv' := [(8, .int (nI 0)), (6, .long (gL q1 1)), (4, .long (gL q1 0)), (0, .ref (G 0)), (1, .int x1), (2, .int x2), (3, .int x3)]) hO dX4_sums_17 (Nat.le_of_ble_eq_true rfl) rfl ?_
  exact zg_sub [3, 4, 5, 6, 2, 1, 0] rfl (w_M_sums_19 hO hr _ _ _ _ _ _ _ _ h)
theorem mw_X4_part : MwV yX4_part cX4_part 4 (some .int) RX4 3 := ⟨by decide +kernel, q2063, q2064, q106, q2065⟩
set_option maxHeartbeats 4000000 in
theorem m_part (l : Launch) (D : va_G) (dA : Nat → ClassId) (G : Nat → Nat) {x1 : Int32} {x2 : Int32} {x3 : Int32} {σ : MS} {ρ : Int32 × MS} (h : M_part x1 x2 x3 σ = some ρ) : Ct l yX4_part (ws_ yX4_part cX4_part 4 (some .int)) 5 0 0 D dA [.ref (G 0), .int x1, .int x2, .int x3] (WM dA G σ) (AG G) (QfI D dA (WM dA G ρ.2) ρ.1) := by
  refine zc_start (cc := cX4_part) (nL := 4) (ret := (some .int)) (own := RX4) (by decide) rfl rfl (Nat.le_of_ble_eq_true rfl) wm_A (fun p e s m args below meth c hO hr _ _ => ?_)
  unfold M_part at h
  refine zg_sub (lv' := [(0, .ref (G 0)), (1, .int x1), (2, .int x2), (3, .int x3)]) [0, 1, 2, 3] rfl ?_
  refine zg_aload_n hO 0 dX4_part_0 rfl rfl ?_
  refine zg_iconst hO dX4_part_1 ic0 ?_
  refine mP_1 hO dX4_part_2 ?_
  refine zg_iload_n hO 1 dX4_part_5 rfl rfl ?_
  refine zs_calli (As := [.int x1]) (rest := []) hO h (fun q hq => m_isLine l D dA hq) mw_X4_isLine q1958 ⟨Nat.le_of_ble_eq_true rfl, Nat.le_of_ble_eq_true rfl⟩ ⟨Nat.le_refl _, Nat.le_refl _⟩ rfl rfl (Nat.le_of_ble_eq_true rfl) dX4_part_6 (fun q1 h => ?_)
  refine zg_if_ne (tgt := 14) hO h dX4_part_9 (by decide) (fun h => ?_) (fun h => ?_)
  · refine zg_iload_n hO 2 dX4_part_14 rfl rfl ?_
    refine zg_if_lt (tgt := 32) hO h dX4_part_15 (by decide) (fun h => ?_) (fun h => ?_)
    · refine zg_bipush hO dX4_part_32 bcm2 ?_
      exact zm_iret hO hr h dX4_part_34
    · refine zg_iload_n hO 3 dX4_part_18 rfl rfl ?_
      refine zg_iload_n hO 2 dX4_part_19 rfl rfl ?_
      refine zg_icmp_lt (tgt := 32) hO h dX4_part_20 (by decide) (fun h => ?_) (fun h => ?_)
      · refine zg_bipush hO dX4_part_32 bcm2 ?_
        exact zm_iret hO hr h dX4_part_34
      · refine zg_iload_n hO 3 dX4_part_23 rfl rfl ?_
        refine zg_aload_n hO 0 dX4_part_24 rfl rfl ?_
        refine zg_iload_n hO 1 dX4_part_25 rfl rfl ?_
        refine zm_callVi (As := [.int x1]) (rest := [.int x3]) hO h (fun q hq => m_sizeOf l D dA G hq) mw_X4_sizeOf q1896 ⟨Nat.le_of_ble_eq_true rfl, Nat.le_of_ble_eq_true rfl⟩ rfl rfl (Nat.le_of_ble_eq_true rfl) dX4_part_26 (fun q2 h => ?_)
        refine zg_icmp_le (tgt := 35) hO h dX4_part_29 (by decide) (fun h => ?_) (fun h => ?_)
        · refine zg_aload_n hO 0 dX4_part_35 rfl rfl ?_
          refine zg_iload_n hO 1 dX4_part_36 rfl rfl ?_
          refine zg_iload_n hO 2 dX4_part_37 rfl rfl ?_
          refine zg_iload_n hO 3 dX4_part_38 rfl rfl ?_
          refine zg_iload_n hO 2 dX4_part_39 rfl rfl ?_
          refine zg_isub hO dX4_part_40 ?_
          refine zm_callVv (As := [.int x1, .int x2, .int (x3 - x2)]) (rest := []) hO h (fun q hq => m_sums l D dA G hq) mw_X4_sums q2066 ⟨Nat.le_of_ble_eq_true rfl, Nat.le_of_ble_eq_true rfl⟩ rfl rfl (Nat.le_of_ble_eq_true rfl) dX4_part_41 (fun q3 h => ?_)
          refine zg_aload_n hO 0 dX4_part_44 rfl rfl ?_
          refine zg_iconst hO dX4_part_45 ic0 ?_
          refine mP_11 hO dX4_part_46 ?_
          refine zg_aload_n hO 0 dX4_part_49 rfl rfl ?_
          refine zg_aload_n hO 0 dX4_part_50 rfl rfl ?_
          refine mG_96 hO dX4_part_51 ?_
          refine zm_callVv (As := [.long (gL (sI q3 1 (nI 0)) 0)]) (rest := []) hO h (fun q hq => m_enters l D dA G hq) mw_X4_enters q1856 ⟨Nat.le_of_ble_eq_true rfl, Nat.le_of_ble_eq_true rfl⟩ rfl rfl (Nat.le_of_ble_eq_true rfl) dX4_part_54 (fun q4 h => ?_)
          refine zg_aload_n hO 0 dX4_part_57 rfl rfl ?_
          refine zg_aload_n hO 0 dX4_part_58 rfl rfl ?_
          refine mG_100 hO dX4_part_59 ?_
          refine zm_callVv (As := [.long (gL q4 1)]) (rest := []) hO h (fun q hq => m_enters l D dA G hq) mw_X4_enters q1856 ⟨Nat.le_of_ble_eq_true rfl, Nat.le_of_ble_eq_true rfl⟩ rfl rfl (Nat.le_of_ble_eq_true rfl) dX4_part_62 (fun q5 h => ?_)
          refine zg_iload_n hO 3 dX4_part_65 rfl rfl ?_
          refine zg_iload_n hO 2 dX4_part_66 rfl rfl ?_
          refine zg_isub hO dX4_part_67 ?_
          exact zm_iret hO hr h dX4_part_68
        · refine zg_bipush hO dX4_part_32 bcm2 ?_
          exact zm_iret hO hr h dX4_part_34
  · refine zg_iconst hO dX4_part_12 icm1 ?_
    exact zm_iret hO hr h dX4_part_13
set_option maxHeartbeats 4000000 in
theorem w_M_windows_52 (hO : Ok p s m args meth c cX4_windows RX4 5 D dA (AG G s.heap.size)) (hr : meth.sig.returnType = (some .int)) {ρ : Int32 × MS} : ∀ (n : Nat) (x1 : Int32) (x2 : Int32) (x3 : Int32) (x4 : Int32) (σ : MS), M_windows_52 n x1 x2 x3 x4 σ = some ρ → Go p l e (rmG 5 0 0) s m args below meth c D (AG G s.heap.size) 5 (MQ below ((QfI D dA (WM dA G ρ.2) ρ.1) (AG G s.heap.size)) args s 0 0 (AG G s.heap.size)) (WM dA G σ) 0 0 52 [(0, .ref (G 0)), (1, .int x1), (2, .int x2), (3, .int x3), (4, .int x4)] [] := by
  intro n
  induction n with
  | zero =>
    intro x1 x2 x3 x4 σ h
    rw [M_windows_52] at h
    cases h
  | succ n ih =>
    intro x1 x2 x3 x4 σ h
    rw [M_windows_52] at h
    refine zg_iload hO 4 dX4_windows_52 rfl ?_
    refine zg_iload_n hO 3 dX4_windows_54 rfl rfl ?_
    refine zg_icmp_ge (tgt := 88) hO h dX4_windows_55 (by decide) (fun h => ?_) (fun h => ?_)
    · refine zg_iload_n hO 3 dX4_windows_88 rfl rfl ?_
      exact zm_iret hO hr h dX4_windows_89
    · refine zg_aload_n hO 0 dX4_windows_58 rfl rfl ?_
      refine zg_iload_n hO 1 dX4_windows_59 rfl rfl ?_
      refine zg_iload hO 4 dX4_windows_60 rfl ?_
      refine zg_iload_n hO 2 dX4_windows_62 rfl rfl ?_
      refine zm_callVv (As := [.int x1, .int x4, .int x2]) (rest := []) hO h (fun q hq => m_sums l D dA G hq) mw_X4_sums q2066 ⟨Nat.le_of_ble_eq_true rfl, Nat.le_of_ble_eq_true rfl⟩ rfl rfl (Nat.le_of_ble_eq_true rfl) dX4_windows_63 (fun q4 h => ?_)
      refine zg_aload_n hO 0 dX4_windows_66 rfl rfl ?_
      refine zg_aload_n hO 0 dX4_windows_67 rfl rfl ?_
      refine mG_96 hO dX4_windows_68 ?_
      refine zm_callVv (As := [.long (gL q4 0)]) (rest := []) hO h (fun q hq => m_enters l D dA G hq) mw_X4_enters q1856 ⟨Nat.le_of_ble_eq_true rfl, Nat.le_of_ble_eq_true rfl⟩ rfl rfl (Nat.le_of_ble_eq_true rfl) dX4_windows_71 (fun q5 h => ?_)
      refine zg_aload_n hO 0 dX4_windows_74 rfl rfl ?_
      refine zg_aload_n hO 0 dX4_windows_75 rfl rfl ?_
      refine mG_100 hO dX4_windows_76 ?_
      refine zm_callVv (As := [.long (gL q5 1)]) (rest := []) hO h (fun q hq => m_enters l D dA G hq) mw_X4_enters q1856 ⟨Nat.le_of_ble_eq_true rfl, Nat.le_of_ble_eq_true rfl⟩ rfl rfl (Nat.le_of_ble_eq_true rfl) dX4_windows_79 (fun q6 h => ?_)
      refine zg_iinc (k := 4) (lv' := [(4, .int (x4 + (nI 1))), (0, .ref (G 0)), (1, .int x1), (2, .int x2), (3, .int x3)]) hO dX4_windows_82 rfl (zii ic1) (Nat.le_of_ble_eq_true rfl) rfl ?_
      refine zg_goto (tgt := 52) hO dX4_windows_85 (by decide) ?_
      exact zg_sub [1, 2, 3, 4, 0] rfl (ih _ _ _ _ _ h)
theorem mw_X4_windows : MwV yX4_windows cX4_windows 5 (some .int) RX4 2 := ⟨by decide +kernel, q2071, q2072, q106, q2073⟩
set_option maxHeartbeats 4000000 in
theorem m_windows (l : Launch) (D : va_G) (dA : Nat → ClassId) (G : Nat → Nat) {x1 : Int32} {x2 : Int32} {σ : MS} {ρ : Int32 × MS} (h : M_windows x1 x2 σ = some ρ) : Ct l yX4_windows (ws_ yX4_windows cX4_windows 5 (some .int)) 5 0 0 D dA [.ref (G 0), .int x1, .int x2] (WM dA G σ) (AG G) (QfI D dA (WM dA G ρ.2) ρ.1) := by
  refine zc_start (cc := cX4_windows) (nL := 5) (ret := (some .int)) (own := RX4) (by decide) rfl rfl (Nat.le_of_ble_eq_true rfl) wm_A (fun p e s m args below meth c hO hr _ _ => ?_)
  unfold M_windows at h
  refine zg_sub (lv' := [(0, .ref (G 0)), (1, .int x1), (2, .int x2)]) [0, 1, 2] rfl ?_
  refine zg_aload_n hO 0 dX4_windows_0 rfl rfl ?_
  refine zg_iconst hO dX4_windows_1 ic0 ?_
  refine mP_1 hO dX4_windows_2 ?_
  refine zg_iload_n hO 1 dX4_windows_5 rfl rfl ?_
  refine zs_calli (As := [.int x1]) (rest := []) hO h (fun q hq => m_isLine l D dA hq) mw_X4_isLine q1958 ⟨Nat.le_of_ble_eq_true rfl, Nat.le_of_ble_eq_true rfl⟩ ⟨Nat.le_refl _, Nat.le_refl _⟩ rfl rfl (Nat.le_of_ble_eq_true rfl) dX4_windows_6 (fun q1 h => ?_)
  refine zg_if_eq (tgt := 24) hO h dX4_windows_9 (by decide) (fun h => ?_) (fun h => ?_)
  · refine zg_iconst hO dX4_windows_24 icm1 ?_
    exact zm_iret hO hr h dX4_windows_25
  · refine zg_iload_n hO 2 dX4_windows_12 rfl rfl ?_
    refine zg_i2l hO dX4_windows_13 ?_
    refine zg_lconst hO dX4_windows_14 lc1 ?_
    refine zg_ldc2 (x := 64) hO q2025 dX4_windows_15 ?_
    refine zs_calli (As := [.long (x2.toInt64), .long (lN 1), .long (64 : Int64)]) (rest := []) hO h (fun q hq => m_in l D dA hq) mw_X4_in q1702 ⟨Nat.le_of_ble_eq_true rfl, Nat.le_of_ble_eq_true rfl⟩ ⟨Nat.le_refl _, Nat.le_refl _⟩ rfl rfl (Nat.le_of_ble_eq_true rfl) dX4_windows_18 (fun q2 h => ?_)
    refine zg_if_ne (tgt := 26) hO h dX4_windows_21 (by decide) (fun h => ?_) (fun h => ?_)
    · refine zg_aload_n hO 0 dX4_windows_26 rfl rfl ?_
      refine zg_iload_n hO 1 dX4_windows_27 rfl rfl ?_
      refine zm_callVi (As := [.int x1]) (rest := []) hO h (fun q hq => m_sizeOf l D dA G hq) mw_X4_sizeOf q1896 ⟨Nat.le_of_ble_eq_true rfl, Nat.le_of_ble_eq_true rfl⟩ rfl rfl (Nat.le_of_ble_eq_true rfl) dX4_windows_28 (fun q3 h => ?_)
      refine zg_iload_n hO 2 dX4_windows_31 rfl rfl ?_
      refine zg_isub hO dX4_windows_32 ?_
      refine zg_iconst hO dX4_windows_33 ic1 ?_
      refine zg_iadd hO dX4_windows_34 ?_
      refine zg_istore_n (lv' := [(3, .int ((q3.1 - x2) + (nI 1))), (0, .ref (G 0)), (1, .int x1), (2, .int x2)]) hO dX4_windows_35 rfl (Nat.le_of_ble_eq_true rfl) rfl ?_
      refine zg_iload_n hO 0 dX4_windows_36 rfl rfl ?_
      refine zg_iconst hO dX4_windows_37 ic1 ?_
      refine zg_icmp_ge (tgt := 44) hO h dX4_windows_38 (by decide) (fun h => ?_) (fun h => ?_)
      · refine zg_aload_n hO 1 dX4_windows_44 rfl rfl ?_
        refine zg_iconst hO dX4_windows_45 ic0 ?_
        refine mP_11 hO dX4_windows_46 ?_
        refine zg_iconst hO dX4_windows_49 ic0 ?_
        refine zg_istore (lv' := [(4, .int (nI 0)), (3, .int ((q3.1 - x2) + (nI 1))), (0, .ref (G 0)), (1, .int x1), (2, .int x2)]) hO dX4_windows_50 (Nat.le_of_ble_eq_true rfl) rfl ?_
        exact zg_sub [2, 3, 4, 1, 0] rfl (w_M_windows_52 hO hr _ _ _ _ _ _ h)
      · refine zg_bipush hO dX4_windows_41 bcm2 ?_
        exact zm_iret hO hr h dX4_windows_43
    · refine zg_iconst hO dX4_windows_24 icm1 ?_
      exact zm_iret hO hr h dX4_windows_25
set_option maxHeartbeats 4000000 in
theorem w_M_first_16 (hO : Ok p s m args meth c cX4_first RX4 4 D dA (AG G s.heap.size)) (hr : meth.sig.returnType = (some .int)) {ρ : Int32 × MS} : ∀ (n : Nat) (x1 : Int32) (x2 : Int32) (x3 : Int32) (σ : MS), M_first_16 n x1 x2 x3 σ = some ρ → Go p l e (rmG 5 0 0) s m args below meth c D (AG G s.heap.size) 4 (MQ below ((QfI D dA (WM dA G ρ.2) ρ.1) (AG G s.heap.size)) args s 0 0 (AG G s.heap.size)) (WM dA G σ) 0 0 16 [(0, .ref (G 0)), (1, .int x1), (2, .int x2), (3, .int x3)] [] := by
  intro n
  induction n with
  | zero =>
    intro x1 x2 x3 σ h
    rw [M_first_16] at h
    cases h
  | succ n ih =>
    intro x1 x2 x3 σ h
    rw [M_first_16] at h
    refine zg_iload_n hO 3 dX4_first_16 rfl rfl ?_
    refine zg_aload_n hO 0 dX4_first_17 rfl rfl ?_
    refine zg_iload_n hO 1 dX4_first_18 rfl rfl ?_
    refine zm_callVi (As := [.int x1]) (rest := [.int x3]) hO h (fun q hq => m_sizeOf l D dA G hq) mw_X4_sizeOf q1896 ⟨Nat.le_of_ble_eq_true rfl, Nat.le_of_ble_eq_true rfl⟩ rfl rfl (Nat.le_of_ble_eq_true rfl) dX4_first_19 (fun q2 h => ?_)
    refine zg_icmp_gt (tgt := 71) hO h dX4_first_22 (by decide) (fun h => ?_) (fun h => ?_)
    · refine zg_bipush hO dX4_first_71 bcm2 ?_
      exact zm_iret hO hr h dX4_first_73
    · refine zg_aload_n hO 0 dX4_first_25 rfl rfl ?_
      refine zg_iload_n hO 1 dX4_first_26 rfl rfl ?_
      refine zg_iconst hO dX4_first_27 ic0 ?_
      refine zg_iload_n hO 3 dX4_first_28 rfl rfl ?_
      refine zm_callVv (As := [.int x1, .int (nI 0), .int x3]) (rest := []) hO h (fun q hq => m_sums l D dA G hq) mw_X4_sums q2066 ⟨Nat.le_of_ble_eq_true rfl, Nat.le_of_ble_eq_true rfl⟩ rfl rfl (Nat.le_of_ble_eq_true rfl) dX4_first_29 (fun q3 h => ?_)
      refine zg_aload_n hO 0 dX4_first_32 rfl rfl ?_
      refine mG_96 hO dX4_first_33 ?_
      refine zg_iload_n hO 2 dX4_first_36 rfl rfl ?_
      refine zg_i2l hO dX4_first_37 ?_
      refine zg_lcmp hO dX4_first_38 ?_
      refine zg_if_lt (tgt := 65) hO h dX4_first_39 (by decide) (fun h => ?_) (fun h => ?_)
      · refine zg_iinc (k := 3) (lv' := [(3, .int (x3 + (nI 1))), (0, .ref (G 0)), (1, .int x1), (2, .int x2)]) hO dX4_first_65 rfl (zii ic1) (Nat.le_of_ble_eq_true rfl) rfl ?_
        refine zg_goto (tgt := 16) hO dX4_first_68 (by decide) ?_
        exact zg_sub [1, 2, 3, 0] rfl (ih _ _ _ _ h)
      · refine zg_aload_n hO 0 dX4_first_42 rfl rfl ?_
        refine zg_iconst hO dX4_first_43 ic0 ?_
        refine mP_11 hO dX4_first_44 ?_
        refine zg_aload_n hO 0 dX4_first_47 rfl rfl ?_
        refine zg_aload_n hO 0 dX4_first_48 rfl rfl ?_
        refine mG_96 hO dX4_first_49 ?_
        refine zm_callVv (As := [.long (gL (sI q3 1 (nI 0)) 0)]) (rest := []) hO h (fun q hq => m_enters l D dA G hq) mw_X4_enters q1856 ⟨Nat.le_of_ble_eq_true rfl, Nat.le_of_ble_eq_true rfl⟩ rfl rfl (Nat.le_of_ble_eq_true rfl) dX4_first_52 (fun q4 h => ?_)
        refine zg_aload_n hO 0 dX4_first_55 rfl rfl ?_
        refine zg_aload_n hO 0 dX4_first_56 rfl rfl ?_
        refine mG_100 hO dX4_first_57 ?_
        refine zm_callVv (As := [.long (gL q4 1)]) (rest := []) hO h (fun q hq => m_enters l D dA G hq) mw_X4_enters q1856 ⟨Nat.le_of_ble_eq_true rfl, Nat.le_of_ble_eq_true rfl⟩ rfl rfl (Nat.le_of_ble_eq_true rfl) dX4_first_60 (fun q5 h => ?_)
        refine zg_iload_n hO 3 dX4_first_63 rfl rfl ?_
        exact zm_iret hO hr h dX4_first_64
theorem mw_X4_first : MwV yX4_first cX4_first 4 (some .int) RX4 2 := ⟨by decide +kernel, q2075, q2076, q106, q2077⟩
set_option maxHeartbeats 4000000 in
theorem m_first (l : Launch) (D : va_G) (dA : Nat → ClassId) (G : Nat → Nat) {x1 : Int32} {x2 : Int32} {σ : MS} {ρ : Int32 × MS} (h : M_first x1 x2 σ = some ρ) : Ct l yX4_first (ws_ yX4_first cX4_first 4 (some .int)) 5 0 0 D dA [.ref (G 0), .int x1, .int x2] (WM dA G σ) (AG G) (QfI D dA (WM dA G ρ.2) ρ.1) := by
  refine zc_start (cc := cX4_first) (nL := 4) (ret := (some .int)) (own := RX4) (by decide) rfl rfl (Nat.le_of_ble_eq_true rfl) wm_A (fun p e s m args below meth c hO hr _ _ => ?_)
  unfold M_first at h
  refine zg_sub (lv' := [(0, .ref (G 0)), (1, .int x1), (2, .int x2)]) [0, 1, 2] rfl ?_
  refine zg_aload_n hO 0 dX4_first_0 rfl rfl ?_
  refine zg_iconst hO dX4_first_1 ic0 ?_
  refine mP_1 hO dX4_first_2 ?_
  refine zg_iload_n hO 1 dX4_first_5 rfl rfl ?_
  refine zs_calli (As := [.int x1]) (rest := []) hO h (fun q hq => m_isLine l D dA hq) mw_X4_isLine q1958 ⟨Nat.le_of_ble_eq_true rfl, Nat.le_of_ble_eq_true rfl⟩ ⟨Nat.le_refl _, Nat.le_refl _⟩ rfl rfl (Nat.le_of_ble_eq_true rfl) dX4_first_6 (fun q1 h => ?_)
  refine zg_if_ne (tgt := 14) hO h dX4_first_9 (by decide) (fun h => ?_) (fun h => ?_)
  · refine zg_iconst hO dX4_first_14 ic1 ?_
    refine zg_istore_n (lv' := [(3, .int (nI 1)), (0, .ref (G 0)), (1, .int x1), (2, .int x2)]) hO dX4_first_15 rfl (Nat.le_of_ble_eq_true rfl) rfl ?_
    exact zg_sub [1, 2, 3, 0] rfl (w_M_first_16 hO hr _ _ _ _ _ h)
  · refine zg_iconst hO dX4_first_12 icm1 ?_
    exact zm_iret hO hr h dX4_first_13
set_option maxHeartbeats 4000000 in
theorem w_M_longest_36 (hO : Ok p s m args meth c cX4_longest RX4 6 D dA (AG G s.heap.size)) (hr : meth.sig.returnType = (some .int)) {ρ : Int32 × MS} {k28 : Int32 → Int32 → Int32 → Int32 → MS → Option (Int32 × MS)} (K28 : ∀ (x1 : Int32) (x2 : Int32) (x3 : Int32) (x4 : Int32) (σ : MS), k28 x1 x2 x3 x4 σ = some ρ → Go p l e (rmG 5 0 0) s m args below meth c D (AG G s.heap.size) 6 (MQ below ((QfI D dA (WM dA G ρ.2) ρ.1) (AG G s.heap.size)) args s 0 0 (AG G s.heap.size)) (WM dA G σ) 0 0 28 [(0, .ref (G 0)), (1, .int x1), (2, .int x2), (3, .int x3), (4, .int x4)] []) : ∀ (n : Nat) (x1 : Int32) (x2 : Int32) (x3 : Int32) (x4 : Int32) (x5 : Int32) (σ : MS), M_longest_36 k28 n x1 x2 x3 x4 x5 σ = some ρ → Go p l e (rmG 5 0 0) s m args below meth c D (AG G s.heap.size) 6 (MQ below ((QfI D dA (WM dA G ρ.2) ρ.1) (AG G s.heap.size)) args s 0 0 (AG G s.heap.size)) (WM dA G σ) 0 0 36 [(0, .ref (G 0)), (1, .int x1), (2, .int x2), (3, .int x3), (4, .int x4), (5, .int x5)] [] := by
  intro n
  induction n with
  | zero =>
    intro x1 x2 x3 x4 x5 σ h
    rw [M_longest_36] at h
    cases h
  | succ n ih =>
    intro x1 x2 x3 x4 x5 σ h
    rw [M_longest_36] at h
    refine zg_iload hO 5 dX4_longest_36 rfl ?_
    refine zg_iload hO 4 dX4_longest_38 rfl ?_
    refine zg_iadd hO dX4_longest_40 ?_
    refine zg_iload_n hO 3 dX4_longest_41 rfl rfl ?_
    refine zg_icmp_gt (tgt := 80) hO h dX4_longest_42 (by decide) (fun h => ?_) (fun h => ?_)
    · refine zg_iinc (k := 4) (lv' := [(4, .int (x4 + (-1 : Int32))), (0, .ref (G 0)), (1, .int x1), (2, .int x2), (3, .int x3), (5, .int x5)]) hO dX4_longest_80 rfl (zii icm1) (Nat.le_of_ble_eq_true rfl) rfl ?_
      refine zg_goto (tgt := 28) hO dX4_longest_83 (by decide) ?_
      exact zg_sub [1, 2, 3, 4, 0] rfl (K28 _ _ _ _ _ h)
    · refine zg_aload_n hO 0 dX4_longest_45 rfl rfl ?_
      refine zg_iload_n hO 1 dX4_longest_46 rfl rfl ?_
      refine zg_iload hO 5 dX4_longest_47 rfl ?_
      refine zg_iload hO 4 dX4_longest_49 rfl ?_
      refine zm_callVv (As := [.int x1, .int x5, .int x4]) (rest := []) hO h (fun q hq => m_sums l D dA G hq) mw_X4_sums q2066 ⟨Nat.le_of_ble_eq_true rfl, Nat.le_of_ble_eq_true rfl⟩ rfl rfl (Nat.le_of_ble_eq_true rfl) dX4_longest_51 (fun q4 h => ?_)
      refine zg_aload_n hO 0 dX4_longest_54 rfl rfl ?_
      refine mG_96 hO dX4_longest_55 ?_
      refine zg_iload_n hO 2 dX4_longest_58 rfl rfl ?_
      refine zg_i2l hO dX4_longest_59 ?_
      refine zg_lcmp hO dX4_longest_60 ?_
      refine zg_if_gt (tgt := 74) hO h dX4_longest_61 (by decide) (fun h => ?_) (fun h => ?_)
      · refine zg_iinc (k := 5) (lv' := [(5, .int (x5 + (nI 1))), (0, .ref (G 0)), (1, .int x1), (2, .int x2), (3, .int x3), (4, .int x4)]) hO dX4_longest_74 rfl (zii ic1) (Nat.le_of_ble_eq_true rfl) rfl ?_
        refine zg_goto (tgt := 36) hO dX4_longest_77 (by decide) ?_
        exact zg_sub [1, 2, 3, 4, 5, 0] rfl (ih _ _ _ _ _ _ h)
      · refine zg_aload_n hO 0 dX4_longest_64 rfl rfl ?_
        refine zg_iload hO 5 dX4_longest_65 rfl ?_
        refine zg_i2l hO dX4_longest_67 ?_
        refine zm_callVv (As := [.long (x5.toInt64)]) (rest := []) hO h (fun q hq => m_enters l D dA G hq) mw_X4_enters q1856 ⟨Nat.le_of_ble_eq_true rfl, Nat.le_of_ble_eq_true rfl⟩ rfl rfl (Nat.le_of_ble_eq_true rfl) dX4_longest_68 (fun q5 h => ?_)
        refine zg_iload hO 4 dX4_longest_71 rfl ?_
        exact zm_iret hO hr h dX4_longest_73
set_option maxHeartbeats 4000000 in
theorem w_M_longest_28 (hO : Ok p s m args meth c cX4_longest RX4 6 D dA (AG G s.heap.size)) (hr : meth.sig.returnType = (some .int)) {ρ : Int32 × MS} : ∀ (n : Nat) (x1 : Int32) (x2 : Int32) (x3 : Int32) (x4 : Int32) (σ : MS), M_longest_28 n x1 x2 x3 x4 σ = some ρ → Go p l e (rmG 5 0 0) s m args below meth c D (AG G s.heap.size) 6 (MQ below ((QfI D dA (WM dA G ρ.2) ρ.1) (AG G s.heap.size)) args s 0 0 (AG G s.heap.size)) (WM dA G σ) 0 0 28 [(0, .ref (G 0)), (1, .int x1), (2, .int x2), (3, .int x3), (4, .int x4)] [] := by
  intro n
  induction n with
  | zero =>
    intro x1 x2 x3 x4 σ h
    rw [M_longest_28] at h
    cases h
  | succ n ih =>
    intro x1 x2 x3 x4 σ h
    rw [M_longest_28] at h
    refine zg_iload hO 4 dX4_longest_28 rfl ?_
    refine zg_if_le (tgt := 86) hO h dX4_longest_30 (by decide) (fun h => ?_) (fun h => ?_)
    · refine zg_aload_n hO 0 dX4_longest_86 rfl rfl ?_
      refine zg_ldc2 (x := -1) hO q1874 dX4_longest_87 ?_
      refine zm_callVv (As := [.long (-1 : Int64)]) (rest := []) hO h (fun q hq => m_enters l D dA G hq) mw_X4_enters q1856 ⟨Nat.le_of_ble_eq_true rfl, Nat.le_of_ble_eq_true rfl⟩ rfl rfl (Nat.le_of_ble_eq_true rfl) dX4_longest_90 (fun q3 h => ?_)
      refine zg_iconst hO dX4_longest_93 ic0 ?_
      exact zm_iret hO hr h dX4_longest_94
    · refine zg_iconst hO dX4_longest_33 ic0 ?_
      refine zg_istore (lv' := [(5, .int (nI 0)), (0, .ref (G 0)), (1, .int x1), (2, .int x2), (3, .int x3), (4, .int x4)]) hO dX4_longest_34 (Nat.le_of_ble_eq_true rfl) rfl ?_
      exact zg_sub [1, 2, 3, 4, 5, 0] rfl (w_M_longest_36 hO hr ih _ _ _ _ _ _ _ h)
theorem mw_X4_longest : MwV yX4_longest cX4_longest 6 (some .int) RX4 2 := ⟨by decide +kernel, q2079, q2080, q106, q2081⟩
set_option maxHeartbeats 4000000 in
theorem m_longest (l : Launch) (D : va_G) (dA : Nat → ClassId) (G : Nat → Nat) {x1 : Int32} {x2 : Int32} {σ : MS} {ρ : Int32 × MS} (h : M_longest x1 x2 σ = some ρ) : Ct l yX4_longest (ws_ yX4_longest cX4_longest 6 (some .int)) 5 0 0 D dA [.ref (G 0), .int x1, .int x2] (WM dA G σ) (AG G) (QfI D dA (WM dA G ρ.2) ρ.1) := by
  refine zc_start (cc := cX4_longest) (nL := 6) (ret := (some .int)) (own := RX4) (by decide) rfl rfl (Nat.le_of_ble_eq_true rfl) wm_A (fun p e s m args below meth c hO hr _ _ => ?_)
  unfold M_longest at h
  refine zg_sub (lv' := [(0, .ref (G 0)), (1, .int x1), (2, .int x2)]) [0, 1, 2] rfl ?_
  refine zg_aload_n hO 0 dX4_longest_0 rfl rfl ?_
  refine zg_iconst hO dX4_longest_1 ic0 ?_
  refine mP_1 hO dX4_longest_2 ?_
  refine zg_iload_n hO 1 dX4_longest_5 rfl rfl ?_
  refine zs_calli (As := [.int x1]) (rest := []) hO h (fun q hq => m_isLine l D dA hq) mw_X4_isLine q1958 ⟨Nat.le_of_ble_eq_true rfl, Nat.le_of_ble_eq_true rfl⟩ ⟨Nat.le_refl _, Nat.le_refl _⟩ rfl rfl (Nat.le_of_ble_eq_true rfl) dX4_longest_6 (fun q1 h => ?_)
  refine zg_if_ne (tgt := 14) hO h dX4_longest_9 (by decide) (fun h => ?_) (fun h => ?_)
  · refine zg_aload_n hO 0 dX4_longest_14 rfl rfl ?_
    refine zg_iload_n hO 1 dX4_longest_15 rfl rfl ?_
    refine zm_callVi (As := [.int x1]) (rest := []) hO h (fun q hq => m_sizeOf l D dA G hq) mw_X4_sizeOf q1896 ⟨Nat.le_of_ble_eq_true rfl, Nat.le_of_ble_eq_true rfl⟩ rfl rfl (Nat.le_of_ble_eq_true rfl) dX4_longest_16 (fun q2 h => ?_)
    refine zg_istore_n (lv' := [(3, .int q2.1), (0, .ref (G 0)), (1, .int x1), (2, .int x2)]) hO dX4_longest_19 rfl (Nat.le_of_ble_eq_true rfl) rfl ?_
    refine zg_aload_n hO 1 dX4_longest_20 rfl rfl ?_
    refine zg_iconst hO dX4_longest_21 ic0 ?_
    refine mP_11 hO dX4_longest_22 ?_
    refine zg_iload_n hO 0 dX4_longest_25 rfl rfl ?_
    refine zg_istore (lv' := [(4, .int q2.1), (3, .int q2.1), (0, .ref (G 0)), (1, .int x1), (2, .int x2)]) hO dX4_longest_26 (Nat.le_of_ble_eq_true rfl) rfl ?_
    exact zg_sub [2, 3, 4, 1, 0] rfl (w_M_longest_28 hO hr _ _ _ _ _ _ h)
  · refine zg_iconst hO dX4_longest_12 icm1 ?_
    exact zm_iret hO hr h dX4_longest_13
set_option maxHeartbeats 4000000 in
theorem w_M_greatest_101 (hO : Ok p s m args meth c cX4_greatest RX4 10 D dA (AG G s.heap.size)) (hr : meth.sig.returnType = (some .int)) {ρ : Int32 × MS} {k56 : Int32 → Int32 → Int32 → Int32 → Int64 → Int64 → Int32 → MS → Option (Int32 × MS)} (K56 : ∀ (x1 : Int32) (x2 : Int32) (x3 : Int32) (x4 : Int32) (x5 : Int64) (x7 : Int64) (x9 : Int32) (σ : MS), k56 x1 x2 x3 x4 x5 x7 x9 σ = some ρ → Go p l e (rmG 5 0 0) s m args below meth c D (AG G s.heap.size) 10 (MQ below ((QfI D dA (WM dA G ρ.2) ρ.1) (AG G s.heap.size)) args s 0 0 (AG G s.heap.size)) (WM dA G σ) 0 0 56 [(0, .ref (G 0)), (1, .int x1), (2, .int x2), (3, .int x3), (4, .int x4), (5, .long x5), (7, .long x7), (9, .int x9)] []) : ∀ (x1 : Int32) (x2 : Int32) (x3 : Int32) (x4 : Int32) (x5 : Int64) (x7 : Int64) (x9 : Int32) (σ : MS), M_greatest_101 k56 x1 x2 x3 x4 x5 x7 x9 σ = some ρ → Go p l e (rmG 5 0 0) s m args below meth c D (AG G s.heap.size) 10 (MQ below ((QfI D dA (WM dA G ρ.2) ρ.1) (AG G s.heap.size)) args s 0 0 (AG G s.heap.size)) (WM dA G σ) 0 0 101 [(0, .ref (G 0)), (1, .int x1), (2, .int x2), (3, .int x3), (4, .int x4), (5, .long x5), (7, .long x7), (9, .int x9)] [] := by
  intro x1 x2 x3 x4 x5 x7 x9 σ h
  unfold M_greatest_101 at h
  refine zg_iinc (k := 7) (lv' := [(9, .int (x9 + (nI 1))), (0, .ref (G 0)), (1, .int x1), (2, .int x2), (3, .int x3), (4, .int x4), (5, .long x5), (7, .long x7)]) hO dX4_greatest_101 rfl (zii ic1) (Nat.le_of_ble_eq_true rfl) rfl ?_
  refine zg_goto (tgt := 56) hO dX4_greatest_104 (by decide) ?_
  exact zg_sub [1, 2, 3, 4, 5, 6, 7, 0] rfl (K56 _ _ _ _ _ _ _ _ h)
set_option maxHeartbeats 4000000 in
theorem w_M_greatest_85 (hO : Ok p s m args meth c cX4_greatest RX4 10 D dA (AG G s.heap.size)) (hr : meth.sig.returnType = (some .int)) {ρ : Int32 × MS} {k56 : Int32 → Int32 → Int32 → Int32 → Int64 → Int64 → Int32 → MS → Option (Int32 × MS)} (K56 : ∀ (x1 : Int32) (x2 : Int32) (x3 : Int32) (x4 : Int32) (x5 : Int64) (x7 : Int64) (x9 : Int32) (σ : MS), k56 x1 x2 x3 x4 x5 x7 x9 σ = some ρ → Go p l e (rmG 5 0 0) s m args below meth c D (AG G s.heap.size) 10 (MQ below ((QfI D dA (WM dA G ρ.2) ρ.1) (AG G s.heap.size)) args s 0 0 (AG G s.heap.size)) (WM dA G σ) 0 0 56 [(0, .ref (G 0)), (1, .int x1), (2, .int x2), (3, .int x3), (4, .int x4), (5, .long x5), (7, .long x7), (9, .int x9)] []) : ∀ (x1 : Int32) (x2 : Int32) (x3 : Int32) (x9 : Int32) (σ : MS), M_greatest_85 k56 x1 x2 x3 x9 σ = some ρ → Go p l e (rmG 5 0 0) s m args below meth c D (AG G s.heap.size) 10 (MQ below ((QfI D dA (WM dA G ρ.2) ρ.1) (AG G s.heap.size)) args s 0 0 (AG G s.heap.size)) (WM dA G σ) 0 0 85 [(0, .ref (G 0)), (1, .int x1), (2, .int x2), (3, .int x3), (9, .int x9)] [] := by
  intro x1 x2 x3 x9 σ h
  unfold M_greatest_85 at h
  refine zg_iload hO 4 dX4_greatest_85 rfl ?_
  refine zg_istore (lv' := [(4, .int x9), (0, .ref (G 0)), (1, .int x1), (2, .int x2), (3, .int x3), (9, .int x9)]) hO dX4_greatest_87 (Nat.le_of_ble_eq_true rfl) rfl ?_
  refine zg_aload_n hO 1 dX4_greatest_89 rfl rfl ?_
  refine mG_96 hO dX4_greatest_90 ?_
  refine zg_lstore (lv' := [(5, .long (gL σ 0)), (4, .int x9), (0, .ref (G 0)), (1, .int x1), (2, .int x2), (3, .int x3), (9, .int x9)]) hO dX4_greatest_93 (Nat.le_of_ble_eq_true rfl) rfl ?_
  refine zg_aload_n hO 2 dX4_greatest_95 rfl rfl ?_
  refine mG_100 hO dX4_greatest_96 ?_
  refine zg_lstore (lv' := [(7, .long (gL σ 1)), (5, .long (gL σ 0)), (4, .int x9), (0, .ref (G 0)), (1, .int x1), (2, .int x2), (3, .int x3), (9, .int x9)]) hO dX4_greatest_99 (Nat.le_of_ble_eq_true rfl) rfl ?_
  exact zg_sub [3, 4, 5, 6, 2, 1, 0, 7] rfl (w_M_greatest_101 hO hr K56 _ _ _ _ _ _ _ _ h)
set_option maxHeartbeats 4000000 in
theorem w_M_greatest_56 (hO : Ok p s m args meth c cX4_greatest RX4 10 D dA (AG G s.heap.size)) (hr : meth.sig.returnType = (some .int)) {ρ : Int32 × MS} : ∀ (n : Nat) (x1 : Int32) (x2 : Int32) (x3 : Int32) (x4 : Int32) (x5 : Int64) (x7 : Int64) (x9 : Int32) (σ : MS), M_greatest_56 n x1 x2 x3 x4 x5 x7 x9 σ = some ρ → Go p l e (rmG 5 0 0) s m args below meth c D (AG G s.heap.size) 10 (MQ below ((QfI D dA (WM dA G ρ.2) ρ.1) (AG G s.heap.size)) args s 0 0 (AG G s.heap.size)) (WM dA G σ) 0 0 56 [(0, .ref (G 0)), (1, .int x1), (2, .int x2), (3, .int x3), (4, .int x4), (5, .long x5), (7, .long x7), (9, .int x9)] [] := by
  intro n
  induction n with
  | zero =>
    intro x1 x2 x3 x4 x5 x7 x9 σ h
    rw [M_greatest_56] at h
    cases h
  | succ n ih =>
    intro x1 x2 x3 x4 x5 x7 x9 σ h
    rw [M_greatest_56] at h
    refine zg_iload hO 7 dX4_greatest_56 rfl ?_
    refine zg_iload_n hO 3 dX4_greatest_58 rfl rfl ?_
    refine zg_icmp_ge (tgt := 107) hO h dX4_greatest_59 (by decide) (fun h => ?_) (fun h => ?_)
    · refine zg_aload_n hO 0 dX4_greatest_107 rfl rfl ?_
      refine zg_iconst hO dX4_greatest_108 ic0 ?_
      refine mP_11 hO dX4_greatest_109 ?_
      refine zg_aload_n hO 0 dX4_greatest_112 rfl rfl ?_
      refine zg_lload hO 5 dX4_greatest_113 rfl ?_
      refine zm_callVv (As := [.long x5]) (rest := []) hO h (fun q hq => m_enters l D dA G hq) mw_X4_enters q1856 ⟨Nat.le_of_ble_eq_true rfl, Nat.le_of_ble_eq_true rfl⟩ rfl rfl (Nat.le_of_ble_eq_true rfl) dX4_greatest_115 (fun q4 h => ?_)
      refine zg_aload_n hO 0 dX4_greatest_118 rfl rfl ?_
      refine zg_lload hO 6 dX4_greatest_119 rfl ?_
      refine zm_callVv (As := [.long x7]) (rest := []) hO h (fun q hq => m_enters l D dA G hq) mw_X4_enters q1856 ⟨Nat.le_of_ble_eq_true rfl, Nat.le_of_ble_eq_true rfl⟩ rfl rfl (Nat.le_of_ble_eq_true rfl) dX4_greatest_121 (fun q5 h => ?_)
      refine zg_iload hO 4 dX4_greatest_124 rfl ?_
      exact zm_iret hO hr h dX4_greatest_126
    · refine zg_aload_n hO 0 dX4_greatest_62 rfl rfl ?_
      refine zg_iload_n hO 1 dX4_greatest_63 rfl rfl ?_
      refine zg_iload hO 7 dX4_greatest_64 rfl ?_
      refine zg_iload_n hO 2 dX4_greatest_66 rfl rfl ?_
      refine zm_callVv (As := [.int x1, .int x9, .int x2]) (rest := []) hO h (fun q hq => m_sums l D dA G hq) mw_X4_sums q2066 ⟨Nat.le_of_ble_eq_true rfl, Nat.le_of_ble_eq_true rfl⟩ rfl rfl (Nat.le_of_ble_eq_true rfl) dX4_greatest_67 (fun q6 h => ?_)
      refine zg_iload hO 7 dX4_greatest_70 rfl ?_
      refine zg_if_eq (tgt := 85) hO h dX4_greatest_72 (by decide) (fun h => ?_) (fun h => ?_)
      · exact zg_sub [0, 1, 2, 3, 7] rfl (w_M_greatest_85 hO hr ih _ _ _ _ _ h)
      · refine zg_aload_n hO 0 dX4_greatest_75 rfl rfl ?_
        refine mG_100 hO dX4_greatest_76 ?_
        refine zg_lload hO 6 dX4_greatest_79 rfl ?_
        refine zg_lcmp hO dX4_greatest_81 ?_
        refine zg_if_le (tgt := 101) hO h dX4_greatest_82 (by decide) (fun h => ?_) (fun h => ?_)
        · exact zg_sub [0, 1, 2, 3, 4, 5, 6, 7] rfl (w_M_greatest_101 hO hr ih _ _ _ _ _ _ _ _ h)
        · exact zg_sub [0, 1, 2, 3, 7] rfl (w_M_greatest_85 hO hr ih _ _ _ _ _ h)
theorem mw_X4_greatest : MwV yX4_greatest cX4_greatest 10 (some .int) RX4 2 := ⟨by decide +kernel, q2083, q2084, q106, q2085⟩
set_option maxHeartbeats 4000000 in
theorem m_greatest (l : Launch) (D : va_G) (dA : Nat → ClassId) (G : Nat → Nat) {x1 : Int32} {x2 : Int32} {σ : MS} {ρ : Int32 × MS} (h : M_greatest x1 x2 σ = some ρ) : Ct l yX4_greatest (ws_ yX4_greatest cX4_greatest 10 (some .int)) 5 0 0 D dA [.ref (G 0), .int x1, .int x2] (WM dA G σ) (AG G) (QfI D dA (WM dA G ρ.2) ρ.1) := by
  refine zc_start (cc := cX4_greatest) (nL := 10) (ret := (some .int)) (own := RX4) (by decide) rfl rfl (Nat.le_of_ble_eq_true rfl) wm_A (fun p e s m args below meth c hO hr _ _ => ?_)
  unfold M_greatest at h
  refine zg_sub (lv' := [(0, .ref (G 0)), (1, .int x1), (2, .int x2)]) [0, 1, 2] rfl ?_
  refine zg_aload_n hO 0 dX4_greatest_0 rfl rfl ?_
  refine zg_iconst hO dX4_greatest_1 ic0 ?_
  refine mP_1 hO dX4_greatest_2 ?_
  refine zg_iload_n hO 1 dX4_greatest_5 rfl rfl ?_
  refine zs_calli (As := [.int x1]) (rest := []) hO h (fun q hq => m_isLine l D dA hq) mw_X4_isLine q1958 ⟨Nat.le_of_ble_eq_true rfl, Nat.le_of_ble_eq_true rfl⟩ ⟨Nat.le_refl _, Nat.le_refl _⟩ rfl rfl (Nat.le_of_ble_eq_true rfl) dX4_greatest_6 (fun q1 h => ?_)
  refine zg_if_eq (tgt := 24) hO h dX4_greatest_9 (by decide) (fun h => ?_) (fun h => ?_)
  · refine zg_iconst hO dX4_greatest_24 icm1 ?_
    exact zm_iret hO hr h dX4_greatest_25
  · refine zg_iload_n hO 2 dX4_greatest_12 rfl rfl ?_
    refine zg_i2l hO dX4_greatest_13 ?_
    refine zg_lconst hO dX4_greatest_14 lc1 ?_
    refine zg_ldc2 (x := 64) hO q2025 dX4_greatest_15 ?_
    refine zs_calli (As := [.long (x2.toInt64), .long (lN 1), .long (64 : Int64)]) (rest := []) hO h (fun q hq => m_in l D dA hq) mw_X4_in q1702 ⟨Nat.le_of_ble_eq_true rfl, Nat.le_of_ble_eq_true rfl⟩ ⟨Nat.le_refl _, Nat.le_refl _⟩ rfl rfl (Nat.le_of_ble_eq_true rfl) dX4_greatest_18 (fun q2 h => ?_)
    refine zg_if_ne (tgt := 26) hO h dX4_greatest_21 (by decide) (fun h => ?_) (fun h => ?_)
    · refine zg_aload_n hO 0 dX4_greatest_26 rfl rfl ?_
      refine zg_iload_n hO 1 dX4_greatest_27 rfl rfl ?_
      refine zm_callVi (As := [.int x1]) (rest := []) hO h (fun q hq => m_sizeOf l D dA G hq) mw_X4_sizeOf q1896 ⟨Nat.le_of_ble_eq_true rfl, Nat.le_of_ble_eq_true rfl⟩ rfl rfl (Nat.le_of_ble_eq_true rfl) dX4_greatest_28 (fun q3 h => ?_)
      refine zg_iload_n hO 2 dX4_greatest_31 rfl rfl ?_
      refine zg_isub hO dX4_greatest_32 ?_
      refine zg_iconst hO dX4_greatest_33 ic1 ?_
      refine zg_iadd hO dX4_greatest_34 ?_
      refine zg_istore_n (lv' := [(3, .int ((q3.1 - x2) + (nI 1))), (0, .ref (G 0)), (1, .int x1), (2, .int x2)]) hO dX4_greatest_35 rfl (Nat.le_of_ble_eq_true rfl) rfl ?_
      refine zg_iload_n hO 0 dX4_greatest_36 rfl rfl ?_
      refine zg_iconst hO dX4_greatest_37 ic1 ?_
      refine zg_icmp_ge (tgt := 44) hO h dX4_greatest_38 (by decide) (fun h => ?_) (fun h => ?_)
      · refine zg_iconst hO dX4_greatest_44 ic0 ?_
        refine zg_istore (lv' := [(4, .int (nI 0)), (3, .int ((q3.1 - x2) + (nI 1))), (0, .ref (G 0)), (1, .int x1), (2, .int x2)]) hO dX4_greatest_45 (Nat.le_of_ble_eq_true rfl) rfl ?_
        refine zg_lconst hO dX4_greatest_47 lc0 ?_
        refine zg_lstore (lv' := [(5, .long (lN 0)), (4, .int (nI 0)), (3, .int ((q3.1 - x2) + (nI 1))), (0, .ref (G 0)), (1, .int x1), (2, .int x2)]) hO dX4_greatest_48 (Nat.le_of_ble_eq_true rfl) rfl ?_
        refine zg_lconst hO dX4_greatest_50 lc0 ?_
        refine zg_lstore (lv' := [(7, .long (lN 0)), (5, .long (lN 0)), (4, .int (nI 0)), (3, .int ((q3.1 - x2) + (nI 1))), (0, .ref (G 0)), (1, .int x1), (2, .int x2)]) hO dX4_greatest_51 (Nat.le_of_ble_eq_true rfl) rfl ?_
        refine zg_iconst hO dX4_greatest_53 ic0 ?_
        refine zg_istore (lv' := [(9, .int (nI 0)), (7, .long (lN 0)), (5, .long (lN 0)), (4, .int (nI 0)), (3, .int ((q3.1 - x2) + (nI 1))), (0, .ref (G 0)), (1, .int x1), (2, .int x2)]) hO dX4_greatest_54 (Nat.le_of_ble_eq_true rfl) rfl ?_
        exact zg_sub [5, 6, 7, 4, 3, 2, 1, 0] rfl (w_M_greatest_56 hO hr _ _ _ _ _ _ _ _ _ h)
      · refine zg_bipush hO dX4_greatest_41 bcm2 ?_
        exact zm_iret hO hr h dX4_greatest_43
    · refine zg_iconst hO dX4_greatest_24 icm1 ?_
      exact zm_iret hO hr h dX4_greatest_25
set_option maxHeartbeats 4000000 in
theorem w_M_finds_97 (hO : Ok p s m args meth c cX4_finds RX4 10 D dA (AG G s.heap.size)) (hr : meth.sig.returnType = (some .int)) {ρ : Int32 × MS} {k24 : Int32 → Int32 → Int32 → Int32 → Int32 → MS → Option (Int32 × MS)} {k44 : Int32 → Int32 → Int32 → Int32 → Int32 → Int32 → Int32 → Int32 → MS → Option (Int32 × MS)} (K24 : ∀ (x1 : Int32) (x2 : Int32) (x3 : Int32) (x4 : Int32) (x5 : Int32) (σ : MS), k24 x1 x2 x3 x4 x5 σ = some ρ → Go p l e (rmG 5 0 0) s m args below meth c D (AG G s.heap.size) 10 (MQ below ((QfI D dA (WM dA G ρ.2) ρ.1) (AG G s.heap.size)) args s 0 0 (AG G s.heap.size)) (WM dA G σ) 0 0 24 [(0, .ref (G 0)), (1, .int x1), (2, .int x2), (3, .int x3), (4, .int x4), (5, .int x5)] []) (K44 : ∀ (x1 : Int32) (x2 : Int32) (x3 : Int32) (x4 : Int32) (x5 : Int32) (x6 : Int32) (x7 : Int32) (x8 : Int32) (σ : MS), k44 x1 x2 x3 x4 x5 x6 x7 x8 σ = some ρ → Go p l e (rmG 5 0 0) s m args below meth c D (AG G s.heap.size) 10 (MQ below ((QfI D dA (WM dA G ρ.2) ρ.1) (AG G s.heap.size)) args s 0 0 (AG G s.heap.size)) (WM dA G σ) 0 0 44 [(0, .ref (G 0)), (1, .int x1), (2, .int x2), (3, .int x3), (4, .int x4), (5, .int x5), (6, .int x6), (7, .int x7), (8, .int x8)] []) : ∀ (x1 : Int32) (x2 : Int32) (x3 : Int32) (x4 : Int32) (x5 : Int32) (x7 : Int32) (x8 : Int32) (x9 : Int32) (y0 : Int32) (σ : MS), M_finds_97 k24 k44 x1 x2 x3 x4 x5 x7 x8 x9 y0 σ = some ρ → Go p l e (rmG 5 0 0) s m args below meth c D (AG G s.heap.size) 10 (MQ below ((QfI D dA (WM dA G ρ.2) ρ.1) (AG G s.heap.size)) args s 0 0 (AG G s.heap.size)) (WM dA G σ) 0 0 97 [(0, .ref (G 0)), (1, .int x1), (2, .int x2), (3, .int x3), (4, .int x4), (5, .int x5), (7, .int x7), (8, .int x8), (9, .int x9)] [.int y0] := by
  intro x1 x2 x3 x4 x5 x7 x8 x9 y0 σ h
  unfold M_finds_97 at h
  refine zg_istore (lv' := [(6, .int y0), (0, .ref (G 0)), (1, .int x1), (2, .int x2), (3, .int x3), (4, .int x4), (5, .int x5), (7, .int x7), (8, .int x8), (9, .int x9)]) hO dX4_finds_97 (Nat.le_of_ble_eq_true rfl) rfl ?_
  refine zg_iload hO 7 dX4_finds_99 rfl ?_
  refine zg_iload hO 9 dX4_finds_101 rfl ?_
  refine zs_calli (As := [.int x9]) (rest := [.int x7]) hO h (fun q hq => m_flag l D dA hq) mw_X4_flag q1835 ⟨Nat.le_of_ble_eq_true rfl, Nat.le_of_ble_eq_true rfl⟩ ⟨Nat.le_refl _, Nat.le_refl _⟩ rfl rfl (Nat.le_of_ble_eq_true rfl) dX4_finds_103 (fun q6 h => ?_)
  refine zg_iadd hO dX4_finds_106 ?_
  refine zg_istore (lv' := [(7, .int (x7 + q6)), (6, .int y0), (0, .ref (G 0)), (1, .int x1), (2, .int x2), (3, .int x3), (4, .int x4), (5, .int x5), (8, .int x8), (9, .int x9)]) hO dX4_finds_107 (Nat.le_of_ble_eq_true rfl) rfl ?_
  refine zg_iinc (k := 8) (lv' := [(8, .int (x8 + (-1 : Int32))), (7, .int (x7 + q6)), (6, .int y0), (0, .ref (G 0)), (1, .int x1), (2, .int x2), (3, .int x3), (4, .int x4), (5, .int x5), (9, .int x9)]) hO dX4_finds_109 rfl (zii icm1) (Nat.le_of_ble_eq_true rfl) rfl ?_
  refine zg_goto (tgt := 44) hO dX4_finds_112 (by decide) ?_
  exact zg_sub [3, 4, 5, 6, 7, 8, 2, 1, 0] rfl (K44 _ _ _ _ _ _ _ _ _ h)
set_option maxHeartbeats 4000000 in
theorem w_M_finds_83 (hO : Ok p s m args meth c cX4_finds RX4 10 D dA (AG G s.heap.size)) (hr : meth.sig.returnType = (some .int)) {ρ : Int32 × MS} {k24 : Int32 → Int32 → Int32 → Int32 → Int32 → MS → Option (Int32 × MS)} {k44 : Int32 → Int32 → Int32 → Int32 → Int32 → Int32 → Int32 → Int32 → MS → Option (Int32 × MS)} (K24 : ∀ (x1 : Int32) (x2 : Int32) (x3 : Int32) (x4 : Int32) (x5 : Int32) (σ : MS), k24 x1 x2 x3 x4 x5 σ = some ρ → Go p l e (rmG 5 0 0) s m args below meth c D (AG G s.heap.size) 10 (MQ below ((QfI D dA (WM dA G ρ.2) ρ.1) (AG G s.heap.size)) args s 0 0 (AG G s.heap.size)) (WM dA G σ) 0 0 24 [(0, .ref (G 0)), (1, .int x1), (2, .int x2), (3, .int x3), (4, .int x4), (5, .int x5)] []) (K44 : ∀ (x1 : Int32) (x2 : Int32) (x3 : Int32) (x4 : Int32) (x5 : Int32) (x6 : Int32) (x7 : Int32) (x8 : Int32) (σ : MS), k44 x1 x2 x3 x4 x5 x6 x7 x8 σ = some ρ → Go p l e (rmG 5 0 0) s m args below meth c D (AG G s.heap.size) 10 (MQ below ((QfI D dA (WM dA G ρ.2) ρ.1) (AG G s.heap.size)) args s 0 0 (AG G s.heap.size)) (WM dA G σ) 0 0 44 [(0, .ref (G 0)), (1, .int x1), (2, .int x2), (3, .int x3), (4, .int x4), (5, .int x5), (6, .int x6), (7, .int x7), (8, .int x8)] []) : ∀ (x1 : Int32) (x2 : Int32) (x3 : Int32) (x4 : Int32) (x5 : Int32) (x6 : Int32) (x7 : Int32) (x8 : Int32) (y0 : Int32) (σ : MS), M_finds_83 k24 k44 x1 x2 x3 x4 x5 x6 x7 x8 y0 σ = some ρ → Go p l e (rmG 5 0 0) s m args below meth c D (AG G s.heap.size) 10 (MQ below ((QfI D dA (WM dA G ρ.2) ρ.1) (AG G s.heap.size)) args s 0 0 (AG G s.heap.size)) (WM dA G σ) 0 0 83 [(0, .ref (G 0)), (1, .int x1), (2, .int x2), (3, .int x3), (4, .int x4), (5, .int x5), (6, .int x6), (7, .int x7), (8, .int x8)] [.int y0] := by
  intro x1 x2 x3 x4 x5 x6 x7 x8 y0 σ h
  unfold M_finds_83 at h
  refine zg_istore (lv' := [(9, .int y0), (0, .ref (G 0)), (1, .int x1), (2, .int x2), (3, .int x3), (4, .int x4), (5, .int x5), (6, .int x6), (7, .int x7), (8, .int x8)]) hO dX4_finds_83 (Nat.le_of_ble_eq_true rfl) rfl ?_
  refine zg_iload hO 0 dX4_finds_85 rfl ?_
  refine zg_if_eq (tgt := 95) hO h dX4_finds_87 (by decide) (fun h => ?_) (fun h => ?_)
  · refine zg_iload hO 7 dX4_finds_95 rfl ?_
    exact zg_sub [1, 2, 3, 4, 5, 6, 8, 9, 0] rfl (w_M_finds_97 hO hr K24 K44 _ _ _ _ _ _ _ _ _ _ h)
  · refine zg_iload hO 9 dX4_finds_90 rfl ?_
    refine zg_goto (tgt := 97) hO dX4_finds_92 (by decide) ?_
    exact zg_sub [1, 2, 3, 4, 5, 6, 8, 9, 0] rfl (w_M_finds_97 hO hr K24 K44 _ _ _ _ _ _ _ _ _ _ h)
set_option maxHeartbeats 4000000 in
theorem w_M_finds_82 (hO : Ok p s m args meth c cX4_finds RX4 10 D dA (AG G s.heap.size)) (hr : meth.sig.returnType = (some .int)) {ρ : Int32 × MS} {k24 : Int32 → Int32 → Int32 → Int32 → Int32 → MS → Option (Int32 × MS)} {k44 : Int32 → Int32 → Int32 → Int32 → Int32 → Int32 → Int32 → Int32 → MS → Option (Int32 × MS)} (K24 : ∀ (x1 : Int32) (x2 : Int32) (x3 : Int32) (x4 : Int32) (x5 : Int32) (σ : MS), k24 x1 x2 x3 x4 x5 σ = some ρ → Go p l e (rmG 5 0 0) s m args below meth c D (AG G s.heap.size) 10 (MQ below ((QfI D dA (WM dA G ρ.2) ρ.1) (AG G s.heap.size)) args s 0 0 (AG G s.heap.size)) (WM dA G σ) 0 0 24 [(0, .ref (G 0)), (1, .int x1), (2, .int x2), (3, .int x3), (4, .int x4), (5, .int x5)] []) (K44 : ∀ (x1 : Int32) (x2 : Int32) (x3 : Int32) (x4 : Int32) (x5 : Int32) (x6 : Int32) (x7 : Int32) (x8 : Int32) (σ : MS), k44 x1 x2 x3 x4 x5 x6 x7 x8 σ = some ρ → Go p l e (rmG 5 0 0) s m args below meth c D (AG G s.heap.size) 10 (MQ below ((QfI D dA (WM dA G ρ.2) ρ.1) (AG G s.heap.size)) args s 0 0 (AG G s.heap.size)) (WM dA G σ) 0 0 44 [(0, .ref (G 0)), (1, .int x1), (2, .int x2), (3, .int x3), (4, .int x4), (5, .int x5), (6, .int x6), (7, .int x7), (8, .int x8)] []) : ∀ (x1 : Int32) (x2 : Int32) (x3 : Int32) (x4 : Int32) (x5 : Int32) (x6 : Int32) (x7 : Int32) (x8 : Int32) (σ : MS), M_finds_82 k24 k44 x1 x2 x3 x4 x5 x6 x7 x8 σ = some ρ → Go p l e (rmG 5 0 0) s m args below meth c D (AG G s.heap.size) 10 (MQ below ((QfI D dA (WM dA G ρ.2) ρ.1) (AG G s.heap.size)) args s 0 0 (AG G s.heap.size)) (WM dA G σ) 0 0 82 [(0, .ref (G 0)), (1, .int x1), (2, .int x2), (3, .int x3), (4, .int x4), (5, .int x5), (6, .int x6), (7, .int x7), (8, .int x8)] [] := by
  intro x1 x2 x3 x4 x5 x6 x7 x8 σ h
  unfold M_finds_82 at h
  refine zg_iconst hO dX4_finds_82 ic0 ?_
  exact zg_sub [0, 1, 2, 3, 4, 5, 6, 7, 8] rfl (w_M_finds_83 hO hr K24 K44 _ _ _ _ _ _ _ _ _ _ h)
set_option maxHeartbeats 4000000 in
theorem w_M_finds_44 (hO : Ok p s m args meth c cX4_finds RX4 10 D dA (AG G s.heap.size)) (hr : meth.sig.returnType = (some .int)) {ρ : Int32 × MS} {k24 : Int32 → Int32 → Int32 → Int32 → Int32 → MS → Option (Int32 × MS)} (K24 : ∀ (x1 : Int32) (x2 : Int32) (x3 : Int32) (x4 : Int32) (x5 : Int32) (σ : MS), k24 x1 x2 x3 x4 x5 σ = some ρ → Go p l e (rmG 5 0 0) s m args below meth c D (AG G s.heap.size) 10 (MQ below ((QfI D dA (WM dA G ρ.2) ρ.1) (AG G s.heap.size)) args s 0 0 (AG G s.heap.size)) (WM dA G σ) 0 0 24 [(0, .ref (G 0)), (1, .int x1), (2, .int x2), (3, .int x3), (4, .int x4), (5, .int x5)] []) : ∀ (n : Nat) (x1 : Int32) (x2 : Int32) (x3 : Int32) (x4 : Int32) (x5 : Int32) (x6 : Int32) (x7 : Int32) (x8 : Int32) (σ : MS), M_finds_44 k24 n x1 x2 x3 x4 x5 x6 x7 x8 σ = some ρ → Go p l e (rmG 5 0 0) s m args below meth c D (AG G s.heap.size) 10 (MQ below ((QfI D dA (WM dA G ρ.2) ρ.1) (AG G s.heap.size)) args s 0 0 (AG G s.heap.size)) (WM dA G σ) 0 0 44 [(0, .ref (G 0)), (1, .int x1), (2, .int x2), (3, .int x3), (4, .int x4), (5, .int x5), (6, .int x6), (7, .int x7), (8, .int x8)] [] := by
  intro n
  induction n with
  | zero =>
    intro x1 x2 x3 x4 x5 x6 x7 x8 σ h
    rw [M_finds_44] at h
    cases h
  | succ n ih =>
    intro x1 x2 x3 x4 x5 x6 x7 x8 σ h
    rw [M_finds_44] at h
    refine zg_iload hO 8 dX4_finds_44 rfl ?_
    refine zg_if_lt (tgt := 115) hO h dX4_finds_46 (by decide) (fun h => ?_) (fun h => ?_)
    · refine zg_iload hO 7 dX4_finds_115 rfl ?_
      refine zg_if_le (tgt := 142) hO h dX4_finds_117 (by decide) (fun h => ?_) (fun h => ?_)
      · refine zg_iinc (k := 5) (lv' := [(5, .int (x5 + (nI 1))), (0, .ref (G 0)), (1, .int x1), (2, .int x2), (3, .int x3), (4, .int x4), (6, .int x6), (7, .int x7), (8, .int x8)]) hO dX4_finds_142 rfl (zii ic1) (Nat.le_of_ble_eq_true rfl) rfl ?_
        refine zg_goto (tgt := 24) hO dX4_finds_145 (by decide) ?_
        exact zg_sub [1, 2, 3, 4, 5, 0] rfl (K24 _ _ _ _ _ _ h)
      · refine zg_aload_n hO 0 dX4_finds_120 rfl rfl ?_
        refine zg_iconst hO dX4_finds_121 ic0 ?_
        refine mP_11 hO dX4_finds_122 ?_
        refine zg_aload_n hO 0 dX4_finds_125 rfl rfl ?_
        refine zg_iload hO 6 dX4_finds_126 rfl ?_
        refine zg_i2l hO dX4_finds_128 ?_
        refine zm_callVv (As := [.long (x6.toInt64)]) (rest := []) hO h (fun q hq => m_enters l D dA G hq) mw_X4_enters q1856 ⟨Nat.le_of_ble_eq_true rfl, Nat.le_of_ble_eq_true rfl⟩ rfl rfl (Nat.le_of_ble_eq_true rfl) dX4_finds_129 (fun q3 h => ?_)
        refine zg_aload_n hO 0 dX4_finds_132 rfl rfl ?_
        refine zg_iload hO 7 dX4_finds_133 rfl ?_
        refine zg_i2l hO dX4_finds_135 ?_
        refine zm_callVv (As := [.long (x7.toInt64)]) (rest := []) hO h (fun q hq => m_enters l D dA G hq) mw_X4_enters q1856 ⟨Nat.le_of_ble_eq_true rfl, Nat.le_of_ble_eq_true rfl⟩ rfl rfl (Nat.le_of_ble_eq_true rfl) dX4_finds_136 (fun q4 h => ?_)
        refine zg_iload hO 5 dX4_finds_139 rfl ?_
        exact zm_iret hO hr h dX4_finds_141
    · refine zg_aload_n hO 0 dX4_finds_49 rfl rfl ?_
      refine zg_iload_n hO 1 dX4_finds_50 rfl rfl ?_
      refine zg_iload hO 8 dX4_finds_51 rfl ?_
      refine zg_iload hO 5 dX4_finds_53 rfl ?_
      refine zm_callVv (As := [.int x1, .int x8, .int x5]) (rest := []) hO h (fun q hq => m_sums l D dA G hq) mw_X4_sums q2066 ⟨Nat.le_of_ble_eq_true rfl, Nat.le_of_ble_eq_true rfl⟩ rfl rfl (Nat.le_of_ble_eq_true rfl) dX4_finds_55 (fun q5 h => ?_)
      refine zg_aload_n hO 0 dX4_finds_58 rfl rfl ?_
      refine mG_96 hO dX4_finds_59 ?_
      refine zg_iload_n hO 2 dX4_finds_62 rfl rfl ?_
      refine zg_i2l hO dX4_finds_63 ?_
      refine zg_lcmp hO dX4_finds_64 ?_
      refine zg_if_ne (tgt := 82) hO h dX4_finds_65 (by decide) (fun h => ?_) (fun h => ?_)
      · exact zg_sub [0, 1, 2, 3, 4, 5, 6, 7, 8] rfl (w_M_finds_82 hO hr K24 ih _ _ _ _ _ _ _ _ _ h)
      · refine zg_aload_n hO 0 dX4_finds_68 rfl rfl ?_
        refine mG_100 hO dX4_finds_69 ?_
        refine zg_iload_n hO 3 dX4_finds_72 rfl rfl ?_
        refine zg_i2l hO dX4_finds_73 ?_
        refine zg_lcmp hO dX4_finds_74 ?_
        refine zg_if_ne (tgt := 82) hO h dX4_finds_75 (by decide) (fun h => ?_) (fun h => ?_)
        · exact zg_sub [0, 1, 2, 3, 4, 5, 6, 7, 8] rfl (w_M_finds_82 hO hr K24 ih _ _ _ _ _ _ _ _ _ h)
        · refine zg_iconst hO dX4_finds_78 ic1 ?_
          refine zg_goto (tgt := 83) hO dX4_finds_79 (by decide) ?_
          exact zg_sub [0, 1, 2, 3, 4, 5, 6, 7, 8] rfl (w_M_finds_83 hO hr K24 ih _ _ _ _ _ _ _ _ _ _ h)
set_option maxHeartbeats 4000000 in
theorem w_M_finds_24 (hO : Ok p s m args meth c cX4_finds RX4 10 D dA (AG G s.heap.size)) (hr : meth.sig.returnType = (some .int)) {ρ : Int32 × MS} : ∀ (n : Nat) (x1 : Int32) (x2 : Int32) (x3 : Int32) (x4 : Int32) (x5 : Int32) (σ : MS), M_finds_24 n x1 x2 x3 x4 x5 σ = some ρ → Go p l e (rmG 5 0 0) s m args below meth c D (AG G s.heap.size) 10 (MQ below ((QfI D dA (WM dA G ρ.2) ρ.1) (AG G s.heap.size)) args s 0 0 (AG G s.heap.size)) (WM dA G σ) 0 0 24 [(0, .ref (G 0)), (1, .int x1), (2, .int x2), (3, .int x3), (4, .int x4), (5, .int x5)] [] := by
  intro n
  induction n with
  | zero =>
    intro x1 x2 x3 x4 x5 σ h
    rw [M_finds_24] at h
    cases h
  | succ n ih =>
    intro x1 x2 x3 x4 x5 σ h
    rw [M_finds_24] at h
    refine zg_iload hO 5 dX4_finds_24 rfl ?_
    refine zg_iload hO 4 dX4_finds_26 rfl ?_
    refine zg_icmp_gt (tgt := 148) hO h dX4_finds_28 (by decide) (fun h => ?_) (fun h => ?_)
    · refine zg_bipush hO dX4_finds_148 bcm2 ?_
      exact zm_iret hO hr h dX4_finds_150
    · refine zg_iconst hO dX4_finds_31 icm1 ?_
      refine zg_istore (lv' := [(6, .int (-1 : Int32)), (0, .ref (G 0)), (1, .int x1), (2, .int x2), (3, .int x3), (4, .int x4), (5, .int x5)]) hO dX4_finds_32 (Nat.le_of_ble_eq_true rfl) rfl ?_
      refine zg_iconst hO dX4_finds_34 ic0 ?_
      refine zg_istore (lv' := [(7, .int (nI 0)), (6, .int (-1 : Int32)), (0, .ref (G 0)), (1, .int x1), (2, .int x2), (3, .int x3), (4, .int x4), (5, .int x5)]) hO dX4_finds_35 (Nat.le_of_ble_eq_true rfl) rfl ?_
      refine zg_iload hO 6 dX4_finds_37 rfl ?_
      refine zg_iload hO 7 dX4_finds_39 rfl ?_
      refine zg_isub hO dX4_finds_41 ?_
      refine zg_istore (lv' := [(8, .int (x4 - x5)), (7, .int (nI 0)), (6, .int (-1 : Int32)), (0, .ref (G 0)), (1, .int x1), (2, .int x2), (3, .int x3), (4, .int x4), (5, .int x5)]) hO dX4_finds_42 (Nat.le_of_ble_eq_true rfl) rfl ?_
      exact zg_sub [3, 4, 5, 6, 7, 8, 2, 1, 0] rfl (w_M_finds_44 hO hr ih _ _ _ _ _ _ _ _ _ _ h)
theorem mw_X4_finds : MwV yX4_finds cX4_finds 10 (some .int) RX4 3 := ⟨by decide +kernel, q2087, q2088, q106, q2089⟩
set_option maxHeartbeats 4000000 in
theorem m_finds (l : Launch) (D : va_G) (dA : Nat → ClassId) (G : Nat → Nat) {x1 : Int32} {x2 : Int32} {x3 : Int32} {σ : MS} {ρ : Int32 × MS} (h : M_finds x1 x2 x3 σ = some ρ) : Ct l yX4_finds (ws_ yX4_finds cX4_finds 10 (some .int)) 5 0 0 D dA [.ref (G 0), .int x1, .int x2, .int x3] (WM dA G σ) (AG G) (QfI D dA (WM dA G ρ.2) ρ.1) := by
  refine zc_start (cc := cX4_finds) (nL := 10) (ret := (some .int)) (own := RX4) (by decide) rfl rfl (Nat.le_of_ble_eq_true rfl) wm_A (fun p e s m args below meth c hO hr _ _ => ?_)
  unfold M_finds at h
  refine zg_sub (lv' := [(0, .ref (G 0)), (1, .int x1), (2, .int x2), (3, .int x3)]) [0, 1, 2, 3] rfl ?_
  refine zg_aload_n hO 0 dX4_finds_0 rfl rfl ?_
  refine zg_iconst hO dX4_finds_1 ic0 ?_
  refine mP_1 hO dX4_finds_2 ?_
  refine zg_iload_n hO 1 dX4_finds_5 rfl rfl ?_
  refine zs_calli (As := [.int x1]) (rest := []) hO h (fun q hq => m_isLine l D dA hq) mw_X4_isLine q1958 ⟨Nat.le_of_ble_eq_true rfl, Nat.le_of_ble_eq_true rfl⟩ ⟨Nat.le_refl _, Nat.le_refl _⟩ rfl rfl (Nat.le_of_ble_eq_true rfl) dX4_finds_6 (fun q1 h => ?_)
  refine zg_if_ne (tgt := 14) hO h dX4_finds_9 (by decide) (fun h => ?_) (fun h => ?_)
  · refine zg_aload_n hO 0 dX4_finds_14 rfl rfl ?_
    refine zg_iload_n hO 1 dX4_finds_15 rfl rfl ?_
    refine zm_callVi (As := [.int x1]) (rest := []) hO h (fun q hq => m_sizeOf l D dA G hq) mw_X4_sizeOf q1896 ⟨Nat.le_of_ble_eq_true rfl, Nat.le_of_ble_eq_true rfl⟩ rfl rfl (Nat.le_of_ble_eq_true rfl) dX4_finds_16 (fun q2 h => ?_)
    refine zg_istore (lv' := [(4, .int q2.1), (0, .ref (G 0)), (1, .int x1), (2, .int x2), (3, .int x3)]) hO dX4_finds_19 (Nat.le_of_ble_eq_true rfl) rfl ?_
    refine zg_iconst hO dX4_finds_21 ic1 ?_
    refine zg_istore (lv' := [(5, .int (nI 1)), (4, .int q2.1), (0, .ref (G 0)), (1, .int x1), (2, .int x2), (3, .int x3)]) hO dX4_finds_22 (Nat.le_of_ble_eq_true rfl) rfl ?_
    exact zg_sub [2, 3, 4, 5, 1, 0] rfl (w_M_finds_24 hO hr _ _ _ _ _ _ _ h)
  · refine zg_iconst hO dX4_finds_12 icm1 ?_
    exact zm_iret hO hr h dX4_finds_13
theorem mw_X4_begins : MwV yX4_begins cX4_begins 2 none RX4 1 := ⟨by decide +kernel, q2100, qs81, q106, q2101⟩
set_option maxHeartbeats 4000000 in
theorem m_begins (l : Launch) (D : va_G) (dA : Nat → ClassId) (G : Nat → Nat) {x1 : Int32} {σ : MS} {ρ : MS} (h : M_begins x1 σ = some ρ) : Ct l yX4_begins (ws_ yX4_begins cX4_begins 2 none) 0 0 0 D dA [.ref (G 0), .int x1] (WM dA G σ) (AG G) (QfV D dA (WM dA G ρ)) := by
  refine zc_start (cc := cX4_begins) (nL := 2) (ret := none) (own := RX4) (by decide) rfl rfl (Nat.le_of_ble_eq_true rfl) wm_A (fun p e s m args below meth c hO hr _ _ => ?_)
  unfold M_begins at h
  refine zg_sub (lv' := [(0, .ref (G 0)), (1, .int x1)]) [0, 1] rfl ?_
  refine zg_aload_n hO 0 dX4_begins_0 rfl rfl ?_
  refine zg_aload_n hO 0 dX4_begins_1 rfl rfl ?_
  refine mG_66 hO dX4_begins_2 ?_
  refine zg_iconst hO dX4_begins_5 ic2 ?_
  refine zg_iload_n hO 1 dX4_begins_6 rfl rfl ?_
  refine zg_imul hO dX4_begins_7 ?_
  refine mL_9 hO h dX4_begins_8 (fun h => ?_)
  refine mP_284 hO dX4_begins_9 ?_
  refine zg_aload_n hO 0 dX4_begins_12 rfl rfl ?_
  refine zg_aload_n hO 0 dX4_begins_13 rfl rfl ?_
  refine mG_66 hO dX4_begins_14 ?_
  refine zg_iconst hO dX4_begins_17 ic2 ?_
  refine zg_iload_n hO 1 dX4_begins_18 rfl rfl ?_
  refine zg_imul hO dX4_begins_19 ?_
  refine zg_iconst hO dX4_begins_20 ic1 ?_
  refine zg_iadd hO dX4_begins_21 ?_
  refine mL_9 hO h dX4_begins_22 (fun h => ?_)
  refine mP_287 hO dX4_begins_23 ?_
  exact zm_vret hO hr h dX4_begins_26
set_option maxHeartbeats 4000000 in
theorem w_M_costs_102 (hO : Ok p s m args meth c cX4_costs RX4 5 D dA (AG G s.heap.size)) (hr : meth.sig.returnType = (some .int)) {ρ : Int32 × MS} : ∀ (x3 : Int32) (y0 : Int32) (y1 : Int32) (σ : MS), M_costs_102 x3 y0 y1 σ = some ρ → Go p l e (rmG 1 0 0) s m args below meth c D (AG G s.heap.size) 5 (MQ below ((QfI D dA (WM dA G ρ.2) ρ.1) (AG G s.heap.size)) args s 0 0 (AG G s.heap.size)) (WM dA G σ) 0 0 102 [(3, .int x3)] [.int y0, .int y1, .ref (G 0)] := by
  intro x3 y0 y1 σ h
  unfold M_costs_102 at h
  refine zs_calli (As := [.int y0]) (rest := [.int y1, .ref (G 0)]) hO h (fun q hq => m_flag l D dA hq) mw_X4_flag q1835 ⟨Nat.le_of_ble_eq_true rfl, Nat.le_of_ble_eq_true rfl⟩ ⟨Nat.le_refl _, Nat.le_refl _⟩ rfl rfl (Nat.le_of_ble_eq_true rfl) dX4_costs_102 (fun q2 h => ?_)
  refine zg_isub hO dX4_costs_105 ?_
  refine mP_287 hO dX4_costs_106 ?_
  refine zg_iload_n hO 0 dX4_costs_109 rfl rfl ?_
  exact zm_iret hO hr h dX4_costs_110
set_option maxHeartbeats 4000000 in
theorem w_M_costs_80 (hO : Ok p s m args meth c cX4_costs RX4 5 D dA (AG G s.heap.size)) (hr : meth.sig.returnType = (some .int)) {ρ : Int32 × MS} : ∀ (x1 : Int32) (x3 : Int32) (y0 : Int32) (y1 : Int32) (σ : MS), M_costs_80 x1 x3 y0 y1 σ = some ρ → Go p l e (rmG 1 0 0) s m args below meth c D (AG G s.heap.size) 5 (MQ below ((QfI D dA (WM dA G ρ.2) ρ.1) (AG G s.heap.size)) args s 0 0 (AG G s.heap.size)) (WM dA G σ) 0 0 80 [(0, .ref (G 0)), (1, .int x1), (3, .int x3)] [.int y0, .int y1, .ref (G 0)] := by
  intro x1 x3 y0 y1 σ h
  unfold M_costs_80 at h
  refine zs_calli (As := [.int y0]) (rest := [.int y1, .ref (G 0)]) hO h (fun q hq => m_flag l D dA hq) mw_X4_flag q1835 ⟨Nat.le_of_ble_eq_true rfl, Nat.le_of_ble_eq_true rfl⟩ ⟨Nat.le_refl _, Nat.le_refl _⟩ rfl rfl (Nat.le_of_ble_eq_true rfl) dX4_costs_80 (fun q1 h => ?_)
  refine zg_isub hO dX4_costs_83 ?_
  refine mP_284 hO dX4_costs_84 ?_
  refine zg_aload_n hO 0 dX4_costs_87 rfl rfl ?_
  refine zg_dup hO dX4_costs_88 rfl ?_
  refine mG_287 hO dX4_costs_89 ?_
  refine zg_iload_n hO 1 dX4_costs_92 rfl rfl ?_
  refine zg_iconst hO dX4_costs_93 ic1 ?_
  refine zg_icmp_ne (tgt := 101) hO h dX4_costs_94 (by decide) (fun h => ?_) (fun h => ?_)
  · refine zg_iconst hO dX4_costs_101 ic0 ?_
    exact zg_sub [2] rfl (w_M_costs_102 hO hr _ _ _ _ h)
  · refine zg_iconst hO dX4_costs_97 ic1 ?_
    refine zg_goto (tgt := 102) hO dX4_costs_98 (by decide) ?_
    exact zg_sub [2] rfl (w_M_costs_102 hO hr _ _ _ _ h)
set_option maxHeartbeats 4000000 in
theorem w_M_costs_66 (hO : Ok p s m args meth c cX4_costs RX4 5 D dA (AG G s.heap.size)) (hr : meth.sig.returnType = (some .int)) {ρ : Int32 × MS} : ∀ (x1 : Int32) (x3 : Int32) (σ : MS), M_costs_66 x1 x3 σ = some ρ → Go p l e (rmG 1 0 0) s m args below meth c D (AG G s.heap.size) 5 (MQ below ((QfI D dA (WM dA G ρ.2) ρ.1) (AG G s.heap.size)) args s 0 0 (AG G s.heap.size)) (WM dA G σ) 0 0 66 [(0, .ref (G 0)), (1, .int x1), (3, .int x3)] [] := by
  intro x1 x3 σ h
  unfold M_costs_66 at h
  refine zg_aload_n hO 0 dX4_costs_66 rfl rfl ?_
  refine zg_dup hO dX4_costs_67 rfl ?_
  refine mG_284 hO dX4_costs_68 ?_
  refine zg_iload_n hO 1 dX4_costs_71 rfl rfl ?_
  refine zg_if_ne (tgt := 79) hO h dX4_costs_72 (by decide) (fun h => ?_) (fun h => ?_)
  · refine zg_iconst hO dX4_costs_79 ic0 ?_
    exact zg_sub [0, 1, 2] rfl (w_M_costs_80 hO hr _ _ _ _ _ h)
  · refine zg_iconst hO dX4_costs_75 ic1 ?_
    refine zg_goto (tgt := 80) hO dX4_costs_76 (by decide) ?_
    exact zg_sub [0, 1, 2] rfl (w_M_costs_80 hO hr _ _ _ _ _ h)
set_option maxHeartbeats 4000000 in
theorem w_M_costs_51 (hO : Ok p s m args meth c cX4_costs RX4 5 D dA (AG G s.heap.size)) (hr : meth.sig.returnType = (some .int)) {ρ : Int32 × MS} : ∀ (x1 : Int32) (x2 : Int32) (y0 : Int32) (σ : MS), M_costs_51 x1 x2 y0 σ = some ρ → Go p l e (rmG 1 0 0) s m args below meth c D (AG G s.heap.size) 5 (MQ below ((QfI D dA (WM dA G ρ.2) ρ.1) (AG G s.heap.size)) args s 0 0 (AG G s.heap.size)) (WM dA G σ) 0 0 51 [(0, .ref (G 0)), (1, .int x1), (2, .int x2)] [.int y0, .ref (G 0)] := by
  intro x1 x2 y0 σ h
  unfold M_costs_51 at h
  refine mP_284 hO dX4_costs_51 ?_
  refine zg_aload_n hO 0 dX4_costs_54 rfl rfl ?_
  refine zg_iload_n hO 2 dX4_costs_55 rfl rfl ?_
  refine zg_aload_n hO 0 dX4_costs_56 rfl rfl ?_
  refine mG_284 hO dX4_costs_57 ?_
  refine zg_isub hO dX4_costs_60 ?_
  refine mP_287 hO dX4_costs_61 ?_
  refine zg_iload_n hO 2 dX4_costs_64 rfl rfl ?_
  refine zg_istore_n (lv' := [(3, .int x2), (0, .ref (G 0)), (1, .int x1), (2, .int x2)]) hO dX4_costs_65 rfl (Nat.le_of_ble_eq_true rfl) rfl ?_
  exact zg_sub [1, 2, 0] rfl (w_M_costs_66 hO hr _ _ _ h)
set_option maxHeartbeats 4000000 in
theorem w_M_costs_27 (hO : Ok p s m args meth c cX4_costs RX4 5 D dA (AG G s.heap.size)) (hr : meth.sig.returnType = (some .int)) {ρ : Int32 × MS} : ∀ (x1 : Int32) (x2 : Int32) (x3 : Int32) (y0 : Int32) (σ : MS), M_costs_27 x1 x2 x3 y0 σ = some ρ → Go p l e (rmG 1 0 0) s m args below meth c D (AG G s.heap.size) 5 (MQ below ((QfI D dA (WM dA G ρ.2) ρ.1) (AG G s.heap.size)) args s 0 0 (AG G s.heap.size)) (WM dA G σ) 0 0 27 [(0, .ref (G 0)), (1, .int x1), (2, .int x2), (3, .int x3)] [.int y0] := by
  intro x1 x2 x3 y0 σ h
  unfold M_costs_27 at h
  refine zg_if_ne (tgt := 66) hO h dX4_costs_27 (by decide) (fun h => ?_) (fun h => ?_)
  · exact zg_sub [0, 1, 3] rfl (w_M_costs_66 hO hr _ _ _ h)
  · refine zg_iload_n hO 2 dX4_costs_30 rfl rfl ?_
    refine zg_iconst hO dX4_costs_31 ic1 ?_
    refine zg_iadd hO dX4_costs_32 ?_
    refine zg_iconst hO dX4_costs_33 ic2 ?_
    refine zg_idiv hO h dX4_costs_34 (fun h => ?_)
    refine zg_istore (lv' := [(4, .int ((x2 + (nI 1)) / (nI 2))), (0, .ref (G 0)), (1, .int x1), (2, .int x2), (3, .int x3)]) hO dX4_costs_35 (Nat.le_of_ble_eq_true rfl) rfl ?_
    refine zg_aload_n hO 1 dX4_costs_37 rfl rfl ?_
    refine zg_iload_n hO 2 dX4_costs_38 rfl rfl ?_
    refine zg_if_ne (tgt := 47) hO h dX4_costs_39 (by decide) (fun h => ?_) (fun h => ?_)
    · refine zg_iload_n hO 3 dX4_costs_47 rfl rfl ?_
      refine zg_iload hO 0 dX4_costs_48 rfl ?_
      refine zg_isub hO dX4_costs_50 ?_
      exact zg_sub [1, 2, 3] rfl (w_M_costs_51 hO hr _ _ _ _ h)
    · refine zg_iload hO 0 dX4_costs_42 rfl ?_
      refine zg_goto (tgt := 51) hO dX4_costs_44 (by decide) ?_
      exact zg_sub [1, 2, 3] rfl (w_M_costs_51 hO hr _ _ _ _ h)
theorem mw_X4_costs : MwV yX4_costs cX4_costs 5 (some .int) RX4 1 := ⟨by decide +kernel, q2104, qs82, q106, q2105⟩
set_option maxHeartbeats 4000000 in
theorem m_costs (l : Launch) (D : va_G) (dA : Nat → ClassId) (G : Nat → Nat) {x1 : Int32} {σ : MS} {ρ : Int32 × MS} (h : M_costs x1 σ = some ρ) : Ct l yX4_costs (ws_ yX4_costs cX4_costs 5 (some .int)) 1 0 0 D dA [.ref (G 0), .int x1] (WM dA G σ) (AG G) (QfI D dA (WM dA G ρ.2) ρ.1) := by
  refine zc_start (cc := cX4_costs) (nL := 5) (ret := (some .int)) (own := RX4) (by decide) rfl rfl (Nat.le_of_ble_eq_true rfl) wm_A (fun p e s m args below meth c hO hr _ _ => ?_)
  unfold M_costs at h
  refine zg_sub (lv' := [(0, .ref (G 0)), (1, .int x1)]) [0, 1] rfl ?_
  refine zg_aload_n hO 0 dX4_costs_0 rfl rfl ?_
  refine mG_284 hO dX4_costs_1 ?_
  refine zg_aload_n hO 0 dX4_costs_4 rfl rfl ?_
  refine mG_287 hO dX4_costs_5 ?_
  refine zg_iadd hO dX4_costs_8 ?_
  refine zg_istore_n (lv' := [(2, .int ((gI σ 11) + (gI σ 12))), (0, .ref (G 0)), (1, .int x1)]) hO dX4_costs_9 rfl (Nat.le_of_ble_eq_true rfl) rfl ?_
  refine zg_iconst hO dX4_costs_10 ic0 ?_
  refine zg_istore_n (lv' := [(3, .int (nI 0)), (2, .int ((gI σ 11) + (gI σ 12))), (0, .ref (G 0)), (1, .int x1)]) hO dX4_costs_11 rfl (Nat.le_of_ble_eq_true rfl) rfl ?_
  refine zg_iload_n hO 3 dX4_costs_12 rfl rfl ?_
  refine zg_if_ne (tgt := 23) hO h dX4_costs_13 (by decide) (fun h => ?_) (fun h => ?_)
  · refine zg_aload_n hO 2 dX4_costs_23 rfl rfl ?_
    refine mG_287 hO dX4_costs_24 ?_
    exact zg_sub [2, 3, 1, 0] rfl (w_M_costs_27 hO hr _ _ _ _ _ h)
  · refine zg_aload_n hO 2 dX4_costs_16 rfl rfl ?_
    refine mG_284 hO dX4_costs_17 ?_
    refine zg_goto (tgt := 27) hO dX4_costs_20 (by decide) ?_
    exact zg_sub [2, 3, 1, 0] rfl (w_M_costs_27 hO hr _ _ _ _ _ h)
set_option maxHeartbeats 4000000 in
theorem w_M_drainsBy_7 (hO : Ok p s m args meth c cX4_drainsBy RX4 4 D dA (AG G s.heap.size)) (hr : meth.sig.returnType = (some .int)) {ρ : Int32 × MS} : ∀ (n : Nat) (x2 : Int32) (x3 : Int32) (σ : MS), M_drainsBy_7 n x2 x3 σ = some ρ → Go p l e (rmG 2 0 0) s m args below meth c D (AG G s.heap.size) 4 (MQ below ((QfI D dA (WM dA G ρ.2) ρ.1) (AG G s.heap.size)) args s 0 0 (AG G s.heap.size)) (WM dA G σ) 0 0 7 [(0, .ref (G 0)), (2, .int x2), (3, .int x3)] [] := by
  intro n
  induction n with
  | zero =>
    intro x2 x3 σ h
    rw [M_drainsBy_7] at h
    cases h
  | succ n ih =>
    intro x2 x3 σ h
    rw [M_drainsBy_7] at h
    refine zg_aload_n hO 0 dX4_drainsBy_7 rfl rfl ?_
    refine mG_284 hO dX4_drainsBy_8 ?_
    refine zg_aload_n hO 0 dX4_drainsBy_11 rfl rfl ?_
    refine mG_287 hO dX4_drainsBy_12 ?_
    refine zg_iadd hO dX4_drainsBy_15 ?_
    refine zg_if_le (tgt := 30) hO h dX4_drainsBy_16 (by decide) (fun h => ?_) (fun h => ?_)
    · refine zg_iload_n hO 2 dX4_drainsBy_30 rfl rfl ?_
      exact zm_iret hO hr h dX4_drainsBy_31
    · refine zg_iload_n hO 2 dX4_drainsBy_19 rfl rfl ?_
      refine zg_aload_n hO 0 dX4_drainsBy_20 rfl rfl ?_
      refine zg_iload_n hO 1 dX4_drainsBy_21 rfl rfl ?_
      refine zm_callVi (As := [.int x2]) (rest := [.int x3]) hO h (fun q hq => m_costs l D dA G hq) mw_X4_costs q2102 ⟨Nat.le_of_ble_eq_true rfl, Nat.le_of_ble_eq_true rfl⟩ rfl rfl (Nat.le_of_ble_eq_true rfl) dX4_drainsBy_22 (fun q2 h => ?_)
      refine zg_iadd hO dX4_drainsBy_25 ?_
      refine zg_istore_n (lv' := [(3, .int (x3 + q2.1)), (0, .ref (G 0)), (2, .int x2)]) hO dX4_drainsBy_26 rfl (Nat.le_of_ble_eq_true rfl) rfl ?_
      refine zg_goto (tgt := 7) hO dX4_drainsBy_27 (by decide) ?_
      exact zg_sub [1, 2, 0] rfl (ih _ _ _ h)
theorem mw_X4_drainsBy : MwV yX4_drainsBy cX4_drainsBy 4 (some .int) RX4 2 := ⟨by decide +kernel, q2096, qs80, q106, q2097⟩
set_option maxHeartbeats 4000000 in
theorem m_drainsBy (l : Launch) (D : va_G) (dA : Nat → ClassId) (G : Nat → Nat) {x1 : Int32} {x2 : Int32} {σ : MS} {ρ : Int32 × MS} (h : M_drainsBy x1 x2 σ = some ρ) : Ct l yX4_drainsBy (ws_ yX4_drainsBy cX4_drainsBy 4 (some .int)) 2 0 0 D dA [.ref (G 0), .int x1, .int x2] (WM dA G σ) (AG G) (QfI D dA (WM dA G ρ.2) ρ.1) := by
  refine zc_start (cc := cX4_drainsBy) (nL := 4) (ret := (some .int)) (own := RX4) (by decide) rfl rfl (Nat.le_of_ble_eq_true rfl) wm_A (fun p e s m args below meth c hO hr _ _ => ?_)
  unfold M_drainsBy at h
  refine zg_sub (lv' := [(0, .ref (G 0)), (1, .int x1), (2, .int x2)]) [0, 1, 2] rfl ?_
  refine zg_aload_n hO 0 dX4_drainsBy_0 rfl rfl ?_
  refine zg_iload_n hO 1 dX4_drainsBy_1 rfl rfl ?_
  refine zm_callVv (As := [.int x1]) (rest := []) hO h (fun q hq => m_begins l D dA G hq) mw_X4_begins q2098 ⟨Nat.le_of_ble_eq_true rfl, Nat.le_of_ble_eq_true rfl⟩ rfl rfl (Nat.le_of_ble_eq_true rfl) dX4_drainsBy_2 (fun q1 h => ?_)
  refine zg_iconst hO dX4_drainsBy_5 ic0 ?_
  refine zg_istore_n (lv' := [(3, .int (nI 0)), (0, .ref (G 0)), (1, .int x1), (2, .int x2)]) hO dX4_drainsBy_6 rfl (Nat.le_of_ble_eq_true rfl) rfl ?_
  exact zg_sub [1, 3, 0] rfl (w_M_drainsBy_7 hO hr _ _ _ _ h)
set_option maxHeartbeats 4000000 in
theorem w_M_drains_44 (hO : Ok p s m args meth c cX4_drains RX4 4 D dA (AG G s.heap.size)) (hr : meth.sig.returnType = (some .int)) {ρ : Int32 × MS} : ∀ (x2 : Int32) (x3 : Int32) (y0 : Int32) (σ : MS), M_drains_44 x2 x3 y0 σ = some ρ → Go p l e (rmG 3 0 0) s m args below meth c D (AG G s.heap.size) 4 (MQ below ((QfI D dA (WM dA G ρ.2) ρ.1) (AG G s.heap.size)) args s 0 0 (AG G s.heap.size)) (WM dA G σ) 0 0 44 [(0, .ref (G 0)), (2, .int x2), (3, .int x3)] [.int y0, .ref (G 0)] := by
  intro x2 x3 y0 σ h
  unfold M_drains_44 at h
  refine zs_calli (As := [.int y0]) (rest := [.ref (G 0)]) hO h (fun q hq => m_flag l D dA hq) mw_X4_flag q1835 ⟨Nat.le_of_ble_eq_true rfl, Nat.le_of_ble_eq_true rfl⟩ ⟨Nat.le_refl _, Nat.le_refl _⟩ rfl rfl (Nat.le_of_ble_eq_true rfl) dX4_drains_44 (fun q4 h => ?_)
  refine zg_i2l hO dX4_drains_47 ?_
  refine zm_callVv (As := [.long (q4.toInt64)]) (rest := []) hO h (fun q hq => m_enters l D dA G hq) mw_X4_enters q1856 ⟨Nat.le_of_ble_eq_true rfl, Nat.le_of_ble_eq_true rfl⟩ rfl rfl (Nat.le_of_ble_eq_true rfl) dX4_drains_48 (fun q5 h => ?_)
  refine zg_aload_n hO 0 dX4_drains_51 rfl rfl ?_
  refine zg_iload_n hO 1 dX4_drains_52 rfl rfl ?_
  refine zg_i2l hO dX4_drains_53 ?_
  refine zm_callVv (As := [.long (x2.toInt64)]) (rest := []) hO h (fun q hq => m_enters l D dA G hq) mw_X4_enters q1856 ⟨Nat.le_of_ble_eq_true rfl, Nat.le_of_ble_eq_true rfl⟩ rfl rfl (Nat.le_of_ble_eq_true rfl) dX4_drains_54 (fun q6 h => ?_)
  refine zg_aload_n hO 0 dX4_drains_57 rfl rfl ?_
  refine zg_iload_n hO 2 dX4_drains_58 rfl rfl ?_
  refine zg_i2l hO dX4_drains_59 ?_
  refine zm_callVv (As := [.long (x3.toInt64)]) (rest := []) hO h (fun q hq => m_enters l D dA G hq) mw_X4_enters q1856 ⟨Nat.le_of_ble_eq_true rfl, Nat.le_of_ble_eq_true rfl⟩ rfl rfl (Nat.le_of_ble_eq_true rfl) dX4_drains_60 (fun q7 h => ?_)
  refine zg_iload_n hO 1 dX4_drains_63 rfl rfl ?_
  refine zg_iload_n hO 2 dX4_drains_64 rfl rfl ?_
  refine zs_mmin hO q2106 (Nat.le_of_ble_eq_true rfl) (Nat.le_of_ble_eq_true rfl) ⟨Nat.le_refl _, Nat.le_refl _⟩ dX4_drains_65 ?_
  exact zm_iret hO hr h dX4_drains_68
theorem mw_X4_drains : MwV yX4_drains cX4_drains 4 (some .int) RX4 1 := ⟨by decide +kernel, q2091, q2092, q106, q2093⟩
set_option maxHeartbeats 4000000 in
theorem m_drains (l : Launch) (D : va_G) (dA : Nat → ClassId) (G : Nat → Nat) {x1 : Int32} {σ : MS} {ρ : Int32 × MS} (h : M_drains x1 σ = some ρ) : Ct l yX4_drains (ws_ yX4_drains cX4_drains 4 (some .int)) 3 0 0 D dA [.ref (G 0), .int x1] (WM dA G σ) (AG G) (QfI D dA (WM dA G ρ.2) ρ.1) := by
  refine zc_start (cc := cX4_drains) (nL := 4) (ret := (some .int)) (own := RX4) (by decide) rfl rfl (Nat.le_of_ble_eq_true rfl) wm_A (fun p e s m args below meth c hO hr _ _ => ?_)
  unfold M_drains at h
  refine zg_sub (lv' := [(0, .ref (G 0)), (1, .int x1)]) [0, 1] rfl ?_
  refine zg_aload_n hO 0 dX4_drains_0 rfl rfl ?_
  refine zg_iconst hO dX4_drains_1 ic0 ?_
  refine mP_1 hO dX4_drains_2 ?_
  refine zg_iload_n hO 1 dX4_drains_5 rfl rfl ?_
  refine zs_calli (As := [.int x1]) (rest := []) hO h (fun q hq => m_isLine l D dA hq) mw_X4_isLine q1958 ⟨Nat.le_of_ble_eq_true rfl, Nat.le_of_ble_eq_true rfl⟩ ⟨Nat.le_refl _, Nat.le_refl _⟩ rfl rfl (Nat.le_of_ble_eq_true rfl) dX4_drains_6 (fun q1 h => ?_)
  refine zg_if_ne (tgt := 14) hO h dX4_drains_9 (by decide) (fun h => ?_) (fun h => ?_)
  · refine zg_aload_n hO 0 dX4_drains_14 rfl rfl ?_
    refine zg_iload_n hO 1 dX4_drains_15 rfl rfl ?_
    refine zg_iconst hO dX4_drains_16 ic0 ?_
    refine zm_callVi (As := [.int x1, .int (nI 0)]) (rest := []) hO h (fun q hq => m_drainsBy l D dA G hq) mw_X4_drainsBy q2094 ⟨Nat.le_of_ble_eq_true rfl, Nat.le_of_ble_eq_true rfl⟩ rfl rfl (Nat.le_of_ble_eq_true rfl) dX4_drains_17 (fun q2 h => ?_)
    refine zg_istore_n (lv' := [(2, .int q2.1), (0, .ref (G 0)), (1, .int x1)]) hO dX4_drains_20 rfl (Nat.le_of_ble_eq_true rfl) rfl ?_
    refine zg_aload_n hO 1 dX4_drains_21 rfl rfl ?_
    refine zg_iload_n hO 2 dX4_drains_22 rfl rfl ?_
    refine zg_iconst hO dX4_drains_23 ic1 ?_
    refine zm_callVi (As := [.int x1, .int (nI 1)]) (rest := []) hO h (fun q hq => m_drainsBy l D dA G hq) mw_X4_drainsBy q2094 ⟨Nat.le_of_ble_eq_true rfl, Nat.le_of_ble_eq_true rfl⟩ rfl rfl (Nat.le_of_ble_eq_true rfl) dX4_drains_24 (fun q3 h => ?_)
    refine zg_istore_n (lv' := [(3, .int q3.1), (2, .int q2.1), (0, .ref (G 0)), (1, .int x1)]) hO dX4_drains_27 rfl (Nat.le_of_ble_eq_true rfl) rfl ?_
    refine zg_aload_n hO 2 dX4_drains_28 rfl rfl ?_
    refine zg_iconst hO dX4_drains_29 ic0 ?_
    refine mP_11 hO dX4_drains_30 ?_
    refine zg_aload_n hO 2 dX4_drains_33 rfl rfl ?_
    refine zg_iload_n hO 0 dX4_drains_34 rfl rfl ?_
    refine zg_iload_n hO 1 dX4_drains_35 rfl rfl ?_
    refine zg_icmp_ge (tgt := 43) hO h dX4_drains_36 (by decide) (fun h => ?_) (fun h => ?_)
    · refine zg_iconst hO dX4_drains_43 ic0 ?_
      exact zg_sub [2, 1, 0] rfl (w_M_drains_44 hO hr _ _ _ _ h)
    · refine zg_iconst hO dX4_drains_39 ic1 ?_
      refine zg_goto (tgt := 44) hO dX4_drains_40 (by decide) ?_
      exact zg_sub [2, 1, 0] rfl (w_M_drains_44 hO hr _ _ _ _ h)
  · refine zg_iconst hO dX4_drains_12 icm1 ?_
    exact zm_iret hO hr h dX4_drains_13
theorem mw_X4_would : MwV yX4_would cX4_would 4 (some .int) RX4 2 := ⟨by decide +kernel, q2108, q2109, q106, q2110⟩
set_option maxHeartbeats 4000000 in
theorem m_would (l : Launch) (D : va_G) (dA : Nat → ClassId) (G : Nat → Nat) {x1 : Int32} {x2 : Int32} {σ : MS} {ρ : Int32 × MS} (h : M_would x1 x2 σ = some ρ) : Ct l yX4_would (ws_ yX4_would cX4_would 4 (some .int)) 2 0 0 D dA [.ref (G 0), .int x1, .int x2] (WM dA G σ) (AG G) (QfI D dA (WM dA G ρ.2) ρ.1) := by
  refine zc_start (cc := cX4_would) (nL := 4) (ret := (some .int)) (own := RX4) (by decide) rfl rfl (Nat.le_of_ble_eq_true rfl) wm_A (fun p e s m args below meth c hO hr _ _ => ?_)
  unfold M_would at h
  refine zg_sub (lv' := [(0, .ref (G 0)), (1, .int x1), (2, .int x2)]) [0, 1, 2] rfl ?_
  refine zg_aload_n hO 0 dX4_would_0 rfl rfl ?_
  refine zg_iconst hO dX4_would_1 ic0 ?_
  refine mP_1 hO dX4_would_2 ?_
  refine zg_iload_n hO 1 dX4_would_5 rfl rfl ?_
  refine zs_calli (As := [.int x1]) (rest := []) hO h (fun q hq => m_isLine l D dA hq) mw_X4_isLine q1958 ⟨Nat.le_of_ble_eq_true rfl, Nat.le_of_ble_eq_true rfl⟩ ⟨Nat.le_refl _, Nat.le_refl _⟩ rfl rfl (Nat.le_of_ble_eq_true rfl) dX4_would_6 (fun q1 h => ?_)
  refine zg_if_eq (tgt := 19) hO h dX4_would_9 (by decide) (fun h => ?_) (fun h => ?_)
  · refine zg_iconst hO dX4_would_19 icm1 ?_
    exact zm_iret hO hr h dX4_would_20
  · refine zg_iload_n hO 2 dX4_would_12 rfl rfl ?_
    refine zs_calli (As := [.int x2]) (rest := []) hO h (fun q hq => m_isEnd l D dA hq) mw_X4_isEnd q1962 ⟨Nat.le_of_ble_eq_true rfl, Nat.le_of_ble_eq_true rfl⟩ ⟨Nat.le_refl _, Nat.le_refl _⟩ rfl rfl (Nat.le_of_ble_eq_true rfl) dX4_would_13 (fun q2 h => ?_)
    refine zg_if_ne (tgt := 21) hO h dX4_would_16 (by decide) (fun h => ?_) (fun h => ?_)
    · refine zg_aload_n hO 0 dX4_would_21 rfl rfl ?_
      refine zg_iload_n hO 1 dX4_would_22 rfl rfl ?_
      refine zm_callVi (As := [.int x1]) (rest := []) hO h (fun q hq => m_sizeOf l D dA G hq) mw_X4_sizeOf q1896 ⟨Nat.le_of_ble_eq_true rfl, Nat.le_of_ble_eq_true rfl⟩ rfl rfl (Nat.le_of_ble_eq_true rfl) dX4_would_23 (fun q3 h => ?_)
      refine zg_if_ne (tgt := 32) hO h dX4_would_26 (by decide) (fun h => ?_) (fun h => ?_)
      · refine zg_aload_n hO 0 dX4_would_32 rfl rfl ?_
        refine zg_iload_n hO 1 dX4_would_33 rfl rfl ?_
        refine zm_callVv (As := [.int x1]) (rest := []) hO h (fun q hq => m_begins l D dA G hq) mw_X4_begins q2098 ⟨Nat.le_of_ble_eq_true rfl, Nat.le_of_ble_eq_true rfl⟩ rfl rfl (Nat.le_of_ble_eq_true rfl) dX4_would_34 (fun q4 h => ?_)
        refine zg_aload_n hO 0 dX4_would_37 rfl rfl ?_
        refine zg_iload_n hO 2 dX4_would_38 rfl rfl ?_
        refine zm_callVi (As := [.int x2]) (rest := []) hO h (fun q hq => m_costs l D dA G hq) mw_X4_costs q2102 ⟨Nat.le_of_ble_eq_true rfl, Nat.le_of_ble_eq_true rfl⟩ rfl rfl (Nat.le_of_ble_eq_true rfl) dX4_would_39 (fun q5 h => ?_)
        refine zg_istore_n (lv' := [(3, .int q5.1), (0, .ref (G 0)), (1, .int x1), (2, .int x2)]) hO dX4_would_42 rfl (Nat.le_of_ble_eq_true rfl) rfl ?_
        refine zg_aload_n hO 1 dX4_would_43 rfl rfl ?_
        refine zg_iconst hO dX4_would_44 ic0 ?_
        refine mP_11 hO dX4_would_45 ?_
        refine zg_aload_n hO 1 dX4_would_48 rfl rfl ?_
        refine zg_aload_n hO 1 dX4_would_49 rfl rfl ?_
        refine mG_284 hO dX4_would_50 ?_
        refine zg_i2l hO dX4_would_53 ?_
        refine zm_callVv (As := [.long ((gI (sI q5.2 1 (nI 0)) 11).toInt64)]) (rest := []) hO h (fun q hq => m_enters l D dA G hq) mw_X4_enters q1856 ⟨Nat.le_of_ble_eq_true rfl, Nat.le_of_ble_eq_true rfl⟩ rfl rfl (Nat.le_of_ble_eq_true rfl) dX4_would_54 (fun q6 h => ?_)
        refine zg_aload_n hO 1 dX4_would_57 rfl rfl ?_
        refine zg_aload_n hO 1 dX4_would_58 rfl rfl ?_
        refine mG_287 hO dX4_would_59 ?_
        refine zg_i2l hO dX4_would_62 ?_
        refine zm_callVv (As := [.long ((gI q6 12).toInt64)]) (rest := []) hO h (fun q hq => m_enters l D dA G hq) mw_X4_enters q1856 ⟨Nat.le_of_ble_eq_true rfl, Nat.le_of_ble_eq_true rfl⟩ rfl rfl (Nat.le_of_ble_eq_true rfl) dX4_would_63 (fun q7 h => ?_)
        refine zg_iload_n hO 0 dX4_would_66 rfl rfl ?_
        exact zm_iret hO hr h dX4_would_67
      · refine zg_bipush hO dX4_would_29 bcm2 ?_
        exact zm_iret hO hr h dX4_would_31
    · refine zg_iconst hO dX4_would_19 icm1 ?_
      exact zm_iret hO hr h dX4_would_20
set_option maxHeartbeats 4000000 in
theorem w_M_dearest_107 (hO : Ok p s m args meth c cX4_dearest RX4 8 D dA (AG G s.heap.size)) (hr : meth.sig.returnType = (some .int)) {ρ : Int32 × MS} {k46 : Int32 → Int32 → Int32 → Int32 → Int32 → MS → Option (Int32 × MS)} (K46 : ∀ (x1 : Int32) (x2 : Int32) (x3 : Int32) (x4 : Int32) (x5 : Int32) (σ : MS), k46 x1 x2 x3 x4 x5 σ = some ρ → Go p l e (rmG 2 0 0) s m args below meth c D (AG G s.heap.size) 8 (MQ below ((QfI D dA (WM dA G ρ.2) ρ.1) (AG G s.heap.size)) args s 0 0 (AG G s.heap.size)) (WM dA G σ) 0 0 46 [(0, .ref (G 0)), (1, .int x1), (2, .int x2), (3, .int x3), (4, .int x4), (5, .int x5)] []) : ∀ (x1 : Int32) (x2 : Int32) (x3 : Int32) (x4 : Int32) (x5 : Int32) (σ : MS), M_dearest_107 k46 x1 x2 x3 x4 x5 σ = some ρ → Go p l e (rmG 2 0 0) s m args below meth c D (AG G s.heap.size) 8 (MQ below ((QfI D dA (WM dA G ρ.2) ρ.1) (AG G s.heap.size)) args s 0 0 (AG G s.heap.size)) (WM dA G σ) 0 0 107 [(0, .ref (G 0)), (1, .int x1), (2, .int x2), (3, .int x3), (4, .int x4), (5, .int x5)] [] := by
  intro x1 x2 x3 x4 x5 σ h
  unfold M_dearest_107 at h
  refine zg_iinc (k := 5) (lv' := [(5, .int (x5 + (nI 1))), (0, .ref (G 0)), (1, .int x1), (2, .int x2), (3, .int x3), (4, .int x4)]) hO dX4_dearest_107 rfl (zii ic1) (Nat.le_of_ble_eq_true rfl) rfl ?_
  refine zg_goto (tgt := 46) hO dX4_dearest_110 (by decide) ?_
  exact zg_sub [1, 2, 3, 4, 5, 0] rfl (K46 _ _ _ _ _ _ h)
set_option maxHeartbeats 4000000 in
theorem w_M_dearest_65 (hO : Ok p s m args meth c cX4_dearest RX4 8 D dA (AG G s.heap.size)) (hr : meth.sig.returnType = (some .int)) {ρ : Int32 × MS} {k46 : Int32 → Int32 → Int32 → Int32 → Int32 → MS → Option (Int32 × MS)} (K46 : ∀ (x1 : Int32) (x2 : Int32) (x3 : Int32) (x4 : Int32) (x5 : Int32) (σ : MS), k46 x1 x2 x3 x4 x5 σ = some ρ → Go p l e (rmG 2 0 0) s m args below meth c D (AG G s.heap.size) 8 (MQ below ((QfI D dA (WM dA G ρ.2) ρ.1) (AG G s.heap.size)) args s 0 0 (AG G s.heap.size)) (WM dA G σ) 0 0 46 [(0, .ref (G 0)), (1, .int x1), (2, .int x2), (3, .int x3), (4, .int x4), (5, .int x5)] []) : ∀ (n : Nat) (x1 : Int32) (x2 : Int32) (x3 : Int32) (x4 : Int32) (x5 : Int32) (x6 : Int32) (x7 : Int32) (σ : MS), M_dearest_65 k46 n x1 x2 x3 x4 x5 x6 x7 σ = some ρ → Go p l e (rmG 2 0 0) s m args below meth c D (AG G s.heap.size) 8 (MQ below ((QfI D dA (WM dA G ρ.2) ρ.1) (AG G s.heap.size)) args s 0 0 (AG G s.heap.size)) (WM dA G σ) 0 0 65 [(0, .ref (G 0)), (1, .int x1), (2, .int x2), (3, .int x3), (4, .int x4), (5, .int x5), (6, .int x6), (7, .int x7)] [] := by
  intro n
  induction n with
  | zero =>
    intro x1 x2 x3 x4 x5 x6 x7 σ h
    rw [M_dearest_65] at h
    cases h
  | succ n ih =>
    intro x1 x2 x3 x4 x5 x6 x7 σ h
    rw [M_dearest_65] at h
    refine zg_iload hO 7 dX4_dearest_65 rfl ?_
    refine zg_iload_n hO 2 dX4_dearest_67 rfl rfl ?_
    refine zg_icmp_ge (tgt := 93) hO h dX4_dearest_68 (by decide) (fun h => ?_) (fun h => ?_)
    · refine zg_iload hO 6 dX4_dearest_93 rfl ?_
      refine zg_iload hO 4 dX4_dearest_95 rfl ?_
      refine zg_icmp_le (tgt := 107) hO h dX4_dearest_97 (by decide) (fun h => ?_) (fun h => ?_)
      · exact zg_sub [0, 1, 2, 3, 4, 5] rfl (w_M_dearest_107 hO hr K46 _ _ _ _ _ _ h)
      · refine zg_iload hO 5 dX4_dearest_100 rfl ?_
        refine zg_istore_n (lv' := [(3, .int x5), (0, .ref (G 0)), (1, .int x1), (2, .int x2), (4, .int x4), (5, .int x5), (6, .int x6), (7, .int x7)]) hO dX4_dearest_102 rfl (Nat.le_of_ble_eq_true rfl) rfl ?_
        refine zg_iload hO 6 dX4_dearest_103 rfl ?_
        refine zg_istore (lv' := [(4, .int x6), (3, .int x5), (0, .ref (G 0)), (1, .int x1), (2, .int x2), (5, .int x5), (6, .int x6), (7, .int x7)]) hO dX4_dearest_105 (Nat.le_of_ble_eq_true rfl) rfl ?_
        exact zg_sub [2, 3, 4, 1, 0, 5] rfl (w_M_dearest_107 hO hr K46 _ _ _ _ _ _ h)
    · refine zg_iload hO 6 dX4_dearest_71 rfl ?_
      refine zg_aload_n hO 0 dX4_dearest_73 rfl rfl ?_
      refine zg_iload hO 5 dX4_dearest_74 rfl ?_
      refine zg_iload hO 7 dX4_dearest_76 rfl ?_
      refine zg_ishr hO dX4_dearest_78 ?_
      refine zg_iconst hO dX4_dearest_79 ic1 ?_
      refine zg_iand hO dX4_dearest_80 ?_
      refine zm_callVi (As := [.int ((x5 >>> (x7 &&& 31)) &&& (nI 1))]) (rest := [.int x6]) hO h (fun q hq => m_costs l D dA G hq) mw_X4_costs q2102 ⟨Nat.le_of_ble_eq_true rfl, Nat.le_of_ble_eq_true rfl⟩ rfl rfl (Nat.le_of_ble_eq_true rfl) dX4_dearest_81 (fun q6 h => ?_)
      refine zg_iadd hO dX4_dearest_84 ?_
      refine zg_istore (lv' := [(6, .int (x6 + q6.1)), (0, .ref (G 0)), (1, .int x1), (2, .int x2), (3, .int x3), (4, .int x4), (5, .int x5), (7, .int x7)]) hO dX4_dearest_85 (Nat.le_of_ble_eq_true rfl) rfl ?_
      refine zg_iinc (k := 7) (lv' := [(7, .int (x7 + (nI 1))), (6, .int (x6 + q6.1)), (0, .ref (G 0)), (1, .int x1), (2, .int x2), (3, .int x3), (4, .int x4), (5, .int x5)]) hO dX4_dearest_87 rfl (zii ic1) (Nat.le_of_ble_eq_true rfl) rfl ?_
      refine zg_goto (tgt := 65) hO dX4_dearest_90 (by decide) ?_
      exact zg_sub [2, 3, 4, 5, 6, 7, 1, 0] rfl (ih _ _ _ _ _ _ _ _ h)
set_option maxHeartbeats 4000000 in
theorem w_M_dearest_46 (hO : Ok p s m args meth c cX4_dearest RX4 8 D dA (AG G s.heap.size)) (hr : meth.sig.returnType = (some .int)) {ρ : Int32 × MS} : ∀ (n : Nat) (x1 : Int32) (x2 : Int32) (x3 : Int32) (x4 : Int32) (x5 : Int32) (σ : MS), M_dearest_46 n x1 x2 x3 x4 x5 σ = some ρ → Go p l e (rmG 2 0 0) s m args below meth c D (AG G s.heap.size) 8 (MQ below ((QfI D dA (WM dA G ρ.2) ρ.1) (AG G s.heap.size)) args s 0 0 (AG G s.heap.size)) (WM dA G σ) 0 0 46 [(0, .ref (G 0)), (1, .int x1), (2, .int x2), (3, .int x3), (4, .int x4), (5, .int x5)] [] := by
  intro n
  induction n with
  | zero =>
    intro x1 x2 x3 x4 x5 σ h
    rw [M_dearest_46] at h
    cases h
  | succ n ih =>
    intro x1 x2 x3 x4 x5 σ h
    rw [M_dearest_46] at h
    refine zg_iload hO 5 dX4_dearest_46 rfl ?_
    refine zg_iconst hO dX4_dearest_48 ic1 ?_
    refine zg_iload_n hO 2 dX4_dearest_49 rfl rfl ?_
    refine zg_ishl hO dX4_dearest_50 ?_
    refine zg_icmp_ge (tgt := 113) hO h dX4_dearest_51 (by decide) (fun h => ?_) (fun h => ?_)
    · refine zg_aload_n hO 0 dX4_dearest_113 rfl rfl ?_
      refine zg_iconst hO dX4_dearest_114 ic0 ?_
      refine mP_11 hO dX4_dearest_115 ?_
      refine zg_aload_n hO 0 dX4_dearest_118 rfl rfl ?_
      refine zg_iload_n hO 3 dX4_dearest_119 rfl rfl ?_
      refine zg_i2l hO dX4_dearest_120 ?_
      refine zm_callVv (As := [.long (x3.toInt64)]) (rest := []) hO h (fun q hq => m_enters l D dA G hq) mw_X4_enters q1856 ⟨Nat.le_of_ble_eq_true rfl, Nat.le_of_ble_eq_true rfl⟩ rfl rfl (Nat.le_of_ble_eq_true rfl) dX4_dearest_121 (fun q4 h => ?_)
      refine zg_iload hO 4 dX4_dearest_124 rfl ?_
      exact zm_iret hO hr h dX4_dearest_126
    · refine zg_aload_n hO 0 dX4_dearest_54 rfl rfl ?_
      refine zg_iload_n hO 1 dX4_dearest_55 rfl rfl ?_
      refine zm_callVv (As := [.int x1]) (rest := []) hO h (fun q hq => m_begins l D dA G hq) mw_X4_begins q2098 ⟨Nat.le_of_ble_eq_true rfl, Nat.le_of_ble_eq_true rfl⟩ rfl rfl (Nat.le_of_ble_eq_true rfl) dX4_dearest_56 (fun q5 h => ?_)
      refine zg_iconst hO dX4_dearest_59 ic0 ?_
      refine zg_istore (lv' := [(6, .int (nI 0)), (0, .ref (G 0)), (1, .int x1), (2, .int x2), (3, .int x3), (4, .int x4), (5, .int x5)]) hO dX4_dearest_60 (Nat.le_of_ble_eq_true rfl) rfl ?_
      refine zg_iconst hO dX4_dearest_62 ic0 ?_
      refine zg_istore (lv' := [(7, .int (nI 0)), (6, .int (nI 0)), (0, .ref (G 0)), (1, .int x1), (2, .int x2), (3, .int x3), (4, .int x4), (5, .int x5)]) hO dX4_dearest_63 (Nat.le_of_ble_eq_true rfl) rfl ?_
      exact zg_sub [2, 3, 4, 5, 6, 7, 1, 0] rfl (w_M_dearest_65 hO hr ih _ _ _ _ _ _ _ _ _ h)
theorem mw_X4_dearest : MwV yX4_dearest cX4_dearest 8 (some .int) RX4 2 := ⟨by decide +kernel, q2112, q2113, q106, q2114⟩
set_option maxHeartbeats 4000000 in
theorem m_dearest (l : Launch) (D : va_G) (dA : Nat → ClassId) (G : Nat → Nat) {x1 : Int32} {x2 : Int32} {σ : MS} {ρ : Int32 × MS} (h : M_dearest x1 x2 σ = some ρ) : Ct l yX4_dearest (ws_ yX4_dearest cX4_dearest 8 (some .int)) 2 0 0 D dA [.ref (G 0), .int x1, .int x2] (WM dA G σ) (AG G) (QfI D dA (WM dA G ρ.2) ρ.1) := by
  refine zc_start (cc := cX4_dearest) (nL := 8) (ret := (some .int)) (own := RX4) (by decide) rfl rfl (Nat.le_of_ble_eq_true rfl) wm_A (fun p e s m args below meth c hO hr _ _ => ?_)
  unfold M_dearest at h
  refine zg_sub (lv' := [(0, .ref (G 0)), (1, .int x1), (2, .int x2)]) [0, 1, 2] rfl ?_
  refine zg_aload_n hO 0 dX4_dearest_0 rfl rfl ?_
  refine zg_iconst hO dX4_dearest_1 ic0 ?_
  refine mP_1 hO dX4_dearest_2 ?_
  refine zg_iload_n hO 1 dX4_dearest_5 rfl rfl ?_
  refine zs_calli (As := [.int x1]) (rest := []) hO h (fun q hq => m_isLine l D dA hq) mw_X4_isLine q1958 ⟨Nat.le_of_ble_eq_true rfl, Nat.le_of_ble_eq_true rfl⟩ ⟨Nat.le_refl _, Nat.le_refl _⟩ rfl rfl (Nat.le_of_ble_eq_true rfl) dX4_dearest_6 (fun q1 h => ?_)
  refine zg_if_eq (tgt := 24) hO h dX4_dearest_9 (by decide) (fun h => ?_) (fun h => ?_)
  · refine zg_iconst hO dX4_dearest_24 icm1 ?_
    exact zm_iret hO hr h dX4_dearest_25
  · refine zg_iload_n hO 2 dX4_dearest_12 rfl rfl ?_
    refine zg_i2l hO dX4_dearest_13 ?_
    refine zg_lconst hO dX4_dearest_14 lc1 ?_
    refine zg_ldc2 (x := 12) hO q2115 dX4_dearest_15 ?_
    refine zs_calli (As := [.long (x2.toInt64), .long (lN 1), .long (12 : Int64)]) (rest := []) hO h (fun q hq => m_in l D dA hq) mw_X4_in q1702 ⟨Nat.le_of_ble_eq_true rfl, Nat.le_of_ble_eq_true rfl⟩ ⟨Nat.le_refl _, Nat.le_refl _⟩ rfl rfl (Nat.le_of_ble_eq_true rfl) dX4_dearest_18 (fun q2 h => ?_)
    refine zg_if_ne (tgt := 26) hO h dX4_dearest_21 (by decide) (fun h => ?_) (fun h => ?_)
    · refine zg_aload_n hO 0 dX4_dearest_26 rfl rfl ?_
      refine zg_iload_n hO 1 dX4_dearest_27 rfl rfl ?_
      refine zm_callVi (As := [.int x1]) (rest := []) hO h (fun q hq => m_sizeOf l D dA G hq) mw_X4_sizeOf q1896 ⟨Nat.le_of_ble_eq_true rfl, Nat.le_of_ble_eq_true rfl⟩ rfl rfl (Nat.le_of_ble_eq_true rfl) dX4_dearest_28 (fun q3 h => ?_)
      refine zg_iload_n hO 2 dX4_dearest_31 rfl rfl ?_
      refine zg_icmp_ge (tgt := 38) hO h dX4_dearest_32 (by decide) (fun h => ?_) (fun h => ?_)
      · refine zg_iconst hO dX4_dearest_38 ic0 ?_
        refine zg_istore_n (lv' := [(3, .int (nI 0)), (0, .ref (G 0)), (1, .int x1), (2, .int x2)]) hO dX4_dearest_39 rfl (Nat.le_of_ble_eq_true rfl) rfl ?_
        refine zg_iconst hO dX4_dearest_40 icm1 ?_
        refine zg_istore (lv' := [(4, .int (-1 : Int32)), (3, .int (nI 0)), (0, .ref (G 0)), (1, .int x1), (2, .int x2)]) hO dX4_dearest_41 (Nat.le_of_ble_eq_true rfl) rfl ?_
        refine zg_iconst hO dX4_dearest_43 ic0 ?_
        refine zg_istore (lv' := [(5, .int (nI 0)), (4, .int (-1 : Int32)), (3, .int (nI 0)), (0, .ref (G 0)), (1, .int x1), (2, .int x2)]) hO dX4_dearest_44 (Nat.le_of_ble_eq_true rfl) rfl ?_
        exact zg_sub [3, 4, 5, 2, 1, 0] rfl (w_M_dearest_46 hO hr _ _ _ _ _ _ _ h)
      · refine zg_bipush hO dX4_dearest_35 bcm2 ?_
        exact zm_iret hO hr h dX4_dearest_37
    · refine zg_iconst hO dX4_dearest_24 icm1 ?_
      exact zm_iret hO hr h dX4_dearest_25
set_option maxHeartbeats 4000000 in
theorem w_M_unlike_167 (hO : Ok p s m args meth c cX4_unlike RX4 11 D dA (AG G s.heap.size)) (hr : meth.sig.returnType = (some .int)) {ρ : Int32 × MS} {k71 : Int32 → Int32 → Int32 → Int32 → Int32 → MS → Option (Int32 × MS)} {k86 : Int32 → Int32 → Int32 → Int32 → Int32 → Int32 → Int32 → Int32 → MS → Option (Int32 × MS)} (K71 : ∀ (x2 : Int32) (x3 : Int32) (x4 : Int32) (x5 : Int32) (x6 : Int32) (σ : MS), k71 x2 x3 x4 x5 x6 σ = some ρ → Go p l e (rmG 5 0 0) s m args below meth c D (AG G s.heap.size) 11 (MQ below ((QfI D dA (WM dA G ρ.2) ρ.1) (AG G s.heap.size)) args s 0 0 (AG G s.heap.size)) (WM dA G σ) 0 0 71 [(0, .ref (G 0)), (2, .int x2), (3, .int x3), (4, .int x4), (5, .int x5), (6, .int x6)] []) (K86 : ∀ (x2 : Int32) (x3 : Int32) (x4 : Int32) (x5 : Int32) (x6 : Int32) (x7 : Int32) (x8 : Int32) (x9 : Int32) (σ : MS), k86 x2 x3 x4 x5 x6 x7 x8 x9 σ = some ρ → Go p l e (rmG 5 0 0) s m args below meth c D (AG G s.heap.size) 11 (MQ below ((QfI D dA (WM dA G ρ.2) ρ.1) (AG G s.heap.size)) args s 0 0 (AG G s.heap.size)) (WM dA G σ) 0 0 86 [(0, .ref (G 0)), (2, .int x2), (3, .int x3), (4, .int x4), (5, .int x5), (6, .int x6), (7, .int x7), (8, .int x8), (9, .int x9)] []) : ∀ (x2 : Int32) (x3 : Int32) (x4 : Int32) (x5 : Int32) (x6 : Int32) (x7 : Int32) (x9 : Int32) (y0 : Int32) (σ : MS), M_unlike_167 k71 k86 x2 x3 x4 x5 x6 x7 x9 y0 σ = some ρ → Go p l e (rmG 5 0 0) s m args below meth c D (AG G s.heap.size) 11 (MQ below ((QfI D dA (WM dA G ρ.2) ρ.1) (AG G s.heap.size)) args s 0 0 (AG G s.heap.size)) (WM dA G σ) 0 0 167 [(0, .ref (G 0)), (2, .int x2), (3, .int x3), (4, .int x4), (5, .int x5), (6, .int x6), (7, .int x7), (9, .int x9)] [.int y0] := by
  intro x2 x3 x4 x5 x6 x7 x9 y0 σ h
  unfold M_unlike_167 at h
  refine zg_istore (lv' := [(8, .int y0), (0, .ref (G 0)), (2, .int x2), (3, .int x3), (4, .int x4), (5, .int x5), (6, .int x6), (7, .int x7), (9, .int x9)]) hO dX4_unlike_167 (Nat.le_of_ble_eq_true rfl) rfl ?_
  refine zg_iinc (k := 8) (lv' := [(9, .int (x9 + (nI 1))), (8, .int y0), (0, .ref (G 0)), (2, .int x2), (3, .int x3), (4, .int x4), (5, .int x5), (6, .int x6), (7, .int x7)]) hO dX4_unlike_169 rfl (zii ic1) (Nat.le_of_ble_eq_true rfl) rfl ?_
  refine zg_goto (tgt := 86) hO dX4_unlike_172 (by decide) ?_
  exact zg_sub [2, 3, 4, 5, 6, 7, 8, 1, 0] rfl (K86 _ _ _ _ _ _ _ _ _ h)
set_option maxHeartbeats 4000000 in
theorem w_M_unlike_162 (hO : Ok p s m args meth c cX4_unlike RX4 11 D dA (AG G s.heap.size)) (hr : meth.sig.returnType = (some .int)) {ρ : Int32 × MS} {k71 : Int32 → Int32 → Int32 → Int32 → Int32 → MS → Option (Int32 × MS)} {k86 : Int32 → Int32 → Int32 → Int32 → Int32 → Int32 → Int32 → Int32 → MS → Option (Int32 × MS)} (K71 : ∀ (x2 : Int32) (x3 : Int32) (x4 : Int32) (x5 : Int32) (x6 : Int32) (σ : MS), k71 x2 x3 x4 x5 x6 σ = some ρ → Go p l e (rmG 5 0 0) s m args below meth c D (AG G s.heap.size) 11 (MQ below ((QfI D dA (WM dA G ρ.2) ρ.1) (AG G s.heap.size)) args s 0 0 (AG G s.heap.size)) (WM dA G σ) 0 0 71 [(0, .ref (G 0)), (2, .int x2), (3, .int x3), (4, .int x4), (5, .int x5), (6, .int x6)] []) (K86 : ∀ (x2 : Int32) (x3 : Int32) (x4 : Int32) (x5 : Int32) (x6 : Int32) (x7 : Int32) (x8 : Int32) (x9 : Int32) (σ : MS), k86 x2 x3 x4 x5 x6 x7 x8 x9 σ = some ρ → Go p l e (rmG 5 0 0) s m args below meth c D (AG G s.heap.size) 11 (MQ below ((QfI D dA (WM dA G ρ.2) ρ.1) (AG G s.heap.size)) args s 0 0 (AG G s.heap.size)) (WM dA G σ) 0 0 86 [(0, .ref (G 0)), (2, .int x2), (3, .int x3), (4, .int x4), (5, .int x5), (6, .int x6), (7, .int x7), (8, .int x8), (9, .int x9)] []) : ∀ (x2 : Int32) (x3 : Int32) (x4 : Int32) (x5 : Int32) (x6 : Int32) (x7 : Int32) (x9 : Int32) (σ : MS), M_unlike_162 k71 k86 x2 x3 x4 x5 x6 x7 x9 σ = some ρ → Go p l e (rmG 5 0 0) s m args below meth c D (AG G s.heap.size) 11 (MQ below ((QfI D dA (WM dA G ρ.2) ρ.1) (AG G s.heap.size)) args s 0 0 (AG G s.heap.size)) (WM dA G σ) 0 0 162 [(0, .ref (G 0)), (2, .int x2), (3, .int x3), (4, .int x4), (5, .int x5), (6, .int x6), (7, .int x7), (9, .int x9)] [] := by
  intro x2 x3 x4 x5 x6 x7 x9 σ h
  unfold M_unlike_162 at h
  refine zg_iconst hO dX4_unlike_162 ic1 ?_
  refine zg_goto (tgt := 167) hO dX4_unlike_163 (by decide) ?_
  exact zg_sub [0, 1, 2, 3, 4, 5, 6, 7] rfl (w_M_unlike_167 hO hr K71 K86 _ _ _ _ _ _ _ _ _ h)
set_option maxHeartbeats 4000000 in
theorem w_M_unlike_166 (hO : Ok p s m args meth c cX4_unlike RX4 11 D dA (AG G s.heap.size)) (hr : meth.sig.returnType = (some .int)) {ρ : Int32 × MS} {k71 : Int32 → Int32 → Int32 → Int32 → Int32 → MS → Option (Int32 × MS)} {k86 : Int32 → Int32 → Int32 → Int32 → Int32 → Int32 → Int32 → Int32 → MS → Option (Int32 × MS)} (K71 : ∀ (x2 : Int32) (x3 : Int32) (x4 : Int32) (x5 : Int32) (x6 : Int32) (σ : MS), k71 x2 x3 x4 x5 x6 σ = some ρ → Go p l e (rmG 5 0 0) s m args below meth c D (AG G s.heap.size) 11 (MQ below ((QfI D dA (WM dA G ρ.2) ρ.1) (AG G s.heap.size)) args s 0 0 (AG G s.heap.size)) (WM dA G σ) 0 0 71 [(0, .ref (G 0)), (2, .int x2), (3, .int x3), (4, .int x4), (5, .int x5), (6, .int x6)] []) (K86 : ∀ (x2 : Int32) (x3 : Int32) (x4 : Int32) (x5 : Int32) (x6 : Int32) (x7 : Int32) (x8 : Int32) (x9 : Int32) (σ : MS), k86 x2 x3 x4 x5 x6 x7 x8 x9 σ = some ρ → Go p l e (rmG 5 0 0) s m args below meth c D (AG G s.heap.size) 11 (MQ below ((QfI D dA (WM dA G ρ.2) ρ.1) (AG G s.heap.size)) args s 0 0 (AG G s.heap.size)) (WM dA G σ) 0 0 86 [(0, .ref (G 0)), (2, .int x2), (3, .int x3), (4, .int x4), (5, .int x5), (6, .int x6), (7, .int x7), (8, .int x8), (9, .int x9)] []) : ∀ (x2 : Int32) (x3 : Int32) (x4 : Int32) (x5 : Int32) (x6 : Int32) (x7 : Int32) (x9 : Int32) (σ : MS), M_unlike_166 k71 k86 x2 x3 x4 x5 x6 x7 x9 σ = some ρ → Go p l e (rmG 5 0 0) s m args below meth c D (AG G s.heap.size) 11 (MQ below ((QfI D dA (WM dA G ρ.2) ρ.1) (AG G s.heap.size)) args s 0 0 (AG G s.heap.size)) (WM dA G σ) 0 0 166 [(0, .ref (G 0)), (2, .int x2), (3, .int x3), (4, .int x4), (5, .int x5), (6, .int x6), (7, .int x7), (9, .int x9)] [] := by
  intro x2 x3 x4 x5 x6 x7 x9 σ h
  unfold M_unlike_166 at h
  refine zg_iconst hO dX4_unlike_166 ic0 ?_
  exact zg_sub [0, 1, 2, 3, 4, 5, 6, 7] rfl (w_M_unlike_167 hO hr K71 K86 _ _ _ _ _ _ _ _ _ h)
set_option maxHeartbeats 4000000 in
theorem w_M_unlike_133 (hO : Ok p s m args meth c cX4_unlike RX4 11 D dA (AG G s.heap.size)) (hr : meth.sig.returnType = (some .int)) {ρ : Int32 × MS} {k71 : Int32 → Int32 → Int32 → Int32 → Int32 → MS → Option (Int32 × MS)} {k86 : Int32 → Int32 → Int32 → Int32 → Int32 → Int32 → Int32 → Int32 → MS → Option (Int32 × MS)} (K71 : ∀ (x2 : Int32) (x3 : Int32) (x4 : Int32) (x5 : Int32) (x6 : Int32) (σ : MS), k71 x2 x3 x4 x5 x6 σ = some ρ → Go p l e (rmG 5 0 0) s m args below meth c D (AG G s.heap.size) 11 (MQ below ((QfI D dA (WM dA G ρ.2) ρ.1) (AG G s.heap.size)) args s 0 0 (AG G s.heap.size)) (WM dA G σ) 0 0 71 [(0, .ref (G 0)), (2, .int x2), (3, .int x3), (4, .int x4), (5, .int x5), (6, .int x6)] []) (K86 : ∀ (x2 : Int32) (x3 : Int32) (x4 : Int32) (x5 : Int32) (x6 : Int32) (x7 : Int32) (x8 : Int32) (x9 : Int32) (σ : MS), k86 x2 x3 x4 x5 x6 x7 x8 x9 σ = some ρ → Go p l e (rmG 5 0 0) s m args below meth c D (AG G s.heap.size) 11 (MQ below ((QfI D dA (WM dA G ρ.2) ρ.1) (AG G s.heap.size)) args s 0 0 (AG G s.heap.size)) (WM dA G σ) 0 0 86 [(0, .ref (G 0)), (2, .int x2), (3, .int x3), (4, .int x4), (5, .int x5), (6, .int x6), (7, .int x7), (8, .int x8), (9, .int x9)] []) : ∀ (x2 : Int32) (x3 : Int32) (x4 : Int32) (x5 : Int32) (x6 : Int32) (x7 : Int32) (x8 : Int32) (x9 : Int32) (y0 : Int32) (σ : MS), M_unlike_133 k71 k86 x2 x3 x4 x5 x6 x7 x8 x9 y0 σ = some ρ → Go p l e (rmG 5 0 0) s m args below meth c D (AG G s.heap.size) 11 (MQ below ((QfI D dA (WM dA G ρ.2) ρ.1) (AG G s.heap.size)) args s 0 0 (AG G s.heap.size)) (WM dA G σ) 0 0 133 [(0, .ref (G 0)), (2, .int x2), (3, .int x3), (4, .int x4), (5, .int x5), (6, .int x6), (7, .int x7), (8, .int x8), (9, .int x9)] [.int y0] := by
  intro x2 x3 x4 x5 x6 x7 x8 x9 y0 σ h
  unfold M_unlike_133 at h
  refine zg_istore (lv' := [(10, .int y0), (0, .ref (G 0)), (2, .int x2), (3, .int x3), (4, .int x4), (5, .int x5), (6, .int x6), (7, .int x7), (8, .int x8), (9, .int x9)]) hO dX4_unlike_133 (Nat.le_of_ble_eq_true rfl) rfl ?_
  refine zg_iload hO 7 dX4_unlike_135 rfl ?_
  refine zg_iload hO 0 dX4_unlike_137 rfl ?_
  refine zs_calli (As := [.int y0]) (rest := [.int x7]) hO h (fun q hq => m_flag l D dA hq) mw_X4_flag q1835 ⟨Nat.le_of_ble_eq_true rfl, Nat.le_of_ble_eq_true rfl⟩ ⟨Nat.le_refl _, Nat.le_refl _⟩ rfl rfl (Nat.le_of_ble_eq_true rfl) dX4_unlike_139 (fun q8 h => ?_)
  refine zg_iadd hO dX4_unlike_142 ?_
  refine zg_istore (lv' := [(7, .int (x7 + q8)), (10, .int y0), (0, .ref (G 0)), (2, .int x2), (3, .int x3), (4, .int x4), (5, .int x5), (6, .int x6), (8, .int x8), (9, .int x9)]) hO dX4_unlike_143 (Nat.le_of_ble_eq_true rfl) rfl ?_
  refine zg_iload hO 8 dX4_unlike_145 rfl ?_
  refine zg_if_eq (tgt := 166) hO h dX4_unlike_147 (by decide) (fun h => ?_) (fun h => ?_)
  · exact zg_sub [2, 3, 4, 5, 6, 7, 0, 9] rfl (w_M_unlike_166 hO hr K71 K86 _ _ _ _ _ _ _ _ h)
  · refine zg_iload hO 1 dX4_unlike_150 rfl ?_
    refine zg_if_eq (tgt := 162) hO h dX4_unlike_152 (by decide) (fun h => ?_) (fun h => ?_)
    · exact zg_sub [2, 3, 4, 5, 6, 7, 0, 9] rfl (w_M_unlike_162 hO hr K71 K86 _ _ _ _ _ _ _ _ h)
    · refine zg_iload hO 9 dX4_unlike_155 rfl ?_
      refine zg_iload hO 7 dX4_unlike_157 rfl ?_
      refine zg_icmp_lt (tgt := 166) hO h dX4_unlike_159 (by decide) (fun h => ?_) (fun h => ?_)
      · exact zg_sub [2, 3, 4, 5, 6, 7, 0, 9] rfl (w_M_unlike_166 hO hr K71 K86 _ _ _ _ _ _ _ _ h)
      · exact zg_sub [2, 3, 4, 5, 6, 7, 0, 9] rfl (w_M_unlike_162 hO hr K71 K86 _ _ _ _ _ _ _ _ h)
set_option maxHeartbeats 4000000 in
theorem w_M_unlike_132 (hO : Ok p s m args meth c cX4_unlike RX4 11 D dA (AG G s.heap.size)) (hr : meth.sig.returnType = (some .int)) {ρ : Int32 × MS} {k71 : Int32 → Int32 → Int32 → Int32 → Int32 → MS → Option (Int32 × MS)} {k86 : Int32 → Int32 → Int32 → Int32 → Int32 → Int32 → Int32 → Int32 → MS → Option (Int32 × MS)} (K71 : ∀ (x2 : Int32) (x3 : Int32) (x4 : Int32) (x5 : Int32) (x6 : Int32) (σ : MS), k71 x2 x3 x4 x5 x6 σ = some ρ → Go p l e (rmG 5 0 0) s m args below meth c D (AG G s.heap.size) 11 (MQ below ((QfI D dA (WM dA G ρ.2) ρ.1) (AG G s.heap.size)) args s 0 0 (AG G s.heap.size)) (WM dA G σ) 0 0 71 [(0, .ref (G 0)), (2, .int x2), (3, .int x3), (4, .int x4), (5, .int x5), (6, .int x6)] []) (K86 : ∀ (x2 : Int32) (x3 : Int32) (x4 : Int32) (x5 : Int32) (x6 : Int32) (x7 : Int32) (x8 : Int32) (x9 : Int32) (σ : MS), k86 x2 x3 x4 x5 x6 x7 x8 x9 σ = some ρ → Go p l e (rmG 5 0 0) s m args below meth c D (AG G s.heap.size) 11 (MQ below ((QfI D dA (WM dA G ρ.2) ρ.1) (AG G s.heap.size)) args s 0 0 (AG G s.heap.size)) (WM dA G σ) 0 0 86 [(0, .ref (G 0)), (2, .int x2), (3, .int x3), (4, .int x4), (5, .int x5), (6, .int x6), (7, .int x7), (8, .int x8), (9, .int x9)] []) : ∀ (x2 : Int32) (x3 : Int32) (x4 : Int32) (x5 : Int32) (x6 : Int32) (x7 : Int32) (x8 : Int32) (x9 : Int32) (σ : MS), M_unlike_132 k71 k86 x2 x3 x4 x5 x6 x7 x8 x9 σ = some ρ → Go p l e (rmG 5 0 0) s m args below meth c D (AG G s.heap.size) 11 (MQ below ((QfI D dA (WM dA G ρ.2) ρ.1) (AG G s.heap.size)) args s 0 0 (AG G s.heap.size)) (WM dA G σ) 0 0 132 [(0, .ref (G 0)), (2, .int x2), (3, .int x3), (4, .int x4), (5, .int x5), (6, .int x6), (7, .int x7), (8, .int x8), (9, .int x9)] [] := by
  intro x2 x3 x4 x5 x6 x7 x8 x9 σ h
  unfold M_unlike_132 at h
  refine zg_iconst hO dX4_unlike_132 ic0 ?_
  exact zg_sub [0, 1, 2, 3, 4, 5, 6, 7, 8] rfl (w_M_unlike_133 hO hr K71 K86 _ _ _ _ _ _ _ _ _ _ h)
set_option maxHeartbeats 4000000 in
theorem w_M_unlike_197 (hO : Ok p s m args meth c cX4_unlike RX4 11 D dA (AG G s.heap.size)) (hr : meth.sig.returnType = (some .int)) {ρ : Int32 × MS} {k71 : Int32 → Int32 → Int32 → Int32 → Int32 → MS → Option (Int32 × MS)} (K71 : ∀ (x2 : Int32) (x3 : Int32) (x4 : Int32) (x5 : Int32) (x6 : Int32) (σ : MS), k71 x2 x3 x4 x5 x6 σ = some ρ → Go p l e (rmG 5 0 0) s m args below meth c D (AG G s.heap.size) 11 (MQ below ((QfI D dA (WM dA G ρ.2) ρ.1) (AG G s.heap.size)) args s 0 0 (AG G s.heap.size)) (WM dA G σ) 0 0 71 [(0, .ref (G 0)), (2, .int x2), (3, .int x3), (4, .int x4), (5, .int x5), (6, .int x6)] []) : ∀ (x2 : Int32) (x3 : Int32) (x5 : Int32) (x6 : Int32) (x7 : Int32) (y0 : Int32) (σ : MS), M_unlike_197 k71 x2 x3 x5 x6 x7 y0 σ = some ρ → Go p l e (rmG 5 0 0) s m args below meth c D (AG G s.heap.size) 11 (MQ below ((QfI D dA (WM dA G ρ.2) ρ.1) (AG G s.heap.size)) args s 0 0 (AG G s.heap.size)) (WM dA G σ) 0 0 197 [(0, .ref (G 0)), (2, .int x2), (3, .int x3), (5, .int x5), (6, .int x6), (7, .int x7)] [.int y0] := by
  intro x2 x3 x5 x6 x7 y0 σ h
  unfold M_unlike_197 at h
  refine zg_istore (lv' := [(4, .int y0), (0, .ref (G 0)), (2, .int x2), (3, .int x3), (5, .int x5), (6, .int x6), (7, .int x7)]) hO dX4_unlike_197 (Nat.le_of_ble_eq_true rfl) rfl ?_
  refine zg_iload hO 4 dX4_unlike_199 rfl ?_
  refine zg_iload hO 6 dX4_unlike_201 rfl ?_
  refine zs_mmax hO q2120 (Nat.le_of_ble_eq_true rfl) (Nat.le_of_ble_eq_true rfl) ⟨Nat.le_refl _, Nat.le_refl _⟩ dX4_unlike_203 ?_
  refine zg_istore (lv' := [(5, .int (if x5 < x7 then x7 else x5)), (4, .int y0), (0, .ref (G 0)), (2, .int x2), (3, .int x3), (6, .int x6), (7, .int x7)]) hO dX4_unlike_206 (Nat.le_of_ble_eq_true rfl) rfl ?_
  refine zg_iinc (k := 5) (lv' := [(6, .int (x6 + (nI 1))), (5, .int (if x5 < x7 then x7 else x5)), (4, .int y0), (0, .ref (G 0)), (2, .int x2), (3, .int x3), (7, .int x7)]) hO dX4_unlike_208 rfl (zii ic1) (Nat.le_of_ble_eq_true rfl) rfl ?_
  refine zg_goto (tgt := 71) hO dX4_unlike_211 (by decide) ?_
  exact zg_sub [3, 4, 5, 2, 1, 0] rfl (K71 _ _ _ _ _ _ h)
set_option maxHeartbeats 4000000 in
theorem w_M_unlike_86 (hO : Ok p s m args meth c cX4_unlike RX4 11 D dA (AG G s.heap.size)) (hr : meth.sig.returnType = (some .int)) {ρ : Int32 × MS} {k71 : Int32 → Int32 → Int32 → Int32 → Int32 → MS → Option (Int32 × MS)} (K71 : ∀ (x2 : Int32) (x3 : Int32) (x4 : Int32) (x5 : Int32) (x6 : Int32) (σ : MS), k71 x2 x3 x4 x5 x6 σ = some ρ → Go p l e (rmG 5 0 0) s m args below meth c D (AG G s.heap.size) 11 (MQ below ((QfI D dA (WM dA G ρ.2) ρ.1) (AG G s.heap.size)) args s 0 0 (AG G s.heap.size)) (WM dA G σ) 0 0 71 [(0, .ref (G 0)), (2, .int x2), (3, .int x3), (4, .int x4), (5, .int x5), (6, .int x6)] []) : ∀ (n : Nat) (x2 : Int32) (x3 : Int32) (x4 : Int32) (x5 : Int32) (x6 : Int32) (x7 : Int32) (x8 : Int32) (x9 : Int32) (σ : MS), M_unlike_86 k71 n x2 x3 x4 x5 x6 x7 x8 x9 σ = some ρ → Go p l e (rmG 5 0 0) s m args below meth c D (AG G s.heap.size) 11 (MQ below ((QfI D dA (WM dA G ρ.2) ρ.1) (AG G s.heap.size)) args s 0 0 (AG G s.heap.size)) (WM dA G σ) 0 0 86 [(0, .ref (G 0)), (2, .int x2), (3, .int x3), (4, .int x4), (5, .int x5), (6, .int x6), (7, .int x7), (8, .int x8), (9, .int x9)] [] := by
  intro n
  induction n with
  | zero =>
    intro x2 x3 x4 x5 x6 x7 x8 x9 σ h
    rw [M_unlike_86] at h
    cases h
  | succ n ih =>
    intro x2 x3 x4 x5 x6 x7 x8 x9 σ h
    rw [M_unlike_86] at h
    refine zg_iload hO 8 dX4_unlike_86 rfl ?_
    refine zg_iload_n hO 1 dX4_unlike_88 rfl rfl ?_
    refine zg_icmp_gt (tgt := 175) hO h dX4_unlike_89 (by decide) (fun h => ?_) (fun h => ?_)
    · refine zg_iload_n hO 2 dX4_unlike_175 rfl rfl ?_
      refine zg_iload hO 7 dX4_unlike_176 rfl ?_
      refine zs_calli (As := [.int x8]) (rest := [.int x3]) hO h (fun q hq => m_flag l D dA hq) mw_X4_flag q1835 ⟨Nat.le_of_ble_eq_true rfl, Nat.le_of_ble_eq_true rfl⟩ ⟨Nat.le_refl _, Nat.le_refl _⟩ rfl rfl (Nat.le_of_ble_eq_true rfl) dX4_unlike_178 (fun q7 h => ?_)
      refine zg_iadd hO dX4_unlike_181 ?_
      refine zg_istore_n (lv' := [(3, .int (x3 + q7)), (0, .ref (G 0)), (2, .int x2), (4, .int x4), (5, .int x5), (6, .int x6), (7, .int x7), (8, .int x8), (9, .int x9)]) hO dX4_unlike_182 rfl (Nat.le_of_ble_eq_true rfl) rfl ?_
      refine zg_iload hO 6 dX4_unlike_183 rfl ?_
      refine zg_iload hO 4 dX4_unlike_185 rfl ?_
      refine zg_icmp_le (tgt := 195) hO h dX4_unlike_187 (by decide) (fun h => ?_) (fun h => ?_)
      · refine zg_iload hO 3 dX4_unlike_195 rfl ?_
        exact zg_sub [1, 2, 0, 4, 5, 6] rfl (w_M_unlike_197 hO hr K71 _ _ _ _ _ _ _ h)
      · refine zg_iload hO 5 dX4_unlike_190 rfl ?_
        refine zg_goto (tgt := 197) hO dX4_unlike_192 (by decide) ?_
        exact zg_sub [1, 2, 0, 4, 5, 6] rfl (w_M_unlike_197 hO hr K71 _ _ _ _ _ _ _ h)
    · refine zg_aload_n hO 0 dX4_unlike_92 rfl rfl ?_
      refine mG_60 hO dX4_unlike_93 ?_
      refine zg_iload hO 8 dX4_unlike_96 rfl ?_
      refine mL_7 hO h dX4_unlike_98 (fun h => ?_)
      refine zg_aload_n hO 0 dX4_unlike_99 rfl rfl ?_
      refine mG_60 hO dX4_unlike_100 ?_
      refine zg_iload hO 5 dX4_unlike_103 rfl ?_
      refine mL_7 hO h dX4_unlike_105 (fun h => ?_)
      refine zg_lcmp hO dX4_unlike_106 ?_
      refine zg_if_ne (tgt := 132) hO h dX4_unlike_107 (by decide) (fun h => ?_) (fun h => ?_)
      · exact zg_sub [0, 1, 2, 3, 4, 5, 6, 7, 8] rfl (w_M_unlike_132 hO hr K71 ih _ _ _ _ _ _ _ _ _ h)
      · refine zg_aload_n hO 0 dX4_unlike_110 rfl rfl ?_
        refine mG_63 hO dX4_unlike_111 ?_
        refine zg_iload hO 8 dX4_unlike_114 rfl ?_
        refine mL_8 hO h dX4_unlike_116 (fun h => ?_)
        refine zg_aload_n hO 0 dX4_unlike_117 rfl rfl ?_
        refine mG_63 hO dX4_unlike_118 ?_
        refine zg_iload hO 5 dX4_unlike_121 rfl ?_
        refine mL_8 hO h dX4_unlike_123 (fun h => ?_)
        refine zg_lcmp hO dX4_unlike_124 ?_
        refine zg_if_ne (tgt := 132) hO h dX4_unlike_125 (by decide) (fun h => ?_) (fun h => ?_)
        · exact zg_sub [0, 1, 2, 3, 4, 5, 6, 7, 8] rfl (w_M_unlike_132 hO hr K71 ih _ _ _ _ _ _ _ _ _ h)
        · refine zg_iconst hO dX4_unlike_128 ic1 ?_
          refine zg_goto (tgt := 133) hO dX4_unlike_129 (by decide) ?_
          exact zg_sub [0, 1, 2, 3, 4, 5, 6, 7, 8] rfl (w_M_unlike_133 hO hr K71 ih _ _ _ _ _ _ _ _ _ _ h)
set_option maxHeartbeats 4000000 in
theorem w_M_unlike_71 (hO : Ok p s m args meth c cX4_unlike RX4 11 D dA (AG G s.heap.size)) (hr : meth.sig.returnType = (some .int)) {ρ : Int32 × MS} : ∀ (n : Nat) (x2 : Int32) (x3 : Int32) (x4 : Int32) (x5 : Int32) (x6 : Int32) (σ : MS), M_unlike_71 n x2 x3 x4 x5 x6 σ = some ρ → Go p l e (rmG 5 0 0) s m args below meth c D (AG G s.heap.size) 11 (MQ below ((QfI D dA (WM dA G ρ.2) ρ.1) (AG G s.heap.size)) args s 0 0 (AG G s.heap.size)) (WM dA G σ) 0 0 71 [(0, .ref (G 0)), (2, .int x2), (3, .int x3), (4, .int x4), (5, .int x5), (6, .int x6)] [] := by
  intro n
  induction n with
  | zero =>
    intro x2 x3 x4 x5 x6 σ h
    rw [M_unlike_71] at h
    cases h
  | succ n ih =>
    intro x2 x3 x4 x5 x6 σ h
    rw [M_unlike_71] at h
    refine zg_iload hO 5 dX4_unlike_71 rfl ?_
    refine zg_iload_n hO 1 dX4_unlike_73 rfl rfl ?_
    refine zg_icmp_gt (tgt := 214) hO h dX4_unlike_74 (by decide) (fun h => ?_) (fun h => ?_)
    · refine zg_aload_n hO 0 dX4_unlike_214 rfl rfl ?_
      refine zg_iconst hO dX4_unlike_215 ic0 ?_
      refine mP_11 hO dX4_unlike_216 ?_
      refine zg_iload_n hO 1 dX4_unlike_219 rfl rfl ?_
      refine zg_if_le (tgt := 252) hO h dX4_unlike_220 (by decide) (fun h => ?_) (fun h => ?_)
      · refine zg_iload_n hO 2 dX4_unlike_252 rfl rfl ?_
        exact zm_iret hO hr h dX4_unlike_253
      · refine zg_aload_n hO 0 dX4_unlike_223 rfl rfl ?_
        refine zg_aload_n hO 0 dX4_unlike_224 rfl rfl ?_
        refine mG_60 hO dX4_unlike_225 ?_
        refine zg_iload hO 3 dX4_unlike_228 rfl ?_
        refine mL_7 hO h dX4_unlike_230 (fun h => ?_)
        refine zm_callVv (As := [.long (gB (sI σ 1 (nI 0)) 1 x4.toNatClampNeg)]) (rest := []) hO h (fun q hq => m_enters l D dA G hq) mw_X4_enters q1856 ⟨Nat.le_of_ble_eq_true rfl, Nat.le_of_ble_eq_true rfl⟩ rfl rfl (Nat.le_of_ble_eq_true rfl) dX4_unlike_231 (fun q4 h => ?_)
        refine zg_aload_n hO 0 dX4_unlike_234 rfl rfl ?_
        refine zg_aload_n hO 0 dX4_unlike_235 rfl rfl ?_
        refine mG_63 hO dX4_unlike_236 ?_
        refine zg_iload hO 3 dX4_unlike_239 rfl ?_
        refine mL_8 hO h dX4_unlike_241 (fun h => ?_)
        refine zm_callVv (As := [.long (gB q4 2 x4.toNatClampNeg)]) (rest := []) hO h (fun q hq => m_enters l D dA G hq) mw_X4_enters q1856 ⟨Nat.le_of_ble_eq_true rfl, Nat.le_of_ble_eq_true rfl⟩ rfl rfl (Nat.le_of_ble_eq_true rfl) dX4_unlike_242 (fun q5 h => ?_)
        refine zg_aload_n hO 0 dX4_unlike_245 rfl rfl ?_
        refine zg_iload hO 4 dX4_unlike_246 rfl ?_
        refine zg_i2l hO dX4_unlike_248 ?_
        refine zm_callVv (As := [.long (x5.toInt64)]) (rest := []) hO h (fun q hq => m_enters l D dA G hq) mw_X4_enters q1856 ⟨Nat.le_of_ble_eq_true rfl, Nat.le_of_ble_eq_true rfl⟩ rfl rfl (Nat.le_of_ble_eq_true rfl) dX4_unlike_249 (fun q6 h => ?_)
        refine zg_iload_n hO 2 dX4_unlike_252 rfl rfl ?_
        exact zm_iret hO hr h dX4_unlike_253
    · refine zg_iconst hO dX4_unlike_77 ic0 ?_
      refine zg_istore (lv' := [(7, .int (nI 0)), (0, .ref (G 0)), (2, .int x2), (3, .int x3), (4, .int x4), (5, .int x5), (6, .int x6)]) hO dX4_unlike_78 (Nat.le_of_ble_eq_true rfl) rfl ?_
      refine zg_iconst hO dX4_unlike_80 ic1 ?_
      refine zg_istore (lv' := [(8, .int (nI 1)), (7, .int (nI 0)), (0, .ref (G 0)), (2, .int x2), (3, .int x3), (4, .int x4), (5, .int x5), (6, .int x6)]) hO dX4_unlike_81 (Nat.le_of_ble_eq_true rfl) rfl ?_
      refine zg_iconst hO dX4_unlike_83 ic1 ?_
      refine zg_istore (lv' := [(9, .int (nI 1)), (8, .int (nI 1)), (7, .int (nI 0)), (0, .ref (G 0)), (2, .int x2), (3, .int x3), (4, .int x4), (5, .int x5), (6, .int x6)]) hO dX4_unlike_84 (Nat.le_of_ble_eq_true rfl) rfl ?_
      exact zg_sub [3, 4, 5, 6, 7, 8, 2, 1, 0] rfl (w_M_unlike_86 hO hr ih _ _ _ _ _ _ _ _ _ _ h)
set_option maxHeartbeats 4000000 in
theorem w_M_unlike_22 (hO : Ok p s m args meth c cX4_unlike RX4 11 D dA (AG G s.heap.size)) (hr : meth.sig.returnType = (some .int)) {ρ : Int32 × MS} : ∀ (n : Nat) (x1 : Int32) (x2 : Int32) (x3 : Int32) (σ : MS), M_unlike_22 n x1 x2 x3 σ = some ρ → Go p l e (rmG 5 0 0) s m args below meth c D (AG G s.heap.size) 11 (MQ below ((QfI D dA (WM dA G ρ.2) ρ.1) (AG G s.heap.size)) args s 0 0 (AG G s.heap.size)) (WM dA G σ) 0 0 22 [(0, .ref (G 0)), (1, .int x1), (2, .int x2), (3, .int x3)] [] := by
  intro n
  induction n with
  | zero =>
    intro x1 x2 x3 σ h
    rw [M_unlike_22] at h
    cases h
  | succ n ih =>
    intro x1 x2 x3 σ h
    rw [M_unlike_22] at h
    refine zg_iload_n hO 3 dX4_unlike_22 rfl rfl ?_
    refine zg_iload_n hO 2 dX4_unlike_23 rfl rfl ?_
    refine zg_icmp_gt (tgt := 60) hO h dX4_unlike_24 (by decide) (fun h => ?_) (fun h => ?_)
    · refine zg_iconst hO dX4_unlike_60 ic0 ?_
      refine zg_istore_n (lv' := [(3, .int (nI 0)), (0, .ref (G 0)), (1, .int x1), (2, .int x2)]) hO dX4_unlike_61 rfl (Nat.le_of_ble_eq_true rfl) rfl ?_
      refine zg_iconst hO dX4_unlike_62 ic0 ?_
      refine zg_istore (lv' := [(4, .int (nI 0)), (3, .int (nI 0)), (0, .ref (G 0)), (1, .int x1), (2, .int x2)]) hO dX4_unlike_63 (Nat.le_of_ble_eq_true rfl) rfl ?_
      refine zg_iconst hO dX4_unlike_65 ic0 ?_
      refine zg_istore (lv' := [(5, .int (nI 0)), (4, .int (nI 0)), (3, .int (nI 0)), (0, .ref (G 0)), (1, .int x1), (2, .int x2)]) hO dX4_unlike_66 (Nat.le_of_ble_eq_true rfl) rfl ?_
      refine zg_iconst hO dX4_unlike_68 ic1 ?_
      refine zg_istore (lv' := [(6, .int (nI 1)), (5, .int (nI 0)), (4, .int (nI 0)), (3, .int (nI 0)), (0, .ref (G 0)), (1, .int x1), (2, .int x2)]) hO dX4_unlike_69 (Nat.le_of_ble_eq_true rfl) rfl ?_
      exact zg_sub [4, 6, 3, 2, 1, 0] rfl (w_M_unlike_71 hO hr _ _ _ _ _ _ _ h)
    · refine zg_aload_n hO 0 dX4_unlike_27 rfl rfl ?_
      refine zg_iload_n hO 1 dX4_unlike_28 rfl rfl ?_
      refine zg_iconst hO dX4_unlike_29 ic0 ?_
      refine zg_iload_n hO 3 dX4_unlike_30 rfl rfl ?_
      refine zm_callVv (As := [.int x1, .int (nI 0), .int x3]) (rest := []) hO h (fun q hq => m_sums l D dA G hq) mw_X4_sums q2066 ⟨Nat.le_of_ble_eq_true rfl, Nat.le_of_ble_eq_true rfl⟩ rfl rfl (Nat.le_of_ble_eq_true rfl) dX4_unlike_31 (fun q3 h => ?_)
      refine zg_aload_n hO 0 dX4_unlike_34 rfl rfl ?_
      refine mG_60 hO dX4_unlike_35 ?_
      refine zg_iload_n hO 3 dX4_unlike_38 rfl rfl ?_
      refine zg_aload_n hO 0 dX4_unlike_39 rfl rfl ?_
      refine mG_96 hO dX4_unlike_40 ?_
      refine mS_7 hO h dX4_unlike_43 (fun h => ?_)
      refine zg_aload_n hO 0 dX4_unlike_44 rfl rfl ?_
      refine mG_63 hO dX4_unlike_45 ?_
      refine zg_iload_n hO 3 dX4_unlike_48 rfl rfl ?_
      refine zg_aload_n hO 0 dX4_unlike_49 rfl rfl ?_
      refine mG_100 hO dX4_unlike_50 ?_
      refine mS_8 hO h dX4_unlike_53 (fun h => ?_)
      refine zg_iinc (k := 3) (lv' := [(3, .int (x3 + (nI 1))), (0, .ref (G 0)), (1, .int x1), (2, .int x2)]) hO dX4_unlike_54 rfl (zii ic1) (Nat.le_of_ble_eq_true rfl) rfl ?_
      refine zg_goto (tgt := 22) hO dX4_unlike_57 (by decide) ?_
      exact zg_sub [1, 2, 3, 0] rfl (ih _ _ _ _ h)
theorem mw_X4_unlike : MwV yX4_unlike cX4_unlike 11 (some .int) RX4 1 := ⟨by decide +kernel, q2117, q2118, q106, q2119⟩
set_option maxHeartbeats 4000000 in
theorem m_unlike (l : Launch) (D : va_G) (dA : Nat → ClassId) (G : Nat → Nat) {x1 : Int32} {σ : MS} {ρ : Int32 × MS} (h : M_unlike x1 σ = some ρ) : Ct l yX4_unlike (ws_ yX4_unlike cX4_unlike 11 (some .int)) 5 0 0 D dA [.ref (G 0), .int x1] (WM dA G σ) (AG G) (QfI D dA (WM dA G ρ.2) ρ.1) := by
  refine zc_start (cc := cX4_unlike) (nL := 11) (ret := (some .int)) (own := RX4) (by decide) rfl rfl (Nat.le_of_ble_eq_true rfl) wm_A (fun p e s m args below meth c hO hr _ _ => ?_)
  unfold M_unlike at h
  refine zg_sub (lv' := [(0, .ref (G 0)), (1, .int x1)]) [0, 1] rfl ?_
  refine zg_aload_n hO 0 dX4_unlike_0 rfl rfl ?_
  refine zg_iconst hO dX4_unlike_1 ic0 ?_
  refine mP_1 hO dX4_unlike_2 ?_
  refine zg_iload_n hO 1 dX4_unlike_5 rfl rfl ?_
  refine zs_calli (As := [.int x1]) (rest := []) hO h (fun q hq => m_isLine l D dA hq) mw_X4_isLine q1958 ⟨Nat.le_of_ble_eq_true rfl, Nat.le_of_ble_eq_true rfl⟩ ⟨Nat.le_refl _, Nat.le_refl _⟩ rfl rfl (Nat.le_of_ble_eq_true rfl) dX4_unlike_6 (fun q1 h => ?_)
  refine zg_if_ne (tgt := 14) hO h dX4_unlike_9 (by decide) (fun h => ?_) (fun h => ?_)
  · refine zg_aload_n hO 0 dX4_unlike_14 rfl rfl ?_
    refine zg_iload_n hO 1 dX4_unlike_15 rfl rfl ?_
    refine zm_callVi (As := [.int x1]) (rest := []) hO h (fun q hq => m_sizeOf l D dA G hq) mw_X4_sizeOf q1896 ⟨Nat.le_of_ble_eq_true rfl, Nat.le_of_ble_eq_true rfl⟩ rfl rfl (Nat.le_of_ble_eq_true rfl) dX4_unlike_16 (fun q2 h => ?_)
    refine zg_istore_n (lv' := [(2, .int q2.1), (0, .ref (G 0)), (1, .int x1)]) hO dX4_unlike_19 rfl (Nat.le_of_ble_eq_true rfl) rfl ?_
    refine zg_iconst hO dX4_unlike_20 ic1 ?_
    refine zg_istore_n (lv' := [(3, .int (nI 1)), (2, .int q2.1), (0, .ref (G 0)), (1, .int x1)]) hO dX4_unlike_21 rfl (Nat.le_of_ble_eq_true rfl) rfl ?_
    exact zg_sub [2, 3, 1, 0] rfl (w_M_unlike_22 hO hr _ _ _ _ _ h)
  · refine zg_iconst hO dX4_unlike_12 icm1 ?_
    exact zm_iret hO hr h dX4_unlike_13
set_option maxHeartbeats 4000000 in
theorem w_M_hasCell_2 (hO : Ok p s m args meth c cX4_hasCell RX4 4 D dA (AG G s.heap.size)) (hr : meth.sig.returnType = (some .boolean)) {ρ : Int32 × MS} : ∀ (n : Nat) (x1 : Int32) (x2 : Int32) (x3 : Int32) (σ : MS), M_hasCell_2 n x1 x2 x3 σ = some ρ → Go p l e (rmG 2 0 0) s m args below meth c D (AG G s.heap.size) 4 (MQ below ((QfI D dA (WM dA G ρ.2) ρ.1) (AG G s.heap.size)) args s 0 0 (AG G s.heap.size)) (WM dA G σ) 0 0 2 [(0, .ref (G 0)), (1, .int x1), (2, .int x2), (3, .int x3)] [] := by
  intro n
  induction n with
  | zero =>
    intro x1 x2 x3 σ h
    rw [M_hasCell_2] at h
    cases h
  | succ n ih =>
    intro x1 x2 x3 σ h
    rw [M_hasCell_2] at h
    refine zg_iload_n hO 3 dX4_hasCell_2 rfl rfl ?_
    refine zg_aload_n hO 0 dX4_hasCell_3 rfl rfl ?_
    refine zg_iload_n hO 1 dX4_hasCell_4 rfl rfl ?_
    refine zm_callVi (As := [.int x1]) (rest := [.int x3]) hO h (fun q hq => m_sizeOf l D dA G hq) mw_X4_sizeOf q1896 ⟨Nat.le_of_ble_eq_true rfl, Nat.le_of_ble_eq_true rfl⟩ rfl rfl (Nat.le_of_ble_eq_true rfl) dX4_hasCell_5 (fun q1 h => ?_)
    refine zg_icmp_ge (tgt := 34) hO h dX4_hasCell_8 (by decide) (fun h => ?_) (fun h => ?_)
    · refine zg_iconst hO dX4_hasCell_34 ic0 ?_
      exact zm_zret hO hr (Or.inl (by decide)) h dX4_hasCell_35
    · refine zg_aload_n hO 0 dX4_hasCell_11 rfl rfl ?_
      refine mG_69 hO dX4_hasCell_12 ?_
      refine zg_aload_n hO 0 dX4_hasCell_15 rfl rfl ?_
      refine zg_iload_n hO 1 dX4_hasCell_16 rfl rfl ?_
      refine zg_iload_n hO 3 dX4_hasCell_17 rfl rfl ?_
      refine zm_callVi (As := [.int x1, .int x3]) (rest := [.ref (G 10)]) hO h (fun q hq => m_placeOf l D dA G hq) mw_X4_placeOf q1904 ⟨Nat.le_of_ble_eq_true rfl, Nat.le_of_ble_eq_true rfl⟩ rfl rfl (Nat.le_of_ble_eq_true rfl) dX4_hasCell_18 (fun q2 h => ?_)
      refine mL_10 hO h dX4_hasCell_21 (fun h => ?_)
      refine zg_iload_n hO 2 dX4_hasCell_22 rfl rfl ?_
      refine zg_icmp_ne (tgt := 28) hO h dX4_hasCell_23 (by decide) (fun h => ?_) (fun h => ?_)
      · refine zg_iinc (k := 3) (lv' := [(3, .int (x3 + (nI 1))), (0, .ref (G 0)), (1, .int x1), (2, .int x2)]) hO dX4_hasCell_28 rfl (zii ic1) (Nat.le_of_ble_eq_true rfl) rfl ?_
        refine zg_goto (tgt := 2) hO dX4_hasCell_31 (by decide) ?_
        exact zg_sub [1, 2, 3, 0] rfl (ih _ _ _ _ h)
      · refine zg_iconst hO dX4_hasCell_26 ic1 ?_
        exact zm_zret hO hr (Or.inr (by decide)) h dX4_hasCell_27
theorem mw_X4_hasCell : MwV yX4_hasCell cX4_hasCell 4 (some .boolean) RX4 2 := ⟨by decide +kernel, q2127, qs83, q106, q2128⟩
set_option maxHeartbeats 4000000 in
theorem m_hasCell (l : Launch) (D : va_G) (dA : Nat → ClassId) (G : Nat → Nat) {x1 : Int32} {x2 : Int32} {σ : MS} {ρ : Int32 × MS} (h : M_hasCell x1 x2 σ = some ρ) : Ct l yX4_hasCell (ws_ yX4_hasCell cX4_hasCell 4 (some .boolean)) 2 0 0 D dA [.ref (G 0), .int x1, .int x2] (WM dA G σ) (AG G) (QfI D dA (WM dA G ρ.2) ρ.1) := by
  refine zc_start (cc := cX4_hasCell) (nL := 4) (ret := (some .boolean)) (own := RX4) (by decide) rfl rfl (Nat.le_of_ble_eq_true rfl) wm_A (fun p e s m args below meth c hO hr _ _ => ?_)
  unfold M_hasCell at h
  refine zg_sub (lv' := [(0, .ref (G 0)), (1, .int x1), (2, .int x2)]) [0, 1, 2] rfl ?_
  refine zg_iconst hO dX4_hasCell_0 ic0 ?_
  refine zg_istore_n (lv' := [(3, .int (nI 0)), (0, .ref (G 0)), (1, .int x1), (2, .int x2)]) hO dX4_hasCell_1 rfl (Nat.le_of_ble_eq_true rfl) rfl ?_
  exact zg_sub [1, 2, 3, 0] rfl (w_M_hasCell_2 hO hr _ _ _ _ _ h)
set_option maxHeartbeats 4000000 in
theorem w_M_same_82 (hO : Ok p s m args meth c cX4_same RX4 9 D dA (AG G s.heap.size)) (hr : meth.sig.returnType = (some .int)) {ρ : Int32 × MS} {k46 : Int32 → Int32 → Int32 → Int32 → Int32 → MS → Option (Int32 × MS)} (K46 : ∀ (x1 : Int32) (x2 : Int32) (x3 : Int32) (x4 : Int32) (x5 : Int32) (σ : MS), k46 x1 x2 x3 x4 x5 σ = some ρ → Go p l e (rmG 5 0 0) s m args below meth c D (AG G s.heap.size) 9 (MQ below ((QfI D dA (WM dA G ρ.2) ρ.1) (AG G s.heap.size)) args s 0 0 (AG G s.heap.size)) (WM dA G σ) 0 0 46 [(0, .ref (G 0)), (1, .int x1), (2, .int x2), (3, .int x3), (4, .int x4), (5, .int x5)] []) : ∀ (x1 : Int32) (x2 : Int32) (x4 : Int32) (x5 : Int32) (y0 : Int32) (σ : MS), M_same_82 k46 x1 x2 x4 x5 y0 σ = some ρ → Go p l e (rmG 5 0 0) s m args below meth c D (AG G s.heap.size) 9 (MQ below ((QfI D dA (WM dA G ρ.2) ρ.1) (AG G s.heap.size)) args s 0 0 (AG G s.heap.size)) (WM dA G σ) 0 0 82 [(0, .ref (G 0)), (1, .int x1), (2, .int x2), (4, .int x4), (5, .int x5)] [.int y0] := by
  intro x1 x2 x4 x5 y0 σ h
  unfold M_same_82 at h
  refine zg_istore_n (lv' := [(3, .int y0), (0, .ref (G 0)), (1, .int x1), (2, .int x2), (4, .int x4), (5, .int x5)]) hO dX4_same_82 rfl (Nat.le_of_ble_eq_true rfl) rfl ?_
  refine zg_iload hO 4 dX4_same_83 rfl ?_
  refine zg_aload_n hO 1 dX4_same_85 rfl rfl ?_
  refine zg_iload_n hO 3 dX4_same_86 rfl rfl ?_
  refine zg_aload_n hO 1 dX4_same_87 rfl rfl ?_
  refine mG_69 hO dX4_same_88 ?_
  refine zg_aload_n hO 1 dX4_same_91 rfl rfl ?_
  refine zg_iload_n hO 2 dX4_same_92 rfl rfl ?_
  refine zg_iload hO 5 dX4_same_93 rfl ?_
  refine zm_callVi (As := [.int x1, .int x5]) (rest := [.ref (G 10), .int x2, .ref (G 0), .int x4]) hO h (fun q hq => m_placeOf l D dA G hq) mw_X4_placeOf q1904 ⟨Nat.le_of_ble_eq_true rfl, Nat.le_of_ble_eq_true rfl⟩ rfl rfl (Nat.le_of_ble_eq_true rfl) dX4_same_95 (fun q10 h => ?_)
  refine mL_10 hO h dX4_same_98 (fun h => ?_)
  refine zm_callVi (As := [.int x2, .int (gA q10.2 6 q10.1.toNatClampNeg)]) (rest := [.int x4]) hO h (fun q hq => m_hasCell l D dA G hq) mw_X4_hasCell q2125 ⟨Nat.le_of_ble_eq_true rfl, Nat.le_of_ble_eq_true rfl⟩ rfl rfl (Nat.le_of_ble_eq_true rfl) dX4_same_99 (fun q11 h => ?_)
  refine zs_calli (As := [.int q11.1]) (rest := [.int x4]) hO h (fun q hq => m_flag l D dA hq) mw_X4_flag q1835 ⟨Nat.le_of_ble_eq_true rfl, Nat.le_of_ble_eq_true rfl⟩ ⟨Nat.le_refl _, Nat.le_refl _⟩ rfl rfl (Nat.le_of_ble_eq_true rfl) dX4_same_102 (fun q12 h => ?_)
  refine zg_iadd hO dX4_same_105 ?_
  refine zg_istore (lv' := [(4, .int (x4 + q12)), (3, .int y0), (0, .ref (G 0)), (1, .int x1), (2, .int x2), (5, .int x5)]) hO dX4_same_106 (Nat.le_of_ble_eq_true rfl) rfl ?_
  refine zg_iinc (k := 5) (lv' := [(5, .int (x5 + (nI 1))), (4, .int (x4 + q12)), (3, .int y0), (0, .ref (G 0)), (1, .int x1), (2, .int x2)]) hO dX4_same_108 rfl (zii ic1) (Nat.le_of_ble_eq_true rfl) rfl ?_
  refine zg_goto (tgt := 46) hO dX4_same_111 (by decide) ?_
  exact zg_sub [3, 4, 5, 2, 1, 0] rfl (K46 _ _ _ _ _ _ h)
set_option maxHeartbeats 4000000 in
theorem w_M_same_81 (hO : Ok p s m args meth c cX4_same RX4 9 D dA (AG G s.heap.size)) (hr : meth.sig.returnType = (some .int)) {ρ : Int32 × MS} {k46 : Int32 → Int32 → Int32 → Int32 → Int32 → MS → Option (Int32 × MS)} (K46 : ∀ (x1 : Int32) (x2 : Int32) (x3 : Int32) (x4 : Int32) (x5 : Int32) (σ : MS), k46 x1 x2 x3 x4 x5 σ = some ρ → Go p l e (rmG 5 0 0) s m args below meth c D (AG G s.heap.size) 9 (MQ below ((QfI D dA (WM dA G ρ.2) ρ.1) (AG G s.heap.size)) args s 0 0 (AG G s.heap.size)) (WM dA G σ) 0 0 46 [(0, .ref (G 0)), (1, .int x1), (2, .int x2), (3, .int x3), (4, .int x4), (5, .int x5)] []) : ∀ (x1 : Int32) (x2 : Int32) (x4 : Int32) (x5 : Int32) (σ : MS), M_same_81 k46 x1 x2 x4 x5 σ = some ρ → Go p l e (rmG 5 0 0) s m args below meth c D (AG G s.heap.size) 9 (MQ below ((QfI D dA (WM dA G ρ.2) ρ.1) (AG G s.heap.size)) args s 0 0 (AG G s.heap.size)) (WM dA G σ) 0 0 81 [(0, .ref (G 0)), (1, .int x1), (2, .int x2), (4, .int x4), (5, .int x5)] [] := by
  intro x1 x2 x4 x5 σ h
  unfold M_same_81 at h
  refine zg_iconst hO dX4_same_81 ic0 ?_
  exact zg_sub [0, 1, 2, 3, 4] rfl (w_M_same_82 hO hr K46 _ _ _ _ _ _ h)
set_option maxHeartbeats 4000000 in
theorem w_M_same_167 (hO : Ok p s m args meth c cX4_same RX4 9 D dA (AG G s.heap.size)) (hr : meth.sig.returnType = (some .int)) {ρ : Int32 × MS} : ∀ (x3 : Int32) (x4 : Int32) (y0 : Int32) (σ : MS), M_same_167 x3 x4 y0 σ = some ρ → Go p l e (rmG 5 0 0) s m args below meth c D (AG G s.heap.size) 9 (MQ below ((QfI D dA (WM dA G ρ.2) ρ.1) (AG G s.heap.size)) args s 0 0 (AG G s.heap.size)) (WM dA G σ) 0 0 167 [(0, .ref (G 0)), (3, .int x3), (4, .int x4)] [.int y0, .ref (G 0)] := by
  intro x3 x4 y0 σ h
  unfold M_same_167 at h
  refine zs_calli (As := [.int y0]) (rest := [.ref (G 0)]) hO h (fun q hq => m_flag l D dA hq) mw_X4_flag q1835 ⟨Nat.le_of_ble_eq_true rfl, Nat.le_of_ble_eq_true rfl⟩ ⟨Nat.le_refl _, Nat.le_refl _⟩ rfl rfl (Nat.le_of_ble_eq_true rfl) dX4_same_167 (fun q13 h => ?_)
  refine zg_i2l hO dX4_same_170 ?_
  refine zm_callVv (As := [.long (q13.toInt64)]) (rest := []) hO h (fun q hq => m_enters l D dA G hq) mw_X4_enters q1856 ⟨Nat.le_of_ble_eq_true rfl, Nat.le_of_ble_eq_true rfl⟩ rfl rfl (Nat.le_of_ble_eq_true rfl) dX4_same_171 (fun q14 h => ?_)
  refine zg_aload_n hO 0 dX4_same_174 rfl rfl ?_
  refine zg_iload hO 2 dX4_same_175 rfl ?_
  refine zg_i2l hO dX4_same_177 ?_
  refine zm_callVv (As := [.long (x4.toInt64)]) (rest := []) hO h (fun q hq => m_enters l D dA G hq) mw_X4_enters q1856 ⟨Nat.le_of_ble_eq_true rfl, Nat.le_of_ble_eq_true rfl⟩ rfl rfl (Nat.le_of_ble_eq_true rfl) dX4_same_178 (fun q15 h => ?_)
  refine zg_iload_n hO 1 dX4_same_181 rfl rfl ?_
  refine zs_calli (As := [.int x3]) (rest := []) hO h (fun q hq => m_flag l D dA hq) mw_X4_flag q1835 ⟨Nat.le_of_ble_eq_true rfl, Nat.le_of_ble_eq_true rfl⟩ ⟨Nat.le_refl _, Nat.le_refl _⟩ rfl rfl (Nat.le_of_ble_eq_true rfl) dX4_same_182 (fun q16 h => ?_)
  exact zm_iret hO hr h dX4_same_185
set_option maxHeartbeats 4000000 in
theorem w_M_same_166 (hO : Ok p s m args meth c cX4_same RX4 9 D dA (AG G s.heap.size)) (hr : meth.sig.returnType = (some .int)) {ρ : Int32 × MS} : ∀ (x3 : Int32) (x4 : Int32) (σ : MS), M_same_166 x3 x4 σ = some ρ → Go p l e (rmG 5 0 0) s m args below meth c D (AG G s.heap.size) 9 (MQ below ((QfI D dA (WM dA G ρ.2) ρ.1) (AG G s.heap.size)) args s 0 0 (AG G s.heap.size)) (WM dA G σ) 0 0 166 [(0, .ref (G 0)), (3, .int x3), (4, .int x4)] [.ref (G 0)] := by
  intro x3 x4 σ h
  unfold M_same_166 at h
  refine zg_iconst hO dX4_same_166 ic0 ?_
  exact zg_sub [0, 1, 2] rfl (w_M_same_167 hO hr _ _ _ _ h)
set_option maxHeartbeats 4000000 in
theorem w_M_same_46 (hO : Ok p s m args meth c cX4_same RX4 9 D dA (AG G s.heap.size)) (hr : meth.sig.returnType = (some .int)) {ρ : Int32 × MS} : ∀ (n : Nat) (x1 : Int32) (x2 : Int32) (x3 : Int32) (x4 : Int32) (x5 : Int32) (σ : MS), M_same_46 n x1 x2 x3 x4 x5 σ = some ρ → Go p l e (rmG 5 0 0) s m args below meth c D (AG G s.heap.size) 9 (MQ below ((QfI D dA (WM dA G ρ.2) ρ.1) (AG G s.heap.size)) args s 0 0 (AG G s.heap.size)) (WM dA G σ) 0 0 46 [(0, .ref (G 0)), (1, .int x1), (2, .int x2), (3, .int x3), (4, .int x4), (5, .int x5)] [] := by
  intro n
  induction n with
  | zero =>
    intro x1 x2 x3 x4 x5 σ h
    rw [M_same_46] at h
    cases h
  | succ n ih =>
    intro x1 x2 x3 x4 x5 σ h
    rw [M_same_46] at h
    refine zg_iload hO 5 dX4_same_46 rfl ?_
    refine zg_aload_n hO 0 dX4_same_48 rfl rfl ?_
    refine zg_iload_n hO 1 dX4_same_49 rfl rfl ?_
    refine zm_callVi (As := [.int x1]) (rest := [.int x5]) hO h (fun q hq => m_sizeOf l D dA G hq) mw_X4_sizeOf q1896 ⟨Nat.le_of_ble_eq_true rfl, Nat.le_of_ble_eq_true rfl⟩ rfl rfl (Nat.le_of_ble_eq_true rfl) dX4_same_50 (fun q5 h => ?_)
    refine zg_icmp_ge (tgt := 114) hO h dX4_same_53 (by decide) (fun h => ?_) (fun h => ?_)
    · refine zg_aload_n hO 0 dX4_same_114 rfl rfl ?_
      refine zg_iload_n hO 1 dX4_same_115 rfl rfl ?_
      refine zm_callVv (As := [.int x1]) (rest := []) hO h (fun q hq => m_summary l D dA G hq) mw_X4_summary q2030 ⟨Nat.le_of_ble_eq_true rfl, Nat.le_of_ble_eq_true rfl⟩ rfl rfl (Nat.le_of_ble_eq_true rfl) dX4_same_116 (fun q6 h => ?_)
      refine zg_aload_n hO 0 dX4_same_119 rfl rfl ?_
      refine mG_96 hO dX4_same_120 ?_
      refine zg_lstore (lv' := [(5, .long (gL q6 0)), (0, .ref (G 0)), (1, .int x1), (2, .int x2), (3, .int x3), (4, .int x4)]) hO dX4_same_123 (Nat.le_of_ble_eq_true rfl) rfl ?_
      refine zg_aload_n hO 1 dX4_same_125 rfl rfl ?_
      refine mG_100 hO dX4_same_126 ?_
      refine zg_lstore (lv' := [(7, .long (gL q6 1)), (5, .long (gL q6 0)), (0, .ref (G 0)), (1, .int x1), (2, .int x2), (3, .int x3), (4, .int x4)]) hO dX4_same_129 (Nat.le_of_ble_eq_true rfl) rfl ?_
      refine zg_aload_n hO 2 dX4_same_131 rfl rfl ?_
      refine zg_iload_n hO 4 dX4_same_132 rfl rfl ?_
      refine zm_callVv (As := [.int x2]) (rest := []) hO h (fun q hq => m_summary l D dA G hq) mw_X4_summary q2030 ⟨Nat.le_of_ble_eq_true rfl, Nat.le_of_ble_eq_true rfl⟩ rfl rfl (Nat.le_of_ble_eq_true rfl) dX4_same_133 (fun q7 h => ?_)
      refine zg_aload_n hO 2 dX4_same_136 rfl rfl ?_
      refine zg_iconst hO dX4_same_137 ic0 ?_
      refine mP_11 hO dX4_same_138 ?_
      refine zg_aload_n hO 2 dX4_same_141 rfl rfl ?_
      refine zg_lload hO 1 dX4_same_142 rfl ?_
      refine zg_aload_n hO 2 dX4_same_144 rfl rfl ?_
      refine mG_96 hO dX4_same_145 ?_
      refine zg_lcmp hO dX4_same_148 ?_
      refine zg_if_ne (tgt := 166) hO h dX4_same_149 (by decide) (fun h => ?_) (fun h => ?_)
      · exact zg_sub [2, 5, 6] rfl (w_M_same_166 hO hr _ _ _ h)
      · refine zg_lload hO 0 dX4_same_152 rfl ?_
        refine zg_aload_n hO 2 dX4_same_154 rfl rfl ?_
        refine mG_100 hO dX4_same_155 ?_
        refine zg_lcmp hO dX4_same_158 ?_
        refine zg_if_ne (tgt := 166) hO h dX4_same_159 (by decide) (fun h => ?_) (fun h => ?_)
        · exact zg_sub [2, 5, 6] rfl (w_M_same_166 hO hr _ _ _ h)
        · refine zg_iconst hO dX4_same_162 ic1 ?_
          refine zg_goto (tgt := 167) hO dX4_same_163 (by decide) ?_
          exact zg_sub [2, 5, 6] rfl (w_M_same_167 hO hr _ _ _ _ h)
    · refine zg_iload_n hO 3 dX4_same_56 rfl rfl ?_
      refine zg_if_eq (tgt := 81) hO h dX4_same_57 (by decide) (fun h => ?_) (fun h => ?_)
      · exact zg_sub [0, 1, 2, 4, 5] rfl (w_M_same_81 hO hr ih _ _ _ _ _ h)
      · refine zg_aload_n hO 0 dX4_same_60 rfl rfl ?_
        refine zg_iload_n hO 1 dX4_same_61 rfl rfl ?_
        refine zg_iload hO 5 dX4_same_62 rfl ?_
        refine zm_callVi (As := [.int x1, .int x5]) (rest := []) hO h (fun q hq => m_itemAt l D dA G hq) mw_X4_itemAt q1900 ⟨Nat.le_of_ble_eq_true rfl, Nat.le_of_ble_eq_true rfl⟩ rfl rfl (Nat.le_of_ble_eq_true rfl) dX4_same_64 (fun q8 h => ?_)
        refine zg_aload_n hO 0 dX4_same_67 rfl rfl ?_
        refine zg_iload_n hO 2 dX4_same_68 rfl rfl ?_
        refine zg_iload hO 5 dX4_same_69 rfl ?_
        refine zm_callVi (As := [.int x2, .int x5]) (rest := [.int q8.1]) hO h (fun q hq => m_itemAt l D dA G hq) mw_X4_itemAt q1900 ⟨Nat.le_of_ble_eq_true rfl, Nat.le_of_ble_eq_true rfl⟩ rfl rfl (Nat.le_of_ble_eq_true rfl) dX4_same_71 (fun q9 h => ?_)
        refine zg_icmp_ne (tgt := 81) hO h dX4_same_74 (by decide) (fun h => ?_) (fun h => ?_)
        · exact zg_sub [0, 1, 2, 4, 5] rfl (w_M_same_81 hO hr ih _ _ _ _ _ h)
        · refine zg_iconst hO dX4_same_77 ic1 ?_
          refine zg_goto (tgt := 82) hO dX4_same_78 (by decide) ?_
          exact zg_sub [0, 1, 2, 4, 5] rfl (w_M_same_82 hO hr ih _ _ _ _ _ _ h)
set_option maxHeartbeats 4000000 in
theorem w_M_same_39 (hO : Ok p s m args meth c cX4_same RX4 9 D dA (AG G s.heap.size)) (hr : meth.sig.returnType = (some .int)) {ρ : Int32 × MS} : ∀ (x1 : Int32) (x2 : Int32) (y0 : Int32) (σ : MS), M_same_39 x1 x2 y0 σ = some ρ → Go p l e (rmG 5 0 0) s m args below meth c D (AG G s.heap.size) 9 (MQ below ((QfI D dA (WM dA G ρ.2) ρ.1) (AG G s.heap.size)) args s 0 0 (AG G s.heap.size)) (WM dA G σ) 0 0 39 [(0, .ref (G 0)), (1, .int x1), (2, .int x2)] [.int y0] := by
  intro x1 x2 y0 σ h
  unfold M_same_39 at h
  refine zg_istore_n (lv' := [(3, .int y0), (0, .ref (G 0)), (1, .int x1), (2, .int x2)]) hO dX4_same_39 rfl (Nat.le_of_ble_eq_true rfl) rfl ?_
  refine zg_iconst hO dX4_same_40 ic0 ?_
  refine zg_istore (lv' := [(4, .int (nI 0)), (3, .int y0), (0, .ref (G 0)), (1, .int x1), (2, .int x2)]) hO dX4_same_41 (Nat.le_of_ble_eq_true rfl) rfl ?_
  refine zg_iconst hO dX4_same_43 ic0 ?_
  refine zg_istore (lv' := [(5, .int (nI 0)), (4, .int (nI 0)), (3, .int y0), (0, .ref (G 0)), (1, .int x1), (2, .int x2)]) hO dX4_same_44 (Nat.le_of_ble_eq_true rfl) rfl ?_
  exact zg_sub [3, 4, 5, 2, 1, 0] rfl (w_M_same_46 hO hr _ _ _ _ _ _ _ h)
theorem mw_X4_same : MwV yX4_same cX4_same 9 (some .int) RX4 2 := ⟨by decide +kernel, q2122, q2123, q106, q2124⟩
set_option maxHeartbeats 4000000 in
theorem m_same (l : Launch) (D : va_G) (dA : Nat → ClassId) (G : Nat → Nat) {x1 : Int32} {x2 : Int32} {σ : MS} {ρ : Int32 × MS} (h : M_same x1 x2 σ = some ρ) : Ct l yX4_same (ws_ yX4_same cX4_same 9 (some .int)) 5 0 0 D dA [.ref (G 0), .int x1, .int x2] (WM dA G σ) (AG G) (QfI D dA (WM dA G ρ.2) ρ.1) := by
  refine zc_start (cc := cX4_same) (nL := 9) (ret := (some .int)) (own := RX4) (by decide) rfl rfl (Nat.le_of_ble_eq_true rfl) wm_A (fun p e s m args below meth c hO hr _ _ => ?_)
  unfold M_same at h
  refine zg_sub (lv' := [(0, .ref (G 0)), (1, .int x1), (2, .int x2)]) [0, 1, 2] rfl ?_
  refine zg_aload_n hO 0 dX4_same_0 rfl rfl ?_
  refine zg_iconst hO dX4_same_1 ic0 ?_
  refine mP_1 hO dX4_same_2 ?_
  refine zg_iload_n hO 1 dX4_same_5 rfl rfl ?_
  refine zs_calli (As := [.int x1]) (rest := []) hO h (fun q hq => m_isLine l D dA hq) mw_X4_isLine q1958 ⟨Nat.le_of_ble_eq_true rfl, Nat.le_of_ble_eq_true rfl⟩ ⟨Nat.le_refl _, Nat.le_refl _⟩ rfl rfl (Nat.le_of_ble_eq_true rfl) dX4_same_6 (fun q1 h => ?_)
  refine zg_if_eq (tgt := 19) hO h dX4_same_9 (by decide) (fun h => ?_) (fun h => ?_)
  · refine zg_iconst hO dX4_same_19 icm1 ?_
    exact zm_iret hO hr h dX4_same_20
  · refine zg_iload_n hO 2 dX4_same_12 rfl rfl ?_
    refine zs_calli (As := [.int x2]) (rest := []) hO h (fun q hq => m_isLine l D dA hq) mw_X4_isLine q1958 ⟨Nat.le_of_ble_eq_true rfl, Nat.le_of_ble_eq_true rfl⟩ ⟨Nat.le_refl _, Nat.le_refl _⟩ rfl rfl (Nat.le_of_ble_eq_true rfl) dX4_same_13 (fun q2 h => ?_)
    refine zg_if_ne (tgt := 21) hO h dX4_same_16 (by decide) (fun h => ?_) (fun h => ?_)
    · refine zg_aload_n hO 0 dX4_same_21 rfl rfl ?_
      refine zg_iload_n hO 1 dX4_same_22 rfl rfl ?_
      refine zm_callVi (As := [.int x1]) (rest := []) hO h (fun q hq => m_sizeOf l D dA G hq) mw_X4_sizeOf q1896 ⟨Nat.le_of_ble_eq_true rfl, Nat.le_of_ble_eq_true rfl⟩ rfl rfl (Nat.le_of_ble_eq_true rfl) dX4_same_23 (fun q3 h => ?_)
      refine zg_aload_n hO 0 dX4_same_26 rfl rfl ?_
      refine zg_iload_n hO 2 dX4_same_27 rfl rfl ?_
      refine zm_callVi (As := [.int x2]) (rest := [.int q3.1]) hO h (fun q hq => m_sizeOf l D dA G hq) mw_X4_sizeOf q1896 ⟨Nat.le_of_ble_eq_true rfl, Nat.le_of_ble_eq_true rfl⟩ rfl rfl (Nat.le_of_ble_eq_true rfl) dX4_same_28 (fun q4 h => ?_)
      refine zg_icmp_ne (tgt := 38) hO h dX4_same_31 (by decide) (fun h => ?_) (fun h => ?_)
      · refine zg_iconst hO dX4_same_38 ic0 ?_
        exact zg_sub [0, 1, 2] rfl (w_M_same_39 hO hr _ _ _ _ h)
      · refine zg_iconst hO dX4_same_34 ic1 ?_
        refine zg_goto (tgt := 39) hO dX4_same_35 (by decide) ?_
        exact zg_sub [0, 1, 2] rfl (w_M_same_39 hO hr _ _ _ _ h)
    · refine zg_iconst hO dX4_same_19 icm1 ?_
      exact zm_iret hO hr h dX4_same_20
set_option maxHeartbeats 4000000 in
theorem w_M_shared_128 (hO : Ok p s m args meth c cX4_shared RX4 11 D dA (AG G s.heap.size)) (hr : meth.sig.returnType = (some .int)) {ρ : Int32 × MS} {k14 : Int32 → Int32 → Int32 → Int32 → MS → Option (Int32 × MS)} {k23 : Int32 → Int32 → Int32 → Int32 → Int32 → MS → Option (Int32 × MS)} {k58 : Int32 → Int32 → Int32 → Int32 → Int32 → Int32 → Int32 → Int32 → Int32 → MS → Option (Int32 × MS)} (K14 : ∀ (x1 : Int32) (x2 : Int32) (x3 : Int32) (x4 : Int32) (σ : MS), k14 x1 x2 x3 x4 σ = some ρ → Go p l e (rmG 3 0 0) s m args below meth c D (AG G s.heap.size) 11 (MQ below ((QfI D dA (WM dA G ρ.2) ρ.1) (AG G s.heap.size)) args s 0 0 (AG G s.heap.size)) (WM dA G σ) 0 0 14 [(0, .ref (G 0)), (1, .int x1), (2, .int x2), (3, .int x3), (4, .int x4)] []) (K23 : ∀ (x1 : Int32) (x2 : Int32) (x3 : Int32) (x4 : Int32) (x5 : Int32) (σ : MS), k23 x1 x2 x3 x4 x5 σ = some ρ → Go p l e (rmG 3 0 0) s m args below meth c D (AG G s.heap.size) 11 (MQ below ((QfI D dA (WM dA G ρ.2) ρ.1) (AG G s.heap.size)) args s 0 0 (AG G s.heap.size)) (WM dA G σ) 0 0 23 [(0, .ref (G 0)), (1, .int x1), (2, .int x2), (3, .int x3), (4, .int x4), (5, .int x5)] []) (K58 : ∀ (x1 : Int32) (x2 : Int32) (x3 : Int32) (x4 : Int32) (x5 : Int32) (x6 : Int32) (x7 : Int32) (x8 : Int32) (x9 : Int32) (σ : MS), k58 x1 x2 x3 x4 x5 x6 x7 x8 x9 σ = some ρ → Go p l e (rmG 3 0 0) s m args below meth c D (AG G s.heap.size) 11 (MQ below ((QfI D dA (WM dA G ρ.2) ρ.1) (AG G s.heap.size)) args s 0 0 (AG G s.heap.size)) (WM dA G σ) 0 0 58 [(0, .ref (G 0)), (1, .int x1), (2, .int x2), (3, .int x3), (4, .int x4), (5, .int x5), (6, .int x6), (7, .int x7), (8, .int x8), (9, .int x9)] []) : ∀ (x1 : Int32) (x2 : Int32) (x3 : Int32) (x4 : Int32) (x5 : Int32) (x6 : Int32) (x7 : Int32) (x9 : Int32) (y0 : Int32) (σ : MS), M_shared_128 k14 k23 k58 x1 x2 x3 x4 x5 x6 x7 x9 y0 σ = some ρ → Go p l e (rmG 3 0 0) s m args below meth c D (AG G s.heap.size) 11 (MQ below ((QfI D dA (WM dA G ρ.2) ρ.1) (AG G s.heap.size)) args s 0 0 (AG G s.heap.size)) (WM dA G σ) 0 0 128 [(0, .ref (G 0)), (1, .int x1), (2, .int x2), (3, .int x3), (4, .int x4), (5, .int x5), (6, .int x6), (7, .int x7), (9, .int x9)] [.int y0] := by
  intro x1 x2 x3 x4 x5 x6 x7 x9 y0 σ h
  unfold M_shared_128 at h
  refine zg_istore (lv' := [(8, .int y0), (0, .ref (G 0)), (1, .int x1), (2, .int x2), (3, .int x3), (4, .int x4), (5, .int x5), (6, .int x6), (7, .int x7), (9, .int x9)]) hO dX4_shared_128 (Nat.le_of_ble_eq_true rfl) rfl ?_
  refine zg_iinc (k := 9) (lv' := [(9, .int (x9 + (nI 1))), (8, .int y0), (0, .ref (G 0)), (1, .int x1), (2, .int x2), (3, .int x3), (4, .int x4), (5, .int x5), (6, .int x6), (7, .int x7)]) hO dX4_shared_130 rfl (zii ic1) (Nat.le_of_ble_eq_true rfl) rfl ?_
  refine zg_goto (tgt := 58) hO dX4_shared_133 (by decide) ?_
  exact zg_sub [2, 3, 4, 5, 6, 7, 8, 9, 1, 0] rfl (K58 _ _ _ _ _ _ _ _ _ _ h)
set_option maxHeartbeats 4000000 in
theorem w_M_shared_123 (hO : Ok p s m args meth c cX4_shared RX4 11 D dA (AG G s.heap.size)) (hr : meth.sig.returnType = (some .int)) {ρ : Int32 × MS} {k14 : Int32 → Int32 → Int32 → Int32 → MS → Option (Int32 × MS)} {k23 : Int32 → Int32 → Int32 → Int32 → Int32 → MS → Option (Int32 × MS)} {k58 : Int32 → Int32 → Int32 → Int32 → Int32 → Int32 → Int32 → Int32 → Int32 → MS → Option (Int32 × MS)} (K14 : ∀ (x1 : Int32) (x2 : Int32) (x3 : Int32) (x4 : Int32) (σ : MS), k14 x1 x2 x3 x4 σ = some ρ → Go p l e (rmG 3 0 0) s m args below meth c D (AG G s.heap.size) 11 (MQ below ((QfI D dA (WM dA G ρ.2) ρ.1) (AG G s.heap.size)) args s 0 0 (AG G s.heap.size)) (WM dA G σ) 0 0 14 [(0, .ref (G 0)), (1, .int x1), (2, .int x2), (3, .int x3), (4, .int x4)] []) (K23 : ∀ (x1 : Int32) (x2 : Int32) (x3 : Int32) (x4 : Int32) (x5 : Int32) (σ : MS), k23 x1 x2 x3 x4 x5 σ = some ρ → Go p l e (rmG 3 0 0) s m args below meth c D (AG G s.heap.size) 11 (MQ below ((QfI D dA (WM dA G ρ.2) ρ.1) (AG G s.heap.size)) args s 0 0 (AG G s.heap.size)) (WM dA G σ) 0 0 23 [(0, .ref (G 0)), (1, .int x1), (2, .int x2), (3, .int x3), (4, .int x4), (5, .int x5)] []) (K58 : ∀ (x1 : Int32) (x2 : Int32) (x3 : Int32) (x4 : Int32) (x5 : Int32) (x6 : Int32) (x7 : Int32) (x8 : Int32) (x9 : Int32) (σ : MS), k58 x1 x2 x3 x4 x5 x6 x7 x8 x9 σ = some ρ → Go p l e (rmG 3 0 0) s m args below meth c D (AG G s.heap.size) 11 (MQ below ((QfI D dA (WM dA G ρ.2) ρ.1) (AG G s.heap.size)) args s 0 0 (AG G s.heap.size)) (WM dA G σ) 0 0 58 [(0, .ref (G 0)), (1, .int x1), (2, .int x2), (3, .int x3), (4, .int x4), (5, .int x5), (6, .int x6), (7, .int x7), (8, .int x8), (9, .int x9)] []) : ∀ (x1 : Int32) (x2 : Int32) (x3 : Int32) (x4 : Int32) (x5 : Int32) (x6 : Int32) (x7 : Int32) (x9 : Int32) (σ : MS), M_shared_123 k14 k23 k58 x1 x2 x3 x4 x5 x6 x7 x9 σ = some ρ → Go p l e (rmG 3 0 0) s m args below meth c D (AG G s.heap.size) 11 (MQ below ((QfI D dA (WM dA G ρ.2) ρ.1) (AG G s.heap.size)) args s 0 0 (AG G s.heap.size)) (WM dA G σ) 0 0 123 [(0, .ref (G 0)), (1, .int x1), (2, .int x2), (3, .int x3), (4, .int x4), (5, .int x5), (6, .int x6), (7, .int x7), (9, .int x9)] [] := by
  intro x1 x2 x3 x4 x5 x6 x7 x9 σ h
  unfold M_shared_123 at h
  refine zg_iconst hO dX4_shared_123 ic1 ?_
  refine zg_goto (tgt := 128) hO dX4_shared_124 (by decide) ?_
  exact zg_sub [0, 1, 2, 3, 4, 5, 6, 7, 8] rfl (w_M_shared_128 hO hr K14 K23 K58 _ _ _ _ _ _ _ _ _ _ h)
set_option maxHeartbeats 4000000 in
theorem w_M_shared_111 (hO : Ok p s m args meth c cX4_shared RX4 11 D dA (AG G s.heap.size)) (hr : meth.sig.returnType = (some .int)) {ρ : Int32 × MS} {k14 : Int32 → Int32 → Int32 → Int32 → MS → Option (Int32 × MS)} {k23 : Int32 → Int32 → Int32 → Int32 → Int32 → MS → Option (Int32 × MS)} {k58 : Int32 → Int32 → Int32 → Int32 → Int32 → Int32 → Int32 → Int32 → Int32 → MS → Option (Int32 × MS)} (K14 : ∀ (x1 : Int32) (x2 : Int32) (x3 : Int32) (x4 : Int32) (σ : MS), k14 x1 x2 x3 x4 σ = some ρ → Go p l e (rmG 3 0 0) s m args below meth c D (AG G s.heap.size) 11 (MQ below ((QfI D dA (WM dA G ρ.2) ρ.1) (AG G s.heap.size)) args s 0 0 (AG G s.heap.size)) (WM dA G σ) 0 0 14 [(0, .ref (G 0)), (1, .int x1), (2, .int x2), (3, .int x3), (4, .int x4)] []) (K23 : ∀ (x1 : Int32) (x2 : Int32) (x3 : Int32) (x4 : Int32) (x5 : Int32) (σ : MS), k23 x1 x2 x3 x4 x5 σ = some ρ → Go p l e (rmG 3 0 0) s m args below meth c D (AG G s.heap.size) 11 (MQ below ((QfI D dA (WM dA G ρ.2) ρ.1) (AG G s.heap.size)) args s 0 0 (AG G s.heap.size)) (WM dA G σ) 0 0 23 [(0, .ref (G 0)), (1, .int x1), (2, .int x2), (3, .int x3), (4, .int x4), (5, .int x5)] []) (K58 : ∀ (x1 : Int32) (x2 : Int32) (x3 : Int32) (x4 : Int32) (x5 : Int32) (x6 : Int32) (x7 : Int32) (x8 : Int32) (x9 : Int32) (σ : MS), k58 x1 x2 x3 x4 x5 x6 x7 x8 x9 σ = some ρ → Go p l e (rmG 3 0 0) s m args below meth c D (AG G s.heap.size) 11 (MQ below ((QfI D dA (WM dA G ρ.2) ρ.1) (AG G s.heap.size)) args s 0 0 (AG G s.heap.size)) (WM dA G σ) 0 0 58 [(0, .ref (G 0)), (1, .int x1), (2, .int x2), (3, .int x3), (4, .int x4), (5, .int x5), (6, .int x6), (7, .int x7), (8, .int x8), (9, .int x9)] []) : ∀ (x1 : Int32) (x2 : Int32) (x3 : Int32) (x4 : Int32) (x5 : Int32) (x6 : Int32) (x8 : Int32) (x9 : Int32) (x10 : Int32) (y0 : Int32) (σ : MS), M_shared_111 k14 k23 k58 x1 x2 x3 x4 x5 x6 x8 x9 x10 y0 σ = some ρ → Go p l e (rmG 3 0 0) s m args below meth c D (AG G s.heap.size) 11 (MQ below ((QfI D dA (WM dA G ρ.2) ρ.1) (AG G s.heap.size)) args s 0 0 (AG G s.heap.size)) (WM dA G σ) 0 0 111 [(0, .ref (G 0)), (1, .int x1), (2, .int x2), (3, .int x3), (4, .int x4), (5, .int x5), (6, .int x6), (8, .int x8), (9, .int x9), (10, .int x10)] [.int y0] := by
  intro x1 x2 x3 x4 x5 x6 x8 x9 x10 y0 σ h
  unfold M_shared_111 at h
  refine zg_istore (lv' := [(7, .int y0), (0, .ref (G 0)), (1, .int x1), (2, .int x2), (3, .int x3), (4, .int x4), (5, .int x5), (6, .int x6), (8, .int x8), (9, .int x9), (10, .int x10)]) hO dX4_shared_111 (Nat.le_of_ble_eq_true rfl) rfl ?_
  refine zg_iload hO 8 dX4_shared_113 rfl ?_
  refine zg_if_ne (tgt := 123) hO h dX4_shared_115 (by decide) (fun h => ?_) (fun h => ?_)
  · exact zg_sub [1, 2, 3, 4, 5, 6, 7, 0, 9] rfl (w_M_shared_123 hO hr K14 K23 K58 _ _ _ _ _ _ _ _ _ h)
  · refine zg_iload hO 10 dX4_shared_118 rfl ?_
    refine zg_if_eq (tgt := 127) hO h dX4_shared_120 (by decide) (fun h => ?_) (fun h => ?_)
    · refine zg_iconst hO dX4_shared_127 ic0 ?_
      exact zg_sub [1, 2, 3, 4, 5, 6, 7, 0, 9] rfl (w_M_shared_128 hO hr K14 K23 K58 _ _ _ _ _ _ _ _ _ _ h)
    · exact zg_sub [1, 2, 3, 4, 5, 6, 7, 0, 9] rfl (w_M_shared_123 hO hr K14 K23 K58 _ _ _ _ _ _ _ _ _ h)
set_option maxHeartbeats 4000000 in
theorem w_M_shared_106 (hO : Ok p s m args meth c cX4_shared RX4 11 D dA (AG G s.heap.size)) (hr : meth.sig.returnType = (some .int)) {ρ : Int32 × MS} {k14 : Int32 → Int32 → Int32 → Int32 → MS → Option (Int32 × MS)} {k23 : Int32 → Int32 → Int32 → Int32 → Int32 → MS → Option (Int32 × MS)} {k58 : Int32 → Int32 → Int32 → Int32 → Int32 → Int32 → Int32 → Int32 → Int32 → MS → Option (Int32 × MS)} (K14 : ∀ (x1 : Int32) (x2 : Int32) (x3 : Int32) (x4 : Int32) (σ : MS), k14 x1 x2 x3 x4 σ = some ρ → Go p l e (rmG 3 0 0) s m args below meth c D (AG G s.heap.size) 11 (MQ below ((QfI D dA (WM dA G ρ.2) ρ.1) (AG G s.heap.size)) args s 0 0 (AG G s.heap.size)) (WM dA G σ) 0 0 14 [(0, .ref (G 0)), (1, .int x1), (2, .int x2), (3, .int x3), (4, .int x4)] []) (K23 : ∀ (x1 : Int32) (x2 : Int32) (x3 : Int32) (x4 : Int32) (x5 : Int32) (σ : MS), k23 x1 x2 x3 x4 x5 σ = some ρ → Go p l e (rmG 3 0 0) s m args below meth c D (AG G s.heap.size) 11 (MQ below ((QfI D dA (WM dA G ρ.2) ρ.1) (AG G s.heap.size)) args s 0 0 (AG G s.heap.size)) (WM dA G σ) 0 0 23 [(0, .ref (G 0)), (1, .int x1), (2, .int x2), (3, .int x3), (4, .int x4), (5, .int x5)] []) (K58 : ∀ (x1 : Int32) (x2 : Int32) (x3 : Int32) (x4 : Int32) (x5 : Int32) (x6 : Int32) (x7 : Int32) (x8 : Int32) (x9 : Int32) (σ : MS), k58 x1 x2 x3 x4 x5 x6 x7 x8 x9 σ = some ρ → Go p l e (rmG 3 0 0) s m args below meth c D (AG G s.heap.size) 11 (MQ below ((QfI D dA (WM dA G ρ.2) ρ.1) (AG G s.heap.size)) args s 0 0 (AG G s.heap.size)) (WM dA G σ) 0 0 58 [(0, .ref (G 0)), (1, .int x1), (2, .int x2), (3, .int x3), (4, .int x4), (5, .int x5), (6, .int x6), (7, .int x7), (8, .int x8), (9, .int x9)] []) : ∀ (x1 : Int32) (x2 : Int32) (x3 : Int32) (x4 : Int32) (x5 : Int32) (x6 : Int32) (x8 : Int32) (x9 : Int32) (x10 : Int32) (σ : MS), M_shared_106 k14 k23 k58 x1 x2 x3 x4 x5 x6 x8 x9 x10 σ = some ρ → Go p l e (rmG 3 0 0) s m args below meth c D (AG G s.heap.size) 11 (MQ below ((QfI D dA (WM dA G ρ.2) ρ.1) (AG G s.heap.size)) args s 0 0 (AG G s.heap.size)) (WM dA G σ) 0 0 106 [(0, .ref (G 0)), (1, .int x1), (2, .int x2), (3, .int x3), (4, .int x4), (5, .int x5), (6, .int x6), (8, .int x8), (9, .int x9), (10, .int x10)] [] := by
  intro x1 x2 x3 x4 x5 x6 x8 x9 x10 σ h
  unfold M_shared_106 at h
  refine zg_iconst hO dX4_shared_106 ic1 ?_
  refine zg_goto (tgt := 111) hO dX4_shared_107 (by decide) ?_
  exact zg_sub [0, 1, 2, 3, 4, 5, 6, 7, 8, 9] rfl (w_M_shared_111 hO hr K14 K23 K58 _ _ _ _ _ _ _ _ _ _ _ h)
set_option maxHeartbeats 4000000 in
theorem w_M_shared_110 (hO : Ok p s m args meth c cX4_shared RX4 11 D dA (AG G s.heap.size)) (hr : meth.sig.returnType = (some .int)) {ρ : Int32 × MS} {k14 : Int32 → Int32 → Int32 → Int32 → MS → Option (Int32 × MS)} {k23 : Int32 → Int32 → Int32 → Int32 → Int32 → MS → Option (Int32 × MS)} {k58 : Int32 → Int32 → Int32 → Int32 → Int32 → Int32 → Int32 → Int32 → Int32 → MS → Option (Int32 × MS)} (K14 : ∀ (x1 : Int32) (x2 : Int32) (x3 : Int32) (x4 : Int32) (σ : MS), k14 x1 x2 x3 x4 σ = some ρ → Go p l e (rmG 3 0 0) s m args below meth c D (AG G s.heap.size) 11 (MQ below ((QfI D dA (WM dA G ρ.2) ρ.1) (AG G s.heap.size)) args s 0 0 (AG G s.heap.size)) (WM dA G σ) 0 0 14 [(0, .ref (G 0)), (1, .int x1), (2, .int x2), (3, .int x3), (4, .int x4)] []) (K23 : ∀ (x1 : Int32) (x2 : Int32) (x3 : Int32) (x4 : Int32) (x5 : Int32) (σ : MS), k23 x1 x2 x3 x4 x5 σ = some ρ → Go p l e (rmG 3 0 0) s m args below meth c D (AG G s.heap.size) 11 (MQ below ((QfI D dA (WM dA G ρ.2) ρ.1) (AG G s.heap.size)) args s 0 0 (AG G s.heap.size)) (WM dA G σ) 0 0 23 [(0, .ref (G 0)), (1, .int x1), (2, .int x2), (3, .int x3), (4, .int x4), (5, .int x5)] []) (K58 : ∀ (x1 : Int32) (x2 : Int32) (x3 : Int32) (x4 : Int32) (x5 : Int32) (x6 : Int32) (x7 : Int32) (x8 : Int32) (x9 : Int32) (σ : MS), k58 x1 x2 x3 x4 x5 x6 x7 x8 x9 σ = some ρ → Go p l e (rmG 3 0 0) s m args below meth c D (AG G s.heap.size) 11 (MQ below ((QfI D dA (WM dA G ρ.2) ρ.1) (AG G s.heap.size)) args s 0 0 (AG G s.heap.size)) (WM dA G σ) 0 0 58 [(0, .ref (G 0)), (1, .int x1), (2, .int x2), (3, .int x3), (4, .int x4), (5, .int x5), (6, .int x6), (7, .int x7), (8, .int x8), (9, .int x9)] []) : ∀ (x1 : Int32) (x2 : Int32) (x3 : Int32) (x4 : Int32) (x5 : Int32) (x6 : Int32) (x8 : Int32) (x9 : Int32) (x10 : Int32) (σ : MS), M_shared_110 k14 k23 k58 x1 x2 x3 x4 x5 x6 x8 x9 x10 σ = some ρ → Go p l e (rmG 3 0 0) s m args below meth c D (AG G s.heap.size) 11 (MQ below ((QfI D dA (WM dA G ρ.2) ρ.1) (AG G s.heap.size)) args s 0 0 (AG G s.heap.size)) (WM dA G σ) 0 0 110 [(0, .ref (G 0)), (1, .int x1), (2, .int x2), (3, .int x3), (4, .int x4), (5, .int x5), (6, .int x6), (8, .int x8), (9, .int x9), (10, .int x10)] [] := by
  intro x1 x2 x3 x4 x5 x6 x8 x9 x10 σ h
  unfold M_shared_110 at h
  refine zg_iconst hO dX4_shared_110 ic0 ?_
  exact zg_sub [0, 1, 2, 3, 4, 5, 6, 7, 8, 9] rfl (w_M_shared_111 hO hr K14 K23 K58 _ _ _ _ _ _ _ _ _ _ _ h)
set_option maxHeartbeats 4000000 in
theorem w_M_shared_87 (hO : Ok p s m args meth c cX4_shared RX4 11 D dA (AG G s.heap.size)) (hr : meth.sig.returnType = (some .int)) {ρ : Int32 × MS} {k14 : Int32 → Int32 → Int32 → Int32 → MS → Option (Int32 × MS)} {k23 : Int32 → Int32 → Int32 → Int32 → Int32 → MS → Option (Int32 × MS)} {k58 : Int32 → Int32 → Int32 → Int32 → Int32 → Int32 → Int32 → Int32 → Int32 → MS → Option (Int32 × MS)} (K14 : ∀ (x1 : Int32) (x2 : Int32) (x3 : Int32) (x4 : Int32) (σ : MS), k14 x1 x2 x3 x4 σ = some ρ → Go p l e (rmG 3 0 0) s m args below meth c D (AG G s.heap.size) 11 (MQ below ((QfI D dA (WM dA G ρ.2) ρ.1) (AG G s.heap.size)) args s 0 0 (AG G s.heap.size)) (WM dA G σ) 0 0 14 [(0, .ref (G 0)), (1, .int x1), (2, .int x2), (3, .int x3), (4, .int x4)] []) (K23 : ∀ (x1 : Int32) (x2 : Int32) (x3 : Int32) (x4 : Int32) (x5 : Int32) (σ : MS), k23 x1 x2 x3 x4 x5 σ = some ρ → Go p l e (rmG 3 0 0) s m args below meth c D (AG G s.heap.size) 11 (MQ below ((QfI D dA (WM dA G ρ.2) ρ.1) (AG G s.heap.size)) args s 0 0 (AG G s.heap.size)) (WM dA G σ) 0 0 23 [(0, .ref (G 0)), (1, .int x1), (2, .int x2), (3, .int x3), (4, .int x4), (5, .int x5)] []) (K58 : ∀ (x1 : Int32) (x2 : Int32) (x3 : Int32) (x4 : Int32) (x5 : Int32) (x6 : Int32) (x7 : Int32) (x8 : Int32) (x9 : Int32) (σ : MS), k58 x1 x2 x3 x4 x5 x6 x7 x8 x9 σ = some ρ → Go p l e (rmG 3 0 0) s m args below meth c D (AG G s.heap.size) 11 (MQ below ((QfI D dA (WM dA G ρ.2) ρ.1) (AG G s.heap.size)) args s 0 0 (AG G s.heap.size)) (WM dA G σ) 0 0 58 [(0, .ref (G 0)), (1, .int x1), (2, .int x2), (3, .int x3), (4, .int x4), (5, .int x5), (6, .int x6), (7, .int x7), (8, .int x8), (9, .int x9)] []) : ∀ (x1 : Int32) (x2 : Int32) (x3 : Int32) (x4 : Int32) (x5 : Int32) (x6 : Int32) (x7 : Int32) (x8 : Int32) (x9 : Int32) (y0 : Int32) (σ : MS), M_shared_87 k14 k23 k58 x1 x2 x3 x4 x5 x6 x7 x8 x9 y0 σ = some ρ → Go p l e (rmG 3 0 0) s m args below meth c D (AG G s.heap.size) 11 (MQ below ((QfI D dA (WM dA G ρ.2) ρ.1) (AG G s.heap.size)) args s 0 0 (AG G s.heap.size)) (WM dA G σ) 0 0 87 [(0, .ref (G 0)), (1, .int x1), (2, .int x2), (3, .int x3), (4, .int x4), (5, .int x5), (6, .int x6), (7, .int x7), (8, .int x8), (9, .int x9)] [.int y0] := by
  intro x1 x2 x3 x4 x5 x6 x7 x8 x9 y0 σ h
  unfold M_shared_87 at h
  refine zg_istore (lv' := [(10, .int y0), (0, .ref (G 0)), (1, .int x1), (2, .int x2), (3, .int x3), (4, .int x4), (5, .int x5), (6, .int x6), (7, .int x7), (8, .int x8), (9, .int x9)]) hO dX4_shared_87 (Nat.le_of_ble_eq_true rfl) rfl ?_
  refine zg_iload hO 8 dX4_shared_89 rfl ?_
  refine zg_if_eq (tgt := 110) hO h dX4_shared_91 (by decide) (fun h => ?_) (fun h => ?_)
  · exact zg_sub [1, 2, 3, 4, 5, 6, 7, 9, 10, 0] rfl (w_M_shared_110 hO hr K14 K23 K58 _ _ _ _ _ _ _ _ _ _ h)
  · refine zg_iload hO 0 dX4_shared_94 rfl ?_
    refine zg_if_eq (tgt := 106) hO h dX4_shared_96 (by decide) (fun h => ?_) (fun h => ?_)
    · exact zg_sub [1, 2, 3, 4, 5, 6, 7, 9, 10, 0] rfl (w_M_shared_106 hO hr K14 K23 K58 _ _ _ _ _ _ _ _ _ _ h)
    · refine zg_iload hO 10 dX4_shared_99 rfl ?_
      refine zg_iload hO 5 dX4_shared_101 rfl ?_
      refine zg_icmp_lt (tgt := 110) hO h dX4_shared_103 (by decide) (fun h => ?_) (fun h => ?_)
      · exact zg_sub [1, 2, 3, 4, 5, 6, 7, 9, 10, 0] rfl (w_M_shared_110 hO hr K14 K23 K58 _ _ _ _ _ _ _ _ _ _ h)
      · exact zg_sub [1, 2, 3, 4, 5, 6, 7, 9, 10, 0] rfl (w_M_shared_106 hO hr K14 K23 K58 _ _ _ _ _ _ _ _ _ _ h)
set_option maxHeartbeats 4000000 in
theorem w_M_shared_86 (hO : Ok p s m args meth c cX4_shared RX4 11 D dA (AG G s.heap.size)) (hr : meth.sig.returnType = (some .int)) {ρ : Int32 × MS} {k14 : Int32 → Int32 → Int32 → Int32 → MS → Option (Int32 × MS)} {k23 : Int32 → Int32 → Int32 → Int32 → Int32 → MS → Option (Int32 × MS)} {k58 : Int32 → Int32 → Int32 → Int32 → Int32 → Int32 → Int32 → Int32 → Int32 → MS → Option (Int32 × MS)} (K14 : ∀ (x1 : Int32) (x2 : Int32) (x3 : Int32) (x4 : Int32) (σ : MS), k14 x1 x2 x3 x4 σ = some ρ → Go p l e (rmG 3 0 0) s m args below meth c D (AG G s.heap.size) 11 (MQ below ((QfI D dA (WM dA G ρ.2) ρ.1) (AG G s.heap.size)) args s 0 0 (AG G s.heap.size)) (WM dA G σ) 0 0 14 [(0, .ref (G 0)), (1, .int x1), (2, .int x2), (3, .int x3), (4, .int x4)] []) (K23 : ∀ (x1 : Int32) (x2 : Int32) (x3 : Int32) (x4 : Int32) (x5 : Int32) (σ : MS), k23 x1 x2 x3 x4 x5 σ = some ρ → Go p l e (rmG 3 0 0) s m args below meth c D (AG G s.heap.size) 11 (MQ below ((QfI D dA (WM dA G ρ.2) ρ.1) (AG G s.heap.size)) args s 0 0 (AG G s.heap.size)) (WM dA G σ) 0 0 23 [(0, .ref (G 0)), (1, .int x1), (2, .int x2), (3, .int x3), (4, .int x4), (5, .int x5)] []) (K58 : ∀ (x1 : Int32) (x2 : Int32) (x3 : Int32) (x4 : Int32) (x5 : Int32) (x6 : Int32) (x7 : Int32) (x8 : Int32) (x9 : Int32) (σ : MS), k58 x1 x2 x3 x4 x5 x6 x7 x8 x9 σ = some ρ → Go p l e (rmG 3 0 0) s m args below meth c D (AG G s.heap.size) 11 (MQ below ((QfI D dA (WM dA G ρ.2) ρ.1) (AG G s.heap.size)) args s 0 0 (AG G s.heap.size)) (WM dA G σ) 0 0 58 [(0, .ref (G 0)), (1, .int x1), (2, .int x2), (3, .int x3), (4, .int x4), (5, .int x5), (6, .int x6), (7, .int x7), (8, .int x8), (9, .int x9)] []) : ∀ (x1 : Int32) (x2 : Int32) (x3 : Int32) (x4 : Int32) (x5 : Int32) (x6 : Int32) (x7 : Int32) (x8 : Int32) (x9 : Int32) (σ : MS), M_shared_86 k14 k23 k58 x1 x2 x3 x4 x5 x6 x7 x8 x9 σ = some ρ → Go p l e (rmG 3 0 0) s m args below meth c D (AG G s.heap.size) 11 (MQ below ((QfI D dA (WM dA G ρ.2) ρ.1) (AG G s.heap.size)) args s 0 0 (AG G s.heap.size)) (WM dA G σ) 0 0 86 [(0, .ref (G 0)), (1, .int x1), (2, .int x2), (3, .int x3), (4, .int x4), (5, .int x5), (6, .int x6), (7, .int x7), (8, .int x8), (9, .int x9)] [] := by
  intro x1 x2 x3 x4 x5 x6 x7 x8 x9 σ h
  unfold M_shared_86 at h
  refine zg_iconst hO dX4_shared_86 ic0 ?_
  exact zg_sub [0, 1, 2, 3, 4, 5, 6, 7, 8, 9] rfl (w_M_shared_87 hO hr K14 K23 K58 _ _ _ _ _ _ _ _ _ _ _ h)
set_option maxHeartbeats 4000000 in
theorem w_M_shared_160 (hO : Ok p s m args meth c cX4_shared RX4 11 D dA (AG G s.heap.size)) (hr : meth.sig.returnType = (some .int)) {ρ : Int32 × MS} {k14 : Int32 → Int32 → Int32 → Int32 → MS → Option (Int32 × MS)} {k23 : Int32 → Int32 → Int32 → Int32 → Int32 → MS → Option (Int32 × MS)} (K14 : ∀ (x1 : Int32) (x2 : Int32) (x3 : Int32) (x4 : Int32) (σ : MS), k14 x1 x2 x3 x4 σ = some ρ → Go p l e (rmG 3 0 0) s m args below meth c D (AG G s.heap.size) 11 (MQ below ((QfI D dA (WM dA G ρ.2) ρ.1) (AG G s.heap.size)) args s 0 0 (AG G s.heap.size)) (WM dA G σ) 0 0 14 [(0, .ref (G 0)), (1, .int x1), (2, .int x2), (3, .int x3), (4, .int x4)] []) (K23 : ∀ (x1 : Int32) (x2 : Int32) (x3 : Int32) (x4 : Int32) (x5 : Int32) (σ : MS), k23 x1 x2 x3 x4 x5 σ = some ρ → Go p l e (rmG 3 0 0) s m args below meth c D (AG G s.heap.size) 11 (MQ below ((QfI D dA (WM dA G ρ.2) ρ.1) (AG G s.heap.size)) args s 0 0 (AG G s.heap.size)) (WM dA G σ) 0 0 23 [(0, .ref (G 0)), (1, .int x1), (2, .int x2), (3, .int x3), (4, .int x4), (5, .int x5)] []) : ∀ (x1 : Int32) (x3 : Int32) (x4 : Int32) (x5 : Int32) (y0 : Int32) (y1 : Int32) (σ : MS), M_shared_160 k14 k23 x1 x3 x4 x5 y0 y1 σ = some ρ → Go p l e (rmG 3 0 0) s m args below meth c D (AG G s.heap.size) 11 (MQ below ((QfI D dA (WM dA G ρ.2) ρ.1) (AG G s.heap.size)) args s 0 0 (AG G s.heap.size)) (WM dA G σ) 0 0 160 [(0, .ref (G 0)), (1, .int x1), (3, .int x3), (4, .int x4), (5, .int x5)] [.int y0, .int y1] := by
  intro x1 x3 x4 x5 y0 y1 σ h
  unfold M_shared_160 at h
  refine zs_calli (As := [.int y0]) (rest := [.int y1]) hO h (fun q hq => m_flag l D dA hq) mw_X4_flag q1835 ⟨Nat.le_of_ble_eq_true rfl, Nat.le_of_ble_eq_true rfl⟩ ⟨Nat.le_refl _, Nat.le_refl _⟩ rfl rfl (Nat.le_of_ble_eq_true rfl) dX4_shared_160 (fun q7 h => ?_)
  refine zg_iadd hO dX4_shared_163 ?_
  refine zg_istore_n (lv' := [(2, .int (y1 + q7)), (0, .ref (G 0)), (1, .int x1), (3, .int x3), (4, .int x4), (5, .int x5)]) hO dX4_shared_164 rfl (Nat.le_of_ble_eq_true rfl) rfl ?_
  refine zg_iinc (k := 3) (lv' := [(3, .int (x3 + (nI 1))), (2, .int (y1 + q7)), (0, .ref (G 0)), (1, .int x1), (4, .int x4), (5, .int x5)]) hO dX4_shared_165 rfl (zii ic1) (Nat.le_of_ble_eq_true rfl) rfl ?_
  refine zg_iinc (k := 5) (lv' := [(5, .int (x5 + (nI 1))), (3, .int (x3 + (nI 1))), (2, .int (y1 + q7)), (0, .ref (G 0)), (1, .int x1), (4, .int x4)]) hO dX4_shared_168 rfl (zii ic1) (Nat.le_of_ble_eq_true rfl) rfl ?_
  refine zg_goto (tgt := 23) hO dX4_shared_171 (by decide) ?_
  exact zg_sub [3, 4, 2, 1, 5, 0] rfl (K23 _ _ _ _ _ _ h)
set_option maxHeartbeats 4000000 in
theorem w_M_shared_159 (hO : Ok p s m args meth c cX4_shared RX4 11 D dA (AG G s.heap.size)) (hr : meth.sig.returnType = (some .int)) {ρ : Int32 × MS} {k14 : Int32 → Int32 → Int32 → Int32 → MS → Option (Int32 × MS)} {k23 : Int32 → Int32 → Int32 → Int32 → Int32 → MS → Option (Int32 × MS)} (K14 : ∀ (x1 : Int32) (x2 : Int32) (x3 : Int32) (x4 : Int32) (σ : MS), k14 x1 x2 x3 x4 σ = some ρ → Go p l e (rmG 3 0 0) s m args below meth c D (AG G s.heap.size) 11 (MQ below ((QfI D dA (WM dA G ρ.2) ρ.1) (AG G s.heap.size)) args s 0 0 (AG G s.heap.size)) (WM dA G σ) 0 0 14 [(0, .ref (G 0)), (1, .int x1), (2, .int x2), (3, .int x3), (4, .int x4)] []) (K23 : ∀ (x1 : Int32) (x2 : Int32) (x3 : Int32) (x4 : Int32) (x5 : Int32) (σ : MS), k23 x1 x2 x3 x4 x5 σ = some ρ → Go p l e (rmG 3 0 0) s m args below meth c D (AG G s.heap.size) 11 (MQ below ((QfI D dA (WM dA G ρ.2) ρ.1) (AG G s.heap.size)) args s 0 0 (AG G s.heap.size)) (WM dA G σ) 0 0 23 [(0, .ref (G 0)), (1, .int x1), (2, .int x2), (3, .int x3), (4, .int x4), (5, .int x5)] []) : ∀ (x1 : Int32) (x3 : Int32) (x4 : Int32) (x5 : Int32) (y0 : Int32) (σ : MS), M_shared_159 k14 k23 x1 x3 x4 x5 y0 σ = some ρ → Go p l e (rmG 3 0 0) s m args below meth c D (AG G s.heap.size) 11 (MQ below ((QfI D dA (WM dA G ρ.2) ρ.1) (AG G s.heap.size)) args s 0 0 (AG G s.heap.size)) (WM dA G σ) 0 0 159 [(0, .ref (G 0)), (1, .int x1), (3, .int x3), (4, .int x4), (5, .int x5)] [.int y0] := by
  intro x1 x3 x4 x5 y0 σ h
  unfold M_shared_159 at h
  refine zg_iconst hO dX4_shared_159 ic0 ?_
  exact zg_sub [0, 1, 2, 3, 4] rfl (w_M_shared_160 hO hr K14 K23 _ _ _ _ _ _ _ h)
set_option maxHeartbeats 4000000 in
theorem w_M_shared_58 (hO : Ok p s m args meth c cX4_shared RX4 11 D dA (AG G s.heap.size)) (hr : meth.sig.returnType = (some .int)) {ρ : Int32 × MS} {k14 : Int32 → Int32 → Int32 → Int32 → MS → Option (Int32 × MS)} {k23 : Int32 → Int32 → Int32 → Int32 → Int32 → MS → Option (Int32 × MS)} (K14 : ∀ (x1 : Int32) (x2 : Int32) (x3 : Int32) (x4 : Int32) (σ : MS), k14 x1 x2 x3 x4 σ = some ρ → Go p l e (rmG 3 0 0) s m args below meth c D (AG G s.heap.size) 11 (MQ below ((QfI D dA (WM dA G ρ.2) ρ.1) (AG G s.heap.size)) args s 0 0 (AG G s.heap.size)) (WM dA G σ) 0 0 14 [(0, .ref (G 0)), (1, .int x1), (2, .int x2), (3, .int x3), (4, .int x4)] []) (K23 : ∀ (x1 : Int32) (x2 : Int32) (x3 : Int32) (x4 : Int32) (x5 : Int32) (σ : MS), k23 x1 x2 x3 x4 x5 σ = some ρ → Go p l e (rmG 3 0 0) s m args below meth c D (AG G s.heap.size) 11 (MQ below ((QfI D dA (WM dA G ρ.2) ρ.1) (AG G s.heap.size)) args s 0 0 (AG G s.heap.size)) (WM dA G σ) 0 0 23 [(0, .ref (G 0)), (1, .int x1), (2, .int x2), (3, .int x3), (4, .int x4), (5, .int x5)] []) : ∀ (n : Nat) (x1 : Int32) (x2 : Int32) (x3 : Int32) (x4 : Int32) (x5 : Int32) (x6 : Int32) (x7 : Int32) (x8 : Int32) (x9 : Int32) (σ : MS), M_shared_58 k14 k23 n x1 x2 x3 x4 x5 x6 x7 x8 x9 σ = some ρ → Go p l e (rmG 3 0 0) s m args below meth c D (AG G s.heap.size) 11 (MQ below ((QfI D dA (WM dA G ρ.2) ρ.1) (AG G s.heap.size)) args s 0 0 (AG G s.heap.size)) (WM dA G σ) 0 0 58 [(0, .ref (G 0)), (1, .int x1), (2, .int x2), (3, .int x3), (4, .int x4), (5, .int x5), (6, .int x6), (7, .int x7), (8, .int x8), (9, .int x9)] [] := by
  intro n
  induction n with
  | zero =>
    intro x1 x2 x3 x4 x5 x6 x7 x8 x9 σ h
    rw [M_shared_58] at h
    cases h
  | succ n ih =>
    intro x1 x2 x3 x4 x5 x6 x7 x8 x9 σ h
    rw [M_shared_58] at h
    refine zg_iload hO 9 dX4_shared_58 rfl ?_
    refine zg_iconst hO dX4_shared_60 ic4 ?_
    refine zg_icmp_ge (tgt := 136) hO h dX4_shared_61 (by decide) (fun h => ?_) (fun h => ?_)
    · refine zg_iload_n hO 1 dX4_shared_136 rfl rfl ?_
      refine zg_iload hO 7 dX4_shared_137 rfl ?_
      refine zs_calli (As := [.int x7]) (rest := [.int x1]) hO h (fun q hq => m_flag l D dA hq) mw_X4_flag q1835 ⟨Nat.le_of_ble_eq_true rfl, Nat.le_of_ble_eq_true rfl⟩ ⟨Nat.le_refl _, Nat.le_refl _⟩ rfl rfl (Nat.le_of_ble_eq_true rfl) dX4_shared_139 (fun q5 h => ?_)
      refine zg_iadd hO dX4_shared_142 ?_
      refine zg_istore_n (lv' := [(1, .int (x1 + q5)), (0, .ref (G 0)), (2, .int x2), (3, .int x3), (4, .int x4), (5, .int x5), (6, .int x6), (7, .int x7), (8, .int x8), (9, .int x9)]) hO dX4_shared_143 rfl (Nat.le_of_ble_eq_true rfl) rfl ?_
      refine zg_iload_n hO 2 dX4_shared_144 rfl rfl ?_
      refine zg_iload hO 7 dX4_shared_145 rfl ?_
      refine zg_if_eq (tgt := 159) hO h dX4_shared_147 (by decide) (fun h => ?_) (fun h => ?_)
      · exact zg_sub [1, 0, 3, 4, 5] rfl (w_M_shared_159 hO hr K14 K23 _ _ _ _ _ _ h)
      · refine zg_iload hO 8 dX4_shared_150 rfl ?_
        refine zg_if_eq (tgt := 159) hO h dX4_shared_152 (by decide) (fun h => ?_) (fun h => ?_)
        · exact zg_sub [1, 0, 3, 4, 5] rfl (w_M_shared_159 hO hr K14 K23 _ _ _ _ _ _ h)
        · refine zg_iconst hO dX4_shared_155 ic1 ?_
          refine zg_goto (tgt := 160) hO dX4_shared_156 (by decide) ?_
          exact zg_sub [1, 0, 3, 4, 5] rfl (w_M_shared_160 hO hr K14 K23 _ _ _ _ _ _ _ h)
    · refine zg_iload hO 9 dX4_shared_64 rfl ?_
      refine zg_iload hO 4 dX4_shared_66 rfl ?_
      refine zg_icmp_eq (tgt := 86) hO h dX4_shared_68 (by decide) (fun h => ?_) (fun h => ?_)
      · exact zg_sub [0, 1, 2, 3, 4, 5, 6, 7, 8, 9] rfl (w_M_shared_86 hO hr K14 K23 ih _ _ _ _ _ _ _ _ _ _ h)
      · refine zg_aload_n hO 0 dX4_shared_71 rfl rfl ?_
        refine zg_iload hO 9 dX4_shared_72 rfl ?_
        refine zg_iload hO 6 dX4_shared_74 rfl ?_
        refine zm_callVi (As := [.int x9, .int x6]) (rest := []) hO h (fun q hq => m_hasCell l D dA G hq) mw_X4_hasCell q2125 ⟨Nat.le_of_ble_eq_true rfl, Nat.le_of_ble_eq_true rfl⟩ rfl rfl (Nat.le_of_ble_eq_true rfl) dX4_shared_76 (fun q6 h => ?_)
        refine zg_if_eq (tgt := 86) hO h dX4_shared_79 (by decide) (fun h => ?_) (fun h => ?_)
        · exact zg_sub [0, 1, 2, 3, 4, 5, 6, 7, 8, 9] rfl (w_M_shared_86 hO hr K14 K23 ih _ _ _ _ _ _ _ _ _ _ h)
        · refine zg_iconst hO dX4_shared_82 ic1 ?_
          refine zg_goto (tgt := 87) hO dX4_shared_83 (by decide) ?_
          exact zg_sub [0, 1, 2, 3, 4, 5, 6, 7, 8, 9] rfl (w_M_shared_87 hO hr K14 K23 ih _ _ _ _ _ _ _ _ _ _ _ h)
set_option maxHeartbeats 4000000 in
theorem w_M_shared_23 (hO : Ok p s m args meth c cX4_shared RX4 11 D dA (AG G s.heap.size)) (hr : meth.sig.returnType = (some .int)) {ρ : Int32 × MS} {k14 : Int32 → Int32 → Int32 → Int32 → MS → Option (Int32 × MS)} (K14 : ∀ (x1 : Int32) (x2 : Int32) (x3 : Int32) (x4 : Int32) (σ : MS), k14 x1 x2 x3 x4 σ = some ρ → Go p l e (rmG 3 0 0) s m args below meth c D (AG G s.heap.size) 11 (MQ below ((QfI D dA (WM dA G ρ.2) ρ.1) (AG G s.heap.size)) args s 0 0 (AG G s.heap.size)) (WM dA G σ) 0 0 14 [(0, .ref (G 0)), (1, .int x1), (2, .int x2), (3, .int x3), (4, .int x4)] []) : ∀ (n : Nat) (x1 : Int32) (x2 : Int32) (x3 : Int32) (x4 : Int32) (x5 : Int32) (σ : MS), M_shared_23 k14 n x1 x2 x3 x4 x5 σ = some ρ → Go p l e (rmG 3 0 0) s m args below meth c D (AG G s.heap.size) 11 (MQ below ((QfI D dA (WM dA G ρ.2) ρ.1) (AG G s.heap.size)) args s 0 0 (AG G s.heap.size)) (WM dA G σ) 0 0 23 [(0, .ref (G 0)), (1, .int x1), (2, .int x2), (3, .int x3), (4, .int x4), (5, .int x5)] [] := by
  intro n
  induction n with
  | zero =>
    intro x1 x2 x3 x4 x5 σ h
    rw [M_shared_23] at h
    cases h
  | succ n ih =>
    intro x1 x2 x3 x4 x5 σ h
    rw [M_shared_23] at h
    refine zg_iload hO 5 dX4_shared_23 rfl ?_
    refine zg_aload_n hO 0 dX4_shared_25 rfl rfl ?_
    refine zg_iload hO 4 dX4_shared_26 rfl ?_
    refine zm_callVi (As := [.int x4]) (rest := [.int x5]) hO h (fun q hq => m_sizeOf l D dA G hq) mw_X4_sizeOf q1896 ⟨Nat.le_of_ble_eq_true rfl, Nat.le_of_ble_eq_true rfl⟩ rfl rfl (Nat.le_of_ble_eq_true rfl) dX4_shared_28 (fun q3 h => ?_)
    refine zg_icmp_ge (tgt := 174) hO h dX4_shared_31 (by decide) (fun h => ?_) (fun h => ?_)
    · refine zg_iinc (k := 4) (lv' := [(4, .int (x4 + (nI 1))), (0, .ref (G 0)), (1, .int x1), (2, .int x2), (3, .int x3), (5, .int x5)]) hO dX4_shared_174 rfl (zii ic1) (Nat.le_of_ble_eq_true rfl) rfl ?_
      refine zg_goto (tgt := 14) hO dX4_shared_177 (by decide) ?_
      exact zg_sub [1, 2, 3, 4, 0] rfl (K14 _ _ _ _ _ h)
    · refine zg_aload_n hO 0 dX4_shared_34 rfl rfl ?_
      refine mG_69 hO dX4_shared_35 ?_
      refine zg_aload_n hO 0 dX4_shared_38 rfl rfl ?_
      refine zg_iload hO 4 dX4_shared_39 rfl ?_
      refine zg_iload hO 5 dX4_shared_41 rfl ?_
      refine zm_callVi (As := [.int x4, .int x5]) (rest := [.ref (G 10)]) hO h (fun q hq => m_placeOf l D dA G hq) mw_X4_placeOf q1904 ⟨Nat.le_of_ble_eq_true rfl, Nat.le_of_ble_eq_true rfl⟩ rfl rfl (Nat.le_of_ble_eq_true rfl) dX4_shared_43 (fun q4 h => ?_)
      refine mL_10 hO h dX4_shared_46 (fun h => ?_)
      refine zg_istore (lv' := [(6, .int (gA q4.2 6 q4.1.toNatClampNeg)), (0, .ref (G 0)), (1, .int x1), (2, .int x2), (3, .int x3), (4, .int x4), (5, .int x5)]) hO dX4_shared_47 (Nat.le_of_ble_eq_true rfl) rfl ?_
      refine zg_iconst hO dX4_shared_49 ic1 ?_
      refine zg_istore (lv' := [(7, .int (nI 1)), (6, .int (gA q4.2 6 q4.1.toNatClampNeg)), (0, .ref (G 0)), (1, .int x1), (2, .int x2), (3, .int x3), (4, .int x4), (5, .int x5)]) hO dX4_shared_50 (Nat.le_of_ble_eq_true rfl) rfl ?_
      refine zg_iconst hO dX4_shared_52 ic0 ?_
      refine zg_istore (lv' := [(8, .int (nI 0)), (7, .int (nI 1)), (6, .int (gA q4.2 6 q4.1.toNatClampNeg)), (0, .ref (G 0)), (1, .int x1), (2, .int x2), (3, .int x3), (4, .int x4), (5, .int x5)]) hO dX4_shared_53 (Nat.le_of_ble_eq_true rfl) rfl ?_
      refine zg_iconst hO dX4_shared_55 ic0 ?_
      refine zg_istore (lv' := [(9, .int (nI 0)), (8, .int (nI 0)), (7, .int (nI 1)), (6, .int (gA q4.2 6 q4.1.toNatClampNeg)), (0, .ref (G 0)), (1, .int x1), (2, .int x2), (3, .int x3), (4, .int x4), (5, .int x5)]) hO dX4_shared_56 (Nat.le_of_ble_eq_true rfl) rfl ?_
      exact zg_sub [4, 5, 6, 7, 8, 9, 3, 2, 1, 0] rfl (w_M_shared_58 hO hr K14 ih _ _ _ _ _ _ _ _ _ _ _ h)
set_option maxHeartbeats 4000000 in
theorem w_M_shared_14 (hO : Ok p s m args meth c cX4_shared RX4 11 D dA (AG G s.heap.size)) (hr : meth.sig.returnType = (some .int)) {ρ : Int32 × MS} : ∀ (n : Nat) (x1 : Int32) (x2 : Int32) (x3 : Int32) (x4 : Int32) (σ : MS), M_shared_14 n x1 x2 x3 x4 σ = some ρ → Go p l e (rmG 3 0 0) s m args below meth c D (AG G s.heap.size) 11 (MQ below ((QfI D dA (WM dA G ρ.2) ρ.1) (AG G s.heap.size)) args s 0 0 (AG G s.heap.size)) (WM dA G σ) 0 0 14 [(0, .ref (G 0)), (1, .int x1), (2, .int x2), (3, .int x3), (4, .int x4)] [] := by
  intro n
  induction n with
  | zero =>
    intro x1 x2 x3 x4 σ h
    rw [M_shared_14] at h
    cases h
  | succ n ih =>
    intro x1 x2 x3 x4 σ h
    rw [M_shared_14] at h
    refine zg_iload hO 4 dX4_shared_14 rfl ?_
    refine zg_iconst hO dX4_shared_16 ic4 ?_
    refine zg_icmp_ge (tgt := 180) hO h dX4_shared_17 (by decide) (fun h => ?_) (fun h => ?_)
    · refine zg_aload_n hO 0 dX4_shared_180 rfl rfl ?_
      refine zg_iconst hO dX4_shared_181 ic0 ?_
      refine mP_11 hO dX4_shared_182 ?_
      refine zg_aload_n hO 0 dX4_shared_185 rfl rfl ?_
      refine zg_iload_n hO 2 dX4_shared_186 rfl rfl ?_
      refine zg_i2l hO dX4_shared_187 ?_
      refine zm_callVv (As := [.long (x2.toInt64)]) (rest := []) hO h (fun q hq => m_enters l D dA G hq) mw_X4_enters q1856 ⟨Nat.le_of_ble_eq_true rfl, Nat.le_of_ble_eq_true rfl⟩ rfl rfl (Nat.le_of_ble_eq_true rfl) dX4_shared_188 (fun q1 h => ?_)
      refine zg_aload_n hO 0 dX4_shared_191 rfl rfl ?_
      refine zg_iload_n hO 3 dX4_shared_192 rfl rfl ?_
      refine zg_i2l hO dX4_shared_193 ?_
      refine zm_callVv (As := [.long (x3.toInt64)]) (rest := []) hO h (fun q hq => m_enters l D dA G hq) mw_X4_enters q1856 ⟨Nat.le_of_ble_eq_true rfl, Nat.le_of_ble_eq_true rfl⟩ rfl rfl (Nat.le_of_ble_eq_true rfl) dX4_shared_194 (fun q2 h => ?_)
      refine zg_iload_n hO 1 dX4_shared_197 rfl rfl ?_
      exact zm_iret hO hr h dX4_shared_198
    · refine zg_iconst hO dX4_shared_20 ic0 ?_
      refine zg_istore (lv' := [(5, .int (nI 0)), (0, .ref (G 0)), (1, .int x1), (2, .int x2), (3, .int x3), (4, .int x4)]) hO dX4_shared_21 (Nat.le_of_ble_eq_true rfl) rfl ?_
      exact zg_sub [1, 2, 3, 4, 5, 0] rfl (w_M_shared_23 hO hr ih _ _ _ _ _ _ _ h)
theorem mw_X4_shared : MwV yX4_shared cX4_shared 11 (some .int) RX4 0 := ⟨by decide +kernel, q2130, q2131, q106, q2132⟩
set_option maxHeartbeats 4000000 in
theorem m_shared (l : Launch) (D : va_G) (dA : Nat → ClassId) (G : Nat → Nat) {σ : MS} {ρ : Int32 × MS} (h : M_shared σ = some ρ) : Ct l yX4_shared (ws_ yX4_shared cX4_shared 11 (some .int)) 3 0 0 D dA [.ref (G 0)] (WM dA G σ) (AG G) (QfI D dA (WM dA G ρ.2) ρ.1) := by
  refine zc_start (cc := cX4_shared) (nL := 11) (ret := (some .int)) (own := RX4) (by decide) rfl rfl (Nat.le_of_ble_eq_true rfl) wm_A (fun p e s m args below meth c hO hr _ _ => ?_)
  unfold M_shared at h
  refine zg_sub (lv' := [(0, .ref (G 0))]) [0] rfl ?_
  refine zg_aload_n hO 0 dX4_shared_0 rfl rfl ?_
  refine zg_iconst hO dX4_shared_1 ic0 ?_
  refine mP_1 hO dX4_shared_2 ?_
  refine zg_iconst hO dX4_shared_5 ic0 ?_
  refine zg_istore_n (lv' := [(1, .int (nI 0)), (0, .ref (G 0))]) hO dX4_shared_6 rfl (Nat.le_of_ble_eq_true rfl) rfl ?_
  refine zg_iconst hO dX4_shared_7 ic0 ?_
  refine zg_istore_n (lv' := [(2, .int (nI 0)), (1, .int (nI 0)), (0, .ref (G 0))]) hO dX4_shared_8 rfl (Nat.le_of_ble_eq_true rfl) rfl ?_
  refine zg_iconst hO dX4_shared_9 ic0 ?_
  refine zg_istore_n (lv' := [(3, .int (nI 0)), (2, .int (nI 0)), (1, .int (nI 0)), (0, .ref (G 0))]) hO dX4_shared_10 rfl (Nat.le_of_ble_eq_true rfl) rfl ?_
  refine zg_iconst hO dX4_shared_11 ic0 ?_
  refine zg_istore (lv' := [(4, .int (nI 0)), (3, .int (nI 0)), (2, .int (nI 0)), (1, .int (nI 0)), (0, .ref (G 0))]) hO dX4_shared_12 (Nat.le_of_ble_eq_true rfl) rfl ?_
  exact zg_sub [4, 3, 2, 1, 0] rfl (w_M_shared_14 hO hr _ _ _ _ _ _ h)
set_option maxHeartbeats 4000000 in
theorem w_M_count_64 (hO : Ok p s m args meth c cX4_count RX4 2 D dA (AG G s.heap.size)) (hr : meth.sig.returnType = (some .int)) {ρ : Int32 × MS} : ∀ (x1 : Int32) (σ : MS), M_count_64 x1 σ = some ρ → Go p l e (rmG 1 0 0) s m args below meth c D (AG G s.heap.size) 2 (MQ below ((QfI D dA (WM dA G ρ.2) ρ.1) (AG G s.heap.size)) args s 0 0 (AG G s.heap.size)) (WM dA G σ) 0 0 64 [(0, .ref (G 0)), (1, .int x1)] [] := by
  intro x1 σ h
  unfold M_count_64 at h
  refine zg_aload_n hO 0 dX4_count_64 rfl rfl ?_
  refine zg_iload_n hO 1 dX4_count_65 rfl rfl ?_
  refine zm_callVi (As := [.int x1]) (rest := []) hO h (fun q hq => m_sizeOf l D dA G hq) mw_X4_sizeOf q1896 ⟨Nat.le_of_ble_eq_true rfl, Nat.le_of_ble_eq_true rfl⟩ rfl rfl (Nat.le_of_ble_eq_true rfl) dX4_count_66 (fun q1 h => ?_)
  exact zm_iret hO hr h dX4_count_69
theorem mw_X4_count : MwV yX4_count cX4_count 2 (some .int) RX4 1 := ⟨by decide +kernel, q2134, q2135, q106, q2136⟩
set_option maxHeartbeats 4000000 in
theorem m_count (l : Launch) (D : va_G) (dA : Nat → ClassId) (G : Nat → Nat) {x1 : Int32} {σ : MS} {ρ : Int32 × MS} (h : M_count x1 σ = some ρ) : Ct l yX4_count (ws_ yX4_count cX4_count 2 (some .int)) 1 0 0 D dA [.ref (G 0), .int x1] (WM dA G σ) (AG G) (QfI D dA (WM dA G ρ.2) ρ.1) := by
  refine zc_start (cc := cX4_count) (nL := 2) (ret := (some .int)) (own := RX4) (by decide) rfl rfl (Nat.le_of_ble_eq_true rfl) wm_A (fun p e s m args below meth c hO hr _ _ => ?_)
  unfold M_count at h
  refine zg_sub (lv' := [(0, .ref (G 0)), (1, .int x1)]) [0, 1] rfl ?_
  refine zg_aload_n hO 0 dX4_count_0 rfl rfl ?_
  refine zg_iconst hO dX4_count_1 ic0 ?_
  refine mP_1 hO dX4_count_2 ?_
  refine zg_iload_n hO 1 dX4_count_5 rfl rfl ?_
  refine zg_ite h (fun e0 h => ?_) (fun e0 h => ?_)
  · refine zg_tableIn (tgt := 64) hO dX4_count_6 (by rw [e0]; decide) (by rw [e0]; decide) (by rw [e0]; rfl) (by decide) ?_
    exact zg_sub [0, 1] rfl (w_M_count_64 hO hr _ _ h)
  refine zg_ite h (fun e1 h => ?_) (fun e1 h => ?_)
  · refine zg_tableIn (tgt := 64) hO dX4_count_6 (by rw [e1]; decide) (by rw [e1]; decide) (by rw [e1]; rfl) (by decide) ?_
    exact zg_sub [0, 1] rfl (w_M_count_64 hO hr _ _ h)
  refine zg_ite h (fun e2 h => ?_) (fun e2 h => ?_)
  · refine zg_tableIn (tgt := 64) hO dX4_count_6 (by rw [e2]; decide) (by rw [e2]; decide) (by rw [e2]; rfl) (by decide) ?_
    exact zg_sub [0, 1] rfl (w_M_count_64 hO hr _ _ h)
  refine zg_ite h (fun e3 h => ?_) (fun e3 h => ?_)
  · refine zg_tableIn (tgt := 64) hO dX4_count_6 (by rw [e3]; decide) (by rw [e3]; decide) (by rw [e3]; rfl) (by decide) ?_
    exact zg_sub [0, 1] rfl (w_M_count_64 hO hr _ _ h)
  refine zg_ite h (fun e4 h => ?_) (fun e4 h => ?_)
  · refine zg_tableIn (tgt := 70) hO dX4_count_6 (by rw [e4]; decide) (by rw [e4]; decide) (by rw [e4]; rfl) (by decide) ?_
    refine zg_aload_n hO 0 dX4_count_70 rfl rfl ?_
    refine mG_93 hO dX4_count_71 ?_
    exact zm_iret hO hr h dX4_count_74
  refine zg_ite h (fun e5 h => ?_) (fun e5 h => ?_)
  · refine zg_tableIn (tgt := 75) hO dX4_count_6 (by rw [e5]; decide) (by rw [e5]; decide) (by rw [e5]; rfl) (by decide) ?_
    refine zg_aload_n hO 0 dX4_count_75 rfl rfl ?_
    refine mG_45 hO dX4_count_76 ?_
    exact zm_iret hO hr h dX4_count_79
  refine zg_ite h (fun e6 h => ?_) (fun e6 h => ?_)
  · refine zg_tableIn (tgt := 80) hO dX4_count_6 (by rw [e6]; decide) (by rw [e6]; decide) (by rw [e6]; rfl) (by decide) ?_
    refine zg_aload_n hO 0 dX4_count_80 rfl rfl ?_
    refine mG_111 hO dX4_count_81 ?_
    exact zm_iret hO hr h dX4_count_84
  refine zg_ite h (fun e7 h => ?_) (fun e7 h => ?_)
  · refine zg_tableIn (tgt := 85) hO dX4_count_6 (by rw [e7]; decide) (by rw [e7]; decide) (by rw [e7]; rfl) (by decide) ?_
    refine zg_aload_n hO 0 dX4_count_85 rfl rfl ?_
    refine mG_184 hO dX4_count_86 ?_
    exact zm_iret hO hr h dX4_count_89
  refine zg_ite h (fun e8 h => ?_) (fun e8 h => ?_)
  · refine zg_tableIn (tgt := 90) hO dX4_count_6 (by rw [e8]; decide) (by rw [e8]; decide) (by rw [e8]; rfl) (by decide) ?_
    refine zg_aload_n hO 0 dX4_count_90 rfl rfl ?_
    refine mG_202 hO dX4_count_91 ?_
    exact zm_iret hO hr h dX4_count_94
  refine zg_ite h (fun e9 h => ?_) (fun e9 h => ?_)
  · refine zg_tableIn (tgt := 95) hO dX4_count_6 (by rw [e9]; decide) (by rw [e9]; decide) (by rw [e9]; rfl) (by decide) ?_
    refine zg_aload_n hO 0 dX4_count_95 rfl rfl ?_
    refine mG_11 hO dX4_count_96 ?_
    exact zm_iret hO hr h dX4_count_99
  refine zg_ite h (fun e10 h => ?_) (fun e10 h => ?_)
  · refine zg_tableIn (tgt := 100) hO dX4_count_6 (by rw [e10]; decide) (by rw [e10]; decide) (by rw [e10]; rfl) (by decide) ?_
    refine zg_aload_n hO 0 dX4_count_100 rfl rfl ?_
    refine mG_14 hO dX4_count_101 ?_
    exact zm_iret hO hr h dX4_count_104
  refine zg_tableOut (tgt := 105) hO dX4_count_6 (zg_swout (lo := 0) (hi := 10) (fun k h1 h2 => by rcases (show k = 0 ∨ k = 1 ∨ k = 2 ∨ k = 3 ∨ k = 4 ∨ k = 5 ∨ k = 6 ∨ k = 7 ∨ k = 8 ∨ k = 9 ∨ k = 10 by omega) with rfl|rfl|rfl|rfl|rfl|rfl|rfl|rfl|rfl|rfl|rfl; exact e0; exact e1; exact e2; exact e3; exact e4; exact e5; exact e6; exact e7; exact e8; exact e9; exact e10)) (by decide) ?_
  refine zg_iconst hO dX4_count_105 icm1 ?_
  exact zm_iret hO hr h dX4_count_106
set_option maxHeartbeats 4000000 in
theorem w_M_row_22 (hO : Ok p s m args meth c cX4_row RX4 2 D dA (AG G s.heap.size)) (hr : meth.sig.returnType = (some .long)) {ρ : Int64 × MS} : ∀ (x1 : Int32) (y0 : Int32) (σ : MS), M_row_22 x1 y0 σ = some ρ → Go p l e (rmG 1 0 0) s m args below meth c D (AG G s.heap.size) 2 (MQ below ((QfL D dA (WM dA G ρ.2) ρ.1) (AG G s.heap.size)) args s 0 0 (AG G s.heap.size)) (WM dA G σ) 0 0 22 [(0, .ref (G 0)), (1, .int x1)] [.int y0, .ref (G 0)] := by
  intro x1 y0 σ h
  unfold M_row_22 at h
  refine zs_calli (As := [.int y0]) (rest := [.ref (G 0)]) hO h (fun q hq => m_flag l D dA hq) mw_X4_flag q1835 ⟨Nat.le_of_ble_eq_true rfl, Nat.le_of_ble_eq_true rfl⟩ ⟨Nat.le_refl _, Nat.le_refl _⟩ rfl rfl (Nat.le_of_ble_eq_true rfl) dX4_row_22 (fun q2 h => ?_)
  refine mP_1 hO dX4_row_25 ?_
  refine zg_aload_n hO 0 dX4_row_28 rfl rfl ?_
  refine mG_1 hO dX4_row_29 ?_
  refine zg_iconst hO dX4_row_32 ic1 ?_
  refine zg_icmp_ne (tgt := 40) hO h dX4_row_33 (by decide) (fun h => ?_) (fun h => ?_)
  · refine zg_aload_n hO 0 dX4_row_40 rfl rfl ?_
    refine mG_7 hO dX4_row_41 ?_
    refine zg_iload_n hO 1 dX4_row_44 rfl rfl ?_
    refine mL_1 hO h dX4_row_45 (fun h => ?_)
    exact zm_lret hO hr h dX4_row_46
  · refine zg_lconst hO dX4_row_36 lc0 ?_
    refine zg_goto (tgt := 46) hO dX4_row_37 (by decide) ?_
    exact zm_lret hO hr h dX4_row_46
theorem mw_X4_row : MwV yX4_row cX4_row 2 (some .long) RX4 1 := ⟨by decide +kernel, q2138, q2139, q106, q2140⟩
set_option maxHeartbeats 4000000 in
theorem m_row (l : Launch) (D : va_G) (dA : Nat → ClassId) (G : Nat → Nat) {x1 : Int32} {σ : MS} {ρ : Int64 × MS} (h : M_row x1 σ = some ρ) : Ct l yX4_row (ws_ yX4_row cX4_row 2 (some .long)) 1 0 0 D dA [.ref (G 0), .int x1] (WM dA G σ) (AG G) (QfL D dA (WM dA G ρ.2) ρ.1) := by
  refine zc_start (cc := cX4_row) (nL := 2) (ret := (some .long)) (own := RX4) (by decide) rfl rfl (Nat.le_of_ble_eq_true rfl) wm_A (fun p e s m args below meth c hO hr _ _ => ?_)
  unfold M_row at h
  refine zg_sub (lv' := [(0, .ref (G 0)), (1, .int x1)]) [0, 1] rfl ?_
  refine zg_aload_n hO 0 dX4_row_0 rfl rfl ?_
  refine zg_iload_n hO 1 dX4_row_1 rfl rfl ?_
  refine zg_i2l hO dX4_row_2 ?_
  refine zg_lconst hO dX4_row_3 lc0 ?_
  refine zg_aload_n hO 0 dX4_row_4 rfl rfl ?_
  refine mG_11 hO dX4_row_5 ?_
  refine zg_iconst hO dX4_row_8 ic1 ?_
  refine zg_isub hO dX4_row_9 ?_
  refine zg_i2l hO dX4_row_10 ?_
  refine zs_calli (As := [.long (x1.toInt64), .long (lN 0), .long (((gI σ 1) - (nI 1)).toInt64)]) (rest := [.ref (G 0)]) hO h (fun q hq => m_in l D dA hq) mw_X4_in q1702 ⟨Nat.le_of_ble_eq_true rfl, Nat.le_of_ble_eq_true rfl⟩ ⟨Nat.le_refl _, Nat.le_refl _⟩ rfl rfl (Nat.le_of_ble_eq_true rfl) dX4_row_11 (fun q1 h => ?_)
  refine zg_if_ne (tgt := 21) hO h dX4_row_14 (by decide) (fun h => ?_) (fun h => ?_)
  · refine zg_iconst hO dX4_row_21 ic0 ?_
    exact zg_sub [0, 1] rfl (w_M_row_22 hO hr _ _ _ h)
  · refine zg_iconst hO dX4_row_17 ic1 ?_
    refine zg_goto (tgt := 22) hO dX4_row_18 (by decide) ?_
    exact zg_sub [0, 1] rfl (w_M_row_22 hO hr _ _ _ h)
end ZMW
