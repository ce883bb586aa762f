set_option maxRecDepth 100000
def X_item_35 (σ : XS) : Option (Int32 × XS) := none
def X_item_105 : Nat → Int32 → Int32 → Option Nat → Int32 → XS → Option (Int32 × XS)
  | 0, _, _, _, _, _ => none
  | n + 1, x4, x5, o6, x7, σ => (if x5 ≤ x7 then ((X_tells (x4.toInt64) (zI σ 5 (nI 0))).bind fun q7 => ((X_tells (x5.toInt64) q7).bind fun q8 => (oc o6 none fun i9 => ((X_tellsPair i9 q8).bind fun q10 => (if i9 < xN q10 ∧ rK (xC q10 i9) = true then some ((rI (xC q10 i9)), q10) else none))))) else (oc o6 none fun i11 => (if i11 < xN σ ∧ rK (xC σ i11) = true then X_item_105 n x4 x5 (rB (xC σ i11)) (x7 + (nI 1)) σ else none)))
def X_item_91 (i3 : Nat) (x4 : Int32) (y0 : Int32) (σ : XS) : Option (Int32 × XS) := (if x4 < 0 ∨ 2 ≤ x4.toNatClampNeg then none else X_item_105 FU x4 y0 (xT σ i3 x4.toNatClampNeg) (nI 0) σ)
def X_item_72 (x2 : Int32) (i3 : Nat) (y0 : Int32) (σ : XS) : Option (Int32 × XS) := (if y0 = 0 then X_item_91 i3 y0 x2 σ else ((Xl_size i3 σ).bind fun q6 => X_item_91 i3 y0 ((q6.1 - (nI 1)) - x2) q6.2))
def X_item (x1 : Int32) (x2 : Int32) (σ : XS) : Option (Int32 × XS) := ((X_isLine x1).bind fun q1 => (if q1 = 0 then X_item_35 σ else (if x1 < 0 ∨ 4 ≤ x1.toNatClampNeg then none else ((Xl_size x1.toNatClampNeg σ).bind fun q3 => ((X_in (x2.toInt64) (lN 0) ((q3.1 - (nI 1)).toInt64)).bind fun q4 => (if q4 = 0 then X_item_35 q3.2 else (if x1 < 0 ∨ 4 ≤ x1.toNatClampNeg then none else (if (nI 0) < 0 ∨ 2 ≤ (nI 0).toNatClampNeg then none else (if (xA q3.2 (5 + x1.toNatClampNeg) (nI 0).toNatClampNeg) ≤ x2 then X_item_72 x2 x1.toNatClampNeg (nI 1) q3.2 else X_item_72 x2 x1.toNatClampNeg (nI 0) q3.2)))))))))
def X_row (x1 : Int32) (σ : XS) : Option (Int64 × XS) := ((X_in (x1.toInt64) (lN 0) (((xI σ 5) - (nI 1)).toInt64)).bind fun q1 => (if q1 = 0 then none else (if x1 < 0 ∨ 128 ≤ x1.toNatClampNeg then none else some ((xB σ 0 x1.toNatClampNeg), σ))))

section ZXI
variable {p : Program} {l : Launch} {e : Env} {s : State} {m : MethodId} {args : Array Value} {below : List Frame} {meth : Method} {c : Code} {D : va_G} {dA : Nat → ClassId} {G : Nat → Nat} {A : Nat → Prop}
set_option maxHeartbeats 4000000 in
theorem w_X_item_35 {tb : Nat} {ad : Nat → Nat} (hO : Ok p s m args meth c cX1_item RX1 8 D dA A) (hX : XK dA G A s) (hr : meth.sig.returnType = (some .int)) {ρ : Int32 × XS} : ∀ (σ : XS), X_item_35 σ = some ρ → Go p l e (rmG 6 0 0) s m args below meth c D A 8 (MQ below ((QgI D dA (fun _ : Unit => WX dA G tb ad ρ.2) ρ.1) A) args s 0 0 A) (WX dA G tb ad σ) 0 0 35 [] [] := by
  intro σ h
  unfold X_item_35 at h
  cases h
set_option maxHeartbeats 4000000 in
theorem w_X_item_105 {tb : Nat} {ad : Nat → Nat} (hO : Ok p s m args meth c cX1_item RX1 8 D dA A) (hX : XK dA G A s) (hr : meth.sig.returnType = (some .int)) {ρ : Int32 × XS} : ∀ (n : Nat) (x4 : Int32) (x5 : Int32) (o6 : Option Nat) (x7 : Int32) (σ : XS), X_item_105 n x4 x5 o6 x7 σ = some ρ → Go p l e (rmG 6 0 0) s m args below meth c D A 8 (MQ below ((QgI D dA (fun _ : Unit => WX dA G tb ad ρ.2) ρ.1) A) args s 0 0 A) (WX dA G tb ad σ) 0 0 105 [(0, .ref (G 0)), (4, .int x4), (5, .int x5), (6, va_rf (Option.map ad o6)), (7, .int x7)] [] := by
  intro n
  induction n with
  | zero =>
    intro x4 x5 o6 x7 σ h
    rw [X_item_105] at h
    cases h
  | succ n ih =>
    intro x4 x5 o6 x7 σ h
    rw [X_item_105] at h
    refine zg_iload hO 4 dX1_item_105 rfl ?_
    refine zg_iload hO 2 dX1_item_107 rfl ?_
    refine zg_icmp_ge (tgt := 125) hO h dX1_item_109 (by decide) (fun h => ?_) (fun h => ?_)
    · refine zg_aload_n hO 0 dX1_item_125 rfl rfl ?_
      refine zg_iconst hO dX1_item_126 ic0 ?_
      refine xP_1_199 hO hX dX1_item_127 ?_
      refine zg_aload_n hO 0 dX1_item_130 rfl rfl ?_
      refine zg_iload hO 1 dX1_item_131 rfl ?_
      refine zg_i2l hO dX1_item_133 ?_
      refine zy_callVvF (b := G 0) (As := [.long (x4.toInt64)]) (rest := []) hO hX h (fun q hq => m_X_tells l D dA G tb ad hq) mw_X1_tells q1272 ⟨Nat.le_of_ble_eq_true rfl, Nat.le_of_ble_eq_true rfl⟩ ⟨Nat.le_refl _, Nat.le_refl _⟩ rfl rfl (Nat.le_of_ble_eq_true rfl) ⟨0, 1, _, _, rfl, rfl, rfl⟩ dX1_item_134 (fun q7 h => ?_)
      refine zg_aload_n hO 0 dX1_item_137 rfl rfl ?_
      refine zg_iload hO 2 dX1_item_138 rfl ?_
      refine zg_i2l hO dX1_item_140 ?_
      refine zy_callVvF (b := G 0) (As := [.long (x5.toInt64)]) (rest := []) hO hX h (fun q hq => m_X_tells l D dA G tb ad hq) mw_X1_tells q1272 ⟨Nat.le_of_ble_eq_true rfl, Nat.le_of_ble_eq_true rfl⟩ ⟨Nat.le_refl _, Nat.le_refl _⟩ rfl rfl (Nat.le_of_ble_eq_true rfl) ⟨0, 1, _, _, rfl, rfl, rfl⟩ dX1_item_141 (fun q8 h => ?_)
      refine zg_aload_n hO 0 dX1_item_144 rfl rfl ?_
      refine zg_aloadO hO 3 dX1_item_145 rfl ?_
      refine zx_oc h (fun i9 hi9 h => ?_)
      refine zx_top ad hi9 ?_
      refine zy_callVvF (b := G 0) (As := [.ref (ad i9)]) (rest := []) hO hX h (fun q hq => m_X_tellsPair l D dA G tb ad hq) mw_X1_tellsPair q1362 ⟨Nat.le_of_ble_eq_true rfl, Nat.le_of_ble_eq_true rfl⟩ ⟨Nat.le_refl _, Nat.le_refl _⟩ rfl rfl (Nat.le_of_ble_eq_true rfl) ⟨0, 1, _, _, rfl, rfl, rfl⟩ dX1_item_147 (fun q10 h => ?_)
      refine zg_aloadO hO 3 dX1_item_150 rfl ?_
      refine zx_top ad hi9 ?_
      refine xG_1_392 hO hX h dX1_item_152 (fun h => ?_)
      exact zy_iretF hO hr h ⟨Nat.le_refl _, Nat.le_refl _⟩ dX1_item_155
    · refine zg_aloadO hO 3 dX1_item_112 rfl ?_
      refine zx_oc h (fun i11 hi11 h => ?_)
      refine zx_top ad hi11 ?_
      refine xG_1_386 hO hX h dX1_item_114 (fun h => ?_)
      refine zg_astoreO (lv' := [(6, va_rf (Option.map ad (rB (xC σ i11)))), (0, .ref (G 0)), (4, .int x4), (5, .int x5), (7, .int x7)]) hO dX1_item_117 (Nat.le_of_ble_eq_true rfl) rfl ?_
      refine zg_iinc (k := 4) (lv' := [(7, .int (x7 + (nI 1))), (6, va_rf (Option.map ad (rB (xC σ i11)))), (0, .ref (G 0)), (4, .int x4), (5, .int x5)]) hO dX1_item_119 rfl (zii ic1) (Nat.le_of_ble_eq_true rfl) (by simp [ro_cat]) ?_
      refine zg_goto (tgt := 105) hO dX1_item_122 (by decide) ?_
      exact zg_sub [2, 3, 4, 1, 0] rfl (ih _ _ _ _ _ h)
set_option maxHeartbeats 4000000 in
theorem w_X_item_91 {tb : Nat} {ad : Nat → Nat} (hO : Ok p s m args meth c cX1_item RX1 8 D dA A) (hX : XK dA G A s) (hr : meth.sig.returnType = (some .int)) {ρ : Int32 × XS} : ∀ (i3 : Nat) (x4 : Int32) (y0 : Int32) (σ : XS) (hi3 : i3 < 5), X_item_91 i3 x4 y0 σ = some ρ → Go p l e (rmG 6 0 0) s m args below meth c D A 8 (MQ below ((QgI D dA (fun _ : Unit => WX dA G tb ad ρ.2) ρ.1) A) args s 0 0 A) (WX dA G tb ad σ) 0 0 91 [(0, .ref (G 0)), (3, .ref (G (48 + 3 * i3))), (4, .int x4)] [.int y0] := by
  intro i3 x4 y0 σ hi3 h
  unfold X_item_91 at h
  refine zg_istore (lv' := [(5, .int y0), (0, .ref (G 0)), (3, .ref (G (48 + 3 * i3))), (4, .int x4)]) hO dX1_item_91 (Nat.le_of_ble_eq_true rfl) rfl ?_
  refine zg_aload_n hO 2 dX1_item_93 rfl rfl ?_
  refine xG_1_382 hO hX hi3 dX1_item_94 ?_
  refine zg_iload hO 3 dX1_item_97 rfl ?_
  refine xL_top hO hi3 h dX1_item_99 (fun h => ?_)
  refine zg_astoreO (lv' := [(6, va_rf (Option.map ad (xT σ i3 x4.toNatClampNeg))), (5, .int y0), (0, .ref (G 0)), (3, .ref (G (48 + 3 * i3))), (4, .int x4)]) hO dX1_item_100 (Nat.le_of_ble_eq_true rfl) rfl ?_
  refine zg_iconst hO dX1_item_102 ic0 ?_
  refine zg_istore (lv' := [(7, .int (nI 0)), (6, va_rf (Option.map ad (xT σ i3 x4.toNatClampNeg))), (5, .int y0), (0, .ref (G 0)), (3, .ref (G (48 + 3 * i3))), (4, .int x4)]) hO dX1_item_103 (Nat.le_of_ble_eq_true rfl) (by simp [ro_cat]) ?_
  exact zg_sub [3, 5, 2, 1, 0] rfl (w_X_item_105 hO hX hr _ _ _ _ _ _ h)
set_option maxHeartbeats 4000000 in
theorem w_X_item_72 {tb : Nat} {ad : Nat → Nat} (hO : Ok p s m args meth c cX1_item RX1 8 D dA A) (hX : XK dA G A s) (hr : meth.sig.returnType = (some .int)) {ρ : Int32 × XS} : ∀ (x2 : Int32) (i3 : Nat) (y0 : Int32) (σ : XS) (hi3 : i3 < 5), X_item_72 x2 i3 y0 σ = some ρ → Go p l e (rmG 6 0 0) s m args below meth c D A 8 (MQ below ((QgI D dA (fun _ : Unit => WX dA G tb ad ρ.2) ρ.1) A) args s 0 0 A) (WX dA G tb ad σ) 0 0 72 [(0, .ref (G 0)), (2, .int x2), (3, .ref (G (48 + 3 * i3)))] [.int y0] := by
  intro x2 i3 y0 σ hi3 h
  unfold X_item_72 at h
  refine zg_istore (lv' := [(4, .int y0), (0, .ref (G 0)), (2, .int x2), (3, .ref (G (48 + 3 * i3)))]) hO dX1_item_72 (Nat.le_of_ble_eq_true rfl) rfl ?_
  refine zg_iload hO 0 dX1_item_74 rfl ?_
  refine zg_if_ne (tgt := 83) hO h dX1_item_76 (by decide) (fun h => ?_) (fun h => ?_)
  · refine zg_aload_n hO 3 dX1_item_83 rfl rfl ?_
    refine zy_callViF (b := G (48 + 3 * i3)) (As := []) (rest := []) hO hX h (fun q hq => m_Xl_size l D dA G hi3 tb ad hq) mw_X3_size q1407 ⟨Nat.le_of_ble_eq_true rfl, Nat.le_of_ble_eq_true rfl⟩ ⟨Nat.le_refl _, Nat.le_refl _⟩ rfl rfl (Nat.le_of_ble_eq_true rfl) ⟨40 + 3 * i3, 2, _, _, wx_line hi3, rfl, rfl⟩ dX1_item_84 (fun q6 h => ?_)
    refine zg_iconst hO dX1_item_87 ic1 ?_
    refine zg_isub hO dX1_item_88 ?_
    refine zg_iload_n hO 2 dX1_item_89 rfl rfl ?_
    refine zg_isub hO dX1_item_90 ?_
    exact zg_sub [1, 3, 0] rfl (w_X_item_91 hO hX hr _ _ _ _ hi3 h)
  · refine zg_iload_n hO 2 dX1_item_79 rfl rfl ?_
    refine zg_goto (tgt := 91) hO dX1_item_80 (by decide) ?_
    exact zg_sub [1, 3, 0] rfl (w_X_item_91 hO hX hr _ _ _ _ hi3 h)
theorem mw_X1_item : MwX yX1_item cX1_item 8 (some .int) RX1 2 := ⟨by decide +kernel, q1678, q1679, q85, q1680⟩
set_option maxHeartbeats 4000000 in
theorem m_X_item (l : Launch) (D : va_G) (dA : Nat → ClassId) (G : Nat → Nat) {x1 : Int32} {x2 : Int32} {σ : XS} (tb : Nat) (ad : Nat → Nat) {ρ : Int32 × XS} (h : X_item x1 x2 σ = some ρ) : CtX l yX1_item (ws_ yX1_item cX1_item 8 (some .int)) 6 0 0 D dA G [.ref (G 0), .int x1, .int x2] (WX dA G tb ad σ) (QgI D dA (fun _ : Unit => WX dA G tb ad ρ.2) ρ.1) := by
  refine zx_start (cc := cX1_item) (nL := 8) (ret := (some .int)) (own := RX1) (by decide) rfl rfl (Nat.le_of_ble_eq_true rfl) (fun p e s m args below meth c A hO hX hr _ _ => ?_)
  unfold X_item at h
  refine zg_sub (lv' := [(0, .ref (G 0)), (1, .int x1), (2, .int x2)]) [0, 1, 2] rfl ?_
  refine zg_iload_n hO 1 dX1_item_0 rfl rfl ?_
  refine zs_calli (As := [.int x1]) (rest := []) hO h (fun q hq => m_X_isLine l D dA hq) mw_X1_isLine q1398 ⟨Nat.le_of_ble_eq_true rfl, Nat.le_of_ble_eq_true rfl⟩ ⟨Nat.le_refl _, Nat.le_refl _⟩ rfl rfl (Nat.le_of_ble_eq_true rfl) dX1_item_1 (fun q1 h => ?_)
  refine zg_if_eq (tgt := 35) hO h dX1_item_4 (by decide) (fun h => ?_) (fun h => ?_)
  · exact zg_sub [] rfl (w_X_item_35 hO hX hr _ h)
  · refine zg_iload_n hO 2 dX1_item_7 rfl rfl ?_
    refine zg_i2l hO dX1_item_8 ?_
    refine zg_lconst hO dX1_item_9 lc0 ?_
    refine zg_aload_n hO 0 dX1_item_10 rfl rfl ?_
    refine xG_1_162 hO hX dX1_item_11 ?_
    refine zg_iload_n hO 1 dX1_item_14 rfl rfl ?_
    refine zy_lget (rest := [.long (lN 0), .long (x2.toInt64)]) hO hX h q1406 (Nat.le_of_ble_eq_true rfl) dX1_item_15 (fun hb2 h => ?_) ⟨Nat.le_refl _, Nat.le_refl _⟩
    refine zy_castL hO hb2 q231 dX1_item_20 ?_
    refine zy_callViF (b := G (48 + 3 * x1.toNatClampNeg)) (As := []) (rest := [.long (lN 0), .long (x2.toInt64)]) hO hX h (fun q hq => m_Xl_size l D dA G hb2 tb ad hq) mw_X3_size q1407 ⟨Nat.le_of_ble_eq_true rfl, Nat.le_of_ble_eq_true rfl⟩ ⟨Nat.le_refl _, Nat.le_refl _⟩ rfl rfl (Nat.le_of_ble_eq_true rfl) ⟨40 + 3 * x1.toNatClampNeg, 2, _, _, wx_line hb2, rfl, rfl⟩ dX1_item_23 (fun q3 h => ?_)
    refine zg_iconst hO dX1_item_26 ic1 ?_
    refine zg_isub hO dX1_item_27 ?_
    refine zg_i2l hO dX1_item_28 ?_
    refine zs_calli (As := [.long (x2.toInt64), .long (lN 0), .long ((q3.1 - (nI 1)).toInt64)]) (rest := []) hO h (fun q hq => m_X_in l D dA hq) mw_X1_in q608 ⟨Nat.le_of_ble_eq_true rfl, Nat.le_of_ble_eq_true rfl⟩ ⟨Nat.le_refl _, Nat.le_refl _⟩ rfl rfl (Nat.le_of_ble_eq_true rfl) dX1_item_29 (fun q4 h => ?_)
    refine zg_if_ne (tgt := 43) hO h dX1_item_32 (by decide) (fun h => ?_) (fun h => ?_)
    · refine zg_aload_n hO 0 dX1_item_43 rfl rfl ?_
      refine xG_1_162 hO hX dX1_item_44 ?_
      refine zg_iload_n hO 1 dX1_item_47 rfl rfl ?_
      refine zy_lget (rest := []) hO hX h q1406 (Nat.le_of_ble_eq_true rfl) dX1_item_48 (fun hb5 h => ?_) ⟨Nat.le_refl _, Nat.le_refl _⟩
      refine zy_castL hO hb5 q231 dX1_item_53 ?_
      refine zg_astore_n (lv' := [(3, .ref (G (48 + 3 * x1.toNatClampNeg))), (0, .ref (G 0)), (1, .int x1), (2, .int x2)]) hO dX1_item_56 rfl (Nat.le_of_ble_eq_true rfl) rfl ?_
      refine zg_iload_n hO 3 dX1_item_57 rfl rfl ?_
      refine zg_aload_n hO 0 dX1_item_58 rfl rfl ?_
      refine xG_1_225 hO hX hb5 dX1_item_59 ?_
      refine zg_iconst hO dX1_item_62 ic0 ?_
      refine xL_many hO hb5 h dX1_item_63 (fun h => ?_)
      refine zg_icmp_ge (tgt := 71) hO h dX1_item_64 (by decide) (fun h => ?_) (fun h => ?_)
      · refine zg_iconst hO dX1_item_71 ic1 ?_
        exact zg_sub [1, 3, 0] rfl (w_X_item_72 hO hX hr _ _ _ _ hb5 h)
      · refine zg_iconst hO dX1_item_67 ic0 ?_
        refine zg_goto (tgt := 72) hO dX1_item_68 (by decide) ?_
        exact zg_sub [1, 3, 0] rfl (w_X_item_72 hO hX hr _ _ _ _ hb5 h)
    · exact zg_sub [] rfl (w_X_item_35 hO hX hr _ h)
theorem mw_X1_row : MwX yX1_row cX1_row 2 (some .long) RX1 1 := ⟨by decide +kernel, q1687, q1688, q85, q1689⟩
set_option maxHeartbeats 4000000 in
theorem m_X_row (l : Launch) (D : va_G) (dA : Nat → ClassId) (G : Nat → Nat) {x1 : Int32} {σ : XS} (tb : Nat) (ad : Nat → Nat) {ρ : Int64 × XS} (h : X_row x1 σ = some ρ) : CtX l yX1_row (ws_ yX1_row cX1_row 2 (some .long)) 6 0 0 D dA G [.ref (G 0), .int x1] (WX dA G tb ad σ) (QgL D dA (fun _ : Unit => WX dA G tb ad ρ.2) ρ.1) := by
  refine zx_start (cc := cX1_row) (nL := 2) (ret := (some .long)) (own := RX1) (by decide) rfl rfl (Nat.le_of_ble_eq_true rfl) (fun p e s m args below meth c A hO hX hr _ _ => ?_)
  unfold X_row at h
  refine zg_sub (lv' := [(0, .ref (G 0)), (1, .int x1)]) [0, 1] rfl ?_
  refine zg_iload_n hO 1 dX1_row_0 rfl rfl ?_
  refine zg_i2l hO dX1_row_1 ?_
  refine zg_lconst hO dX1_row_2 lc0 ?_
  refine zg_aload_n hO 0 dX1_row_3 rfl rfl ?_
  refine xG_1_199 hO hX dX1_row_4 ?_
  refine zg_iconst hO dX1_row_7 ic1 ?_
  refine zg_isub hO dX1_row_8 ?_
  refine zg_i2l hO dX1_row_9 ?_
  refine zs_calli (As := [.long (x1.toInt64), .long (lN 0), .long (((xI σ 5) - (nI 1)).toInt64)]) (rest := []) hO h (fun q hq => m_X_in l D dA hq) mw_X1_in q608 ⟨Nat.le_of_ble_eq_true rfl, Nat.le_of_ble_eq_true rfl⟩ ⟨Nat.le_refl _, Nat.le_refl _⟩ rfl rfl (Nat.le_of_ble_eq_true rfl) dX1_row_10 (fun q1 h => ?_)
  refine zg_if_ne (tgt := 24) hO h dX1_row_13 (by decide) (fun h => ?_) (fun h => ?_)
  · refine zg_aload_n hO 0 dX1_row_24 rfl rfl ?_
    refine xG_1_180 hO hX dX1_row_25 ?_
    refine zg_iload_n hO 1 dX1_row_28 rfl rfl ?_
    refine xL_row hO h dX1_row_29 (fun h => ?_)
    exact zy_lretF hO hr h ⟨Nat.le_refl _, Nat.le_refl _⟩ dX1_row_30
  · cases h
end ZXI
