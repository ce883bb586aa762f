set_option maxRecDepth 100000
/-! table -/
def zX (σ : XS) (k : Nat) (f : Nat → Int32) : XS := ((σ.1.1, σ.1.2.1, va_up σ.1.2.2.1 k f, σ.1.2.2.2), σ.2)
def X_table2 (n : Nat) (σ : XS) : Option (Int32 × XS) := if xI σ 0 = nI 7 then (X_laysAll σ).bind fun q => some (nI n, q) else some (nI n, σ)
def X_table1 (σ : XS) : (Nat → Int32) × (Nat ⊕ Nat) → Option (Int32 × XS)
  | (_, .inr a) => some ((-21 : Int32) - nI a, σ)
  | (f, .inl n) => (X_ungrouped f n).bind fun k => if k = -1 then (if 0 ≤ X_neutralOf f n then X_table2 n (zI (zI (zX σ 1 f) 1 (nI n)) 2 (X_neutralOf f n)) else some (-11, σ)) else
      ((X_tells ((k / (nI n * nI n)).toInt64) (zI σ 5 (nI 0))).bind fun q1 => (X_tells ((k / nI n - k / nI n / nI n * nI n).toInt64) q1).bind fun q2 => (X_tells ((k - k / nI n * nI n).toInt64) q2).bind fun q3 => some ((-10 : Int32), q3))
def X_table (σ : XS) : Option (Int32 × XS) := if xI σ 4 < 0 ∨ 100 < (xI σ 4).toNatClampNeg then none else X_table1 (zI σ 4 (nI 0)) (X_readTable (xA σ 2) (xI σ 4).toNatClampNeg (fun _ => 0))
theorem rdT_n {t : Nat → Int32} {many : Nat} {f f9 : Nat → Int32} {n : Nat} (h : X_readTable t many f = (f9, .inl n)) : 1 ≤ n ∧ n < 6 := by
  unfold X_readTable at h
  have h5 := rt1_le (t := t) (many := many) 5 0
  by_cases h0 : X_rt1 t many 5 0 = 0
  · rw [if_pos h0] at h
    cases h
  · rw [if_neg h0] at h
    generalize X_rt2 t many (X_rt1 t many 5 0) (X_rt1 t many 5 0) 0 0 f = P at h
    obtain ⟨g, r⟩ := P
    cases r with
    | inl sp =>
      have h : (if sp < many then ((g, .inr sp) : (Nat → Int32) × (Nat ⊕ Nat)) else (g, .inl (X_rt1 t many 5 0))) = (f9, .inl n) := h
      split at h
      · cases h
      · cases h
        omega
    | inr a => cases h
theorem rt_int : ∀ a : Nat, a < 104 → (nI a).toInt = a := by decide +kernel
theorem rt_typed {x : Int32} (h0 : ¬ x < 0) (h1 : x.toNatClampNeg ≤ 100) : x = nI x.toNatClampNeg := by
  apply Int32.toInt_inj.mp
  rw [zj_nn h0, rt_int _ (by omega)]
theorem zt_swap {p : Program} {l : Launch} {e : Env} {R : Room} {s : State} {m : MethodId} {args : Array Value} {below : List Frame} {meth : Method} {c : Code} {nL : Nat} {D : va_G} {A : Nat → Prop} {Q : State → Prop} {u v pc : Nat} {lv : List (Nat × Value)} {st : List Value} {W0 : va_W} {x : Nat × va_E} (i : Nat) (hi : i < W0.length)
    (kk : Go p l e R s m args below meth c D A nL Q (W0.set i x) u v pc lv st) : Go p l e R s m args below meth c D A nL Q (W0 ++ [x]) u v pc lv st := by
  refine zj_drop (fun k => if k = i then W0.length else if k = W0.length then i else k) (fun k y h => ?_) (fun a b h => ?_) kk
  · by_cases hk : k = i
    · subst hk
      rw [List.getElem?_set_self hi] at h
      rw [if_pos rfl]
      exact (ap0 (L := [])).trans h
    · rw [List.getElem?_set_ne (fun z => hk z.symm)] at h
      have hlt := (List.getElem?_eq_some_iff.mp h).1
      rw [if_neg hk, if_neg (by omega)]
      exact apW h
  · split at h <;> split at h <;> (try split at h) <;> (try split at h) <;> omega
theorem fN_266 : FdN RX1 266 16 0 := ⟨RX6, TXF, 1, "EndSums$Fault", "EndSums", rfl, in_TXF, by decide, q1264, Or.inl rfl⟩
theorem pX_37 : FdP RX1 37 1 7 (.array .int) := ⟨RX1, TX1, 28, "EndSums", tyX1, rfl, in_X1, by decide, q518, Or.inl rfl, tyX1_ok, nmX1, rfl, tyX1_ok 7 (by decide)⟩
theorem mw_X1_readTable : MwX yX1_readTable cX1_readTable 7 (some .int) RX1 2 := ⟨by decide +kernel, q1243, qs22, q85, q1244⟩
theorem m_X_table (l : Launch) (hl9 : l.stackTraces = false) (D : va_G) (dA : Nat → ClassId) (G : Nat → Nat) {σ : XS} (tb : Nat) (ad : Nat → Nat) {ρ : Int32 × XS} (h : X_table σ = some ρ) : CtX l yX1_table (wsW_ yX1_table cX1_table 6 (some .int) [(15, 22, 25, 244)]) 62 320 2500 D dA G [.ref (G 0)] (WX dA G tb ad σ) (QgI D dA (fun z : (Nat → Nat) × Nat => WX dA G z.2 z.1 ρ.2) ρ.1) := by
  refine zx_startWT (cc := cX1_table) (nL := 6) (ret := some .int) (own := RX1) (hh := [(15, 22, 25, 244)]) (by decide) rfl rfl (Nat.le_of_ble_eq_true rfl) (fun p e s m args below meth c A hO hX htab hr _ _ => ?_)
  unfold X_table at h
  obtain ⟨hx, h⟩ := zg_none h
  have hx0 : ¬ xI σ 4 < 0 := fun z => hx (Or.inl z)
  have hx1 : (xI σ 4).toNatClampNeg ≤ 100 := Nat.le_of_not_lt fun z => hx (Or.inr z)
  have hxe := rt_typed hx0 hx1
  generalize hm : (xI σ 4).toNatClampNeg = many at h hx1 hxe
  refine zg_sub (lv' := [(0, .ref (G 0))]) [0] rfl ?_
  refine zg_aload_n hO 0 dX1_table_0 rfl rfl ?_
  refine xG_1_206 hO hX dX1_table_1 ?_
  rw [hxe]
  refine zg_istore_n (lv' := [(1, .int (nI many)), (0, .ref (G 0))]) hO dX1_table_4 rfl (Nat.le_of_ble_eq_true rfl) rfl ?_
  refine zg_aload_n hO 1 dX1_table_5 rfl rfl ?_
  refine zg_iconst hO dX1_table_6 ic0 ?_
  refine xP_1_206 hO hX dX1_table_7 ?_
  refine zg_bipush hO dX1_table_10 (by decide : (Int8.ofInt 25).toInt32 = nI 25) ?_
  refine zj_newI (N' := 25) hO (by decide) rfl (by decide) (Nat.le_of_ble_eq_true rfl) (Nat.le_of_ble_eq_true rfl) dX1_table_12 (fun rd => ?_)
  refine zg_astore_n (lv' := [(2, .ref rd), (1, .int (nI many)), (0, .ref (G 0))]) hO dX1_table_14 rfl (Nat.le_of_ble_eq_true rfl) rfl ?_
  refine zg_aload_n hO 2 dX1_table_15 rfl rfl ?_
  refine zg_aload_n hO 0 dX1_table_16 rfl rfl ?_
  refine zg_iload_n hO 1 dX1_table_17 rfl rfl ?_
  have ht : xA (zI σ 4 (nI 0)) 2 = xA σ 2 := rfl
  generalize hP : X_readTable (xA σ 2) many (fun _ => 0) = P at h
  refine zq_callVi (na := 2) (As := [.ref rd, .int (nI many)]) (rest := []) hO hX (m_X_readTable l hl9 D dA G (tb := tb) (ad := ad) (σ := (zI σ 4 (nI 0))) hx1 hP (ρ := match P.2 with | .inl n => nI n | .inr _ => 0) (fun f9 n hp => by rw [hp])) mw_X1_readTable q1241 ⟨Nat.le_of_ble_eq_true rfl, Nat.le_of_ble_eq_true rfl⟩ ⟨Nat.le_of_ble_eq_true rfl, Nat.le_of_ble_eq_true rfl⟩ rfl rfl (Nat.le_of_ble_eq_true rfl) ⟨0, 1, _, _, rfl, rfl, rfl⟩ dX1_table_18 (fun z q => ?_) (fun z => ?_)
  · obtain ⟨a, ha⟩ := z
    obtain ⟨f9, P2⟩ := P
    have hP2 : P2 = .inr a := congrArg Prod.snd ha
    subst hP2
    have h : some ((-21 : Int32) - nI a, zI σ 4 (nI 0)) = some ρ := h
    have h := Option.some.inj h
    subst h
    refine zq_catch hO hX (WX dA G tb ad (zI σ 4 (nI 0)) ++ ([(rd, .inl (dA 0, 25, .inl f9))] : va_W)).length ap0 rfl _ [] htab (by decide) (by decide) (name := RX6) q1240 (hX.1.use q1252 rfl rfl) ?_
    refine zg_astore (lv' := [(4, .ref q), (2, .ref rd), (1, .int (nI many)), (0, .ref (G 0))]) hO dX1_table_25 (Nat.le_of_ble_eq_true rfl) rfl ?_
    refine zg_bipush hO dX1_table_27 (by decide : (Int8.ofInt (-21)).toInt32 = (-21 : Int32)) ?_
    refine zg_aload hO 0 dX1_table_29 rfl ?_
    refine zg_getN hO hX.1 fN_266 (WX dA G tb ad (zI σ 4 (nI 0)) ++ ([(rd, .inl (dA 0, 25, .inl f9))] : va_W)).length ap0 rfl dX1_table_31 ?_
    refine zg_isub hO dX1_table_34 ?_
    refine zj_tail (zj_tail ?_)
    exact zx_iret (f := fun z : (Nat → Nat) × Nat => WX dA G z.2 z.1 _) hO hr (ad, tb) rfl rfl ⟨Nat.le_of_ble_eq_true rfl, Nat.le_of_ble_eq_true rfl⟩ dX1_table_35
  · obtain ⟨z, n, hz⟩ := z
    obtain ⟨f9, P2⟩ := P
    have hP2 : P2 = .inl n := congrArg Prod.snd hz
    subst hP2
    obtain ⟨n1, n2⟩ := rdT_n hP
    obtain ⟨k, hk, h⟩ := zg_bind h
    have hz0 : ¬ nI n = 0 ∧ ¬ nI n * nI n = 0 := un_d0 n n2 n1
    refine zg_istore_n (lv' := [(3, .int (nI n)), (2, .ref rd), (1, .int (nI many)), (0, .ref (G 0))]) hO dX1_table_21 rfl (Nat.le_of_ble_eq_true rfl) rfl ?_
    refine zg_goto (tgt := 36) hO dX1_table_22 (by decide) ?_
    refine zg_aload_n hO 1 dX1_table_36 rfl rfl ?_
    refine zg_iload_n hO 0 dX1_table_37 rfl rfl ?_
    refine zx_callSi (na := 2) (As := [.ref rd, .int (nI n)]) (rest := []) hO hX (m_X_ungrouped l D dA G (k0 := (WX dA G tb ad (zI σ 4 (nI 0))).length) ap0 n1 n2 hk) mw_X1_ungrouped q1269 ⟨Nat.le_of_ble_eq_true rfl, Nat.le_of_ble_eq_true rfl⟩ ⟨Nat.le_of_ble_eq_true rfl, Nat.le_of_ble_eq_true rfl⟩ rfl rfl (Nat.le_of_ble_eq_true rfl) dX1_table_38 (fun _ => ?_)
    refine zg_istore (lv' := [(4, .int k), (3, .int (nI n)), (2, .ref rd), (1, .int (nI many)), (0, .ref (G 0))]) hO dX1_table_41 (Nat.le_of_ble_eq_true rfl) rfl ?_
    refine zg_iload hO 0 dX1_table_43 rfl ?_
    refine zg_iconst hO dX1_table_45 icm1 ?_
    by_cases hk1 : k = -1
    · rw [if_pos hk1] at h
      refine zt_icmp_eq (tgt := 88) hO hk1 dX1_table_46 (by decide) ?_
      refine zg_aload_n hO 2 dX1_table_88 rfl rfl ?_
      refine zg_iload_n hO 1 dX1_table_89 rfl rfl ?_
      refine zx_callSi (na := 2) (As := [.ref rd, .int (nI n)]) (rest := []) hO hX (m_X_neutralOf l D dA G (k0 := (WX dA G tb ad (zI σ 4 (nI 0))).length) ap0 n1 n2) mw_X1_neutralOf q1276 ⟨Nat.le_of_ble_eq_true rfl, Nat.le_of_ble_eq_true rfl⟩ ⟨Nat.le_of_ble_eq_true rfl, Nat.le_of_ble_eq_true rfl⟩ rfl rfl (Nat.le_of_ble_eq_true rfl) dX1_table_90 (fun _ => ?_)
      refine zg_istore (lv' := [(5, .int (X_neutralOf f9 n)), (4, .int k), (3, .int (nI n)), (2, .ref rd), (1, .int (nI many)), (0, .ref (G 0))]) hO dX1_table_93 (Nat.le_of_ble_eq_true rfl) rfl ?_
      refine zg_iload hO 0 dX1_table_95 rfl ?_
      by_cases hn0 : 0 ≤ X_neutralOf f9 n
      · rw [if_pos hn0] at h
        unfold X_table2 at h
        refine zt_if_ge (tgt := 103) hO hn0 dX1_table_97 (by decide) ?_
        refine zg_aload_n hO 5 dX1_table_103 rfl rfl ?_
        refine zg_aload_n hO 3 dX1_table_104 rfl rfl ?_
        refine zg_put hO pX_37 0 rfl rfl rfl (Nat.le_of_ble_eq_true rfl) rfl dX1_table_105 ?_
        refine zt_swap (W0 := (WX dA G tb ad (zI σ 4 (nI 0))).set 0 _) 37 (by show 37 < (fixX dA G tb ad (zI σ 4 (nI 0)) ++ poolX ad (xN (zI σ 4 (nI 0))) (xC (zI σ 4 (nI 0)))).length; rw [List.length_append, wx_len]; omega) ?_
        show Go p l e (rmG 62 320 2500) s m args below meth c D A 6 _ (WX dA G rd ad (zX (zI σ 4 (nI 0)) 1 f9)) _ _ _ _ _
        refine zg_aload_n hO 5 dX1_table_108 rfl rfl ?_
        refine zg_iload_n hO 2 dX1_table_109 rfl rfl ?_
        refine xP_1_19 hO hX dX1_table_110 ?_
        refine zg_aload_n hO 5 dX1_table_113 rfl rfl ?_
        refine zg_iload hO 0 dX1_table_114 rfl ?_
        refine xP_1_113 hO hX dX1_table_116 ?_
        refine zg_aload_n hO 5 dX1_table_119 rfl rfl ?_
        refine xG_1_92 hO hX dX1_table_120 ?_
        refine zg_bipush hO dX1_table_123 (by decide : (Int8.ofInt 7).toInt32 = nI 7) ?_
        by_cases h7 : xI (zI (zI (zX (zI σ 4 (nI 0)) 1 f9) 1 (nI n)) 2 (X_neutralOf f9 n)) 0 = nI 7
        · rw [if_pos h7] at h
          obtain ⟨q, hq, h⟩ := zg_bind h
          have h := Option.some.inj h
          subst h
          refine zn_icmp_ne (tgt := 132) hO h7 dX1_table_125 (by decide) ?_
          refine zg_aload_n hO 5 dX1_table_128 rfl rfl ?_
          refine zx_callVv (na := 0) (As := []) (rest := []) hO hX (m_X_laysAll l D dA G rd ad hq) mw_X1_laysAll q616 ⟨Nat.le_of_ble_eq_true rfl, Nat.le_of_ble_eq_true rfl⟩ ⟨Nat.le_of_ble_eq_true rfl, Nat.le_of_ble_eq_true rfl⟩ rfl rfl (Nat.le_of_ble_eq_true rfl) ⟨0, 1, _, _, rfl, rfl, rfl⟩ dX1_table_129 (fun z2 => ?_)
          refine zg_iload_n hO 2 dX1_table_132 rfl rfl ?_
          exact zx_iret (f := fun z : (Nat → Nat) × Nat => WX dA G z.2 z.1 _) hO hr (z2.1, z2.2) rfl rfl ⟨Nat.le_of_ble_eq_true rfl, Nat.le_of_ble_eq_true rfl⟩ dX1_table_133
        · rw [if_neg h7] at h
          have h := Option.some.inj h
          subst h
          refine zt_icmp_ne (tgt := 132) hO h7 dX1_table_125 (by decide) ?_
          refine zg_iload_n hO 2 dX1_table_132 rfl rfl ?_
          exact zx_iret (f := fun z : (Nat → Nat) × Nat => WX dA G z.2 z.1 _) hO hr (ad, rd) rfl rfl ⟨Nat.le_of_ble_eq_true rfl, Nat.le_of_ble_eq_true rfl⟩ dX1_table_133
      · rw [if_neg hn0] at h
        have h := Option.some.inj h
        subst h
        refine zn_if_ge (tgt := 103) hO hn0 dX1_table_97 (by decide) ?_
        refine zg_bipush hO dX1_table_100 (by decide : (Int8.ofInt (-11)).toInt32 = (-11 : Int32)) ?_
        refine zj_tail ?_
        exact zx_iret (f := fun z : (Nat → Nat) × Nat => WX dA G z.2 z.1 _) hO hr (ad, tb) rfl rfl ⟨Nat.le_of_ble_eq_true rfl, Nat.le_of_ble_eq_true rfl⟩ dX1_table_102
    · rw [if_neg hk1] at h
      obtain ⟨s1, hq1, h⟩ := zg_bind h
      obtain ⟨s2, hq2, h⟩ := zg_bind h
      obtain ⟨s3, hq3, h⟩ := zg_bind h
      have h := Option.some.inj h
      subst h
      refine zn_icmp_eq (tgt := 88) hO hk1 dX1_table_46 (by decide) ?_
      refine zj_tail ?_
      refine zg_aload_n hO 4 dX1_table_49 rfl rfl ?_
      refine zg_iconst hO dX1_table_50 ic0 ?_
      refine xP_1_199 hO hX dX1_table_51 ?_
      refine zg_aload_n hO 4 dX1_table_54 rfl rfl ?_
      refine zg_iload hO 0 dX1_table_55 rfl ?_
      refine zg_iload_n hO 1 dX1_table_57 rfl rfl ?_
      refine zg_iload_n hO 1 dX1_table_58 rfl rfl ?_
      refine zg_imul hO dX1_table_59 ?_
      refine zg_idiv (f := some ()) (z := ()) hO (if_neg hz0.2) dX1_table_60 (fun _ => ?_)
      refine zg_i2l hO dX1_table_61 ?_
      refine zx_callVv (na := 1) (As := [.long (k / (nI n * nI n)).toInt64]) (rest := []) hO hX (m_X_tells l D dA G tb ad hq1) mw_X1_tells q1272 ⟨Nat.le_of_ble_eq_true rfl, Nat.le_of_ble_eq_true rfl⟩ ⟨Nat.le_of_ble_eq_true rfl, Nat.le_of_ble_eq_true rfl⟩ rfl rfl (Nat.le_of_ble_eq_true rfl) ⟨0, 1, _, _, rfl, rfl, rfl⟩ dX1_table_62 (fun _ => ?_)
      refine zg_aload_n hO 4 dX1_table_65 rfl rfl ?_
      refine zg_iload hO 0 dX1_table_66 rfl ?_
      refine zg_iload_n hO 1 dX1_table_68 rfl rfl ?_
      refine zg_idiv (f := some ()) (z := ()) hO (if_neg hz0.1) dX1_table_69 (fun _ => ?_)
      refine zg_iload_n hO 1 dX1_table_70 rfl rfl ?_
      refine zg_irem (f := some ()) (z := ()) hO (if_neg hz0.1) dX1_table_71 (fun _ => ?_)
      refine zg_i2l hO dX1_table_72 ?_
      refine zx_callVv (na := 1) (As := [.long (k / nI n - k / nI n / nI n * nI n).toInt64]) (rest := []) hO hX (m_X_tells l D dA G tb ad hq2) mw_X1_tells q1272 ⟨Nat.le_of_ble_eq_true rfl, Nat.le_of_ble_eq_true rfl⟩ ⟨Nat.le_of_ble_eq_true rfl, Nat.le_of_ble_eq_true rfl⟩ rfl rfl (Nat.le_of_ble_eq_true rfl) ⟨0, 1, _, _, rfl, rfl, rfl⟩ dX1_table_73 (fun _ => ?_)
      refine zg_aload_n hO 4 dX1_table_76 rfl rfl ?_
      refine zg_iload hO 0 dX1_table_77 rfl ?_
      refine zg_iload_n hO 1 dX1_table_79 rfl rfl ?_
      refine zg_irem (f := some ()) (z := ()) hO (if_neg hz0.1) dX1_table_80 (fun _ => ?_)
      refine zg_i2l hO dX1_table_81 ?_
      refine zx_callVv (na := 1) (As := [.long (k - k / nI n * nI n).toInt64]) (rest := []) hO hX (m_X_tells l D dA G tb ad hq3) mw_X1_tells q1272 ⟨Nat.le_of_ble_eq_true rfl, Nat.le_of_ble_eq_true rfl⟩ ⟨Nat.le_of_ble_eq_true rfl, Nat.le_of_ble_eq_true rfl⟩ rfl rfl (Nat.le_of_ble_eq_true rfl) ⟨0, 1, _, _, rfl, rfl, rfl⟩ dX1_table_82 (fun _ => ?_)
      refine zg_bipush hO dX1_table_85 (by decide : (Int8.ofInt (-10)).toInt32 = (-10 : Int32)) ?_
      exact zx_iret (f := fun z : (Nat → Nat) × Nat => WX dA G z.2 z.1 _) hO hr (ad, tb) rfl rfl ⟨Nat.le_of_ble_eq_true rfl, Nat.le_of_ble_eq_true rfl⟩ dX1_table_87
