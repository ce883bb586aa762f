set_option maxRecDepth 100000
/-! LinkedList(Collection) on a list of four boxes; layArrangements -/
theorem m_addAll2 (l : Launch) (D : va_G) (dA : Nat → ClassId) (G : Nat → Nat) {W0 : va_W} {ll kl ln k0 es x0 x1 x2 x3 : Nat} (h0 : W0[k0]? = some (es, .inl (dA 7, 4, rfA (el4 x0 x1 x2 x3)))) (hel : ∀ j y, el4 x0 x1 x2 x3 j = some y → ∃ k, k < 256 ∧ y = G (100 + k)) (hl0 : W0[kl]? = some (ln, .inr (8, [.ref es, .int (nI 0)]))) {mc : Int32} : CtX l yJ11_addAll_2 (ws_ yJ11_addAll_2 cJ11_addAll_2 13 (some .boolean)) 5 5 16 D dA G [.ref ll, .int (nI 0), .ref ln] (W0 ++ LL ll mc []) (QgI D dA (fun z : Nat × Nat × Nat × Nat => W0 ++ LL ll (mc + nI 1) [(z.1, x0), (z.2.1, x1), (z.2.2.1, x2), (z.2.2.2, x3)]) (nI 1)) := by
  refine zx_start (cc := cJ11_addAll_2) (nL := 13) (ret := (some .boolean)) (own := RJ11) (by decide) rfl rfl (Nat.le_of_ble_eq_true rfl) (fun p e s m args below meth c A hO hX hr hm _ => ?_)
  refine zg_sub (lv' := [(0, .ref ll), (1, .int (nI 0)), (2, .ref ln)]) [0, 1, 2] rfl ?_

  refine zg_aload_n hO 0 dJ11_addAll_2_0 rfl rfl ?_
  refine zg_iload_n hO 1 dJ11_addAll_2_1 rfl rfl ?_
  refine zx_callVv (na := 1) (As := [.int (nI 0)]) (rest := []) hO hX (m_ckPos l D dA G (i := 0) (Nat.le_of_ble_eq_true rfl) (Nat.le_refl _)) mw_J11_checkPositionIndex q399 ⟨Nat.le_of_ble_eq_true rfl, Nat.le_of_ble_eq_true rfl⟩ ⟨Nat.zero_le _, Nat.zero_le _⟩ rfl rfl (Nat.le_of_ble_eq_true rfl) ⟨W0.length, 6, _, _, ap0 (x := LO ll mc []) (L := []), rfl, rfl⟩ dJ11_addAll_2_2 (fun _ => ?_)
  refine zg_aload_n hO 2 dJ11_addAll_2_5 rfl rfl ?_
  refine zx_callFr (na := 0) (As := []) (rest := []) hO hX (m_ltoArray (W0 := W0 ++ LL ll mc []) l D dA G (apW h0) hel (apW hl0)) (by decide +kernel) q443 ⟨q445, q96, q447⟩ q408 (by decide +kernel) ⟨Nat.le_of_ble_eq_true rfl, Nat.le_of_ble_eq_true rfl⟩ ⟨Nat.le_of_ble_eq_true rfl, Nat.le_of_ble_eq_true rfl⟩ rfl rfl (Nat.le_of_ble_eq_true rfl) ⟨kl, 8, _, _, apW hl0, rfl, rfl⟩ dJ11_addAll_2_6 (fun q => ?_)
  refine zg_ws (ws' := W0 ++ [(ll, .inr (6, [.int mc, .int (nI 0), .null, .null])), (q, .inl (dA 7, 4, rfA (va_cpy (el4 x0 x1 x2 x3) (fun _ => none) 0 0 4)))]) (by rw [List.append_assoc]; rfl) ?_
  refine zg_astore_n (lv' := [(3, .ref q), (0, .ref ll), (1, .int (nI 0)), (2, .ref ln)]) hO dJ11_addAll_2_11 rfl (Nat.le_of_ble_eq_true rfl) rfl ?_
  refine zg_aload_n hO 0 dJ11_addAll_2_12 rfl rfl ?_
  refine zj_len (w := nI 4) hO (W0.length + 1) 7 ((apN 1).trans rfl) rfl rfl dJ11_addAll_2_13 ?_
  refine zg_istore (lv' := [(4, .int (nI 4)), (3, .ref q), (0, .ref ll), (1, .int (nI 0)), (2, .ref ln)]) hO dJ11_addAll_2_14 (Nat.le_of_ble_eq_true rfl) rfl ?_
  refine zg_iload hO 0 dJ11_addAll_2_16 rfl ?_
  refine zt_if_ne (tgt := 23) hO (by decide) dJ11_addAll_2_18 (by decide) ?_
  refine zg_iload_n hO 3 dJ11_addAll_2_23 rfl rfl ?_
  refine zg_aload_n hO 2 dJ11_addAll_2_24 rfl rfl ?_
  refine zg_get hO fJ11_7 (x := .int (nI 0)) (W0.length + 0) ((apN 0).trans rfl) rfl dJ11_addAll_2_25 ?_
  refine zn_icmp_ne (tgt := 43) hO rfl dJ11_addAll_2_28 (by decide) ?_
  refine zg_null hO dJ11_addAll_2_31 ?_
  refine zg_astoreN (lv' := [(6, .null), (4, .int (nI 4)), (3, .ref q), (0, .ref ll), (1, .int (nI 0)), (2, .ref ln)]) hO dJ11_addAll_2_32 (Nat.le_of_ble_eq_true rfl) rfl ?_
  refine zg_aload_n hO 3 dJ11_addAll_2_34 rfl rfl ?_
  refine zg_get hO fJ11_27 (x := .null) (W0.length + 0) ((apN 0).trans rfl) rfl dJ11_addAll_2_35 ?_
  refine zg_astoreN (lv' := [(5, .null), (6, .null), (4, .int (nI 4)), (3, .ref q), (0, .ref ll), (1, .int (nI 0)), (2, .ref ln)]) hO dJ11_addAll_2_38 (Nat.le_of_ble_eq_true rfl) rfl ?_
  refine zg_goto (tgt := 57) hO dJ11_addAll_2_40 (by decide) ?_
  refine zg_aload_n hO 3 dJ11_addAll_2_57 rfl rfl ?_
  refine zg_astore (lv' := [(7, .ref q), (5, .null), (6, .null), (4, .int (nI 4)), (3, .ref q), (0, .ref ll), (1, .int (nI 0)), (2, .ref ln)]) hO dJ11_addAll_2_58 (Nat.le_of_ble_eq_true rfl) rfl ?_
  refine zg_aload hO 0 dJ11_addAll_2_60 rfl ?_
  refine zj_len (w := nI 4) hO (W0.length + 1) 7 ((apN 1).trans rfl) rfl rfl dJ11_addAll_2_62 ?_
  refine zg_istore (lv' := [(8, .int (nI 4)), (7, .ref q), (5, .null), (6, .null), (4, .int (nI 4)), (3, .ref q), (0, .ref ll), (1, .int (nI 0)), (2, .ref ln)]) hO dJ11_addAll_2_63 (Nat.le_of_ble_eq_true rfl) rfl ?_
  refine zg_iconst hO dJ11_addAll_2_65 ic0 ?_
  refine zg_istore (lv' := [(9, .int (nI 0)), (8, .int (nI 4)), (7, .ref q), (5, .null), (6, .null), (4, .int (nI 4)), (3, .ref q), (0, .ref ll), (1, .int (nI 0)), (2, .ref ln)]) hO dJ11_addAll_2_66 (Nat.le_of_ble_eq_true rfl) rfl ?_
  refine zg_iload hO 0 dJ11_addAll_2_68 rfl ?_
  refine zg_iload hO 1 dJ11_addAll_2_70 rfl ?_
  refine zn_icmp_ge (tgt := 131) hO (by decide) dJ11_addAll_2_72 (by decide) ?_
  refine zg_aload hO 2 dJ11_addAll_2_75 rfl ?_
  refine zg_iload hO 0 dJ11_addAll_2_77 rfl ?_
  refine zk_ldE (x := x0) hO (W0.length + 1) ((apN 1).trans rfl) (by unfold vp_in; decide) rfl dJ11_addAll_2_79 ?_
  refine zg_astore (lv' := [(10, .ref x0), (9, .int (nI 0)), (8, .int (nI 4)), (7, .ref q), (5, .null), (6, .null), (4, .int (nI 4)), (3, .ref q), (0, .ref ll), (1, .int (nI 0)), (2, .ref ln)]) hO dJ11_addAll_2_80 (Nat.le_of_ble_eq_true rfl) rfl ?_
  refine zg_aload hO 0 dJ11_addAll_2_82 rfl ?_
  refine zg_astore (lv' := [(11, .ref x0), (10, .ref x0), (9, .int (nI 0)), (8, .int (nI 4)), (7, .ref q), (5, .null), (6, .null), (4, .int (nI 4)), (3, .ref q), (0, .ref ll), (1, .int (nI 0)), (2, .ref ln)]) hO dJ11_addAll_2_84 (Nat.le_of_ble_eq_true rfl) rfl ?_
  refine zj_new (ci := 7) (fs := [.null, .null, .null]) (C := RJ15) (T := TJ15) (M := 3) hO in_J15 tyJ15 tyJ15_ok q466 q467 q105 rfl (fun j hj => by rcases (show j = 0 ∨ j = 1 ∨ j = 2 by omega) with rfl | rfl | rfl <;> rfl) (Nat.le_of_ble_eq_true rfl) (Nat.le_of_ble_eq_true rfl) dJ11_addAll_2_86 (fun a0 => ?_)
  refine zg_dup hO dJ11_addAll_2_89 rfl ?_
  refine zg_aloadN hO 5 dJ11_addAll_2_90 rfl ?_
  refine zg_aload hO 0 dJ11_addAll_2_92 rfl ?_
  refine zg_null hO dJ11_addAll_2_94 ?_
  refine zx_callIv (na := 3) (As := [.null, .ref x0, .null]) (rest := [.ref a0]) hO hX (m_noden (W0 := W0 ++ [(ll, .inr (6, [.int mc, .int (nI 0), .null, .null])), (q, .inl (dA 7, 4, rfA (va_cpy (el4 x0 x1 x2 x3) (fun _ => none) 0 0 4)))]) l D dA G) rfl ⟨by decide +kernel, q469, q105, q470⟩ q468 ⟨Nat.le_of_ble_eq_true rfl, Nat.le_of_ble_eq_true rfl⟩ ⟨Nat.le_of_ble_eq_true rfl, Nat.le_of_ble_eq_true rfl⟩ rfl rfl (Nat.le_of_ble_eq_true rfl) dJ11_addAll_2_95 (fun _ => ?_)
  refine zg_ws (ws' := W0 ++ [(ll, .inr (6, [.int mc, .int (nI 0), .null, .null])), (q, .inl (dA 7, 4, rfA (va_cpy (el4 x0 x1 x2 x3) (fun _ => none) 0 0 4))), (a0, .inr (7, [.ref x0, .null, .null]))]) (by rw [List.append_assoc]; rfl) ?_
  refine zg_astore (lv' := [(12, .ref a0), (11, .ref x0), (10, .ref x0), (9, .int (nI 0)), (8, .int (nI 4)), (7, .ref q), (5, .null), (6, .null), (4, .int (nI 4)), (3, .ref q), (0, .ref ll), (1, .int (nI 0)), (2, .ref ln)]) hO dJ11_addAll_2_98 (Nat.le_of_ble_eq_true rfl) rfl ?_
  refine zg_aloadN hO 6 dJ11_addAll_2_100 rfl ?_
  refine zj_nonnullN hO dJ11_addAll_2_102 ?_
  refine zg_aload_n hO 10 dJ11_addAll_2_105 rfl rfl ?_
  refine zg_aload hO 0 dJ11_addAll_2_106 rfl ?_
  refine zg_put (ws' := W0 ++ [(ll, .inr (6, [.int mc, .int (nI 0), .ref a0, .null])), (q, .inl (dA 7, 4, rfA (va_cpy (el4 x0 x1 x2 x3) (fun _ => none) 0 0 4))), (a0, .inr (7, [.ref x0, .null, .null]))]) hO pJ11_18 (W0.length + 0) ((apN 0).trans rfl) rfl rfl (Nat.le_of_ble_eq_true rfl) ((asN 0 _).trans rfl) dJ11_addAll_2_108 ?_
  refine zg_goto (tgt := 121) hO dJ11_addAll_2_111 (by decide) ?_
  refine zg_aload hO 0 dJ11_addAll_2_121 rfl ?_
  refine zg_astore (lv' := [(5, .ref a0), (12, .ref a0), (11, .ref x0), (10, .ref x0), (9, .int (nI 0)), (8, .int (nI 4)), (7, .ref q), (6, .null), (4, .int (nI 4)), (3, .ref q), (0, .ref ll), (1, .int (nI 0)), (2, .ref ln)]) hO dJ11_addAll_2_123 (Nat.le_of_ble_eq_true rfl) rfl ?_
  refine zg_iinc (k := 4) (lv' := [(9, .int ((nI 0) + (nI 1))), (5, .ref a0), (12, .ref a0), (11, .ref x0), (10, .ref x0), (8, .int (nI 4)), (7, .ref q), (6, .null), (4, .int (nI 4)), (3, .ref q), (0, .ref ll), (1, .int (nI 0)), (2, .ref ln)]) hO dJ11_addAll_2_125 rfl (zii ic1) (Nat.le_of_ble_eq_true rfl) rfl ?_
  rw [show ((nI 0) + (nI 1)) = nI 1 by decide]
  refine zg_goto (tgt := 68) hO dJ11_addAll_2_128 (by decide) ?_
  refine zg_iload hO 0 dJ11_addAll_2_68 rfl ?_
  refine zg_iload hO 5 dJ11_addAll_2_70 rfl ?_
  refine zn_icmp_ge (tgt := 131) hO (by decide) dJ11_addAll_2_72 (by decide) ?_
  refine zg_aload hO 6 dJ11_addAll_2_75 rfl ?_
  refine zg_iload hO 0 dJ11_addAll_2_77 rfl ?_
  refine zk_ldE (x := x1) hO (W0.length + 1) ((apN 1).trans rfl) (by unfold vp_in; decide) rfl dJ11_addAll_2_79 ?_
  refine zg_astore (lv' := [(10, .ref x1), (9, .int (nI 1)), (5, .ref a0), (12, .ref a0), (11, .ref x0), (8, .int (nI 4)), (7, .ref q), (6, .null), (4, .int (nI 4)), (3, .ref q), (0, .ref ll), (1, .int (nI 0)), (2, .ref ln)]) hO dJ11_addAll_2_80 (Nat.le_of_ble_eq_true rfl) rfl ?_
  refine zg_aload hO 0 dJ11_addAll_2_82 rfl ?_
  refine zg_astore (lv' := [(11, .ref x1), (10, .ref x1), (9, .int (nI 1)), (5, .ref a0), (12, .ref a0), (8, .int (nI 4)), (7, .ref q), (6, .null), (4, .int (nI 4)), (3, .ref q), (0, .ref ll), (1, .int (nI 0)), (2, .ref ln)]) hO dJ11_addAll_2_84 (Nat.le_of_ble_eq_true rfl) rfl ?_
  refine zj_new (ci := 7) (fs := [.null, .null, .null]) (C := RJ15) (T := TJ15) (M := 3) hO in_J15 tyJ15 tyJ15_ok q466 q467 q105 rfl (fun j hj => by rcases (show j = 0 ∨ j = 1 ∨ j = 2 by omega) with rfl | rfl | rfl <;> rfl) (Nat.le_of_ble_eq_true rfl) (Nat.le_of_ble_eq_true rfl) dJ11_addAll_2_86 (fun a1 => ?_)
  refine zg_dup hO dJ11_addAll_2_89 rfl ?_
  refine zg_aload hO 3 dJ11_addAll_2_90 rfl ?_
  refine zg_aload hO 0 dJ11_addAll_2_92 rfl ?_
  refine zg_null hO dJ11_addAll_2_94 ?_
  refine zx_callIv (na := 3) (As := [.ref a0, .ref x1, .null]) (rest := [.ref a1]) hO hX (m_noder (W0 := W0 ++ [(ll, .inr (6, [.int mc, .int (nI 0), .ref a0, .null])), (q, .inl (dA 7, 4, rfA (va_cpy (el4 x0 x1 x2 x3) (fun _ => none) 0 0 4))), (a0, .inr (7, [.ref x0, .null, .null]))]) l D dA G) rfl ⟨by decide +kernel, q469, q105, q470⟩ q468 ⟨Nat.le_of_ble_eq_true rfl, Nat.le_of_ble_eq_true rfl⟩ ⟨Nat.le_of_ble_eq_true rfl, Nat.le_of_ble_eq_true rfl⟩ rfl rfl (Nat.le_of_ble_eq_true rfl) dJ11_addAll_2_95 (fun _ => ?_)
  refine zg_ws (ws' := W0 ++ [(ll, .inr (6, [.int mc, .int (nI 0), .ref a0, .null])), (q, .inl (dA 7, 4, rfA (va_cpy (el4 x0 x1 x2 x3) (fun _ => none) 0 0 4))), (a0, .inr (7, [.ref x0, .null, .null])), (a1, .inr (7, [.ref x1, .null, .ref a0]))]) (by rw [List.append_assoc]; rfl) ?_
  refine zg_astore (lv' := [(12, .ref a1), (11, .ref x1), (10, .ref x1), (9, .int (nI 1)), (5, .ref a0), (8, .int (nI 4)), (7, .ref q), (6, .null), (4, .int (nI 4)), (3, .ref q), (0, .ref ll), (1, .int (nI 0)), (2, .ref ln)]) hO dJ11_addAll_2_98 (Nat.le_of_ble_eq_true rfl) rfl ?_
  refine zg_aload hO 4 dJ11_addAll_2_100 rfl ?_
  refine zj_nonnull (tgt := 114) hO dJ11_addAll_2_102 (by decide) ?_
  refine zg_aload hO 4 dJ11_addAll_2_114 rfl ?_
  refine zg_aload hO 0 dJ11_addAll_2_116 rfl ?_
  refine zg_put (ws' := W0 ++ [(ll, .inr (6, [.int mc, .int (nI 0), .ref a0, .null])), (q, .inl (dA 7, 4, rfA (va_cpy (el4 x0 x1 x2 x3) (fun _ => none) 0 0 4))), (a0, .inr (7, [.ref x0, .ref a1, .null])), (a1, .inr (7, [.ref x1, .null, .ref a0]))]) hO pJ11_36 (W0.length + 2) ((apN 2).trans rfl) rfl rfl (Nat.le_of_ble_eq_true rfl) ((asN 2 _).trans rfl) dJ11_addAll_2_118 ?_
  refine zg_aload hO 0 dJ11_addAll_2_121 rfl ?_
  refine zg_astore (lv' := [(5, .ref a1), (12, .ref a1), (11, .ref x1), (10, .ref x1), (9, .int (nI 1)), (8, .int (nI 4)), (7, .ref q), (6, .null), (4, .int (nI 4)), (3, .ref q), (0, .ref ll), (1, .int (nI 0)), (2, .ref ln)]) hO dJ11_addAll_2_123 (Nat.le_of_ble_eq_true rfl) rfl ?_
  refine zg_iinc (k := 4) (lv' := [(9, .int ((nI 1) + (nI 1))), (5, .ref a1), (12, .ref a1), (11, .ref x1), (10, .ref x1), (8, .int (nI 4)), (7, .ref q), (6, .null), (4, .int (nI 4)), (3, .ref q), (0, .ref ll), (1, .int (nI 0)), (2, .ref ln)]) hO dJ11_addAll_2_125 rfl (zii ic1) (Nat.le_of_ble_eq_true rfl) rfl ?_
  rw [show ((nI 1) + (nI 1)) = nI 2 by decide]
  refine zg_goto (tgt := 68) hO dJ11_addAll_2_128 (by decide) ?_
  refine zg_iload hO 0 dJ11_addAll_2_68 rfl ?_
  refine zg_iload hO 5 dJ11_addAll_2_70 rfl ?_
  refine zn_icmp_ge (tgt := 131) hO (by decide) dJ11_addAll_2_72 (by decide) ?_
  refine zg_aload hO 6 dJ11_addAll_2_75 rfl ?_
  refine zg_iload hO 0 dJ11_addAll_2_77 rfl ?_
  refine zk_ldE (x := x2) hO (W0.length + 1) ((apN 1).trans rfl) (by unfold vp_in; decide) rfl dJ11_addAll_2_79 ?_
  refine zg_astore (lv' := [(10, .ref x2), (9, .int (nI 2)), (5, .ref a1), (12, .ref a1), (11, .ref x1), (8, .int (nI 4)), (7, .ref q), (6, .null), (4, .int (nI 4)), (3, .ref q), (0, .ref ll), (1, .int (nI 0)), (2, .ref ln)]) hO dJ11_addAll_2_80 (Nat.le_of_ble_eq_true rfl) rfl ?_
  refine zg_aload hO 0 dJ11_addAll_2_82 rfl ?_
  refine zg_astore (lv' := [(11, .ref x2), (10, .ref x2), (9, .int (nI 2)), (5, .ref a1), (12, .ref a1), (8, .int (nI 4)), (7, .ref q), (6, .null), (4, .int (nI 4)), (3, .ref q), (0, .ref ll), (1, .int (nI 0)), (2, .ref ln)]) hO dJ11_addAll_2_84 (Nat.le_of_ble_eq_true rfl) rfl ?_
  refine zj_new (ci := 7) (fs := [.null, .null, .null]) (C := RJ15) (T := TJ15) (M := 3) hO in_J15 tyJ15 tyJ15_ok q466 q467 q105 rfl (fun j hj => by rcases (show j = 0 ∨ j = 1 ∨ j = 2 by omega) with rfl | rfl | rfl <;> rfl) (Nat.le_of_ble_eq_true rfl) (Nat.le_of_ble_eq_true rfl) dJ11_addAll_2_86 (fun a2 => ?_)
  refine zg_dup hO dJ11_addAll_2_89 rfl ?_
  refine zg_aload hO 3 dJ11_addAll_2_90 rfl ?_
  refine zg_aload hO 0 dJ11_addAll_2_92 rfl ?_
  refine zg_null hO dJ11_addAll_2_94 ?_
  refine zx_callIv (na := 3) (As := [.ref a1, .ref x2, .null]) (rest := [.ref a2]) hO hX (m_noder (W0 := W0 ++ [(ll, .inr (6, [.int mc, .int (nI 0), .ref a0, .null])), (q, .inl (dA 7, 4, rfA (va_cpy (el4 x0 x1 x2 x3) (fun _ => none) 0 0 4))), (a0, .inr (7, [.ref x0, .ref a1, .null])), (a1, .inr (7, [.ref x1, .null, .ref a0]))]) l D dA G) rfl ⟨by decide +kernel, q469, q105, q470⟩ q468 ⟨Nat.le_of_ble_eq_true rfl, Nat.le_of_ble_eq_true rfl⟩ ⟨Nat.le_of_ble_eq_true rfl, Nat.le_of_ble_eq_true rfl⟩ rfl rfl (Nat.le_of_ble_eq_true rfl) dJ11_addAll_2_95 (fun _ => ?_)
  refine zg_ws (ws' := W0 ++ [(ll, .inr (6, [.int mc, .int (nI 0), .ref a0, .null])), (q, .inl (dA 7, 4, rfA (va_cpy (el4 x0 x1 x2 x3) (fun _ => none) 0 0 4))), (a0, .inr (7, [.ref x0, .ref a1, .null])), (a1, .inr (7, [.ref x1, .null, .ref a0])), (a2, .inr (7, [.ref x2, .null, .ref a1]))]) (by rw [List.append_assoc]; rfl) ?_
  refine zg_astore (lv' := [(12, .ref a2), (11, .ref x2), (10, .ref x2), (9, .int (nI 2)), (5, .ref a1), (8, .int (nI 4)), (7, .ref q), (6, .null), (4, .int (nI 4)), (3, .ref q), (0, .ref ll), (1, .int (nI 0)), (2, .ref ln)]) hO dJ11_addAll_2_98 (Nat.le_of_ble_eq_true rfl) rfl ?_
  refine zg_aload hO 4 dJ11_addAll_2_100 rfl ?_
  refine zj_nonnull (tgt := 114) hO dJ11_addAll_2_102 (by decide) ?_
  refine zg_aload hO 4 dJ11_addAll_2_114 rfl ?_
  refine zg_aload hO 0 dJ11_addAll_2_116 rfl ?_
  refine zg_put (ws' := W0 ++ [(ll, .inr (6, [.int mc, .int (nI 0), .ref a0, .null])), (q, .inl (dA 7, 4, rfA (va_cpy (el4 x0 x1 x2 x3) (fun _ => none) 0 0 4))), (a0, .inr (7, [.ref x0, .ref a1, .null])), (a1, .inr (7, [.ref x1, .ref a2, .ref a0])), (a2, .inr (7, [.ref x2, .null, .ref a1]))]) hO pJ11_36 (W0.length + 3) ((apN 3).trans rfl) rfl rfl (Nat.le_of_ble_eq_true rfl) ((asN 3 _).trans rfl) dJ11_addAll_2_118 ?_
  refine zg_aload hO 0 dJ11_addAll_2_121 rfl ?_
  refine zg_astore (lv' := [(5, .ref a2), (12, .ref a2), (11, .ref x2), (10, .ref x2), (9, .int (nI 2)), (8, .int (nI 4)), (7, .ref q), (6, .null), (4, .int (nI 4)), (3, .ref q), (0, .ref ll), (1, .int (nI 0)), (2, .ref ln)]) hO dJ11_addAll_2_123 (Nat.le_of_ble_eq_true rfl) rfl ?_
  refine zg_iinc (k := 4) (lv' := [(9, .int ((nI 2) + (nI 1))), (5, .ref a2), (12, .ref a2), (11, .ref x2), (10, .ref x2), (8, .int (nI 4)), (7, .ref q), (6, .null), (4, .int (nI 4)), (3, .ref q), (0, .ref ll), (1, .int (nI 0)), (2, .ref ln)]) hO dJ11_addAll_2_125 rfl (zii ic1) (Nat.le_of_ble_eq_true rfl) rfl ?_
  rw [show ((nI 2) + (nI 1)) = nI 3 by decide]
  refine zg_goto (tgt := 68) hO dJ11_addAll_2_128 (by decide) ?_
  refine zg_iload hO 0 dJ11_addAll_2_68 rfl ?_
  refine zg_iload hO 5 dJ11_addAll_2_70 rfl ?_
  refine zn_icmp_ge (tgt := 131) hO (by decide) dJ11_addAll_2_72 (by decide) ?_
  refine zg_aload hO 6 dJ11_addAll_2_75 rfl ?_
  refine zg_iload hO 0 dJ11_addAll_2_77 rfl ?_
  refine zk_ldE (x := x3) hO (W0.length + 1) ((apN 1).trans rfl) (by unfold vp_in; decide) rfl dJ11_addAll_2_79 ?_
  refine zg_astore (lv' := [(10, .ref x3), (9, .int (nI 3)), (5, .ref a2), (12, .ref a2), (11, .ref x2), (8, .int (nI 4)), (7, .ref q), (6, .null), (4, .int (nI 4)), (3, .ref q), (0, .ref ll), (1, .int (nI 0)), (2, .ref ln)]) hO dJ11_addAll_2_80 (Nat.le_of_ble_eq_true rfl) rfl ?_
  refine zg_aload hO 0 dJ11_addAll_2_82 rfl ?_
  refine zg_astore (lv' := [(11, .ref x3), (10, .ref x3), (9, .int (nI 3)), (5, .ref a2), (12, .ref a2), (8, .int (nI 4)), (7, .ref q), (6, .null), (4, .int (nI 4)), (3, .ref q), (0, .ref ll), (1, .int (nI 0)), (2, .ref ln)]) hO dJ11_addAll_2_84 (Nat.le_of_ble_eq_true rfl) rfl ?_
  refine zj_new (ci := 7) (fs := [.null, .null, .null]) (C := RJ15) (T := TJ15) (M := 3) hO in_J15 tyJ15 tyJ15_ok q466 q467 q105 rfl (fun j hj => by rcases (show j = 0 ∨ j = 1 ∨ j = 2 by omega) with rfl | rfl | rfl <;> rfl) (Nat.le_of_ble_eq_true rfl) (Nat.le_of_ble_eq_true rfl) dJ11_addAll_2_86 (fun a3 => ?_)
  refine zg_dup hO dJ11_addAll_2_89 rfl ?_
  refine zg_aload hO 3 dJ11_addAll_2_90 rfl ?_
  refine zg_aload hO 0 dJ11_addAll_2_92 rfl ?_
  refine zg_null hO dJ11_addAll_2_94 ?_
  refine zx_callIv (na := 3) (As := [.ref a2, .ref x3, .null]) (rest := [.ref a3]) hO hX (m_noder (W0 := W0 ++ [(ll, .inr (6, [.int mc, .int (nI 0), .ref a0, .null])), (q, .inl (dA 7, 4, rfA (va_cpy (el4 x0 x1 x2 x3) (fun _ => none) 0 0 4))), (a0, .inr (7, [.ref x0, .ref a1, .null])), (a1, .inr (7, [.ref x1, .ref a2, .ref a0])), (a2, .inr (7, [.ref x2, .null, .ref a1]))]) l D dA G) rfl ⟨by decide +kernel, q469, q105, q470⟩ q468 ⟨Nat.le_of_ble_eq_true rfl, Nat.le_of_ble_eq_true rfl⟩ ⟨Nat.le_of_ble_eq_true rfl, Nat.le_of_ble_eq_true rfl⟩ rfl rfl (Nat.le_of_ble_eq_true rfl) dJ11_addAll_2_95 (fun _ => ?_)
  refine zg_ws (ws' := W0 ++ [(ll, .inr (6, [.int mc, .int (nI 0), .ref a0, .null])), (q, .inl (dA 7, 4, rfA (va_cpy (el4 x0 x1 x2 x3) (fun _ => none) 0 0 4))), (a0, .inr (7, [.ref x0, .ref a1, .null])), (a1, .inr (7, [.ref x1, .ref a2, .ref a0])), (a2, .inr (7, [.ref x2, .null, .ref a1])), (a3, .inr (7, [.ref x3, .null, .ref a2]))]) (by rw [List.append_assoc]; rfl) ?_
  refine zg_astore (lv' := [(12, .ref a3), (11, .ref x3), (10, .ref x3), (9, .int (nI 3)), (5, .ref a2), (8, .int (nI 4)), (7, .ref q), (6, .null), (4, .int (nI 4)), (3, .ref q), (0, .ref ll), (1, .int (nI 0)), (2, .ref ln)]) hO dJ11_addAll_2_98 (Nat.le_of_ble_eq_true rfl) rfl ?_
  refine zg_aload hO 4 dJ11_addAll_2_100 rfl ?_
  refine zj_nonnull (tgt := 114) hO dJ11_addAll_2_102 (by decide) ?_
  refine zg_aload hO 4 dJ11_addAll_2_114 rfl ?_
  refine zg_aload hO 0 dJ11_addAll_2_116 rfl ?_
  refine zg_put (ws' := W0 ++ [(ll, .inr (6, [.int mc, .int (nI 0), .ref a0, .null])), (q, .inl (dA 7, 4, rfA (va_cpy (el4 x0 x1 x2 x3) (fun _ => none) 0 0 4))), (a0, .inr (7, [.ref x0, .ref a1, .null])), (a1, .inr (7, [.ref x1, .ref a2, .ref a0])), (a2, .inr (7, [.ref x2, .ref a3, .ref a1])), (a3, .inr (7, [.ref x3, .null, .ref a2]))]) hO pJ11_36 (W0.length + 4) ((apN 4).trans rfl) rfl rfl (Nat.le_of_ble_eq_true rfl) ((asN 4 _).trans rfl) dJ11_addAll_2_118 ?_
  refine zg_aload hO 0 dJ11_addAll_2_121 rfl ?_
  refine zg_astore (lv' := [(5, .ref a3), (12, .ref a3), (11, .ref x3), (10, .ref x3), (9, .int (nI 3)), (8, .int (nI 4)), (7, .ref q), (6, .null), (4, .int (nI 4)), (3, .ref q), (0, .ref ll), (1, .int (nI 0)), (2, .ref ln)]) hO dJ11_addAll_2_123 (Nat.le_of_ble_eq_true rfl) rfl ?_
  refine zg_iinc (k := 4) (lv' := [(9, .int ((nI 3) + (nI 1))), (5, .ref a3), (12, .ref a3), (11, .ref x3), (10, .ref x3), (8, .int (nI 4)), (7, .ref q), (6, .null), (4, .int (nI 4)), (3, .ref q), (0, .ref ll), (1, .int (nI 0)), (2, .ref ln)]) hO dJ11_addAll_2_125 rfl (zii ic1) (Nat.le_of_ble_eq_true rfl) rfl ?_
  rw [show ((nI 3) + (nI 1)) = nI 4 by decide]
  refine zg_goto (tgt := 68) hO dJ11_addAll_2_128 (by decide) ?_
  refine zg_iload hO 0 dJ11_addAll_2_68 rfl ?_
  refine zg_iload hO 5 dJ11_addAll_2_70 rfl ?_
  refine zt_icmp_ge (tgt := 131) hO (Int32.le_refl _) dJ11_addAll_2_72 (by decide) ?_
  refine zg_aloadN hO 7 dJ11_addAll_2_131 rfl ?_
  refine zj_nonnullN hO dJ11_addAll_2_133 ?_
  refine zg_aload_n hO 10 dJ11_addAll_2_136 rfl rfl ?_
  refine zg_aload hO 1 dJ11_addAll_2_137 rfl ?_
  refine zg_put (ws' := W0 ++ [(ll, .inr (6, [.int mc, .int (nI 0), .ref a0, .ref a3])), (q, .inl (dA 7, 4, rfA (va_cpy (el4 x0 x1 x2 x3) (fun _ => none) 0 0 4))), (a0, .inr (7, [.ref x0, .ref a1, .null])), (a1, .inr (7, [.ref x1, .ref a2, .ref a0])), (a2, .inr (7, [.ref x2, .ref a3, .ref a1])), (a3, .inr (7, [.ref x3, .null, .ref a2]))]) hO pJ11_27 (W0.length + 0) ((apN 0).trans rfl) rfl rfl (Nat.le_of_ble_eq_true rfl) ((asN 0 _).trans rfl) dJ11_addAll_2_139 ?_
  refine zg_goto (tgt := 159) hO dJ11_addAll_2_142 (by decide) ?_
  refine zg_aload_n hO 10 dJ11_addAll_2_159 rfl rfl ?_
  refine zg_dup hO dJ11_addAll_2_160 rfl ?_
  refine zg_get hO fJ11_7 (x := .int (nI 0)) (W0.length + 0) ((apN 0).trans rfl) rfl dJ11_addAll_2_161 ?_
  refine zg_iload hO 8 dJ11_addAll_2_164 rfl ?_
  refine zg_iadd hO dJ11_addAll_2_166 ?_
  rw [show nI 0 + nI 4 = nI 4 by decide]
  refine zg_put (ws' := W0 ++ [(ll, .inr (6, [.int mc, .int (nI 4), .ref a0, .ref a3])), (q, .inl (dA 7, 4, rfA (va_cpy (el4 x0 x1 x2 x3) (fun _ => none) 0 0 4))), (a0, .inr (7, [.ref x0, .ref a1, .null])), (a1, .inr (7, [.ref x1, .ref a2, .ref a0])), (a2, .inr (7, [.ref x2, .ref a3, .ref a1])), (a3, .inr (7, [.ref x3, .null, .ref a2]))]) hO pJ11_7 (W0.length + 0) ((apN 0).trans rfl) rfl rfl (Nat.le_of_ble_eq_true rfl) ((asN 0 _).trans rfl) dJ11_addAll_2_167 ?_
  refine zg_aload_n hO 10 dJ11_addAll_2_170 rfl rfl ?_
  refine zg_dup hO dJ11_addAll_2_171 rfl ?_
  refine zg_get hO fJ11_33 (x := .int mc) (W0.length + 0) ((apN 0).trans rfl) rfl dJ11_addAll_2_172 ?_
  refine zg_iconst hO dJ11_addAll_2_175 ic1 ?_
  refine zg_iadd hO dJ11_addAll_2_176 ?_
  refine zg_put (ws' := W0 ++ [(ll, .inr (6, [.int (mc + nI 1), .int (nI 4), .ref a0, .ref a3])), (q, .inl (dA 7, 4, rfA (va_cpy (el4 x0 x1 x2 x3) (fun _ => none) 0 0 4))), (a0, .inr (7, [.ref x0, .ref a1, .null])), (a1, .inr (7, [.ref x1, .ref a2, .ref a0])), (a2, .inr (7, [.ref x2, .ref a3, .ref a1])), (a3, .inr (7, [.ref x3, .null, .ref a2]))]) hO pJ11_33 (W0.length + 0) ((apN 0).trans rfl) rfl rfl (Nat.le_of_ble_eq_true rfl) ((asN 0 _).trans rfl) dJ11_addAll_2_177 ?_
  refine zg_iconst hO dJ11_addAll_2_180 ic1 ?_
  refine zk_erase (ws' := W0 ++ LL ll (mc + nI 1) [(a0, x0), (a1, x1), (a2, x2), (a3, x3)]) (W0.length + 1) ((erN 1).trans rfl) ?_
  exact zx_zret (f := (fun z : Nat × Nat × Nat × Nat => W0 ++ LL ll (mc + nI 1) [(z.1, x0), (z.2.1, x1), (z.2.2.1, x2), (z.2.2.2, x3)])) hO hr (Or.inr rfl) (a0, a1, a2, a3) rfl rfl ⟨Nat.le_refl _, Nat.le_refl _⟩ dJ11_addAll_2_181
theorem mw_J11_addAll_2 : MwX yJ11_addAll_2 cJ11_addAll_2 13 (some .boolean) RJ11 2 := ⟨by decide +kernel, q396, q397, q99, q398⟩
theorem m_addAll (l : Launch) (D : va_G) (dA : Nat → ClassId) (G : Nat → Nat) {W0 : va_W} {ll kl ln k0 es x0 x1 x2 x3 : Nat} (h0 : W0[k0]? = some (es, .inl (dA 7, 4, rfA (el4 x0 x1 x2 x3)))) (hel : ∀ j y, el4 x0 x1 x2 x3 j = some y → ∃ k, k < 256 ∧ y = G (100 + k)) (hl0 : W0[kl]? = some (ln, .inr (8, [.ref es, .int (nI 0)]))) {mc : Int32} : CtX l yJ11_addAll (ws_ yJ11_addAll cJ11_addAll 2 (some .boolean)) 6 5 16 D dA G [.ref ll, .ref ln] (W0 ++ LL ll mc []) (QgI D dA (fun z : Nat × Nat × Nat × Nat => W0 ++ LL ll (mc + nI 1) [(z.1, x0), (z.2.1, x1), (z.2.2.1, x2), (z.2.2.2, x3)]) (nI 1)) := by
  refine zx_start (cc := cJ11_addAll) (nL := 2) (ret := (some .boolean)) (own := RJ11) (by decide) rfl rfl (Nat.le_of_ble_eq_true rfl) (fun p e s m args below meth c A hO hX hr hm _ => ?_)
  refine zg_sub (lv' := [(0, .ref ll), (1, .ref ln)]) [0, 1] rfl ?_
  refine zg_aload_n hO 0 dJ11_addAll_0 rfl rfl ?_
  refine zg_aload_n hO 0 dJ11_addAll_1 rfl rfl ?_
  refine zg_get hO fJ11_7 (x := .int (nI 0)) W0.length (ap0 (x := LO ll mc []) (L := [])) rfl dJ11_addAll_2 ?_
  refine zg_aload_n hO 1 dJ11_addAll_5 rfl rfl ?_
  refine zx_callVi (na := 2) (As := [.int (nI 0), .ref ln]) (rest := []) hO hX (m_addAll2 l D dA G h0 hel hl0) mw_J11_addAll_2 q395 ⟨Nat.le_of_ble_eq_true rfl, Nat.le_of_ble_eq_true rfl⟩ ⟨Nat.le_of_ble_eq_true rfl, Nat.le_of_ble_eq_true rfl⟩ rfl rfl (Nat.le_of_ble_eq_true rfl) ⟨W0.length, 6, _, _, ap0 (x := LO ll mc []) (L := []), rfl, rfl⟩ dJ11_addAll_6 (fun z => ?_)
  exact zx_zret (f := (fun z : Nat × Nat × Nat × Nat => W0 ++ LL ll (mc + nI 1) [(z.1, x0), (z.2.1, x1), (z.2.2.1, x2), (z.2.2.2, x3)])) hO hr (Or.inr rfl) z rfl rfl ⟨Nat.le_refl _, Nat.le_refl _⟩ dJ11_addAll_9
theorem mw_J11_addAll : MwX yJ11_addAll cJ11_addAll 2 (some .boolean) RJ11 1 := ⟨by decide +kernel, q392, q393, q99, q394⟩
theorem m_llinitC (l : Launch) (D : va_G) (dA : Nat → ClassId) (G : Nat → Nat) {W0 : va_W} {ll kl ln k0 es x0 x1 x2 x3 : Nat} (h0 : W0[k0]? = some (es, .inl (dA 7, 4, rfA (el4 x0 x1 x2 x3)))) (hel : ∀ j y, el4 x0 x1 x2 x3 j = some y → ∃ k, k < 256 ∧ y = G (100 + k)) (hl0 : W0[kl]? = some (ln, .inr (8, [.ref es, .int (nI 0)]))) : CtX l yJ11_init (ws_ yJ11_init cJ11_init 2 none) 7 5 16 D dA G [.ref ll, .ref ln] (W0 ++ [(ll, .inr (6, [.int (nI 0), .int (nI 0), .null, .null]))]) (QgV D dA (fun z : Nat × Nat × Nat × Nat => W0 ++ LL ll (nI 0 + nI 1) [(z.1, x0), (z.2.1, x1), (z.2.2.1, x2), (z.2.2.2, x3)])) := by
  refine zx_start (cc := cJ11_init) (nL := 2) (ret := none) (own := RJ11) (by decide) rfl rfl (Nat.le_of_ble_eq_true rfl) (fun p e s m args below meth c A hO hX hr hm _ => ?_)
  refine zg_sub (lv' := [(0, .ref ll), (1, .ref ln)]) [0, 1] rfl ?_
  refine zg_aload_n hO 0 dJ11_init_0 rfl rfl ?_
  refine zx_callIv (As := []) (rest := []) hO hX (m_llinit l D dA G) rfl ⟨by decide +kernel, q364, q99, q365⟩ q363 ⟨Nat.le_of_ble_eq_true rfl, Nat.le_of_ble_eq_true rfl⟩ ⟨Nat.le_of_ble_eq_true rfl, Nat.le_of_ble_eq_true rfl⟩ rfl rfl (Nat.le_of_ble_eq_true rfl) dJ11_init_1 (fun _ => ?_)
  refine zg_aload_n hO 0 dJ11_init_4 rfl rfl ?_
  refine zg_aload_n hO 1 dJ11_init_5 rfl rfl ?_
  refine zx_callVi (na := 1) (As := [.ref ln]) (rest := []) hO hX (m_addAll l D dA G h0 hel hl0) mw_J11_addAll q391 ⟨Nat.le_of_ble_eq_true rfl, Nat.le_of_ble_eq_true rfl⟩ ⟨Nat.le_of_ble_eq_true rfl, Nat.le_of_ble_eq_true rfl⟩ rfl rfl (Nat.le_of_ble_eq_true rfl) ⟨W0.length, 6, _, _, ap0 (x := LO ll (nI 0) []) (L := []), rfl, rfl⟩ dJ11_init_6 (fun z => ?_)
  refine zg_pop hO dJ11_init_9 rfl ?_
  exact zx_vret (f := (fun z : Nat × Nat × Nat × Nat => W0 ++ LL ll (nI 0 + nI 1) [(z.1, x0), (z.2.1, x1), (z.2.2.1, x2), (z.2.2.2, x3)])) hO hr z rfl ⟨Nat.le_refl _, Nat.le_refl _⟩ dJ11_init_10
