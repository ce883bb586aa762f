set_option maxRecDepth 100000
theorem zj_mi {dA : Nat → ClassId} {G : Nat → Nat} {A : Nat → Prop} {s : State} (hX : XK dA G A s) : va_Mi "[Ljava/lang/Object;" (G 90) s := by
  obtain ⟨-, -, -, -, -, -, -, -, h⟩ := hX.2.2.2
  exact h
theorem elO.drop {W L : va_W} {a : Nat} {x : ClassId × vp_A} {f : Nat → Option Nat} (h : elO W f) : elO (W ++ (a, .inl x) :: L) f := h.app
theorem m_copyOf2 (l : Launch) (D : va_G) (dA : Nat → ClassId) (G : Nat → Nat) {W0 : va_W} {k0 es n0 N' : Nat} {f : Nat → Option Nat} {n : Int32} (h0 : W0[k0]? = some (es, .inl (dA 7, n0, rfA f))) (hel : elO W0 f) (hn0 : ¬ n < nI n0) (hn : ¬ n < 0) (hN : n.toNatClampNeg = N') (hz : ¬ nI n0 < 0) (hn1 : (nI n0).toNatClampNeg = n0) (hNN : n0 ≤ N') (hb : N' ≤ 1000) : CtX l yJ14_copyOf_2 (ws_ yJ14_copyOf_2 cJ14_copyOf_2 4 (some (.array (.object "java/lang/Object")))) 1 1 N' D dA G [.ref es, .int n, .ref (G 90)] W0 (QgF D dA (fun q : Nat => W0 ++ [(q, .inl (dA 7, N', rfA (va_cpy f (fun _ => none) 0 0 n0)))]) (fun q => q)) := by
  refine zx_start (cc := cJ14_copyOf_2) (nL := 4) (ret := (some (.array (.object "java/lang/Object")))) (own := RJ14) (by decide) rfl rfl (Nat.le_of_ble_eq_true rfl) (fun p e s m args below meth c A hO hX hr hm _ => ?_)
  refine zg_sub (lv' := [(0, .ref es), (1, .int n), (2, .ref (G 90))]) [0, 1, 2] rfl ?_
  refine zg_aload_n hO 2 dJ14_copyOf_2_0 rfl rfl ?_
  refine zj_ldcM hO (zj_mi hX) q426 dJ14_copyOf_2_1 ?_
  refine zj_acmp_ne hO dJ14_copyOf_2_3 (by decide) ?_
  refine zg_iload_n hO 1 dJ14_copyOf_2_6 rfl rfl ?_
  refine zj_newQ hO hX q427 hn hN (by omega) (Nat.le_refl _) (by omega) dJ14_copyOf_2_7 (fun q => ?_)
  refine zg_goto (tgt := 24) hO dJ14_copyOf_2_10 (by decide) ?_
  refine zg_astore_n (lv' := [(3, .ref q), (0, .ref es), (1, .int n), (2, .ref (G 90))]) hO dJ14_copyOf_2_24 rfl (Nat.le_of_ble_eq_true rfl) rfl ?_
  refine zg_aload_n hO 1 dJ14_copyOf_2_25 rfl rfl ?_
  refine zg_iconst hO dJ14_copyOf_2_26 ic0 ?_
  refine zg_aload_n hO 0 dJ14_copyOf_2_27 rfl rfl ?_
  refine zg_iconst hO dJ14_copyOf_2_28 ic0 ?_
  refine zg_aload_n hO 1 dJ14_copyOf_2_29 rfl rfl ?_
  refine zj_len (w := nI n0) hO k0 7 (apW h0) rfl rfl dJ14_copyOf_2_30 ?_
  refine zg_iload_n hO 2 dJ14_copyOf_2_31 rfl rfl ?_
  refine zs_mmin hO q428 (Nat.le_refl _) (Nat.le_of_ble_eq_true rfl) ⟨Nat.le_refl _, by omega⟩ dJ14_copyOf_2_32 ?_
  rw [if_neg hn0]
  refine zj_cpy hO hX q431 k0 W0.length (apW h0) ap0 hel.app (by decide) (by decide) hz (by rw [hn1]; show 0 + n0 ≤ n0; omega) (by rw [hn1]; show 0 + n0 ≤ N'; omega) (Nat.le_refl _) (Nat.le_of_ble_eq_true rfl) as0 dJ14_copyOf_2_35 ?_
  refine zg_aload_n hO 0 dJ14_copyOf_2_38 rfl rfl ?_
  rw [hn1]
  refine zj_aret (f := fun q : Nat => W0 ++ [(q, .inl (dA 7, N', rfA (va_cpy f (fun _ => none) 0 0 n0)))]) (a := fun q => q) hO hr (Or.inr ⟨_, rfl⟩) q rfl rfl ⟨?_, ?_⟩ dJ14_copyOf_2_39 <;> omega
theorem m_copyOf (l : Launch) (D : va_G) (dA : Nat → ClassId) (G : Nat → Nat) {W0 : va_W} {k0 es n0 N' : Nat} {f : Nat → Option Nat} {n : Int32} (h0 : W0[k0]? = some (es, .inl (dA 7, n0, rfA f))) (hel : elO W0 f) (hn0 : ¬ n < nI n0) (hn : ¬ n < 0) (hN : n.toNatClampNeg = N') (hz : ¬ nI n0 < 0) (hn1 : (nI n0).toNatClampNeg = n0) (hNN : n0 ≤ N') (hb : N' ≤ 1000) : CtX l yJ14_copyOf (ws_ yJ14_copyOf cJ14_copyOf 2 (some (.array (.object "java/lang/Object")))) 2 1 N' D dA G [.ref es, .int n] W0 (QgF D dA (fun q : Nat => W0 ++ [(q, .inl (dA 7, N', rfA (va_cpy f (fun _ => none) 0 0 n0)))]) (fun q => q)) := by
  refine zx_start (cc := cJ14_copyOf) (nL := 2) (ret := (some (.array (.object "java/lang/Object")))) (own := RJ14) (by decide) rfl rfl (Nat.le_of_ble_eq_true rfl) (fun p e s m args below meth c A hO hX hr hm _ => ?_)
  refine zg_sub (lv' := [(0, .ref es), (1, .int n)]) [0, 1] rfl ?_
  refine zg_aload_n hO 0 dJ14_copyOf_0 rfl rfl ?_
  refine zg_iload_n hO 1 dJ14_copyOf_1 rfl rfl ?_
  refine zg_aload_n hO 0 dJ14_copyOf_2 rfl rfl ?_
  refine zj_getC hO hX (zj_mi hX) q451 k0 h0 (Nat.le_of_ble_eq_true rfl) (Nat.le_of_ble_eq_true rfl) dJ14_copyOf_3 ?_
  refine zx_callSr (As := [.ref es, .int n, .ref (G 90)]) (rest := []) hO hX (m_copyOf2 l D dA G h0 hel hn0 hn hN hz hn1 hNN hb) mw_J14_copyOf_2 q452 ⟨Nat.le_of_ble_eq_true rfl, Nat.le_of_ble_eq_true rfl⟩ ⟨by omega, by omega⟩ rfl rfl (Nat.le_of_ble_eq_true rfl) dJ14_copyOf_6 (fun q => ?_)
  refine zj_aret (f := fun q : Nat => W0 ++ [(q, .inl (dA 7, N', rfA (va_cpy f (fun _ => none) 0 0 n0)))]) (a := fun q => q) hO hr (Or.inr ⟨_, rfl⟩) q rfl rfl ⟨?_, ?_⟩ dJ14_copyOf_9 <;> omega
section ZDQ
variable {p : Program} {l : Launch} {e : Env} {R : Room} {s : State} {m : MethodId} {args : Array Value} {below : List Frame} {meth : Method} {c : Code} {D : va_G} {dA : Nat → ClassId} {G : Nat → Nat} {A : Nat → Prop} {Q : State → Prop} {u v : Nat} {lv : List (Nat × Value)}
theorem dq_lt : ∀ a : Nat, a < 80 → ∀ b : Nat, b < 80 → (nI b ≤ nI a ↔ b ≤ a) := by decide +kernel
theorem dq_nat : ∀ a : Nat, a < 80 → (nI a).toNatClampNeg = a ∧ ¬ nI a < 0 := by decide +kernel
theorem dq_suc : ∀ a : Nat, a < 80 → nI a + nI 1 = nI (a + 1) := by decide +kernel
theorem dq_null (hO : Ok p s m args meth c cJ30_grow RJ30 9 D dA A) {ns N' q : Nat} {z8 : Int32} {W0 : va_W} {f : Nat → Option Nat} {d2 q2 : Nat × va_E} {d : Nat} {sp : Int32} (hns : ns ≤ N') (hN : N' ≤ 74) (hz : z8 = nI ns)
    (kk : ∀ lv', Go p l e R s m args below meth c D A 9 Q (W0 ++ [d2, q2, (q, .inl (dA 7, N', rfA (fun j => if j < ns then none else f j)))]) u v 164 lv' []) :
    ∀ r k, k + r = ns → Go p l e R s m args below meth c D A 9 Q (W0 ++ [d2, q2, (q, .inl (dA 7, N', rfA (fun j => if j < k then none else f j)))]) u v 145 [(7, .int (nI k)), (8, .int z8), (5, .ref q)] [] := by
  intro r
  induction r with
  | zero =>
    intro k hk
    have hk : k = ns := by omega
    subst hk
    refine zg_iload hO 0 dJ30_grow_145 rfl ?_
    refine zg_iload hO 1 dJ30_grow_147 rfl ?_
    exact zt_icmp_ge (tgt := 164) hO (by rw [hz]; exact Int32.le_refl _) dJ30_grow_149 (by decide) (kk _)
  | succ r ih =>
    intro k hk
    refine zg_iload hO 0 dJ30_grow_145 rfl ?_
    refine zg_iload hO 1 dJ30_grow_147 rfl ?_
    refine zn_icmp_ge (tgt := 164) hO (by rw [hz, dq_lt k (by omega) ns (by omega)]; omega) dJ30_grow_149 (by decide) ?_
    refine zg_aload hO 2 dJ30_grow_152 rfl ?_
    refine zg_iload hO 0 dJ30_grow_154 rfl ?_
    refine zg_null hO dJ30_grow_156 ?_
    refine zj_stN hO (W0.length + 2) ap2 (by rw [(dq_nat k (by omega)).1]; intro h; rcases h with h | h; exact (dq_nat k (by omega)).2 h; omega) as2 dJ30_grow_157 ?_
    refine zg_iinc (k := 0) (lv' := [(7, .int ((nI k) + (nI 1))), (8, .int z8), (5, .ref q)]) hO dJ30_grow_158 rfl (zii ic1) (Nat.le_of_ble_eq_true rfl) rfl ?_
    refine zg_goto (tgt := 145) hO dJ30_grow_161 (by decide) ?_
    have e1 : va_up (fun j => if j < k then none else f j) (nI k).toNatClampNeg none = (fun j => if j < k + 1 then none else f j) := by
      rw [(dq_nat k (by omega)).1]
      funext j
      show (if j = k then none else (if j < k then none else f j)) = if j < k + 1 then none else f j
      by_cases h1 : j = k
      · rw [if_pos h1, if_pos (by omega)]
      · rw [if_neg h1]
        by_cases h2 : j < k
        · rw [if_pos h2, if_pos (by omega)]
        · rw [if_neg h2, if_neg (by omega)]
    rw [e1, dq_suc k (by omega)]
    refine zg_sub (lv' := [(7, .int (nI (k + 1))), (8, .int z8), (5, .ref q)]) [0, 1, 2] rfl ?_
    exact ih (k + 1) (by omega)
end ZDQ
theorem m_grow17 (l : Launch) (D : va_G) (dA : Nat → ClassId) (G : Nat → Nat) {W0 : va_W} {d es x0 : Nat} {f : Nat → Option Nat} (hel : elO W0 f) (hf0 : f 0 = some x0) : CtX l yJ30_grow (ws_ yJ30_grow cJ30_grow 9 none) 3 1 36 D dA G [.ref d, .int (nI 1)] (W0 ++ [(d, .inr (10, [.ref es, .int (nI 0), .int (nI 0)])), (es, .inl (dA 7, 17, rfA f))]) (QgV D dA (fun q : Nat => W0 ++ [(d, .inr (10, [.ref q, .int (nI 19), .int (nI 0)])), (q, .inl (dA 7, 36, rfA (fun j => if j < 19 then none else va_cpy (va_cpy f (fun _ => none) 0 0 17) (va_cpy f (fun _ => none) 0 0 17) 0 19 17 j)))])) := by
  refine zx_start (cc := cJ30_grow) (nL := 9) (ret := none) (own := RJ30) (by decide) rfl rfl (Nat.le_of_ble_eq_true rfl) (fun p e s m args below meth c A hO hX hr hm _ => ?_)
  refine zg_sub (lv' := [(0, .ref d), (1, .int (nI 1))]) [0, 1] rfl ?_
  refine zg_aload_n hO 0 dJ30_grow_0 rfl rfl ?_
  refine zg_get hO fJ30_3 W0.length ap0 rfl dJ30_grow_1 ?_
  refine zj_len (w := nI 17) hO (W0.length + 1) 7 ap1 rfl rfl dJ30_grow_4 ?_
  refine zg_istore_n (lv' := [(2, .int (nI 17)), (0, .ref d), (1, .int (nI 1))]) hO dJ30_grow_5 rfl (Nat.le_of_ble_eq_true rfl) rfl ?_
  refine zg_iload_n hO 0 dJ30_grow_6 rfl rfl ?_
  refine zg_bipush hO dJ30_grow_7 (by decide : (Int8.ofInt 64).toInt32 = nI 64) ?_
  refine zn_icmp_ge (tgt := 18) hO (by decide) dJ30_grow_9 (by decide) ?_
  refine zg_iload_n hO 0 dJ30_grow_12 rfl rfl ?_
  refine zg_iconst hO dJ30_grow_13 ic2 ?_
  refine zg_iadd hO dJ30_grow_14 ?_
  refine zg_goto (tgt := 21) hO dJ30_grow_15 (by decide) ?_
  refine zg_istore (lv' := [(4, .int ((nI 17) + (nI 2))), (2, .int (nI 17)), (0, .ref d), (1, .int (nI 1))]) hO dJ30_grow_21 (Nat.le_of_ble_eq_true rfl) rfl ?_
  refine zg_iload hO 0 dJ30_grow_23 rfl ?_
  refine zg_iload_n hO 3 dJ30_grow_25 rfl rfl ?_
  refine zn_icmp_lt (tgt := 41) hO (by decide) dJ30_grow_26 (by decide) ?_
  refine zg_iload_n hO 1 dJ30_grow_29 rfl rfl ?_
  refine zg_iload hO 0 dJ30_grow_30 rfl ?_
  refine zg_iadd hO dJ30_grow_32 ?_
  refine zg_dup hO dJ30_grow_33 rfl ?_
  refine zg_istore_n (lv' := [(3, .int ((nI 17) + ((nI 17) + (nI 2)))), (4, .int ((nI 17) + (nI 2))), (2, .int (nI 17)), (0, .ref d), (1, .int (nI 1))]) hO dJ30_grow_34 rfl (Nat.le_of_ble_eq_true rfl) rfl ?_
  refine zg_ldc hO q1143 dJ30_grow_35 ?_
  refine zg_isub hO dJ30_grow_37 ?_
  refine zt_if_le (tgt := 49) hO (by decide) dJ30_grow_38 (by decide) ?_
  refine zg_aload_n hO 3 dJ30_grow_49 rfl rfl ?_
  refine zg_aload_n hO 3 dJ30_grow_50 rfl rfl ?_
  refine zg_get hO fJ30_3 W0.length ap0 rfl dJ30_grow_51 ?_
  refine zg_iload_n hO 0 dJ30_grow_54 rfl rfl ?_
  refine zx_callSr (n' := 2) (mc := 1) (ms := 36) (As := [.ref es, .int (nI 17 + (nI 17 + nI 2))]) (rest := [.ref d]) hO hX (m_copyOf l D dA G (W0 := W0 ++ [(d, .inr (10, [.ref es, .int (nI 0), .int (nI 0)])), (es, .inl (dA 7, 17, rfA f))]) (k0 := W0.length + 1) (es := es) (n0 := 17) (N' := 36) (f := f) (n := (nI 17 + (nI 17 + nI 2))) ap1 hel.app (by decide) (by decide) (by decide) (by decide) (by decide) (by decide) (by decide)) mw_J14_copyOf q1149 ⟨Nat.le_of_ble_eq_true rfl, Nat.le_of_ble_eq_true rfl⟩ ⟨by omega, by omega⟩ rfl rfl (Nat.le_of_ble_eq_true rfl) dJ30_grow_55 (fun q => ?_)
  rw [List.append_assoc]
  refine zg_dup_x1 hO dJ30_grow_58 rfl rfl ?_
  refine zg_put hO pJ30_3 W0.length ap0 rfl rfl (Nat.le_of_ble_eq_true rfl) as0 dJ30_grow_59 ?_
  refine zg_astore (lv' := [(5, .ref q), (3, .int ((nI 17) + ((nI 17) + (nI 2)))), (4, .int ((nI 17) + (nI 2))), (2, .int (nI 17)), (0, .ref d), (1, .int (nI 1))]) hO dJ30_grow_62 (Nat.le_of_ble_eq_true rfl) rfl ?_
  refine zg_aload_n hO 4 dJ30_grow_64 rfl rfl ?_
  refine zg_get hO fJ30_20 W0.length ap0 rfl dJ30_grow_65 ?_
  refine zg_aload_n hO 4 dJ30_grow_68 rfl rfl ?_
  refine zg_get hO fJ30_24 W0.length ap0 rfl dJ30_grow_69 ?_
  refine zn_icmp_lt (tgt := 96) hO (by decide) dJ30_grow_72 (by decide) ?_
  refine zg_aload_n hO 4 dJ30_grow_75 rfl rfl ?_
  refine zg_get hO fJ30_20 W0.length ap0 rfl dJ30_grow_76 ?_
  refine zg_aload_n hO 4 dJ30_grow_79 rfl rfl ?_
  refine zg_get hO fJ30_24 W0.length ap0 rfl dJ30_grow_80 ?_
  refine zn_icmp_ne (tgt := 164) hO rfl dJ30_grow_83 (by decide) ?_
  refine zg_aload hO 0 dJ30_grow_86 rfl ?_
  refine zg_aload_n hO 4 dJ30_grow_88 rfl rfl ?_
  refine zg_get hO fJ30_24 W0.length ap0 rfl dJ30_grow_89 ?_
  refine zj_ldQ hO (by decide) (W0.length + 2) ap2 dJ30_grow_92 ?_
  have e0 : va_cpy f (fun _ => none) 0 0 17 (nI 0).toNatClampNeg = some x0 := hf0
  rw [e0]
  refine zg_ifnullR hO dJ30_grow_93 ?_
  refine zg_iload_n hO 1 dJ30_grow_96 rfl rfl ?_
  refine zg_iload_n hO 3 dJ30_grow_97 rfl rfl ?_
  refine zg_isub hO dJ30_grow_98 ?_
  refine zg_istore (lv' := [(6, .int (((nI 17) + ((nI 17) + (nI 2))) - (nI 17))), (5, .ref q), (3, .int ((nI 17) + ((nI 17) + (nI 2)))), (4, .int ((nI 17) + (nI 2))), (2, .int (nI 17)), (0, .ref d), (1, .int (nI 1))]) hO dJ30_grow_99 (Nat.le_of_ble_eq_true rfl) rfl ?_
  refine zg_aload hO 1 dJ30_grow_101 rfl ?_
  refine zg_aload_n hO 5 dJ30_grow_103 rfl rfl ?_
  refine zg_get hO fJ30_24 W0.length ap0 rfl dJ30_grow_104 ?_
  refine zg_aload hO 1 dJ30_grow_107 rfl ?_
  refine zg_aload_n hO 5 dJ30_grow_109 rfl rfl ?_
  refine zg_get hO fJ30_24 W0.length ap0 rfl dJ30_grow_110 ?_
  refine zg_iload hO 0 dJ30_grow_113 rfl ?_
  refine zg_iadd hO dJ30_grow_115 ?_
  refine zg_iload_n hO 4 dJ30_grow_116 rfl rfl ?_
  refine zg_aload_n hO 5 dJ30_grow_117 rfl rfl ?_
  refine zg_get hO fJ30_24 W0.length ap0 rfl dJ30_grow_118 ?_
  refine zg_isub hO dJ30_grow_121 ?_
  refine zj_cpy hO hX q434 (W0.length + 2) (W0.length + 2) ap2 ap2 (fun j x hx => hel.app (if j < 17 then j else 0) x ?_) (by decide) (by decide) (by decide) (by decide) (by decide) (Nat.le_of_ble_eq_true rfl) (Nat.le_of_ble_eq_true rfl) as2 dJ30_grow_122 ?_
  · unfold va_cpy at hx
    by_cases hj : 0 ≤ j ∧ j < 0 + 17
    · rw [if_pos hj] at hx
      rw [if_pos (by omega)]
      simpa using hx
    · rw [if_neg hj] at hx
      cases hx
  refine zg_aload_n hO 5 dJ30_grow_125 rfl rfl ?_
  refine zg_get hO fJ30_24 W0.length ap0 rfl dJ30_grow_126 ?_
  refine zg_istore (lv' := [(7, .int (nI 0)), (6, .int (((nI 17) + ((nI 17) + (nI 2))) - (nI 17))), (5, .ref q), (3, .int ((nI 17) + ((nI 17) + (nI 2)))), (4, .int ((nI 17) + (nI 2))), (2, .int (nI 17)), (0, .ref d), (1, .int (nI 1))]) hO dJ30_grow_129 (Nat.le_of_ble_eq_true rfl) rfl ?_
  refine zg_aload_n hO 6 dJ30_grow_131 rfl rfl ?_
  refine zg_dup hO dJ30_grow_132 rfl ?_
  refine zg_get hO fJ30_24 W0.length ap0 rfl dJ30_grow_133 ?_
  refine zg_iload hO 1 dJ30_grow_136 rfl ?_
  refine zg_iadd hO dJ30_grow_138 ?_
  refine zg_dup_x1 hO dJ30_grow_139 rfl rfl ?_
  refine zg_put hO pJ30_24 W0.length ap0 rfl rfl (Nat.le_of_ble_eq_true rfl) as0 dJ30_grow_140 ?_
  refine zg_istore (lv' := [(8, .int ((nI 0) + (((nI 17) + ((nI 17) + (nI 2))) - (nI 17)))), (7, .int (nI 0)), (6, .int (((nI 17) + ((nI 17) + (nI 2))) - (nI 17))), (5, .ref q), (3, .int ((nI 17) + ((nI 17) + (nI 2)))), (4, .int ((nI 17) + (nI 2))), (2, .int (nI 17)), (0, .ref d), (1, .int (nI 1))]) hO dJ30_grow_143 (Nat.le_of_ble_eq_true rfl) rfl ?_
  refine zg_sub (lv' := [(7, .int (nI 0)), (8, .int ((nI 0) + (((nI 17) + ((nI 17) + (nI 2))) - (nI 17)))), (5, .ref q)]) [1, 0, 3] rfl ?_
  have hz : ((nI 0) + (((nI 17) + ((nI 17) + (nI 2))) - (nI 17))) = nI 19 := by decide
  rw [hz]
  have e1 : (fun j => if j < 0 then none else va_cpy (va_cpy f (fun _ => none) 0 0 17) (va_cpy f (fun _ => none) 0 0 17) 0 19 17 j) = va_cpy (va_cpy f (fun _ => none) 0 0 17) (va_cpy f (fun _ => none) 0 0 17) 0 19 17 := by
    funext j
    rw [if_neg (Nat.not_lt_zero j)]
  have hl := dq_null (l := l) (e := e) (R := rmG 3 1 36) (below := below) (Q := MQ below ((QgV D dA (fun q : Nat => W0 ++ [(d, .inr (10, [.ref q, .int (nI 19), .int (nI 0)])), (q, .inl (dA 7, 36, rfA (fun j => if j < 19 then none else va_cpy (va_cpy f (fun _ => none) 0 0 17) (va_cpy f (fun _ => none) 0 0 17) 0 19 17 j)))])) A) args s 1 36 A) (u := 0 + 1) (v := 0 + 36) (q := q) (W0 := W0) (d2 := (d, .inr (10, [.ref q, .int (nI 19), .int (nI 0)]))) (q2 := (es, .inl (dA 7, 17, rfA f))) (f := va_cpy (va_cpy f (fun _ => none) 0 0 17) (va_cpy f (fun _ => none) 0 0 17) 0 19 17) (d := d) (sp := 0) hO (by decide : 19 ≤ 36) (by decide) rfl (fun lv' => ?_) 19 0 rfl
  · rw [e1] at hl
    exact hl
  · refine zj_drop (ws' := W0 ++ [(d, .inr (10, [.ref q, .int (nI 19), .int (nI 0)])), (q, .inl (dA 7, 36, rfA (fun j => if j < 19 then none else va_cpy (va_cpy f (fun _ => none) 0 0 17) (va_cpy f (fun _ => none) 0 0 17) 0 19 17 j)))]) (fun k => if k ≤ W0.length then k else k + 1) (fun k x h => dr_one k x h) (dr_inj _) ?_
    refine zx_vret (f := fun q : Nat => W0 ++ [(d, .inr (10, [.ref q, .int (nI 19), .int (nI 0)])), (q, .inl (dA 7, 36, rfA (fun j => if j < 19 then none else va_cpy (va_cpy f (fun _ => none) 0 0 17) (va_cpy f (fun _ => none) 0 0 17) 0 19 17 j)))]) hO hr q rfl ⟨?_, ?_⟩ dJ30_grow_164 <;> omega
theorem m_grow36 (l : Launch) (D : va_G) (dA : Nat → ClassId) (G : Nat → Nat) {W0 : va_W} {d es x0 : Nat} {f : Nat → Option Nat} (hel : elO W0 f) (hf0 : f 0 = some x0) : CtX l yJ30_grow (ws_ yJ30_grow cJ30_grow 9 none) 3 1 74 D dA G [.ref d, .int (nI 1)] (W0 ++ [(d, .inr (10, [.ref es, .int (nI 0), .int (nI 0)])), (es, .inl (dA 7, 36, rfA f))]) (QgV D dA (fun q : Nat => W0 ++ [(d, .inr (10, [.ref q, .int (nI 38), .int (nI 0)])), (q, .inl (dA 7, 74, rfA (fun j => if j < 38 then none else va_cpy (va_cpy f (fun _ => none) 0 0 36) (va_cpy f (fun _ => none) 0 0 36) 0 38 36 j)))])) := by
  refine zx_start (cc := cJ30_grow) (nL := 9) (ret := none) (own := RJ30) (by decide) rfl rfl (Nat.le_of_ble_eq_true rfl) (fun p e s m args below meth c A hO hX hr hm _ => ?_)
  refine zg_sub (lv' := [(0, .ref d), (1, .int (nI 1))]) [0, 1] rfl ?_
  refine zg_aload_n hO 0 dJ30_grow_0 rfl rfl ?_
  refine zg_get hO fJ30_3 W0.length ap0 rfl dJ30_grow_1 ?_
  refine zj_len (w := nI 36) hO (W0.length + 1) 7 ap1 rfl rfl dJ30_grow_4 ?_
  refine zg_istore_n (lv' := [(2, .int (nI 36)), (0, .ref d), (1, .int (nI 1))]) hO dJ30_grow_5 rfl (Nat.le_of_ble_eq_true rfl) rfl ?_
  refine zg_iload_n hO 0 dJ30_grow_6 rfl rfl ?_
  refine zg_bipush hO dJ30_grow_7 (by decide : (Int8.ofInt 64).toInt32 = nI 64) ?_
  refine zn_icmp_ge (tgt := 18) hO (by decide) dJ30_grow_9 (by decide) ?_
  refine zg_iload_n hO 0 dJ30_grow_12 rfl rfl ?_
  refine zg_iconst hO dJ30_grow_13 ic2 ?_
  refine zg_iadd hO dJ30_grow_14 ?_
  refine zg_goto (tgt := 21) hO dJ30_grow_15 (by decide) ?_
  refine zg_istore (lv' := [(4, .int ((nI 36) + (nI 2))), (2, .int (nI 36)), (0, .ref d), (1, .int (nI 1))]) hO dJ30_grow_21 (Nat.le_of_ble_eq_true rfl) rfl ?_
  refine zg_iload hO 0 dJ30_grow_23 rfl ?_
  refine zg_iload_n hO 3 dJ30_grow_25 rfl rfl ?_
  refine zn_icmp_lt (tgt := 41) hO (by decide) dJ30_grow_26 (by decide) ?_
  refine zg_iload_n hO 1 dJ30_grow_29 rfl rfl ?_
  refine zg_iload hO 0 dJ30_grow_30 rfl ?_
  refine zg_iadd hO dJ30_grow_32 ?_
  refine zg_dup hO dJ30_grow_33 rfl ?_
  refine zg_istore_n (lv' := [(3, .int ((nI 36) + ((nI 36) + (nI 2)))), (4, .int ((nI 36) + (nI 2))), (2, .int (nI 36)), (0, .ref d), (1, .int (nI 1))]) hO dJ30_grow_34 rfl (Nat.le_of_ble_eq_true rfl) rfl ?_
  refine zg_ldc hO q1143 dJ30_grow_35 ?_
  refine zg_isub hO dJ30_grow_37 ?_
  refine zt_if_le (tgt := 49) hO (by decide) dJ30_grow_38 (by decide) ?_
  refine zg_aload_n hO 3 dJ30_grow_49 rfl rfl ?_
  refine zg_aload_n hO 3 dJ30_grow_50 rfl rfl ?_
  refine zg_get hO fJ30_3 W0.length ap0 rfl dJ30_grow_51 ?_
  refine zg_iload_n hO 0 dJ30_grow_54 rfl rfl ?_
  refine zx_callSr (n' := 2) (mc := 1) (ms := 74) (As := [.ref es, .int (nI 36 + (nI 36 + nI 2))]) (rest := [.ref d]) hO hX (m_copyOf l D dA G (W0 := W0 ++ [(d, .inr (10, [.ref es, .int (nI 0), .int (nI 0)])), (es, .inl (dA 7, 36, rfA f))]) (k0 := W0.length + 1) (es := es) (n0 := 36) (N' := 74) (f := f) (n := (nI 36 + (nI 36 + nI 2))) ap1 hel.app (by decide) (by decide) (by decide) (by decide) (by decide) (by decide) (by decide)) mw_J14_copyOf q1149 ⟨Nat.le_of_ble_eq_true rfl, Nat.le_of_ble_eq_true rfl⟩ ⟨by omega, by omega⟩ rfl rfl (Nat.le_of_ble_eq_true rfl) dJ30_grow_55 (fun q => ?_)
  rw [List.append_assoc]
  refine zg_dup_x1 hO dJ30_grow_58 rfl rfl ?_
  refine zg_put hO pJ30_3 W0.length ap0 rfl rfl (Nat.le_of_ble_eq_true rfl) as0 dJ30_grow_59 ?_
  refine zg_astore (lv' := [(5, .ref q), (3, .int ((nI 36) + ((nI 36) + (nI 2)))), (4, .int ((nI 36) + (nI 2))), (2, .int (nI 36)), (0, .ref d), (1, .int (nI 1))]) hO dJ30_grow_62 (Nat.le_of_ble_eq_true rfl) rfl ?_
  refine zg_aload_n hO 4 dJ30_grow_64 rfl rfl ?_
  refine zg_get hO fJ30_20 W0.length ap0 rfl dJ30_grow_65 ?_
  refine zg_aload_n hO 4 dJ30_grow_68 rfl rfl ?_
  refine zg_get hO fJ30_24 W0.length ap0 rfl dJ30_grow_69 ?_
  refine zn_icmp_lt (tgt := 96) hO (by decide) dJ30_grow_72 (by decide) ?_
  refine zg_aload_n hO 4 dJ30_grow_75 rfl rfl ?_
  refine zg_get hO fJ30_20 W0.length ap0 rfl dJ30_grow_76 ?_
  refine zg_aload_n hO 4 dJ30_grow_79 rfl rfl ?_
  refine zg_get hO fJ30_24 W0.length ap0 rfl dJ30_grow_80 ?_
  refine zn_icmp_ne (tgt := 164) hO rfl dJ30_grow_83 (by decide) ?_
  refine zg_aload hO 0 dJ30_grow_86 rfl ?_
  refine zg_aload_n hO 4 dJ30_grow_88 rfl rfl ?_
  refine zg_get hO fJ30_24 W0.length ap0 rfl dJ30_grow_89 ?_
  refine zj_ldQ hO (by decide) (W0.length + 2) ap2 dJ30_grow_92 ?_
  have e0 : va_cpy f (fun _ => none) 0 0 36 (nI 0).toNatClampNeg = some x0 := hf0
  rw [e0]
  refine zg_ifnullR hO dJ30_grow_93 ?_
  refine zg_iload_n hO 1 dJ30_grow_96 rfl rfl ?_
  refine zg_iload_n hO 3 dJ30_grow_97 rfl rfl ?_
  refine zg_isub hO dJ30_grow_98 ?_
  refine zg_istore (lv' := [(6, .int (((nI 36) + ((nI 36) + (nI 2))) - (nI 36))), (5, .ref q), (3, .int ((nI 36) + ((nI 36) + (nI 2)))), (4, .int ((nI 36) + (nI 2))), (2, .int (nI 36)), (0, .ref d), (1, .int (nI 1))]) hO dJ30_grow_99 (Nat.le_of_ble_eq_true rfl) rfl ?_
  refine zg_aload hO 1 dJ30_grow_101 rfl ?_
  refine zg_aload_n hO 5 dJ30_grow_103 rfl rfl ?_
  refine zg_get hO fJ30_24 W0.length ap0 rfl dJ30_grow_104 ?_
  refine zg_aload hO 1 dJ30_grow_107 rfl ?_
  refine zg_aload_n hO 5 dJ30_grow_109 rfl rfl ?_
  refine zg_get hO fJ30_24 W0.length ap0 rfl dJ30_grow_110 ?_
  refine zg_iload hO 0 dJ30_grow_113 rfl ?_
  refine zg_iadd hO dJ30_grow_115 ?_
  refine zg_iload_n hO 4 dJ30_grow_116 rfl rfl ?_
  refine zg_aload_n hO 5 dJ30_grow_117 rfl rfl ?_
  refine zg_get hO fJ30_24 W0.length ap0 rfl dJ30_grow_118 ?_
  refine zg_isub hO dJ30_grow_121 ?_
  refine zj_cpy hO hX q434 (W0.length + 2) (W0.length + 2) ap2 ap2 (fun j x hx => hel.app (if j < 36 then j else 0) x ?_) (by decide) (by decide) (by decide) (by decide) (by decide) (Nat.le_of_ble_eq_true rfl) (Nat.le_of_ble_eq_true rfl) as2 dJ30_grow_122 ?_
  · unfold va_cpy at hx
    by_cases hj : 0 ≤ j ∧ j < 0 + 36
    · rw [if_pos hj] at hx
      rw [if_pos (by omega)]
      simpa using hx
    · rw [if_neg hj] at hx
      cases hx
  refine zg_aload_n hO 5 dJ30_grow_125 rfl rfl ?_
  refine zg_get hO fJ30_24 W0.length ap0 rfl dJ30_grow_126 ?_
  refine zg_istore (lv' := [(7, .int (nI 0)), (6, .int (((nI 36) + ((nI 36) + (nI 2))) - (nI 36))), (5, .ref q), (3, .int ((nI 36) + ((nI 36) + (nI 2)))), (4, .int ((nI 36) + (nI 2))), (2, .int (nI 36)), (0, .ref d), (1, .int (nI 1))]) hO dJ30_grow_129 (Nat.le_of_ble_eq_true rfl) rfl ?_
  refine zg_aload_n hO 6 dJ30_grow_131 rfl rfl ?_
  refine zg_dup hO dJ30_grow_132 rfl ?_
  refine zg_get hO fJ30_24 W0.length ap0 rfl dJ30_grow_133 ?_
  refine zg_iload hO 1 dJ30_grow_136 rfl ?_
  refine zg_iadd hO dJ30_grow_138 ?_
  refine zg_dup_x1 hO dJ30_grow_139 rfl rfl ?_
  refine zg_put hO pJ30_24 W0.length ap0 rfl rfl (Nat.le_of_ble_eq_true rfl) as0 dJ30_grow_140 ?_
  refine zg_istore (lv' := [(8, .int ((nI 0) + (((nI 36) + ((nI 36) + (nI 2))) - (nI 36)))), (7, .int (nI 0)), (6, .int (((nI 36) + ((nI 36) + (nI 2))) - (nI 36))), (5, .ref q), (3, .int ((nI 36) + ((nI 36) + (nI 2)))), (4, .int ((nI 36) + (nI 2))), (2, .int (nI 36)), (0, .ref d), (1, .int (nI 1))]) hO dJ30_grow_143 (Nat.le_of_ble_eq_true rfl) rfl ?_
  refine zg_sub (lv' := [(7, .int (nI 0)), (8, .int ((nI 0) + (((nI 36) + ((nI 36) + (nI 2))) - (nI 36)))), (5, .ref q)]) [1, 0, 3] rfl ?_
  have hz : ((nI 0) + (((nI 36) + ((nI 36) + (nI 2))) - (nI 36))) = nI 38 := by decide
  rw [hz]
  have e1 : (fun j => if j < 0 then none else va_cpy (va_cpy f (fun _ => none) 0 0 36) (va_cpy f (fun _ => none) 0 0 36) 0 38 36 j) = va_cpy (va_cpy f (fun _ => none) 0 0 36) (va_cpy f (fun _ => none) 0 0 36) 0 38 36 := by
    funext j
    rw [if_neg (Nat.not_lt_zero j)]
  have hl := dq_null (l := l) (e := e) (R := rmG 3 1 74) (below := below) (Q := MQ below ((QgV D dA (fun q : Nat => W0 ++ [(d, .inr (10, [.ref q, .int (nI 38), .int (nI 0)])), (q, .inl (dA 7, 74, rfA (fun j => if j < 38 then none else va_cpy (va_cpy f (fun _ => none) 0 0 36) (va_cpy f (fun _ => none) 0 0 36) 0 38 36 j)))])) A) args s 1 74 A) (u := 0 + 1) (v := 0 + 74) (q := q) (W0 := W0) (d2 := (d, .inr (10, [.ref q, .int (nI 38), .int (nI 0)]))) (q2 := (es, .inl (dA 7, 36, rfA f))) (f := va_cpy (va_cpy f (fun _ => none) 0 0 36) (va_cpy f (fun _ => none) 0 0 36) 0 38 36) (d := d) (sp := 0) hO (by decide : 38 ≤ 74) (by decide) rfl (fun lv' => ?_) 38 0 rfl
  · rw [e1] at hl
    exact hl
  · refine zj_drop (ws' := W0 ++ [(d, .inr (10, [.ref q, .int (nI 38), .int (nI 0)])), (q, .inl (dA 7, 74, rfA (fun j => if j < 38 then none else va_cpy (va_cpy f (fun _ => none) 0 0 36) (va_cpy f (fun _ => none) 0 0 36) 0 38 36 j)))]) (fun k => if k ≤ W0.length then k else k + 1) (fun k x h => dr_one k x h) (dr_inj _) ?_
    refine zx_vret (f := fun q : Nat => W0 ++ [(d, .inr (10, [.ref q, .int (nI 38), .int (nI 0)])), (q, .inl (dA 7, 74, rfA (fun j => if j < 38 then none else va_cpy (va_cpy f (fun _ => none) 0 0 36) (va_cpy f (fun _ => none) 0 0 36) 0 38 36 j)))]) hO hr q rfl ⟨?_, ?_⟩ dJ30_grow_164 <;> omega
