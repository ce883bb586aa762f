set_option maxRecDepth 100000
/-! LinkedList(Collection), remove(int) -/
theorem apN {α : Type} {W L : List α} (k : Nat) : (W ++ L)[W.length + k]? = L[k]? := by
  rw [List.getElem?_append_right (by omega), show W.length + k - W.length = k by omega]
theorem asN {α : Type} {W L : List α} (k : Nat) (z : α) : (W ++ L).set (W.length + k) z = W ++ L.set k z := by
  rw [List.set_append_right _ _ (by omega), show W.length + k - W.length = k by omega]
theorem erN {α : Type} {W L : List α} (k : Nat) : (W ++ L).eraseIdx (W.length + k) = W ++ L.eraseIdx k := by
  rw [List.eraseIdx_append_of_length_le (by omega), show W.length + k - W.length = k by omega]
section ZLA
variable {p : Program} {l : Launch} {e : Env} {s : State} {m : MethodId} {args : Array Value} {below : List Frame} {meth : Method} {c : Code} {cc : ByteArray} {own C : String} {nL : Nat} {D : va_G} {dA : Nat → ClassId} {G : Nat → Nat} {A : Nat → Prop} {Q : State → Prop} {W X ws ws' : va_W} {u v pc : Nat} {lv : List (Nat × Value)} {st rest : List Value} {N rk rs index : Nat}
theorem zk_erase (k0 : Nat) (hw : ws.eraseIdx k0 = ws') (kk : Go p l e (rmG N rk rs) s m args below meth c D A nL Q ws' u v pc lv st) : Go p l e (rmG N rk rs) s m args below meth c D A nL Q ws u v pc lv st := by
  subst hw
  refine zj_drop (fun k => if k < k0 then k else k + 1) (fun k z h => ?_) (fun i j h => by split at h <;> split at h <;> omega) kk
  rw [List.getElem?_eraseIdx] at h
  split
  · rw [if_pos (by assumption)] at h
    exact h
  · rw [if_neg (by assumption)] at h
    exact h
theorem zj_cpyc (hO : Ok p s m args meth c cc own nL D dA A) (hX : XK dA G A s) (hlk : Cond.methodLink own index arraycopyName ∈ lw_all) (q0 q1 : Nat) {a0 a n0 n1 : Nat} {f g : Nat → Option Nat} (ha0 : ws[q0]? = some (a0, .inl (dA 7, n0, rfA f))) (ha1 : ws[q1]? = some (a, .inl (dA 7, n1, rfA g))) (hel : ∀ j y, f j = some y → ∃ k, k < 256 ∧ y = G (100 + k))
    {sp dp n : Int32} (h1 : ¬ sp < 0) (h2 : ¬ dp < 0) (h3 : ¬ n < 0) (h4 : sp.toNatClampNeg + n.toNatClampNeg ≤ n0) (h5 : dp.toNatClampNeg + n.toNatClampNeg ≤ n1) (hN : 1 ≤ N) (hrm : (st.map fun x => x.category).sum ≤ 8) (hw : ws.set q1 (a, .inl (dA 7, n1, rfA (va_cpy f g sp.toNatClampNeg dp.toNatClampNeg n.toNatClampNeg))) = ws') (hdg : decode cc pc = .ok (.invokestatic index, 3))
    (kk : Go p l e (rmG N rk rs) s m args below meth c D A nL Q ws' u v (pc + 3) lv st) : Go p l e (rmG N rk rs) s m args below meth c D A nL Q ws u v pc lv (.int n :: .int dp :: .ref a :: .int sp :: .ref a0 :: st) := by
  subst hw
  intro H locs ls hP hD hS hl
  have hts := hO.2.2.2.2.1
  refine va_copyq (C := "java/lang/Integer") hO.1 hO.2.1 (hO.2.2.1.trans hl.1.symm) hO.2.2.2.1 (hts _ hlk) (hts _ q433) (hts _ q432) (hts _ q104) hO.2.2.2.2.2.1 hP hD hS q0 q1 7 7 ha0 ha1 rfl rfl h1 h2 h3 h4 h5 (fun i hi y hy => ?_) (vb_asgC (hX.1.1 _ q2165 rfl)) hN (by show (st.map fun x => x.category).sum + _ ≤ 64 * N; have hw : nativeFrameWords "java/lang/System" "arraycopy" 5 ≤ 16 := (by decide); omega) hdg (fun H1 locs1 hP1 hD1 hS1 => kk H1 locs1 ls hP1 hD1 hS1 hl)
  obtain ⟨k, hk, rfl⟩ := hel _ y hy
  obtain ⟨cell, g1, g2, g3, -⟩ := (((bx_cache hX).2.2.2).1 k hk).kept hS.2.1
  exact ⟨cell, g1, g2, g3⟩
end ZLA
theorem m_copyOf2c (l : Launch) (D : va_G) (dA : Nat → ClassId) (G : Nat → Nat) {W0 : va_W} {k0 es : Nat} {f : Nat → Option Nat} (h0 : W0[k0]? = some (es, .inl (dA 7, 4, rfA f))) (hel : ∀ j y, f j = some y → ∃ k, k < 256 ∧ y = G (100 + k)) : CtX l yJ14_copyOf_2 (ws_ yJ14_copyOf_2 cJ14_copyOf_2 4 (some (.array (.object "java/lang/Object")))) 1 1 4 D dA G [.ref es, .int (nI 4), .ref (G 90)] W0 (QgF D dA (fun q : Nat => W0 ++ [(q, .inl (dA 7, 4, rfA (va_cpy f (fun _ => none) 0 0 4)))]) (fun q => q)) := by
  refine zx_start (cc := cJ14_copyOf_2) (nL := 4) (ret := (some (.array (.object "java/lang/Object")))) (own := RJ14) (by decide) rfl rfl (Nat.le_of_ble_eq_true rfl) (fun p e s m args below meth c A hO hX hr hm _ => ?_)
  refine zg_sub (lv' := [(0, .ref es), (1, .int (nI 4)), (2, .ref (G 90))]) [0, 1, 2] rfl ?_
  refine zg_aload_n hO 2 dJ14_copyOf_2_0 rfl rfl ?_
  refine zj_ldcM hO (zj_mi hX) q426 dJ14_copyOf_2_1 ?_
  refine zj_acmp_ne hO dJ14_copyOf_2_3 (by decide) ?_
  refine zg_iload_n hO 1 dJ14_copyOf_2_6 rfl rfl ?_
  refine zj_newQ (N' := 4) hO hX q427 (by decide) rfl (by decide) (Nat.le_refl _) (Nat.le_of_ble_eq_true rfl) dJ14_copyOf_2_7 (fun q => ?_)
  refine zg_goto (tgt := 24) hO dJ14_copyOf_2_10 (by decide) ?_
  refine zg_astore_n (lv' := [(3, .ref q), (0, .ref es), (1, .int (nI 4)), (2, .ref (G 90))]) hO dJ14_copyOf_2_24 rfl (Nat.le_of_ble_eq_true rfl) rfl ?_
  refine zg_aload_n hO 1 dJ14_copyOf_2_25 rfl rfl ?_
  refine zg_iconst hO dJ14_copyOf_2_26 ic0 ?_
  refine zg_aload_n hO 0 dJ14_copyOf_2_27 rfl rfl ?_
  refine zg_iconst hO dJ14_copyOf_2_28 ic0 ?_
  refine zg_aload_n hO 1 dJ14_copyOf_2_29 rfl rfl ?_
  refine zj_len (w := nI 4) hO k0 7 (apW h0) rfl rfl dJ14_copyOf_2_30 ?_
  refine zg_iload_n hO 2 dJ14_copyOf_2_31 rfl rfl ?_
  refine zs_mmin hO q428 (Nat.le_refl _) (Nat.le_of_ble_eq_true rfl) ⟨Nat.le_of_ble_eq_true rfl, Nat.le_of_ble_eq_true rfl⟩ dJ14_copyOf_2_32 ?_
  rw [if_neg (by decide)]
  refine zj_cpyc (ws' := W0 ++ [(q, .inl (dA 7, 4, rfA (va_cpy f (fun _ => none) 0 0 4)))]) hO hX q431 k0 W0.length (apW h0) ap0 hel (by decide) (by decide) (by decide) (by decide) (by decide) (Nat.le_refl _) (Nat.le_of_ble_eq_true rfl) as0 dJ14_copyOf_2_35 ?_
  refine zg_aload_n hO 0 dJ14_copyOf_2_38 rfl rfl ?_
  exact zj_aret (f := (fun q : Nat => W0 ++ [(q, .inl (dA 7, 4, rfA (va_cpy f (fun _ => none) 0 0 4)))])) (a := fun q => q) hO hr (Or.inr ⟨_, rfl⟩) q rfl rfl ⟨Nat.le_refl _, Nat.le_refl _⟩ dJ14_copyOf_2_39
theorem m_copyOfc (l : Launch) (D : va_G) (dA : Nat → ClassId) (G : Nat → Nat) {W0 : va_W} {k0 es : Nat} {f : Nat → Option Nat} (h0 : W0[k0]? = some (es, .inl (dA 7, 4, rfA f))) (hel : ∀ j y, f j = some y → ∃ k, k < 256 ∧ y = G (100 + k)) : CtX l yJ14_copyOf (ws_ yJ14_copyOf cJ14_copyOf 2 (some (.array (.object "java/lang/Object")))) 2 1 4 D dA G [.ref es, .int (nI 4)] W0 (QgF D dA (fun q : Nat => W0 ++ [(q, .inl (dA 7, 4, rfA (va_cpy f (fun _ => none) 0 0 4)))]) (fun q => q)) := by
  refine zx_start (cc := cJ14_copyOf) (nL := 2) (ret := (some (.array (.object "java/lang/Object")))) (own := RJ14) (by decide) rfl rfl (Nat.le_of_ble_eq_true rfl) (fun p e s m args below meth c A hO hX hr hm _ => ?_)
  refine zg_sub (lv' := [(0, .ref es), (1, .int (nI 4))]) [0, 1] rfl ?_
  refine zg_aload_n hO 0 dJ14_copyOf_0 rfl rfl ?_
  refine zg_iload_n hO 1 dJ14_copyOf_1 rfl rfl ?_
  refine zg_aload_n hO 0 dJ14_copyOf_2 rfl rfl ?_
  refine zj_getC hO hX (zj_mi hX) q451 k0 h0 (Nat.le_of_ble_eq_true rfl) (Nat.le_of_ble_eq_true rfl) dJ14_copyOf_3 ?_
  refine zx_callSr (As := [.ref es, .int (nI 4), .ref (G 90)]) (rest := []) hO hX (m_copyOf2c l D dA G h0 hel) mw_J14_copyOf_2 q452 ⟨Nat.le_of_ble_eq_true rfl, Nat.le_of_ble_eq_true rfl⟩ ⟨Nat.le_of_ble_eq_true rfl, Nat.le_of_ble_eq_true rfl⟩ rfl rfl (Nat.le_of_ble_eq_true rfl) dJ14_copyOf_6 (fun q => ?_)
  exact zj_aret (f := (fun q : Nat => W0 ++ [(q, .inl (dA 7, 4, rfA (va_cpy f (fun _ => none) 0 0 4)))])) (a := fun q => q) hO hr (Or.inr ⟨_, rfl⟩) q rfl rfl ⟨Nat.le_refl _, Nat.le_refl _⟩ dJ14_copyOf_9
theorem m_ltoArray (l : Launch) (D : va_G) (dA : Nat → ClassId) (G : Nat → Nat) {W0 : va_W} {k0 es : Nat} {f : Nat → Option Nat} (h0 : W0[k0]? = some (es, .inl (dA 7, 4, rfA f))) (hel : ∀ j y, f j = some y → ∃ k, k < 256 ∧ y = G (100 + k)) {kl ln : Nat} (hl0 : W0[kl]? = some (ln, .inr (8, [.ref es, .int (nI 0)]))) : CtX l yJ8_toArray (ws_ yJ8_toArray cJ8_toArray 1 (some (.array (.object "java/lang/Object")))) 3 1 4 D dA G [.ref ln] W0 (QgF D dA (fun q : Nat => W0 ++ [(q, .inl (dA 7, 4, rfA (va_cpy f (fun _ => none) 0 0 4)))]) (fun q => q)) := by
  refine zx_start (cc := cJ8_toArray) (nL := 1) (ret := (some (.array (.object "java/lang/Object")))) (own := RJ8) (by decide) rfl rfl (Nat.le_of_ble_eq_true rfl) (fun p e s m args below meth c A hO hX hr hm _ => ?_)
  refine zg_sub (lv' := [(0, .ref ln)]) [0] rfl ?_
  refine zg_aload_n hO 0 dJ8_toArray_0 rfl rfl ?_
  refine zg_get hO fJ8_7 (x := .ref es) kl hl0 rfl dJ8_toArray_1 ?_
  refine zg_aload_n hO 0 dJ8_toArray_4 rfl rfl ?_
  refine zg_get hO fJ8_7 (x := .ref es) kl hl0 rfl dJ8_toArray_5 ?_
  refine zj_len (w := nI 4) hO k0 7 h0 rfl rfl dJ8_toArray_8 ?_
  refine zx_callSr (As := [.ref es, .int (nI 4)]) (rest := []) hO hX (m_copyOfc l D dA G h0 hel) mw_J14_copyOf q448 ⟨Nat.le_of_ble_eq_true rfl, Nat.le_of_ble_eq_true rfl⟩ ⟨Nat.le_of_ble_eq_true rfl, Nat.le_of_ble_eq_true rfl⟩ rfl rfl (Nat.le_of_ble_eq_true rfl) dJ8_toArray_9 (fun q => ?_)
  exact zj_aret (f := (fun q : Nat => W0 ++ [(q, .inl (dA 7, 4, rfA (va_cpy f (fun _ => none) 0 0 4)))])) (a := fun q => q) hO hr (Or.inr ⟨_, rfl⟩) q rfl rfl ⟨Nat.le_refl _, Nat.le_refl _⟩ dJ8_toArray_12
theorem m_isPos (l : Launch) (D : va_G) (dA : Nat → ClassId) (G : Nat → Nat) {W0 : va_W} {ll i : Nat} {mc : Int32} {xs : List (Nat × Nat)} (hx : xs.length < 100) (hi : i ≤ xs.length) : CtX l yJ11_isPositionIndex (ws_ yJ11_isPositionIndex cJ11_isPositionIndex 2 (some .boolean)) 0 0 0 D dA G [.ref ll, .int (nI i)] (W0 ++ LL ll mc xs) (QgI D dA (fun _ : Unit => W0 ++ LL ll mc xs) (nI 1)) := by
  refine zx_start (cc := cJ11_isPositionIndex) (nL := 2) (ret := (some .boolean)) (own := RJ11) (by decide) rfl rfl (Nat.le_of_ble_eq_true rfl) (fun p e s m args below meth c A hO hX hr hm _ => ?_)
  refine zg_sub (lv' := [(0, .ref ll), (1, .int (nI i))]) [0, 1] rfl ?_
  refine zg_iload_n hO 1 dJ11_isPositionIndex_0 rfl rfl ?_
  refine zn_if_lt (tgt := 16) hO (rt_nat i (by omega)).2 dJ11_isPositionIndex_1 (by decide) ?_
  refine zg_iload_n hO 1 dJ11_isPositionIndex_4 rfl rfl ?_
  refine zg_aload_n hO 0 dJ11_isPositionIndex_5 rfl rfl ?_
  refine zg_get hO fJ11_7 W0.length (ap0 (x := LO ll mc xs) (L := LN none none xs)) rfl dJ11_isPositionIndex_6 ?_
  refine zn_icmp_gt (tgt := 16) hO (fun z => absurd ((rt_le xs.length (by omega) i (by omega)).mpr hi) (Int32.not_le.mpr z)) dJ11_isPositionIndex_9 (by decide) ?_
  refine zg_iconst hO dJ11_isPositionIndex_12 ic1 ?_
  refine zg_goto (tgt := 17) hO dJ11_isPositionIndex_13 (by decide) ?_
  exact zx_zret (f := fun _ : Unit => W0 ++ LL ll mc xs) hO hr (Or.inr rfl) () rfl rfl ⟨Nat.zero_le _, Nat.zero_le _⟩ dJ11_isPositionIndex_17
theorem mw_J11_isPositionIndex : MwX yJ11_isPositionIndex cJ11_isPositionIndex 2 (some .boolean) RJ11 1 := ⟨by decide +kernel, q405, qs12, q99, q406⟩
theorem m_isEl (l : Launch) (D : va_G) (dA : Nat → ClassId) (G : Nat → Nat) {W0 : va_W} {ll i : Nat} {mc : Int32} {xs : List (Nat × Nat)} (hx : xs.length < 100) (hi : i < xs.length) : CtX l yJ11_isElementIndex (ws_ yJ11_isElementIndex cJ11_isElementIndex 2 (some .boolean)) 0 0 0 D dA G [.ref ll, .int (nI i)] (W0 ++ LL ll mc xs) (QgI D dA (fun _ : Unit => W0 ++ LL ll mc xs) (nI 1)) := by
  refine zx_start (cc := cJ11_isElementIndex) (nL := 2) (ret := (some .boolean)) (own := RJ11) (by decide) rfl rfl (Nat.le_of_ble_eq_true rfl) (fun p e s m args below meth c A hO hX hr hm _ => ?_)
  refine zg_sub (lv' := [(0, .ref ll), (1, .int (nI i))]) [0, 1] rfl ?_
  refine zg_iload_n hO 1 dJ11_isElementIndex_0 rfl rfl ?_
  refine zn_if_lt (tgt := 16) hO (rt_nat i (by omega)).2 dJ11_isElementIndex_1 (by decide) ?_
  refine zg_iload_n hO 1 dJ11_isElementIndex_4 rfl rfl ?_
  refine zg_aload_n hO 0 dJ11_isElementIndex_5 rfl rfl ?_
  refine zg_get hO fJ11_7 W0.length (ap0 (x := LO ll mc xs) (L := LN none none xs)) rfl dJ11_isElementIndex_6 ?_
  refine zn_icmp_ge (tgt := 16) hO (fun z => absurd ((rt_le i (by omega) xs.length (by omega)).mp z) (by omega)) dJ11_isElementIndex_9 (by decide) ?_
  refine zg_iconst hO dJ11_isElementIndex_12 ic1 ?_
  refine zg_goto (tgt := 17) hO dJ11_isElementIndex_13 (by decide) ?_
  exact zx_zret (f := fun _ : Unit => W0 ++ LL ll mc xs) hO hr (Or.inr rfl) () rfl rfl ⟨Nat.zero_le _, Nat.zero_le _⟩ dJ11_isElementIndex_17
theorem mw_J11_isElementIndex : MwX yJ11_isElementIndex cJ11_isElementIndex 2 (some .boolean) RJ11 1 := ⟨by decide +kernel, q497, qs15, q99, q498⟩
theorem m_ckPos (l : Launch) (D : va_G) (dA : Nat → ClassId) (G : Nat → Nat) {W0 : va_W} {ll i : Nat} {mc : Int32} {xs : List (Nat × Nat)} (hx : xs.length < 100) (hi : i ≤ xs.length) : CtX l yJ11_checkPositionIndex (ws_ yJ11_checkPositionIndex cJ11_checkPositionIndex 2 none) 1 0 0 D dA G [.ref ll, .int (nI i)] (W0 ++ LL ll mc xs) (QgV D dA (fun _ : Unit => W0 ++ LL ll mc xs)) := by
  refine zx_start (cc := cJ11_checkPositionIndex) (nL := 2) (ret := none) (own := RJ11) (by decide) rfl rfl (Nat.le_of_ble_eq_true rfl) (fun p e s m args below meth c A hO hX hr hm _ => ?_)
  refine zg_sub (lv' := [(0, .ref ll), (1, .int (nI i))]) [0, 1] rfl ?_
  refine zg_aload_n hO 0 dJ11_checkPositionIndex_0 rfl rfl ?_
  refine zg_iload_n hO 1 dJ11_checkPositionIndex_1 rfl rfl ?_
  refine zx_callVi (na := 1) (As := [.int (nI i)]) (rest := []) hO hX (m_isPos l D dA G hx hi) mw_J11_isPositionIndex q403 ⟨Nat.le_of_ble_eq_true rfl, Nat.le_of_ble_eq_true rfl⟩ ⟨Nat.zero_le _, Nat.zero_le _⟩ rfl rfl (Nat.le_of_ble_eq_true rfl) ⟨W0.length, 6, _, _, ap0 (x := LO ll mc xs) (L := LN none none xs), rfl, rfl⟩ dJ11_checkPositionIndex_2 (fun _ => ?_)
  refine zt_if_ne (tgt := 21) hO (by decide) dJ11_checkPositionIndex_5 (by decide) ?_
  exact zx_vret (f := fun _ : Unit => W0 ++ LL ll mc xs) hO hr () rfl ⟨Nat.zero_le _, Nat.zero_le _⟩ dJ11_checkPositionIndex_21
theorem mw_J11_checkPositionIndex : MwX yJ11_checkPositionIndex cJ11_checkPositionIndex 2 none RJ11 1 := ⟨by decide +kernel, q401, qs11, q99, q402⟩
theorem m_ckEl (l : Launch) (D : va_G) (dA : Nat → ClassId) (G : Nat → Nat) {W0 : va_W} {ll i : Nat} {mc : Int32} {xs : List (Nat × Nat)} (hx : xs.length < 100) (hi : i < xs.length) : CtX l yJ11_checkElementIndex (ws_ yJ11_checkElementIndex cJ11_checkElementIndex 2 none) 1 0 0 D dA G [.ref ll, .int (nI i)] (W0 ++ LL ll mc xs) (QgV D dA (fun _ : Unit => W0 ++ LL ll mc xs)) := by
  refine zx_start (cc := cJ11_checkElementIndex) (nL := 2) (ret := none) (own := RJ11) (by decide) rfl rfl (Nat.le_of_ble_eq_true rfl) (fun p e s m args below meth c A hO hX hr hm _ => ?_)
  refine zg_sub (lv' := [(0, .ref ll), (1, .int (nI i))]) [0, 1] rfl ?_
  refine zg_aload_n hO 0 dJ11_checkElementIndex_0 rfl rfl ?_
  refine zg_iload_n hO 1 dJ11_checkElementIndex_1 rfl rfl ?_
  refine zx_callVi (na := 1) (As := [.int (nI i)]) (rest := []) hO hX (m_isEl l D dA G hx hi) mw_J11_isElementIndex q495 ⟨Nat.le_of_ble_eq_true rfl, Nat.le_of_ble_eq_true rfl⟩ ⟨Nat.zero_le _, Nat.zero_le _⟩ rfl rfl (Nat.le_of_ble_eq_true rfl) ⟨W0.length, 6, _, _, ap0 (x := LO ll mc xs) (L := LN none none xs), rfl, rfl⟩ dJ11_checkElementIndex_2 (fun _ => ?_)
  refine zt_if_ne (tgt := 21) hO (by decide) dJ11_checkElementIndex_5 (by decide) ?_
  exact zx_vret (f := fun _ : Unit => W0 ++ LL ll mc xs) hO hr () rfl ⟨Nat.zero_le _, Nat.zero_le _⟩ dJ11_checkElementIndex_21
theorem mw_J11_checkElementIndex : MwX yJ11_checkElementIndex cJ11_checkElementIndex 2 none RJ11 1 := ⟨by decide +kernel, q493, qs14, q99, q494⟩
theorem m_node10 (l : Launch) (D : va_G) (dA : Nat → ClassId) (G : Nat → Nat) {W0 : va_W} {ll a0 x0 : Nat} {mc : Int32} : CtX l yJ11_node (ws_ yJ11_node cJ11_node 4 (some (.object "java/util/LinkedList$Node"))) 0 0 0 D dA G [.ref ll, .int (nI 0)] (W0 ++ LL ll mc [(a0, x0)]) (QgF D dA (fun _ : Unit => W0 ++ LL ll mc [(a0, x0)]) (fun _ => a0)) := by
  refine zx_start (cc := cJ11_node) (nL := 4) (ret := (some (.object "java/util/LinkedList$Node"))) (own := RJ11) (by decide) rfl rfl (Nat.le_of_ble_eq_true rfl) (fun p e s m args below meth c A hO hX hr hm _ => ?_)
  refine zg_sub (lv' := [(0, .ref ll), (1, .int (nI 0))]) [0, 1] rfl ?_
  refine zg_ws (ws' := W0 ++ [(ll, .inr (6, [.int mc, .int (nI 1), .ref a0, .ref a0])), (a0, .inr (7, [.ref x0, .null, .null]))]) rfl ?_
  refine zg_iload_n hO 1 dJ11_node_0 rfl rfl ?_
  refine zg_aload_n hO 0 dJ11_node_1 rfl rfl ?_
  refine zg_get hO fJ11_7 (x := .int (nI 1)) (W0.length + 0) ((apN 0).trans rfl) rfl dJ11_node_2 ?_
  refine zg_iconst hO dJ11_node_5 ic1 ?_
  refine zg_ishr hO dJ11_node_6 ?_
  refine zt_icmp_ge (tgt := 35) hO (by decide) dJ11_node_7 (by decide) ?_
  refine zg_aload_n hO 0 dJ11_node_35 rfl rfl ?_
  refine zg_get hO fJ11_27 (x := .ref a0) (W0.length + 0) ((apN 0).trans rfl) rfl dJ11_node_36 ?_
  refine zg_astore_n (lv' := [(2, .ref a0), (0, .ref ll), (1, .int (nI 0))]) hO dJ11_node_39 rfl (Nat.le_of_ble_eq_true rfl) rfl ?_
  refine zg_aload_n hO 1 dJ11_node_40 rfl rfl ?_
  refine zg_get hO fJ11_7 (x := .int (nI 1)) (W0.length + 0) ((apN 0).trans rfl) rfl dJ11_node_41 ?_
  refine zg_iconst hO dJ11_node_44 ic1 ?_
  refine zg_isub hO dJ11_node_45 ?_
  refine zg_istore_n (lv' := [(3, .int ((nI 1) - (nI 1))), (2, .ref a0), (0, .ref ll), (1, .int (nI 0))]) hO dJ11_node_46 rfl (Nat.le_of_ble_eq_true rfl) rfl ?_
  refine zg_iload_n hO 0 dJ11_node_47 rfl rfl ?_
  refine zg_iload_n hO 3 dJ11_node_48 rfl rfl ?_
  refine zt_icmp_le (tgt := 63) hO (by decide) dJ11_node_49 (by decide) ?_
  refine zg_aload_n hO 1 dJ11_node_63 rfl rfl ?_
  exact zj_aret (f := fun _ : Unit => W0 ++ LL ll mc [(a0, x0)]) (a := fun _ => a0) hO hr (Or.inl ⟨_, rfl⟩) () rfl rfl ⟨Nat.zero_le _, Nat.zero_le _⟩ dJ11_node_64
theorem m_unlk10 (l : Launch) (D : va_G) (dA : Nat → ClassId) (G : Nat → Nat) {W0 : va_W} {ll a0 x0 : Nat} {mc : Int32} : CtX l yJ11_unlink (ws_ yJ11_unlink cJ11_unlink 5 (some (.object "java/lang/Object"))) 0 0 0 D dA G [.ref ll, .ref a0] (W0 ++ LL ll mc [(a0, x0)]) (QgF D dA (fun _ : Unit => W0 ++ LL ll (mc + nI 1) []) (fun _ => x0)) := by
  refine zx_start (cc := cJ11_unlink) (nL := 5) (ret := (some (.object "java/lang/Object"))) (own := RJ11) (by decide) rfl rfl (Nat.le_of_ble_eq_true rfl) (fun p e s m args below meth c A hO hX hr hm _ => ?_)
  refine zg_sub (lv' := [(0, .ref ll), (1, .ref a0)]) [0, 1] rfl ?_
  refine zg_ws (ws' := W0 ++ [(ll, .inr (6, [.int mc, .int (nI 1), .ref a0, .ref a0])), (a0, .inr (7, [.ref x0, .null, .null]))]) rfl ?_
  refine zg_aload_n hO 1 dJ11_unlink_0 rfl rfl ?_
  refine zg_get hO fJ11_39 (x := .ref x0) (W0.length + 1) ((apN 1).trans rfl) rfl dJ11_unlink_1 ?_
  refine zg_astore_n (lv' := [(2, .ref x0), (0, .ref ll), (1, .ref a0)]) hO dJ11_unlink_4 rfl (Nat.le_of_ble_eq_true rfl) rfl ?_
  refine zg_aload_n hO 2 dJ11_unlink_5 rfl rfl ?_
  refine zg_get hO fJ11_36 (x := .null) (W0.length + 1) ((apN 1).trans rfl) rfl dJ11_unlink_6 ?_
  refine zg_astore_nN (lv' := [(3, .null), (2, .ref x0), (0, .ref ll), (1, .ref a0)]) hO dJ11_unlink_9 rfl (Nat.le_of_ble_eq_true rfl) rfl ?_
  refine zg_aload_n hO 3 dJ11_unlink_10 rfl rfl ?_
  refine zg_get hO fJ11_30 (x := .null) (W0.length + 1) ((apN 1).trans rfl) rfl dJ11_unlink_11 ?_
  refine zg_astoreN (lv' := [(4, .null), (3, .null), (2, .ref x0), (0, .ref ll), (1, .ref a0)]) hO dJ11_unlink_14 (Nat.le_of_ble_eq_true rfl) rfl ?_
  refine zg_aloadN hO 0 dJ11_unlink_16 rfl ?_
  refine zj_nonnullN hO dJ11_unlink_18 ?_
  refine zg_aload_n hO 3 dJ11_unlink_21 rfl rfl ?_
  refine zg_aload_nN hO 1 dJ11_unlink_22 rfl rfl ?_
  refine zg_put (ws' := W0 ++ [(ll, .inr (6, [.int mc, .int (nI 1), .null, .ref a0])), (a0, .inr (7, [.ref x0, .null, .null]))]) hO pJ11_18 (W0.length + 0) ((apN 0).trans rfl) rfl rfl (Nat.le_of_ble_eq_true rfl) ((asN 0 _).trans rfl) dJ11_unlink_23 ?_
  refine zg_goto (tgt := 40) hO dJ11_unlink_26 (by decide) ?_
  refine zg_aload_nN hO 1 dJ11_unlink_40 rfl rfl ?_
  refine zj_nonnullN hO dJ11_unlink_41 ?_
  refine zg_aload_n hO 3 dJ11_unlink_44 rfl rfl ?_
  refine zg_aloadN hO 0 dJ11_unlink_45 rfl ?_
  refine zg_put (ws' := W0 ++ [(ll, .inr (6, [.int mc, .int (nI 1), .null, .null])), (a0, .inr (7, [.ref x0, .null, .null]))]) hO pJ11_27 (W0.length + 0) ((apN 0).trans rfl) rfl rfl (Nat.le_of_ble_eq_true rfl) ((asN 0 _).trans rfl) dJ11_unlink_47 ?_
  refine zg_goto (tgt := 64) hO dJ11_unlink_50 (by decide) ?_
  refine zg_aload_n hO 4 dJ11_unlink_64 rfl rfl ?_
  refine zg_null hO dJ11_unlink_65 ?_
  refine zg_put (ws' := W0 ++ [(ll, .inr (6, [.int mc, .int (nI 1), .null, .null])), (a0, .inr (7, [.null, .null, .null]))]) hO pJ11_39 (W0.length + 1) ((apN 1).trans rfl) rfl rfl (Nat.le_of_ble_eq_true rfl) ((asN 1 _).trans rfl) dJ11_unlink_66 ?_
  refine zg_aload_n hO 3 dJ11_unlink_69 rfl rfl ?_
  refine zg_dup hO dJ11_unlink_70 rfl ?_
  refine zg_get hO fJ11_7 (x := .int (nI 1)) (W0.length + 0) ((apN 0).trans rfl) rfl dJ11_unlink_71 ?_
  refine zg_iconst hO dJ11_unlink_74 ic1 ?_
  refine zg_isub hO dJ11_unlink_75 ?_
  rw [show nI 1 - nI 1 = nI 0 by decide]
  refine zg_put (ws' := W0 ++ [(ll, .inr (6, [.int mc, .int (nI 0), .null, .null])), (a0, .inr (7, [.null, .null, .null]))]) hO pJ11_7 (W0.length + 0) ((apN 0).trans rfl) rfl rfl (Nat.le_of_ble_eq_true rfl) ((asN 0 _).trans rfl) dJ11_unlink_76 ?_
  refine zg_aload_n hO 3 dJ11_unlink_79 rfl rfl ?_
  refine zg_dup hO dJ11_unlink_80 rfl ?_
  refine zg_get hO fJ11_33 (x := .int mc) (W0.length + 0) ((apN 0).trans rfl) rfl dJ11_unlink_81 ?_
  refine zg_iconst hO dJ11_unlink_84 ic1 ?_
  refine zg_iadd hO dJ11_unlink_85 ?_
  refine zg_put (ws' := W0 ++ [(ll, .inr (6, [.int (mc + nI 1), .int (nI 0), .null, .null])), (a0, .inr (7, [.null, .null, .null]))]) hO pJ11_33 (W0.length + 0) ((apN 0).trans rfl) rfl rfl (Nat.le_of_ble_eq_true rfl) ((asN 0 _).trans rfl) dJ11_unlink_86 ?_
  refine zg_aload_n hO 2 dJ11_unlink_89 rfl rfl ?_
  refine zk_erase (ws' := W0 ++ LL ll (mc + nI 1) []) (W0.length + 1) ((erN 1).trans rfl) ?_
  exact zj_aret (f := fun _ : Unit => W0 ++ LL ll (mc + nI 1) []) (a := fun _ => x0) hO hr (Or.inl ⟨_, rfl⟩) () rfl rfl ⟨Nat.zero_le _, Nat.zero_le _⟩ dJ11_unlink_90
theorem m_node20 (l : Launch) (D : va_G) (dA : Nat → ClassId) (G : Nat → Nat) {W0 : va_W} {ll a0 x0 a1 x1 : Nat} {mc : Int32} : CtX l yJ11_node (ws_ yJ11_node cJ11_node 4 (some (.object "java/util/LinkedList$Node"))) 0 0 0 D dA G [.ref ll, .int (nI 0)] (W0 ++ LL ll mc [(a0, x0), (a1, x1)]) (QgF D dA (fun _ : Unit => W0 ++ LL ll mc [(a0, x0), (a1, x1)]) (fun _ => a0)) := by
  refine zx_start (cc := cJ11_node) (nL := 4) (ret := (some (.object "java/util/LinkedList$Node"))) (own := RJ11) (by decide) rfl rfl (Nat.le_of_ble_eq_true rfl) (fun p e s m args below meth c A hO hX hr hm _ => ?_)
  refine zg_sub (lv' := [(0, .ref ll), (1, .int (nI 0))]) [0, 1] rfl ?_
  refine zg_ws (ws' := W0 ++ [(ll, .inr (6, [.int mc, .int (nI 2), .ref a0, .ref a1])), (a0, .inr (7, [.ref x0, .ref a1, .null])), (a1, .inr (7, [.ref x1, .null, .ref a0]))]) rfl ?_
  refine zg_iload_n hO 1 dJ11_node_0 rfl rfl ?_
  refine zg_aload_n hO 0 dJ11_node_1 rfl rfl ?_
  refine zg_get hO fJ11_7 (x := .int (nI 2)) (W0.length + 0) ((apN 0).trans rfl) rfl dJ11_node_2 ?_
  refine zg_iconst hO dJ11_node_5 ic1 ?_
  refine zg_ishr hO dJ11_node_6 ?_
  refine zn_icmp_ge (tgt := 35) hO (by decide) dJ11_node_7 (by decide) ?_
  refine zg_aload_n hO 0 dJ11_node_10 rfl rfl ?_
  refine zg_get hO fJ11_18 (x := .ref a0) (W0.length + 0) ((apN 0).trans rfl) rfl dJ11_node_11 ?_
  refine zg_astore_n (lv' := [(2, .ref a0), (0, .ref ll), (1, .int (nI 0))]) hO dJ11_node_14 rfl (Nat.le_of_ble_eq_true rfl) rfl ?_
  refine zg_iconst hO dJ11_node_15 ic0 ?_
  refine zg_istore_n (lv' := [(3, .int (nI 0)), (2, .ref a0), (0, .ref ll), (1, .int (nI 0))]) hO dJ11_node_16 rfl (Nat.le_of_ble_eq_true rfl) rfl ?_
  refine zg_iload_n hO 0 dJ11_node_17 rfl rfl ?_
  refine zg_iload_n hO 3 dJ11_node_18 rfl rfl ?_
  refine zt_icmp_ge (tgt := 33) hO (by decide) dJ11_node_19 (by decide) ?_
  refine zg_aload_n hO 1 dJ11_node_33 rfl rfl ?_
  exact zj_aret (f := fun _ : Unit => W0 ++ LL ll mc [(a0, x0), (a1, x1)]) (a := fun _ => a0) hO hr (Or.inl ⟨_, rfl⟩) () rfl rfl ⟨Nat.zero_le _, Nat.zero_le _⟩ dJ11_node_34
theorem m_unlk20 (l : Launch) (D : va_G) (dA : Nat → ClassId) (G : Nat → Nat) {W0 : va_W} {ll a0 x0 a1 x1 : Nat} {mc : Int32} : CtX l yJ11_unlink (ws_ yJ11_unlink cJ11_unlink 5 (some (.object "java/lang/Object"))) 0 0 0 D dA G [.ref ll, .ref a0] (W0 ++ LL ll mc [(a0, x0), (a1, x1)]) (QgF D dA (fun _ : Unit => W0 ++ LL ll (mc + nI 1) [(a1, x1)]) (fun _ => x0)) := by
  refine zx_start (cc := cJ11_unlink) (nL := 5) (ret := (some (.object "java/lang/Object"))) (own := RJ11) (by decide) rfl rfl (Nat.le_of_ble_eq_true rfl) (fun p e s m args below meth c A hO hX hr hm _ => ?_)
  refine zg_sub (lv' := [(0, .ref ll), (1, .ref a0)]) [0, 1] rfl ?_
  refine zg_ws (ws' := W0 ++ [(ll, .inr (6, [.int mc, .int (nI 2), .ref a0, .ref a1])), (a0, .inr (7, [.ref x0, .ref a1, .null])), (a1, .inr (7, [.ref x1, .null, .ref a0]))]) rfl ?_
  refine zg_aload_n hO 1 dJ11_unlink_0 rfl rfl ?_
  refine zg_get hO fJ11_39 (x := .ref x0) (W0.length + 1) ((apN 1).trans rfl) rfl dJ11_unlink_1 ?_
  refine zg_astore_n (lv' := [(2, .ref x0), (0, .ref ll), (1, .ref a0)]) hO dJ11_unlink_4 rfl (Nat.le_of_ble_eq_true rfl) rfl ?_
  refine zg_aload_n hO 2 dJ11_unlink_5 rfl rfl ?_
  refine zg_get hO fJ11_36 (x := .ref a1) (W0.length + 1) ((apN 1).trans rfl) rfl dJ11_unlink_6 ?_
  refine zg_astore_n (lv' := [(3, .ref a1), (2, .ref x0), (0, .ref ll), (1, .ref a0)]) hO dJ11_unlink_9 rfl (Nat.le_of_ble_eq_true rfl) rfl ?_
  refine zg_aload_n hO 3 dJ11_unlink_10 rfl rfl ?_
  refine zg_get hO fJ11_30 (x := .null) (W0.length + 1) ((apN 1).trans rfl) rfl dJ11_unlink_11 ?_
  refine zg_astoreN (lv' := [(4, .null), (3, .ref a1), (2, .ref x0), (0, .ref ll), (1, .ref a0)]) hO dJ11_unlink_14 (Nat.le_of_ble_eq_true rfl) rfl ?_
  refine zg_aloadN hO 0 dJ11_unlink_16 rfl ?_
  refine zj_nonnullN hO dJ11_unlink_18 ?_
  refine zg_aload_n hO 3 dJ11_unlink_21 rfl rfl ?_
  refine zg_aload_n hO 1 dJ11_unlink_22 rfl rfl ?_
  refine zg_put (ws' := W0 ++ [(ll, .inr (6, [.int mc, .int (nI 2), .ref a1, .ref a1])), (a0, .inr (7, [.ref x0, .ref a1, .null])), (a1, .inr (7, [.ref x1, .null, .ref a0]))]) hO pJ11_18 (W0.length + 0) ((apN 0).trans rfl) rfl rfl (Nat.le_of_ble_eq_true rfl) ((asN 0 _).trans rfl) dJ11_unlink_23 ?_
  refine zg_goto (tgt := 40) hO dJ11_unlink_26 (by decide) ?_
  refine zg_aload_n hO 1 dJ11_unlink_40 rfl rfl ?_
  refine zj_nonnull (tgt := 53) hO dJ11_unlink_41 (by decide) ?_
  refine zg_aload_n hO 1 dJ11_unlink_53 rfl rfl ?_
  refine zg_aloadN hO 0 dJ11_unlink_54 rfl ?_
  refine zg_put (ws' := W0 ++ [(ll, .inr (6, [.int mc, .int (nI 2), .ref a1, .ref a1])), (a0, .inr (7, [.ref x0, .ref a1, .null])), (a1, .inr (7, [.ref x1, .null, .null]))]) hO pJ11_30 (W0.length + 2) ((apN 2).trans rfl) rfl rfl (Nat.le_of_ble_eq_true rfl) ((asN 2 _).trans rfl) dJ11_unlink_56 ?_
  refine zg_aload_n hO 4 dJ11_unlink_59 rfl rfl ?_
  refine zg_null hO dJ11_unlink_60 ?_
  refine zg_put (ws' := W0 ++ [(ll, .inr (6, [.int mc, .int (nI 2), .ref a1, .ref a1])), (a0, .inr (7, [.ref x0, .null, .null])), (a1, .inr (7, [.ref x1, .null, .null]))]) hO pJ11_36 (W0.length + 1) ((apN 1).trans rfl) rfl rfl (Nat.le_of_ble_eq_true rfl) ((asN 1 _).trans rfl) dJ11_unlink_61 ?_
  refine zg_aload_n hO 4 dJ11_unlink_64 rfl rfl ?_
  refine zg_null hO dJ11_unlink_65 ?_
  refine zg_put (ws' := W0 ++ [(ll, .inr (6, [.int mc, .int (nI 2), .ref a1, .ref a1])), (a0, .inr (7, [.null, .null, .null])), (a1, .inr (7, [.ref x1, .null, .null]))]) hO pJ11_39 (W0.length + 1) ((apN 1).trans rfl) rfl rfl (Nat.le_of_ble_eq_true rfl) ((asN 1 _).trans rfl) dJ11_unlink_66 ?_
  refine zg_aload_n hO 3 dJ11_unlink_69 rfl rfl ?_
  refine zg_dup hO dJ11_unlink_70 rfl ?_
  refine zg_get hO fJ11_7 (x := .int (nI 2)) (W0.length + 0) ((apN 0).trans rfl) rfl dJ11_unlink_71 ?_
  refine zg_iconst hO dJ11_unlink_74 ic1 ?_
  refine zg_isub hO dJ11_unlink_75 ?_
  rw [show nI 2 - nI 1 = nI 1 by decide]
  refine zg_put (ws' := W0 ++ [(ll, .inr (6, [.int mc, .int (nI 1), .ref a1, .ref a1])), (a0, .inr (7, [.null, .null, .null])), (a1, .inr (7, [.ref x1, .null, .null]))]) hO pJ11_7 (W0.length + 0) ((apN 0).trans rfl) rfl rfl (Nat.le_of_ble_eq_true rfl) ((asN 0 _).trans rfl) dJ11_unlink_76 ?_
  refine zg_aload_n hO 3 dJ11_unlink_79 rfl rfl ?_
  refine zg_dup hO dJ11_unlink_80 rfl ?_
  refine zg_get hO fJ11_33 (x := .int mc) (W0.length + 0) ((apN 0).trans rfl) rfl dJ11_unlink_81 ?_
  refine zg_iconst hO dJ11_unlink_84 ic1 ?_
  refine zg_iadd hO dJ11_unlink_85 ?_
  refine zg_put (ws' := W0 ++ [(ll, .inr (6, [.int (mc + nI 1), .int (nI 1), .ref a1, .ref a1])), (a0, .inr (7, [.null, .null, .null])), (a1, .inr (7, [.ref x1, .null, .null]))]) hO pJ11_33 (W0.length + 0) ((apN 0).trans rfl) rfl rfl (Nat.le_of_ble_eq_true rfl) ((asN 0 _).trans rfl) dJ11_unlink_86 ?_
  refine zg_aload_n hO 2 dJ11_unlink_89 rfl rfl ?_
  refine zk_erase (ws' := W0 ++ LL ll (mc + nI 1) [(a1, x1)]) (W0.length + 1) ((erN 1).trans rfl) ?_
  exact zj_aret (f := fun _ : Unit => W0 ++ LL ll (mc + nI 1) [(a1, x1)]) (a := fun _ => x0) hO hr (Or.inl ⟨_, rfl⟩) () rfl rfl ⟨Nat.zero_le _, Nat.zero_le _⟩ dJ11_unlink_90
theorem m_node21 (l : Launch) (D : va_G) (dA : Nat → ClassId) (G : Nat → Nat) {W0 : va_W} {ll a0 x0 a1 x1 : Nat} {mc : Int32} : CtX l yJ11_node (ws_ yJ11_node cJ11_node 4 (some (.object "java/util/LinkedList$Node"))) 0 0 0 D dA G [.ref ll, .int (nI 1)] (W0 ++ LL ll mc [(a0, x0), (a1, x1)]) (QgF D dA (fun _ : Unit => W0 ++ LL ll mc [(a0, x0), (a1, x1)]) (fun _ => a1)) := by
  refine zx_start (cc := cJ11_node) (nL := 4) (ret := (some (.object "java/util/LinkedList$Node"))) (own := RJ11) (by decide) rfl rfl (Nat.le_of_ble_eq_true rfl) (fun p e s m args below meth c A hO hX hr hm _ => ?_)
  refine zg_sub (lv' := [(0, .ref ll), (1, .int (nI 1))]) [0, 1] rfl ?_
  refine zg_ws (ws' := W0 ++ [(ll, .inr (6, [.int mc, .int (nI 2), .ref a0, .ref a1])), (a0, .inr (7, [.ref x0, .ref a1, .null])), (a1, .inr (7, [.ref x1, .null, .ref a0]))]) rfl ?_
  refine zg_iload_n hO 1 dJ11_node_0 rfl rfl ?_
  refine zg_aload_n hO 0 dJ11_node_1 rfl rfl ?_
  refine zg_get hO fJ11_7 (x := .int (nI 2)) (W0.length + 0) ((apN 0).trans rfl) rfl dJ11_node_2 ?_
  refine zg_iconst hO dJ11_node_5 ic1 ?_
  refine zg_ishr hO dJ11_node_6 ?_
  refine zt_icmp_ge (tgt := 35) hO (by decide) dJ11_node_7 (by decide) ?_
  refine zg_aload_n hO 0 dJ11_node_35 rfl rfl ?_
  refine zg_get hO fJ11_27 (x := .ref a1) (W0.length + 0) ((apN 0).trans rfl) rfl dJ11_node_36 ?_
  refine zg_astore_n (lv' := [(2, .ref a1), (0, .ref ll), (1, .int (nI 1))]) hO dJ11_node_39 rfl (Nat.le_of_ble_eq_true rfl) rfl ?_
  refine zg_aload_n hO 1 dJ11_node_40 rfl rfl ?_
  refine zg_get hO fJ11_7 (x := .int (nI 2)) (W0.length + 0) ((apN 0).trans rfl) rfl dJ11_node_41 ?_
  refine zg_iconst hO dJ11_node_44 ic1 ?_
  refine zg_isub hO dJ11_node_45 ?_
  refine zg_istore_n (lv' := [(3, .int ((nI 2) - (nI 1))), (2, .ref a1), (0, .ref ll), (1, .int (nI 1))]) hO dJ11_node_46 rfl (Nat.le_of_ble_eq_true rfl) rfl ?_
  refine zg_iload_n hO 0 dJ11_node_47 rfl rfl ?_
  refine zg_iload_n hO 3 dJ11_node_48 rfl rfl ?_
  refine zt_icmp_le (tgt := 63) hO (by decide) dJ11_node_49 (by decide) ?_
  refine zg_aload_n hO 1 dJ11_node_63 rfl rfl ?_
  exact zj_aret (f := fun _ : Unit => W0 ++ LL ll mc [(a0, x0), (a1, x1)]) (a := fun _ => a1) hO hr (Or.inl ⟨_, rfl⟩) () rfl rfl ⟨Nat.zero_le _, Nat.zero_le _⟩ dJ11_node_64
theorem m_unlk21 (l : Launch) (D : va_G) (dA : Nat → ClassId) (G : Nat → Nat) {W0 : va_W} {ll a0 x0 a1 x1 : Nat} {mc : Int32} : CtX l yJ11_unlink (ws_ yJ11_unlink cJ11_unlink 5 (some (.object "java/lang/Object"))) 0 0 0 D dA G [.ref ll, .ref a1] (W0 ++ LL ll mc [(a0, x0), (a1, x1)]) (QgF D dA (fun _ : Unit => W0 ++ LL ll (mc + nI 1) [(a0, x0)]) (fun _ => x1)) := by
  refine zx_start (cc := cJ11_unlink) (nL := 5) (ret := (some (.object "java/lang/Object"))) (own := RJ11) (by decide) rfl rfl (Nat.le_of_ble_eq_true rfl) (fun p e s m args below meth c A hO hX hr hm _ => ?_)
  refine zg_sub (lv' := [(0, .ref ll), (1, .ref a1)]) [0, 1] rfl ?_
  refine zg_ws (ws' := W0 ++ [(ll, .inr (6, [.int mc, .int (nI 2), .ref a0, .ref a1])), (a0, .inr (7, [.ref x0, .ref a1, .null])), (a1, .inr (7, [.ref x1, .null, .ref a0]))]) rfl ?_
  refine zg_aload_n hO 1 dJ11_unlink_0 rfl rfl ?_
  refine zg_get hO fJ11_39 (x := .ref x1) (W0.length + 2) ((apN 2).trans rfl) rfl dJ11_unlink_1 ?_
  refine zg_astore_n (lv' := [(2, .ref x1), (0, .ref ll), (1, .ref a1)]) hO dJ11_unlink_4 rfl (Nat.le_of_ble_eq_true rfl) rfl ?_
  refine zg_aload_n hO 2 dJ11_unlink_5 rfl rfl ?_
  refine zg_get hO fJ11_36 (x := .null) (W0.length + 2) ((apN 2).trans rfl) rfl dJ11_unlink_6 ?_
  refine zg_astore_nN (lv' := [(3, .null), (2, .ref x1), (0, .ref ll), (1, .ref a1)]) hO dJ11_unlink_9 rfl (Nat.le_of_ble_eq_true rfl) rfl ?_
  refine zg_aload_n hO 3 dJ11_unlink_10 rfl rfl ?_
  refine zg_get hO fJ11_30 (x := .ref a0) (W0.length + 2) ((apN 2).trans rfl) rfl dJ11_unlink_11 ?_
  refine zg_astore (lv' := [(4, .ref a0), (3, .null), (2, .ref x1), (0, .ref ll), (1, .ref a1)]) hO dJ11_unlink_14 (Nat.le_of_ble_eq_true rfl) rfl ?_
  refine zg_aload hO 0 dJ11_unlink_16 rfl ?_
  refine zj_nonnull (tgt := 29) hO dJ11_unlink_18 (by decide) ?_
  refine zg_aload hO 0 dJ11_unlink_29 rfl ?_
  refine zg_aload_nN hO 1 dJ11_unlink_31 rfl rfl ?_
  refine zg_put (ws' := W0 ++ [(ll, .inr (6, [.int mc, .int (nI 2), .ref a0, .ref a1])), (a0, .inr (7, [.ref x0, .null, .null])), (a1, .inr (7, [.ref x1, .null, .ref a0]))]) hO pJ11_36 (W0.length + 1) ((apN 1).trans rfl) rfl rfl (Nat.le_of_ble_eq_true rfl) ((asN 1 _).trans rfl) dJ11_unlink_32 ?_
  refine zg_aload_n hO 4 dJ11_unlink_35 rfl rfl ?_
  refine zg_null hO dJ11_unlink_36 ?_
  refine zg_put (ws' := W0 ++ [(ll, .inr (6, [.int mc, .int (nI 2), .ref a0, .ref a1])), (a0, .inr (7, [.ref x0, .null, .null])), (a1, .inr (7, [.ref x1, .null, .null]))]) hO pJ11_30 (W0.length + 2) ((apN 2).trans rfl) rfl rfl (Nat.le_of_ble_eq_true rfl) ((asN 2 _).trans rfl) dJ11_unlink_37 ?_
  refine zg_aload_nN hO 1 dJ11_unlink_40 rfl rfl ?_
  refine zj_nonnullN hO dJ11_unlink_41 ?_
  refine zg_aload_n hO 3 dJ11_unlink_44 rfl rfl ?_
  refine zg_aload hO 0 dJ11_unlink_45 rfl ?_
  refine zg_put (ws' := W0 ++ [(ll, .inr (6, [.int mc, .int (nI 2), .ref a0, .ref a0])), (a0, .inr (7, [.ref x0, .null, .null])), (a1, .inr (7, [.ref x1, .null, .null]))]) hO pJ11_27 (W0.length + 0) ((apN 0).trans rfl) rfl rfl (Nat.le_of_ble_eq_true rfl) ((asN 0 _).trans rfl) dJ11_unlink_47 ?_
  refine zg_goto (tgt := 64) hO dJ11_unlink_50 (by decide) ?_
  refine zg_aload_n hO 4 dJ11_unlink_64 rfl rfl ?_
  refine zg_null hO dJ11_unlink_65 ?_
  refine zg_put (ws' := W0 ++ [(ll, .inr (6, [.int mc, .int (nI 2), .ref a0, .ref a0])), (a0, .inr (7, [.ref x0, .null, .null])), (a1, .inr (7, [.null, .null, .null]))]) hO pJ11_39 (W0.length + 2) ((apN 2).trans rfl) rfl rfl (Nat.le_of_ble_eq_true rfl) ((asN 2 _).trans rfl) dJ11_unlink_66 ?_
  refine zg_aload_n hO 3 dJ11_unlink_69 rfl rfl ?_
  refine zg_dup hO dJ11_unlink_70 rfl ?_
  refine zg_get hO fJ11_7 (x := .int (nI 2)) (W0.length + 0) ((apN 0).trans rfl) rfl dJ11_unlink_71 ?_
  refine zg_iconst hO dJ11_unlink_74 ic1 ?_
  refine zg_isub hO dJ11_unlink_75 ?_
  rw [show nI 2 - nI 1 = nI 1 by decide]
  refine zg_put (ws' := W0 ++ [(ll, .inr (6, [.int mc, .int (nI 1), .ref a0, .ref a0])), (a0, .inr (7, [.ref x0, .null, .null])), (a1, .inr (7, [.null, .null, .null]))]) hO pJ11_7 (W0.length + 0) ((apN 0).trans rfl) rfl rfl (Nat.le_of_ble_eq_true rfl) ((asN 0 _).trans rfl) dJ11_unlink_76 ?_
  refine zg_aload_n hO 3 dJ11_unlink_79 rfl rfl ?_
  refine zg_dup hO dJ11_unlink_80 rfl ?_
  refine zg_get hO fJ11_33 (x := .int mc) (W0.length + 0) ((apN 0).trans rfl) rfl dJ11_unlink_81 ?_
  refine zg_iconst hO dJ11_unlink_84 ic1 ?_
  refine zg_iadd hO dJ11_unlink_85 ?_
  refine zg_put (ws' := W0 ++ [(ll, .inr (6, [.int (mc + nI 1), .int (nI 1), .ref a0, .ref a0])), (a0, .inr (7, [.ref x0, .null, .null])), (a1, .inr (7, [.null, .null, .null]))]) hO pJ11_33 (W0.length + 0) ((apN 0).trans rfl) rfl rfl (Nat.le_of_ble_eq_true rfl) ((asN 0 _).trans rfl) dJ11_unlink_86 ?_
  refine zg_aload_n hO 2 dJ11_unlink_89 rfl rfl ?_
  refine zk_erase (ws' := W0 ++ LL ll (mc + nI 1) [(a0, x0)]) (W0.length + 2) ((erN 2).trans rfl) ?_
  exact zj_aret (f := fun _ : Unit => W0 ++ LL ll (mc + nI 1) [(a0, x0)]) (a := fun _ => x1) hO hr (Or.inl ⟨_, rfl⟩) () rfl rfl ⟨Nat.zero_le _, Nat.zero_le _⟩ dJ11_unlink_90
theorem m_node30 (l : Launch) (D : va_G) (dA : Nat → ClassId) (G : Nat → Nat) {W0 : va_W} {ll a0 x0 a1 x1 a2 x2 : Nat} {mc : Int32} : CtX l yJ11_node (ws_ yJ11_node cJ11_node 4 (some (.object "java/util/LinkedList$Node"))) 0 0 0 D dA G [.ref ll, .int (nI 0)] (W0 ++ LL ll mc [(a0, x0), (a1, x1), (a2, x2)]) (QgF D dA (fun _ : Unit => W0 ++ LL ll mc [(a0, x0), (a1, x1), (a2, x2)]) (fun _ => a0)) := by
  refine zx_start (cc := cJ11_node) (nL := 4) (ret := (some (.object "java/util/LinkedList$Node"))) (own := RJ11) (by decide) rfl rfl (Nat.le_of_ble_eq_true rfl) (fun p e s m args below meth c A hO hX hr hm _ => ?_)
  refine zg_sub (lv' := [(0, .ref ll), (1, .int (nI 0))]) [0, 1] rfl ?_
  refine zg_ws (ws' := W0 ++ [(ll, .inr (6, [.int mc, .int (nI 3), .ref a0, .ref a2])), (a0, .inr (7, [.ref x0, .ref a1, .null])), (a1, .inr (7, [.ref x1, .ref a2, .ref a0])), (a2, .inr (7, [.ref x2, .null, .ref a1]))]) rfl ?_
  refine zg_iload_n hO 1 dJ11_node_0 rfl rfl ?_
  refine zg_aload_n hO 0 dJ11_node_1 rfl rfl ?_
  refine zg_get hO fJ11_7 (x := .int (nI 3)) (W0.length + 0) ((apN 0).trans rfl) rfl dJ11_node_2 ?_
  refine zg_iconst hO dJ11_node_5 ic1 ?_
  refine zg_ishr hO dJ11_node_6 ?_
  refine zn_icmp_ge (tgt := 35) hO (by decide) dJ11_node_7 (by decide) ?_
  refine zg_aload_n hO 0 dJ11_node_10 rfl rfl ?_
  refine zg_get hO fJ11_18 (x := .ref a0) (W0.length + 0) ((apN 0).trans rfl) rfl dJ11_node_11 ?_
  refine zg_astore_n (lv' := [(2, .ref a0), (0, .ref ll), (1, .int (nI 0))]) hO dJ11_node_14 rfl (Nat.le_of_ble_eq_true rfl) rfl ?_
  refine zg_iconst hO dJ11_node_15 ic0 ?_
  refine zg_istore_n (lv' := [(3, .int (nI 0)), (2, .ref a0), (0, .ref ll), (1, .int (nI 0))]) hO dJ11_node_16 rfl (Nat.le_of_ble_eq_true rfl) rfl ?_
  refine zg_iload_n hO 0 dJ11_node_17 rfl rfl ?_
  refine zg_iload_n hO 3 dJ11_node_18 rfl rfl ?_
  refine zt_icmp_ge (tgt := 33) hO (by decide) dJ11_node_19 (by decide) ?_
  refine zg_aload_n hO 1 dJ11_node_33 rfl rfl ?_
  exact zj_aret (f := fun _ : Unit => W0 ++ LL ll mc [(a0, x0), (a1, x1), (a2, x2)]) (a := fun _ => a0) hO hr (Or.inl ⟨_, rfl⟩) () rfl rfl ⟨Nat.zero_le _, Nat.zero_le _⟩ dJ11_node_34
theorem m_unlk30 (l : Launch) (D : va_G) (dA : Nat → ClassId) (G : Nat → Nat) {W0 : va_W} {ll a0 x0 a1 x1 a2 x2 : Nat} {mc : Int32} : CtX l yJ11_unlink (ws_ yJ11_unlink cJ11_unlink 5 (some (.object "java/lang/Object"))) 0 0 0 D dA G [.ref ll, .ref a0] (W0 ++ LL ll mc [(a0, x0), (a1, x1), (a2, x2)]) (QgF D dA (fun _ : Unit => W0 ++ LL ll (mc + nI 1) [(a1, x1), (a2, x2)]) (fun _ => x0)) := by
  refine zx_start (cc := cJ11_unlink) (nL := 5) (ret := (some (.object "java/lang/Object"))) (own := RJ11) (by decide) rfl rfl (Nat.le_of_ble_eq_true rfl) (fun p e s m args below meth c A hO hX hr hm _ => ?_)
  refine zg_sub (lv' := [(0, .ref ll), (1, .ref a0)]) [0, 1] rfl ?_
  refine zg_ws (ws' := W0 ++ [(ll, .inr (6, [.int mc, .int (nI 3), .ref a0, .ref a2])), (a0, .inr (7, [.ref x0, .ref a1, .null])), (a1, .inr (7, [.ref x1, .ref a2, .ref a0])), (a2, .inr (7, [.ref x2, .null, .ref a1]))]) rfl ?_
  refine zg_aload_n hO 1 dJ11_unlink_0 rfl rfl ?_
  refine zg_get hO fJ11_39 (x := .ref x0) (W0.length + 1) ((apN 1).trans rfl) rfl dJ11_unlink_1 ?_
  refine zg_astore_n (lv' := [(2, .ref x0), (0, .ref ll), (1, .ref a0)]) hO dJ11_unlink_4 rfl (Nat.le_of_ble_eq_true rfl) rfl ?_
  refine zg_aload_n hO 2 dJ11_unlink_5 rfl rfl ?_
  refine zg_get hO fJ11_36 (x := .ref a1) (W0.length + 1) ((apN 1).trans rfl) rfl dJ11_unlink_6 ?_
  refine zg_astore_n (lv' := [(3, .ref a1), (2, .ref x0), (0, .ref ll), (1, .ref a0)]) hO dJ11_unlink_9 rfl (Nat.le_of_ble_eq_true rfl) rfl ?_
  refine zg_aload_n hO 3 dJ11_unlink_10 rfl rfl ?_
  refine zg_get hO fJ11_30 (x := .null) (W0.length + 1) ((apN 1).trans rfl) rfl dJ11_unlink_11 ?_
  refine zg_astoreN (lv' := [(4, .null), (3, .ref a1), (2, .ref x0), (0, .ref ll), (1, .ref a0)]) hO dJ11_unlink_14 (Nat.le_of_ble_eq_true rfl) rfl ?_
  refine zg_aloadN hO 0 dJ11_unlink_16 rfl ?_
  refine zj_nonnullN hO dJ11_unlink_18 ?_
  refine zg_aload_n hO 3 dJ11_unlink_21 rfl rfl ?_
  refine zg_aload_n hO 1 dJ11_unlink_22 rfl rfl ?_
  refine zg_put (ws' := W0 ++ [(ll, .inr (6, [.int mc, .int (nI 3), .ref a1, .ref a2])), (a0, .inr (7, [.ref x0, .ref a1, .null])), (a1, .inr (7, [.ref x1, .ref a2, .ref a0])), (a2, .inr (7, [.ref x2, .null, .ref a1]))]) hO pJ11_18 (W0.length + 0) ((apN 0).trans rfl) rfl rfl (Nat.le_of_ble_eq_true rfl) ((asN 0 _).trans rfl) dJ11_unlink_23 ?_
  refine zg_goto (tgt := 40) hO dJ11_unlink_26 (by decide) ?_
  refine zg_aload_n hO 1 dJ11_unlink_40 rfl rfl ?_
  refine zj_nonnull (tgt := 53) hO dJ11_unlink_41 (by decide) ?_
  refine zg_aload_n hO 1 dJ11_unlink_53 rfl rfl ?_
  refine zg_aloadN hO 0 dJ11_unlink_54 rfl ?_
  refine zg_put (ws' := W0 ++ [(ll, .inr (6, [.int mc, .int (nI 3), .ref a1, .ref a2])), (a0, .inr (7, [.ref x0, .ref a1, .null])), (a1, .inr (7, [.ref x1, .ref a2, .null])), (a2, .inr (7, [.ref x2, .null, .ref a1]))]) hO pJ11_30 (W0.length + 2) ((apN 2).trans rfl) rfl rfl (Nat.le_of_ble_eq_true rfl) ((asN 2 _).trans rfl) dJ11_unlink_56 ?_
  refine zg_aload_n hO 4 dJ11_unlink_59 rfl rfl ?_
  refine zg_null hO dJ11_unlink_60 ?_
  refine zg_put (ws' := W0 ++ [(ll, .inr (6, [.int mc, .int (nI 3), .ref a1, .ref a2])), (a0, .inr (7, [.ref x0, .null, .null])), (a1, .inr (7, [.ref x1, .ref a2, .null])), (a2, .inr (7, [.ref x2, .null, .ref a1]))]) hO pJ11_36 (W0.length + 1) ((apN 1).trans rfl) rfl rfl (Nat.le_of_ble_eq_true rfl) ((asN 1 _).trans rfl) dJ11_unlink_61 ?_
  refine zg_aload_n hO 4 dJ11_unlink_64 rfl rfl ?_
  refine zg_null hO dJ11_unlink_65 ?_
  refine zg_put (ws' := W0 ++ [(ll, .inr (6, [.int mc, .int (nI 3), .ref a1, .ref a2])), (a0, .inr (7, [.null, .null, .null])), (a1, .inr (7, [.ref x1, .ref a2, .null])), (a2, .inr (7, [.ref x2, .null, .ref a1]))]) hO pJ11_39 (W0.length + 1) ((apN 1).trans rfl) rfl rfl (Nat.le_of_ble_eq_true rfl) ((asN 1 _).trans rfl) dJ11_unlink_66 ?_
  refine zg_aload_n hO 3 dJ11_unlink_69 rfl rfl ?_
  refine zg_dup hO dJ11_unlink_70 rfl ?_
  refine zg_get hO fJ11_7 (x := .int (nI 3)) (W0.length + 0) ((apN 0).trans rfl) rfl dJ11_unlink_71 ?_
  refine zg_iconst hO dJ11_unlink_74 ic1 ?_
  refine zg_isub hO dJ11_unlink_75 ?_
  rw [show nI 3 - nI 1 = nI 2 by decide]
  refine zg_put (ws' := W0 ++ [(ll, .inr (6, [.int mc, .int (nI 2), .ref a1, .ref a2])), (a0, .inr (7, [.null, .null, .null])), (a1, .inr (7, [.ref x1, .ref a2, .null])), (a2, .inr (7, [.ref x2, .null, .ref a1]))]) hO pJ11_7 (W0.length + 0) ((apN 0).trans rfl) rfl rfl (Nat.le_of_ble_eq_true rfl) ((asN 0 _).trans rfl) dJ11_unlink_76 ?_
  refine zg_aload_n hO 3 dJ11_unlink_79 rfl rfl ?_
  refine zg_dup hO dJ11_unlink_80 rfl ?_
  refine zg_get hO fJ11_33 (x := .int mc) (W0.length + 0) ((apN 0).trans rfl) rfl dJ11_unlink_81 ?_
  refine zg_iconst hO dJ11_unlink_84 ic1 ?_
  refine zg_iadd hO dJ11_unlink_85 ?_
  refine zg_put (ws' := W0 ++ [(ll, .inr (6, [.int (mc + nI 1), .int (nI 2), .ref a1, .ref a2])), (a0, .inr (7, [.null, .null, .null])), (a1, .inr (7, [.ref x1, .ref a2, .null])), (a2, .inr (7, [.ref x2, .null, .ref a1]))]) hO pJ11_33 (W0.length + 0) ((apN 0).trans rfl) rfl rfl (Nat.le_of_ble_eq_true rfl) ((asN 0 _).trans rfl) dJ11_unlink_86 ?_
  refine zg_aload_n hO 2 dJ11_unlink_89 rfl rfl ?_
  refine zk_erase (ws' := W0 ++ LL ll (mc + nI 1) [(a1, x1), (a2, x2)]) (W0.length + 1) ((erN 1).trans rfl) ?_
  exact zj_aret (f := fun _ : Unit => W0 ++ LL ll (mc + nI 1) [(a1, x1), (a2, x2)]) (a := fun _ => x0) hO hr (Or.inl ⟨_, rfl⟩) () rfl rfl ⟨Nat.zero_le _, Nat.zero_le _⟩ dJ11_unlink_90
theorem m_node31 (l : Launch) (D : va_G) (dA : Nat → ClassId) (G : Nat → Nat) {W0 : va_W} {ll a0 x0 a1 x1 a2 x2 : Nat} {mc : Int32} : CtX l yJ11_node (ws_ yJ11_node cJ11_node 4 (some (.object "java/util/LinkedList$Node"))) 0 0 0 D dA G [.ref ll, .int (nI 1)] (W0 ++ LL ll mc [(a0, x0), (a1, x1), (a2, x2)]) (QgF D dA (fun _ : Unit => W0 ++ LL ll mc [(a0, x0), (a1, x1), (a2, x2)]) (fun _ => a1)) := by
  refine zx_start (cc := cJ11_node) (nL := 4) (ret := (some (.object "java/util/LinkedList$Node"))) (own := RJ11) (by decide) rfl rfl (Nat.le_of_ble_eq_true rfl) (fun p e s m args below meth c A hO hX hr hm _ => ?_)
  refine zg_sub (lv' := [(0, .ref ll), (1, .int (nI 1))]) [0, 1] rfl ?_
  refine zg_ws (ws' := W0 ++ [(ll, .inr (6, [.int mc, .int (nI 3), .ref a0, .ref a2])), (a0, .inr (7, [.ref x0, .ref a1, .null])), (a1, .inr (7, [.ref x1, .ref a2, .ref a0])), (a2, .inr (7, [.ref x2, .null, .ref a1]))]) rfl ?_
  refine zg_iload_n hO 1 dJ11_node_0 rfl rfl ?_
  refine zg_aload_n hO 0 dJ11_node_1 rfl rfl ?_
  refine zg_get hO fJ11_7 (x := .int (nI 3)) (W0.length + 0) ((apN 0).trans rfl) rfl dJ11_node_2 ?_
  refine zg_iconst hO dJ11_node_5 ic1 ?_
  refine zg_ishr hO dJ11_node_6 ?_
  refine zt_icmp_ge (tgt := 35) hO (by decide) dJ11_node_7 (by decide) ?_
  refine zg_aload_n hO 0 dJ11_node_35 rfl rfl ?_
  refine zg_get hO fJ11_27 (x := .ref a2) (W0.length + 0) ((apN 0).trans rfl) rfl dJ11_node_36 ?_
  refine zg_astore_n (lv' := [(2, .ref a2), (0, .ref ll), (1, .int (nI 1))]) hO dJ11_node_39 rfl (Nat.le_of_ble_eq_true rfl) rfl ?_
  refine zg_aload_n hO 1 dJ11_node_40 rfl rfl ?_
  refine zg_get hO fJ11_7 (x := .int (nI 3)) (W0.length + 0) ((apN 0).trans rfl) rfl dJ11_node_41 ?_
  refine zg_iconst hO dJ11_node_44 ic1 ?_
  refine zg_isub hO dJ11_node_45 ?_
  refine zg_istore_n (lv' := [(3, .int ((nI 3) - (nI 1))), (2, .ref a2), (0, .ref ll), (1, .int (nI 1))]) hO dJ11_node_46 rfl (Nat.le_of_ble_eq_true rfl) rfl ?_
  refine zg_iload_n hO 0 dJ11_node_47 rfl rfl ?_
  refine zg_iload_n hO 3 dJ11_node_48 rfl rfl ?_
  refine zn_icmp_le (tgt := 63) hO (by decide) dJ11_node_49 (by decide) ?_
  refine zg_aload_n hO 1 dJ11_node_52 rfl rfl ?_
  refine zg_get hO fJ11_30 (x := .ref a1) (W0.length + 3) ((apN 3).trans rfl) rfl dJ11_node_53 ?_
  refine zg_astore_n (lv' := [(2, .ref a1), (3, .int ((nI 3) - (nI 1))), (0, .ref ll), (1, .int (nI 1))]) hO dJ11_node_56 rfl (Nat.le_of_ble_eq_true rfl) rfl ?_
  refine zg_iinc (k := 1) (lv' := [(3, .int (((nI 3) - (nI 1)) + (-1))), (2, .ref a1), (0, .ref ll), (1, .int (nI 1))]) hO dJ11_node_57 rfl (zii icm1) (Nat.le_of_ble_eq_true rfl) rfl ?_
  refine zg_goto (tgt := 47) hO dJ11_node_60 (by decide) ?_
  refine zg_iload_n hO 0 dJ11_node_47 rfl rfl ?_
  refine zg_iload_n hO 3 dJ11_node_48 rfl rfl ?_
  refine zt_icmp_le (tgt := 63) hO (by decide) dJ11_node_49 (by decide) ?_
  refine zg_aload_n hO 1 dJ11_node_63 rfl rfl ?_
  exact zj_aret (f := fun _ : Unit => W0 ++ LL ll mc [(a0, x0), (a1, x1), (a2, x2)]) (a := fun _ => a1) hO hr (Or.inl ⟨_, rfl⟩) () rfl rfl ⟨Nat.zero_le _, Nat.zero_le _⟩ dJ11_node_64
theorem m_unlk31 (l : Launch) (D : va_G) (dA : Nat → ClassId) (G : Nat → Nat) {W0 : va_W} {ll a0 x0 a1 x1 a2 x2 : Nat} {mc : Int32} : CtX l yJ11_unlink (ws_ yJ11_unlink cJ11_unlink 5 (some (.object "java/lang/Object"))) 0 0 0 D dA G [.ref ll, .ref a1] (W0 ++ LL ll mc [(a0, x0), (a1, x1), (a2, x2)]) (QgF D dA (fun _ : Unit => W0 ++ LL ll (mc + nI 1) [(a0, x0), (a2, x2)]) (fun _ => x1)) := by
  refine zx_start (cc := cJ11_unlink) (nL := 5) (ret := (some (.object "java/lang/Object"))) (own := RJ11) (by decide) rfl rfl (Nat.le_of_ble_eq_true rfl) (fun p e s m args below meth c A hO hX hr hm _ => ?_)
  refine zg_sub (lv' := [(0, .ref ll), (1, .ref a1)]) [0, 1] rfl ?_
  refine zg_ws (ws' := W0 ++ [(ll, .inr (6, [.int mc, .int (nI 3), .ref a0, .ref a2])), (a0, .inr (7, [.ref x0, .ref a1, .null])), (a1, .inr (7, [.ref x1, .ref a2, .ref a0])), (a2, .inr (7, [.ref x2, .null, .ref a1]))]) rfl ?_
  refine zg_aload_n hO 1 dJ11_unlink_0 rfl rfl ?_
  refine zg_get hO fJ11_39 (x := .ref x1) (W0.length + 2) ((apN 2).trans rfl) rfl dJ11_unlink_1 ?_
  refine zg_astore_n (lv' := [(2, .ref x1), (0, .ref ll), (1, .ref a1)]) hO dJ11_unlink_4 rfl (Nat.le_of_ble_eq_true rfl) rfl ?_
  refine zg_aload_n hO 2 dJ11_unlink_5 rfl rfl ?_
  refine zg_get hO fJ11_36 (x := .ref a2) (W0.length + 2) ((apN 2).trans rfl) rfl dJ11_unlink_6 ?_
  refine zg_astore_n (lv' := [(3, .ref a2), (2, .ref x1), (0, .ref ll), (1, .ref a1)]) hO dJ11_unlink_9 rfl (Nat.le_of_ble_eq_true rfl) rfl ?_
  refine zg_aload_n hO 3 dJ11_unlink_10 rfl rfl ?_
  refine zg_get hO fJ11_30 (x := .ref a0) (W0.length + 2) ((apN 2).trans rfl) rfl dJ11_unlink_11 ?_
  refine zg_astore (lv' := [(4, .ref a0), (3, .ref a2), (2, .ref x1), (0, .ref ll), (1, .ref a1)]) hO dJ11_unlink_14 (Nat.le_of_ble_eq_true rfl) rfl ?_
  refine zg_aload hO 0 dJ11_unlink_16 rfl ?_
  refine zj_nonnull (tgt := 29) hO dJ11_unlink_18 (by decide) ?_
  refine zg_aload hO 0 dJ11_unlink_29 rfl ?_
  refine zg_aload_n hO 1 dJ11_unlink_31 rfl rfl ?_
  refine zg_put (ws' := W0 ++ [(ll, .inr (6, [.int mc, .int (nI 3), .ref a0, .ref a2])), (a0, .inr (7, [.ref x0, .ref a2, .null])), (a1, .inr (7, [.ref x1, .ref a2, .ref a0])), (a2, .inr (7, [.ref x2, .null, .ref a1]))]) hO pJ11_36 (W0.length + 1) ((apN 1).trans rfl) rfl rfl (Nat.le_of_ble_eq_true rfl) ((asN 1 _).trans rfl) dJ11_unlink_32 ?_
  refine zg_aload_n hO 4 dJ11_unlink_35 rfl rfl ?_
  refine zg_null hO dJ11_unlink_36 ?_
  refine zg_put (ws' := W0 ++ [(ll, .inr (6, [.int mc, .int (nI 3), .ref a0, .ref a2])), (a0, .inr (7, [.ref x0, .ref a2, .null])), (a1, .inr (7, [.ref x1, .ref a2, .null])), (a2, .inr (7, [.ref x2, .null, .ref a1]))]) hO pJ11_30 (W0.length + 2) ((apN 2).trans rfl) rfl rfl (Nat.le_of_ble_eq_true rfl) ((asN 2 _).trans rfl) dJ11_unlink_37 ?_
  refine zg_aload_n hO 1 dJ11_unlink_40 rfl rfl ?_
  refine zj_nonnull (tgt := 53) hO dJ11_unlink_41 (by decide) ?_
  refine zg_aload_n hO 1 dJ11_unlink_53 rfl rfl ?_
  refine zg_aload hO 0 dJ11_unlink_54 rfl ?_
  refine zg_put (ws' := W0 ++ [(ll, .inr (6, [.int mc, .int (nI 3), .ref a0, .ref a2])), (a0, .inr (7, [.ref x0, .ref a2, .null])), (a1, .inr (7, [.ref x1, .ref a2, .null])), (a2, .inr (7, [.ref x2, .null, .ref a0]))]) hO pJ11_30 (W0.length + 3) ((apN 3).trans rfl) rfl rfl (Nat.le_of_ble_eq_true rfl) ((asN 3 _).trans rfl) dJ11_unlink_56 ?_
  refine zg_aload_n hO 4 dJ11_unlink_59 rfl rfl ?_
  refine zg_null hO dJ11_unlink_60 ?_
  refine zg_put (ws' := W0 ++ [(ll, .inr (6, [.int mc, .int (nI 3), .ref a0, .ref a2])), (a0, .inr (7, [.ref x0, .ref a2, .null])), (a1, .inr (7, [.ref x1, .null, .null])), (a2, .inr (7, [.ref x2, .null, .ref a0]))]) hO pJ11_36 (W0.length + 2) ((apN 2).trans rfl) rfl rfl (Nat.le_of_ble_eq_true rfl) ((asN 2 _).trans rfl) dJ11_unlink_61 ?_
  refine zg_aload_n hO 4 dJ11_unlink_64 rfl rfl ?_
  refine zg_null hO dJ11_unlink_65 ?_
  refine zg_put (ws' := W0 ++ [(ll, .inr (6, [.int mc, .int (nI 3), .ref a0, .ref a2])), (a0, .inr (7, [.ref x0, .ref a2, .null])), (a1, .inr (7, [.null, .null, .null])), (a2, .inr (7, [.ref x2, .null, .ref a0]))]) hO pJ11_39 (W0.length + 2) ((apN 2).trans rfl) rfl rfl (Nat.le_of_ble_eq_true rfl) ((asN 2 _).trans rfl) dJ11_unlink_66 ?_
  refine zg_aload_n hO 3 dJ11_unlink_69 rfl rfl ?_
  refine zg_dup hO dJ11_unlink_70 rfl ?_
  refine zg_get hO fJ11_7 (x := .int (nI 3)) (W0.length + 0) ((apN 0).trans rfl) rfl dJ11_unlink_71 ?_
  refine zg_iconst hO dJ11_unlink_74 ic1 ?_
  refine zg_isub hO dJ11_unlink_75 ?_
  rw [show nI 3 - nI 1 = nI 2 by decide]
  refine zg_put (ws' := W0 ++ [(ll, .inr (6, [.int mc, .int (nI 2), .ref a0, .ref a2])), (a0, .inr (7, [.ref x0, .ref a2, .null])), (a1, .inr (7, [.null, .null, .null])), (a2, .inr (7, [.ref x2, .null, .ref a0]))]) hO pJ11_7 (W0.length + 0) ((apN 0).trans rfl) rfl rfl (Nat.le_of_ble_eq_true rfl) ((asN 0 _).trans rfl) dJ11_unlink_76 ?_
  refine zg_aload_n hO 3 dJ11_unlink_79 rfl rfl ?_
  refine zg_dup hO dJ11_unlink_80 rfl ?_
  refine zg_get hO fJ11_33 (x := .int mc) (W0.length + 0) ((apN 0).trans rfl) rfl dJ11_unlink_81 ?_
  refine zg_iconst hO dJ11_unlink_84 ic1 ?_
  refine zg_iadd hO dJ11_unlink_85 ?_
  refine zg_put (ws' := W0 ++ [(ll, .inr (6, [.int (mc + nI 1), .int (nI 2), .ref a0, .ref a2])), (a0, .inr (7, [.ref x0, .ref a2, .null])), (a1, .inr (7, [.null, .null, .null])), (a2, .inr (7, [.ref x2, .null, .ref a0]))]) hO pJ11_33 (W0.length + 0) ((apN 0).trans rfl) rfl rfl (Nat.le_of_ble_eq_true rfl) ((asN 0 _).trans rfl) dJ11_unlink_86 ?_
  refine zg_aload_n hO 2 dJ11_unlink_89 rfl rfl ?_
  refine zk_erase (ws' := W0 ++ LL ll (mc + nI 1) [(a0, x0), (a2, x2)]) (W0.length + 2) ((erN 2).trans rfl) ?_
  exact zj_aret (f := fun _ : Unit => W0 ++ LL ll (mc + nI 1) [(a0, x0), (a2, x2)]) (a := fun _ => x1) hO hr (Or.inl ⟨_, rfl⟩) () rfl rfl ⟨Nat.zero_le _, Nat.zero_le _⟩ dJ11_unlink_90
theorem m_node32 (l : Launch) (D : va_G) (dA : Nat → ClassId) (G : Nat → Nat) {W0 : va_W} {ll a0 x0 a1 x1 a2 x2 : Nat} {mc : Int32} : CtX l yJ11_node (ws_ yJ11_node cJ11_node 4 (some (.object "java/util/LinkedList$Node"))) 0 0 0 D dA G [.ref ll, .int (nI 2)] (W0 ++ LL ll mc [(a0, x0), (a1, x1), (a2, x2)]) (QgF D dA (fun _ : Unit => W0 ++ LL ll mc [(a0, x0), (a1, x1), (a2, x2)]) (fun _ => a2)) := by
  refine zx_start (cc := cJ11_node) (nL := 4) (ret := (some (.object "java/util/LinkedList$Node"))) (own := RJ11) (by decide) rfl rfl (Nat.le_of_ble_eq_true rfl) (fun p e s m args below meth c A hO hX hr hm _ => ?_)
  refine zg_sub (lv' := [(0, .ref ll), (1, .int (nI 2))]) [0, 1] rfl ?_
  refine zg_ws (ws' := W0 ++ [(ll, .inr (6, [.int mc, .int (nI 3), .ref a0, .ref a2])), (a0, .inr (7, [.ref x0, .ref a1, .null])), (a1, .inr (7, [.ref x1, .ref a2, .ref a0])), (a2, .inr (7, [.ref x2, .null, .ref a1]))]) rfl ?_
  refine zg_iload_n hO 1 dJ11_node_0 rfl rfl ?_
  refine zg_aload_n hO 0 dJ11_node_1 rfl rfl ?_
  refine zg_get hO fJ11_7 (x := .int (nI 3)) (W0.length + 0) ((apN 0).trans rfl) rfl dJ11_node_2 ?_
  refine zg_iconst hO dJ11_node_5 ic1 ?_
  refine zg_ishr hO dJ11_node_6 ?_
  refine zt_icmp_ge (tgt := 35) hO (by decide) dJ11_node_7 (by decide) ?_
  refine zg_aload_n hO 0 dJ11_node_35 rfl rfl ?_
  refine zg_get hO fJ11_27 (x := .ref a2) (W0.length + 0) ((apN 0).trans rfl) rfl dJ11_node_36 ?_
  refine zg_astore_n (lv' := [(2, .ref a2), (0, .ref ll), (1, .int (nI 2))]) hO dJ11_node_39 rfl (Nat.le_of_ble_eq_true rfl) rfl ?_
  refine zg_aload_n hO 1 dJ11_node_40 rfl rfl ?_
  refine zg_get hO fJ11_7 (x := .int (nI 3)) (W0.length + 0) ((apN 0).trans rfl) rfl dJ11_node_41 ?_
  refine zg_iconst hO dJ11_node_44 ic1 ?_
  refine zg_isub hO dJ11_node_45 ?_
  refine zg_istore_n (lv' := [(3, .int ((nI 3) - (nI 1))), (2, .ref a2), (0, .ref ll), (1, .int (nI 2))]) hO dJ11_node_46 rfl (Nat.le_of_ble_eq_true rfl) rfl ?_
  refine zg_iload_n hO 0 dJ11_node_47 rfl rfl ?_
  refine zg_iload_n hO 3 dJ11_node_48 rfl rfl ?_
  refine zt_icmp_le (tgt := 63) hO (by decide) dJ11_node_49 (by decide) ?_
  refine zg_aload_n hO 1 dJ11_node_63 rfl rfl ?_
  exact zj_aret (f := fun _ : Unit => W0 ++ LL ll mc [(a0, x0), (a1, x1), (a2, x2)]) (a := fun _ => a2) hO hr (Or.inl ⟨_, rfl⟩) () rfl rfl ⟨Nat.zero_le _, Nat.zero_le _⟩ dJ11_node_64
theorem m_unlk32 (l : Launch) (D : va_G) (dA : Nat → ClassId) (G : Nat → Nat) {W0 : va_W} {ll a0 x0 a1 x1 a2 x2 : Nat} {mc : Int32} : CtX l yJ11_unlink (ws_ yJ11_unlink cJ11_unlink 5 (some (.object "java/lang/Object"))) 0 0 0 D dA G [.ref ll, .ref a2] (W0 ++ LL ll mc [(a0, x0), (a1, x1), (a2, x2)]) (QgF D dA (fun _ : Unit => W0 ++ LL ll (mc + nI 1) [(a0, x0), (a1, x1)]) (fun _ => x2)) := by
  refine zx_start (cc := cJ11_unlink) (nL := 5) (ret := (some (.object "java/lang/Object"))) (own := RJ11) (by decide) rfl rfl (Nat.le_of_ble_eq_true rfl) (fun p e s m args below meth c A hO hX hr hm _ => ?_)
  refine zg_sub (lv' := [(0, .ref ll), (1, .ref a2)]) [0, 1] rfl ?_
  refine zg_ws (ws' := W0 ++ [(ll, .inr (6, [.int mc, .int (nI 3), .ref a0, .ref a2])), (a0, .inr (7, [.ref x0, .ref a1, .null])), (a1, .inr (7, [.ref x1, .ref a2, .ref a0])), (a2, .inr (7, [.ref x2, .null, .ref a1]))]) rfl ?_
  refine zg_aload_n hO 1 dJ11_unlink_0 rfl rfl ?_
  refine zg_get hO fJ11_39 (x := .ref x2) (W0.length + 3) ((apN 3).trans rfl) rfl dJ11_unlink_1 ?_
  refine zg_astore_n (lv' := [(2, .ref x2), (0, .ref ll), (1, .ref a2)]) hO dJ11_unlink_4 rfl (Nat.le_of_ble_eq_true rfl) rfl ?_
  refine zg_aload_n hO 2 dJ11_unlink_5 rfl rfl ?_
  refine zg_get hO fJ11_36 (x := .null) (W0.length + 3) ((apN 3).trans rfl) rfl dJ11_unlink_6 ?_
  refine zg_astore_nN (lv' := [(3, .null), (2, .ref x2), (0, .ref ll), (1, .ref a2)]) hO dJ11_unlink_9 rfl (Nat.le_of_ble_eq_true rfl) rfl ?_
  refine zg_aload_n hO 3 dJ11_unlink_10 rfl rfl ?_
  refine zg_get hO fJ11_30 (x := .ref a1) (W0.length + 3) ((apN 3).trans rfl) rfl dJ11_unlink_11 ?_
  refine zg_astore (lv' := [(4, .ref a1), (3, .null), (2, .ref x2), (0, .ref ll), (1, .ref a2)]) hO dJ11_unlink_14 (Nat.le_of_ble_eq_true rfl) rfl ?_
  refine zg_aload hO 0 dJ11_unlink_16 rfl ?_
  refine zj_nonnull (tgt := 29) hO dJ11_unlink_18 (by decide) ?_
  refine zg_aload hO 0 dJ11_unlink_29 rfl ?_
  refine zg_aload_nN hO 1 dJ11_unlink_31 rfl rfl ?_
  refine zg_put (ws' := W0 ++ [(ll, .inr (6, [.int mc, .int (nI 3), .ref a0, .ref a2])), (a0, .inr (7, [.ref x0, .ref a1, .null])), (a1, .inr (7, [.ref x1, .null, .ref a0])), (a2, .inr (7, [.ref x2, .null, .ref a1]))]) hO pJ11_36 (W0.length + 2) ((apN 2).trans rfl) rfl rfl (Nat.le_of_ble_eq_true rfl) ((asN 2 _).trans rfl) dJ11_unlink_32 ?_
  refine zg_aload_n hO 4 dJ11_unlink_35 rfl rfl ?_
  refine zg_null hO dJ11_unlink_36 ?_
  refine zg_put (ws' := W0 ++ [(ll, .inr (6, [.int mc, .int (nI 3), .ref a0, .ref a2])), (a0, .inr (7, [.ref x0, .ref a1, .null])), (a1, .inr (7, [.ref x1, .null, .ref a0])), (a2, .inr (7, [.ref x2, .null, .null]))]) hO pJ11_30 (W0.length + 3) ((apN 3).trans rfl) rfl rfl (Nat.le_of_ble_eq_true rfl) ((asN 3 _).trans rfl) dJ11_unlink_37 ?_
  refine zg_aload_nN hO 1 dJ11_unlink_40 rfl rfl ?_
  refine zj_nonnullN hO dJ11_unlink_41 ?_
  refine zg_aload_n hO 3 dJ11_unlink_44 rfl rfl ?_
  refine zg_aload hO 0 dJ11_unlink_45 rfl ?_
  refine zg_put (ws' := W0 ++ [(ll, .inr (6, [.int mc, .int (nI 3), .ref a0, .ref a1])), (a0, .inr (7, [.ref x0, .ref a1, .null])), (a1, .inr (7, [.ref x1, .null, .ref a0])), (a2, .inr (7, [.ref x2, .null, .null]))]) hO pJ11_27 (W0.length + 0) ((apN 0).trans rfl) rfl rfl (Nat.le_of_ble_eq_true rfl) ((asN 0 _).trans rfl) dJ11_unlink_47 ?_
  refine zg_goto (tgt := 64) hO dJ11_unlink_50 (by decide) ?_
  refine zg_aload_n hO 4 dJ11_unlink_64 rfl rfl ?_
  refine zg_null hO dJ11_unlink_65 ?_
  refine zg_put (ws' := W0 ++ [(ll, .inr (6, [.int mc, .int (nI 3), .ref a0, .ref a1])), (a0, .inr (7, [.ref x0, .ref a1, .null])), (a1, .inr (7, [.ref x1, .null, .ref a0])), (a2, .inr (7, [.null, .null, .null]))]) hO pJ11_39 (W0.length + 3) ((apN 3).trans rfl) rfl rfl (Nat.le_of_ble_eq_true rfl) ((asN 3 _).trans rfl) dJ11_unlink_66 ?_
  refine zg_aload_n hO 3 dJ11_unlink_69 rfl rfl ?_
  refine zg_dup hO dJ11_unlink_70 rfl ?_
  refine zg_get hO fJ11_7 (x := .int (nI 3)) (W0.length + 0) ((apN 0).trans rfl) rfl dJ11_unlink_71 ?_
  refine zg_iconst hO dJ11_unlink_74 ic1 ?_
  refine zg_isub hO dJ11_unlink_75 ?_
  rw [show nI 3 - nI 1 = nI 2 by decide]
  refine zg_put (ws' := W0 ++ [(ll, .inr (6, [.int mc, .int (nI 2), .ref a0, .ref a1])), (a0, .inr (7, [.ref x0, .ref a1, .null])), (a1, .inr (7, [.ref x1, .null, .ref a0])), (a2, .inr (7, [.null, .null, .null]))]) hO pJ11_7 (W0.length + 0) ((apN 0).trans rfl) rfl rfl (Nat.le_of_ble_eq_true rfl) ((asN 0 _).trans rfl) dJ11_unlink_76 ?_
  refine zg_aload_n hO 3 dJ11_unlink_79 rfl rfl ?_
  refine zg_dup hO dJ11_unlink_80 rfl ?_
  refine zg_get hO fJ11_33 (x := .int mc) (W0.length + 0) ((apN 0).trans rfl) rfl dJ11_unlink_81 ?_
  refine zg_iconst hO dJ11_unlink_84 ic1 ?_
  refine zg_iadd hO dJ11_unlink_85 ?_
  refine zg_put (ws' := W0 ++ [(ll, .inr (6, [.int (mc + nI 1), .int (nI 2), .ref a0, .ref a1])), (a0, .inr (7, [.ref x0, .ref a1, .null])), (a1, .inr (7, [.ref x1, .null, .ref a0])), (a2, .inr (7, [.null, .null, .null]))]) hO pJ11_33 (W0.length + 0) ((apN 0).trans rfl) rfl rfl (Nat.le_of_ble_eq_true rfl) ((asN 0 _).trans rfl) dJ11_unlink_86 ?_
  refine zg_aload_n hO 2 dJ11_unlink_89 rfl rfl ?_
  refine zk_erase (ws' := W0 ++ LL ll (mc + nI 1) [(a0, x0), (a1, x1)]) (W0.length + 3) ((erN 3).trans rfl) ?_
  exact zj_aret (f := fun _ : Unit => W0 ++ LL ll (mc + nI 1) [(a0, x0), (a1, x1)]) (a := fun _ => x2) hO hr (Or.inl ⟨_, rfl⟩) () rfl rfl ⟨Nat.zero_le _, Nat.zero_le _⟩ dJ11_unlink_90
theorem m_node40 (l : Launch) (D : va_G) (dA : Nat → ClassId) (G : Nat → Nat) {W0 : va_W} {ll a0 x0 a1 x1 a2 x2 a3 x3 : Nat} {mc : Int32} : CtX l yJ11_node (ws_ yJ11_node cJ11_node 4 (some (.object "java/util/LinkedList$Node"))) 0 0 0 D dA G [.ref ll, .int (nI 0)] (W0 ++ LL ll mc [(a0, x0), (a1, x1), (a2, x2), (a3, x3)]) (QgF D dA (fun _ : Unit => W0 ++ LL ll mc [(a0, x0), (a1, x1), (a2, x2), (a3, x3)]) (fun _ => a0)) := by
  refine zx_start (cc := cJ11_node) (nL := 4) (ret := (some (.object "java/util/LinkedList$Node"))) (own := RJ11) (by decide) rfl rfl (Nat.le_of_ble_eq_true rfl) (fun p e s m args below meth c A hO hX hr hm _ => ?_)
  refine zg_sub (lv' := [(0, .ref ll), (1, .int (nI 0))]) [0, 1] rfl ?_
  refine zg_ws (ws' := W0 ++ [(ll, .inr (6, [.int mc, .int (nI 4), .ref a0, .ref a3])), (a0, .inr (7, [.ref x0, .ref a1, .null])), (a1, .inr (7, [.ref x1, .ref a2, .ref a0])), (a2, .inr (7, [.ref x2, .ref a3, .ref a1])), (a3, .inr (7, [.ref x3, .null, .ref a2]))]) rfl ?_
  refine zg_iload_n hO 1 dJ11_node_0 rfl rfl ?_
  refine zg_aload_n hO 0 dJ11_node_1 rfl rfl ?_
  refine zg_get hO fJ11_7 (x := .int (nI 4)) (W0.length + 0) ((apN 0).trans rfl) rfl dJ11_node_2 ?_
  refine zg_iconst hO dJ11_node_5 ic1 ?_
  refine zg_ishr hO dJ11_node_6 ?_
  refine zn_icmp_ge (tgt := 35) hO (by decide) dJ11_node_7 (by decide) ?_
  refine zg_aload_n hO 0 dJ11_node_10 rfl rfl ?_
  refine zg_get hO fJ11_18 (x := .ref a0) (W0.length + 0) ((apN 0).trans rfl) rfl dJ11_node_11 ?_
  refine zg_astore_n (lv' := [(2, .ref a0), (0, .ref ll), (1, .int (nI 0))]) hO dJ11_node_14 rfl (Nat.le_of_ble_eq_true rfl) rfl ?_
  refine zg_iconst hO dJ11_node_15 ic0 ?_
  refine zg_istore_n (lv' := [(3, .int (nI 0)), (2, .ref a0), (0, .ref ll), (1, .int (nI 0))]) hO dJ11_node_16 rfl (Nat.le_of_ble_eq_true rfl) rfl ?_
  refine zg_iload_n hO 0 dJ11_node_17 rfl rfl ?_
  refine zg_iload_n hO 3 dJ11_node_18 rfl rfl ?_
  refine zt_icmp_ge (tgt := 33) hO (by decide) dJ11_node_19 (by decide) ?_
  refine zg_aload_n hO 1 dJ11_node_33 rfl rfl ?_
  exact zj_aret (f := fun _ : Unit => W0 ++ LL ll mc [(a0, x0), (a1, x1), (a2, x2), (a3, x3)]) (a := fun _ => a0) hO hr (Or.inl ⟨_, rfl⟩) () rfl rfl ⟨Nat.zero_le _, Nat.zero_le _⟩ dJ11_node_34
theorem m_unlk40 (l : Launch) (D : va_G) (dA : Nat → ClassId) (G : Nat → Nat) {W0 : va_W} {ll a0 x0 a1 x1 a2 x2 a3 x3 : Nat} {mc : Int32} : CtX l yJ11_unlink (ws_ yJ11_unlink cJ11_unlink 5 (some (.object "java/lang/Object"))) 0 0 0 D dA G [.ref ll, .ref a0] (W0 ++ LL ll mc [(a0, x0), (a1, x1), (a2, x2), (a3, x3)]) (QgF D dA (fun _ : Unit => W0 ++ LL ll (mc + nI 1) [(a1, x1), (a2, x2), (a3, x3)]) (fun _ => x0)) := by
  refine zx_start (cc := cJ11_unlink) (nL := 5) (ret := (some (.object "java/lang/Object"))) (own := RJ11) (by decide) rfl rfl (Nat.le_of_ble_eq_true rfl) (fun p e s m args below meth c A hO hX hr hm _ => ?_)
  refine zg_sub (lv' := [(0, .ref ll), (1, .ref a0)]) [0, 1] rfl ?_
  refine zg_ws (ws' := W0 ++ [(ll, .inr (6, [.int mc, .int (nI 4), .ref a0, .ref a3])), (a0, .inr (7, [.ref x0, .ref a1, .null])), (a1, .inr (7, [.ref x1, .ref a2, .ref a0])), (a2, .inr (7, [.ref x2, .ref a3, .ref a1])), (a3, .inr (7, [.ref x3, .null, .ref a2]))]) rfl ?_
  refine zg_aload_n hO 1 dJ11_unlink_0 rfl rfl ?_
  refine zg_get hO fJ11_39 (x := .ref x0) (W0.length + 1) ((apN 1).trans rfl) rfl dJ11_unlink_1 ?_
  refine zg_astore_n (lv' := [(2, .ref x0), (0, .ref ll), (1, .ref a0)]) hO dJ11_unlink_4 rfl (Nat.le_of_ble_eq_true rfl) rfl ?_
  refine zg_aload_n hO 2 dJ11_unlink_5 rfl rfl ?_
  refine zg_get hO fJ11_36 (x := .ref a1) (W0.length + 1) ((apN 1).trans rfl) rfl dJ11_unlink_6 ?_
  refine zg_astore_n (lv' := [(3, .ref a1), (2, .ref x0), (0, .ref ll), (1, .ref a0)]) hO dJ11_unlink_9 rfl (Nat.le_of_ble_eq_true rfl) rfl ?_
  refine zg_aload_n hO 3 dJ11_unlink_10 rfl rfl ?_
  refine zg_get hO fJ11_30 (x := .null) (W0.length + 1) ((apN 1).trans rfl) rfl dJ11_unlink_11 ?_
  refine zg_astoreN (lv' := [(4, .null), (3, .ref a1), (2, .ref x0), (0, .ref ll), (1, .ref a0)]) hO dJ11_unlink_14 (Nat.le_of_ble_eq_true rfl) rfl ?_
  refine zg_aloadN hO 0 dJ11_unlink_16 rfl ?_
  refine zj_nonnullN hO dJ11_unlink_18 ?_
  refine zg_aload_n hO 3 dJ11_unlink_21 rfl rfl ?_
  refine zg_aload_n hO 1 dJ11_unlink_22 rfl rfl ?_
  refine zg_put (ws' := W0 ++ [(ll, .inr (6, [.int mc, .int (nI 4), .ref a1, .ref a3])), (a0, .inr (7, [.ref x0, .ref a1, .null])), (a1, .inr (7, [.ref x1, .ref a2, .ref a0])), (a2, .inr (7, [.ref x2, .ref a3, .ref a1])), (a3, .inr (7, [.ref x3, .null, .ref a2]))]) hO pJ11_18 (W0.length + 0) ((apN 0).trans rfl) rfl rfl (Nat.le_of_ble_eq_true rfl) ((asN 0 _).trans rfl) dJ11_unlink_23 ?_
  refine zg_goto (tgt := 40) hO dJ11_unlink_26 (by decide) ?_
  refine zg_aload_n hO 1 dJ11_unlink_40 rfl rfl ?_
  refine zj_nonnull (tgt := 53) hO dJ11_unlink_41 (by decide) ?_
  refine zg_aload_n hO 1 dJ11_unlink_53 rfl rfl ?_
  refine zg_aloadN hO 0 dJ11_unlink_54 rfl ?_
  refine zg_put (ws' := W0 ++ [(ll, .inr (6, [.int mc, .int (nI 4), .ref a1, .ref a3])), (a0, .inr (7, [.ref x0, .ref a1, .null])), (a1, .inr (7, [.ref x1, .ref a2, .null])), (a2, .inr (7, [.ref x2, .ref a3, .ref a1])), (a3, .inr (7, [.ref x3, .null, .ref a2]))]) hO pJ11_30 (W0.length + 2) ((apN 2).trans rfl) rfl rfl (Nat.le_of_ble_eq_true rfl) ((asN 2 _).trans rfl) dJ11_unlink_56 ?_
  refine zg_aload_n hO 4 dJ11_unlink_59 rfl rfl ?_
  refine zg_null hO dJ11_unlink_60 ?_
  refine zg_put (ws' := W0 ++ [(ll, .inr (6, [.int mc, .int (nI 4), .ref a1, .ref a3])), (a0, .inr (7, [.ref x0, .null, .null])), (a1, .inr (7, [.ref x1, .ref a2, .null])), (a2, .inr (7, [.ref x2, .ref a3, .ref a1])), (a3, .inr (7, [.ref x3, .null, .ref a2]))]) hO pJ11_36 (W0.length + 1) ((apN 1).trans rfl) rfl rfl (Nat.le_of_ble_eq_true rfl) ((asN 1 _).trans rfl) dJ11_unlink_61 ?_
  refine zg_aload_n hO 4 dJ11_unlink_64 rfl rfl ?_
  refine zg_null hO dJ11_unlink_65 ?_
  refine zg_put (ws' := W0 ++ [(ll, .inr (6, [.int mc, .int (nI 4), .ref a1, .ref a3])), (a0, .inr (7, [.null, .null, .null])), (a1, .inr (7, [.ref x1, .ref a2, .null])), (a2, .inr (7, [.ref x2, .ref a3, .ref a1])), (a3, .inr (7, [.ref x3, .null, .ref a2]))]) hO pJ11_39 (W0.length + 1) ((apN 1).trans rfl) rfl rfl (Nat.le_of_ble_eq_true rfl) ((asN 1 _).trans rfl) dJ11_unlink_66 ?_
  refine zg_aload_n hO 3 dJ11_unlink_69 rfl rfl ?_
  refine zg_dup hO dJ11_unlink_70 rfl ?_
  refine zg_get hO fJ11_7 (x := .int (nI 4)) (W0.length + 0) ((apN 0).trans rfl) rfl dJ11_unlink_71 ?_
  refine zg_iconst hO dJ11_unlink_74 ic1 ?_
  refine zg_isub hO dJ11_unlink_75 ?_
  rw [show nI 4 - nI 1 = nI 3 by decide]
  refine zg_put (ws' := W0 ++ [(ll, .inr (6, [.int mc, .int (nI 3), .ref a1, .ref a3])), (a0, .inr (7, [.null, .null, .null])), (a1, .inr (7, [.ref x1, .ref a2, .null])), (a2, .inr (7, [.ref x2, .ref a3, .ref a1])), (a3, .inr (7, [.ref x3, .null, .ref a2]))]) hO pJ11_7 (W0.length + 0) ((apN 0).trans rfl) rfl rfl (Nat.le_of_ble_eq_true rfl) ((asN 0 _).trans rfl) dJ11_unlink_76 ?_
  refine zg_aload_n hO 3 dJ11_unlink_79 rfl rfl ?_
  refine zg_dup hO dJ11_unlink_80 rfl ?_
  refine zg_get hO fJ11_33 (x := .int mc) (W0.length + 0) ((apN 0).trans rfl) rfl dJ11_unlink_81 ?_
  refine zg_iconst hO dJ11_unlink_84 ic1 ?_
  refine zg_iadd hO dJ11_unlink_85 ?_
  refine zg_put (ws' := W0 ++ [(ll, .inr (6, [.int (mc + nI 1), .int (nI 3), .ref a1, .ref a3])), (a0, .inr (7, [.null, .null, .null])), (a1, .inr (7, [.ref x1, .ref a2, .null])), (a2, .inr (7, [.ref x2, .ref a3, .ref a1])), (a3, .inr (7, [.ref x3, .null, .ref a2]))]) hO pJ11_33 (W0.length + 0) ((apN 0).trans rfl) rfl rfl (Nat.le_of_ble_eq_true rfl) ((asN 0 _).trans rfl) dJ11_unlink_86 ?_
  refine zg_aload_n hO 2 dJ11_unlink_89 rfl rfl ?_
  refine zk_erase (ws' := W0 ++ LL ll (mc + nI 1) [(a1, x1), (a2, x2), (a3, x3)]) (W0.length + 1) ((erN 1).trans rfl) ?_
  exact zj_aret (f := fun _ : Unit => W0 ++ LL ll (mc + nI 1) [(a1, x1), (a2, x2), (a3, x3)]) (a := fun _ => x0) hO hr (Or.inl ⟨_, rfl⟩) () rfl rfl ⟨Nat.zero_le _, Nat.zero_le _⟩ dJ11_unlink_90
theorem m_node41 (l : Launch) (D : va_G) (dA : Nat → ClassId) (G : Nat → Nat) {W0 : va_W} {ll a0 x0 a1 x1 a2 x2 a3 x3 : Nat} {mc : Int32} : CtX l yJ11_node (ws_ yJ11_node cJ11_node 4 (some (.object "java/util/LinkedList$Node"))) 0 0 0 D dA G [.ref ll, .int (nI 1)] (W0 ++ LL ll mc [(a0, x0), (a1, x1), (a2, x2), (a3, x3)]) (QgF D dA (fun _ : Unit => W0 ++ LL ll mc [(a0, x0), (a1, x1), (a2, x2), (a3, x3)]) (fun _ => a1)) := by
  refine zx_start (cc := cJ11_node) (nL := 4) (ret := (some (.object "java/util/LinkedList$Node"))) (own := RJ11) (by decide) rfl rfl (Nat.le_of_ble_eq_true rfl) (fun p e s m args below meth c A hO hX hr hm _ => ?_)
  refine zg_sub (lv' := [(0, .ref ll), (1, .int (nI 1))]) [0, 1] rfl ?_
  refine zg_ws (ws' := W0 ++ [(ll, .inr (6, [.int mc, .int (nI 4), .ref a0, .ref a3])), (a0, .inr (7, [.ref x0, .ref a1, .null])), (a1, .inr (7, [.ref x1, .ref a2, .ref a0])), (a2, .inr (7, [.ref x2, .ref a3, .ref a1])), (a3, .inr (7, [.ref x3, .null, .ref a2]))]) rfl ?_
  refine zg_iload_n hO 1 dJ11_node_0 rfl rfl ?_
  refine zg_aload_n hO 0 dJ11_node_1 rfl rfl ?_
  refine zg_get hO fJ11_7 (x := .int (nI 4)) (W0.length + 0) ((apN 0).trans rfl) rfl dJ11_node_2 ?_
  refine zg_iconst hO dJ11_node_5 ic1 ?_
  refine zg_ishr hO dJ11_node_6 ?_
  refine zn_icmp_ge (tgt := 35) hO (by decide) dJ11_node_7 (by decide) ?_
  refine zg_aload_n hO 0 dJ11_node_10 rfl rfl ?_
  refine zg_get hO fJ11_18 (x := .ref a0) (W0.length + 0) ((apN 0).trans rfl) rfl dJ11_node_11 ?_
  refine zg_astore_n (lv' := [(2, .ref a0), (0, .ref ll), (1, .int (nI 1))]) hO dJ11_node_14 rfl (Nat.le_of_ble_eq_true rfl) rfl ?_
  refine zg_iconst hO dJ11_node_15 ic0 ?_
  refine zg_istore_n (lv' := [(3, .int (nI 0)), (2, .ref a0), (0, .ref ll), (1, .int (nI 1))]) hO dJ11_node_16 rfl (Nat.le_of_ble_eq_true rfl) rfl ?_
  refine zg_iload_n hO 0 dJ11_node_17 rfl rfl ?_
  refine zg_iload_n hO 3 dJ11_node_18 rfl rfl ?_
  refine zn_icmp_ge (tgt := 33) hO (by decide) dJ11_node_19 (by decide) ?_
  refine zg_aload_n hO 1 dJ11_node_22 rfl rfl ?_
  refine zg_get hO fJ11_36 (x := .ref a1) (W0.length + 1) ((apN 1).trans rfl) rfl dJ11_node_23 ?_
  refine zg_astore_n (lv' := [(2, .ref a1), (3, .int (nI 0)), (0, .ref ll), (1, .int (nI 1))]) hO dJ11_node_26 rfl (Nat.le_of_ble_eq_true rfl) rfl ?_
  refine zg_iinc (k := 1) (lv' := [(3, .int ((nI 0) + (nI 1))), (2, .ref a1), (0, .ref ll), (1, .int (nI 1))]) hO dJ11_node_27 rfl (zii ic1) (Nat.le_of_ble_eq_true rfl) rfl ?_
  refine zg_goto (tgt := 17) hO dJ11_node_30 (by decide) ?_
  refine zg_iload_n hO 0 dJ11_node_17 rfl rfl ?_
  refine zg_iload_n hO 3 dJ11_node_18 rfl rfl ?_
  refine zt_icmp_ge (tgt := 33) hO (by decide) dJ11_node_19 (by decide) ?_
  refine zg_aload_n hO 1 dJ11_node_33 rfl rfl ?_
  exact zj_aret (f := fun _ : Unit => W0 ++ LL ll mc [(a0, x0), (a1, x1), (a2, x2), (a3, x3)]) (a := fun _ => a1) hO hr (Or.inl ⟨_, rfl⟩) () rfl rfl ⟨Nat.zero_le _, Nat.zero_le _⟩ dJ11_node_34
theorem m_unlk41 (l : Launch) (D : va_G) (dA : Nat → ClassId) (G : Nat → Nat) {W0 : va_W} {ll a0 x0 a1 x1 a2 x2 a3 x3 : Nat} {mc : Int32} : CtX l yJ11_unlink (ws_ yJ11_unlink cJ11_unlink 5 (some (.object "java/lang/Object"))) 0 0 0 D dA G [.ref ll, .ref a1] (W0 ++ LL ll mc [(a0, x0), (a1, x1), (a2, x2), (a3, x3)]) (QgF D dA (fun _ : Unit => W0 ++ LL ll (mc + nI 1) [(a0, x0), (a2, x2), (a3, x3)]) (fun _ => x1)) := by
  refine zx_start (cc := cJ11_unlink) (nL := 5) (ret := (some (.object "java/lang/Object"))) (own := RJ11) (by decide) rfl rfl (Nat.le_of_ble_eq_true rfl) (fun p e s m args below meth c A hO hX hr hm _ => ?_)
  refine zg_sub (lv' := [(0, .ref ll), (1, .ref a1)]) [0, 1] rfl ?_
  refine zg_ws (ws' := W0 ++ [(ll, .inr (6, [.int mc, .int (nI 4), .ref a0, .ref a3])), (a0, .inr (7, [.ref x0, .ref a1, .null])), (a1, .inr (7, [.ref x1, .ref a2, .ref a0])), (a2, .inr (7, [.ref x2, .ref a3, .ref a1])), (a3, .inr (7, [.ref x3, .null, .ref a2]))]) rfl ?_
  refine zg_aload_n hO 1 dJ11_unlink_0 rfl rfl ?_
  refine zg_get hO fJ11_39 (x := .ref x1) (W0.length + 2) ((apN 2).trans rfl) rfl dJ11_unlink_1 ?_
  refine zg_astore_n (lv' := [(2, .ref x1), (0, .ref ll), (1, .ref a1)]) hO dJ11_unlink_4 rfl (Nat.le_of_ble_eq_true rfl) rfl ?_
  refine zg_aload_n hO 2 dJ11_unlink_5 rfl rfl ?_
  refine zg_get hO fJ11_36 (x := .ref a2) (W0.length + 2) ((apN 2).trans rfl) rfl dJ11_unlink_6 ?_
  refine zg_astore_n (lv' := [(3, .ref a2), (2, .ref x1), (0, .ref ll), (1, .ref a1)]) hO dJ11_unlink_9 rfl (Nat.le_of_ble_eq_true rfl) rfl ?_
  refine zg_aload_n hO 3 dJ11_unlink_10 rfl rfl ?_
  refine zg_get hO fJ11_30 (x := .ref a0) (W0.length + 2) ((apN 2).trans rfl) rfl dJ11_unlink_11 ?_
  refine zg_astore (lv' := [(4, .ref a0), (3, .ref a2), (2, .ref x1), (0, .ref ll), (1, .ref a1)]) hO dJ11_unlink_14 (Nat.le_of_ble_eq_true rfl) rfl ?_
  refine zg_aload hO 0 dJ11_unlink_16 rfl ?_
  refine zj_nonnull (tgt := 29) hO dJ11_unlink_18 (by decide) ?_
  refine zg_aload hO 0 dJ11_unlink_29 rfl ?_
  refine zg_aload_n hO 1 dJ11_unlink_31 rfl rfl ?_
  refine zg_put (ws' := W0 ++ [(ll, .inr (6, [.int mc, .int (nI 4), .ref a0, .ref a3])), (a0, .inr (7, [.ref x0, .ref a2, .null])), (a1, .inr (7, [.ref x1, .ref a2, .ref a0])), (a2, .inr (7, [.ref x2, .ref a3, .ref a1])), (a3, .inr (7, [.ref x3, .null, .ref a2]))]) hO pJ11_36 (W0.length + 1) ((apN 1).trans rfl) rfl rfl (Nat.le_of_ble_eq_true rfl) ((asN 1 _).trans rfl) dJ11_unlink_32 ?_
  refine zg_aload_n hO 4 dJ11_unlink_35 rfl rfl ?_
  refine zg_null hO dJ11_unlink_36 ?_
  refine zg_put (ws' := W0 ++ [(ll, .inr (6, [.int mc, .int (nI 4), .ref a0, .ref a3])), (a0, .inr (7, [.ref x0, .ref a2, .null])), (a1, .inr (7, [.ref x1, .ref a2, .null])), (a2, .inr (7, [.ref x2, .ref a3, .ref a1])), (a3, .inr (7, [.ref x3, .null, .ref a2]))]) hO pJ11_30 (W0.length + 2) ((apN 2).trans rfl) rfl rfl (Nat.le_of_ble_eq_true rfl) ((asN 2 _).trans rfl) dJ11_unlink_37 ?_
  refine zg_aload_n hO 1 dJ11_unlink_40 rfl rfl ?_
  refine zj_nonnull (tgt := 53) hO dJ11_unlink_41 (by decide) ?_
  refine zg_aload_n hO 1 dJ11_unlink_53 rfl rfl ?_
  refine zg_aload hO 0 dJ11_unlink_54 rfl ?_
  refine zg_put (ws' := W0 ++ [(ll, .inr (6, [.int mc, .int (nI 4), .ref a0, .ref a3])), (a0, .inr (7, [.ref x0, .ref a2, .null])), (a1, .inr (7, [.ref x1, .ref a2, .null])), (a2, .inr (7, [.ref x2, .ref a3, .ref a0])), (a3, .inr (7, [.ref x3, .null, .ref a2]))]) hO pJ11_30 (W0.length + 3) ((apN 3).trans rfl) rfl rfl (Nat.le_of_ble_eq_true rfl) ((asN 3 _).trans rfl) dJ11_unlink_56 ?_
  refine zg_aload_n hO 4 dJ11_unlink_59 rfl rfl ?_
  refine zg_null hO dJ11_unlink_60 ?_
  refine zg_put (ws' := W0 ++ [(ll, .inr (6, [.int mc, .int (nI 4), .ref a0, .ref a3])), (a0, .inr (7, [.ref x0, .ref a2, .null])), (a1, .inr (7, [.ref x1, .null, .null])), (a2, .inr (7, [.ref x2, .ref a3, .ref a0])), (a3, .inr (7, [.ref x3, .null, .ref a2]))]) hO pJ11_36 (W0.length + 2) ((apN 2).trans rfl) rfl rfl (Nat.le_of_ble_eq_true rfl) ((asN 2 _).trans rfl) dJ11_unlink_61 ?_
  refine zg_aload_n hO 4 dJ11_unlink_64 rfl rfl ?_
  refine zg_null hO dJ11_unlink_65 ?_
  refine zg_put (ws' := W0 ++ [(ll, .inr (6, [.int mc, .int (nI 4), .ref a0, .ref a3])), (a0, .inr (7, [.ref x0, .ref a2, .null])), (a1, .inr (7, [.null, .null, .null])), (a2, .inr (7, [.ref x2, .ref a3, .ref a0])), (a3, .inr (7, [.ref x3, .null, .ref a2]))]) hO pJ11_39 (W0.length + 2) ((apN 2).trans rfl) rfl rfl (Nat.le_of_ble_eq_true rfl) ((asN 2 _).trans rfl) dJ11_unlink_66 ?_
  refine zg_aload_n hO 3 dJ11_unlink_69 rfl rfl ?_
  refine zg_dup hO dJ11_unlink_70 rfl ?_
  refine zg_get hO fJ11_7 (x := .int (nI 4)) (W0.length + 0) ((apN 0).trans rfl) rfl dJ11_unlink_71 ?_
  refine zg_iconst hO dJ11_unlink_74 ic1 ?_
  refine zg_isub hO dJ11_unlink_75 ?_
  rw [show nI 4 - nI 1 = nI 3 by decide]
  refine zg_put (ws' := W0 ++ [(ll, .inr (6, [.int mc, .int (nI 3), .ref a0, .ref a3])), (a0, .inr (7, [.ref x0, .ref a2, .null])), (a1, .inr (7, [.null, .null, .null])), (a2, .inr (7, [.ref x2, .ref a3, .ref a0])), (a3, .inr (7, [.ref x3, .null, .ref a2]))]) hO pJ11_7 (W0.length + 0) ((apN 0).trans rfl) rfl rfl (Nat.le_of_ble_eq_true rfl) ((asN 0 _).trans rfl) dJ11_unlink_76 ?_
  refine zg_aload_n hO 3 dJ11_unlink_79 rfl rfl ?_
  refine zg_dup hO dJ11_unlink_80 rfl ?_
  refine zg_get hO fJ11_33 (x := .int mc) (W0.length + 0) ((apN 0).trans rfl) rfl dJ11_unlink_81 ?_
  refine zg_iconst hO dJ11_unlink_84 ic1 ?_
  refine zg_iadd hO dJ11_unlink_85 ?_
  refine zg_put (ws' := W0 ++ [(ll, .inr (6, [.int (mc + nI 1), .int (nI 3), .ref a0, .ref a3])), (a0, .inr (7, [.ref x0, .ref a2, .null])), (a1, .inr (7, [.null, .null, .null])), (a2, .inr (7, [.ref x2, .ref a3, .ref a0])), (a3, .inr (7, [.ref x3, .null, .ref a2]))]) hO pJ11_33 (W0.length + 0) ((apN 0).trans rfl) rfl rfl (Nat.le_of_ble_eq_true rfl) ((asN 0 _).trans rfl) dJ11_unlink_86 ?_
  refine zg_aload_n hO 2 dJ11_unlink_89 rfl rfl ?_
  refine zk_erase (ws' := W0 ++ LL ll (mc + nI 1) [(a0, x0), (a2, x2), (a3, x3)]) (W0.length + 2) ((erN 2).trans rfl) ?_
  exact zj_aret (f := fun _ : Unit => W0 ++ LL ll (mc + nI 1) [(a0, x0), (a2, x2), (a3, x3)]) (a := fun _ => x1) hO hr (Or.inl ⟨_, rfl⟩) () rfl rfl ⟨Nat.zero_le _, Nat.zero_le _⟩ dJ11_unlink_90
theorem m_node42 (l : Launch) (D : va_G) (dA : Nat → ClassId) (G : Nat → Nat) {W0 : va_W} {ll a0 x0 a1 x1 a2 x2 a3 x3 : Nat} {mc : Int32} : CtX l yJ11_node (ws_ yJ11_node cJ11_node 4 (some (.object "java/util/LinkedList$Node"))) 0 0 0 D dA G [.ref ll, .int (nI 2)] (W0 ++ LL ll mc [(a0, x0), (a1, x1), (a2, x2), (a3, x3)]) (QgF D dA (fun _ : Unit => W0 ++ LL ll mc [(a0, x0), (a1, x1), (a2, x2), (a3, x3)]) (fun _ => a2)) := by
  refine zx_start (cc := cJ11_node) (nL := 4) (ret := (some (.object "java/util/LinkedList$Node"))) (own := RJ11) (by decide) rfl rfl (Nat.le_of_ble_eq_true rfl) (fun p e s m args below meth c A hO hX hr hm _ => ?_)
  refine zg_sub (lv' := [(0, .ref ll), (1, .int (nI 2))]) [0, 1] rfl ?_
  refine zg_ws (ws' := W0 ++ [(ll, .inr (6, [.int mc, .int (nI 4), .ref a0, .ref a3])), (a0, .inr (7, [.ref x0, .ref a1, .null])), (a1, .inr (7, [.ref x1, .ref a2, .ref a0])), (a2, .inr (7, [.ref x2, .ref a3, .ref a1])), (a3, .inr (7, [.ref x3, .null, .ref a2]))]) rfl ?_
  refine zg_iload_n hO 1 dJ11_node_0 rfl rfl ?_
  refine zg_aload_n hO 0 dJ11_node_1 rfl rfl ?_
  refine zg_get hO fJ11_7 (x := .int (nI 4)) (W0.length + 0) ((apN 0).trans rfl) rfl dJ11_node_2 ?_
  refine zg_iconst hO dJ11_node_5 ic1 ?_
  refine zg_ishr hO dJ11_node_6 ?_
  refine zt_icmp_ge (tgt := 35) hO (by decide) dJ11_node_7 (by decide) ?_
  refine zg_aload_n hO 0 dJ11_node_35 rfl rfl ?_
  refine zg_get hO fJ11_27 (x := .ref a3) (W0.length + 0) ((apN 0).trans rfl) rfl dJ11_node_36 ?_
  refine zg_astore_n (lv' := [(2, .ref a3), (0, .ref ll), (1, .int (nI 2))]) hO dJ11_node_39 rfl (Nat.le_of_ble_eq_true rfl) rfl ?_
  refine zg_aload_n hO 1 dJ11_node_40 rfl rfl ?_
  refine zg_get hO fJ11_7 (x := .int (nI 4)) (W0.length + 0) ((apN 0).trans rfl) rfl dJ11_node_41 ?_
  refine zg_iconst hO dJ11_node_44 ic1 ?_
  refine zg_isub hO dJ11_node_45 ?_
  refine zg_istore_n (lv' := [(3, .int ((nI 4) - (nI 1))), (2, .ref a3), (0, .ref ll), (1, .int (nI 2))]) hO dJ11_node_46 rfl (Nat.le_of_ble_eq_true rfl) rfl ?_
  refine zg_iload_n hO 0 dJ11_node_47 rfl rfl ?_
  refine zg_iload_n hO 3 dJ11_node_48 rfl rfl ?_
  refine zn_icmp_le (tgt := 63) hO (by decide) dJ11_node_49 (by decide) ?_
  refine zg_aload_n hO 1 dJ11_node_52 rfl rfl ?_
  refine zg_get hO fJ11_30 (x := .ref a2) (W0.length + 4) ((apN 4).trans rfl) rfl dJ11_node_53 ?_
  refine zg_astore_n (lv' := [(2, .ref a2), (3, .int ((nI 4) - (nI 1))), (0, .ref ll), (1, .int (nI 2))]) hO dJ11_node_56 rfl (Nat.le_of_ble_eq_true rfl) rfl ?_
  refine zg_iinc (k := 1) (lv' := [(3, .int (((nI 4) - (nI 1)) + (-1))), (2, .ref a2), (0, .ref ll), (1, .int (nI 2))]) hO dJ11_node_57 rfl (zii icm1) (Nat.le_of_ble_eq_true rfl) rfl ?_
  refine zg_goto (tgt := 47) hO dJ11_node_60 (by decide) ?_
  refine zg_iload_n hO 0 dJ11_node_47 rfl rfl ?_
  refine zg_iload_n hO 3 dJ11_node_48 rfl rfl ?_
  refine zt_icmp_le (tgt := 63) hO (by decide) dJ11_node_49 (by decide) ?_
  refine zg_aload_n hO 1 dJ11_node_63 rfl rfl ?_
  exact zj_aret (f := fun _ : Unit => W0 ++ LL ll mc [(a0, x0), (a1, x1), (a2, x2), (a3, x3)]) (a := fun _ => a2) hO hr (Or.inl ⟨_, rfl⟩) () rfl rfl ⟨Nat.zero_le _, Nat.zero_le _⟩ dJ11_node_64
theorem m_unlk42 (l : Launch) (D : va_G) (dA : Nat → ClassId) (G : Nat → Nat) {W0 : va_W} {ll a0 x0 a1 x1 a2 x2 a3 x3 : Nat} {mc : Int32} : CtX l yJ11_unlink (ws_ yJ11_unlink cJ11_unlink 5 (some (.object "java/lang/Object"))) 0 0 0 D dA G [.ref ll, .ref a2] (W0 ++ LL ll mc [(a0, x0), (a1, x1), (a2, x2), (a3, x3)]) (QgF D dA (fun _ : Unit => W0 ++ LL ll (mc + nI 1) [(a0, x0), (a1, x1), (a3, x3)]) (fun _ => x2)) := by
  refine zx_start (cc := cJ11_unlink) (nL := 5) (ret := (some (.object "java/lang/Object"))) (own := RJ11) (by decide) rfl rfl (Nat.le_of_ble_eq_true rfl) (fun p e s m args below meth c A hO hX hr hm _ => ?_)
  refine zg_sub (lv' := [(0, .ref ll), (1, .ref a2)]) [0, 1] rfl ?_
  refine zg_ws (ws' := W0 ++ [(ll, .inr (6, [.int mc, .int (nI 4), .ref a0, .ref a3])), (a0, .inr (7, [.ref x0, .ref a1, .null])), (a1, .inr (7, [.ref x1, .ref a2, .ref a0])), (a2, .inr (7, [.ref x2, .ref a3, .ref a1])), (a3, .inr (7, [.ref x3, .null, .ref a2]))]) rfl ?_
  refine zg_aload_n hO 1 dJ11_unlink_0 rfl rfl ?_
  refine zg_get hO fJ11_39 (x := .ref x2) (W0.length + 3) ((apN 3).trans rfl) rfl dJ11_unlink_1 ?_
  refine zg_astore_n (lv' := [(2, .ref x2), (0, .ref ll), (1, .ref a2)]) hO dJ11_unlink_4 rfl (Nat.le_of_ble_eq_true rfl) rfl ?_
  refine zg_aload_n hO 2 dJ11_unlink_5 rfl rfl ?_
  refine zg_get hO fJ11_36 (x := .ref a3) (W0.length + 3) ((apN 3).trans rfl) rfl dJ11_unlink_6 ?_
  refine zg_astore_n (lv' := [(3, .ref a3), (2, .ref x2), (0, .ref ll), (1, .ref a2)]) hO dJ11_unlink_9 rfl (Nat.le_of_ble_eq_true rfl) rfl ?_
  refine zg_aload_n hO 3 dJ11_unlink_10 rfl rfl ?_
  refine zg_get hO fJ11_30 (x := .ref a1) (W0.length + 3) ((apN 3).trans rfl) rfl dJ11_unlink_11 ?_
  refine zg_astore (lv' := [(4, .ref a1), (3, .ref a3), (2, .ref x2), (0, .ref ll), (1, .ref a2)]) hO dJ11_unlink_14 (Nat.le_of_ble_eq_true rfl) rfl ?_
  refine zg_aload hO 0 dJ11_unlink_16 rfl ?_
  refine zj_nonnull (tgt := 29) hO dJ11_unlink_18 (by decide) ?_
  refine zg_aload hO 0 dJ11_unlink_29 rfl ?_
  refine zg_aload_n hO 1 dJ11_unlink_31 rfl rfl ?_
  refine zg_put (ws' := W0 ++ [(ll, .inr (6, [.int mc, .int (nI 4), .ref a0, .ref a3])), (a0, .inr (7, [.ref x0, .ref a1, .null])), (a1, .inr (7, [.ref x1, .ref a3, .ref a0])), (a2, .inr (7, [.ref x2, .ref a3, .ref a1])), (a3, .inr (7, [.ref x3, .null, .ref a2]))]) hO pJ11_36 (W0.length + 2) ((apN 2).trans rfl) rfl rfl (Nat.le_of_ble_eq_true rfl) ((asN 2 _).trans rfl) dJ11_unlink_32 ?_
  refine zg_aload_n hO 4 dJ11_unlink_35 rfl rfl ?_
  refine zg_null hO dJ11_unlink_36 ?_
  refine zg_put (ws' := W0 ++ [(ll, .inr (6, [.int mc, .int (nI 4), .ref a0, .ref a3])), (a0, .inr (7, [.ref x0, .ref a1, .null])), (a1, .inr (7, [.ref x1, .ref a3, .ref a0])), (a2, .inr (7, [.ref x2, .ref a3, .null])), (a3, .inr (7, [.ref x3, .null, .ref a2]))]) hO pJ11_30 (W0.length + 3) ((apN 3).trans rfl) rfl rfl (Nat.le_of_ble_eq_true rfl) ((asN 3 _).trans rfl) dJ11_unlink_37 ?_
  refine zg_aload_n hO 1 dJ11_unlink_40 rfl rfl ?_
  refine zj_nonnull (tgt := 53) hO dJ11_unlink_41 (by decide) ?_
  refine zg_aload_n hO 1 dJ11_unlink_53 rfl rfl ?_
  refine zg_aload hO 0 dJ11_unlink_54 rfl ?_
  refine zg_put (ws' := W0 ++ [(ll, .inr (6, [.int mc, .int (nI 4), .ref a0, .ref a3])), (a0, .inr (7, [.ref x0, .ref a1, .null])), (a1, .inr (7, [.ref x1, .ref a3, .ref a0])), (a2, .inr (7, [.ref x2, .ref a3, .null])), (a3, .inr (7, [.ref x3, .null, .ref a1]))]) hO pJ11_30 (W0.length + 4) ((apN 4).trans rfl) rfl rfl (Nat.le_of_ble_eq_true rfl) ((asN 4 _).trans rfl) dJ11_unlink_56 ?_
  refine zg_aload_n hO 4 dJ11_unlink_59 rfl rfl ?_
  refine zg_null hO dJ11_unlink_60 ?_
  refine zg_put (ws' := W0 ++ [(ll, .inr (6, [.int mc, .int (nI 4), .ref a0, .ref a3])), (a0, .inr (7, [.ref x0, .ref a1, .null])), (a1, .inr (7, [.ref x1, .ref a3, .ref a0])), (a2, .inr (7, [.ref x2, .null, .null])), (a3, .inr (7, [.ref x3, .null, .ref a1]))]) hO pJ11_36 (W0.length + 3) ((apN 3).trans rfl) rfl rfl (Nat.le_of_ble_eq_true rfl) ((asN 3 _).trans rfl) dJ11_unlink_61 ?_
  refine zg_aload_n hO 4 dJ11_unlink_64 rfl rfl ?_
  refine zg_null hO dJ11_unlink_65 ?_
  refine zg_put (ws' := W0 ++ [(ll, .inr (6, [.int mc, .int (nI 4), .ref a0, .ref a3])), (a0, .inr (7, [.ref x0, .ref a1, .null])), (a1, .inr (7, [.ref x1, .ref a3, .ref a0])), (a2, .inr (7, [.null, .null, .null])), (a3, .inr (7, [.ref x3, .null, .ref a1]))]) hO pJ11_39 (W0.length + 3) ((apN 3).trans rfl) rfl rfl (Nat.le_of_ble_eq_true rfl) ((asN 3 _).trans rfl) dJ11_unlink_66 ?_
  refine zg_aload_n hO 3 dJ11_unlink_69 rfl rfl ?_
  refine zg_dup hO dJ11_unlink_70 rfl ?_
  refine zg_get hO fJ11_7 (x := .int (nI 4)) (W0.length + 0) ((apN 0).trans rfl) rfl dJ11_unlink_71 ?_
  refine zg_iconst hO dJ11_unlink_74 ic1 ?_
  refine zg_isub hO dJ11_unlink_75 ?_
  rw [show nI 4 - nI 1 = nI 3 by decide]
  refine zg_put (ws' := W0 ++ [(ll, .inr (6, [.int mc, .int (nI 3), .ref a0, .ref a3])), (a0, .inr (7, [.ref x0, .ref a1, .null])), (a1, .inr (7, [.ref x1, .ref a3, .ref a0])), (a2, .inr (7, [.null, .null, .null])), (a3, .inr (7, [.ref x3, .null, .ref a1]))]) hO pJ11_7 (W0.length + 0) ((apN 0).trans rfl) rfl rfl (Nat.le_of_ble_eq_true rfl) ((asN 0 _).trans rfl) dJ11_unlink_76 ?_
  refine zg_aload_n hO 3 dJ11_unlink_79 rfl rfl ?_
  refine zg_dup hO dJ11_unlink_80 rfl ?_
  refine zg_get hO fJ11_33 (x := .int mc) (W0.length + 0) ((apN 0).trans rfl) rfl dJ11_unlink_81 ?_
  refine zg_iconst hO dJ11_unlink_84 ic1 ?_
  refine zg_iadd hO dJ11_unlink_85 ?_
  refine zg_put (ws' := W0 ++ [(ll, .inr (6, [.int (mc + nI 1), .int (nI 3), .ref a0, .ref a3])), (a0, .inr (7, [.ref x0, .ref a1, .null])), (a1, .inr (7, [.ref x1, .ref a3, .ref a0])), (a2, .inr (7, [.null, .null, .null])), (a3, .inr (7, [.ref x3, .null, .ref a1]))]) hO pJ11_33 (W0.length + 0) ((apN 0).trans rfl) rfl rfl (Nat.le_of_ble_eq_true rfl) ((asN 0 _).trans rfl) dJ11_unlink_86 ?_
  refine zg_aload_n hO 2 dJ11_unlink_89 rfl rfl ?_
  refine zk_erase (ws' := W0 ++ LL ll (mc + nI 1) [(a0, x0), (a1, x1), (a3, x3)]) (W0.length + 3) ((erN 3).trans rfl) ?_
  exact zj_aret (f := fun _ : Unit => W0 ++ LL ll (mc + nI 1) [(a0, x0), (a1, x1), (a3, x3)]) (a := fun _ => x2) hO hr (Or.inl ⟨_, rfl⟩) () rfl rfl ⟨Nat.zero_le _, Nat.zero_le _⟩ dJ11_unlink_90
theorem m_node43 (l : Launch) (D : va_G) (dA : Nat → ClassId) (G : Nat → Nat) {W0 : va_W} {ll a0 x0 a1 x1 a2 x2 a3 x3 : Nat} {mc : Int32} : CtX l yJ11_node (ws_ yJ11_node cJ11_node 4 (some (.object "java/util/LinkedList$Node"))) 0 0 0 D dA G [.ref ll, .int (nI 3)] (W0 ++ LL ll mc [(a0, x0), (a1, x1), (a2, x2), (a3, x3)]) (QgF D dA (fun _ : Unit => W0 ++ LL ll mc [(a0, x0), (a1, x1), (a2, x2), (a3, x3)]) (fun _ => a3)) := by
  refine zx_start (cc := cJ11_node) (nL := 4) (ret := (some (.object "java/util/LinkedList$Node"))) (own := RJ11) (by decide) rfl rfl (Nat.le_of_ble_eq_true rfl) (fun p e s m args below meth c A hO hX hr hm _ => ?_)
  refine zg_sub (lv' := [(0, .ref ll), (1, .int (nI 3))]) [0, 1] rfl ?_
  refine zg_ws (ws' := W0 ++ [(ll, .inr (6, [.int mc, .int (nI 4), .ref a0, .ref a3])), (a0, .inr (7, [.ref x0, .ref a1, .null])), (a1, .inr (7, [.ref x1, .ref a2, .ref a0])), (a2, .inr (7, [.ref x2, .ref a3, .ref a1])), (a3, .inr (7, [.ref x3, .null, .ref a2]))]) rfl ?_
  refine zg_iload_n hO 1 dJ11_node_0 rfl rfl ?_
  refine zg_aload_n hO 0 dJ11_node_1 rfl rfl ?_
  refine zg_get hO fJ11_7 (x := .int (nI 4)) (W0.length + 0) ((apN 0).trans rfl) rfl dJ11_node_2 ?_
  refine zg_iconst hO dJ11_node_5 ic1 ?_
  refine zg_ishr hO dJ11_node_6 ?_
  refine zt_icmp_ge (tgt := 35) hO (by decide) dJ11_node_7 (by decide) ?_
  refine zg_aload_n hO 0 dJ11_node_35 rfl rfl ?_
  refine zg_get hO fJ11_27 (x := .ref a3) (W0.length + 0) ((apN 0).trans rfl) rfl dJ11_node_36 ?_
  refine zg_astore_n (lv' := [(2, .ref a3), (0, .ref ll), (1, .int (nI 3))]) hO dJ11_node_39 rfl (Nat.le_of_ble_eq_true rfl) rfl ?_
  refine zg_aload_n hO 1 dJ11_node_40 rfl rfl ?_
  refine zg_get hO fJ11_7 (x := .int (nI 4)) (W0.length + 0) ((apN 0).trans rfl) rfl dJ11_node_41 ?_
  refine zg_iconst hO dJ11_node_44 ic1 ?_
  refine zg_isub hO dJ11_node_45 ?_
  refine zg_istore_n (lv' := [(3, .int ((nI 4) - (nI 1))), (2, .ref a3), (0, .ref ll), (1, .int (nI 3))]) hO dJ11_node_46 rfl (Nat.le_of_ble_eq_true rfl) rfl ?_
  refine zg_iload_n hO 0 dJ11_node_47 rfl rfl ?_
  refine zg_iload_n hO 3 dJ11_node_48 rfl rfl ?_
  refine zt_icmp_le (tgt := 63) hO (by decide) dJ11_node_49 (by decide) ?_
  refine zg_aload_n hO 1 dJ11_node_63 rfl rfl ?_
  exact zj_aret (f := fun _ : Unit => W0 ++ LL ll mc [(a0, x0), (a1, x1), (a2, x2), (a3, x3)]) (a := fun _ => a3) hO hr (Or.inl ⟨_, rfl⟩) () rfl rfl ⟨Nat.zero_le _, Nat.zero_le _⟩ dJ11_node_64
theorem m_unlk43 (l : Launch) (D : va_G) (dA : Nat → ClassId) (G : Nat → Nat) {W0 : va_W} {ll a0 x0 a1 x1 a2 x2 a3 x3 : Nat} {mc : Int32} : CtX l yJ11_unlink (ws_ yJ11_unlink cJ11_unlink 5 (some (.object "java/lang/Object"))) 0 0 0 D dA G [.ref ll, .ref a3] (W0 ++ LL ll mc [(a0, x0), (a1, x1), (a2, x2), (a3, x3)]) (QgF D dA (fun _ : Unit => W0 ++ LL ll (mc + nI 1) [(a0, x0), (a1, x1), (a2, x2)]) (fun _ => x3)) := by
  refine zx_start (cc := cJ11_unlink) (nL := 5) (ret := (some (.object "java/lang/Object"))) (own := RJ11) (by decide) rfl rfl (Nat.le_of_ble_eq_true rfl) (fun p e s m args below meth c A hO hX hr hm _ => ?_)
  refine zg_sub (lv' := [(0, .ref ll), (1, .ref a3)]) [0, 1] rfl ?_
  refine zg_ws (ws' := W0 ++ [(ll, .inr (6, [.int mc, .int (nI 4), .ref a0, .ref a3])), (a0, .inr (7, [.ref x0, .ref a1, .null])), (a1, .inr (7, [.ref x1, .ref a2, .ref a0])), (a2, .inr (7, [.ref x2, .ref a3, .ref a1])), (a3, .inr (7, [.ref x3, .null, .ref a2]))]) rfl ?_
  refine zg_aload_n hO 1 dJ11_unlink_0 rfl rfl ?_
  refine zg_get hO fJ11_39 (x := .ref x3) (W0.length + 4) ((apN 4).trans rfl) rfl dJ11_unlink_1 ?_
  refine zg_astore_n (lv' := [(2, .ref x3), (0, .ref ll), (1, .ref a3)]) hO dJ11_unlink_4 rfl (Nat.le_of_ble_eq_true rfl) rfl ?_
  refine zg_aload_n hO 2 dJ11_unlink_5 rfl rfl ?_
  refine zg_get hO fJ11_36 (x := .null) (W0.length + 4) ((apN 4).trans rfl) rfl dJ11_unlink_6 ?_
  refine zg_astore_nN (lv' := [(3, .null), (2, .ref x3), (0, .ref ll), (1, .ref a3)]) hO dJ11_unlink_9 rfl (Nat.le_of_ble_eq_true rfl) rfl ?_
  refine zg_aload_n hO 3 dJ11_unlink_10 rfl rfl ?_
  refine zg_get hO fJ11_30 (x := .ref a2) (W0.length + 4) ((apN 4).trans rfl) rfl dJ11_unlink_11 ?_
  refine zg_astore (lv' := [(4, .ref a2), (3, .null), (2, .ref x3), (0, .ref ll), (1, .ref a3)]) hO dJ11_unlink_14 (Nat.le_of_ble_eq_true rfl) rfl ?_
  refine zg_aload hO 0 dJ11_unlink_16 rfl ?_
  refine zj_nonnull (tgt := 29) hO dJ11_unlink_18 (by decide) ?_
  refine zg_aload hO 0 dJ11_unlink_29 rfl ?_
  refine zg_aload_nN hO 1 dJ11_unlink_31 rfl rfl ?_
  refine zg_put (ws' := W0 ++ [(ll, .inr (6, [.int mc, .int (nI 4), .ref a0, .ref a3])), (a0, .inr (7, [.ref x0, .ref a1, .null])), (a1, .inr (7, [.ref x1, .ref a2, .ref a0])), (a2, .inr (7, [.ref x2, .null, .ref a1])), (a3, .inr (7, [.ref x3, .null, .ref a2]))]) hO pJ11_36 (W0.length + 3) ((apN 3).trans rfl) rfl rfl (Nat.le_of_ble_eq_true rfl) ((asN 3 _).trans rfl) dJ11_unlink_32 ?_
  refine zg_aload_n hO 4 dJ11_unlink_35 rfl rfl ?_
  refine zg_null hO dJ11_unlink_36 ?_
  refine zg_put (ws' := W0 ++ [(ll, .inr (6, [.int mc, .int (nI 4), .ref a0, .ref a3])), (a0, .inr (7, [.ref x0, .ref a1, .null])), (a1, .inr (7, [.ref x1, .ref a2, .ref a0])), (a2, .inr (7, [.ref x2, .null, .ref a1])), (a3, .inr (7, [.ref x3, .null, .null]))]) hO pJ11_30 (W0.length + 4) ((apN 4).trans rfl) rfl rfl (Nat.le_of_ble_eq_true rfl) ((asN 4 _).trans rfl) dJ11_unlink_37 ?_
  refine zg_aload_nN hO 1 dJ11_unlink_40 rfl rfl ?_
  refine zj_nonnullN hO dJ11_unlink_41 ?_
  refine zg_aload_n hO 3 dJ11_unlink_44 rfl rfl ?_
  refine zg_aload hO 0 dJ11_unlink_45 rfl ?_
  refine zg_put (ws' := W0 ++ [(ll, .inr (6, [.int mc, .int (nI 4), .ref a0, .ref a2])), (a0, .inr (7, [.ref x0, .ref a1, .null])), (a1, .inr (7, [.ref x1, .ref a2, .ref a0])), (a2, .inr (7, [.ref x2, .null, .ref a1])), (a3, .inr (7, [.ref x3, .null, .null]))]) hO pJ11_27 (W0.length + 0) ((apN 0).trans rfl) rfl rfl (Nat.le_of_ble_eq_true rfl) ((asN 0 _).trans rfl) dJ11_unlink_47 ?_
  refine zg_goto (tgt := 64) hO dJ11_unlink_50 (by decide) ?_
  refine zg_aload_n hO 4 dJ11_unlink_64 rfl rfl ?_
  refine zg_null hO dJ11_unlink_65 ?_
  refine zg_put (ws' := W0 ++ [(ll, .inr (6, [.int mc, .int (nI 4), .ref a0, .ref a2])), (a0, .inr (7, [.ref x0, .ref a1, .null])), (a1, .inr (7, [.ref x1, .ref a2, .ref a0])), (a2, .inr (7, [.ref x2, .null, .ref a1])), (a3, .inr (7, [.null, .null, .null]))]) hO pJ11_39 (W0.length + 4) ((apN 4).trans rfl) rfl rfl (Nat.le_of_ble_eq_true rfl) ((asN 4 _).trans rfl) dJ11_unlink_66 ?_
  refine zg_aload_n hO 3 dJ11_unlink_69 rfl rfl ?_
  refine zg_dup hO dJ11_unlink_70 rfl ?_
  refine zg_get hO fJ11_7 (x := .int (nI 4)) (W0.length + 0) ((apN 0).trans rfl) rfl dJ11_unlink_71 ?_
  refine zg_iconst hO dJ11_unlink_74 ic1 ?_
  refine zg_isub hO dJ11_unlink_75 ?_
  rw [show nI 4 - nI 1 = nI 3 by decide]
  refine zg_put (ws' := W0 ++ [(ll, .inr (6, [.int mc, .int (nI 3), .ref a0, .ref a2])), (a0, .inr (7, [.ref x0, .ref a1, .null])), (a1, .inr (7, [.ref x1, .ref a2, .ref a0])), (a2, .inr (7, [.ref x2, .null, .ref a1])), (a3, .inr (7, [.null, .null, .null]))]) hO pJ11_7 (W0.length + 0) ((apN 0).trans rfl) rfl rfl (Nat.le_of_ble_eq_true rfl) ((asN 0 _).trans rfl) dJ11_unlink_76 ?_
  refine zg_aload_n hO 3 dJ11_unlink_79 rfl rfl ?_
  refine zg_dup hO dJ11_unlink_80 rfl ?_
  refine zg_get hO fJ11_33 (x := .int mc) (W0.length + 0) ((apN 0).trans rfl) rfl dJ11_unlink_81 ?_
  refine zg_iconst hO dJ11_unlink_84 ic1 ?_
  refine zg_iadd hO dJ11_unlink_85 ?_
  refine zg_put (ws' := W0 ++ [(ll, .inr (6, [.int (mc + nI 1), .int (nI 3), .ref a0, .ref a2])), (a0, .inr (7, [.ref x0, .ref a1, .null])), (a1, .inr (7, [.ref x1, .ref a2, .ref a0])), (a2, .inr (7, [.ref x2, .null, .ref a1])), (a3, .inr (7, [.null, .null, .null]))]) hO pJ11_33 (W0.length + 0) ((apN 0).trans rfl) rfl rfl (Nat.le_of_ble_eq_true rfl) ((asN 0 _).trans rfl) dJ11_unlink_86 ?_
  refine zg_aload_n hO 2 dJ11_unlink_89 rfl rfl ?_
  refine zk_erase (ws' := W0 ++ LL ll (mc + nI 1) [(a0, x0), (a1, x1), (a2, x2)]) (W0.length + 4) ((erN 4).trans rfl) ?_
  exact zj_aret (f := fun _ : Unit => W0 ++ LL ll (mc + nI 1) [(a0, x0), (a1, x1), (a2, x2)]) (a := fun _ => x3) hO hr (Or.inl ⟨_, rfl⟩) () rfl rfl ⟨Nat.zero_le _, Nat.zero_le _⟩ dJ11_unlink_90
theorem mw_J11_node : MwX yJ11_node cJ11_node 4 (some (.object "java/util/LinkedList$Node")) RJ11 1 := ⟨by decide +kernel, q463, q464, q99, q465⟩
theorem mw_J11_unlink : MwX yJ11_unlink cJ11_unlink 5 (some (.object "java/lang/Object")) RJ11 1 := ⟨by decide +kernel, q500, q501, q99, q502⟩
def ndA (xs : List (Nat × Nat)) (i : Nat) : Nat := (xs.getD i (0, 0)).1
def ndX (xs : List (Nat × Nat)) (i : Nat) : Nat := (xs.getD i (0, 0)).2
theorem m_lnode (l : Launch) (D : va_G) (dA : Nat → ClassId) (G : Nat → Nat) {W0 : va_W} {ll : Nat} {mc : Int32} {xs : List (Nat × Nat)} {i : Nat} (hx : xs.length ≤ 4) (hi : i < xs.length) : CtX l yJ11_node (ws_ yJ11_node cJ11_node 4 (some (.object "java/util/LinkedList$Node"))) 0 0 0 D dA G [.ref ll, .int (nI i)] (W0 ++ LL ll mc xs) (QgF D dA (fun _ : Unit => W0 ++ LL ll mc xs) (fun _ => ndA xs i)) := by
  match xs, hx, i, hi with
  | [(a0, x0)], _, 0, _ => exact m_node10 l D dA G
  | [(a0, x0), (a1, x1)], _, 0, _ => exact m_node20 l D dA G
  | [(a0, x0), (a1, x1)], _, 1, _ => exact m_node21 l D dA G
  | [(a0, x0), (a1, x1), (a2, x2)], _, 0, _ => exact m_node30 l D dA G
  | [(a0, x0), (a1, x1), (a2, x2)], _, 1, _ => exact m_node31 l D dA G
  | [(a0, x0), (a1, x1), (a2, x2)], _, 2, _ => exact m_node32 l D dA G
  | [(a0, x0), (a1, x1), (a2, x2), (a3, x3)], _, 0, _ => exact m_node40 l D dA G
  | [(a0, x0), (a1, x1), (a2, x2), (a3, x3)], _, 1, _ => exact m_node41 l D dA G
  | [(a0, x0), (a1, x1), (a2, x2), (a3, x3)], _, 2, _ => exact m_node42 l D dA G
  | [(a0, x0), (a1, x1), (a2, x2), (a3, x3)], _, 3, _ => exact m_node43 l D dA G
  | _ :: _ :: _ :: _ :: _ :: _, hx, _, _ => exact absurd hx (by simp only [List.length_cons]; omega)
theorem m_lunlk (l : Launch) (D : va_G) (dA : Nat → ClassId) (G : Nat → Nat) {W0 : va_W} {ll : Nat} {mc : Int32} {xs : List (Nat × Nat)} {i : Nat} (hx : xs.length ≤ 4) (hi : i < xs.length) : CtX l yJ11_unlink (ws_ yJ11_unlink cJ11_unlink 5 (some (.object "java/lang/Object"))) 0 0 0 D dA G [.ref ll, .ref (ndA xs i)] (W0 ++ LL ll mc xs) (QgF D dA (fun _ : Unit => W0 ++ LL ll (mc + nI 1) (xs.eraseIdx i)) (fun _ => ndX xs i)) := by
  match xs, hx, i, hi with
  | [(a0, x0)], _, 0, _ => exact m_unlk10 l D dA G
  | [(a0, x0), (a1, x1)], _, 0, _ => exact m_unlk20 l D dA G
  | [(a0, x0), (a1, x1)], _, 1, _ => exact m_unlk21 l D dA G
  | [(a0, x0), (a1, x1), (a2, x2)], _, 0, _ => exact m_unlk30 l D dA G
  | [(a0, x0), (a1, x1), (a2, x2)], _, 1, _ => exact m_unlk31 l D dA G
  | [(a0, x0), (a1, x1), (a2, x2)], _, 2, _ => exact m_unlk32 l D dA G
  | [(a0, x0), (a1, x1), (a2, x2), (a3, x3)], _, 0, _ => exact m_unlk40 l D dA G
  | [(a0, x0), (a1, x1), (a2, x2), (a3, x3)], _, 1, _ => exact m_unlk41 l D dA G
  | [(a0, x0), (a1, x1), (a2, x2), (a3, x3)], _, 2, _ => exact m_unlk42 l D dA G
  | [(a0, x0), (a1, x1), (a2, x2), (a3, x3)], _, 3, _ => exact m_unlk43 l D dA G
  | _ :: _ :: _ :: _ :: _ :: _, hx, _, _ => exact absurd hx (by simp only [List.length_cons]; omega)
theorem m_lremove (l : Launch) (D : va_G) (dA : Nat → ClassId) (G : Nat → Nat) {W0 : va_W} {ll : Nat} {mc : Int32} {xs : List (Nat × Nat)} {i : Nat} (hx : xs.length ≤ 4) (hi : i < xs.length) : CtX l yJ11_remove (ws_ yJ11_remove cJ11_remove 2 (some (.object "java/lang/Object"))) 2 0 0 D dA G [.ref ll, .int (nI i)] (W0 ++ LL ll mc xs) (QgF D dA (fun _ : Unit => W0 ++ LL ll (mc + nI 1) (xs.eraseIdx i)) (fun _ => ndX xs i)) := by
  refine zx_start (cc := cJ11_remove) (nL := 2) (ret := (some (.object "java/lang/Object"))) (own := RJ11) (by decide) rfl rfl (Nat.le_of_ble_eq_true rfl) (fun p e s m args below meth c A hO hX hr hm _ => ?_)
  refine zg_sub (lv' := [(0, .ref ll), (1, .int (nI i))]) [0, 1] rfl ?_
  refine zg_aload_n hO 0 dJ11_remove_0 rfl rfl ?_
  refine zg_iload_n hO 1 dJ11_remove_1 rfl rfl ?_
  refine zx_callVv (na := 1) (As := [.int (nI i)]) (rest := []) hO hX (m_ckEl l D dA G (by omega) hi) mw_J11_checkElementIndex q491 ⟨Nat.le_of_ble_eq_true rfl, Nat.le_of_ble_eq_true rfl⟩ ⟨Nat.zero_le _, Nat.zero_le _⟩ rfl rfl (Nat.le_of_ble_eq_true rfl) ⟨W0.length, 6, _, _, ap0 (x := LO ll mc xs) (L := LN none none xs), rfl, rfl⟩ dJ11_remove_2 (fun _ => ?_)
  refine zg_aload_n hO 0 dJ11_remove_5 rfl rfl ?_
  refine zg_aload_n hO 0 dJ11_remove_6 rfl rfl ?_
  refine zg_iload_n hO 1 dJ11_remove_7 rfl rfl ?_
  refine zx_callVr (na := 1) (As := [.int (nI i)]) (rest := [.ref ll]) hO hX (m_lnode l D dA G hx hi) mw_J11_node q462 ⟨Nat.le_of_ble_eq_true rfl, Nat.le_of_ble_eq_true rfl⟩ ⟨Nat.zero_le _, Nat.zero_le _⟩ rfl rfl (Nat.le_of_ble_eq_true rfl) ⟨W0.length, 6, _, _, ap0 (x := LO ll mc xs) (L := LN none none xs), rfl, rfl⟩ dJ11_remove_8 (fun _ => ?_)
  refine zx_callVr (na := 1) (As := [.ref (ndA xs i)]) (rest := []) hO hX (m_lunlk l D dA G hx hi) mw_J11_unlink q499 ⟨Nat.le_of_ble_eq_true rfl, Nat.le_of_ble_eq_true rfl⟩ ⟨Nat.zero_le _, Nat.zero_le _⟩ rfl rfl (Nat.le_of_ble_eq_true rfl) ⟨W0.length, 6, _, _, ap0 (x := LO ll mc xs) (L := LN none none xs), rfl, rfl⟩ dJ11_remove_11 (fun _ => ?_)
  exact zj_aret (f := fun _ : Unit => W0 ++ LL ll (mc + nI 1) (xs.eraseIdx i)) (a := fun _ => ndX xs i) hO hr (Or.inl ⟨_, rfl⟩) () rfl rfl ⟨Nat.zero_le _, Nat.zero_le _⟩ dJ11_remove_14
theorem mw_J11_remove : MwX yJ11_remove cJ11_remove 2 (some (.object "java/lang/Object")) RJ11 1 := ⟨by decide +kernel, q488, q489, q99, q490⟩
