set_option maxRecDepth 100000
/-! LIST.OF OF FOUR; ListN.toArray -/
/-- x may be stored in an Object[]: it lies in the world, or it is one of the cache's boxes -/
def EL (G : Nat → Nat) (W : va_W) (x : Nat) : Prop := (∃ (k ci : Nat) (vs : List Value) (r : vw_C), W[k]? = some (x, .inr (ci, vs)) ∧ zg_cl[ci]? = some r ∧ Cond.castable r.1 "java/lang/Object" ∈ lw_tbl) ∨ ∃ k, k < 256 ∧ x = G (100 + k)
theorem EL.app {G : Nat → Nat} {W L : va_W} {x : Nat} (h : EL G W x) : EL G (W ++ L) x := by
  rcases h with ⟨k, ci, vs, r, h1, h2⟩ | h
  · exact Or.inl ⟨k, ci, vs, r, apW h1, h2⟩
  · exact Or.inr h
section ZLO
variable {p : Program} {l : Launch} {e : Env} {s : State} {m : MethodId} {args : Array Value} {below : List Frame} {meth : Method} {c : Code} {cc : ByteArray} {own C : String} {nL : Nat} {D : va_G} {dA : Nat → ClassId} {G : Nat → Nat} {A : Nat → Prop} {Q : State → Prop} {W X ws ws' : va_W} {u v pc : Nat} {lv : List (Nat × Value)} {st rest : List Value} {N rk rs index : Nat}
  {y : MethodName} {bytes : ByteArray} {maxL n' mc ms na b : Nat} {ret : Option FieldType} {As : List Value} {S : Type} {f : S → va_W}
theorem zk_stE (hO : Ok p s m args meth c cc own nL D dA A) (hX : XK dA G A s) (q0 : Nat) {a n x : Nat} {f : Nat → Option Nat} {i : Int32} (hx : EL G W x) (ha : W[q0]? = some (a, .inl (dA 7, n, rfA f))) (hin : vp_in i n) (hw : W.set q0 (a, .inl (dA 7, n, rfA (va_up f i.toNatClampNeg (some x)))) = ws') (hdg : decode cc pc = .ok (.aastore, 1)) (kk : Go p l e (rmG N rk rs) s m args below meth c D A nL Q ws' u v (pc + 1) lv st) : Go p l e (rmG N rk rs) s m args below meth c D A nL Q W u v pc lv (.ref x :: .int i :: .ref a :: st) := by
  rcases hx with ⟨k, ci, vs, r, h1, h2, h3⟩ | ⟨k, hk, rfl⟩
  · exact zj_stQ hO hX q0 k ci ha h3 h1 h2 hin hw hdg kk
  · subst hw
    intro H locs ls hP hD hS hl
    obtain ⟨cell, g1, g2, g3, -⟩ := (((bx_cache hX).2.2.2).1 k hk).kept hS.2.1
    exact vb_astq hO.1 hO.2.1 hO.2.2.2.2.2.1 hP hD hS q0 7 ha rfl ⟨cell, g1, g2, g3⟩ (vb_asgC (hX.1.1 _ q2165 rfl)) hin hdg (fun H1 locs1 hP1 hD1 hS1 => kk H1 locs1 ls hP1 hD1 hS1 hl)
theorem zk_ldE (hO : Ok p s m args meth c cc own nL D dA A) (q0 : Nat) {a n x : Nat} {f : Nat → Option Nat} {i : Int32} (ha : W[q0]? = some (a, .inl (dA 7, n, rfA f))) (hin : vp_in i n) (hf : f i.toNatClampNeg = some x) (hdg : decode cc pc = .ok (.aaload, 1)) (kk : Go p l e (rmG N rk rs) s m args below meth c D A nL Q W u v (pc + 1) lv (.ref x :: st)) : Go p l e (rmG N rk rs) s m args below meth c D A nL Q W u v pc lv (.int i :: .ref a :: st) := by
  refine zj_ldQ hO hin q0 ha hdg ?_
  rw [hf]
  exact kk
/-- a constructor called by a nest mate -/
theorem zk_callIN {host : String} (hO : Ok p s m args meth c cc own nL D dA A) (hX : XK dA G A s) (hM : CtX l y (ws_ y bytes maxL none) n' mc ms D dA G (.ref b :: As) W (QgV D dA f)) (hini : y.name = "<init>") (hw : (y.cls ≠ "java/lang/invoke/MethodHandle" ∧ y.cls ≠ "java/lang/invoke/VarHandle" ∧ (parseMethodDescriptor y.desc).map (fun d => d.parameters.length) = some na) ∧ Cond.instanceMethod y ∈ lw_all ∧ Cond.initialized y.cls ∈ lw_all ∧ Cond.code y bytes maxL none ∈ lw_all) (hlk : Cond.methodLinkNest own index y host ∈ lw_tbl) (hR : n' + 1 ≤ N ∧ 8 + (maxL + 11) + 64 * n' ≤ 64 * N) (hc : u + mc ≤ rk ∧ v + ms ≤ rs) (hn : As.length = na)
    (hst : st = As.reverse ++ .ref b :: rest) (hrm : (rest.map fun x => x.category).sum ≤ 8) (hdg : decode cc pc = .ok (.invokespecial index, 3)) (kk : ∀ z : S, Go p l e (rmG N rk rs) s m args below meth c D A nL Q (f z ++ X) (u + mc) (v + ms) (pc + 3) lv rest) : Go p l e (rmG N rk rs) s m args below meth c D A nL Q (W ++ X) u v pc lv st := by
  intro H locs ls hP hD hS hl
  obtain ⟨w1, w2, w3, w4⟩ := hw
  have hts := hO.2.2.2.2.1
  have hp := zx_pc hO hX hP.left hD.left hS (.ref b :: As)
  refine va_callv (va_runIN (As := As) (rest := rest) ⟨hO.1, hO.2.1, hO.2.2.1, hO.2.2.2.1, hts⟩ (hM H.size) ⟨va_cnB na hts (lw_meth w4) rfl rfl rfl (hX.1.1 _ hlk rfl) (hts _ w3) w1 hR, hini, hts _ w2⟩ hp rfl hn hl.1 hst (lv_room hrm) hdg hc) hS (fun q _ h => va_AA hO hS hD.left q h) (fun q h => va_AA hO hS hD.left q h) (fun z t H1 locs1 ht hvm hx hB hz hk hS1 => ?_)
  subst ht
  obtain ⟨g1, g2⟩ := zf_join hP hD hk hB.1 hB.2.2 (fun q h => va_AA hO hS hD.left q h)
  exact kk z t.heap locs1 ls g1 g2 hS1 hl
end ZLO
theorem m_J5i (l : Launch) (D : va_G) (dA : Nat → ClassId) (G : Nat → Nat) {W0 : va_W} {b : Nat} : CtX l yJ5_init (ws_ yJ5_init cJ5_init 1 none) 2 0 0 D dA G [.ref b] W0 (QgV D dA (fun _ : Unit => W0)) := by
  refine zx_start (cc := cJ5_init) (nL := 1) (ret := none) (own := RJ5) (by decide) rfl rfl (Nat.le_of_ble_eq_true rfl) (fun p e s m args below meth c A hO hX hr hm _ => ?_)
  refine zg_sub (lv' := [(0, .ref b)]) [0] rfl ?_
  refine zg_aload_n hO 0 dJ5_init_0 rfl rfl ?_
  refine zx_callIv (As := []) (rest := []) hO hX (m_acinit l D dA G) rfl ⟨by decide +kernel, q303, q92, q304⟩ q302 ⟨Nat.le_of_ble_eq_true rfl, Nat.le_of_ble_eq_true rfl⟩ ⟨Nat.zero_le _, Nat.zero_le _⟩ rfl rfl (Nat.le_of_ble_eq_true rfl) dJ5_init_1 (fun _ => ?_)
  exact zx_vret (f := fun _ : Unit => W0) hO hr () rfl ⟨Nat.le_refl _, Nat.le_refl _⟩ dJ5_init_4
theorem m_J6i (l : Launch) (D : va_G) (dA : Nat → ClassId) (G : Nat → Nat) {W0 : va_W} {b : Nat} : CtX l yJ6_init (ws_ yJ6_init cJ6_init 1 none) 3 0 0 D dA G [.ref b] W0 (QgV D dA (fun _ : Unit => W0)) := by
  refine zx_start (cc := cJ6_init) (nL := 1) (ret := none) (own := RJ6) (by decide) rfl rfl (Nat.le_of_ble_eq_true rfl) (fun p e s m args below meth c A hO hX hr hm _ => ?_)
  refine zg_sub (lv' := [(0, .ref b)]) [0] rfl ?_
  refine zg_aload_n hO 0 dJ6_init_0 rfl rfl ?_
  refine zx_callIv (As := []) (rest := []) hO hX (m_J5i l D dA G) rfl ⟨by decide +kernel, q300, q93, q301⟩ q299 ⟨Nat.le_of_ble_eq_true rfl, Nat.le_of_ble_eq_true rfl⟩ ⟨Nat.zero_le _, Nat.zero_le _⟩ rfl rfl (Nat.le_of_ble_eq_true rfl) dJ6_init_1 (fun _ => ?_)
  exact zx_vret (f := fun _ : Unit => W0) hO hr () rfl ⟨Nat.le_refl _, Nat.le_refl _⟩ dJ6_init_4
theorem m_listN (l : Launch) (D : va_G) (dA : Nat → ClassId) (G : Nat → Nat) {W0 : va_W} {b a : Nat} : CtX l yJ8_init (ws_ yJ8_init cJ8_init 3 none) 4 0 0 D dA G [.ref b, .ref a, .int (nI 0)] (W0 ++ [(b, .inr (8, [.null, .int 0]))]) (QgV D dA (fun _ : Unit => (W0 ++ [(b, .inr (8, [.ref a, .int (nI 0)]))]))) := by
  refine zx_start (cc := cJ8_init) (nL := 3) (ret := none) (own := RJ8) (by decide) rfl rfl (Nat.le_of_ble_eq_true rfl) (fun p e s m args below meth c A hO hX hr hm _ => ?_)
  refine zg_sub (lv' := [(0, .ref b), (1, .ref a), (2, .int (nI 0))]) [0, 1, 2] rfl ?_
  refine zg_aload_n hO 0 dJ8_init_0 rfl rfl ?_
  refine zx_callIv (As := []) (rest := []) hO hX (m_J6i l D dA G) rfl ⟨by decide +kernel, q297, q94, q298⟩ q324 ⟨Nat.le_of_ble_eq_true rfl, Nat.le_of_ble_eq_true rfl⟩ ⟨Nat.zero_le _, Nat.zero_le _⟩ rfl rfl (Nat.le_of_ble_eq_true rfl) dJ8_init_1 (fun _ => ?_)
  refine zg_aload_n hO 0 dJ8_init_4 rfl rfl ?_
  refine zg_aload_n hO 1 dJ8_init_5 rfl rfl ?_
  refine zg_putF hO hm pJ8_7 W0.length ap0 rfl rfl (Nat.le_of_ble_eq_true rfl) as0 dJ8_init_6 ?_
  refine zg_aload_n hO 0 dJ8_init_9 rfl rfl ?_
  refine zg_iload_n hO 2 dJ8_init_10 rfl rfl ?_
  refine zg_putF hO hm pJ8_13 W0.length ap0 rfl rfl (Nat.le_of_ble_eq_true rfl) as0 dJ8_init_11 ?_
  exact zx_vret (f := fun _ : Unit => (W0 ++ [(b, .inr (8, [.ref a, .int (nI 0)]))])) hO hr () rfl ⟨Nat.le_refl _, Nat.le_refl _⟩ dJ8_init_14
theorem m_rnn (l : Launch) (D : va_G) (dA : Nat → ClassId) (G : Nat → Nat) {W : va_W} {a : Nat} : CtX l yJ3_requireNonNull (ws_ yJ3_requireNonNull cJ3_requireNonNull 1 (some (.object "java/lang/Object"))) 0 0 0 D dA G [.ref a] W (QgF D dA (fun _ : Unit => W) (fun _ => a)) := by
  refine zx_start (cc := cJ3_requireNonNull) (nL := 1) (ret := (some (.object "java/lang/Object"))) (own := RJ3) (by decide) rfl rfl (Nat.le_of_ble_eq_true rfl) (fun p e s m args below meth c A hO hX hr hm _ => ?_)
  refine zg_sub (lv' := [(0, .ref a)]) [0] rfl ?_
  refine zg_aload_n hO 0 dJ3_requireNonNull_0 rfl rfl ?_
  refine zj_nonnull (tgt := 12) hO dJ3_requireNonNull_1 (by decide) ?_
  refine zg_aload_n hO 0 dJ3_requireNonNull_12 rfl rfl ?_
  exact zj_aret (f := fun _ : Unit => W) (a := fun _ => a) hO hr (Or.inl ⟨_, rfl⟩) () rfl rfl ⟨Nat.zero_le _, Nat.zero_le _⟩ dJ3_requireNonNull_13
theorem mw_J3_requireNonNull : MwS yJ3_requireNonNull cJ3_requireNonNull 1 (some (.object "java/lang/Object")) 1 := ⟨by decide +kernel, q287, q91, q288⟩
def el4 (x0 x1 x2 x3 : Nat) : Nat → Option Nat := fun j => [some x0, some x1, some x2, some x3].getD j none
theorem el4_up (x0 x1 x2 x3 : Nat) : va_up (va_up (va_up (va_up (fun _ => none) (nI 0).toNatClampNeg (some x0)) (nI 1).toNatClampNeg (some x1)) (nI 2).toNatClampNeg (some x2)) (nI 3).toNatClampNeg (some x3) = el4 x0 x1 x2 x3 := by
  rw [show (nI 0).toNatClampNeg = 0 by decide, show (nI 1).toNatClampNeg = 1 by decide, show (nI 2).toNatClampNeg = 2 by decide, show (nI 3).toNatClampNeg = 3 by decide]
  funext j
  unfold va_up el4
  rcases j with _ | _ | _ | _ | j <;> simp
theorem bx_ad {dA : Nat → ClassId} {G : Nat → Nat} {A : Nat → Prop} {s : State} (hX : XK dA G A s) : va_Z "java/util/ImmutableCollections" "$assertionsDisabled" "Z" (.int (nI 1)) A s s.heap := hX.2.2.2.2.2.2.1
theorem m_lft (l : Launch) (D : va_G) (dA : Nat → ClassId) (G : Nat → Nat) {W0 : va_W} {a x0 x1 x2 x3 : Nat} : CtX l yJ2_listFromTrustedArray (ws_ yJ2_listFromTrustedArray cJ2_listFromTrustedArray 5 (some (.object "java/util/List"))) 5 1 2 D dA G [.ref a] (W0 ++ [(a, .inl (dA 7, 4, rfA (el4 x0 x1 x2 x3)))]) (QgF D dA (fun z : Nat => W0 ++ [(a, .inl (dA 7, 4, rfA (el4 x0 x1 x2 x3)))] ++ [(z, .inr (8, [.ref a, .int (nI 0)]))]) (fun z => z)) := by
  refine zx_start (cc := cJ2_listFromTrustedArray) (nL := 5) (ret := (some (.object "java/util/List"))) (own := RJ2) (by decide) rfl rfl (Nat.le_of_ble_eq_true rfl) (fun p e s m args below meth c A hO hX hr hm _ => ?_)
  refine zg_sub (lv' := [(0, .ref a)]) [0] rfl ?_
  refine zj_gets hO (bx_ad hX) q259 dJ2_listFromTrustedArray_0 ?_
  refine zt_if_ne (tgt := 23) hO (by decide) dJ2_listFromTrustedArray_3 (by decide) ?_
  refine zg_aload_n hO 0 dJ2_listFromTrustedArray_23 rfl rfl ?_
  refine zg_astore_n (lv' := [(1, .ref a), (0, .ref a)]) hO dJ2_listFromTrustedArray_24 rfl (Nat.le_of_ble_eq_true rfl) rfl ?_
  refine zg_aload_n hO 0 dJ2_listFromTrustedArray_25 rfl rfl ?_
  refine zj_len (w := nI 4) hO W0.length 7 ap0 rfl rfl dJ2_listFromTrustedArray_26 ?_
  refine zg_istore_n (lv' := [(2, .int (nI 4)), (1, .ref a), (0, .ref a)]) hO dJ2_listFromTrustedArray_27 rfl (Nat.le_of_ble_eq_true rfl) rfl ?_
  refine zg_iconst hO dJ2_listFromTrustedArray_28 ic0 ?_
  refine zg_istore_n (lv' := [(3, .int (nI 0)), (2, .int (nI 4)), (1, .ref a), (0, .ref a)]) hO dJ2_listFromTrustedArray_29 rfl (Nat.le_of_ble_eq_true rfl) rfl ?_
  refine zg_iload_n hO 0 dJ2_listFromTrustedArray_30 rfl rfl ?_
  refine zg_iload_n hO 1 dJ2_listFromTrustedArray_31 rfl rfl ?_
  refine zn_icmp_ge (tgt := 52) hO (by decide) dJ2_listFromTrustedArray_32 (by decide) ?_
  refine zg_aload_n hO 2 dJ2_listFromTrustedArray_35 rfl rfl ?_
  refine zg_iload_n hO 0 dJ2_listFromTrustedArray_36 rfl rfl ?_
  refine zk_ldE (x := x0) hO W0.length ap0 (by unfold vp_in; decide) rfl dJ2_listFromTrustedArray_37 ?_
  refine zg_astore (lv' := [(4, .ref x0), (3, .int (nI 0)), (2, .int (nI 4)), (1, .ref a), (0, .ref a)]) hO dJ2_listFromTrustedArray_38 (Nat.le_of_ble_eq_true rfl) rfl ?_
  refine zg_aload hO 0 dJ2_listFromTrustedArray_40 rfl ?_
  refine zx_callSr (na := 1) (As := [.ref x0]) (rest := []) hO hX (m_rnn l D dA G) mw_J3_requireNonNull q286 ⟨Nat.le_of_ble_eq_true rfl, Nat.le_of_ble_eq_true rfl⟩ ⟨Nat.zero_le _, Nat.zero_le _⟩ rfl rfl (Nat.le_of_ble_eq_true rfl) dJ2_listFromTrustedArray_42 (fun _ => ?_)
  refine zg_pop hO dJ2_listFromTrustedArray_45 rfl ?_
  refine zg_iinc (k := 1) (lv' := [(3, .int ((nI 0) + (nI 1))), (4, .ref x0), (2, .int (nI 4)), (1, .ref a), (0, .ref a)]) hO dJ2_listFromTrustedArray_46 rfl (zii ic1) (Nat.le_of_ble_eq_true rfl) rfl ?_
  rw [show ((nI 0) + (nI 1)) = nI 1 by decide]
  refine zg_goto (tgt := 30) hO dJ2_listFromTrustedArray_49 (by decide) ?_
  refine zg_iload_n hO 0 dJ2_listFromTrustedArray_30 rfl rfl ?_
  refine zg_iload_n hO 2 dJ2_listFromTrustedArray_31 rfl rfl ?_
  refine zn_icmp_ge (tgt := 52) hO (by decide) dJ2_listFromTrustedArray_32 (by decide) ?_
  refine zg_aload_n hO 3 dJ2_listFromTrustedArray_35 rfl rfl ?_
  refine zg_iload_n hO 0 dJ2_listFromTrustedArray_36 rfl rfl ?_
  refine zk_ldE (x := x1) hO W0.length ap0 (by unfold vp_in; decide) rfl dJ2_listFromTrustedArray_37 ?_
  refine zg_astore (lv' := [(4, .ref x1), (3, .int (nI 1)), (2, .int (nI 4)), (1, .ref a), (0, .ref a)]) hO dJ2_listFromTrustedArray_38 (Nat.le_of_ble_eq_true rfl) rfl ?_
  refine zg_aload hO 0 dJ2_listFromTrustedArray_40 rfl ?_
  refine zx_callSr (na := 1) (As := [.ref x1]) (rest := []) hO hX (m_rnn l D dA G) mw_J3_requireNonNull q286 ⟨Nat.le_of_ble_eq_true rfl, Nat.le_of_ble_eq_true rfl⟩ ⟨Nat.zero_le _, Nat.zero_le _⟩ rfl rfl (Nat.le_of_ble_eq_true rfl) dJ2_listFromTrustedArray_42 (fun _ => ?_)
  refine zg_pop hO dJ2_listFromTrustedArray_45 rfl ?_
  refine zg_iinc (k := 1) (lv' := [(3, .int ((nI 1) + (nI 1))), (4, .ref x1), (2, .int (nI 4)), (1, .ref a), (0, .ref a)]) hO dJ2_listFromTrustedArray_46 rfl (zii ic1) (Nat.le_of_ble_eq_true rfl) rfl ?_
  rw [show ((nI 1) + (nI 1)) = nI 2 by decide]
  refine zg_goto (tgt := 30) hO dJ2_listFromTrustedArray_49 (by decide) ?_
  refine zg_iload_n hO 0 dJ2_listFromTrustedArray_30 rfl rfl ?_
  refine zg_iload_n hO 2 dJ2_listFromTrustedArray_31 rfl rfl ?_
  refine zn_icmp_ge (tgt := 52) hO (by decide) dJ2_listFromTrustedArray_32 (by decide) ?_
  refine zg_aload_n hO 3 dJ2_listFromTrustedArray_35 rfl rfl ?_
  refine zg_iload_n hO 0 dJ2_listFromTrustedArray_36 rfl rfl ?_
  refine zk_ldE (x := x2) hO W0.length ap0 (by unfold vp_in; decide) rfl dJ2_listFromTrustedArray_37 ?_
  refine zg_astore (lv' := [(4, .ref x2), (3, .int (nI 2)), (2, .int (nI 4)), (1, .ref a), (0, .ref a)]) hO dJ2_listFromTrustedArray_38 (Nat.le_of_ble_eq_true rfl) rfl ?_
  refine zg_aload hO 0 dJ2_listFromTrustedArray_40 rfl ?_
  refine zx_callSr (na := 1) (As := [.ref x2]) (rest := []) hO hX (m_rnn l D dA G) mw_J3_requireNonNull q286 ⟨Nat.le_of_ble_eq_true rfl, Nat.le_of_ble_eq_true rfl⟩ ⟨Nat.zero_le _, Nat.zero_le _⟩ rfl rfl (Nat.le_of_ble_eq_true rfl) dJ2_listFromTrustedArray_42 (fun _ => ?_)
  refine zg_pop hO dJ2_listFromTrustedArray_45 rfl ?_
  refine zg_iinc (k := 1) (lv' := [(3, .int ((nI 2) + (nI 1))), (4, .ref x2), (2, .int (nI 4)), (1, .ref a), (0, .ref a)]) hO dJ2_listFromTrustedArray_46 rfl (zii ic1) (Nat.le_of_ble_eq_true rfl) rfl ?_
  rw [show ((nI 2) + (nI 1)) = nI 3 by decide]
  refine zg_goto (tgt := 30) hO dJ2_listFromTrustedArray_49 (by decide) ?_
  refine zg_iload_n hO 0 dJ2_listFromTrustedArray_30 rfl rfl ?_
  refine zg_iload_n hO 2 dJ2_listFromTrustedArray_31 rfl rfl ?_
  refine zn_icmp_ge (tgt := 52) hO (by decide) dJ2_listFromTrustedArray_32 (by decide) ?_
  refine zg_aload_n hO 3 dJ2_listFromTrustedArray_35 rfl rfl ?_
  refine zg_iload_n hO 0 dJ2_listFromTrustedArray_36 rfl rfl ?_
  refine zk_ldE (x := x3) hO W0.length ap0 (by unfold vp_in; decide) rfl dJ2_listFromTrustedArray_37 ?_
  refine zg_astore (lv' := [(4, .ref x3), (3, .int (nI 3)), (2, .int (nI 4)), (1, .ref a), (0, .ref a)]) hO dJ2_listFromTrustedArray_38 (Nat.le_of_ble_eq_true rfl) rfl ?_
  refine zg_aload hO 0 dJ2_listFromTrustedArray_40 rfl ?_
  refine zx_callSr (na := 1) (As := [.ref x3]) (rest := []) hO hX (m_rnn l D dA G) mw_J3_requireNonNull q286 ⟨Nat.le_of_ble_eq_true rfl, Nat.le_of_ble_eq_true rfl⟩ ⟨Nat.zero_le _, Nat.zero_le _⟩ rfl rfl (Nat.le_of_ble_eq_true rfl) dJ2_listFromTrustedArray_42 (fun _ => ?_)
  refine zg_pop hO dJ2_listFromTrustedArray_45 rfl ?_
  refine zg_iinc (k := 1) (lv' := [(3, .int ((nI 3) + (nI 1))), (4, .ref x3), (2, .int (nI 4)), (1, .ref a), (0, .ref a)]) hO dJ2_listFromTrustedArray_46 rfl (zii ic1) (Nat.le_of_ble_eq_true rfl) rfl ?_
  rw [show ((nI 3) + (nI 1)) = nI 4 by decide]
  refine zg_goto (tgt := 30) hO dJ2_listFromTrustedArray_49 (by decide) ?_
  refine zg_iload_n hO 0 dJ2_listFromTrustedArray_30 rfl rfl ?_
  refine zg_iload_n hO 2 dJ2_listFromTrustedArray_31 rfl rfl ?_
  refine zt_icmp_ge (tgt := 52) hO (Int32.le_refl _) dJ2_listFromTrustedArray_32 (by decide) ?_
  refine zg_aload_n hO 4 dJ2_listFromTrustedArray_52 rfl rfl ?_
  refine zj_len (w := nI 4) hO W0.length 7 ap0 rfl rfl dJ2_listFromTrustedArray_53 ?_
  refine zg_tableOut (tgt := 115) hO dJ2_listFromTrustedArray_54 (Or.inr (by decide)) (by decide) ?_
  refine zj_new (ci := 8) (fs := [.null, .int 0]) (C := RJ8) (T := TJ8) (M := 2) hO in_J8 tyJ8 tyJ8_ok q319 q320 q96 rfl (fun j hj => by rcases (show j = 0 ∨ j = 1 by omega) with rfl | rfl <;> rfl) (Nat.le_of_ble_eq_true rfl) (Nat.le_of_ble_eq_true rfl) dJ2_listFromTrustedArray_115 (fun b => ?_)
  refine zg_dup hO dJ2_listFromTrustedArray_118 rfl ?_
  refine zg_aload_n hO 4 dJ2_listFromTrustedArray_119 rfl rfl ?_
  refine zg_iconst hO dJ2_listFromTrustedArray_120 ic0 ?_
  refine zg_ws (List.append_nil _).symm ?_
  refine zk_callIN (na := 2) (X := []) (As := [.ref a, .int (nI 0)]) (rest := [.ref b]) hO hX (m_listN (W0 := W0 ++ ([(a, .inl (dA 7, 4, rfA (el4 x0 x1 x2 x3)))] : va_W)) l D dA G) rfl ⟨by decide +kernel, q322, q96, q323⟩ q321 ⟨Nat.le_of_ble_eq_true rfl, Nat.le_of_ble_eq_true rfl⟩ ⟨Nat.le_of_ble_eq_true rfl, Nat.le_of_ble_eq_true rfl⟩ rfl rfl (Nat.le_of_ble_eq_true rfl) dJ2_listFromTrustedArray_121 (fun _ => ?_)
  refine zg_ws (List.append_nil _) ?_
  exact zj_aret (f := fun z : Nat => W0 ++ [(a, .inl (dA 7, 4, rfA (el4 x0 x1 x2 x3)))] ++ [(z, .inr (8, [.ref a, .int (nI 0)]))]) (a := fun z => z) hO hr (Or.inl ⟨_, rfl⟩) b rfl rfl ⟨Nat.le_refl _, Nat.le_refl _⟩ dJ2_listFromTrustedArray_124
theorem mw_J2_listFromTrustedArray : MwS yJ2_listFromTrustedArray cJ2_listFromTrustedArray 5 (some (.object "java/util/List")) 1 := ⟨by decide +kernel, q257, q90, q258⟩
theorem m_listof (l : Launch) (D : va_G) (dA : Nat → ClassId) (G : Nat → Nat) {W0 : va_W} {x0 x1 x2 x3 : Nat} (e0 : EL G W0 x0) (e1 : EL G W0 x1) (e2 : EL G W0 x2) (e3 : EL G W0 x3) : CtX l yJ1_of (ws_ yJ1_of cJ1_of 4 (some (.object "java/util/List"))) 6 2 6 D dA G [.ref x0, .ref x1, .ref x2, .ref x3] W0 (QgF D dA (fun z : Nat × Nat => W0 ++ [(z.1, .inl (dA 7, 4, rfA (el4 x0 x1 x2 x3)))] ++ [(z.2, .inr (8, [.ref z.1, .int (nI 0)]))]) (fun z => z.2)) := by
  refine zx_start (cc := cJ1_of) (nL := 4) (ret := (some (.object "java/util/List"))) (own := RJ1) (by decide) rfl rfl (Nat.le_of_ble_eq_true rfl) (fun p e s m args below meth c A hO hX hr hm _ => ?_)
  refine zg_sub (lv' := [(0, .ref x0), (1, .ref x1), (2, .ref x2), (3, .ref x3)]) [0, 1, 2, 3] rfl ?_
  refine zg_iconst hO dJ1_of_0 ic4 ?_
  refine zj_newQ (N' := 4) hO hX q254 (by decide) rfl (by decide) (Nat.le_of_ble_eq_true rfl) (Nat.le_of_ble_eq_true rfl) dJ1_of_1 (fun a => ?_)
  refine zg_dup hO dJ1_of_4 rfl ?_
  refine zg_iconst hO dJ1_of_5 ic0 ?_
  refine zg_aload_n hO 0 dJ1_of_6 rfl rfl ?_
  refine zk_stE hO hX W0.length (EL.app e0) ap0 (by unfold vp_in; decide) as0 dJ1_of_7 ?_
  refine zg_dup hO dJ1_of_8 rfl ?_
  refine zg_iconst hO dJ1_of_9 ic1 ?_
  refine zg_aload_n hO 1 dJ1_of_10 rfl rfl ?_
  refine zk_stE hO hX W0.length (EL.app e1) ap0 (by unfold vp_in; decide) as0 dJ1_of_11 ?_
  refine zg_dup hO dJ1_of_12 rfl ?_
  refine zg_iconst hO dJ1_of_13 ic2 ?_
  refine zg_aload_n hO 2 dJ1_of_14 rfl rfl ?_
  refine zk_stE hO hX W0.length (EL.app e2) ap0 (by unfold vp_in; decide) as0 dJ1_of_15 ?_
  refine zg_dup hO dJ1_of_16 rfl ?_
  refine zg_iconst hO dJ1_of_17 ic3 ?_
  refine zg_aload_n hO 3 dJ1_of_18 rfl rfl ?_
  refine zk_stE hO hX W0.length (EL.app e3) ap0 (by unfold vp_in; decide) as0 dJ1_of_19 ?_
  refine zg_ws (ws' := W0 ++ [(a, .inl (dA 7, 4, rfA (el4 x0 x1 x2 x3)))]) ?_ ?_
  · rw [el4_up]
  refine zx_callSr (na := 1) (As := [.ref a]) (rest := []) hO hX (m_lft l D dA G) mw_J2_listFromTrustedArray q256 ⟨Nat.le_of_ble_eq_true rfl, Nat.le_of_ble_eq_true rfl⟩ ⟨Nat.le_of_ble_eq_true rfl, Nat.le_of_ble_eq_true rfl⟩ rfl rfl (Nat.le_of_ble_eq_true rfl) dJ1_of_20 (fun b => ?_)
  exact zj_aret (f := fun z : Nat × Nat => W0 ++ [(z.1, .inl (dA 7, 4, rfA (el4 x0 x1 x2 x3)))] ++ [(z.2, .inr (8, [.ref z.1, .int (nI 0)]))]) (a := fun z => z.2) hO hr (Or.inl ⟨_, rfl⟩) (a, b) rfl rfl ⟨Nat.le_refl _, Nat.le_refl _⟩ dJ1_of_23
theorem mw_J1_of : MwS yJ1_of cJ1_of 4 (some (.object "java/util/List")) 4 := ⟨by decide +kernel, q252, q89, q253⟩
