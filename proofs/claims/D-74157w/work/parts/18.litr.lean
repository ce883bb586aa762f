set_option maxRecDepth 100000
section ZLI
variable {p : Program} {l : Launch} {e : Env} {s : State} {m : MethodId} {args : Array Value} {below : List Frame} {meth : Method} {c : Code} {cc : ByteArray} {own C : String} {nL : Nat} {D : va_G} {dA : Nat → ClassId} {G : Nat → Nat} {A : Nat → Prop} {Q : State → Prop} {W : va_W} {u v pc : Nat} {lv : List (Nat × Value)} {st rest : List Value}
  {y : MethodName} {bytes : ByteArray} {maxL N n' mc ms na index b : Nat} {rk rs : Nat} {ret : Option FieldType} {As : List Value} {S : Type} {f : S → va_W}
/-- a call through a class of a method that is abstract where it is declared -/
theorem zx_callAi {x : MethodName} {owner : String} (hO : Ok p s m args meth c cc own nL D dA A) (hX : XK dA G A s) {r : Int32} (hM : CtX l y (ws_ y bytes maxL ret) n' mc ms D dA G (.ref b :: As) W (QgI D dA f r)) (hw : Cond.methodLink own index x ∈ lw_all ∧ Cond.sameMethod x.cls owner x.name x.desc ∈ lw_all ∧ Cond.selects C x y ∈ lw_all ∧ Cond.instanceMethod y ∈ lw_all ∧ Cond.initialized y.cls ∈ lw_all ∧ Cond.code y bytes maxL ret ∈ lw_all) (hz : Cond.declares ⟨owner, x.name, x.desc⟩ ∈ lw_tbl) (hd : owner ≠ "java/lang/invoke/MethodHandle" ∧ owner ≠ "java/lang/invoke/VarHandle" ∧ (parseMethodDescriptor x.desc).map (fun d => d.parameters.length) = some na) (hR : n' + 1 ≤ N ∧ 8 + (maxL + 11) + 64 * n' ≤ 64 * N) (hc : u + mc ≤ rk ∧ v + ms ≤ rs) (hn : As.length = na)
    (hst : st = As.reverse ++ .ref b :: rest) (hrm : (rest.map fun x => x.category).sum ≤ 8) (hrecv : ∃ (k ci : Nat) (fs : List Value) (q : vw_C), W[k]? = some (b, .inr (ci, fs)) ∧ zg_cl[ci]? = some q ∧ q.1 = C) (hdg : decode cc pc = .ok (.invokevirtual index, 3)) (kk : ∀ z : S, Go p l e (rmG N rk rs) s m args below meth c D A nL Q (f z) (u + mc) (v + ms) (pc + 3) lv (.int r :: rest)) : Go p l e (rmG N rk rs) s m args below meth c D A nL Q W u v pc lv st := by
  intro H locs ls hP hD hS hl
  obtain ⟨k, ci, fs, q, h1, h2, rfl⟩ := hrecv
  obtain ⟨w1, w2, w3, w4, w5, w6⟩ := hw
  have hts := hO.2.2.2.2.1
  have hp := zx_pc hO hX hP hD hS (.ref b :: As)
  refine va_calli (va_runU (x := x) (owner := owner) (As := As) (rest := rest) ⟨hO.1, hO.2.1, hO.2.2.1, hO.2.2.2.1, hts⟩ (hM H.size) (va_cwA na hts (lw_app (by
      intro w hw
      simp only [List.mem_cons, List.not_mem_nil, or_false] at hw
      rcases hw with e | e | e | e | e
      · rw [e]; exact w1
      · rw [e]; exact w2
      · rw [e]; exact w3
      · rw [e]; exact w4
      · rw [e]; exact w5) (lw_meth w6)) rfl rfl rfl (hX.1.1 _ hz rfl) hd hR)
    ⟨hp.1, va_recv hO.2.2.2.2.2.1 hP h2 h1, hp.2⟩ rfl hn hl.1 hst (lv_room hrm) hdg hc) hS (fun q _ h => va_AA hO hS hD q h) (fun q h => va_AA hO hS hD q h) (fun x z t H1 locs1 ht hvm hx hB hz hk hS1 => ?_)
  subst hx
  subst ht
  exact kk z t.heap locs1 ls hB.1 (hB.2.2.weaken fun k q _ h => va_AA hO hS hD q.1 h) hS1 hl
end ZLI
/-- the iterator over the lines, at line i -/
abbrev LIT (G : Nat → Nat) (it i : Nat) : va_W := [(it, .inr (9, [.ref (G 46), .int (nI 4), .int (nI 0), .int (nI i)]))]
theorem wx_ln {dA : Nat → ClassId} {G : Nat → Nat} {tb : Nat} {ad : Nat → Nat} {σ : XS} : (WX dA G tb ad σ)[38]? = some (G 46, .inr (8, [.ref (G 47), .int (nI 0)])) := rfl
theorem m_lnsize (l : Launch) (D : va_G) (dA : Nat → ClassId) (G : Nat → Nat) {tb : Nat} {ad : Nat → Nat} {σ : XS} {X : va_W} : CtX l yJ8_size (ws_ yJ8_size cJ8_size 1 (some .int)) 0 0 0 D dA G [.ref (G 46)] (WX dA G tb ad σ ++ X) (QgI D dA (fun _ : Unit => WX dA G tb ad σ ++ X) (nI 4)) := by
  refine zx_start (cc := cJ8_size) (nL := 1) (ret := some .int) (own := RJ8) (by decide) rfl rfl (Nat.le_of_ble_eq_true rfl) (fun p e s m args below meth c A hO hX hr hm _ => ?_)
  refine zg_sub (lv' := [(0, .ref (G 46))]) [0] rfl ?_
  refine zg_aload_n hO 0 dJ8_size_0 rfl rfl ?_
  refine zg_get hO fJ8_7 38 (apW wx_ln) rfl dJ8_size_1 ?_
  refine zj_len (w := nI 4) hO 39 7 (apW (W := WX dA G tb ad σ) (x := (G 47, _)) rfl) rfl rfl dJ8_size_4 ?_
  exact zx_iret (f := fun _ : Unit => WX dA G tb ad σ ++ X) hO hr () rfl rfl ⟨Nat.le_refl _, Nat.le_refl _⟩ dJ8_size_5
theorem m_liinit (l : Launch) (D : va_G) (dA : Nat → ClassId) (G : Nat → Nat) {W : va_W} {it : Nat} : CtX l yJ16_init (ws_ yJ16_init cJ16_init 3 none) 1 0 0 D dA G [.ref it, .ref (G 46), .int (nI 4)] (W ++ [(it, .inr (9, [.null, .int (nI 0), .int (nI 0), .int (nI 0)]))]) (QgV D dA (fun _ : Unit => W ++ LIT G it 0)) := by
  refine zx_start (cc := cJ16_init) (nL := 3) (ret := none) (own := RJ16) (by decide) rfl rfl (Nat.le_of_ble_eq_true rfl) (fun p e s m args below meth c A hO hX hr hm _ => ?_)
  refine zg_sub (lv' := [(0, .ref it), (1, .ref (G 46)), (2, .int (nI 4))]) [0, 1, 2] rfl ?_
  refine zg_aload_n hO 0 dJ16_init_0 rfl rfl ?_
  refine zg_obj (rest := []) hO q644 (Nat.le_of_ble_eq_true rfl) (Nat.le_of_ble_eq_true rfl) dJ16_init_1 ?_
  refine zg_aload_n hO 0 dJ16_init_4 rfl rfl ?_
  refine zg_aload_n hO 1 dJ16_init_5 rfl rfl ?_
  refine zg_putF hO hm pJ16_7 W.length ap0 rfl rfl (Nat.le_of_ble_eq_true rfl) as0 dJ16_init_6 ?_
  refine zg_aload_n hO 0 dJ16_init_9 rfl rfl ?_
  refine zg_iload_n hO 2 dJ16_init_10 rfl rfl ?_
  refine zg_putF hO hm pJ16_13 W.length ap0 rfl rfl (Nat.le_of_ble_eq_true rfl) as0 dJ16_init_11 ?_
  refine zg_aload_n hO 0 dJ16_init_14 rfl rfl ?_
  refine zg_iconst hO dJ16_init_15 ic0 ?_
  refine zg_put hO pJ16_17 W.length ap0 rfl rfl (Nat.le_of_ble_eq_true rfl) as0 dJ16_init_16 ?_
  refine zg_aload_n hO 0 dJ16_init_19 rfl rfl ?_
  refine zg_iconst hO dJ16_init_20 ic0 ?_
  refine zg_putF hO hm pJ16_20 W.length ap0 rfl rfl (Nat.le_of_ble_eq_true rfl) as0 dJ16_init_21 ?_
  exact zx_vret (f := fun _ : Unit => W ++ LIT G it 0) hO hr () rfl ⟨Nat.le_refl _, Nat.le_refl _⟩ dJ16_init_24
theorem m_lniter (l : Launch) (D : va_G) (dA : Nat → ClassId) (G : Nat → Nat) {tb : Nat} {ad : Nat → Nat} {σ : XS} : CtX l yJ6_iterator (ws_ yJ6_iterator cJ6_iterator 1 (some (.object "java/util/Iterator"))) 2 1 4 D dA G [.ref (G 46)] (WX dA G tb ad σ) (QgF D dA (fun q : Nat => WX dA G tb ad σ ++ LIT G q 0) (fun q => q)) := by
  refine zx_start (cc := cJ6_iterator) (nL := 1) (ret := some (.object "java/util/Iterator")) (own := RJ6) (by decide) rfl rfl (Nat.le_of_ble_eq_true rfl) (fun p e s m args below meth c A hO hX hr hm _ => ?_)
  refine zg_sub (lv' := [(0, .ref (G 46))]) [0] rfl ?_
  refine zj_new (ci := 9) (fs := [.null, .int (nI 0), .int (nI 0), .int (nI 0)]) (C := RJ16) (T := TJ16) (M := 4) hO in_J16 tyJ16 tyJ16_ok q630 q631 q107 rfl (fun j hj => by rcases (show j = 0 ∨ j = 1 ∨ j = 2 ∨ j = 3 by omega) with rfl | rfl | rfl | rfl <;> rfl) (Nat.le_of_ble_eq_true rfl) (Nat.le_of_ble_eq_true rfl) dJ6_iterator_0 (fun q => ?_)
  refine zg_dup hO dJ6_iterator_3 rfl ?_
  refine zg_aload_n hO 0 dJ6_iterator_4 rfl rfl ?_
  refine zg_aload_n hO 0 dJ6_iterator_5 rfl rfl ?_
  refine zx_callAi (na := 0) (C := RJ8) (x := ⟨RJ6, "size", "()I"⟩) (owner := "java/util/AbstractCollection") (As := []) (rest := [.ref (G 46), .ref q, .ref q]) hO hX (m_lnsize l D dA G) ⟨q632, q633, q638, q639, q96, q640⟩ q634 ⟨by decide, by decide, by decide +kernel⟩ ⟨Nat.le_of_ble_eq_true rfl, Nat.le_of_ble_eq_true rfl⟩ ⟨Nat.le_of_ble_eq_true rfl, Nat.le_of_ble_eq_true rfl⟩ rfl rfl (Nat.le_of_ble_eq_true rfl) ⟨38, 8, _, _, apW wx_ln, rfl, rfl⟩ dJ6_iterator_6 (fun _ => ?_)
  refine zx_callIv (na := 2) (As := [.ref (G 46), .int (nI 4)]) (rest := [.ref q]) hO hX (m_liinit l D dA G) rfl ⟨by decide +kernel, q642, q107, q643⟩ q641 ⟨Nat.le_of_ble_eq_true rfl, Nat.le_of_ble_eq_true rfl⟩ ⟨Nat.le_of_ble_eq_true rfl, Nat.le_of_ble_eq_true rfl⟩ rfl rfl (Nat.le_of_ble_eq_true rfl) dJ6_iterator_9 (fun _ => ?_)
  exact zj_aret (f := fun q : Nat => WX dA G tb ad σ ++ LIT G q 0) (a := fun q => q) hO hr (Or.inl ⟨_, rfl⟩) q rfl rfl ⟨Nat.le_refl _, Nat.le_refl _⟩ dJ6_iterator_12
theorem m_lihas (l : Launch) (D : va_G) (dA : Nat → ClassId) (G : Nat → Nat) {W : va_W} {it i : Nat} (hi : i < 5) : CtX l yJ16_hasNext (ws_ yJ16_hasNext cJ16_hasNext 1 (some .boolean)) 0 0 0 D dA G [.ref it] (W ++ LIT G it i) (QgI D dA (fun _ : Unit => W ++ LIT G it i) (if i = 4 then nI 0 else nI 1)) := by
  refine zx_start (cc := cJ16_hasNext) (nL := 1) (ret := some .boolean) (own := RJ16) (by decide) rfl rfl (Nat.le_of_ble_eq_true rfl) (fun p e s m args below meth c A hO hX hr hm _ => ?_)
  refine zg_sub (lv' := [(0, .ref it)]) [0] rfl ?_
  refine zg_aload_n hO 0 dJ16_hasNext_0 rfl rfl ?_
  refine zg_get hO fJ16_17 W.length ap0 rfl dJ16_hasNext_1 ?_
  refine zg_aload_n hO 0 dJ16_hasNext_4 rfl rfl ?_
  refine zg_get hO fJ16_13 W.length ap0 rfl dJ16_hasNext_5 ?_
  have hq : ∀ i : Nat, i < 5 → (nI i = nI 4 ↔ i = 4) := by decide
  by_cases hz : i = 4
  · refine zt_icmp_eq (tgt := 15) hO ((hq i hi).mpr hz) dJ16_hasNext_8 (by decide) ?_
    refine zg_iconst hO dJ16_hasNext_15 ic0 ?_
    exact zx_zret (f := fun _ : Unit => W ++ LIT G it i) hO hr (Or.inl rfl) () rfl (by rw [if_pos hz]) ⟨Nat.le_refl _, Nat.le_refl _⟩ dJ16_hasNext_16
  · refine zn_icmp_eq (tgt := 15) hO (fun h => hz ((hq i hi).mp h)) dJ16_hasNext_8 (by decide) ?_
    refine zg_iconst hO dJ16_hasNext_11 ic1 ?_
    refine zg_goto (tgt := 16) hO dJ16_hasNext_12 (by decide) ?_
    exact zx_zret (f := fun _ : Unit => W ++ LIT G it i) hO hr (Or.inr rfl) () rfl (by rw [if_neg hz]) ⟨Nat.le_refl _, Nat.le_refl _⟩ dJ16_hasNext_16
theorem m_lgetX (l : Launch) (D : va_G) (dA : Nat → ClassId) (G : Nat → Nat) {i : Int32} {tb : Nat} {ad : Nat → Nat} {σ : XS} {X : va_W} (hi : ¬ (i < 0 ∨ 4 ≤ i.toNatClampNeg)) : CtX l yJ8_get (ws_ yJ8_get cJ8_get 2 (some (.object "java/lang/Object"))) 0 0 0 D dA G [.ref (G 46), .int i] (WX dA G tb ad σ ++ X) (QgF D dA (fun _ : Unit => WX dA G tb ad σ ++ X) (fun _ => G (48 + 3 * i.toNatClampNeg))) := by
  refine zx_start (cc := cJ8_get) (nL := 2) (ret := some (.object "java/lang/Object")) (own := RJ8) (by decide) rfl rfl (Nat.le_of_ble_eq_true rfl) (fun p e s m args below meth c A hO hX hr hm _ => ?_)
  refine zg_sub (lv' := [(0, .ref (G 46)), (1, .int i)]) [0, 1] rfl ?_
  refine zg_aload_n hO 0 dJ8_get_0 rfl rfl ?_
  refine zg_get hO fJ8_7 38 (apW wx_ln) rfl dJ8_get_1 ?_
  refine zg_iload_n hO 1 dJ8_get_4 rfl rfl ?_
  refine zj_ldQ hO (n := 4) (f := fun j => some (G (48 + 3 * j))) hi 39 (apW (W := WX dA G tb ad σ) (x := (G 47, _)) rfl) dJ8_get_5 ?_
  exact zj_aret (f := fun _ : Unit => WX dA G tb ad σ ++ X) (a := fun _ => G (48 + 3 * i.toNatClampNeg)) hO hr (Or.inl ⟨_, rfl⟩) () rfl rfl ⟨Nat.le_refl _, Nat.le_refl _⟩ dJ8_get_6
theorem m_linext (l : Launch) (D : va_G) (dA : Nat → ClassId) (G : Nat → Nat) {tb : Nat} {ad : Nat → Nat} {σ : XS} {it i : Nat} (hi : i < 4) : CtX l yJ16_next (wsW_ yJ16_next cJ16_next 3 (some (.object "java/lang/Object")) [(0, 24, 25, 30)]) 1 0 0 D dA G [.ref it] (WX dA G tb ad σ ++ LIT G it i) (QgF D dA (fun _ : Unit => WX dA G tb ad σ ++ LIT G it (i + 1)) (fun _ => G (48 + 3 * i))) := by
  have hq : ∀ i : Nat, i < 4 → ¬ (nI i < 0 ∨ 4 ≤ (nI i).toNatClampNeg) ∧ (nI i).toNatClampNeg = i ∧ nI i + nI 1 = nI (i + 1) := by decide
  obtain ⟨h1, h2, h3⟩ := hq i hi
  refine zx_startW (cc := cJ16_next) (nL := 3) (ret := some (.object "java/lang/Object")) (own := RJ16) (hh := [(0, 24, 25, 30)]) (by decide) rfl rfl (Nat.le_of_ble_eq_true rfl) (fun p e s m args below meth c A hO hX hr hm _ => ?_)
  refine zg_sub (lv' := [(0, .ref it)]) [0] rfl ?_
  refine zg_aload_n hO 0 dJ16_next_0 rfl rfl ?_
  refine zg_get hO fJ16_17 (WX dA G tb ad σ).length ap0 rfl dJ16_next_1 ?_
  refine zg_istore_n (lv' := [(1, .int (nI i)), (0, .ref it)]) hO dJ16_next_4 rfl (Nat.le_of_ble_eq_true rfl) rfl ?_
  refine zg_aload_n hO 1 dJ16_next_5 rfl rfl ?_
  refine zg_get hO fJ16_7 (WX dA G tb ad σ).length ap0 rfl dJ16_next_6 ?_
  refine zg_iload_n hO 0 dJ16_next_9 rfl rfl ?_
  refine zx_callFr (na := 1) (C := RJ8) (x := ⟨"java/util/List", "get", "(I)Ljava/lang/Object;"⟩) (y := yJ8_get) (As := [.int (nI i)]) (rest := []) hO hX (m_lgetX l D dA G h1) (List.mem_of_getElem? (i := 0) rfl) q1080 ⟨q1082, q96, q1084⟩ q1072 ⟨by decide, by decide, by decide +kernel⟩ ⟨Nat.le_of_ble_eq_true rfl, Nat.le_of_ble_eq_true rfl⟩ ⟨Nat.le_refl _, Nat.le_refl _⟩ rfl rfl (Nat.le_of_ble_eq_true rfl) ⟨38, 8, _, _, apW wx_ln, rfl, rfl⟩ dJ16_next_10 (fun _ => ?_)
  rw [h2]
  refine zg_astore_n (lv' := [(2, .ref (G (48 + 3 * i))), (1, .int (nI i)), (0, .ref it)]) hO dJ16_next_15 rfl (Nat.le_of_ble_eq_true rfl) rfl ?_
  refine zg_aload_n hO 2 dJ16_next_16 rfl rfl ?_
  refine zg_iload_n hO 1 dJ16_next_17 rfl rfl ?_
  refine zg_iconst hO dJ16_next_18 ic1 ?_
  refine zg_iadd hO dJ16_next_19 ?_
  refine zg_put hO pJ16_17 (WX dA G tb ad σ).length ap0 rfl rfl (Nat.le_of_ble_eq_true rfl) as0 dJ16_next_20 ?_
  refine zg_aload_n hO 0 dJ16_next_23 rfl rfl ?_
  rw [h3]
  exact zj_aret (f := fun _ : Unit => WX dA G tb ad σ ++ LIT G it (i + 1)) (a := fun _ => G (48 + 3 * i)) hO hr (Or.inl ⟨_, rfl⟩) () rfl rfl ⟨Nat.le_refl _, Nat.le_refl _⟩ dJ16_next_24
section ZLC
variable {p : Program} {l : Launch} {e : Env} {R : Room} {s : State} {m : MethodId} {args : Array Value} {below : List Frame} {meth : Method} {c : Code} {cc : ByteArray} {own : String} {nL : Nat} {D : va_G} {dA : Nat → ClassId} {A : Nat → Prop} {Q : State → Prop} {ws : va_W} {u v pc : Nat} {lv : List (Nat × Value)} {st : List Value}
theorem zj_castL (hO : Ok p s m args meth c cc own nL D dA A) (q0 : Nat) {a index : Nat} {fs : List Value} (he : ws[q0]? = some (a, .inr (2, fs))) (hlk : Cond.classLink own index "EndSums$Line" ∈ lw_all) (hdg : decode cc pc = .ok (.checkcast index, 3)) (kk : Go p l e R s m args below meth c D A nL Q ws u v (pc + 3) lv (.ref a :: st)) : Go p l e R s m args below meth c D A nL Q ws u v pc lv (.ref a :: st) :=
  fun H locs ls hP hD hS hl => va_castS (nm := "EndSums$Line") hO.1 hO.2.1 hO.2.2.2.1 (hO.2.2.2.2.1 _ hlk) (hO.2.2.2.2.2.1.1 2 _ rfl).2 (va_recv hO.2.2.2.2.2.1 hP (ci := 2) (q := (RX3, TX3, 3)) rfl he) hdg (kk H locs ls hP hD hS hl)
end ZLC
def X_laysAll1 : Nat → Nat → XS → Option XS
  | 0, _, σ => some σ
  | r + 1, i, σ => (Xl_anew i (xA σ (5 + i) 0) σ).bind fun σ => X_laysAll1 r (i + 1) σ
def X_laysAll (σ : XS) : Option XS := X_laysAll1 4 0 σ
theorem laysAll_l {p : Program} {l : Launch} {e : Env} {s : State} {m : MethodId} {args : Array Value} {below : List Frame} {meth : Method} {c : Code} {D : va_G} {dA : Nat → ClassId} {G : Nat → Nat} {A : Nat → Prop} (hO : Ok p s m args meth c cX1_laysAll RX1 3 D dA A) (hX : XK dA G A s) (hr : meth.sig.returnType = none) {ρ : XS} {it : Nat} : ∀ (r i : Nat) (σ : XS) (tb : Nat) (ad : Nat → Nat) (u v : Nat), r + i = 4 → u + 70 * r ≤ 290 → v + 534 * r ≤ 2200 → X_laysAll1 r i σ = some ρ →
    Go p l e (rmG 60 290 2200) s m args below meth c D A 3 (MQ below ((QgV D dA (fun z : (Nat → Nat) × Nat => WX dA G z.2 z.1 ρ)) A) args s 290 2200 A) (WX dA G tb ad σ ++ LIT G it i) u v 10 [(1, .ref it)] [] := by
  intro r
  induction r with
  | zero =>
    intro i σ tb ad u v hi hu hv h
    cases h
    have hi : i = 4 := by omega
    subst hi
    refine zg_aload_n hO 0 dX1_laysAll_10 rfl rfl ?_
    refine zx_callFi (na := 0) (C := RJ16) (x := ⟨"java/util/Iterator", "hasNext", "()Z"⟩) (y := yJ16_hasNext) (As := []) (rest := []) hO hX (m_lihas l D dA G (by omega)) (List.mem_of_getElem? (i := 3) rfl) q725 ⟨q727, q107, q729⟩ q704 ⟨by decide, by decide, by decide +kernel⟩ ⟨Nat.le_of_ble_eq_true rfl, Nat.le_of_ble_eq_true rfl⟩ ⟨by omega, by omega⟩ rfl rfl (Nat.le_of_ble_eq_true rfl) ⟨(WX dA G tb ad ρ).length, 9, _, _, ap0, rfl, rfl⟩ dX1_laysAll_11 (fun _ => ?_)
    rw [if_pos rfl]
    refine zt_if_eq (tgt := 42) hO (by decide) dX1_laysAll_16 (by decide) ?_
    refine zj_tail ?_
    refine zx_vret (f := fun z : (Nat → Nat) × Nat => WX dA G z.2 z.1 ρ) hO hr (ad, tb) rfl ⟨?_, ?_⟩ dX1_laysAll_42 <;> omega
  | succ r ih =>
    intro i σ tb ad u v hi hu hv h
    unfold X_laysAll1 at h
    obtain ⟨σ2, h1, h⟩ := zg_bind h
    have hi5 : i < 5 := by omega
    refine zg_aload_n hO 0 dX1_laysAll_10 rfl rfl ?_
    refine zx_callFi (na := 0) (C := RJ16) (x := ⟨"java/util/Iterator", "hasNext", "()Z"⟩) (y := yJ16_hasNext) (As := []) (rest := []) hO hX (m_lihas l D dA G (by omega)) (List.mem_of_getElem? (i := 3) rfl) q725 ⟨q727, q107, q729⟩ q704 ⟨by decide, by decide, by decide +kernel⟩ ⟨Nat.le_of_ble_eq_true rfl, Nat.le_of_ble_eq_true rfl⟩ ⟨by omega, by omega⟩ rfl rfl (Nat.le_of_ble_eq_true rfl) ⟨(WX dA G tb ad σ).length, 9, _, _, ap0, rfl, rfl⟩ dX1_laysAll_11 (fun _ => ?_)
    rw [if_neg (show ¬ i = 4 by omega)]
    refine zn_if_eq (tgt := 42) hO (by decide) dX1_laysAll_16 (by decide) ?_
    refine zg_aload_n hO 0 dX1_laysAll_19 rfl rfl ?_
    refine zx_callFrW (na := 0) (C := RJ16) (x := ⟨"java/util/Iterator", "next", "()Ljava/lang/Object;"⟩) (y := yJ16_next) (As := []) (rest := []) hO hX (m_linext l D dA G (by omega)) (List.mem_of_getElem? (i := 4) rfl) q1066 ⟨q1068, q107, q1070⟩ q737 ⟨by decide, by decide, by decide +kernel⟩ ⟨Nat.le_of_ble_eq_true rfl, Nat.le_of_ble_eq_true rfl⟩ ⟨by omega, by omega⟩ rfl rfl (Nat.le_of_ble_eq_true rfl) ⟨(WX dA G tb ad σ).length, 9, _, _, ap0, rfl, rfl⟩ dX1_laysAll_20 (fun _ => ?_)
    refine zj_castL hO (40 + 3 * i) (apW (wx_line hi5)) q231 dX1_laysAll_25 ?_
    refine zg_astore_n (lv' := [(2, .ref (G (48 + 3 * i))), (1, .ref it)]) hO dX1_laysAll_28 rfl (Nat.le_of_ble_eq_true rfl) rfl ?_
    refine zg_aload_n hO 0 dX1_laysAll_29 rfl rfl ?_
    refine zg_aload_n hO 0 dX1_laysAll_30 rfl rfl ?_
    refine zg_getN hO hX.1 fX_1_225 (40 + 3 * i) (apW (wx_line hi5)) rfl dX1_laysAll_31 ?_
    refine zg_iconst hO dX1_laysAll_34 ic0 ?_
    refine zg_ild (g := some ()) (z := ()) hO (by decide) (42 + 3 * i) (apW (wx_many hi5)) dX1_laysAll_35 (fun _ => ?_)
    refine zx_callVvX (na := 1) (As := [.int (xA σ (5 + i) 0)]) (rest := []) hO hX (m_Xl_anew l D dA G hi5 tb ad h1) mw_X3_anew q1102 ⟨Nat.le_of_ble_eq_true rfl, Nat.le_of_ble_eq_true rfl⟩ ⟨by omega, by omega⟩ rfl rfl (Nat.le_of_ble_eq_true rfl) ⟨40 + 3 * i, 2, _, _, wx_line hi5, rfl, rfl⟩ dX1_laysAll_36 (fun z => ?_)
    refine zg_goto (tgt := 10) hO dX1_laysAll_39 (by decide) ?_
    refine zg_sub (lv' := [(1, .ref it)]) [1] rfl ?_
    exact ih (i + 1) σ2 z.2 z.1 (u + 0 + 0 + 70) (v + 0 + 0 + 534) (by omega) (by omega) (by omega) h
theorem mw_X1_laysAll : MwX yX1_laysAll cX1_laysAll 3 none RX1 0 := ⟨by decide +kernel, q618, qs16, q85, q619⟩
theorem m_X_laysAll (l : Launch) (D : va_G) (dA : Nat → ClassId) (G : Nat → Nat) {σ : XS} (tb : Nat) (ad : Nat → Nat) {ρ : XS} (h : X_laysAll σ = some ρ) : CtX l yX1_laysAll (ws_ yX1_laysAll cX1_laysAll 3 none) 60 290 2200 D dA G [.ref (G 0)] (WX dA G tb ad σ) (QgV D dA (fun z : (Nat → Nat) × Nat => WX dA G z.2 z.1 ρ)) := by
  refine zx_start (cc := cX1_laysAll) (nL := 3) (ret := none) (own := RX1) (by decide) rfl rfl (Nat.le_of_ble_eq_true rfl) (fun p e s m args below meth c A hO hX hr hm _ => ?_)
  refine zg_sub (lv' := [(0, .ref (G 0))]) [0] rfl ?_
  refine zg_aload_n hO 0 dX1_laysAll_0 rfl rfl ?_
  refine xG_1_162 hO hX dX1_laysAll_1 ?_
  refine zx_callFr (na := 0) (C := RJ8) (x := ⟨"java/util/List", "iterator", "()Ljava/util/Iterator;"⟩) (y := yJ6_iterator) (As := []) (rest := []) hO hX (m_lniter l D dA G) (List.mem_of_getElem? (i := 2) rfl) q659 ⟨q627, q94, q629⟩ q621 ⟨by decide, by decide, by decide +kernel⟩ ⟨Nat.le_of_ble_eq_true rfl, Nat.le_of_ble_eq_true rfl⟩ ⟨Nat.le_of_ble_eq_true rfl, Nat.le_of_ble_eq_true rfl⟩ rfl rfl (Nat.le_of_ble_eq_true rfl) ⟨38, 8, _, _, wx_ln, rfl, rfl⟩ dX1_laysAll_4 (fun it => ?_)
  refine zg_astore_n (lv' := [(1, .ref it), (0, .ref (G 0))]) hO dX1_laysAll_9 rfl (Nat.le_of_ble_eq_true rfl) rfl ?_
  refine zg_sub (lv' := [(1, .ref it)]) [0] rfl ?_
  exact laysAll_l hO hX hr 4 0 σ tb ad (0 + 1) (0 + 4) rfl (by decide) (by decide) h
def X_rule (x1 : Int32) (σ : XS) : Option (Int32 × XS) := ((X_in (x1.toInt64) (lN 0) (7 : Int64)).bind fun q1 => (if q1 = 0 then some ((-1 : Int32), σ) else (if (xI σ 0) = x1 then some ((-2 : Int32), σ) else (if 0 + 290 ≤ 290 ∧ 0 + 2200 ≤ 2200 then ((X_laysAll (zI σ 0 x1)).bind fun q2 => some ((xI σ 0), q2)) else none))))

section ZXW
variable {p : Program} {l : Launch} {e : Env} {s : State} {m : MethodId} {args : Array Value} {below : List Frame} {meth : Method} {c : Code} {D : va_G} {dA : Nat → ClassId} {G : Nat → Nat} {A : Nat → Prop}
theorem mw_X1_rule : MwX yX1_rule cX1_rule 3 (some .int) RX1 1 := ⟨by decide +kernel, q612, q613, q85, q614⟩
set_option maxHeartbeats 4000000 in
theorem m_X_rule (l : Launch) (D : va_G) (dA : Nat → ClassId) (G : Nat → Nat) {x1 : Int32} {σ : XS} (tb : Nat) (ad : Nat → Nat) {ρ : Int32 × XS} (h : X_rule x1 σ = some ρ) : CtX l yX1_rule (ws_ yX1_rule cX1_rule 3 (some .int)) 61 290 2200 D dA G [.ref (G 0), .int x1] (WX dA G tb ad σ) (QgI D dA (fun z : (Nat → Nat) × Nat => WX dA G z.2 z.1 ρ.2) ρ.1) := by
  refine zx_start (cc := cX1_rule) (nL := 3) (ret := (some .int)) (own := RX1) (by decide) rfl rfl (Nat.le_of_ble_eq_true rfl) (fun p e s m args below meth c A hO hX hr _ _ => ?_)
  unfold X_rule at h
  refine zg_sub (lv' := [(0, .ref (G 0)), (1, .int x1)]) [0, 1] rfl ?_
  refine zg_iload_n hO 1 dX1_rule_0 rfl rfl ?_
  refine zg_i2l hO dX1_rule_1 ?_
  refine zg_lconst hO dX1_rule_2 lc0 ?_
  refine zg_ldc2 (x := 7) hO q615 dX1_rule_3 ?_
  refine zs_calli (As := [.long (x1.toInt64), .long (lN 0), .long (7 : Int64)]) (rest := []) hO h (fun q hq => m_X_in l D dA hq) mw_X1_in q608 ⟨Nat.le_of_ble_eq_true rfl, Nat.le_of_ble_eq_true rfl⟩ ⟨Nat.zero_le _, Nat.zero_le _⟩ rfl rfl (Nat.le_of_ble_eq_true rfl) dX1_rule_6 (fun q1 h => ?_)
  refine zg_if_ne (tgt := 14) hO h dX1_rule_9 (by decide) (fun h => ?_) (fun h => ?_)
  · refine zg_aload_n hO 0 dX1_rule_14 rfl rfl ?_
    refine xG_1_92 hO hX dX1_rule_15 ?_
    refine zg_istore_n (lv' := [(2, .int (xI σ 0)), (0, .ref (G 0)), (1, .int x1)]) hO dX1_rule_18 rfl (Nat.le_of_ble_eq_true rfl) rfl ?_
    refine zg_iload_n hO 0 dX1_rule_19 rfl rfl ?_
    refine zg_iload_n hO 2 dX1_rule_20 rfl rfl ?_
    refine zg_icmp_ne (tgt := 27) hO h dX1_rule_21 (by decide) (fun h => ?_) (fun h => ?_)
    · refine zg_aload_n hO 1 dX1_rule_27 rfl rfl ?_
      refine zg_iload_n hO 2 dX1_rule_28 rfl rfl ?_
      refine xP_1_92 hO hX dX1_rule_29 ?_
      refine zg_aload_n hO 1 dX1_rule_32 rfl rfl ?_
      refine zg_chk h (fun hc3 h => ?_)
      refine zy_callVvG (b := G 0) (As := []) (rest := []) hO hX h (fun q hq => m_X_laysAll l D dA G tb ad hq) mw_X1_laysAll q616 ⟨Nat.le_of_ble_eq_true rfl, Nat.le_of_ble_eq_true rfl⟩ hc3 rfl rfl (Nat.le_of_ble_eq_true rfl) ⟨0, 1, _, _, rfl, rfl, rfl⟩ dX1_rule_33 (fun q2 ad tb h => ?_)
      refine zg_iload_n hO 0 dX1_rule_36 rfl rfl ?_
      exact zy_iretG hO hr h hc3 dX1_rule_37
    · refine zg_bipush hO dX1_rule_24 bcm2 ?_
      exact zy_iretG hO hr h ⟨Nat.zero_le _, Nat.zero_le _⟩ dX1_rule_26
  · refine zg_iconst hO dX1_rule_12 icm1 ?_
    exact zy_iretG hO hr h ⟨Nat.zero_le _, Nat.zero_le _⟩ dX1_rule_13
end ZXW
