set_option maxRecDepth 100000
/-! LinkedList -/
/-- the nodes: their addresses and elements, in order; what is ahead of them, what comes behind them -/
def hdL : List (Nat × Nat) → Option Nat → Option Nat
  | [], o => o
  | (a, _) :: _, _ => some a
def pvL : Option Nat → List (Nat × Nat) → Option Nat
  | o, [] => o
  | _, (a, _) :: t => pvL (some a) t
def LN (prev nx : Option Nat) : List (Nat × Nat) → va_W
  | [] => []
  | (a, x) :: t => (a, .inr (7, [.ref x, va_rf (hdL t nx), va_rf prev])) :: LN (some a) nx t
def LO (ll : Nat) (mc : Int32) (xs : List (Nat × Nat)) : Nat × va_E := (ll, .inr (6, [.int mc, .int (nI xs.length), va_rf (hdL xs none), va_rf (pvL none xs)]))
def LL (ll : Nat) (mc : Int32) (xs : List (Nat × Nat)) : va_W := LO ll mc xs :: LN none none xs
theorem hdL_snoc {ys : List (Nat × Nat)} {b : Nat × Nat} {o : Option Nat} : hdL (ys ++ [b]) o = hdL ys (some b.1) := by
  cases ys <;> rfl
theorem pvL_snoc {b : Nat × Nat} : ∀ {ys : List (Nat × Nat)} {o : Option Nat}, pvL o (ys ++ [b]) = some b.1 := by
  intro ys
  induction ys with
  | nil => intro o; rfl
  | cons c ys ih => intro o; exact ih
theorem LN_snoc {a y : Nat} {nx : Option Nat} : ∀ {ys : List (Nat × Nat)} {prev : Option Nat}, LN prev nx (ys ++ [(a, y)]) = LN prev (some a) ys ++ [(a, .inr (7, [.ref y, va_rf nx, va_rf (pvL prev ys)]))] := by
  intro ys
  induction ys with
  | nil => intro prev; rfl
  | cons c ys ih =>
    intro prev
    obtain ⟨b, z⟩ := c
    show ((b, .inr (7, [.ref z, va_rf (hdL (ys ++ [(a, y)]) nx), va_rf prev])) :: LN (some b) nx (ys ++ [(a, y)]) : va_W) = _
    rw [ih, hdL_snoc]
    rfl
theorem apB {α : Type} {W B : List α} {x y : α} {L : List α} : (W ++ x :: (B ++ y :: L))[W.length + 1 + B.length]? = some y := by
  rw [List.getElem?_append_right (by omega), show W.length + 1 + B.length - W.length = B.length + 1 by omega, List.getElem?_cons_succ]
  exact ap0
theorem asB {α : Type} {W B : List α} {x y z : α} {L : List α} : (W ++ x :: (B ++ y :: L)).set (W.length + 1 + B.length) z = W ++ x :: (B ++ z :: L) := by
  rw [List.set_append_right _ _ (by omega), show W.length + 1 + B.length - W.length = B.length + 1 by omega, List.set_cons_succ, as0]
theorem ll_suc : ∀ a : Nat, a < 300 → nI a + nI 1 = nI (a + 1) := by decide +kernel
theorem pJ9_7 : FdP RJ9 7 6 0 .int := ⟨RJ11, TJ11, 4, "java/util/AbstractList", tyJ11, rfl, in_J11, by decide, q377, Or.inl rfl, tyJ11_ok, nmJ11, rfl, tyJ11_ok 0 (by decide)⟩
theorem m_alinit (l : Launch) (D : va_G) (dA : Nat → ClassId) (G : Nat → Nat) {W0 : va_W} {d : Nat} {x0 x1 : Int32} {x2 x3 : Value} : CtX l yJ9_init (ws_ yJ9_init cJ9_init 1 none) 2 0 0 D dA G [.ref d] (W0 ++ [(d, .inr (6, [.int x0, .int x1, x2, x3]))]) (QgV D dA (fun _ : Unit => (W0 ++ [(d, .inr (6, [.int (nI 0), .int x1, x2, x3]))]))) := by
  refine zx_start (cc := cJ9_init) (nL := 1) (ret := none) (own := RJ9) (by decide) rfl rfl (Nat.le_of_ble_eq_true rfl) (fun p e s m args below meth c A hO hX hr hm _ => ?_)
  refine zg_sub (lv' := [(0, .ref d)]) [0] rfl ?_
  refine zg_aload_n hO 0 dJ9_init_0 rfl rfl ?_
  refine zx_callIv (As := []) (rest := []) hO hX (m_acinit l D dA G) rfl ⟨by decide +kernel, q303, q92, q304⟩ q372 ⟨Nat.le_of_ble_eq_true rfl, Nat.le_of_ble_eq_true rfl⟩ ⟨Nat.zero_le _, Nat.zero_le _⟩ rfl rfl (Nat.le_of_ble_eq_true rfl) dJ9_init_1 (fun _ => ?_)
  refine zg_aload_n hO 0 dJ9_init_4 rfl rfl ?_
  refine zg_iconst hO dJ9_init_5 ic0 ?_
  refine zg_put hO pJ9_7 W0.length ap0 rfl rfl (Nat.le_of_ble_eq_true rfl) as0 dJ9_init_6 ?_
  exact zx_vret (f := fun _ : Unit => (W0 ++ [(d, .inr (6, [.int (nI 0), .int x1, x2, x3]))])) hO hr () rfl ⟨Nat.le_refl _, Nat.le_refl _⟩ dJ9_init_9
theorem m_aslinit (l : Launch) (D : va_G) (dA : Nat → ClassId) (G : Nat → Nat) {W0 : va_W} {d : Nat} {x0 x1 : Int32} {x2 x3 : Value} : CtX l yJ10_init (ws_ yJ10_init cJ10_init 1 none) 3 0 0 D dA G [.ref d] (W0 ++ [(d, .inr (6, [.int x0, .int x1, x2, x3]))]) (QgV D dA (fun _ : Unit => (W0 ++ [(d, .inr (6, [.int (nI 0), .int x1, x2, x3]))]))) := by
  refine zx_start (cc := cJ10_init) (nL := 1) (ret := none) (own := RJ10) (by decide) rfl rfl (Nat.le_of_ble_eq_true rfl) (fun p e s m args below meth c A hO hX hr hm _ => ?_)
  refine zg_sub (lv' := [(0, .ref d)]) [0] rfl ?_
  refine zg_aload_n hO 0 dJ10_init_0 rfl rfl ?_
  refine zx_callIv (As := []) (rest := []) hO hX (m_alinit l D dA G) rfl ⟨by decide +kernel, q370, q97, q371⟩ q369 ⟨Nat.le_of_ble_eq_true rfl, Nat.le_of_ble_eq_true rfl⟩ ⟨Nat.zero_le _, Nat.zero_le _⟩ rfl rfl (Nat.le_of_ble_eq_true rfl) dJ10_init_1 (fun _ => ?_)
  exact zx_vret (f := fun _ : Unit => (W0 ++ [(d, .inr (6, [.int (nI 0), .int x1, x2, x3]))])) hO hr () rfl ⟨Nat.le_refl _, Nat.le_refl _⟩ dJ10_init_4
theorem m_llinit (l : Launch) (D : va_G) (dA : Nat → ClassId) (G : Nat → Nat) {W0 : va_W} {d : Nat} : CtX l yJ11_init_2 (ws_ yJ11_init_2 cJ11_init_2 1 none) 4 0 0 D dA G [.ref d] (W0 ++ [(d, .inr (6, [.int (nI 0), .int (nI 0), .null, .null]))]) (QgV D dA (fun _ : Unit => W0 ++ LL d (nI 0) [])) := by
  refine zx_start (cc := cJ11_init_2) (nL := 1) (ret := none) (own := RJ11) (by decide) rfl rfl (Nat.le_of_ble_eq_true rfl) (fun p e s m args below meth c A hO hX hr hm _ => ?_)
  refine zg_sub (lv' := [(0, .ref d)]) [0] rfl ?_
  refine zg_aload_n hO 0 dJ11_init_2_0 rfl rfl ?_
  refine zx_callIv (As := []) (rest := []) hO hX (m_aslinit l D dA G) rfl ⟨by decide +kernel, q367, q98, q368⟩ q366 ⟨Nat.le_of_ble_eq_true rfl, Nat.le_of_ble_eq_true rfl⟩ ⟨Nat.zero_le _, Nat.zero_le _⟩ rfl rfl (Nat.le_of_ble_eq_true rfl) dJ11_init_2_1 (fun _ => ?_)
  refine zg_aload_n hO 0 dJ11_init_2_4 rfl rfl ?_
  refine zg_iconst hO dJ11_init_2_5 ic0 ?_
  refine zg_put hO pJ11_7 W0.length ap0 rfl rfl (Nat.le_of_ble_eq_true rfl) as0 dJ11_init_2_6 ?_
  exact zx_vret (f := fun _ : Unit => W0 ++ LL d (nI 0) []) hO hr () rfl ⟨Nat.le_refl _, Nat.le_refl _⟩ dJ11_init_2_9
theorem m_noden (l : Launch) (D : va_G) (dA : Nat → ClassId) (G : Nat → Nat) {W0 : va_W} {q x : Nat} : CtX l yJ15_init (ws_ yJ15_init cJ15_init 4 none) 1 0 0 D dA G [.ref q, .null, .ref x, .null] (W0 ++ [(q, .inr (7, [.null, .null, .null]))]) (QgV D dA (fun _ : Unit => W0 ++ [(q, .inr (7, [.ref x, .null, .null]))])) := by
  refine zx_start (cc := cJ15_init) (nL := 4) (ret := none) (own := RJ15) (by decide) rfl rfl (Nat.le_of_ble_eq_true rfl) (fun p e s m args below meth c A hO hX hr hm _ => ?_)
  refine zg_sub (lv' := [(0, .ref q), (1, .null), (2, .ref x), (3, .null)]) [0, 1, 2, 3] rfl ?_
  refine zg_aload_n hO 0 dJ15_init_0 rfl rfl ?_
  refine zg_obj (rest := []) hO q471 (Nat.le_of_ble_eq_true rfl) (Nat.le_of_ble_eq_true rfl) dJ15_init_1 ?_
  refine zg_aload_n hO 0 dJ15_init_4 rfl rfl ?_
  refine zg_aload_n hO 2 dJ15_init_5 rfl rfl ?_
  refine zg_put hO pJ15_7 W0.length ap0 rfl rfl (Nat.le_of_ble_eq_true rfl) as0 dJ15_init_6 ?_
  refine zg_aload_n hO 0 dJ15_init_9 rfl rfl ?_
  refine zg_aload_nN hO 3 dJ15_init_10 rfl rfl ?_
  refine zg_put hO pJ15_13 W0.length ap0 rfl rfl (Nat.le_of_ble_eq_true rfl) as0 dJ15_init_11 ?_
  refine zg_aload_n hO 0 dJ15_init_14 rfl rfl ?_
  refine zg_aload_nN hO 1 dJ15_init_15 rfl rfl ?_
  refine zg_put hO pJ15_17 W0.length ap0 rfl rfl (Nat.le_of_ble_eq_true rfl) as0 dJ15_init_16 ?_
  exact zx_vret (f := fun _ : Unit => W0 ++ [(q, .inr (7, [.ref x, .null, .null]))]) hO hr () rfl ⟨Nat.le_refl _, Nat.le_refl _⟩ dJ15_init_19
theorem m_noder (l : Launch) (D : va_G) (dA : Nat → ClassId) (G : Nat → Nat) {W0 : va_W} {q x p0 : Nat} : CtX l yJ15_init (ws_ yJ15_init cJ15_init 4 none) 1 0 0 D dA G [.ref q, .ref p0, .ref x, .null] (W0 ++ [(q, .inr (7, [.null, .null, .null]))]) (QgV D dA (fun _ : Unit => W0 ++ [(q, .inr (7, [.ref x, .null, .ref p0]))])) := by
  refine zx_start (cc := cJ15_init) (nL := 4) (ret := none) (own := RJ15) (by decide) rfl rfl (Nat.le_of_ble_eq_true rfl) (fun p e s m args below meth c A hO hX hr hm _ => ?_)
  refine zg_sub (lv' := [(0, .ref q), (1, .ref p0), (2, .ref x), (3, .null)]) [0, 1, 2, 3] rfl ?_
  refine zg_aload_n hO 0 dJ15_init_0 rfl rfl ?_
  refine zg_obj (rest := []) hO q471 (Nat.le_of_ble_eq_true rfl) (Nat.le_of_ble_eq_true rfl) dJ15_init_1 ?_
  refine zg_aload_n hO 0 dJ15_init_4 rfl rfl ?_
  refine zg_aload_n hO 2 dJ15_init_5 rfl rfl ?_
  refine zg_put hO pJ15_7 W0.length ap0 rfl rfl (Nat.le_of_ble_eq_true rfl) as0 dJ15_init_6 ?_
  refine zg_aload_n hO 0 dJ15_init_9 rfl rfl ?_
  refine zg_aload_nN hO 3 dJ15_init_10 rfl rfl ?_
  refine zg_put hO pJ15_13 W0.length ap0 rfl rfl (Nat.le_of_ble_eq_true rfl) as0 dJ15_init_11 ?_
  refine zg_aload_n hO 0 dJ15_init_14 rfl rfl ?_
  refine zg_aload_n hO 1 dJ15_init_15 rfl rfl ?_
  refine zg_put hO pJ15_17 W0.length ap0 rfl rfl (Nat.le_of_ble_eq_true rfl) as0 dJ15_init_16 ?_
  exact zx_vret (f := fun _ : Unit => W0 ++ [(q, .inr (7, [.ref x, .null, .ref p0]))]) hO hr () rfl ⟨Nat.le_refl _, Nat.le_refl _⟩ dJ15_init_19
theorem zj_nonnullN {p : Program} {l : Launch} {e : Env} {R : Room} {s : State} {m : MethodId} {args : Array Value} {below : List Frame} {meth : Method} {c : Code} {cc : ByteArray} {own : String} {nL : Nat} {D : va_G} {dA : Nat → ClassId} {A : Nat → Prop} {Q : State → Prop} {ws : va_W} {u v pc : Nat} {lv : List (Nat × Value)} {st : List Value} (hO : Ok p s m args meth c cc own nL D dA A) {off : Int} (hdg : decode cc pc = .ok (.ifnonnull off, 3)) (k : Go p l e R s m args below meth c D A nL Q ws u v (pc + 3) lv st) : Go p l e R s m args below meth c D A nL Q ws u v pc lv (.null :: st) := fun H locs ls hP hD hS hl => lv_ifnonnullN hO.1 hO.2.1 hdg (k H locs ls hP hD hS hl)
theorem m_linkLastn (l : Launch) (D : va_G) (dA : Nat → ClassId) (G : Nat → Nat) {W0 : va_W} {ll x : Nat} {mc : Int32} : CtX l yJ11_linkLast (ws_ yJ11_linkLast cJ11_linkLast 4 none) 2 1 3 D dA G [.ref ll, .ref x] (W0 ++ LL ll mc []) (QgV D dA (fun q : Nat => W0 ++ LL ll (mc + nI 1) ([] ++ [(q, x)]))) := by
  refine zx_start (cc := cJ11_linkLast) (nL := 4) (ret := none) (own := RJ11) (by decide) rfl rfl (Nat.le_of_ble_eq_true rfl) (fun p e s m args below meth c A hO hX hr hm _ => ?_)
  refine zg_sub (lv' := [(0, .ref ll), (1, .ref x)]) [0, 1] rfl ?_
  show Go p l e (rmG 2 1 3) s m args below meth c D A 4 _ (W0 ++ [(ll, .inr (6, [.int mc, .int (nI 0), .null, .null]))]) 0 0 0 _ _
  refine zg_aload_n hO 0 dJ11_linkLast_0 rfl rfl ?_
  refine zg_get hO fJ11_27 W0.length ap0 rfl dJ11_linkLast_1 ?_
  refine zg_astore_nN (lv' := [(2, .null), (0, .ref ll), (1, .ref x)]) hO dJ11_linkLast_4 rfl (Nat.le_of_ble_eq_true rfl) rfl ?_
  refine zj_new (ci := 7) (fs := [.null, .null, .null]) (C := RJ15) (T := TJ15) (M := 3) hO in_J15 tyJ15 tyJ15_ok q466 q467 q105 rfl (fun j hj => by rcases (show j = 0 ∨ j = 1 ∨ j = 2 by omega) with rfl | rfl | rfl <;> rfl) (Nat.le_of_ble_eq_true rfl) (Nat.le_of_ble_eq_true rfl) dJ11_linkLast_5 (fun q => ?_)
  refine zg_dup hO dJ11_linkLast_8 rfl ?_
  refine zg_aload_nN hO 0 dJ11_linkLast_9 rfl rfl ?_
  refine zg_aload_n hO 2 dJ11_linkLast_10 rfl rfl ?_
  refine zg_null hO dJ11_linkLast_11 ?_
  refine zx_callIv (na := 3) (As := [.null, .ref x, .null]) (rest := [.ref q]) hO hX (m_noden l D dA G) rfl ⟨by decide +kernel, q469, q105, q470⟩ q468 ⟨Nat.le_of_ble_eq_true rfl, Nat.le_of_ble_eq_true rfl⟩ ⟨Nat.le_of_ble_eq_true rfl, Nat.le_of_ble_eq_true rfl⟩ rfl rfl (Nat.le_of_ble_eq_true rfl) dJ11_linkLast_12 (fun _ => ?_)
  rw [List.append_assoc]
  refine zg_astore_n (lv' := [(3, .ref q), (2, .null), (0, .ref ll), (1, .ref x)]) hO dJ11_linkLast_15 rfl (Nat.le_of_ble_eq_true rfl) rfl ?_
  refine zg_aload_n hO 2 dJ11_linkLast_16 rfl rfl ?_
  refine zg_aload_n hO 0 dJ11_linkLast_17 rfl rfl ?_
  refine zg_put hO pJ11_27 W0.length ap0 rfl rfl (Nat.le_of_ble_eq_true rfl) as0 dJ11_linkLast_18 ?_
  refine zg_aload_nN hO 1 dJ11_linkLast_21 rfl rfl ?_
  refine zj_nonnullN hO dJ11_linkLast_22 ?_
  refine zg_aload_n hO 2 dJ11_linkLast_25 rfl rfl ?_
  refine zg_aload_n hO 0 dJ11_linkLast_26 rfl rfl ?_
  refine zg_put hO pJ11_18 W0.length ap0 rfl rfl (Nat.le_of_ble_eq_true rfl) as0 dJ11_linkLast_27 ?_
  refine zg_goto (tgt := 38) hO dJ11_linkLast_30 (by decide) ?_
  refine zg_aload_n hO 2 dJ11_linkLast_38 rfl rfl ?_
  refine zg_dup hO dJ11_linkLast_39 rfl ?_
  refine zg_get hO fJ11_7 W0.length ap0 rfl dJ11_linkLast_40 ?_
  refine zg_iconst hO dJ11_linkLast_43 ic1 ?_
  refine zg_iadd hO dJ11_linkLast_44 ?_
  refine zg_put hO pJ11_7 W0.length ap0 rfl rfl (Nat.le_of_ble_eq_true rfl) as0 dJ11_linkLast_45 ?_
  refine zg_aload_n hO 2 dJ11_linkLast_48 rfl rfl ?_
  refine zg_dup hO dJ11_linkLast_49 rfl ?_
  refine zg_get hO fJ11_33 W0.length ap0 rfl dJ11_linkLast_50 ?_
  refine zg_iconst hO dJ11_linkLast_53 ic1 ?_
  refine zg_iadd hO dJ11_linkLast_54 ?_
  refine zg_put hO pJ11_33 W0.length ap0 rfl rfl (Nat.le_of_ble_eq_true rfl) as0 dJ11_linkLast_55 ?_
  exact zx_vret (f := fun q : Nat => W0 ++ LL ll (mc + nI 1) ([] ++ [(q, x)])) hO hr q rfl ⟨Nat.le_of_ble_eq_true rfl, Nat.le_of_ble_eq_true rfl⟩ dJ11_linkLast_58
theorem m_linkLastr (l : Launch) (D : va_G) (dA : Nat → ClassId) (G : Nat → Nat) {W0 : va_W} {ll x a y : Nat} {mc : Int32} {ys : List (Nat × Nat)} (hy : ys.length < 290) : CtX l yJ11_linkLast (ws_ yJ11_linkLast cJ11_linkLast 4 none) 2 1 3 D dA G [.ref ll, .ref x] (W0 ++ LL ll mc (ys ++ [(a, y)])) (QgV D dA (fun q : Nat => W0 ++ LL ll (mc + nI 1) ((ys ++ [(a, y)]) ++ [(q, x)]))) := by
  refine zx_start (cc := cJ11_linkLast) (nL := 4) (ret := none) (own := RJ11) (by decide) rfl rfl (Nat.le_of_ble_eq_true rfl) (fun p e s m args below meth c A hO hX hr hm _ => ?_)
  refine zg_sub (lv' := [(0, .ref ll), (1, .ref x)]) [0, 1] rfl ?_
  have e0 : LL ll mc (ys ++ [(a, y)]) = (ll, .inr (6, [.int mc, .int (nI (ys.length + 1)), va_rf (hdL ys (some a)), .ref a])) :: (LN none (some a) ys ++ [(a, .inr (7, [.ref y, .null, va_rf (pvL none ys)]))]) := by
    unfold LL LO
    rw [LN_snoc, pvL_snoc, hdL_snoc, List.length_append]
    rfl
  rw [e0]
  generalize hB : LN none (some a) ys = B
  refine zg_aload_n hO 0 dJ11_linkLast_0 rfl rfl ?_
  refine zg_get hO fJ11_27 W0.length ap0 rfl dJ11_linkLast_1 ?_
  refine zg_astore_n (lv' := [(2, .ref a), (0, .ref ll), (1, .ref x)]) hO dJ11_linkLast_4 rfl (Nat.le_of_ble_eq_true rfl) rfl ?_
  refine zj_new (ci := 7) (fs := [.null, .null, .null]) (C := RJ15) (T := TJ15) (M := 3) hO in_J15 tyJ15 tyJ15_ok q466 q467 q105 rfl (fun j hj => by rcases (show j = 0 ∨ j = 1 ∨ j = 2 by omega) with rfl | rfl | rfl <;> rfl) (Nat.le_of_ble_eq_true rfl) (Nat.le_of_ble_eq_true rfl) dJ11_linkLast_5 (fun q => ?_)
  refine zg_dup hO dJ11_linkLast_8 rfl ?_
  refine zg_aload_n hO 0 dJ11_linkLast_9 rfl rfl ?_
  refine zg_aload_n hO 2 dJ11_linkLast_10 rfl rfl ?_
  refine zg_null hO dJ11_linkLast_11 ?_
  refine zx_callIv (na := 3) (As := [.ref a, .ref x, .null]) (rest := [.ref q]) hO hX (m_noder l D dA G) rfl ⟨by decide +kernel, q469, q105, q470⟩ q468 ⟨Nat.le_of_ble_eq_true rfl, Nat.le_of_ble_eq_true rfl⟩ ⟨Nat.le_of_ble_eq_true rfl, Nat.le_of_ble_eq_true rfl⟩ rfl rfl (Nat.le_of_ble_eq_true rfl) dJ11_linkLast_12 (fun _ => ?_)
  rw [List.append_assoc, List.cons_append, List.append_assoc]
  refine zg_astore_n (lv' := [(3, .ref q), (2, .ref a), (0, .ref ll), (1, .ref x)]) hO dJ11_linkLast_15 rfl (Nat.le_of_ble_eq_true rfl) rfl ?_
  refine zg_aload_n hO 2 dJ11_linkLast_16 rfl rfl ?_
  refine zg_aload_n hO 0 dJ11_linkLast_17 rfl rfl ?_
  refine zg_put hO pJ11_27 W0.length ap0 rfl rfl (Nat.le_of_ble_eq_true rfl) as0 dJ11_linkLast_18 ?_
  refine zg_aload_n hO 1 dJ11_linkLast_21 rfl rfl ?_
  refine zj_nonnull (tgt := 33) hO dJ11_linkLast_22 (by decide) ?_
  refine zg_aload_n hO 1 dJ11_linkLast_33 rfl rfl ?_
  refine zg_aload_n hO 0 dJ11_linkLast_34 rfl rfl ?_
  refine zg_put hO pJ11_36 (W0.length + 1 + B.length) apB rfl rfl (Nat.le_of_ble_eq_true rfl) asB dJ11_linkLast_35 ?_
  refine zg_aload_n hO 2 dJ11_linkLast_38 rfl rfl ?_
  refine zg_dup hO dJ11_linkLast_39 rfl ?_
  refine zg_get hO fJ11_7 W0.length ap0 rfl dJ11_linkLast_40 ?_
  refine zg_iconst hO dJ11_linkLast_43 ic1 ?_
  refine zg_iadd hO dJ11_linkLast_44 ?_
  rw [ll_suc (ys.length + 1) (by omega)]
  refine zg_put hO pJ11_7 W0.length ap0 rfl rfl (Nat.le_of_ble_eq_true rfl) as0 dJ11_linkLast_45 ?_
  refine zg_aload_n hO 2 dJ11_linkLast_48 rfl rfl ?_
  refine zg_dup hO dJ11_linkLast_49 rfl ?_
  refine zg_get hO fJ11_33 W0.length ap0 rfl dJ11_linkLast_50 ?_
  refine zg_iconst hO dJ11_linkLast_53 ic1 ?_
  refine zg_iadd hO dJ11_linkLast_54 ?_
  refine zg_put hO pJ11_33 W0.length ap0 rfl rfl (Nat.le_of_ble_eq_true rfl) as0 dJ11_linkLast_55 ?_
  refine zx_vret (f := fun q : Nat => W0 ++ LL ll (mc + nI 1) ((ys ++ [(a, y)]) ++ [(q, x)])) hO hr q ?_ ⟨Nat.le_of_ble_eq_true rfl, Nat.le_of_ble_eq_true rfl⟩ dJ11_linkLast_58
  unfold LL LO
  rw [LN_snoc, LN_snoc, pvL_snoc, pvL_snoc, hdL_snoc, hdL_snoc, List.length_append, List.length_append, hB, List.append_assoc]
  rfl
theorem m_linkLast (l : Launch) (D : va_G) (dA : Nat → ClassId) (G : Nat → Nat) {W0 : va_W} {ll x : Nat} {mc : Int32} {xs : List (Nat × Nat)} (hx : xs.length < 290) : CtX l yJ11_linkLast (ws_ yJ11_linkLast cJ11_linkLast 4 none) 2 1 3 D dA G [.ref ll, .ref x] (W0 ++ LL ll mc xs) (QgV D dA (fun q : Nat => W0 ++ LL ll (mc + nI 1) (xs ++ [(q, x)]))) := by
  rcases List.eq_nil_or_concat xs with rfl | ⟨ys, b, rfl⟩
  · exact m_linkLastn l D dA G
  · rw [List.concat_eq_append] at hx ⊢
    obtain ⟨a, y⟩ := b
    rw [List.length_append] at hx
    exact m_linkLastr l D dA G (by omega)
theorem mw_J11_linkLast : MwX yJ11_linkLast cJ11_linkLast 4 none RJ11 1 := ⟨by decide +kernel, q1562, q1563, q99, q1564⟩
theorem m_lladd (l : Launch) (D : va_G) (dA : Nat → ClassId) (G : Nat → Nat) {W0 : va_W} {ll x : Nat} {mc : Int32} {xs : List (Nat × Nat)} (hx : xs.length < 290) : CtX l yJ11_add (ws_ yJ11_add cJ11_add 2 (some .boolean)) 3 1 3 D dA G [.ref ll, .ref x] (W0 ++ LL ll mc xs) (QgI D dA (fun q : Nat => W0 ++ LL ll (mc + nI 1) (xs ++ [(q, x)])) (nI 1)) := by
  refine zx_start (cc := cJ11_add) (nL := 2) (ret := some .boolean) (own := RJ11) (by decide) rfl rfl (Nat.le_of_ble_eq_true rfl) (fun p e s m args below meth c A hO hX hr hm _ => ?_)
  refine zg_sub (lv' := [(0, .ref ll), (1, .ref x)]) [0, 1] rfl ?_
  refine zg_aload_n hO 0 dJ11_add_0 rfl rfl ?_
  refine zg_aload_n hO 1 dJ11_add_1 rfl rfl ?_
  refine zx_callVv (na := 1) (As := [.ref x]) (rest := []) hO hX (m_linkLast l D dA G hx) mw_J11_linkLast q1561 ⟨Nat.le_of_ble_eq_true rfl, Nat.le_of_ble_eq_true rfl⟩ ⟨Nat.le_of_ble_eq_true rfl, Nat.le_of_ble_eq_true rfl⟩ rfl rfl (Nat.le_of_ble_eq_true rfl) ⟨W0.length, 6, _, _, ap0 (x := LO ll mc xs) (L := LN none none xs), rfl, rfl⟩ dJ11_add_2 (fun q => ?_)
  refine zg_iconst hO dJ11_add_5 ic1 ?_
  exact zx_zret (f := fun q : Nat => W0 ++ LL ll (mc + nI 1) (xs ++ [(q, x)])) hO hr (Or.inr rfl) q rfl rfl ⟨Nat.le_of_ble_eq_true rfl, Nat.le_of_ble_eq_true rfl⟩ dJ11_add_6
theorem ll_pre : ∀ a : Nat, a < 300 → nI (a + 1) - nI 1 = nI a := by decide +kernel
theorem m_unlinkn (l : Launch) (D : va_G) (dA : Nat → ClassId) (G : Nat → Nat) {W0 : va_W} {ll x a : Nat} {mc : Int32} : CtX l yJ11_unlinkFirst (ws_ yJ11_unlinkFirst cJ11_unlinkFirst 4 (some (.object "java/lang/Object"))) 0 0 0 D dA G [.ref ll, .ref a] (W0 ++ LL ll mc ((a, x) :: [])) (QgF D dA (fun _ : Unit => W0 ++ LL ll (mc + nI 1) []) (fun _ => x)) := by
  refine zx_start (cc := cJ11_unlinkFirst) (nL := 4) (ret := some (.object "java/lang/Object")) (own := RJ11) (by decide) rfl rfl (Nat.le_of_ble_eq_true rfl) (fun p e s m args below meth c A hO hX hr hm _ => ?_)
  refine zg_sub (lv' := [(0, .ref ll), (1, .ref a)]) [0, 1] rfl ?_
  show Go p l e (rmG 0 0 0) s m args below meth c D A 4 _ (W0 ++ (ll, .inr (6, [.int mc, .int (nI (0 + 1)), .ref a, .ref a])) :: (a, .inr (7, [.ref x, .null, .null])) :: []) 0 0 0 _ _
  refine zg_aload_n hO 1 dJ11_unlinkFirst_0 rfl rfl ?_
  refine zg_get hO fJ11_39 (W0.length + 1) ap1 rfl dJ11_unlinkFirst_1 ?_
  refine zg_astore_n (lv' := [(2, .ref x), (0, .ref ll), (1, .ref a)]) hO dJ11_unlinkFirst_4 rfl (Nat.le_of_ble_eq_true rfl) rfl ?_
  refine zg_aload_n hO 2 dJ11_unlinkFirst_5 rfl rfl ?_
  refine zg_get hO fJ11_36 (W0.length + 1) ap1 rfl dJ11_unlinkFirst_6 ?_
  refine zg_astore_nN (lv' := [(3, .null), (2, .ref x), (0, .ref ll), (1, .ref a)]) hO dJ11_unlinkFirst_9 rfl (Nat.le_of_ble_eq_true rfl) rfl ?_
  refine zg_aload_n hO 3 dJ11_unlinkFirst_10 rfl rfl ?_
  refine zg_null hO dJ11_unlinkFirst_11 ?_
  refine zg_put hO pJ11_39 (W0.length + 1) ap1 rfl rfl (Nat.le_of_ble_eq_true rfl) as1 dJ11_unlinkFirst_12 ?_
  refine zg_aload_n hO 3 dJ11_unlinkFirst_15 rfl rfl ?_
  refine zg_null hO dJ11_unlinkFirst_16 ?_
  refine zg_put hO pJ11_36 (W0.length + 1) ap1 rfl rfl (Nat.le_of_ble_eq_true rfl) as1 dJ11_unlinkFirst_17 ?_
  refine zg_aload_n hO 2 dJ11_unlinkFirst_20 rfl rfl ?_
  refine zg_aload_nN hO 0 dJ11_unlinkFirst_21 rfl rfl ?_
  refine zg_put hO pJ11_18 W0.length ap0 rfl rfl (Nat.le_of_ble_eq_true rfl) as0 dJ11_unlinkFirst_22 ?_
  refine zg_aload_nN hO 0 dJ11_unlinkFirst_25 rfl rfl ?_
  refine zj_nonnullN hO dJ11_unlinkFirst_26 ?_
  refine zg_aload_n hO 2 dJ11_unlinkFirst_29 rfl rfl ?_
  refine zg_null hO dJ11_unlinkFirst_30 ?_
  refine zg_put hO pJ11_27 W0.length ap0 rfl rfl (Nat.le_of_ble_eq_true rfl) as0 dJ11_unlinkFirst_31 ?_
  refine zg_goto (tgt := 42) hO dJ11_unlinkFirst_34 (by decide) ?_
  refine zg_aload_n hO 2 dJ11_unlinkFirst_42 rfl rfl ?_
  refine zg_dup hO dJ11_unlinkFirst_43 rfl ?_
  refine zg_get hO fJ11_7 W0.length ap0 rfl dJ11_unlinkFirst_44 ?_
  refine zg_iconst hO dJ11_unlinkFirst_47 ic1 ?_
  refine zg_isub hO dJ11_unlinkFirst_48 ?_
  rw [ll_pre 0 (by omega)]
  refine zg_put hO pJ11_7 W0.length ap0 rfl rfl (Nat.le_of_ble_eq_true rfl) as0 dJ11_unlinkFirst_49 ?_
  refine zg_aload_n hO 2 dJ11_unlinkFirst_52 rfl rfl ?_
  refine zg_dup hO dJ11_unlinkFirst_53 rfl ?_
  refine zg_get hO fJ11_33 W0.length ap0 rfl dJ11_unlinkFirst_54 ?_
  refine zg_iconst hO dJ11_unlinkFirst_57 ic1 ?_
  refine zg_iadd hO dJ11_unlinkFirst_58 ?_
  refine zg_put hO pJ11_33 W0.length ap0 rfl rfl (Nat.le_of_ble_eq_true rfl) as0 dJ11_unlinkFirst_59 ?_
  refine zg_aload_n hO 1 dJ11_unlinkFirst_62 rfl rfl ?_
  refine zj_drop (fun k => if k ≤ W0.length then k else k + 1) (fun k z h => dr_one k z h) (fun i j h => by split at h <;> split at h <;> omega) ?_
  exact zj_aret (f := fun _ : Unit => W0 ++ LL ll (mc + nI 1) []) (a := fun _ => x) hO hr (Or.inl ⟨_, rfl⟩) () rfl rfl ⟨Nat.le_refl _, Nat.le_refl _⟩ dJ11_unlinkFirst_63
theorem m_unlinkr (l : Launch) (D : va_G) (dA : Nat → ClassId) (G : Nat → Nat) {W0 : va_W} {ll x a b y : Nat} {mc : Int32} {t : List (Nat × Nat)} (hy : t.length < 290) : CtX l yJ11_unlinkFirst (ws_ yJ11_unlinkFirst cJ11_unlinkFirst 4 (some (.object "java/lang/Object"))) 0 0 0 D dA G [.ref ll, .ref a] (W0 ++ LL ll mc ((a, x) :: ((b, y) :: t))) (QgF D dA (fun _ : Unit => W0 ++ LL ll (mc + nI 1) ((b, y) :: t)) (fun _ => x)) := by
  refine zx_start (cc := cJ11_unlinkFirst) (nL := 4) (ret := some (.object "java/lang/Object")) (own := RJ11) (by decide) rfl rfl (Nat.le_of_ble_eq_true rfl) (fun p e s m args below meth c A hO hX hr hm _ => ?_)
  refine zg_sub (lv' := [(0, .ref ll), (1, .ref a)]) [0, 1] rfl ?_
  show Go p l e (rmG 0 0 0) s m args below meth c D A 4 _ (W0 ++ (ll, .inr (6, [.int mc, .int (nI ((t.length + 1) + 1)), .ref a, va_rf (pvL (some b) t)])) :: (a, .inr (7, [.ref x, .ref b, .null])) :: ((b, .inr (7, [.ref y, va_rf (hdL t none), .ref a])) :: LN (some b) none t)) 0 0 0 _ _
  refine zg_aload_n hO 1 dJ11_unlinkFirst_0 rfl rfl ?_
  refine zg_get hO fJ11_39 (W0.length + 1) ap1 rfl dJ11_unlinkFirst_1 ?_
  refine zg_astore_n (lv' := [(2, .ref x), (0, .ref ll), (1, .ref a)]) hO dJ11_unlinkFirst_4 rfl (Nat.le_of_ble_eq_true rfl) rfl ?_
  refine zg_aload_n hO 2 dJ11_unlinkFirst_5 rfl rfl ?_
  refine zg_get hO fJ11_36 (W0.length + 1) ap1 rfl dJ11_unlinkFirst_6 ?_
  refine zg_astore_n (lv' := [(3, .ref b), (2, .ref x), (0, .ref ll), (1, .ref a)]) hO dJ11_unlinkFirst_9 rfl (Nat.le_of_ble_eq_true rfl) rfl ?_
  refine zg_aload_n hO 3 dJ11_unlinkFirst_10 rfl rfl ?_
  refine zg_null hO dJ11_unlinkFirst_11 ?_
  refine zg_put hO pJ11_39 (W0.length + 1) ap1 rfl rfl (Nat.le_of_ble_eq_true rfl) as1 dJ11_unlinkFirst_12 ?_
  refine zg_aload_n hO 3 dJ11_unlinkFirst_15 rfl rfl ?_
  refine zg_null hO dJ11_unlinkFirst_16 ?_
  refine zg_put hO pJ11_36 (W0.length + 1) ap1 rfl rfl (Nat.le_of_ble_eq_true rfl) as1 dJ11_unlinkFirst_17 ?_
  refine zg_aload_n hO 2 dJ11_unlinkFirst_20 rfl rfl ?_
  refine zg_aload_n hO 0 dJ11_unlinkFirst_21 rfl rfl ?_
  refine zg_put hO pJ11_18 W0.length ap0 rfl rfl (Nat.le_of_ble_eq_true rfl) as0 dJ11_unlinkFirst_22 ?_
  refine zg_aload_n hO 0 dJ11_unlinkFirst_25 rfl rfl ?_
  refine zj_nonnull (tgt := 37) hO dJ11_unlinkFirst_26 (by decide) ?_
  refine zg_aload_n hO 0 dJ11_unlinkFirst_37 rfl rfl ?_
  refine zg_null hO dJ11_unlinkFirst_38 ?_
  refine zg_put hO pJ11_30 (W0.length + 2) ap2 rfl rfl (Nat.le_of_ble_eq_true rfl) as2 dJ11_unlinkFirst_39 ?_
  refine zg_aload_n hO 2 dJ11_unlinkFirst_42 rfl rfl ?_
  refine zg_dup hO dJ11_unlinkFirst_43 rfl ?_
  refine zg_get hO fJ11_7 W0.length ap0 rfl dJ11_unlinkFirst_44 ?_
  refine zg_iconst hO dJ11_unlinkFirst_47 ic1 ?_
  refine zg_isub hO dJ11_unlinkFirst_48 ?_
  rw [ll_pre (t.length + 1) (by omega)]
  refine zg_put hO pJ11_7 W0.length ap0 rfl rfl (Nat.le_of_ble_eq_true rfl) as0 dJ11_unlinkFirst_49 ?_
  refine zg_aload_n hO 2 dJ11_unlinkFirst_52 rfl rfl ?_
  refine zg_dup hO dJ11_unlinkFirst_53 rfl ?_
  refine zg_get hO fJ11_33 W0.length ap0 rfl dJ11_unlinkFirst_54 ?_
  refine zg_iconst hO dJ11_unlinkFirst_57 ic1 ?_
  refine zg_iadd hO dJ11_unlinkFirst_58 ?_
  refine zg_put hO pJ11_33 W0.length ap0 rfl rfl (Nat.le_of_ble_eq_true rfl) as0 dJ11_unlinkFirst_59 ?_
  refine zg_aload_n hO 1 dJ11_unlinkFirst_62 rfl rfl ?_
  refine zj_drop (fun k => if k ≤ W0.length then k else k + 1) (fun k z h => dr_one k z h) (fun i j h => by split at h <;> split at h <;> omega) ?_
  exact zj_aret (f := fun _ : Unit => W0 ++ LL ll (mc + nI 1) ((b, y) :: t)) (a := fun _ => x) hO hr (Or.inl ⟨_, rfl⟩) () rfl rfl ⟨Nat.le_refl _, Nat.le_refl _⟩ dJ11_unlinkFirst_63
theorem m_unlink (l : Launch) (D : va_G) (dA : Nat → ClassId) (G : Nat → Nat) {W0 : va_W} {ll x a : Nat} {mc : Int32} {t : List (Nat × Nat)} (hy : t.length < 290) : CtX l yJ11_unlinkFirst (ws_ yJ11_unlinkFirst cJ11_unlinkFirst 4 (some (.object "java/lang/Object"))) 0 0 0 D dA G [.ref ll, .ref a] (W0 ++ LL ll mc ((a, x) :: t)) (QgF D dA (fun _ : Unit => W0 ++ LL ll (mc + nI 1) t) (fun _ => x)) := by
  cases t with
  | nil => exact m_unlinkn l D dA G
  | cons b t =>
    obtain ⟨b, y⟩ := b
    exact m_unlinkr l D dA G (by rw [List.length_cons] at hy; omega)
theorem mw_J11_unlinkFirst : MwX yJ11_unlinkFirst cJ11_unlinkFirst 4 (some (.object "java/lang/Object")) RJ11 1 := ⟨by decide +kernel, q1578, qs37, q99, q1579⟩
theorem m_llpoll (l : Launch) (D : va_G) (dA : Nat → ClassId) (G : Nat → Nat) {W0 : va_W} {ll x a : Nat} {mc : Int32} {t : List (Nat × Nat)} (hy : t.length < 290) : CtX l yJ11_poll (ws_ yJ11_poll cJ11_poll 2 (some (.object "java/lang/Object"))) 1 0 0 D dA G [.ref ll] (W0 ++ LL ll mc ((a, x) :: t)) (QgF D dA (fun _ : Unit => W0 ++ LL ll (mc + nI 1) t) (fun _ => x)) := by
  refine zx_start (cc := cJ11_poll) (nL := 2) (ret := some (.object "java/lang/Object")) (own := RJ11) (by decide) rfl rfl (Nat.le_of_ble_eq_true rfl) (fun p e s m args below meth c A hO hX hr hm _ => ?_)
  refine zg_sub (lv' := [(0, .ref ll)]) [0] rfl ?_
  refine zg_aload_n hO 0 dJ11_poll_0 rfl rfl ?_
  refine zg_get hO fJ11_18 (x := .ref a) W0.length (ap0 (x := LO ll mc ((a, x) :: t)) (L := LN none none ((a, x) :: t))) rfl dJ11_poll_1 ?_
  refine zg_astore_n (lv' := [(1, .ref a), (0, .ref ll)]) hO dJ11_poll_4 rfl (Nat.le_of_ble_eq_true rfl) rfl ?_
  refine zg_aload_n hO 0 dJ11_poll_5 rfl rfl ?_
  refine zj_nonnull (tgt := 13) hO dJ11_poll_6 (by decide) ?_
  refine zg_aload_n hO 1 dJ11_poll_13 rfl rfl ?_
  refine zg_aload_n hO 0 dJ11_poll_14 rfl rfl ?_
  refine zx_callVr (na := 1) (As := [.ref a]) (rest := []) hO hX (m_unlink l D dA G hy) mw_J11_unlinkFirst q1576 ⟨Nat.le_of_ble_eq_true rfl, Nat.le_of_ble_eq_true rfl⟩ ⟨Nat.le_of_ble_eq_true rfl, Nat.le_of_ble_eq_true rfl⟩ rfl rfl (Nat.le_of_ble_eq_true rfl) ⟨W0.length, 6, _, _, ap0 (x := LO ll mc ((a, x) :: t)) (L := LN none none ((a, x) :: t)), rfl, rfl⟩ dJ11_poll_15 (fun _ => ?_)
  exact zj_aret (f := fun _ : Unit => W0 ++ LL ll (mc + nI 1) t) (a := fun _ => x) hO hr (Or.inl ⟨_, rfl⟩) () rfl rfl ⟨Nat.le_refl _, Nat.le_refl _⟩ dJ11_poll_18
