set_option maxRecDepth 100000
/-! BOXED INTS; THE STRING "fbFBr" -/
section ZBX
variable {p : Program} {l : Launch} {e : Env} {s : State} {m : MethodId} {args : Array Value} {below : List Frame} {meth : Method} {c : Code} {cc : ByteArray} {own C : String} {nL : Nat} {D : va_G} {dA : Nat → ClassId} {G : Nat → Nat} {A : Nat → Prop} {Q : State → Prop} {ws : va_W} {u v pc : Nat} {lv : List (Nat × Value)} {st rest : List Value}
  {y : MethodName} {bytes : ByteArray} {maxL N n' mc ms na index b : Nat} {rk rs : Nat} {ret : Option FieldType} {As : List Value} {S : Type} {f : S → va_W} {r : Int32}
/-- an object that may be called through: it is in the world, or it is old -/
def RcO (ws : va_W) (s : State) (A : Nat → Prop) (D : va_G) (C : String) (b : Nat) : Prop := ∀ (H : Heap) (locs : List Loc), va_P D zg_cl ws H → va_S A s.heap H locs → ∃ cell : Cell, H[b]? = some cell ∧ cell.vm.isStatics = false ∧ s.vm.findClass C = some cell.cls
theorem zo_callVi (hO : Ok p s m args meth c cc own nL D dA A) (hX : XK dA G A s) (hM : CtX l y (ws_ y bytes maxL ret) n' mc ms D dA G (.ref b :: As) ws (QgI D dA f r)) (hw : MwX y bytes maxL ret C na) (hlk : Cond.methodLink own index y ∈ lw_all) (hR : n' + 1 ≤ N ∧ 8 + (maxL + 11) + 64 * n' ≤ 64 * N) (hc : u + mc ≤ rk ∧ v + ms ≤ rs) (hn : As.length = na)
    (hst : st = As.reverse ++ .ref b :: rest) (hrm : (rest.map fun x => x.category).sum ≤ 8) (hrecv : RcO ws s A D C b) (hdg : decode cc pc = .ok (.invokevirtual index, 3)) (kk : ∀ z : S, Go p l e (rmG N rk rs) s m args below meth c D A nL Q (f z) (u + mc) (v + ms) (pc + 3) lv (.int r :: rest)) : Go p l e (rmG N rk rs) s m args below meth c D A nL Q ws u v pc lv st := by
  intro H locs ls hP hD hS hl
  obtain ⟨w1, w2, w3, w4, w5⟩ := hw
  have hts := hO.2.2.2.2.1
  have hp := zx_pc hO hX hP hD hS (.ref b :: As)
  refine va_calli (va_runV (As := As) (rest := rest) ⟨hO.1, hO.2.1, hO.2.2.1, hO.2.2.2.1, hts⟩ (hM H.size) ⟨callB_of na hts (lw_meth w5) rfl rfl rfl (hts _ w4) (hts _ hlk) w1 hR, hts _ w2, hts _ w3⟩ ⟨hp.1, hrecv H locs hP hS, hp.2⟩ rfl hn hl.1 hst (lv_room hrm) hdg hc) hS (fun q _ h => va_AA hO hS hD q h) (fun q h => va_AA hO hS hD q h) (fun x z t H1 locs1 ht hvm hx hB hz hk hS1 => ?_)
  subst hx
  subst ht
  exact kk z t.heap locs1 ls hB.1 (hB.2.2.weaken fun k q _ h => va_AA hO hS hD q.1 h) hS1 hl
theorem zo_cast (hO : Ok p s m args meth c cc own nL D dA A) (hrecv : RcO ws s A D C b) (hlk : Cond.classLink own index C ∈ lw_all) (hdg : decode cc pc = .ok (.checkcast index, 3)) (kk : Go p l e (rmG N rk rs) s m args below meth c D A nL Q ws u v (pc + 3) lv (.ref b :: st)) : Go p l e (rmG N rk rs) s m args below meth c D A nL Q ws u v pc lv (.ref b :: st) :=
  fun H locs ls hP hD hS hl => va_castE hO.1 hO.2.1 hO.2.2.2.1 (hO.2.2.2.2.1 _ hlk) (hrecv H locs hP hS) hdg (kk H locs ls hP hD hS hl)
theorem zo_of (hO : Ok p s m args meth c cc own nL D dA A) {o n d : String} {q : Nat} {x : Value} (hE : va_OF o n d x q A s s.heap) (hlk : Cond.fieldLink own index o n d ∈ lw_all) (hdg : decode cc pc = .ok (.getfield index, 3)) (kk : Go p l e (rmG N rk rs) s m args below meth c D A nL Q ws u v (pc + 3) lv (x :: st)) : Go p l e (rmG N rk rs) s m args below meth c D A nL Q ws u v pc lv (.ref q :: st) :=
  fun H locs ls hP hD hS hl => vk_getf hO.1 hO.2.1 hE hS hO.2.2.2.1 (hO.2.2.2.2.1 _ hlk) (fun _ h => h) hdg (kk H locs ls hP hD hS hl)
theorem zo_tq (hO : Ok p s m args meth c cc own nL D dA A) {E : String} {t n : Nat} {g : Nat → Value} (hT : va_T (.object E) t n g A s s.heap) {i : Int32} (hin : vp_in i n) {x : Value} (hv : g i.toNatClampNeg = x) (hdg : decode cc pc = .ok (.aaload, 1)) (kk : Go p l e (rmG N rk rs) s m args below meth c D A nL Q ws u v (pc + 1) lv (x :: st)) : Go p l e (rmG N rk rs) s m args below meth c D A nL Q ws u v pc lv (.int i :: .ref t :: st) :=
  fun H locs ls hP hD hS hl => vb_tq hO.1 hO.2.1 hT hS hin hv hdg (kk H locs ls hP hD hS hl)
theorem zo_tb (hO : Ok p s m args meth c cc own nL D dA A) {t n : Nat} {g : Nat → Value} (hT : va_T .byte t n g A s s.heap) {i : Int32} (hin : vp_in i n) {x : Value} (hv : g i.toNatClampNeg = x) (hdg : decode cc pc = .ok (.baload, 1)) (kk : Go p l e (rmG N rk rs) s m args below meth c D A nL Q ws u v (pc + 1) lv (x :: st)) : Go p l e (rmG N rk rs) s m args below meth c D A nL Q ws u v pc lv (.int i :: .ref t :: st) :=
  fun H locs ls hP hD hS hl => va_tb hO.1 hO.2.1 hT hS hin hv hdg (kk H locs ls hP hD hS hl)
theorem zo_tlen (hO : Ok p s m args meth c cc own nL D dA A) {ty : FieldType} {t n : Nat} {g : Nat → Value} (hT : va_T ty t n g A s s.heap) {x : Int32} (hv : Int32.ofNat n = x) (hdg : decode cc pc = .ok (.arraylength, 1)) (kk : Go p l e (rmG N rk rs) s m args below meth c D A nL Q ws u v (pc + 1) lv (.int x :: st)) : Go p l e (rmG N rk rs) s m args below meth c D A nL Q ws u v pc lv (.ref t :: st) :=
  fun H locs ls hP hD hS hl => va_tlen hO.1 hO.2.1 hT hS hv hdg (kk H locs ls hP hD hS hl)
theorem zo_ldcS (hO : Ok p s m args meth c cc own nL D dA A) {tx : String} {q : Nat} (hZ : vk_R own index tx q s) (hdg : decode cc pc = .ok (.ldc_w index, 3)) (kk : Go p l e (rmG N rk rs) s m args below meth c D A nL Q ws u v (pc + 3) lv (.ref q :: st)) : Go p l e (rmG N rk rs) s m args below meth c D A nL Q ws u v pc lv st := by
  intro H locs ls hP hD hS hl T hT X
  obtain ⟨t, a1, b1⟩ := kk H locs ls hP hD hS hl T hT X
  exact ⟨t, X.ldcStringW hO.1 hO.2.2.2.1 (text := tx) (a := q) hZ.1 hZ.2 (g := F0 m pc ls st) rfl (by rw [hO.2.1]; exact hdg) t a1, b1⟩
/-- a byte is returned -/
theorem zo_bret {R : Room} (hO : Ok p s m args meth c cc own nL D dA A) (hr : meth.sig.returnType = some .byte) {x r : Int32} (hx : narrow .byte (.int x) = .int x) (z : S) (hw : ws = f z) (hxr : x = r) (hc : u ≤ mc ∧ v ≤ ms) (hdg : decode cc pc = .ok (.ireturn, 1)) : Go p l e R s m args below meth c D A nL (MQ below ((QgI D dA f r) A) args s mc ms A) ws u v pc lv [.int x] := by
  subst hxr
  exact fun H locs ls hP hD hS _ => W.widen hc.1 hc.2 (W.zret (v := x) hO.1 hO.2.1 hr hx (fun t ht hW => ⟨⟨x, z, rfl, rfl, by rw [ht, ← hw]; exact hP, va_K.moved hW.alike hO.2.2.2.2.2.1, by rw [← hw]; exact hD⟩, hS.F ht⟩) hS.2.2 hdg hO.2.2.2.2.2.2.2)
/-- x is a box of y: one of the world's, or one of the cache's -/
def BX (G : Nat → Nat) (B : va_W) (x : Nat) (y : Int32) : Prop := (∃ k : Nat, B[k]? = some ((x, .inr (13, [.int y])) : Nat × va_E)) ∨ ∃ k, k < 256 ∧ x = G (100 + k) ∧ y = vb_c k
theorem BX.app {B L : va_W} {x : Nat} {y : Int32} (h : BX G B x y) : BX G (B ++ L) x y := by
  rcases h with ⟨k, h⟩ | h
  · exact Or.inl ⟨k, apW h⟩
  · exact Or.inr h
theorem BX.pre {B L : va_W} {x : Nat} {y : Int32} (h : BX G B x y) : BX G (L ++ B) x y := by
  rcases h with ⟨k, h⟩ | h
  · exact Or.inl ⟨L.length + k, by rw [List.getElem?_append_right (by omega), show L.length + k - L.length = k by omega]; exact h⟩
  · exact Or.inr h
theorem bx_cache (hX : XK dA G A s) : va_Z "java/lang/Integer$IntegerCache" "high" "I" (.int (nI 127)) A s s.heap ∧ va_Z "java/lang/Integer$IntegerCache" "cache" "[Ljava/lang/Integer;" (.ref (G 91)) A s s.heap ∧ va_T (.object "java/lang/Integer") (G 91) 256 (fun k => .ref (G (100 + k))) A s s.heap ∧ vb_C (fun k => G (100 + k)) A s s.heap := hX.2.2.2.1
theorem bx_str (hX : XK dA G A s) : va_Z "java/lang/String" "COMPACT_STRINGS" "Z" (.int (nI 1)) A s s.heap ∧ vk_R "EndSums" 352 "fbFBr" (G 92) s ∧ vk_S 1 [5] [[nI 102, nI 98, nI 70, nI 66, nI 114]] (fun i => G (92 + i)) (fun i => G (94 + i)) A s s.heap := by
  obtain ⟨-, -, -, -, -, h, -, ⟨h1, h2⟩, -⟩ := hX.2.2.2
  exact ⟨h, h1, h2⟩
theorem bx_rc (hO : Ok p s m args meth c cc own nL D dA A) (hX : XK dA G A s) {x : Nat} {y : Int32} (h : BX G ws x y) : RcO ws s A D "java/lang/Integer" x := by
  intro H locs hP hS
  rcases h with ⟨k, h⟩ | ⟨k, hk, rfl, -⟩
  · exact va_recv hO.2.2.2.2.2.1 hP (ci := 13) (q := (RJ13, TJ13, 1)) rfl h
  · obtain ⟨cell, h1, h2, h3, -⟩ := (((bx_cache hX).2.2.2).1 k hk).kept hS.2.1
    exact ⟨cell, h1, h2, h3⟩
theorem bs_rc (hX : XK dA G A s) : RcO ws s A D "java/lang/String" (G 92) := by
  intro H locs hP hS
  exact vk_recv (adK := fun i => G (92 + i)) (i := 0) (bx_str hX).2.2 (by decide) hS
theorem zo_boxget (hO : Ok p s m args meth c cc own nL D dA A) (hX : XK dA G A s) {x : Nat} {y : Int32} (h : BX G ws x y) (hown : own = RJ13) (hdg : decode cc pc = .ok (.getfield 205, 3)) (kk : Go p l e (rmG N rk rs) s m args below meth c D A nL Q ws u v (pc + 3) lv (.int y :: st)) : Go p l e (rmG N rk rs) s m args below meth c D A nL Q ws u v pc lv (.ref x :: st) := by
  subst hown
  rcases h with ⟨k, h⟩ | ⟨k, hk, rfl, rfl⟩
  · exact zg_get hO (show FdL RJ13 205 13 0 from ⟨RJ13, TJ13, 1, "java/lang/Integer", rfl, in_J13, by decide, q354, Or.inl rfl⟩) k h rfl hdg kk
  · exact fun H locs ls hP hD hS hl => va_getX (i := k) (v := fun k => .int (vb_c k)) hO.1 hO.2.1 (bx_cache hX).2.2.2.2 hk hS hO.2.2.2.1 (hO.2.2.2.2.1 _ q354) (fun _ h => h) hdg (kk H locs ls hP hD hS hl)
end ZBX
theorem m_J12_initi (l : Launch) (D : va_G) (dA : Nat → ClassId) (G : Nat → Nat) {W0 : va_W} {b : Nat} : CtX l yJ12_init (ws_ yJ12_init cJ12_init 1 none) 1 0 0 D dA G [.ref b] W0 (QgV D dA (fun _ : Unit => W0)) := by
  refine zx_start (cc := cJ12_init) (nL := 1) (ret := none) (own := RJ12) (by decide) rfl rfl (Nat.le_of_ble_eq_true rfl) (fun p e s m args below meth c A hO hX hr hm _ => ?_)
  refine zg_sub (lv' := [(0, .ref b)]) [0] rfl ?_
  refine zg_aload_n hO 0 dJ12_init_0 rfl rfl ?_
  refine zg_obj (rest := []) hO q353 (Nat.le_of_ble_eq_true rfl) (Nat.le_of_ble_eq_true rfl) dJ12_init_1 ?_
  exact zx_vret (f := fun _ : Unit => W0) hO hr () rfl ⟨Nat.le_refl _, Nat.le_refl _⟩ dJ12_init_4
theorem m_boxinit (l : Launch) (D : va_G) (dA : Nat → ClassId) (G : Nat → Nat) {W0 : va_W} {b : Nat} {x : Int32} : CtX l yJ13_init (ws_ yJ13_init cJ13_init 2 none) 2 0 0 D dA G [.ref b, .int x] (W0 ++ [(b, .inr (13, [.int 0]))]) (QgV D dA (fun _ : Unit => (W0 ++ [(b, .inr (13, [.int x]))]))) := by
  refine zx_start (cc := cJ13_init) (nL := 2) (ret := none) (own := RJ13) (by decide) rfl rfl (Nat.le_of_ble_eq_true rfl) (fun p e s m args below meth c A hO hX hr hm _ => ?_)
  refine zg_sub (lv' := [(0, .ref b), (1, .int x)]) [0, 1] rfl ?_
  refine zg_aload_n hO 0 dJ13_init_0 rfl rfl ?_
  refine zx_callIv (As := []) (rest := []) hO hX (m_J12_initi l D dA G) rfl ⟨by decide +kernel, q351, q100, q352⟩ q350 ⟨Nat.le_of_ble_eq_true rfl, Nat.le_of_ble_eq_true rfl⟩ ⟨Nat.zero_le _, Nat.zero_le _⟩ rfl rfl (Nat.le_of_ble_eq_true rfl) dJ13_init_1 (fun _ => ?_)
  refine zg_aload_n hO 0 dJ13_init_4 rfl rfl ?_
  refine zg_iload_n hO 1 dJ13_init_5 rfl rfl ?_
  refine zg_putF hO hm (show FdF RJ13 205 13 0 .int from ⟨RJ13, TJ13, 1, "java/lang/Integer", tyJ13, rfl, in_J13, by decide, q354, Or.inl rfl, tyJ13_ok, nmJ13, rfl, rfl, tyJ13_ok 0 (by decide)⟩) W0.length ap0 rfl rfl (Nat.le_of_ble_eq_true rfl) as0 dJ13_init_6 ?_
  exact zx_vret (f := fun _ : Unit => (W0 ++ [(b, .inr (13, [.int x]))])) hO hr () rfl ⟨Nat.le_refl _, Nat.le_refl _⟩ dJ13_init_9
theorem bn_small : ∀ a : Nat, a < 128 → ¬ nI a < nI (2 ^ 32 - 128) ∧ ¬ nI 127 < nI a ∧ vp_in (nI a + nI 128) 256 ∧ (nI a + nI 128).toNatClampNeg = 128 + a ∧ vb_c (128 + a) = nI a := by unfold vp_in; decide +kernel
theorem bn_int {a : Nat} (h : a < 10000) : (nI a).toInt = a := by
  show (Int32.ofNat a).toInt = a
  rw [Int32.toInt_ofNat_of_lt (by omega)]
theorem bn_big {a : Nat} (h : 128 ≤ a) (h2 : a < 10000) : ¬ nI a < nI (2 ^ 32 - 128) ∧ nI 127 < nI a := by
  rw [Int32.lt_iff_toInt_lt, Int32.lt_iff_toInt_lt, bn_int h2, show (nI (2 ^ 32 - 128)).toInt = -128 by decide, show (nI 127).toInt = 127 by decide]
  omega
theorem m_boxold (l : Launch) (D : va_G) (dA : Nat → ClassId) (G : Nat → Nat) {W : va_W} {a : Nat} (ha : a < 128) : CtX l yJ13_valueOf (ws_ yJ13_valueOf cJ13_valueOf 1 (some (.object "java/lang/Integer"))) 3 1 1 D dA G [.int (nI a)] W (QgF D dA (fun _ : Nat => W) (fun _ => G (228 + a))) := by
  refine zx_start (cc := cJ13_valueOf) (nL := 1) (ret := (some (.object "java/lang/Integer"))) (own := RJ13) (by decide) rfl rfl (Nat.le_of_ble_eq_true rfl) (fun p e s m args below meth c A hO hX hr hm _ => ?_)
  refine zg_sub (lv' := [(0, .int (nI a))]) [0] rfl ?_
  obtain ⟨b1, b2, b3, b4, -⟩ := bn_small a ha
  refine zg_iload_n hO 0 dJ13_valueOf_0 rfl rfl ?_
  refine zg_bipush hO dJ13_valueOf_1 (by decide : (Int8.ofInt (-128)).toInt32 = nI (2 ^ 32 - 128)) ?_
  refine zn_icmp_lt (tgt := 23) hO b1 dJ13_valueOf_3 (by decide) ?_
  refine zg_iload_n hO 0 dJ13_valueOf_6 rfl rfl ?_
  refine zj_gets hO (bx_cache hX).1 q341 dJ13_valueOf_7 ?_
  refine zn_icmp_gt (tgt := 23) hO b2 dJ13_valueOf_10 (by decide) ?_
  refine zj_gets hO (bx_cache hX).2.1 q343 dJ13_valueOf_13 ?_
  refine zg_iload_n hO 0 dJ13_valueOf_16 rfl rfl ?_
  refine zg_sipush hO dJ13_valueOf_17 (by decide : (Int16.ofInt 128).toInt32 = nI 128) ?_
  refine zg_iadd hO dJ13_valueOf_20 ?_
  refine zo_tq (x := .ref (G (228 + a))) hO (bx_cache hX).2.2.1 b3 (by rw [b4, ← Nat.add_assoc]) dJ13_valueOf_21 ?_
  exact zj_aret (f := fun _ : Nat => W) (a := fun _ => G (228 + a)) hO hr (Or.inl ⟨_, rfl⟩) 0 rfl rfl ⟨Nat.zero_le _, Nat.zero_le _⟩ dJ13_valueOf_22
theorem m_boxnew (l : Launch) (D : va_G) (dA : Nat → ClassId) (G : Nat → Nat) {W : va_W} {a : Nat} (ha : 128 ≤ a) (hb : a < 10000) : CtX l yJ13_valueOf (ws_ yJ13_valueOf cJ13_valueOf 1 (some (.object "java/lang/Integer"))) 3 1 1 D dA G [.int (nI a)] W (QgF D dA (fun q : Nat => (W ++ [(q, .inr (13, [.int (nI a)]))])) (fun q => q)) := by
  refine zx_start (cc := cJ13_valueOf) (nL := 1) (ret := (some (.object "java/lang/Integer"))) (own := RJ13) (by decide) rfl rfl (Nat.le_of_ble_eq_true rfl) (fun p e s m args below meth c A hO hX hr hm _ => ?_)
  refine zg_sub (lv' := [(0, .int (nI a))]) [0] rfl ?_
  obtain ⟨b1, b2⟩ := bn_big ha hb
  refine zg_iload_n hO 0 dJ13_valueOf_0 rfl rfl ?_
  refine zg_bipush hO dJ13_valueOf_1 (by decide : (Int8.ofInt (-128)).toInt32 = nI (2 ^ 32 - 128)) ?_
  refine zn_icmp_lt (tgt := 23) hO b1 dJ13_valueOf_3 (by decide) ?_
  refine zg_iload_n hO 0 dJ13_valueOf_6 rfl rfl ?_
  refine zj_gets hO (bx_cache hX).1 q341 dJ13_valueOf_7 ?_
  refine zt_icmp_gt (tgt := 23) hO b2 dJ13_valueOf_10 (by decide) ?_
  refine zj_new (ci := 13) (fs := [.int 0]) (C := RJ13) (T := TJ13) (M := 1) hO in_J13 tyJ13 tyJ13_ok q345 q346 q101 rfl (fun j hj => by rw [show j = 0 by omega]; rfl) (Nat.le_of_ble_eq_true rfl) (Nat.le_of_ble_eq_true rfl) dJ13_valueOf_23 (fun q => ?_)
  refine zg_dup hO dJ13_valueOf_26 rfl ?_
  refine zg_iload_n hO 0 dJ13_valueOf_27 rfl rfl ?_
  refine zx_callIv (na := 1) (As := [.int (nI a)]) (rest := [.ref q]) hO hX (m_boxinit l D dA G) rfl ⟨by decide +kernel, q348, q101, q349⟩ q347 ⟨Nat.le_of_ble_eq_true rfl, Nat.le_of_ble_eq_true rfl⟩ ⟨Nat.le_of_ble_eq_true rfl, Nat.le_of_ble_eq_true rfl⟩ rfl rfl (Nat.le_of_ble_eq_true rfl) dJ13_valueOf_28 (fun _ => ?_)
  exact zj_aret (f := fun q : Nat => (W ++ [(q, .inr (13, [.int (nI a)]))])) (a := fun q => q) hO hr (Or.inl ⟨_, rfl⟩) q rfl rfl ⟨Nat.le_refl _, Nat.le_refl _⟩ dJ13_valueOf_31
/-- the world after a box was asked for -/
def bxE (a q : Nat) : va_W := if a < 128 then [] else [(q, .inr (13, [.int (nI a)]))]
def bxA (G : Nat → Nat) (a q : Nat) : Nat := if a < 128 then G (228 + a) else q
theorem bxE_BX (G : Nat → Nat) (a q : Nat) : BX G (bxE a q) (bxA G a q) (nI a) := by
  unfold bxE bxA
  by_cases h : a < 128
  · rw [if_pos h, if_pos h]
    exact Or.inr ⟨128 + a, by omega, by rw [← Nat.add_assoc], (bn_small a h).2.2.2.2.symm⟩
  · rw [if_neg h, if_neg h]
    exact Or.inl ⟨0, rfl⟩
theorem m_box (l : Launch) (D : va_G) (dA : Nat → ClassId) (G : Nat → Nat) {W : va_W} {a : Nat} (ha : a < 10000) : CtX l yJ13_valueOf (ws_ yJ13_valueOf cJ13_valueOf 1 (some (.object "java/lang/Integer"))) 3 1 1 D dA G [.int (nI a)] W (QgF D dA (fun q : Nat => W ++ bxE a q) (fun q => bxA G a q)) := by
  unfold bxE bxA
  by_cases h : a < 128
  · have e1 : (fun q : Nat => W ++ (if a < 128 then ([] : va_W) else [(q, .inr (13, [.int (nI a)]))])) = fun _ => W := funext fun q => by rw [if_pos h, List.append_nil]
    have e2 : (fun q : Nat => if a < 128 then G (228 + a) else q) = fun _ => G (228 + a) := funext fun q => by rw [if_pos h]
    rw [e1, e2]
    exact m_boxold l D dA G h
  · have e1 : (fun q : Nat => W ++ (if a < 128 then ([] : va_W) else [(q, .inr (13, [.int (nI a)]))])) = fun q => (W ++ [(q, .inr (13, [.int (nI a)]))]) := funext fun q => by rw [if_neg h]
    have e2 : (fun q : Nat => if a < 128 then G (228 + a) else q) = fun q => q := funext fun q => by rw [if_neg h]
    rw [e1, e2]
    exact m_boxnew l D dA G (by omega) ha
theorem mw_J13_valueOf : MwS yJ13_valueOf cJ13_valueOf 1 (some (.object "java/lang/Integer")) 1 := ⟨by decide +kernel, q339, q101, q340⟩
theorem m_intValue (l : Launch) (D : va_G) (dA : Nat → ClassId) (G : Nat → Nat) {W : va_W} {x : Nat} {y : Int32} (hb : BX G W x y) : CtX l yJ13_intValue (ws_ yJ13_intValue cJ13_intValue 1 (some .int)) 0 0 0 D dA G [.ref x] W (QgI D dA (fun _ : Unit => W) y) := by
  refine zx_start (cc := cJ13_intValue) (nL := 1) (ret := (some .int)) (own := RJ13) (by decide) rfl rfl (Nat.le_of_ble_eq_true rfl) (fun p e s m args below meth c A hO hX hr hm _ => ?_)
  refine zg_sub (lv' := [(0, .ref x)]) [0] rfl ?_
  refine zg_aload_n hO 0 dJ13_intValue_0 rfl rfl ?_
  refine zo_boxget hO hX hb rfl dJ13_intValue_1 ?_
  exact zx_iret (f := fun _ : Unit => W) hO hr () rfl rfl ⟨Nat.zero_le _, Nat.zero_le _⟩ dJ13_intValue_4
theorem mw_J13_intValue : MwX yJ13_intValue cJ13_intValue 1 (some .int) RJ13 0 := ⟨by decide +kernel, q505, q506, q101, q507⟩
theorem m_llsize (l : Launch) (D : va_G) (dA : Nat → ClassId) (G : Nat → Nat) {W0 : va_W} {ll : Nat} {mc : Int32} {xs : List (Nat × Nat)} : CtX l yJ11_size (ws_ yJ11_size cJ11_size 1 (some .int)) 0 0 0 D dA G [.ref ll] (W0 ++ LL ll mc xs) (QgI D dA (fun _ : Unit => W0 ++ LL ll mc xs) (nI xs.length)) := by
  refine zx_start (cc := cJ11_size) (nL := 1) (ret := (some .int)) (own := RJ11) (by decide) rfl rfl (Nat.le_of_ble_eq_true rfl) (fun p e s m args below meth c A hO hX hr hm _ => ?_)
  refine zg_sub (lv' := [(0, .ref ll)]) [0] rfl ?_
  refine zg_aload_n hO 0 dJ11_size_0 rfl rfl ?_
  refine zg_get hO fJ11_7 W0.length (ap0 (x := LO ll mc xs) (L := LN none none xs)) rfl dJ11_size_1 ?_
  exact zx_iret (f := fun _ : Unit => W0 ++ LL ll mc xs) hO hr () rfl rfl ⟨Nat.zero_le _, Nat.zero_le _⟩ dJ11_size_4
def lE (xs : List (Nat × Nat)) : Int32 := if xs = [] then nI 1 else nI 0
theorem ll_ne0 : ∀ a : Nat, a < 300 → a ≠ 0 → nI a ≠ 0 := by decide +kernel
theorem m_llisEmpty (l : Launch) (D : va_G) (dA : Nat → ClassId) (G : Nat → Nat) {W0 : va_W} {ll : Nat} {mc : Int32} {xs : List (Nat × Nat)} (hx : xs.length < 300) : CtX l yJ4_isEmpty (ws_ yJ4_isEmpty cJ4_isEmpty 1 (some .boolean)) 1 0 0 D dA G [.ref ll] (W0 ++ LL ll mc xs) (QgI D dA (fun _ : Unit => W0 ++ LL ll mc xs) (lE xs)) := by
  refine zx_start (cc := cJ4_isEmpty) (nL := 1) (ret := (some .boolean)) (own := RJ4) (by decide) rfl rfl (Nat.le_of_ble_eq_true rfl) (fun p e s m args below meth c A hO hX hr hm _ => ?_)
  refine zg_sub (lv' := [(0, .ref ll)]) [0] rfl ?_
  refine zg_aload_n hO 0 dJ4_isEmpty_0 rfl rfl ?_
  refine zi_callUi (As := []) (rest := []) hO hX (m_llsize l D dA G) (zi_cw hO q717 q99 (by decide +kernel) q1571 q2150 (va_Decl.abs (hX.1.1 _ q634 rfl)) q2154 q716 ⟨Nat.le_of_ble_eq_true rfl, Nat.le_of_ble_eq_true rfl⟩) ⟨Nat.le_of_ble_eq_true rfl, Nat.le_of_ble_eq_true rfl⟩ rfl rfl (Nat.le_of_ble_eq_true rfl) ⟨W0.length, 6, _, _, ap0 (x := LO ll mc xs) (L := LN none none xs), rfl, rfl⟩ dJ4_isEmpty_1 (fun _ => ?_)
  cases xs with
  | nil =>
    refine zn_if_ne (tgt := 11) hO rfl dJ4_isEmpty_4 (by decide) ?_
    refine zg_iconst hO dJ4_isEmpty_7 ic1 ?_
    refine zg_goto (tgt := 12) hO dJ4_isEmpty_8 (by decide) ?_
    exact zx_zret (f := fun _ : Unit => W0 ++ LL ll mc []) hO hr (Or.inr rfl) () rfl rfl ⟨Nat.zero_le _, Nat.zero_le _⟩ dJ4_isEmpty_12
  | cons b t =>
    refine zt_if_ne (tgt := 11) hO (ll_ne0 _ hx (by rw [List.length_cons]; omega)) dJ4_isEmpty_4 (by decide) ?_
    refine zg_iconst hO dJ4_isEmpty_11 ic0 ?_
    exact zx_zret (f := fun _ : Unit => W0 ++ LL ll mc (b :: t)) hO hr (Or.inl rfl) () rfl rfl ⟨Nat.zero_le _, Nat.zero_le _⟩ dJ4_isEmpty_12
