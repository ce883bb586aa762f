set_option maxRecDepth 100000
theorem mw_J32_initWords : MwX yJ32_initWords cJ32_initWords 2 none RJ32 1 := ⟨by decide +kernel, q1287, qs25, q126, q1288⟩
theorem mw_J32_wordIndex : MwS yJ32_wordIndex cJ32_wordIndex 1 (some .int) 1 := ⟨by decide +kernel, q1290, q126, q1291⟩
theorem mw_J32_set : MwX yJ32_set cJ32_set 10 none RJ32 2 := ⟨by decide +kernel, q1303, q1304, q126, q1305⟩
theorem mw_J32_checkRange : MwS yJ32_checkRange cJ32_checkRange 2 none 2 := ⟨by decide +kernel, q1307, q126, q1308⟩
theorem mw_J32_expandTo : MwX yJ32_expandTo cJ32_expandTo 3 none RJ32 1 := ⟨by decide +kernel, q1311, qs26, q126, q1312⟩
theorem mw_J32_ensureCapacity : MwX yJ32_ensureCapacity cJ32_ensureCapacity 3 none RJ32 1 := ⟨by decide +kernel, q1315, qs27, q126, q1316⟩
theorem mw_J32_checkInvariants : MwX yJ32_checkInvariants cJ32_checkInvariants 1 none RJ32 0 := ⟨by decide +kernel, q1329, qs28, q126, q1330⟩
theorem mw_J32_clear : MwX yJ32_clear cJ32_clear 3 none RJ32 1 := ⟨by decide +kernel, q1334, q1335, q126, q1336⟩
theorem mw_J32_recalculateWordsInUse : MwX yJ32_recalculateWordsInUse cJ32_recalculateWordsInUse 2 none RJ32 0 := ⟨by decide +kernel, q1339, qs29, q126, q1340⟩
theorem mw_J32_nextSetBit : MwX yJ32_nextSetBit cJ32_nextSetBit 5 (some .int) RJ32 1 := ⟨by decide +kernel, q1342, q1343, q126, q1344⟩
theorem mw_J33_numberOfTrailingZeros : MwS yJ33_numberOfTrailingZeros cJ33_numberOfTrailingZeros 3 (some .int) 1 := ⟨by decide +kernel, q1346, q127, q1347⟩
section ZBS
variable {p : Program} {l : Launch} {e : Env} {s : State} {m : MethodId} {args : Array Value} {below : List Frame} {meth : Method} {c : Code} {cc : ByteArray} {own : String} {nL N : Nat} {D : va_G} {dA : Nat → ClassId} {G : Nat → Nat} {A : Nat → Prop} {Q : State → Prop} {W : va_W} {u v pc rk rs : Nat} {lv : List (Nat × Value)} {st : List Value}
theorem zj_newL (hO : Ok p s m args meth c cc own nL D dA A) {n : Int32} {N' : Nat} (hn : ¬ n < 0) (hN : n.toNatClampNeg = N') (hb : N' ≤ 1000) (hc : u + 1 ≤ rk) (hs : v + N' ≤ rs) (hdg : decode cc pc = .ok (.newarray .long, 2))
    (kk : ∀ q : Nat, Go p l e (rmG N rk rs) s m args below meth c D A nL Q (W ++ [(q, .inl (dA 1, N', .inr (.inl (fun _ => 0))))]) (u + 1) (v + N') (pc + 2) lv (.ref q :: st)) : Go p l e (rmG N rk rs) s m args below meth c D A nL Q W u v pc lv (.int n :: st) := by
  intro H locs ls hP hD hS hl
  refine va_newa (atype := .long) (ty := .long) (a0 := (N', .inr (.inl (fun _ => 0)))) hO.1 hO.2.1 (hO.2.2.2.2.1 _ q359) rfl hO.2.2.2.2.2.1 hP hD hS hO.2.2.2.2.2.2.1 (fun cA => rfl) hn hN (by show N' * 8 ≤ 536870912; omega) hc hs hdg (fun q cA H1 hK1 hP1 hD1 hS1 => ?_)
  have e1 : s.vm.findClass ("[" ++ FieldType.long.toString) = some cA := (hK1.2 8 _ rfl).2
  have e2 : s.vm.findClass ("[" ++ FieldType.long.toString) = some (dA 1) := (hK1.2 1 _ rfl).2
  have e3 : cA = dA 1 := Option.some.inj (e1.symm.trans e2)
  subst e3
  exact kk q H1 locs ls hP1 hD1 hS1 hl
theorem zj_newI (hO : Ok p s m args meth c cc own nL D dA A) {n : Int32} {N' : Nat} (hn : ¬ n < 0) (hN : n.toNatClampNeg = N') (hb : N' ≤ 1000) (hc : u + 1 ≤ rk) (hs : v + N' ≤ rs) (hdg : decode cc pc = .ok (.newarray .int, 2))
    (kk : ∀ q : Nat, Go p l e (rmG N rk rs) s m args below meth c D A nL Q (W ++ [(q, .inl (dA 0, N', .inl (fun _ => 0)))]) (u + 1) (v + N') (pc + 2) lv (.ref q :: st)) : Go p l e (rmG N rk rs) s m args below meth c D A nL Q W u v pc lv (.int n :: st) := by
  intro H locs ls hP hD hS hl
  refine va_newa (atype := .int) (ty := .int) (a0 := (N', .inl (fun _ => 0))) hO.1 hO.2.1 (hO.2.2.2.2.1 _ q230) rfl hO.2.2.2.2.2.1 hP hD hS hO.2.2.2.2.2.2.1 (fun cA => rfl) hn hN (by show N' * 4 ≤ 536870912; omega) hc hs hdg (fun q cA H1 hK1 hP1 hD1 hS1 => ?_)
  have e1 : s.vm.findClass ("[" ++ FieldType.int.toString) = some cA := (hK1.2 8 _ rfl).2
  have e2 : s.vm.findClass ("[" ++ FieldType.int.toString) = some (dA 0) := (hK1.2 0 _ rfl).2
  have e3 : cA = dA 0 := Option.some.inj (e1.symm.trans e2)
  subst e3
  exact kk q H1 locs ls hP1 hD1 hS1 hl
theorem zj_gets (hO : Ok p s m args meth c cc own nL D dA A) {C n d : String} {x : Value} {index : Nat} (hZ : va_Z C n d x A s s.heap) (hlk : Cond.fieldLink own index C n d ∈ lw_all) (hdg : decode cc pc = .ok (.getstatic index, 3)) (kk : Go p l e (rmG N rk rs) s m args below meth c D A nL Q W u v (pc + 3) lv (x :: st)) : Go p l e (rmG N rk rs) s m args below meth c D A nL Q W u v pc lv st :=
  fun H locs ls hP hD hS hl => va_gets hO.1 hO.2.1 hZ hS hO.2.2.2.1 (hO.2.2.2.2.1 _ hlk) (fun _ h => h) hdg (kk H locs ls hP hD hS hl)
theorem zj_bsd (hX : XK dA G A s) : va_Z "java/util/BitSet" "$assertionsDisabled" "Z" (.int (nI 1)) A s s.heap := by
  obtain ⟨-, -, -, -, -, -, h, -⟩ := hX.2.2.2
  exact h
end ZBS
def bw (m : Nat) : Nat → Int64 := fun j => if j = 0 then lN m else 0
theorem bw_upd {m m' : Nat} {x : Int64} (h : x = lN m') : vp_updL (bw m) 0 x = bw m' := by
  subst h
  funext j
  unfold vp_updL bw
  split <;> rfl
def bu (m : Nat) : Int32 := if m = 0 then nI 0 else nI 1
/-- a set of numbers below 5, as a mask -/
abbrev BS (dA : Nat → ClassId) (b w m : Nat) : va_W := [(b, .inr (12, [.ref w, .int (bu m), .int (nI 1)])), (w, .inl (dA 1, 1, .inr (.inl (bw m))))]
theorem m_bsw (l : Launch) (D : va_G) (dA : Nat → ClassId) {i r : Int32} (h : i >>> (nI 6 &&& 31) = r) : Ct l yJ32_wordIndex (ws_ yJ32_wordIndex cJ32_wordIndex 1 (some .int)) 0 0 0 D dA [.int i] [] A0s (QfI D dA [] r) := by
  refine zc_start (cc := cJ32_wordIndex) (nL := 1) (ret := some .int) (own := RJ32) (by decide) rfl rfl (Nat.le_of_ble_eq_true rfl) (fun _ _ h => h) (fun p e s m args below meth c hO hr _ _ => ?_)
  refine zg_sub (lv' := [(0, .int i)]) [0] rfl ?_
  refine zg_iload_n hO 0 dJ32_wordIndex_0 rfl rfl ?_
  refine zg_bipush hO dJ32_wordIndex_1 (by decide : (Int8.ofInt 6).toInt32 = nI 6) ?_
  refine zg_ishr hO dJ32_wordIndex_3 ?_
  subst h
  exact zc_iret hO hr dJ32_wordIndex_4
theorem m_bscr (l : Launch) (D : va_G) (dA : Nat → ClassId) (G : Nat → Nat) {W : va_W} {i j : Int32} (h1 : 0 ≤ i) (h2 : 0 ≤ j) (h3 : i ≤ j) : CtX l yJ32_checkRange (ws_ yJ32_checkRange cJ32_checkRange 2 none) 0 0 0 D dA G [.int i, .int j] W (QgV D dA (fun _ : Unit => W)) := by
  refine zx_start (cc := cJ32_checkRange) (nL := 2) (ret := none) (own := RJ32) (by decide) rfl rfl (Nat.le_of_ble_eq_true rfl) (fun p e s m args below meth c A hO hX hr hm _ => ?_)
  refine zg_sub (lv' := [(0, .int i), (1, .int j)]) [0, 1] rfl ?_
  refine zg_iload_n hO 0 dJ32_checkRange_0 rfl rfl ?_
  refine zt_if_ge (tgt := 31) hO h1 dJ32_checkRange_1 (by decide) ?_
  refine zg_iload_n hO 1 dJ32_checkRange_31 rfl rfl ?_
  refine zt_if_ge (tgt := 62) hO h2 dJ32_checkRange_32 (by decide) ?_
  refine zg_iload_n hO 0 dJ32_checkRange_62 rfl rfl ?_
  refine zg_iload_n hO 1 dJ32_checkRange_63 rfl rfl ?_
  refine zt_icmp_le (tgt := 103) hO h3 dJ32_checkRange_64 (by decide) ?_
  exact zx_vret (f := fun _ : Unit => W) hO hr () rfl ⟨Nat.le_refl _, Nat.le_refl _⟩ dJ32_checkRange_103
theorem m_bsci (l : Launch) (D : va_G) (dA : Nat → ClassId) (G : Nat → Nat) {W : va_W} {b : Nat} : CtX l yJ32_checkInvariants (ws_ yJ32_checkInvariants cJ32_checkInvariants 1 none) 0 0 0 D dA G [.ref b] W (QgV D dA (fun _ : Unit => W)) := by
  refine zx_start (cc := cJ32_checkInvariants) (nL := 1) (ret := none) (own := RJ32) (by decide) rfl rfl (Nat.le_of_ble_eq_true rfl) (fun p e s m args below meth c A hO hX hr hm _ => ?_)
  refine zg_sub (lv' := [(0, .ref b)]) [0] rfl ?_
  refine zj_gets hO (zj_bsd hX) q1331 dJ32_checkInvariants_0 ?_
  refine zt_if_ne (tgt := 37) hO (by decide) dJ32_checkInvariants_3 (by decide) ?_
  refine zj_gets hO (zj_bsd hX) q1331 dJ32_checkInvariants_37 ?_
  refine zt_if_ne (tgt := 70) hO (by decide) dJ32_checkInvariants_40 (by decide) ?_
  refine zj_gets hO (zj_bsd hX) q1331 dJ32_checkInvariants_70 ?_
  refine zt_if_ne (tgt := 110) hO (by decide) dJ32_checkInvariants_73 (by decide) ?_
  exact zx_vret (f := fun _ : Unit => W) hO hr () rfl ⟨Nat.le_refl _, Nat.le_refl _⟩ dJ32_checkInvariants_110
theorem m_bsiw (l : Launch) (D : va_G) (dA : Nat → ClassId) (G : Nat → Nat) {W : va_W} {b : Nat} : CtX l yJ32_initWords (ws_ yJ32_initWords cJ32_initWords 2 none) 1 1 1 D dA G [.ref b, .int (nI 5)] (W ++ [(b, .inr (12, [.null, .int (nI 0), .int (nI 0)]))]) (QgV D dA (fun q : Nat => W ++ [(b, .inr (12, [.ref q, .int (nI 0), .int (nI 0)])), (q, .inl (dA 1, 1, .inr (.inl (bw 0))))])) := by
  refine zx_start (cc := cJ32_initWords) (nL := 2) (ret := none) (own := RJ32) (by decide) rfl rfl (Nat.le_of_ble_eq_true rfl) (fun p e s m args below meth c A hO hX hr hm _ => ?_)
  refine zg_sub (lv' := [(0, .ref b), (1, .int (nI 5))]) [0, 1] rfl ?_
  refine zg_aload_n hO 0 dJ32_initWords_0 rfl rfl ?_
  refine zg_iload_n hO 1 dJ32_initWords_1 rfl rfl ?_
  refine zg_iconst hO dJ32_initWords_2 ic1 ?_
  refine zg_isub hO dJ32_initWords_3 ?_
  refine zc_callS0i (As := [.int (nI 5 - nI 1)]) (rest := [.ref b]) hO (m_bsw l D dA (r := (nI 0)) (by decide)) mw_J32_wordIndex q1289 ⟨Nat.le_of_ble_eq_true rfl, Nat.le_of_ble_eq_true rfl⟩ ⟨by omega, by omega⟩ rfl rfl (Nat.le_of_ble_eq_true rfl) dJ32_initWords_4 ?_
  refine zg_iconst hO dJ32_initWords_7 ic1 ?_
  refine zg_iadd hO dJ32_initWords_8 ?_
  refine zj_newL (N' := 1) hO (by decide) (by decide) (by decide) (Nat.le_of_ble_eq_true rfl) (Nat.le_of_ble_eq_true rfl) dJ32_initWords_9 (fun q => ?_)
  rw [List.append_assoc]
  refine zg_put hO pJ32_11 W.length ap0 rfl rfl (Nat.le_of_ble_eq_true rfl) as0 dJ32_initWords_11 ?_
  have e0 : (fun _ => 0 : Nat → Int64) = bw 0 := by
    funext j
    unfold bw
    split <;> rfl
  rw [e0]
  exact zx_vret (f := fun q : Nat => W ++ [(b, .inr (12, [.ref q, .int (nI 0), .int (nI 0)])), (q, .inl (dA 1, 1, .inr (.inl (bw 0))))]) hO hr q rfl ⟨Nat.le_refl _, Nat.le_refl _⟩ dJ32_initWords_14
theorem m_bsinit (l : Launch) (D : va_G) (dA : Nat → ClassId) (G : Nat → Nat) {W : va_W} {b : Nat} : CtX l yJ32_init (ws_ yJ32_init cJ32_init 2 none) 2 1 1 D dA G [.ref b, .int (nI 5)] (W ++ [(b, .inr (12, [.null, .int (nI 0), .int (nI 0)]))]) (QgV D dA (fun q : Nat => W ++ BS dA b q 0)) := by
  refine zx_start (cc := cJ32_init) (nL := 2) (ret := none) (own := RJ32) (by decide) rfl rfl (Nat.le_of_ble_eq_true rfl) (fun p e s m args below meth c A hO hX hr hm _ => ?_)
  refine zg_sub (lv' := [(0, .ref b), (1, .int (nI 5))]) [0, 1] rfl ?_
  refine zg_aload_n hO 0 dJ32_init_0 rfl rfl ?_
  refine zg_obj (rest := []) hO q1284 (Nat.le_of_ble_eq_true rfl) (Nat.le_of_ble_eq_true rfl) dJ32_init_1 ?_
  refine zg_aload_n hO 0 dJ32_init_4 rfl rfl ?_
  refine zg_iconst hO dJ32_init_5 ic0 ?_
  refine zg_put hO pJ32_7 W.length ap0 rfl rfl (Nat.le_of_ble_eq_true rfl) as0 dJ32_init_6 ?_
  refine zg_aload_n hO 0 dJ32_init_9 rfl rfl ?_
  refine zg_iconst hO dJ32_init_10 ic0 ?_
  refine zg_put hO pJ32_24 W.length ap0 rfl rfl (Nat.le_of_ble_eq_true rfl) as0 dJ32_init_11 ?_
  refine zg_iload_n hO 1 dJ32_init_14 rfl rfl ?_
  refine zt_if_ge (tgt := 45) hO (by decide) dJ32_init_15 (by decide) ?_
  refine zg_aload_n hO 0 dJ32_init_45 rfl rfl ?_
  refine zg_iload_n hO 1 dJ32_init_46 rfl rfl ?_
  refine zx_callVv (na := 1) (As := [.int (nI 5)]) (rest := []) hO hX (m_bsiw l D dA G) mw_J32_initWords q1285 ⟨Nat.le_of_ble_eq_true rfl, Nat.le_of_ble_eq_true rfl⟩ ⟨Nat.le_of_ble_eq_true rfl, Nat.le_of_ble_eq_true rfl⟩ rfl rfl (Nat.le_of_ble_eq_true rfl) ⟨W.length, 12, _, _, ap0, rfl, rfl⟩ dJ32_init_47 (fun q => ?_)
  refine zg_aload_n hO 0 dJ32_init_50 rfl rfl ?_
  refine zg_iconst hO dJ32_init_51 ic1 ?_
  refine zg_put hO pJ32_24 W.length ap0 rfl rfl (Nat.le_of_ble_eq_true rfl) as0 dJ32_init_52 ?_
  exact zx_vret (f := fun q : Nat => W ++ BS dA b q 0) hO hr q rfl ⟨Nat.le_refl _, Nat.le_refl _⟩ dJ32_init_55
theorem m_bsec (l : Launch) (D : va_G) (dA : Nat → ClassId) (G : Nat → Nat) {W : va_W} {b w k : Nat} {z : Int32} : CtX l yJ32_ensureCapacity (ws_ yJ32_ensureCapacity cJ32_ensureCapacity 3 none) 0 0 0 D dA G [.ref b, .int (nI 1)] (W ++ [(b, .inr (12, [.ref w, .int z, .int (nI 1)])), (w, .inl (dA 1, 1, .inr (.inl (bw k))))]) (QgV D dA (fun _ : Unit => W ++ [(b, .inr (12, [.ref w, .int z, .int (nI 1)])), (w, .inl (dA 1, 1, .inr (.inl (bw k))))])) := by
  refine zx_start (cc := cJ32_ensureCapacity) (nL := 3) (ret := none) (own := RJ32) (by decide) rfl rfl (Nat.le_of_ble_eq_true rfl) (fun p e s m args below meth c A hO hX hr hm _ => ?_)
  refine zg_sub (lv' := [(0, .ref b), (1, .int (nI 1))]) [0, 1] rfl ?_
  refine zg_aload_n hO 0 dJ32_ensureCapacity_0 rfl rfl ?_
  refine zg_get hO fJ32_11 W.length ap0 rfl dJ32_ensureCapacity_1 ?_
  refine zj_len (w := nI 1) hO (W.length + 1) 1 ap1 rfl rfl dJ32_ensureCapacity_4 ?_
  refine zg_iload_n hO 1 dJ32_ensureCapacity_5 rfl rfl ?_
  refine zt_icmp_ge (tgt := 38) hO (by decide) dJ32_ensureCapacity_6 (by decide) ?_
  exact zx_vret (f := fun _ : Unit => W ++ [(b, .inr (12, [.ref w, .int z, .int (nI 1)])), (w, .inl (dA 1, 1, .inr (.inl (bw k))))]) hO hr () rfl ⟨Nat.le_refl _, Nat.le_refl _⟩ dJ32_ensureCapacity_38
theorem m_bset (l : Launch) (D : va_G) (dA : Nat → ClassId) (G : Nat → Nat) {W : va_W} {b w k : Nat} : CtX l yJ32_expandTo (ws_ yJ32_expandTo cJ32_expandTo 3 none) 1 0 0 D dA G [.ref b, .int (nI 0)] (W ++ [(b, .inr (12, [.ref w, .int (nI 0), .int (nI 1)])), (w, .inl (dA 1, 1, .inr (.inl (bw k))))]) (QgV D dA (fun _ : Unit => W ++ [(b, .inr (12, [.ref w, .int (nI 1), .int (nI 1)])), (w, .inl (dA 1, 1, .inr (.inl (bw k))))])) := by
  refine zx_start (cc := cJ32_expandTo) (nL := 3) (ret := none) (own := RJ32) (by decide) rfl rfl (Nat.le_of_ble_eq_true rfl) (fun p e s m args below meth c A hO hX hr hm _ => ?_)
  refine zg_sub (lv' := [(0, .ref b), (1, .int (nI 0))]) [0, 1] rfl ?_
  refine zg_iload_n hO 1 dJ32_expandTo_0 rfl rfl ?_
  refine zg_iconst hO dJ32_expandTo_1 ic1 ?_
  refine zg_iadd hO dJ32_expandTo_2 ?_
  refine zg_istore_n (lv' := [(2, .int ((nI 0) + (nI 1))), (0, .ref b), (1, .int (nI 0))]) hO dJ32_expandTo_3 rfl (Nat.le_of_ble_eq_true rfl) rfl ?_
  refine zg_aload_n hO 1 dJ32_expandTo_4 rfl rfl ?_
  refine zg_get hO fJ32_7 W.length ap0 rfl dJ32_expandTo_5 ?_
  refine zg_iload_n hO 0 dJ32_expandTo_8 rfl rfl ?_
  refine zn_icmp_ge (tgt := 22) hO (by decide) dJ32_expandTo_9 (by decide) ?_
  refine zg_aload_n hO 1 dJ32_expandTo_12 rfl rfl ?_
  refine zg_iload_n hO 0 dJ32_expandTo_13 rfl rfl ?_
  refine zx_callVv (na := 1) (As := [.int (nI 1)]) (rest := []) hO hX (m_bsec l D dA G) mw_J32_ensureCapacity q1313 ⟨Nat.le_of_ble_eq_true rfl, Nat.le_of_ble_eq_true rfl⟩ ⟨Nat.le_of_ble_eq_true rfl, Nat.le_of_ble_eq_true rfl⟩ rfl rfl (Nat.le_of_ble_eq_true rfl) ⟨W.length, 12, _, _, ap0, rfl, rfl⟩ dJ32_expandTo_14 (fun _ => ?_)
  refine zg_aload_n hO 1 dJ32_expandTo_17 rfl rfl ?_
  refine zg_iload_n hO 0 dJ32_expandTo_18 rfl rfl ?_
  refine zg_put hO pJ32_7 W.length ap0 rfl rfl (Nat.le_of_ble_eq_true rfl) as0 dJ32_expandTo_19 ?_
  exact zx_vret (f := fun _ : Unit => W ++ [(b, .inr (12, [.ref w, .int (nI 1), .int (nI 1)])), (w, .inl (dA 1, 1, .inr (.inl (bw k))))]) hO hr () rfl ⟨Nat.le_refl _, Nat.le_refl _⟩ dJ32_expandTo_22
theorem bs_set : ∀ n : Nat, n < 6 → 1 ≤ n → (nI n - nI 1) >>> (nI 6 &&& 31) = nI 0 ∧ 0 ≤ nI n ∧ nI 0 ≤ nI n ∧ ¬ nI 0 = nI n ∧ lN 0 ||| (((-1) <<< ((nI 0).toInt64 &&& 63)) &&& (((-1 : Int64).toUInt64 >>> ((-(nI n)).toInt64.toUInt64 &&& Int64.toUInt64 63)).toInt64)) = lN (2 ^ n - 1) ∧ bu (2 ^ n - 1) = nI 1 := by decide +kernel
theorem m_bsset (l : Launch) (D : va_G) (dA : Nat → ClassId) (G : Nat → Nat) {W : va_W} {b w n : Nat} (h1 : 1 ≤ n) (h2 : n < 6) : CtX l yJ32_set (ws_ yJ32_set cJ32_set 10 none) 2 0 0 D dA G [.ref b, .int (nI 0), .int (nI n)] (W ++ BS dA b w 0) (QgV D dA (fun _ : Unit => W ++ BS dA b w (2 ^ n - 1))) := by
  obtain ⟨g1, g2, g3, g4, g5, g6⟩ := bs_set n h2 h1
  refine zx_start (cc := cJ32_set) (nL := 10) (ret := none) (own := RJ32) (by decide) rfl rfl (Nat.le_of_ble_eq_true rfl) (fun p e s m args below meth c A hO hX hr hm _ => ?_)
  refine zg_sub (lv' := [(0, .ref b), (1, .int (nI 0)), (2, .int (nI n))]) [0, 1, 2] rfl ?_
  refine zg_iload_n hO 1 dJ32_set_0 rfl rfl ?_
  refine zg_iload_n hO 2 dJ32_set_1 rfl rfl ?_
  refine zx_callSv (na := 2) (As := [.int (nI 0), .int (nI n)]) (rest := []) hO hX (m_bscr l D dA G (by decide) g2 g3) mw_J32_checkRange q1306 ⟨Nat.le_of_ble_eq_true rfl, Nat.le_of_ble_eq_true rfl⟩ ⟨Nat.le_of_ble_eq_true rfl, Nat.le_of_ble_eq_true rfl⟩ rfl rfl (Nat.le_of_ble_eq_true rfl) dJ32_set_2 (fun _ => ?_)
  refine zg_iload_n hO 1 dJ32_set_5 rfl rfl ?_
  refine zg_iload_n hO 2 dJ32_set_6 rfl rfl ?_
  refine zt_icmp_ne (tgt := 11) hO g4 dJ32_set_7 (by decide) ?_
  refine zg_iload_n hO 1 dJ32_set_11 rfl rfl ?_
  refine zc_callS0i (As := [.int (nI 0)]) (rest := []) hO (m_bsw l D dA (r := (nI 0)) (by decide)) mw_J32_wordIndex q1289 ⟨Nat.le_of_ble_eq_true rfl, Nat.le_of_ble_eq_true rfl⟩ ⟨by omega, by omega⟩ rfl rfl (Nat.le_of_ble_eq_true rfl) dJ32_set_12 ?_
  refine zg_istore_n (lv' := [(3, .int (nI 0)), (0, .ref b), (1, .int (nI 0)), (2, .int (nI n))]) hO dJ32_set_15 rfl (Nat.le_of_ble_eq_true rfl) rfl ?_
  refine zg_iload_n hO 3 dJ32_set_16 rfl rfl ?_
  refine zg_iconst hO dJ32_set_17 ic1 ?_
  refine zg_isub hO dJ32_set_18 ?_
  refine zc_callS0i (As := [.int (nI n - nI 1)]) (rest := []) hO (m_bsw l D dA (r := (nI 0)) (g1)) mw_J32_wordIndex q1289 ⟨Nat.le_of_ble_eq_true rfl, Nat.le_of_ble_eq_true rfl⟩ ⟨by omega, by omega⟩ rfl rfl (Nat.le_of_ble_eq_true rfl) dJ32_set_19 ?_
  refine zg_istore (lv' := [(4, .int (nI 0)), (3, .int (nI 0)), (0, .ref b), (1, .int (nI 0)), (2, .int (nI n))]) hO dJ32_set_22 (Nat.le_of_ble_eq_true rfl) rfl ?_
  refine zg_aload_n hO 2 dJ32_set_24 rfl rfl ?_
  refine zg_iload hO 0 dJ32_set_25 rfl ?_
  refine zx_callVv (na := 1) (As := [.int (nI 0)]) (rest := []) hO hX (m_bset l D dA G (k := 0)) mw_J32_expandTo q1309 ⟨Nat.le_of_ble_eq_true rfl, Nat.le_of_ble_eq_true rfl⟩ ⟨Nat.le_of_ble_eq_true rfl, Nat.le_of_ble_eq_true rfl⟩ rfl rfl (Nat.le_of_ble_eq_true rfl) ⟨W.length, 12, _, _, ap0, rfl, rfl⟩ dJ32_set_27 (fun _ => ?_)
  refine zg_ldc2 (x := -1) hO q1326 dJ32_set_30 ?_
  refine zg_iload_n hO 3 dJ32_set_33 rfl rfl ?_
  refine zg_lshl hO dJ32_set_34 ?_
  refine zg_lstore (lv' := [(5, .long ((-1 : Int64) <<< ((nI 0).toInt64 &&& 63))), (4, .int (nI 0)), (3, .int (nI 0)), (0, .ref b), (1, .int (nI 0)), (2, .int (nI n))]) hO dJ32_set_35 (Nat.le_of_ble_eq_true rfl) rfl ?_
  refine zg_ldc2 (x := -1) hO q1326 dJ32_set_37 ?_
  refine zg_iload_n hO 5 dJ32_set_40 rfl rfl ?_
  refine zg_ineg hO dJ32_set_41 ?_
  refine zg_lushr hO dJ32_set_42 ?_
  refine zg_lstore (lv' := [(7, .long (((-1 : Int64).toUInt64 >>> ((-(nI n)).toInt64.toUInt64 &&& Int64.toUInt64 63)).toInt64)), (5, .long ((-1 : Int64) <<< ((nI 0).toInt64 &&& 63))), (4, .int (nI 0)), (3, .int (nI 0)), (0, .ref b), (1, .int (nI 0)), (2, .int (nI n))]) hO dJ32_set_43 (Nat.le_of_ble_eq_true rfl) rfl ?_
  refine zg_iload_n hO 3 dJ32_set_45 rfl rfl ?_
  refine zg_iload hO 2 dJ32_set_46 rfl ?_
  refine zn_icmp_ne (tgt := 68) hO rfl dJ32_set_48 (by decide) ?_
  refine zg_aload_n hO 4 dJ32_set_51 rfl rfl ?_
  refine zg_get hO fJ32_11 W.length ap0 rfl dJ32_set_52 ?_
  refine zg_iload_n hO 3 dJ32_set_55 rfl rfl ?_
  refine zg_dup2 hO dJ32_set_56 rfl rfl ?_
  refine zg_lld (n := 1) (f := bw 0) (g := some ()) (z := ()) hO (by decide) (W.length + 1) ap1 dJ32_set_57 (fun _ => ?_)
  rw [show bw 0 (nI 0).toNatClampNeg = lN 0 from rfl]
  refine zg_lload hO 1 dJ32_set_58 rfl ?_
  refine zg_lload hO 0 dJ32_set_60 rfl ?_
  refine zg_land hO dJ32_set_62 ?_
  refine zg_lor hO dJ32_set_63 ?_
  refine zg_lst (n := 1) (f := bw 0) (g := some ()) (z := ()) hO (by decide) (W.length + 1) ap1 as1 dJ32_set_64 (fun _ => ?_)
  rw [g5, show (nI 0).toNatClampNeg = 0 from rfl, bw_upd rfl]
  refine zg_goto (tgt := 119) hO dJ32_set_65 (by decide) ?_
  refine zg_aload_n hO 4 dJ32_set_119 rfl rfl ?_
  refine zx_callVv (na := 0) (As := []) (rest := []) hO hX (m_bsci l D dA G) mw_J32_checkInvariants q1327 ⟨Nat.le_of_ble_eq_true rfl, Nat.le_of_ble_eq_true rfl⟩ ⟨Nat.le_of_ble_eq_true rfl, Nat.le_of_ble_eq_true rfl⟩ rfl rfl (Nat.le_of_ble_eq_true rfl) ⟨W.length, 12, _, _, ap0, rfl, rfl⟩ dJ32_set_120 (fun _ => ?_)
  exact zx_vret (f := fun _ : Unit => W ++ BS dA b w (2 ^ n - 1)) hO hr () (by show _ = W ++ [(b, .inr (12, [.ref w, .int (bu (2 ^ n - 1)), .int (nI 1)])), (w, .inl (dA 1, 1, .inr (.inl (bw (2 ^ n - 1)))))]; rw [g6]) ⟨Nat.le_refl _, Nat.le_refl _⟩ dJ32_set_123
theorem m_bsrc (l : Launch) (D : va_G) (dA : Nat → ClassId) (G : Nat → Nat) {W : va_W} {b w k : Nat} (hk : k < 32) : CtX l yJ32_recalculateWordsInUse (ws_ yJ32_recalculateWordsInUse cJ32_recalculateWordsInUse 2 none) 0 0 0 D dA G [.ref b] (W ++ [(b, .inr (12, [.ref w, .int (nI 1), .int (nI 1)])), (w, .inl (dA 1, 1, .inr (.inl (bw k))))]) (QgV D dA (fun _ : Unit => W ++ BS dA b w k)) := by
  have hq : ∀ k : Nat, k < 32 → (lg_cmp (lN k) (lN 0) = 0 ↔ k = 0) := by decide +kernel
  refine zx_start (cc := cJ32_recalculateWordsInUse) (nL := 2) (ret := none) (own := RJ32) (by decide) rfl rfl (Nat.le_of_ble_eq_true rfl) (fun p e s m args below meth c A hO hX hr hm _ => ?_)
  refine zg_sub (lv' := [(0, .ref b)]) [0] rfl ?_
  refine zg_aload_n hO 0 dJ32_recalculateWordsInUse_0 rfl rfl ?_
  refine zg_get hO fJ32_7 W.length ap0 rfl dJ32_recalculateWordsInUse_1 ?_
  refine zg_iconst hO dJ32_recalculateWordsInUse_4 ic1 ?_
  refine zg_isub hO dJ32_recalculateWordsInUse_5 ?_
  refine zg_istore_n (lv' := [(1, .int ((nI 1) - (nI 1))), (0, .ref b)]) hO dJ32_recalculateWordsInUse_6 rfl (Nat.le_of_ble_eq_true rfl) rfl ?_
  refine zg_iload_n hO 0 dJ32_recalculateWordsInUse_7 rfl rfl ?_
  refine zn_if_lt (tgt := 31) hO (by decide) dJ32_recalculateWordsInUse_8 (by decide) ?_
  refine zg_aload_n hO 1 dJ32_recalculateWordsInUse_11 rfl rfl ?_
  refine zg_get hO fJ32_11 W.length ap0 rfl dJ32_recalculateWordsInUse_12 ?_
  refine zg_iload_n hO 0 dJ32_recalculateWordsInUse_15 rfl rfl ?_
  refine zg_lld (n := 1) (f := bw k) (g := some ()) (z := ()) hO (by decide) (W.length + 1) ap1 dJ32_recalculateWordsInUse_16 (fun _ => ?_)
  rw [show bw k (nI 1 - nI 1).toNatClampNeg = lN k from rfl]
  refine zg_lconst hO dJ32_recalculateWordsInUse_17 lc0 ?_
  refine zg_lcmp hO dJ32_recalculateWordsInUse_18 ?_
  by_cases hz : k = 0
  · refine zt_if_eq (tgt := 25) hO ((hq k hk).mpr hz) dJ32_recalculateWordsInUse_19 (by decide) ?_
    refine zg_iinc (k := 0) (lv' := [(1, .int (((nI 1) - (nI 1)) + (-1))), (0, .ref b)]) hO dJ32_recalculateWordsInUse_25 rfl (zii icm1) (Nat.le_of_ble_eq_true rfl) rfl ?_
    refine zg_goto (tgt := 7) hO dJ32_recalculateWordsInUse_28 (by decide) ?_
    refine zg_iload_n hO 0 dJ32_recalculateWordsInUse_7 rfl rfl ?_
    refine zt_if_lt (tgt := 31) hO (by decide) dJ32_recalculateWordsInUse_8 (by decide) ?_
    refine zg_aload_n hO 1 dJ32_recalculateWordsInUse_31 rfl rfl ?_
    refine zg_iload_n hO 0 dJ32_recalculateWordsInUse_32 rfl rfl ?_
    refine zg_iconst hO dJ32_recalculateWordsInUse_33 ic1 ?_
    refine zg_iadd hO dJ32_recalculateWordsInUse_34 ?_
    refine zg_put hO pJ32_7 W.length ap0 rfl rfl (Nat.le_of_ble_eq_true rfl) as0 dJ32_recalculateWordsInUse_35 ?_
    exact zx_vret (f := fun _ : Unit => W ++ BS dA b w k) hO hr () (by show _ = W ++ [(b, .inr (12, [.ref w, .int (bu k), .int (nI 1)])), (w, .inl (dA 1, 1, .inr (.inl (bw k))))]; rw [hz]; rfl) ⟨Nat.le_refl _, Nat.le_refl _⟩ dJ32_recalculateWordsInUse_38
  · refine zn_if_eq (tgt := 25) hO (fun h => hz ((hq k hk).mp h)) dJ32_recalculateWordsInUse_19 (by decide) ?_
    refine zg_goto (tgt := 31) hO dJ32_recalculateWordsInUse_22 (by decide) ?_
    refine zg_aload_n hO 1 dJ32_recalculateWordsInUse_31 rfl rfl ?_
    refine zg_iload_n hO 0 dJ32_recalculateWordsInUse_32 rfl rfl ?_
    refine zg_iconst hO dJ32_recalculateWordsInUse_33 ic1 ?_
    refine zg_iadd hO dJ32_recalculateWordsInUse_34 ?_
    refine zg_put hO pJ32_7 W.length ap0 rfl rfl (Nat.le_of_ble_eq_true rfl) as0 dJ32_recalculateWordsInUse_35 ?_
    exact zx_vret (f := fun _ : Unit => W ++ BS dA b w k) hO hr () (by show _ = W ++ [(b, .inr (12, [.ref w, .int (bu k), .int (nI 1)])), (w, .inl (dA 1, 1, .inr (.inl (bw k))))]; rw [show bu k = nI 1 from if_neg hz]; rfl) ⟨Nat.le_refl _, Nat.le_refl _⟩ dJ32_recalculateWordsInUse_38
def bclr (k i : Nat) : Nat := if k.testBit i then k - 2 ^ i else k
theorem bs_clr : ∀ i : Nat, i < 5 → (0 ≤ nI i ∧ nI i >>> (nI 6 &&& 31) = nI 0) ∧ ∀ k : Nat, k < 32 → lN k &&& ((lN 1 <<< ((nI i).toInt64 &&& 63)) ^^^ (-1 : Int64)) = lN (bclr k i) ∧ bclr k i < 32 := by decide +kernel
theorem m_bsclr (l : Launch) (D : va_G) (dA : Nat → ClassId) (G : Nat → Nat) {W : va_W} {b w k i : Nat} (hk : k < 32) (hi : i < 5) : CtX l yJ32_clear (ws_ yJ32_clear cJ32_clear 3 none) 1 0 0 D dA G [.ref b, .int (nI i)] (W ++ BS dA b w k) (QgV D dA (fun _ : Unit => W ++ BS dA b w (bclr k i))) := by
  obtain ⟨⟨g1, g2⟩, g3⟩ := bs_clr i hi
  obtain ⟨g4, g5⟩ := g3 k hk
  refine zx_start (cc := cJ32_clear) (nL := 3) (ret := none) (own := RJ32) (by decide) rfl rfl (Nat.le_of_ble_eq_true rfl) (fun p e s m args below meth c A hO hX hr hm _ => ?_)
  refine zg_sub (lv' := [(0, .ref b), (1, .int (nI i))]) [0, 1] rfl ?_
  refine zg_iload_n hO 1 dJ32_clear_0 rfl rfl ?_
  refine zt_if_ge (tgt := 31) hO g1 dJ32_clear_1 (by decide) ?_
  refine zg_iload_n hO 1 dJ32_clear_31 rfl rfl ?_
  refine zc_callS0i (As := [.int (nI i)]) (rest := []) hO (m_bsw l D dA (r := (nI 0)) (g2)) mw_J32_wordIndex q1289 ⟨Nat.le_of_ble_eq_true rfl, Nat.le_of_ble_eq_true rfl⟩ ⟨by omega, by omega⟩ rfl rfl (Nat.le_of_ble_eq_true rfl) dJ32_clear_32 ?_
  refine zg_istore_n (lv' := [(2, .int (nI 0)), (0, .ref b), (1, .int (nI i))]) hO dJ32_clear_35 rfl (Nat.le_of_ble_eq_true rfl) rfl ?_
  refine zg_iload_n hO 0 dJ32_clear_36 rfl rfl ?_
  refine zg_aload_n hO 1 dJ32_clear_37 rfl rfl ?_
  refine zg_get hO fJ32_7 W.length ap0 rfl dJ32_clear_38 ?_
  by_cases hz : k = 0
  · refine zn_icmp_lt (tgt := 45) hO (by rw [show bu k = nI 0 from if_pos hz]; decide) dJ32_clear_41 (by decide) ?_
    exact zx_vret (f := fun _ : Unit => W ++ BS dA b w (bclr k i)) hO hr () (by rw [hz, show bclr 0 i = 0 from by unfold bclr; rw [Nat.zero_testBit]; rfl]) ⟨Nat.le_refl _, Nat.le_refl _⟩ dJ32_clear_44
  · refine zt_icmp_lt (tgt := 45) hO (by rw [show bu k = nI 1 from if_neg hz]; decide) dJ32_clear_41 (by decide) ?_
    refine zg_aload_n hO 1 dJ32_clear_45 rfl rfl ?_
    refine zg_get hO fJ32_11 W.length ap0 rfl dJ32_clear_46 ?_
    refine zg_iload_n hO 0 dJ32_clear_49 rfl rfl ?_
    refine zg_dup2 hO dJ32_clear_50 rfl rfl ?_
    refine zg_lld (n := 1) (f := bw k) (g := some ()) (z := ()) hO (by decide) (W.length + 1) ap1 dJ32_clear_51 (fun _ => ?_)
    rw [show bw k (nI 0).toNatClampNeg = lN k from rfl]
    refine zg_lconst hO dJ32_clear_52 lc1 ?_
    refine zg_iload_n hO 2 dJ32_clear_53 rfl rfl ?_
    refine zg_lshl hO dJ32_clear_54 ?_
    refine zg_ldc2 (x := -1) hO q1326 dJ32_clear_55 ?_
    refine zg_lxor hO dJ32_clear_58 ?_
    refine zg_land hO dJ32_clear_59 ?_
    refine zg_lst (n := 1) (f := bw k) (g := some ()) (z := ()) hO (by decide) (W.length + 1) ap1 as1 dJ32_clear_60 (fun _ => ?_)
    rw [g4, show (nI 0).toNatClampNeg = 0 from rfl, bw_upd rfl, show bu k = nI 1 from if_neg hz]
    refine zg_aload_n hO 1 dJ32_clear_61 rfl rfl ?_
    refine zx_callVv (na := 0) (As := []) (rest := []) hO hX (m_bsrc l D dA G g5) mw_J32_recalculateWordsInUse q1337 ⟨Nat.le_of_ble_eq_true rfl, Nat.le_of_ble_eq_true rfl⟩ ⟨Nat.le_of_ble_eq_true rfl, Nat.le_of_ble_eq_true rfl⟩ rfl rfl (Nat.le_of_ble_eq_true rfl) ⟨W.length, 12, _, _, ap0, rfl, rfl⟩ dJ32_clear_62 (fun _ => ?_)
    refine zg_aload_n hO 1 dJ32_clear_65 rfl rfl ?_
    refine zx_callVv (na := 0) (As := []) (rest := []) hO hX (m_bsci l D dA G) mw_J32_checkInvariants q1327 ⟨Nat.le_of_ble_eq_true rfl, Nat.le_of_ble_eq_true rfl⟩ ⟨Nat.le_of_ble_eq_true rfl, Nat.le_of_ble_eq_true rfl⟩ rfl rfl (Nat.le_of_ble_eq_true rfl) ⟨W.length, 12, _, _, ap0, rfl, rfl⟩ dJ32_clear_66 (fun _ => ?_)
    exact zx_vret (f := fun _ : Unit => W ++ BS dA b w (bclr k i)) hO hr () rfl ⟨Nat.le_refl _, Nat.le_refl _⟩ dJ32_clear_69
def blow (k : Nat) : Nat := if k.testBit 0 then 0 else if k.testBit 1 then 1 else if k.testBit 2 then 2 else if k.testBit 3 then 3 else 4
theorem bs_ntz : ∀ k : Nat, k < 32 → k ≠ 0 → ¬ (lN k).toInt32 = 0 ∧ Xi_numberOfTrailingZeros (lN k).toInt32 = some (nI (blow k)) := by decide +kernel
theorem m_lntz (l : Launch) (D : va_G) (dA : Nat → ClassId) {k : Nat} (hk : k < 32) (h0 : k ≠ 0) : Ct l yJ33_numberOfTrailingZeros (ws_ yJ33_numberOfTrailingZeros cJ33_numberOfTrailingZeros 3 (some .int)) 1 0 0 D dA [.long (lN k)] [] A0s (QfI D dA [] (nI (blow k))) := by
  obtain ⟨g1, g2⟩ := bs_ntz k hk h0
  refine zc_start (cc := cJ33_numberOfTrailingZeros) (nL := 3) (ret := some .int) (own := RJ33) (by decide) rfl rfl (Nat.le_of_ble_eq_true rfl) (fun _ _ h => h) (fun p e s m args below meth c hO hr _ _ => ?_)
  refine zg_sub (lv' := [(0, .long (lN k))]) [0] rfl ?_
  refine zg_lload_n hO 0 dJ33_numberOfTrailingZeros_0 rfl rfl ?_
  refine zg_l2i hO dJ33_numberOfTrailingZeros_1 ?_
  refine zg_istore_n (lv' := [(2, .int ((lN k).toInt32)), (0, .long (lN k))]) hO dJ33_numberOfTrailingZeros_2 rfl (Nat.le_of_ble_eq_true rfl) rfl ?_
  refine zg_iload_n hO 0 dJ33_numberOfTrailingZeros_3 rfl rfl ?_
  refine zt_if_ne (tgt := 21) hO g1 dJ33_numberOfTrailingZeros_4 (by decide) ?_
  refine zg_iload_n hO 0 dJ33_numberOfTrailingZeros_21 rfl rfl ?_
  refine zc_callS0i (As := [.int (lN k).toInt32]) (rest := []) hO (m_Xi_numberOfTrailingZeros l D dA g2) mw_J13_numberOfTrailingZeros q1348 ⟨Nat.le_of_ble_eq_true rfl, Nat.le_of_ble_eq_true rfl⟩ ⟨Nat.le_refl _, Nat.le_refl _⟩ rfl rfl (Nat.le_of_ble_eq_true rfl) dJ33_numberOfTrailingZeros_22 ?_
  exact zc_iret hO hr dJ33_numberOfTrailingZeros_25
def bnx (k : Nat) : Int32 := if k = 0 then -1 else nI (blow k)
theorem bs_nx : ∀ k : Nat, k < 32 → lN k &&& ((-1 : Int64) <<< ((nI 0).toInt64 &&& 63)) = lN k ∧ (k ≠ 0 → ¬ lg_cmp (lN k) (lN 0) = 0) := by decide +kernel
theorem bs_add : ∀ k : Nat, k < 32 → nI 0 * nI 64 + nI (blow k) = nI (blow k) := by decide +kernel
theorem m_bsnx (l : Launch) (D : va_G) (dA : Nat → ClassId) (G : Nat → Nat) {W : va_W} {b w k : Nat} (hk : k < 32) : CtX l yJ32_nextSetBit (ws_ yJ32_nextSetBit cJ32_nextSetBit 5 (some .int)) 2 0 0 D dA G [.ref b, .int (nI 0)] (W ++ BS dA b w k) (QgI D dA (fun _ : Unit => W ++ BS dA b w k) (bnx k)) := by
  obtain ⟨g1, g2⟩ := bs_nx k hk
  refine zx_start (cc := cJ32_nextSetBit) (nL := 5) (ret := some .int) (own := RJ32) (by decide) rfl rfl (Nat.le_of_ble_eq_true rfl) (fun p e s m args below meth c A hO hX hr hm _ => ?_)
  refine zg_sub (lv' := [(0, .ref b), (1, .int (nI 0))]) [0, 1] rfl ?_
  refine zg_iload_n hO 1 dJ32_nextSetBit_0 rfl rfl ?_
  refine zt_if_ge (tgt := 31) hO (by decide) dJ32_nextSetBit_1 (by decide) ?_
  refine zg_aload_n hO 0 dJ32_nextSetBit_31 rfl rfl ?_
  refine zx_callVv (na := 0) (As := []) (rest := []) hO hX (m_bsci l D dA G) mw_J32_checkInvariants q1327 ⟨Nat.le_of_ble_eq_true rfl, Nat.le_of_ble_eq_true rfl⟩ ⟨Nat.le_of_ble_eq_true rfl, Nat.le_of_ble_eq_true rfl⟩ rfl rfl (Nat.le_of_ble_eq_true rfl) ⟨W.length, 12, _, _, ap0, rfl, rfl⟩ dJ32_nextSetBit_32 (fun _ => ?_)
  refine zg_iload_n hO 1 dJ32_nextSetBit_35 rfl rfl ?_
  refine zc_callS0i (As := [.int (nI 0)]) (rest := []) hO (m_bsw l D dA (r := (nI 0)) (by decide)) mw_J32_wordIndex q1289 ⟨Nat.le_of_ble_eq_true rfl, Nat.le_of_ble_eq_true rfl⟩ ⟨by omega, by omega⟩ rfl rfl (Nat.le_of_ble_eq_true rfl) dJ32_nextSetBit_36 ?_
  refine zg_istore_n (lv' := [(2, .int (nI 0)), (0, .ref b), (1, .int (nI 0))]) hO dJ32_nextSetBit_39 rfl (Nat.le_of_ble_eq_true rfl) rfl ?_
  refine zg_iload_n hO 0 dJ32_nextSetBit_40 rfl rfl ?_
  refine zg_aload_n hO 1 dJ32_nextSetBit_41 rfl rfl ?_
  refine zg_get hO fJ32_7 W.length ap0 rfl dJ32_nextSetBit_42 ?_
  by_cases hz : k = 0
  · refine zn_icmp_lt (tgt := 50) hO (by rw [show bu k = nI 0 from if_pos hz]; decide) dJ32_nextSetBit_45 (by decide) ?_
    refine zg_iconst hO dJ32_nextSetBit_48 icm1 ?_
    exact zx_iret (f := fun _ : Unit => W ++ BS dA b w k) hO hr () rfl (if_pos hz).symm ⟨Nat.le_refl _, Nat.le_refl _⟩ dJ32_nextSetBit_49
  · refine zt_icmp_lt (tgt := 50) hO (by rw [show bu k = nI 1 from if_neg hz]; decide) dJ32_nextSetBit_45 (by decide) ?_
    refine zg_aload_n hO 1 dJ32_nextSetBit_50 rfl rfl ?_
    refine zg_get hO fJ32_11 W.length ap0 rfl dJ32_nextSetBit_51 ?_
    refine zg_iload_n hO 0 dJ32_nextSetBit_54 rfl rfl ?_
    refine zg_lld (n := 1) (f := bw k) (g := some ()) (z := ()) hO (by decide) (W.length + 1) ap1 dJ32_nextSetBit_55 (fun _ => ?_)
    rw [show bw k (nI 0).toNatClampNeg = lN k from rfl]
    refine zg_ldc2 (x := -1) hO q1326 dJ32_nextSetBit_56 ?_
    refine zg_iload_n hO 2 dJ32_nextSetBit_59 rfl rfl ?_
    refine zg_lshl hO dJ32_nextSetBit_60 ?_
    refine zg_land hO dJ32_nextSetBit_61 ?_
    rw [g1]
    refine zg_lstore_n (lv' := [(3, .long (lN k)), (2, .int (nI 0)), (0, .ref b), (1, .int (nI 0))]) hO dJ32_nextSetBit_62 rfl (Nat.le_of_ble_eq_true rfl) rfl ?_
    refine zg_lload_n hO 0 dJ32_nextSetBit_63 rfl rfl ?_
    refine zg_lconst hO dJ32_nextSetBit_64 lc0 ?_
    refine zg_lcmp hO dJ32_nextSetBit_65 ?_
    refine zn_if_eq (tgt := 79) hO (g2 hz) dJ32_nextSetBit_66 (by decide) ?_
    refine zg_iload_n hO 1 dJ32_nextSetBit_69 rfl rfl ?_
    refine zg_bipush hO dJ32_nextSetBit_70 (by decide : (Int8.ofInt 64).toInt32 = nI 64) ?_
    refine zg_imul hO dJ32_nextSetBit_72 ?_
    refine zg_lload_n hO 0 dJ32_nextSetBit_73 rfl rfl ?_
    refine zc_callS0i (As := [.long (lN k)]) (rest := [.int (nI 0 * nI 64)]) hO (m_lntz l D dA hk hz) mw_J33_numberOfTrailingZeros q1345 ⟨Nat.le_of_ble_eq_true rfl, Nat.le_of_ble_eq_true rfl⟩ ⟨Nat.le_refl _, Nat.le_refl _⟩ rfl rfl (Nat.le_of_ble_eq_true rfl) dJ32_nextSetBit_74 ?_
    refine zg_iadd hO dJ32_nextSetBit_77 ?_
    exact zx_iret (f := fun _ : Unit => W ++ BS dA b w k) hO hr () rfl (by rw [bs_add k hk]; exact (if_neg hz).symm) ⟨Nat.le_refl _, Nat.le_refl _⟩ dJ32_nextSetBit_78
