set_option maxRecDepth 100000
/-! item AND row: WHERE THEY THROW; THE LAW'S item AND row -/
/-- it never returns -/
abbrev QgN : (Nat → Prop) → Array Value → State → Outcome → State → Prop := fun A => va_Qi (S := Unit) (fun _ _ => False) (fun _ _ => True) A
section ZLC
variable {p : Program} {l : Launch} {e : Env} {s : State} {m : MethodId} {args : Array Value} {below : List Frame} {meth : Method} {c : Code} {cc : ByteArray} {own C : String} {nL : Nat} {D : va_G} {dA : Nat → ClassId} {G : Nat → Nat} {A : Nat → Prop} {Q : State → Prop} {W X : va_W} {u v pc : Nat} {lv : List (Nat × Value)} {st rest : List Value}
  {y : MethodName} {bytes : ByteArray} {maxL N n' mc ms na index b : Nat} {rk rs : Nat} {ret : Option FieldType} {As : List Value} {S SX : Type} {f : S → va_W} {fx : SX → Nat → va_W} {hh : List (Nat × Nat × Nat × Nat)} {r : Int32}
/-- a call that throws, in a world that holds more -/
theorem zq_callVtX (hO : Ok p s m args meth c cc own nL D dA A) (hX : XK dA G A s) {E : String} (hM : CtE l y (ws_ y bytes maxL ret) n' mc ms D dA G (.ref b :: As) W QgN (XgF D dA E fx)) (hw : MwX y bytes maxL ret C na) (hlk : Cond.methodLink own index y ∈ lw_all) (hR : n' + 1 ≤ N ∧ 8 + (maxL + 11) + 64 * n' ≤ 64 * N) (hc : u + mc ≤ rk ∧ v + ms ≤ rs) (hn : As.length = na)
    (hst : st = As.reverse ++ .ref b :: rest) (hrm : (rest.map fun x => x.category).sum ≤ 8) (hrecv : ∃ (k ci : Nat) (fs : List Value) (q : vw_C), W[k]? = some (b, .inr (ci, fs)) ∧ zg_cl[ci]? = some q ∧ q.1 = C) (hdg : decode cc pc = .ok (.invokevirtual index, 3))
    (kx : ∀ (z : SX) (q : Nat), GoX p l e (rmG N rk rs) s m args below meth c D A nL Q (fx z q ++ X) (u + mc) (v + ms) pc lv rest q) : Go p l e (rmG N rk rs) s m args below meth c D A nL Q (W ++ X) u v pc lv st := by
  intro H locs ls hP hD hS hl
  obtain ⟨k, ci, fs, q, h1, h2, rfl⟩ := hrecv
  obtain ⟨w1, w2, w3, w4, w5⟩ := hw
  have hts := hO.2.2.2.2.1
  have hp := zx_pc hO hX hP.left hD.left hS (.ref b :: As)
  refine vq_calli (vq_runV (As := As) (rest := rest) ⟨hO.1, hO.2.1, hO.2.2.1, hO.2.2.2.1, hts⟩ (hM H.size) ⟨callB_of na hts (lw_meth w5) rfl rfl rfl (hts _ w4) (hts _ hlk) w1 hR, hts _ w2, hts _ w3⟩
    ⟨hp.1, va_recv hO.2.2.2.2.2.1 hP.left h2 h1, hp.2⟩ rfl hn hl.1 hst (lv_room hrm) hdg hc) hS (fun q _ h => va_AA hO hS hD.left q h) (fun q h => va_AA hO hS hD.left q h) (fun q _ h => va_AA hO hS hD.left q h) (fun E9 ce q9 z t H1 locs1 ht hvm _ hB hz hk hS1 _ _ _ => ?_) (fun x z t H1 locs1 ht hvm hx hB hz hk hS1 => hx.elim)
  obtain ⟨rfl, hB⟩ := hB
  subst ht
  obtain ⟨g1, g2⟩ := zf_join hP hD hk hB.1 hB.2.2 (fun q h => va_AA hO hS hD.left q h)
  exact kx z q9 t.heap locs1 ls g1 g2 hS1 hl
/-- calls of an int, a long in a world that holds more -/
theorem zx_callVlX (hO : Ok p s m args meth c cc own nL D dA A) (hX : XK dA G A s) {r : Int64} (hM : CtX l y (ws_ y bytes maxL ret) n' mc ms D dA G (.ref b :: As) W (QgL D dA f r)) (hw : MwX y bytes maxL ret C na) (hlk : Cond.methodLink own index y ∈ lw_all) (hR : n' + 1 ≤ N ∧ 8 + (maxL + 11) + 64 * n' ≤ 64 * N) (hc : u + mc ≤ rk ∧ v + ms ≤ rs) (hn : As.length = na)
    (hst : st = As.reverse ++ .ref b :: rest) (hrm : (rest.map fun x => x.category).sum ≤ 8) (hrecv : ∃ (k ci : Nat) (fs : List Value) (q : vw_C), W[k]? = some (b, .inr (ci, fs)) ∧ zg_cl[ci]? = some q ∧ q.1 = C) (hdg : decode cc pc = .ok (.invokevirtual index, 3)) (kk : ∀ z : S, Go p l e (rmG N rk rs) s m args below meth c D A nL Q (f z ++ X) (u + mc) (v + ms) (pc + 3) lv (.long r :: rest)) : Go p l e (rmG N rk rs) s m args below meth c D A nL Q (W ++ X) u v pc lv st := by
  intro H locs ls hP hD hS hl
  refine va_calll (zx_runV hO hX hM hw hlk hR hc hn hst hrm hdg hP.left hD.left hS hl hrecv) hS (fun q _ h => va_AA hO hS hD.left q h) (fun q h => va_AA hO hS hD.left q h) (fun x z t H1 locs1 ht hvm hx hB hz hk hS1 => ?_)
  subst hx
  subst ht
  obtain ⟨g1, g2⟩ := zf_join hP hD hk hB.1 hB.2.2 (fun q h => va_AA hO hS hD.left q h)
  exact kk z t.heap locs1 ls g1 g2 hS1 hl
/-- methods with a table, called -/
theorem zx_callViWX (hO : Ok p s m args meth c cc own nL D dA A) (hX : XK dA G A s) (hM : CtX l y (wsW_ y bytes maxL ret hh) n' mc ms D dA G (.ref b :: As) W (QgI D dA f r)) (hw : (y.cls = C ∧ y.cls ≠ "java/lang/invoke/MethodHandle" ∧ y.cls ≠ "java/lang/invoke/VarHandle" ∧ (parseMethodDescriptor y.desc).map (fun d => d.parameters.length) = some na) ∧ Cond.instanceMethod y ∈ lw_all ∧ Cond.selects C y y ∈ lw_all ∧ Cond.initialized C ∈ lw_all ∧ Cond.codeWith y bytes maxL ret hh ∈ lw_all) (hlk : Cond.methodLink own index y ∈ lw_all) (hR : n' + 1 ≤ N ∧ 8 + (maxL + 11) + 64 * n' ≤ 64 * N) (hc : u + mc ≤ rk ∧ v + ms ≤ rs) (hn : As.length = na)
    (hst : st = As.reverse ++ .ref b :: rest) (hrm : (rest.map fun x => x.category).sum ≤ 8) (hrecv : ∃ (k ci : Nat) (fs : List Value) (q : vw_C), W[k]? = some (b, .inr (ci, fs)) ∧ zg_cl[ci]? = some q ∧ q.1 = C) (hdg : decode cc pc = .ok (.invokevirtual index, 3)) (kk : ∀ z : S, Go p l e (rmG N rk rs) s m args below meth c D A nL Q (f z ++ X) (u + mc) (v + ms) (pc + 3) lv (.int r :: rest)) : Go p l e (rmG N rk rs) s m args below meth c D A nL Q (W ++ X) u v pc lv st := by
  intro H locs ls hP hD hS hl
  obtain ⟨k, ci, fs, q, h1, h2, rfl⟩ := hrecv
  obtain ⟨w1, w2, w3, w4, w5⟩ := hw
  have hts := hO.2.2.2.2.1
  have hp := zx_pc hO hX hP.left hD.left hS (.ref b :: As)
  refine va_calli (vx_runVW (As := As) (rest := rest) ⟨hO.1, hO.2.1, hO.2.2.1, hO.2.2.2.1, hts⟩ (hM H.size) (vx_cwVW na hts (lw_VW hlk w2 w3 w4 w5) rfl rfl rfl w1 hR) ⟨hp.1, va_recv hO.2.2.2.2.2.1 hP.left h2 h1, hp.2⟩ rfl hn hl.1 hst (lv_room hrm) hdg hc) hS (fun q _ h => va_AA hO hS hD.left q h) (fun q h => va_AA hO hS hD.left q h) (fun x z t H1 locs1 ht hvm hx hB hz hk hS1 => ?_)
  subst hx
  subst ht
  obtain ⟨g1, g2⟩ := zf_join hP hD hk hB.1 hB.2.2 (fun q h => va_AA hO hS hD.left q h)
  exact kk z t.heap locs1 ls g1 g2 hS1 hl
theorem zx_callSiWX (hO : Ok p s m args meth c cc own nL D dA A) (hX : XK dA G A s) (hM : CtX l y (wsW_ y bytes maxL ret hh) n' mc ms D dA G As W (QgI D dA f r)) (hw : (y.cls ≠ "java/lang/invoke/MethodHandle" ∧ y.cls ≠ "java/lang/invoke/VarHandle" ∧ (parseMethodDescriptor y.desc).map (fun d => d.parameters.length) = some na) ∧ Cond.static y ∈ lw_all ∧ Cond.initialized y.cls ∈ lw_all ∧ Cond.codeWith y bytes maxL ret hh ∈ lw_all) (hlk : Cond.methodLink own index y ∈ lw_all) (hR : n' + 1 ≤ N ∧ 8 + (maxL + 11) + 64 * n' ≤ 64 * N) (hc : u + mc ≤ rk ∧ v + ms ≤ rs) (hn : As.length = na)
    (hst : st = As.reverse ++ rest) (hrm : (rest.map fun x => x.category).sum ≤ 8) (hdg : decode cc pc = .ok (.invokestatic index, 3)) (kk : ∀ z : S, Go p l e (rmG N rk rs) s m args below meth c D A nL Q (f z ++ X) (u + mc) (v + ms) (pc + 3) lv (.int r :: rest)) : Go p l e (rmG N rk rs) s m args below meth c D A nL Q (W ++ X) u v pc lv st := by
  intro H locs ls hP hD hS hl
  obtain ⟨w1, w2, w3, w4⟩ := hw
  have hts := hO.2.2.2.2.1
  have hp := zx_pc hO hX hP.left hD.left hS As
  refine va_calli (vx_runSW (As := As) (rest := rest) ⟨hO.1, hO.2.1, hO.2.2.1, hO.2.2.2.1, hts⟩ (hM H.size) (vx_cwSW na hts (lw_SW hlk w2 w3 w4) rfl rfl rfl w1 hR) hp rfl hn hl.1 hst (lv_room hrm) hdg hc) hS (fun q _ h => va_AA hO hS hD.left q h) (fun q h => va_AA hO hS hD.left q h) (fun x z t H1 locs1 ht hvm hx hB hz hk hS1 => ?_)
  subst hx
  subst ht
  obtain ⟨g1, g2⟩ := zf_join hP hD hk hB.1 hB.2.2 (fun q h => va_AA hO hS hD.left q h)
  exact kk z t.heap locs1 ls g1 g2 hS1 hl
theorem zt_rm {x : Nat × va_E} (kk : Go p l e (rmG N rk rs) s m args below meth c D A nL Q (W ++ X) u v pc lv st) : Go p l e (rmG N rk rs) s m args below meth c D A nL Q (W ++ [x] ++ X) u v pc lv st := by
  refine zt_perm (ws' := (W ++ X) ++ [x]) ?_ (zj_tail kk)
  simp only [List.append_assoc]
  exact List.perm_append_comm.append_left W
end ZLC
def X_itemT (x1 x2 : Int32) (σ : XS) : Option XS := (X_isLine x1).bind fun q1 => if q1 = 0 then some σ else if x1 < 0 ∨ 4 ≤ x1.toNatClampNeg then none else (Xl_size x1.toNatClampNeg σ).bind fun q3 => (X_in x2.toInt64 (lN 0) (q3.1 - nI 1).toInt64).bind fun q4 => if q4 = 0 then some q3.2 else none
def X_rowT (x1 : Int32) (σ : XS) : Option XS := (X_in x1.toInt64 (lN 0) (xI σ 5 - nI 1).toInt64).bind fun q1 => if q1 = 0 then some σ else none
theorem m_X_itemT (l : Launch) (hl9 : l.stackTraces = false) (D : va_G) (dA : Nat → ClassId) (G : Nat → Nat) {x1 x2 : Int32} {σ : XS} (tb : Nat) (ad : Nat → Nat) {ρ : XS} (h : X_itemT x1 x2 σ = some ρ) : CtE l yX1_item (ws_ yX1_item cX1_item 8 (some .int)) 6 1 6 D dA G [.ref (G 0), .int x1, .int x2] (WX dA G tb ad σ) QgN (XgF D dA nseC (fun (_ : Unit) q => WX dA G tb ad ρ ++ [(q, .inr (17, []))])) := by
  refine zx_startE (cc := cX1_item) (nL := 8) (ret := some .int) (own := RX1) (by decide) rfl rfl (Nat.le_of_ble_eq_true rfl) (fun p e s m args below meth c A hO hX htab hr hm9 _ => ?_)
  unfold X_itemT at h
  obtain ⟨q1, hq1, h⟩ := zg_bind h
  refine zg_sub (lv' := [(0, .ref (G 0)), (1, .int x1), (2, .int x2)]) [0, 1, 2] rfl ?_
  refine zg_iload_n hO 1 dX1_item_0 rfl rfl ?_
  refine zc_callS0i (As := [.int x1]) (rest := []) hO (m_X_isLine l D dA hq1) mw_X1_isLine q1398 ⟨Nat.le_of_ble_eq_true rfl, Nat.le_of_ble_eq_true rfl⟩ ⟨Nat.zero_le _, Nat.zero_le _⟩ rfl rfl (Nat.le_of_ble_eq_true rfl) dX1_item_1 ?_
  by_cases hz : q1 = 0
  · rw [if_pos hz] at h
    have h := Option.some.inj h
    subst h
    refine zt_if_eq (tgt := 35) hO hz dX1_item_4 (by decide) ?_
    refine ze_nse hO hX hl9 dX1_item_35 dX1_item_38 dX1_item_39 (Nat.le_refl _) (Nat.le_refl _) (Nat.le_refl _) (fun q => ?_)
    refine zq_throw hO dX1_item_42 ?_
    exact zq_out hO htab () (WX dA G tb ad σ).length ap0 rfl rfl ⟨Nat.le_of_ble_eq_true rfl, Nat.le_of_ble_eq_true rfl⟩
  · rw [if_neg hz] at h
    refine zn_if_eq (tgt := 35) hO hz dX1_item_4 (by decide) ?_
    refine zg_iload_n hO 2 dX1_item_7 rfl rfl ?_
    refine zg_i2l hO dX1_item_8 ?_
    refine zg_lconst hO dX1_item_9 lc0 ?_
    refine zg_aload_n hO 0 dX1_item_10 rfl rfl ?_
    refine xG_1_162 hO hX dX1_item_11 ?_
    refine zg_iload_n hO 1 dX1_item_14 rfl rfl ?_
    refine zy_lget (rest := [.long (lN 0), .long x2.toInt64]) hO hX h q1406 (Nat.le_of_ble_eq_true rfl) dX1_item_15 (fun hb2 h => ?_) ⟨Nat.zero_le _, Nat.zero_le _⟩
    refine zy_castL hO hb2 q231 dX1_item_20 ?_
    obtain ⟨q3, hq3, h⟩ := zg_bind h
    obtain ⟨q4, hq4, h⟩ := zg_bind h
    refine zx_callVi (As := []) (rest := [.long (lN 0), .long x2.toInt64]) hO hX (m_Xl_size l D dA G hb2 tb ad hq3) mw_X3_size q1407 ⟨Nat.le_of_ble_eq_true rfl, Nat.le_of_ble_eq_true rfl⟩ ⟨Nat.zero_le _, Nat.zero_le _⟩ rfl rfl (Nat.le_of_ble_eq_true rfl) ⟨40 + 3 * x1.toNatClampNeg, 2, _, _, wx_line hb2, rfl, rfl⟩ dX1_item_23 (fun _ => ?_)
    refine zg_iconst hO dX1_item_26 ic1 ?_
    refine zg_isub hO dX1_item_27 ?_
    refine zg_i2l hO dX1_item_28 ?_
    refine zc_callS0i (As := [.long x2.toInt64, .long (lN 0), .long (q3.1 - nI 1).toInt64]) (rest := []) hO (m_X_in l D dA hq4) mw_X1_in q608 ⟨Nat.le_of_ble_eq_true rfl, Nat.le_of_ble_eq_true rfl⟩ ⟨Nat.zero_le _, Nat.zero_le _⟩ rfl rfl (Nat.le_of_ble_eq_true rfl) dX1_item_29 ?_
    obtain ⟨hz4, h⟩ := zg_some h
    have h := Option.some.inj h
    subst h
    refine zn_if_ne (tgt := 43) hO hz4 dX1_item_32 (by decide) ?_
    refine ze_nse hO hX hl9 dX1_item_35 dX1_item_38 dX1_item_39 (Nat.le_refl _) (Nat.le_refl _) (Nat.le_refl _) (fun q => ?_)
    refine zq_throw hO dX1_item_42 ?_
    exact zq_out hO htab () (WX dA G tb ad q3.2).length ap0 rfl rfl ⟨Nat.le_of_ble_eq_true rfl, Nat.le_of_ble_eq_true rfl⟩
theorem m_X_rowT (l : Launch) (hl9 : l.stackTraces = false) (D : va_G) (dA : Nat → ClassId) (G : Nat → Nat) {x1 : Int32} {σ : XS} (tb : Nat) (ad : Nat → Nat) {ρ : XS} (h : X_rowT x1 σ = some ρ) : CtE l yX1_row (ws_ yX1_row cX1_row 2 (some .long)) 6 1 6 D dA G [.ref (G 0), .int x1] (WX dA G tb ad σ) QgN (XgF D dA nseC (fun (_ : Unit) q => WX dA G tb ad ρ ++ [(q, .inr (17, []))])) := by
  refine zx_startE (cc := cX1_row) (nL := 2) (ret := some .long) (own := RX1) (by decide) rfl rfl (Nat.le_of_ble_eq_true rfl) (fun p e s m args below meth c A hO hX htab hr hm9 _ => ?_)
  unfold X_rowT at h
  obtain ⟨q1, hq1, h⟩ := zg_bind h
  obtain ⟨hz, h⟩ := zg_some h
  have h := Option.some.inj h
  subst h
  refine zg_sub (lv' := [(0, .ref (G 0)), (1, .int x1)]) [0, 1] rfl ?_
  refine zg_iload_n hO 1 dX1_row_0 rfl rfl ?_
  refine zg_i2l hO dX1_row_1 ?_
  refine zg_lconst hO dX1_row_2 lc0 ?_
  refine zg_aload_n hO 0 dX1_row_3 rfl rfl ?_
  refine xG_1_199 hO hX dX1_row_4 ?_
  refine zg_iconst hO dX1_row_7 ic1 ?_
  refine zg_isub hO dX1_row_8 ?_
  refine zg_i2l hO dX1_row_9 ?_
  refine zc_callS0i (As := [.long x1.toInt64, .long (lN 0), .long (xI σ 5 - nI 1).toInt64]) (rest := []) hO (m_X_in l D dA hq1) mw_X1_in q608 ⟨Nat.le_of_ble_eq_true rfl, Nat.le_of_ble_eq_true rfl⟩ ⟨Nat.zero_le _, Nat.zero_le _⟩ rfl rfl (Nat.le_of_ble_eq_true rfl) dX1_row_10 ?_
  refine zn_if_ne (tgt := 24) hO hz dX1_row_13 (by decide) ?_
  refine ze_nse hO hX hl9 dX1_row_16 dX1_row_19 dX1_row_20 (Nat.le_refl _) (Nat.le_refl _) (Nat.le_refl _) (fun q => ?_)
  refine zq_throw hO dX1_row_23 ?_
  exact zq_out hO htab () (WX dA G tb ad σ).length ap0 rfl rfl ⟨Nat.le_of_ble_eq_true rfl, Nat.le_of_ble_eq_true rfl⟩
theorem m_L_item (l : Launch) (hl9 : l.stackTraces = false) (D : va_G) (dA : Nat → ClassId) (G : Nat → Nat) {x1 x2 : Int32} {σ : XS} (tb : Nat) (ad : Nat → Nat) {ou : Nat} {f : Nat → Int64} {ρ : Int32 × XS} (h : X_item x1 x2 σ = some ρ) : CtX l yX0_item (wsW_ yX0_item cX0_item 5 (some .int) [(0, 10, 13, 13)]) 7 1 6 D dA G [.ref (G 0), .int x1, .int x2, .ref ou] (WX dA G tb ad σ ++ [(ou, .inl (dA 1, 1, .inr (.inl f)))]) (QgI D dA (fun _ : Unit => WX dA G tb ad ρ.2 ++ [(ou, .inl (dA 1, 1, .inr (.inl (vp_updL f 0 (ρ.1.toInt64)))))]) (nI 0)) := by
  refine zx_startWT (cc := cX0_item) (nL := 5) (ret := some .int) (own := "EndSumsLaw") (hh := [(0, 10, 13, 13)]) (by decide) rfl rfl (Nat.le_of_ble_eq_true rfl) (fun p e s m args below meth c A hO hX htab hr _ _ => ?_)
  refine zg_sub (lv' := [(0, .ref (G 0)), (1, .int x1), (2, .int x2), (3, .ref ou)]) [0, 1, 2, 3] rfl ?_
  refine zg_aload_n hO 3 dX0_item_0 rfl rfl ?_
  refine zg_iconst hO dX0_item_1 ic0 ?_
  refine zg_aload_n hO 0 dX0_item_2 rfl rfl ?_
  refine zg_iload_n hO 1 dX0_item_3 rfl rfl ?_
  refine zg_iload_n hO 2 dX0_item_4 rfl rfl ?_
  refine zx_callViX (na := 2) (As := [.int x1, .int x2]) (rest := [.int (nI 0), .ref ou]) hO hX (m_X_item l D dA G tb ad h) mw_X1_item q1677 ⟨Nat.le_of_ble_eq_true rfl, Nat.le_of_ble_eq_true rfl⟩ ⟨Nat.zero_le _, Nat.zero_le _⟩ rfl rfl (Nat.le_of_ble_eq_true rfl) ⟨0, 1, _, _, rfl, rfl, rfl⟩ dX0_item_5 (fun _ => ?_)
  refine zg_i2l hO dX0_item_8 ?_
  refine zg_lst (ws' := WX dA G tb ad ρ.2 ++ [(ou, .inl (dA 1, 1, .inr (.inl (vp_updL f 0 (ρ.1.toInt64)))))]) (g := some ()) (z := ()) hO (if_neg (by decide)) (WX dA G tb ad ρ.2).length ap0 as0 dX0_item_9 (fun _ => ?_)
  refine zg_goto (tgt := 17) hO dX0_item_10 (by decide) ?_
  refine zg_iconst hO dX0_item_17 ic0 ?_
  exact zx_iret (f := fun _ : Unit => WX dA G tb ad ρ.2 ++ [(ou, .inl (dA 1, 1, .inr (.inl (vp_updL f 0 (ρ.1.toInt64)))))]) hO hr () rfl rfl ⟨Nat.zero_le _, Nat.zero_le _⟩ dX0_item_18
theorem m_L_itemT (l : Launch) (hl9 : l.stackTraces = false) (D : va_G) (dA : Nat → ClassId) (G : Nat → Nat) {x1 x2 : Int32} {σ : XS} (tb : Nat) (ad : Nat → Nat) {ou : Nat} {f : Nat → Int64} {ρ : XS} (h : X_itemT x1 x2 σ = some ρ) : CtX l yX0_item (wsW_ yX0_item cX0_item 5 (some .int) [(0, 10, 13, 13)]) 7 1 6 D dA G [.ref (G 0), .int x1, .int x2, .ref ou] (WX dA G tb ad σ ++ [(ou, .inl (dA 1, 1, .inr (.inl f)))]) (QgI D dA (fun _ : Unit => WX dA G tb ad ρ ++ [(ou, .inl (dA 1, 1, .inr (.inl f)))]) (nI 1)) := by
  refine zx_startWT (cc := cX0_item) (nL := 5) (ret := some .int) (own := "EndSumsLaw") (hh := [(0, 10, 13, 13)]) (by decide) rfl rfl (Nat.le_of_ble_eq_true rfl) (fun p e s m args below meth c A hO hX htab hr _ _ => ?_)
  refine zg_sub (lv' := [(0, .ref (G 0)), (1, .int x1), (2, .int x2), (3, .ref ou)]) [0, 1, 2, 3] rfl ?_
  refine zg_aload_n hO 3 dX0_item_0 rfl rfl ?_
  refine zg_iconst hO dX0_item_1 ic0 ?_
  refine zg_aload_n hO 0 dX0_item_2 rfl rfl ?_
  refine zg_iload_n hO 1 dX0_item_3 rfl rfl ?_
  refine zg_iload_n hO 2 dX0_item_4 rfl rfl ?_
  refine zq_callVtX (na := 2) (As := [.int x1, .int x2]) (rest := [.int (nI 0), .ref ou]) hO hX (m_X_itemT l hl9 D dA G tb ad h) mw_X1_item q1677 ⟨Nat.le_of_ble_eq_true rfl, Nat.le_of_ble_eq_true rfl⟩ ⟨Nat.le_of_ble_eq_true rfl, Nat.le_of_ble_eq_true rfl⟩ rfl rfl (Nat.le_of_ble_eq_true rfl) ⟨0, 1, _, _, rfl, rfl, rfl⟩ dX0_item_5 (fun z q => ?_)
  refine zq_catch hO hX (WX dA G tb ad ρ).length (apW (ap0 (L := []))) rfl _ [] htab (by decide) (by decide) (name := nseC) q1676 (hX.1.use q758 rfl rfl) ?_
  refine zt_rm ?_
  refine zg_astore (lv' := [(4, .ref q), (0, .ref (G 0)), (1, .int x1), (2, .int x2), (3, .ref ou)]) hO dX0_item_13 (Nat.le_of_ble_eq_true rfl) rfl ?_
  refine zg_iconst hO dX0_item_15 ic1 ?_
  exact zx_iret (f := fun _ : Unit => WX dA G tb ad ρ ++ [(ou, .inl (dA 1, 1, .inr (.inl f)))]) hO hr () rfl rfl ⟨Nat.le_refl _, Nat.le_refl _⟩ dX0_item_16
theorem m_L_row (l : Launch) (hl9 : l.stackTraces = false) (D : va_G) (dA : Nat → ClassId) (G : Nat → Nat) {x1 : Int32} {σ : XS} (tb : Nat) (ad : Nat → Nat) {ou : Nat} {f : Nat → Int64} {ρ : Int64 × XS} (h : X_row x1 σ = some ρ) : CtX l yX0_row (wsW_ yX0_row cX0_row 4 (some .int) [(0, 8, 11, 13)]) 7 1 6 D dA G [.ref (G 0), .int x1, .ref ou] (WX dA G tb ad σ ++ [(ou, .inl (dA 1, 1, .inr (.inl f)))]) (QgI D dA (fun _ : Unit => WX dA G tb ad ρ.2 ++ [(ou, .inl (dA 1, 1, .inr (.inl (vp_updL f 0 (ρ.1)))))]) (nI 0)) := by
  refine zx_startWT (cc := cX0_row) (nL := 4) (ret := some .int) (own := "EndSumsLaw") (hh := [(0, 8, 11, 13)]) (by decide) rfl rfl (Nat.le_of_ble_eq_true rfl) (fun p e s m args below meth c A hO hX htab hr _ _ => ?_)
  refine zg_sub (lv' := [(0, .ref (G 0)), (1, .int x1), (2, .ref ou)]) [0, 1, 2] rfl ?_
  refine zg_aload_n hO 2 dX0_row_0 rfl rfl ?_
  refine zg_iconst hO dX0_row_1 ic0 ?_
  refine zg_aload_n hO 0 dX0_row_2 rfl rfl ?_
  refine zg_iload_n hO 1 dX0_row_3 rfl rfl ?_
  refine zx_callVlX (na := 1) (As := [.int x1]) (rest := [.int (nI 0), .ref ou]) hO hX (m_X_row l D dA G tb ad h) mw_X1_row q1686 ⟨Nat.le_of_ble_eq_true rfl, Nat.le_of_ble_eq_true rfl⟩ ⟨Nat.zero_le _, Nat.zero_le _⟩ rfl rfl (Nat.le_of_ble_eq_true rfl) ⟨0, 1, _, _, rfl, rfl, rfl⟩ dX0_row_4 (fun _ => ?_)
  refine zg_lst (ws' := WX dA G tb ad ρ.2 ++ [(ou, .inl (dA 1, 1, .inr (.inl (vp_updL f 0 (ρ.1)))))]) (g := some ()) (z := ()) hO (if_neg (by decide)) (WX dA G tb ad ρ.2).length ap0 as0 dX0_row_7 (fun _ => ?_)
  refine zg_goto (tgt := 14) hO dX0_row_8 (by decide) ?_
  refine zg_iconst hO dX0_row_14 ic0 ?_
  exact zx_iret (f := fun _ : Unit => WX dA G tb ad ρ.2 ++ [(ou, .inl (dA 1, 1, .inr (.inl (vp_updL f 0 (ρ.1)))))]) hO hr () rfl rfl ⟨Nat.zero_le _, Nat.zero_le _⟩ dX0_row_15
theorem m_L_rowT (l : Launch) (hl9 : l.stackTraces = false) (D : va_G) (dA : Nat → ClassId) (G : Nat → Nat) {x1 : Int32} {σ : XS} (tb : Nat) (ad : Nat → Nat) {ou : Nat} {f : Nat → Int64} {ρ : XS} (h : X_rowT x1 σ = some ρ) : CtX l yX0_row (wsW_ yX0_row cX0_row 4 (some .int) [(0, 8, 11, 13)]) 7 1 6 D dA G [.ref (G 0), .int x1, .ref ou] (WX dA G tb ad σ ++ [(ou, .inl (dA 1, 1, .inr (.inl f)))]) (QgI D dA (fun _ : Unit => WX dA G tb ad ρ ++ [(ou, .inl (dA 1, 1, .inr (.inl f)))]) (nI 1)) := by
  refine zx_startWT (cc := cX0_row) (nL := 4) (ret := some .int) (own := "EndSumsLaw") (hh := [(0, 8, 11, 13)]) (by decide) rfl rfl (Nat.le_of_ble_eq_true rfl) (fun p e s m args below meth c A hO hX htab hr _ _ => ?_)
  refine zg_sub (lv' := [(0, .ref (G 0)), (1, .int x1), (2, .ref ou)]) [0, 1, 2] rfl ?_
  refine zg_aload_n hO 2 dX0_row_0 rfl rfl ?_
  refine zg_iconst hO dX0_row_1 ic0 ?_
  refine zg_aload_n hO 0 dX0_row_2 rfl rfl ?_
  refine zg_iload_n hO 1 dX0_row_3 rfl rfl ?_
  refine zq_callVtX (na := 1) (As := [.int x1]) (rest := [.int (nI 0), .ref ou]) hO hX (m_X_rowT l hl9 D dA G tb ad h) mw_X1_row q1686 ⟨Nat.le_of_ble_eq_true rfl, Nat.le_of_ble_eq_true rfl⟩ ⟨Nat.le_of_ble_eq_true rfl, Nat.le_of_ble_eq_true rfl⟩ rfl rfl (Nat.le_of_ble_eq_true rfl) ⟨0, 1, _, _, rfl, rfl, rfl⟩ dX0_row_4 (fun z q => ?_)
  refine zq_catch hO hX (WX dA G tb ad ρ).length (apW (ap0 (L := []))) rfl _ [] htab (by decide) (by decide) (name := nseC) q1676 (hX.1.use q758 rfl rfl) ?_
  refine zt_rm ?_
  refine zg_astore_n (lv' := [(3, .ref q), (0, .ref (G 0)), (1, .int x1), (2, .ref ou)]) hO dX0_row_11 rfl (Nat.le_of_ble_eq_true rfl) rfl ?_
  refine zg_iconst hO dX0_row_12 ic1 ?_
  exact zx_iret (f := fun _ : Unit => WX dA G tb ad ρ ++ [(ou, .inl (dA 1, 1, .inr (.inl f)))]) hO hr () rfl rfl ⟨Nat.le_refl _, Nat.le_refl _⟩ dX0_row_13
