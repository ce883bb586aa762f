set_option maxRecDepth 100000
/-! lay: a line's items into a row (a = 3: row0, a = 4: row1) -/
def Xl_lay2 (σ : XS) : Nat → Option Nat → List Nat → Option (List Nat)
  | 0, _, _ => none
  | _ + 1, none, L => some L
  | n + 1, some c, L => (if c < xN σ ∧ rK (xC σ c) = true ∧ L.length < 64 then Xl_lay2 σ n (rB (xC σ c)) (c :: L) else none)
def Xl_lay3 (a : Nat) : List Nat → Int32 → XS → Option (Int32 × XS)
  | [], n, σ => some (n, σ)
  | c :: L, n, σ => (if n < 0 ∨ 64 ≤ n.toNatClampNeg then none else (if c < xN σ ∧ rK (xC σ c) = true then Xl_lay3 a L (n + nI 1) (zA σ a n.toNatClampNeg (rI (xC σ c))) else none))
def Xl_lay1 (a i : Nat) : Nat → Option Nat → Int32 → XS → Option (Int32 × XS)
  | 0, _, _, _ => none
  | _ + 1, none, n, σ => (Xl_lay2 σ FU (xT σ i 1) []).bind fun L => Xl_lay3 a L n σ
  | f + 1, some c, n, σ => (if n < 0 ∨ 64 ≤ n.toNatClampNeg then none else (if c < xN σ ∧ rK (xC σ c) = true then Xl_lay1 a i f (rB (xC σ c)) (n + nI 1) (zA σ a n.toNatClampNeg (rI (xC σ c))) else none))
def Xl_lay_r0 (i : Nat) (σ : XS) : Option (Int32 × XS) := Xl_lay1 3 i FU (xT σ i 0) (nI 0) σ
def Xl_lay_r1 (i : Nat) (σ : XS) : Option (Int32 × XS) := Xl_lay1 4 i FU (xT σ i 0) (nI 0) σ
theorem mw_X3_lay : MwX yX3_lay cX3_lay 6 (some .int) RX3 1 := ⟨by decide +kernel, q1107, q1108, q88, q1109⟩
def tcl (k : Nat) : Nat := (if 17 ≤ k then 1 else 0) + (if 36 ≤ k then 1 else 0)
def tsl (k : Nat) : Nat := (if 17 ≤ k then 36 else 0) + (if 36 ≤ k then 74 else 0)
theorem tcl_s (k : Nat) : tcl k + gcl k = tcl (k + 1) := by
  unfold tcl gcl
  by_cases h1 : k + 1 = 17
  · rw [h1, show k = 16 by omega]
    rfl
  · by_cases h2 : k + 1 = 36
    · rw [h2, show k = 35 by omega]
      rfl
    · rw [if_neg (show ¬ (k + 1 = 17 ∨ k + 1 = 36) by omega)]
      by_cases h3 : 17 ≤ k
      · rw [if_pos h3, if_pos (show 17 ≤ k + 1 by omega)]
        by_cases h4 : 36 ≤ k
        · rw [if_pos h4, if_pos (show 36 ≤ k + 1 by omega)]
        · rw [if_neg h4, if_neg (show ¬ 36 ≤ k + 1 by omega)]
      · rw [if_neg h3, if_neg (show ¬ 17 ≤ k + 1 by omega), if_neg (show ¬ 36 ≤ k by omega), if_neg (show ¬ 36 ≤ k + 1 by omega)]
theorem tsl_s (k : Nat) : tsl k + gsl k = tsl (k + 1) := by
  unfold tsl gsl
  by_cases h1 : k + 1 = 17
  · rw [h1, show k = 16 by omega]
    rfl
  · by_cases h2 : k + 1 = 36
    · rw [h2, show k = 35 by omega]
      rfl
    · rw [if_neg h1, if_neg h2]
      by_cases h3 : 17 ≤ k
      · rw [if_pos h3, if_pos (show 17 ≤ k + 1 by omega)]
        by_cases h4 : 36 ≤ k
        · rw [if_pos h4, if_pos (show 36 ≤ k + 1 by omega)]
        · rw [if_neg h4, if_neg (show ¬ 36 ≤ k + 1 by omega)]
      · rw [if_neg h3, if_neg (show ¬ 17 ≤ k + 1 by omega), if_neg (show ¬ 36 ≤ k by omega), if_neg (show ¬ 36 ≤ k + 1 by omega)]
theorem tcl_le (k : Nat) : tcl k ≤ 2 := by
  unfold tcl
  split <;> split <;> omega
theorem tsl_le (k : Nat) : tsl k ≤ 110 := by
  unfold tsl
  split <;> split <;> omega
section ZLY
variable {p : Program} {l : Launch} {e : Env} {R : Room} {s : State} {m : MethodId} {args : Array Value} {below : List Frame} {meth : Method} {c : Code} {cc : ByteArray} {own : String} {nL N : Nat} {D : va_G} {dA : Nat → ClassId} {G : Nat → Nat} {tb : Nat} {ad : Nat → Nat} {A : Nat → Prop} {Q : State → Prop} {ws ws' : va_W} {σ : XS} {u v pc rk rs : Nat} {lv : List (Nat × Value)} {st rest : List Value}
theorem zj_nullN (hO : Ok p s m args meth c cc own nL D dA A) {off : Int} {tgt : Nat} (hdg : decode cc pc = .ok (.ifnull off, 3)) (ht : (pc : Int) + off = (tgt : Int)) (k : Go p l e R s m args below meth c D A nL Q ws u v tgt lv st) : Go p l e R s m args below meth c D A nL Q ws u v pc lv (.null :: st) := fun H locs ls hP hD hS hl => lv_ifnullN hO.1 hO.2.1 hdg ht (k H locs ls hP hD hS hl)
theorem zj_castC (hO : Ok p s m args meth c cc own nL D dA A) (q0 : Nat) {a index : Nat} {fs : List Value} (he : ws[q0]? = some (a, .inr (4, fs))) (hlk : Cond.classLink own index "EndSums$Cell" ∈ lw_all) (hdg : decode cc pc = .ok (.checkcast index, 3)) (kk : Go p l e R s m args below meth c D A nL Q ws u v (pc + 3) lv (.ref a :: st)) : Go p l e R s m args below meth c D A nL Q ws u v pc lv (.ref a :: st) :=
  fun H locs ls hP hD hS hl => va_castS (nm := "EndSums$Cell") hO.1 hO.2.1 hO.2.2.2.1 (hO.2.2.2.2.1 _ hlk) (hO.2.2.2.2.2.1.1 4 _ rfl).2 (va_recv hO.2.2.2.2.2.1 hP (ci := 4) (q := (RX5, TX5, 6)) rfl he) hdg (kk H locs ls hP hD hS hl)
theorem zj_tail {W X : va_W} (kk : Go p l e R s m args below meth c D A nL Q W u v pc lv st) : Go p l e R s m args below meth c D A nL Q (W ++ X) u v pc lv st := zj_drop (fun k => k) (fun _ _ h => apW h) (fun _ _ h => h) kk
theorem wx_n {L : List Nat} (h : ∀ i ∈ L, i < xN σ ∧ rK (xC σ i) = true) : InC (WX dA G tb ad σ) (L.map ad) := fun y hy => by
  obtain ⟨i, hi, rfl⟩ := List.mem_map.mp hy
  exact ⟨63 + i, _, wx_t (h i hi).1 (h i hi).2⟩
end ZLY
theorem lay3_r0 {p : Program} {l : Launch} {e : Env} {s : State} {m : MethodId} {args : Array Value} {below : List Frame} {meth : Method} {c : Code} {D : va_G} {dA : Nat → ClassId} {G : Nat → Nat} {tb : Nat} {ad : Nat → Nat} {A : Nat → Prop} (hO : Ok p s m args meth c cX3_lay RX3 6 D dA A) (hX : XK dA G A s) (hr : meth.sig.returnType = some .int) {ρ : Int32 × XS} {d es it K : Nat} {LA : List Nat} (hK : LA.length = K) (hK2 : K ≤ 64) {u v : Nat} (hu : u ≤ 6 ∧ v ≤ 150) : ∀ (Lr : List Nat) (n : Int32) (σ : XS) (lr : Int32), Xl_lay3 3 Lr n σ = some ρ → LA.drop (K - Lr.length) = Lr.map ad → Lr.length ≤ K →
    Go p l e (rmG 6 6 150) s m args below meth c D A 6 (MQ below ((QgI D dA (fun _ : Unit => WX dA G tb ad ρ.2) ρ.1) A) args s 6 150 A) (WX dA G tb ad σ ++ (DQ dA d es LA ++ DI d it LA.length Lr.length lr)) u v 74 [(4, .ref it), (2, .int n), (1, .ref (G 63))] [] := by
  intro Lr
  induction Lr with
  | nil =>
    intro n σ lr h _ _
    unfold Xl_lay3 at h
    refine zg_aload hO 0 dX3_lay_74 rfl ?_
    refine zx_callFi (na := 0) (C := RJ31) (x := ⟨"java/util/Iterator", "hasNext", "()Z"⟩) (y := yJ31_hasNext) (As := []) (rest := []) hO hX (m_dihas l D dA G (W0 := WX dA G tb ad σ) (d := d) (es := es) (L := LA) (lr := lr) (r := 0) (by decide)) (List.mem_of_getElem? (i := 5) rfl) q719 ⟨q721, q123, q723⟩ q1181 ⟨by decide, by decide, by decide +kernel⟩ ⟨Nat.le_of_ble_eq_true rfl, Nat.le_of_ble_eq_true rfl⟩ ⟨hu.1, hu.2⟩ rfl rfl (Nat.le_of_ble_eq_true rfl) ⟨(WX dA G tb ad σ).length + 2, 11, _, _, ap2, rfl, rfl⟩ dX3_lay_76 (fun _ => ?_)
    rw [if_pos rfl]
    refine zt_if_eq (tgt := 110) hO (by decide) dX3_lay_81 (by decide) ?_
    refine zg_iload_n hO 1 dX3_lay_110 rfl rfl ?_
    refine zj_tail ?_
    cases h
    exact zx_iret (f := fun _ : Unit => WX dA G tb ad σ) hO hr () rfl rfl hu dX3_lay_111
  | cons i Lr ih =>
    intro n σ lr h hd hle
    unfold Xl_lay3 at h
    obtain ⟨hb, h⟩ := zg_none h
    obtain ⟨⟨hi, hk⟩, h⟩ := zg_some h
    have hlen : (i :: Lr).length = Lr.length + 1 := rfl
    have hx : LA[LA.length - (Lr.length + 1)]? = some (ad i) := by
      have h1 := congrArg (fun L => L[0]?) hd
      simpa [hK, List.getElem?_drop] using h1
    have hd2 : LA.drop (K - Lr.length) = Lr.map ad := by
      have h1 := congrArg (List.drop 1) hd
      rw [List.drop_drop] at h1
      rw [show K - Lr.length = K - (i :: Lr).length + 1 by rw [hlen] at hle ⊢; omega, h1]
      rfl
    refine zg_aload hO 0 dX3_lay_74 rfl ?_
    refine zx_callFi (na := 0) (C := RJ31) (x := ⟨"java/util/Iterator", "hasNext", "()Z"⟩) (y := yJ31_hasNext) (As := []) (rest := []) hO hX (m_dihas l D dA G (W0 := WX dA G tb ad σ) (d := d) (es := es) (L := LA) (lr := lr) (r := Lr.length + 1) (by rw [hlen] at hle; omega)) (List.mem_of_getElem? (i := 5) rfl) q719 ⟨q721, q123, q723⟩ q1181 ⟨by decide, by decide, by decide +kernel⟩ ⟨Nat.le_of_ble_eq_true rfl, Nat.le_of_ble_eq_true rfl⟩ ⟨hu.1, hu.2⟩ rfl rfl (Nat.le_of_ble_eq_true rfl) ⟨(WX dA G tb ad σ).length + 2, 11, _, _, ap2, rfl, rfl⟩ dX3_lay_76 (fun _ => ?_)
    rw [if_neg (Nat.succ_ne_zero _)]
    refine zn_if_eq (tgt := 110) hO (by decide) dX3_lay_81 (by decide) ?_
    refine zg_aload hO 0 dX3_lay_84 rfl ?_
    refine zx_callFr (na := 0) (C := RJ31) (x := ⟨"java/util/Iterator", "next", "()Ljava/lang/Object;"⟩) (y := yJ31_next) (As := []) (rest := []) hO hX (m_dinext l D dA G (W0 := WX dA G tb ad σ) (d := d) (es := es) (L := LA) (lr := lr) (r := Lr.length) (by omega) (by rw [hlen] at hle; omega) hx) (List.mem_of_getElem? (i := 6) rfl) q1044 ⟨q1046, q123, q1048⟩ q1183 ⟨by decide, by decide, by decide +kernel⟩ ⟨Nat.le_of_ble_eq_true rfl, Nat.le_of_ble_eq_true rfl⟩ ⟨hu.1, hu.2⟩ rfl rfl (Nat.le_of_ble_eq_true rfl) ⟨(WX dA G tb ad σ).length + 2, 11, _, _, ap2, rfl, rfl⟩ dX3_lay_86 (fun lr2 => ?_)
    refine zj_castC hO (63 + i) (apW (wx_t hi hk)) q237 dX3_lay_91 ?_
    refine zg_astore (lv' := [(5, .ref (ad i)), (4, .ref it), (2, .int n), (1, .ref (G 63))]) hO dX3_lay_94 (Nat.le_of_ble_eq_true rfl) rfl ?_
    refine zg_aload_n hO 3 dX3_lay_96 rfl rfl ?_
    refine zg_iload_n hO 2 dX3_lay_97 rfl rfl ?_
    refine zg_aload hO 0 dX3_lay_98 rfl ?_
    refine zg_getN hO hX.1 fX_3_40 (63 + i) (apW (wx_t hi hk)) rfl dX3_lay_100 ?_
    refine zg_ist (ws' := WX dA G tb ad (zA σ 3 n.toNatClampNeg (rI (xC σ i))) ++ (DQ dA d es LA ++ DI d it LA.length Lr.length lr2)) (g := some ()) (z := ()) hO (if_neg hb) 55 (apW (x := (G 63, _)) (W := WX dA G tb ad σ) rfl) (List.set_append_left _ _ (by show 55 < (fixX dA G tb ad σ ++ poolX ad (xN σ) (xC σ)).length; rw [List.length_append]; exact Nat.lt_of_lt_of_le (by decide : 55 < 63) (Nat.le_add_right _ _))) dX3_lay_103 (fun _ => ?_)
    refine zg_iinc (k := 2) (lv' := [(2, .int (n + (nI 1))), (5, .ref (ad i)), (4, .ref it), (1, .ref (G 63))]) hO dX3_lay_104 rfl (zii ic1) (Nat.le_of_ble_eq_true rfl) rfl ?_
    refine zg_goto (tgt := 74) hO dX3_lay_107 (by decide) ?_
    refine zg_sub (lv' := [(4, .ref it), (2, .int (n + (nI 1))), (1, .ref (G 63))]) [2, 0, 3] rfl ?_
    exact ih (n + nI 1) _ lr2 h hd2 (by rw [hlen] at hle; omega)
theorem lay2_r0 {p : Program} {l : Launch} {e : Env} {s : State} {m : MethodId} {args : Array Value} {below : List Frame} {meth : Method} {c : Code} {D : va_G} {dA : Nat → ClassId} {G : Nat → Nat} {tb : Nat} {ad : Nat → Nat} {A : Nat → Prop} (hO : Ok p s m args meth c cX3_lay RX3 6 D dA A) (hX : XK dA G A s) (hr : meth.sig.returnType = some .int) {ρ : Int32 × XS} {d : Nat} {n : Int32} {σ : XS} {L1 : List Nat}
    (kk : ∀ es, L1.length ≤ 64 → Go p l e (rmG 6 6 150) s m args below meth c D A 6 (MQ below ((QgI D dA (fun _ : Unit => WX dA G tb ad ρ.2) ρ.1) A) args s 6 150 A) (WX dA G tb ad σ ++ DQ dA d es (L1.map ad)) (2 + tcl L1.length) (20 + tsl L1.length) 68 [(3, .ref d), (2, .int n), (1, .ref (G 63))] []) :
    ∀ (f : Nat) (o : Option Nat) (L : List Nat) (es : Nat), Xl_lay2 σ f o L = some L1 → (∀ i ∈ L, i < xN σ ∧ rK (xC σ i) = true) → L.length ≤ 64 →
    Go p l e (rmG 6 6 150) s m args below meth c D A 6 (MQ below ((QgI D dA (fun _ : Unit => WX dA G tb ad ρ.2) ρ.1) A) args s 6 150 A) (WX dA G tb ad σ ++ DQ dA d es (L.map ad)) (2 + tcl L.length) (20 + tsl L.length) 47 [(4, va_rf (o.map ad)), (3, .ref d), (2, .int n), (1, .ref (G 63))] [] := by
  intro f
  induction f with
  | zero =>
    intro o L es h
    cases o <;> cases h
  | succ f ih =>
    intro o L es h hL hlen
    cases o with
    | none =>
      unfold Xl_lay2 at h
      cases h
      refine zg_aloadN hO 0 dX3_lay_47 rfl ?_
      refine zj_nullN (tgt := 68) hO dX3_lay_49 (by decide) ?_
      refine zg_sub (lv' := [(3, .ref d), (2, .int n), (1, .ref (G 63))]) [1, 2, 3] rfl ?_
      exact kk es hlen
    | some i =>
      unfold Xl_lay2 at h
      obtain ⟨⟨hi, hk, hl⟩, h⟩ := zg_some h
      have hLi : ∀ j ∈ i :: L, j < xN σ ∧ rK (xC σ j) = true := fun j hj => by
        rcases List.mem_cons.mp hj with rfl | hj
        · exact ⟨hi, hk⟩
        · exact hL j hj
      refine zg_aload hO 0 dX3_lay_47 rfl ?_
      refine zg_ifnullR hO dX3_lay_49 ?_
      refine zg_aload_n hO 1 dX3_lay_52 rfl rfl ?_
      refine zg_aload hO 0 dX3_lay_53 rfl ?_
      have hp := m_push l D dA G (W0 := WX dA G tb ad σ) (d := d) (es := es) (x := ad i) (L := L.map ad) (wx_n (L := i :: L) hLi) (by rw [List.length_map]; omega)
      rw [List.length_map] at hp
      refine zx_callVv (n' := 5) (na := 1) (As := [.ref (ad i)]) (rest := []) hO hX hp mw_J30_push q1128 ⟨Nat.le_of_ble_eq_true rfl, Nat.le_of_ble_eq_true rfl⟩ ⟨?_, ?_⟩ rfl rfl (Nat.le_of_ble_eq_true rfl) ⟨(WX dA G tb ad σ).length, 10, _, _, ap0, rfl, rfl⟩ dX3_lay_55 (fun es2 => ?_)
      · have := tcl_le (L.length + 1); rw [← tcl_s] at this; omega
      · have := tsl_le (L.length + 1); rw [← tsl_s] at this; omega
      rw [Nat.add_assoc, Nat.add_assoc, tcl_s, tsl_s]
      refine zg_aload hO 0 dX3_lay_58 rfl ?_
      refine zg_getN hO hX.1 fX_3_44 (63 + i) (apW (wx_t hi hk)) rfl dX3_lay_60 ?_
      refine zg_astoreO (lv' := [(4, va_rf (Option.map ad (rB (xC σ i)))), (3, .ref d), (2, .int n), (1, .ref (G 63))]) hO dX3_lay_63 (Nat.le_of_ble_eq_true rfl) rfl ?_
      refine zg_goto (tgt := 47) hO dX3_lay_65 (by decide) ?_
      exact ih (rB (xC σ i)) (i :: L) es2 h hLi (by rw [List.length_cons]; omega)
theorem lay1_r0 {p : Program} {l : Launch} {e : Env} {s : State} {m : MethodId} {args : Array Value} {below : List Frame} {meth : Method} {c : Code} {D : va_G} {dA : Nat → ClassId} {G : Nat → Nat} {tb : Nat} {ad : Nat → Nat} {A : Nat → Prop} (hO : Ok p s m args meth c cX3_lay RX3 6 D dA A) (hX : XK dA G A s) (hr : meth.sig.returnType = some .int) {ρ : Int32 × XS} {i0 : Nat} (hi0 : i0 < 5) :
    ∀ (f : Nat) (o : Option Nat) (n : Int32) (σ : XS), Xl_lay1 3 i0 f o n σ = some ρ →
    Go p l e (rmG 6 6 150) s m args below meth c D A 6 (MQ below ((QgI D dA (fun _ : Unit => WX dA G tb ad ρ.2) ρ.1) A) args s 6 150 A) (WX dA G tb ad σ) 0 0 9 [(3, va_rf (o.map ad)), (2, .int n), (0, .ref (G (48 + 3 * i0))), (1, .ref (G 63))] [] := by
  intro f
  induction f with
  | zero =>
    intro o n σ h
    cases o <;> cases h
  | succ f ih =>
    intro o n σ h
    cases o with
    | none =>
      unfold Xl_lay1 at h
      obtain ⟨L1, hL1, h⟩ := zg_bind h
      refine zg_aload_nN hO 0 dX3_lay_9 rfl rfl ?_
      refine zj_nullN (tgt := 31) hO dX3_lay_10 (by decide) ?_
      refine zj_new (ci := 10) (fs := [.null, .int (nI 0), .int (nI 0)]) (C := RJ30) (T := TJ30) (M := 3) hO in_J30 tyJ30 tyJ30_ok q1110 q421 q122 rfl (fun j hj => by rcases (show j = 0 ∨ j = 1 ∨ j = 2 by omega) with rfl | rfl | rfl <;> rfl) (Nat.le_of_ble_eq_true rfl) (Nat.le_of_ble_eq_true rfl) dX3_lay_31 (fun d => ?_)
      refine zg_dup hO dX3_lay_34 rfl ?_
      refine zx_callIv (na := 0) (As := []) (rest := [.ref d]) hO hX (m_dqinit l D dA G) rfl ⟨by decide +kernel, q1112, q122, q1113⟩ q1111 ⟨Nat.le_of_ble_eq_true rfl, Nat.le_of_ble_eq_true rfl⟩ ⟨Nat.le_of_ble_eq_true rfl, Nat.le_of_ble_eq_true rfl⟩ rfl rfl (Nat.le_of_ble_eq_true rfl) dX3_lay_35 (fun es => ?_)
      refine zg_astore_n (lv' := [(3, .ref d), (2, .int n), (0, .ref (G (48 + 3 * i0))), (1, .ref (G 63))]) hO dX3_lay_38 rfl (Nat.le_of_ble_eq_true rfl) rfl ?_
      refine zg_aload_n hO 2 dX3_lay_39 rfl rfl ?_
      refine zg_get hO fX_3_17 (40 + 3 * i0) (apW (wx_line hi0)) rfl dX3_lay_40 ?_
      refine zg_iconst hO dX3_lay_43 ic1 ?_
      refine zg_ald (t0 := 3) (C := "EndSums$Cell") (g := some ()) (z := ()) hO (by decide) (41 + 3 * i0) (apW (wx_top hi0)) rfl dX3_lay_44 (fun _ => ?_)
      rw [show topsOf σ i0 ad (nI 1).toNatClampNeg = Option.map ad (xT σ i0 1) from rfl]
      refine zg_astoreO (lv' := [(4, va_rf (Option.map ad (xT σ i0 1))), (3, .ref d), (2, .int n), (0, .ref (G (48 + 3 * i0))), (1, .ref (G 63))]) hO dX3_lay_45 (Nat.le_of_ble_eq_true rfl) rfl ?_
      refine zg_sub (lv' := [(4, va_rf (Option.map ad (xT σ i0 1))), (3, .ref d), (2, .int n), (1, .ref (G 63))]) [0, 1, 2, 4] rfl ?_
      refine lay2_r0 (L1 := L1) hO hX hr (fun es hl64 => ?_) FU (xT σ i0 1) [] es hL1 (fun i hi => by cases hi) (Nat.zero_le _)
      refine zg_aload_n hO 0 dX3_lay_68 rfl rfl ?_
      refine zx_callVr (na := 0) (As := []) (rest := []) hO hX (m_dqiter l D dA G (by rw [List.length_map]; omega)) mw_J30_iterator q1150 ⟨Nat.le_of_ble_eq_true rfl, Nat.le_of_ble_eq_true rfl⟩ ⟨by have := tcl_le L1.length; omega, by have := tsl_le L1.length; omega⟩ rfl rfl (Nat.le_of_ble_eq_true rfl) ⟨(WX dA G tb ad σ).length, 10, _, _, ap0, rfl, rfl⟩ dX3_lay_69 (fun it => ?_)
      refine zg_astore (lv' := [(4, .ref it), (3, .ref d), (2, .int n), (1, .ref (G 63))]) hO dX3_lay_72 (Nat.le_of_ble_eq_true rfl) rfl ?_
      refine zg_sub (lv' := [(4, .ref it), (2, .int n), (1, .ref (G 63))]) [0, 2, 3] rfl ?_
      have h3 := lay3_r0 (l := l) (e := e) (below := below) (tb := tb) (d := d) (es := es) (it := it) hO hX hr (K := L1.length) (LA := L1.map ad) (List.length_map _) hl64 (u := 2 + tcl L1.length + 1) (v := 20 + tsl L1.length + 4) ⟨by have := tcl_le L1.length; omega, by have := tsl_le L1.length; omega⟩ L1 n σ (-1) h (by rw [Nat.sub_self]; rfl) (Nat.le_refl _)
      rw [show (L1.map ad).length = L1.length from List.length_map _] at h3 ⊢
      exact h3
    | some i =>
      unfold Xl_lay1 at h
      obtain ⟨hb, h⟩ := zg_none h
      obtain ⟨⟨hi, hk⟩, h⟩ := zg_some h
      refine zg_aload_n hO 0 dX3_lay_9 rfl rfl ?_
      refine zg_ifnullR hO dX3_lay_10 ?_
      refine zg_aload_n hO 3 dX3_lay_13 rfl rfl ?_
      refine zg_iload_n hO 1 dX3_lay_14 rfl rfl ?_
      refine zg_aload_n hO 0 dX3_lay_15 rfl rfl ?_
      refine zg_getN hO hX.1 fX_3_40 (63 + i) (wx_t hi hk) rfl dX3_lay_16 ?_
      refine zg_ist (ws' := WX dA G tb ad (zA σ 3 n.toNatClampNeg (rI (xC σ i)))) (g := some ()) (z := ()) hO (if_neg hb) 55 rfl rfl dX3_lay_19 (fun _ => ?_)
      refine zg_iinc (k := 1) (lv' := [(2, .int (n + (nI 1))), (3, .ref (ad i)), (0, .ref (G (48 + 3 * i0))), (1, .ref (G 63))]) hO dX3_lay_20 rfl (zii ic1) (Nat.le_of_ble_eq_true rfl) rfl ?_
      refine zg_aload_n hO 1 dX3_lay_23 rfl rfl ?_
      refine zg_getN hO hX.1 fX_3_44 (63 + i) (wx_t (σ := zA σ 3 n.toNatClampNeg (rI (xC σ i))) hi hk) rfl dX3_lay_24 ?_
      refine zg_astoreO_n (lv' := [(3, va_rf (Option.map ad (rB (xC σ i)))), (2, .int (n + (nI 1))), (0, .ref (G (48 + 3 * i0))), (1, .ref (G 63))]) hO dX3_lay_27 rfl (Nat.le_of_ble_eq_true rfl) rfl ?_
      refine zg_goto (tgt := 9) hO dX3_lay_28 (by decide) ?_
      refine zg_sub (lv' := [(3, va_rf (Option.map ad (rB (xC σ i)))), (2, .int (n + (nI 1))), (0, .ref (G (48 + 3 * i0))), (1, .ref (G 63))]) [0, 1, 2, 3] rfl ?_
      exact ih (rB (xC σ i)) (n + nI 1) _ h
theorem m_Xl_lay_r0 (l : Launch) (D : va_G) (dA : Nat → ClassId) (G : Nat → Nat) {i0 : Nat} {σ : XS} (hi0 : i0 < 5) (tb : Nat) (ad : Nat → Nat) {ρ : Int32 × XS} (h : Xl_lay_r0 i0 σ = some ρ) : CtX l yX3_lay (ws_ yX3_lay cX3_lay 6 (some .int)) 6 6 150 D dA G [.ref (G (48 + 3 * i0)), .ref (G 63)] (WX dA G tb ad σ) (QgI D dA (fun _ : Unit => WX dA G tb ad ρ.2) ρ.1) := by
  refine zx_start (cc := cX3_lay) (nL := 6) (ret := some .int) (own := RX3) (by decide) rfl rfl (Nat.le_of_ble_eq_true rfl) (fun p e s m args below meth c A hO hX hr hm _ => ?_)
  refine zg_sub (lv' := [(0, .ref (G (48 + 3 * i0))), (1, .ref (G 63))]) [0, 1] rfl ?_
  refine zg_iconst hO dX3_lay_0 ic0 ?_
  refine zg_istore_n (lv' := [(2, .int (nI 0)), (0, .ref (G (48 + 3 * i0))), (1, .ref (G 63))]) hO dX3_lay_1 rfl (Nat.le_of_ble_eq_true rfl) rfl ?_
  refine zg_aload_n hO 1 dX3_lay_2 rfl rfl ?_
  refine zg_get hO fX_3_17 (40 + 3 * i0) (wx_line hi0) rfl dX3_lay_3 ?_
  refine zg_iconst hO dX3_lay_6 ic0 ?_
  refine zg_ald (t0 := 3) (C := "EndSums$Cell") (g := some ()) (z := ()) hO (by decide) (41 + 3 * i0) (wx_top hi0) rfl dX3_lay_7 (fun _ => ?_)
  rw [show topsOf σ i0 ad (nI 0).toNatClampNeg = Option.map ad (xT σ i0 0) from rfl]
  refine zg_astoreO_n (lv' := [(3, va_rf (Option.map ad (xT σ i0 0))), (2, .int (nI 0)), (0, .ref (G (48 + 3 * i0))), (1, .ref (G 63))]) hO dX3_lay_8 rfl (Nat.le_of_ble_eq_true rfl) rfl ?_
  exact lay1_r0 hO hX hr hi0 FU (xT σ i0 0) (nI 0) σ h
theorem lay3_r1 {p : Program} {l : Launch} {e : Env} {s : State} {m : MethodId} {args : Array Value} {below : List Frame} {meth : Method} {c : Code} {D : va_G} {dA : Nat → ClassId} {G : Nat → Nat} {tb : Nat} {ad : Nat → Nat} {A : Nat → Prop} (hO : Ok p s m args meth c cX3_lay RX3 6 D dA A) (hX : XK dA G A s) (hr : meth.sig.returnType = some .int) {ρ : Int32 × XS} {d es it K : Nat} {LA : List Nat} (hK : LA.length = K) (hK2 : K ≤ 64) {u v : Nat} (hu : u ≤ 6 ∧ v ≤ 150) : ∀ (Lr : List Nat) (n : Int32) (σ : XS) (lr : Int32), Xl_lay3 4 Lr n σ = some ρ → LA.drop (K - Lr.length) = Lr.map ad → Lr.length ≤ K →
    Go p l e (rmG 6 6 150) s m args below meth c D A 6 (MQ below ((QgI D dA (fun _ : Unit => WX dA G tb ad ρ.2) ρ.1) A) args s 6 150 A) (WX dA G tb ad σ ++ (DQ dA d es LA ++ DI d it LA.length Lr.length lr)) u v 74 [(4, .ref it), (2, .int n), (1, .ref (G 64))] [] := by
  intro Lr
  induction Lr with
  | nil =>
    intro n σ lr h _ _
    unfold Xl_lay3 at h
    refine zg_aload hO 0 dX3_lay_74 rfl ?_
    refine zx_callFi (na := 0) (C := RJ31) (x := ⟨"java/util/Iterator", "hasNext", "()Z"⟩) (y := yJ31_hasNext) (As := []) (rest := []) hO hX (m_dihas l D dA G (W0 := WX dA G tb ad σ) (d := d) (es := es) (L := LA) (lr := lr) (r := 0) (by decide)) (List.mem_of_getElem? (i := 5) rfl) q719 ⟨q721, q123, q723⟩ q1181 ⟨by decide, by decide, by decide +kernel⟩ ⟨Nat.le_of_ble_eq_true rfl, Nat.le_of_ble_eq_true rfl⟩ ⟨hu.1, hu.2⟩ rfl rfl (Nat.le_of_ble_eq_true rfl) ⟨(WX dA G tb ad σ).length + 2, 11, _, _, ap2, rfl, rfl⟩ dX3_lay_76 (fun _ => ?_)
    rw [if_pos rfl]
    refine zt_if_eq (tgt := 110) hO (by decide) dX3_lay_81 (by decide) ?_
    refine zg_iload_n hO 1 dX3_lay_110 rfl rfl ?_
    refine zj_tail ?_
    cases h
    exact zx_iret (f := fun _ : Unit => WX dA G tb ad σ) hO hr () rfl rfl hu dX3_lay_111
  | cons i Lr ih =>
    intro n σ lr h hd hle
    unfold Xl_lay3 at h
    obtain ⟨hb, h⟩ := zg_none h
    obtain ⟨⟨hi, hk⟩, h⟩ := zg_some h
    have hlen : (i :: Lr).length = Lr.length + 1 := rfl
    have hx : LA[LA.length - (Lr.length + 1)]? = some (ad i) := by
      have h1 := congrArg (fun L => L[0]?) hd
      simpa [hK, List.getElem?_drop] using h1
    have hd2 : LA.drop (K - Lr.length) = Lr.map ad := by
      have h1 := congrArg (List.drop 1) hd
      rw [List.drop_drop] at h1
      rw [show K - Lr.length = K - (i :: Lr).length + 1 by rw [hlen] at hle ⊢; omega, h1]
      rfl
    refine zg_aload hO 0 dX3_lay_74 rfl ?_
    refine zx_callFi (na := 0) (C := RJ31) (x := ⟨"java/util/Iterator", "hasNext", "()Z"⟩) (y := yJ31_hasNext) (As := []) (rest := []) hO hX (m_dihas l D dA G (W0 := WX dA G tb ad σ) (d := d) (es := es) (L := LA) (lr := lr) (r := Lr.length + 1) (by rw [hlen] at hle; omega)) (List.mem_of_getElem? (i := 5) rfl) q719 ⟨q721, q123, q723⟩ q1181 ⟨by decide, by decide, by decide +kernel⟩ ⟨Nat.le_of_ble_eq_true rfl, Nat.le_of_ble_eq_true rfl⟩ ⟨hu.1, hu.2⟩ rfl rfl (Nat.le_of_ble_eq_true rfl) ⟨(WX dA G tb ad σ).length + 2, 11, _, _, ap2, rfl, rfl⟩ dX3_lay_76 (fun _ => ?_)
    rw [if_neg (Nat.succ_ne_zero _)]
    refine zn_if_eq (tgt := 110) hO (by decide) dX3_lay_81 (by decide) ?_
    refine zg_aload hO 0 dX3_lay_84 rfl ?_
    refine zx_callFr (na := 0) (C := RJ31) (x := ⟨"java/util/Iterator", "next", "()Ljava/lang/Object;"⟩) (y := yJ31_next) (As := []) (rest := []) hO hX (m_dinext l D dA G (W0 := WX dA G tb ad σ) (d := d) (es := es) (L := LA) (lr := lr) (r := Lr.length) (by omega) (by rw [hlen] at hle; omega) hx) (List.mem_of_getElem? (i := 6) rfl) q1044 ⟨q1046, q123, q1048⟩ q1183 ⟨by decide, by decide, by decide +kernel⟩ ⟨Nat.le_of_ble_eq_true rfl, Nat.le_of_ble_eq_true rfl⟩ ⟨hu.1, hu.2⟩ rfl rfl (Nat.le_of_ble_eq_true rfl) ⟨(WX dA G tb ad σ).length + 2, 11, _, _, ap2, rfl, rfl⟩ dX3_lay_86 (fun lr2 => ?_)
    refine zj_castC hO (63 + i) (apW (wx_t hi hk)) q237 dX3_lay_91 ?_
    refine zg_astore (lv' := [(5, .ref (ad i)), (4, .ref it), (2, .int n), (1, .ref (G 64))]) hO dX3_lay_94 (Nat.le_of_ble_eq_true rfl) rfl ?_
    refine zg_aload_n hO 3 dX3_lay_96 rfl rfl ?_
    refine zg_iload_n hO 2 dX3_lay_97 rfl rfl ?_
    refine zg_aload hO 0 dX3_lay_98 rfl ?_
    refine zg_getN hO hX.1 fX_3_40 (63 + i) (apW (wx_t hi hk)) rfl dX3_lay_100 ?_
    refine zg_ist (ws' := WX dA G tb ad (zA σ 4 n.toNatClampNeg (rI (xC σ i))) ++ (DQ dA d es LA ++ DI d it LA.length Lr.length lr2)) (g := some ()) (z := ()) hO (if_neg hb) 56 (apW (x := (G 64, _)) (W := WX dA G tb ad σ) rfl) (List.set_append_left _ _ (by show 56 < (fixX dA G tb ad σ ++ poolX ad (xN σ) (xC σ)).length; rw [List.length_append]; exact Nat.lt_of_lt_of_le (by decide : 56 < 63) (Nat.le_add_right _ _))) dX3_lay_103 (fun _ => ?_)
    refine zg_iinc (k := 2) (lv' := [(2, .int (n + (nI 1))), (5, .ref (ad i)), (4, .ref it), (1, .ref (G 64))]) hO dX3_lay_104 rfl (zii ic1) (Nat.le_of_ble_eq_true rfl) rfl ?_
    refine zg_goto (tgt := 74) hO dX3_lay_107 (by decide) ?_
    refine zg_sub (lv' := [(4, .ref it), (2, .int (n + (nI 1))), (1, .ref (G 64))]) [2, 0, 3] rfl ?_
    exact ih (n + nI 1) _ lr2 h hd2 (by rw [hlen] at hle; omega)
theorem lay2_r1 {p : Program} {l : Launch} {e : Env} {s : State} {m : MethodId} {args : Array Value} {below : List Frame} {meth : Method} {c : Code} {D : va_G} {dA : Nat → ClassId} {G : Nat → Nat} {tb : Nat} {ad : Nat → Nat} {A : Nat → Prop} (hO : Ok p s m args meth c cX3_lay RX3 6 D dA A) (hX : XK dA G A s) (hr : meth.sig.returnType = some .int) {ρ : Int32 × XS} {d : Nat} {n : Int32} {σ : XS} {L1 : List Nat}
    (kk : ∀ es, L1.length ≤ 64 → Go p l e (rmG 6 6 150) s m args below meth c D A 6 (MQ below ((QgI D dA (fun _ : Unit => WX dA G tb ad ρ.2) ρ.1) A) args s 6 150 A) (WX dA G tb ad σ ++ DQ dA d es (L1.map ad)) (2 + tcl L1.length) (20 + tsl L1.length) 68 [(3, .ref d), (2, .int n), (1, .ref (G 64))] []) :
    ∀ (f : Nat) (o : Option Nat) (L : List Nat) (es : Nat), Xl_lay2 σ f o L = some L1 → (∀ i ∈ L, i < xN σ ∧ rK (xC σ i) = true) → L.length ≤ 64 →
    Go p l e (rmG 6 6 150) s m args below meth c D A 6 (MQ below ((QgI D dA (fun _ : Unit => WX dA G tb ad ρ.2) ρ.1) A) args s 6 150 A) (WX dA G tb ad σ ++ DQ dA d es (L.map ad)) (2 + tcl L.length) (20 + tsl L.length) 47 [(4, va_rf (o.map ad)), (3, .ref d), (2, .int n), (1, .ref (G 64))] [] := by
  intro f
  induction f with
  | zero =>
    intro o L es h
    cases o <;> cases h
  | succ f ih =>
    intro o L es h hL hlen
    cases o with
    | none =>
      unfold Xl_lay2 at h
      cases h
      refine zg_aloadN hO 0 dX3_lay_47 rfl ?_
      refine zj_nullN (tgt := 68) hO dX3_lay_49 (by decide) ?_
      refine zg_sub (lv' := [(3, .ref d), (2, .int n), (1, .ref (G 64))]) [1, 2, 3] rfl ?_
      exact kk es hlen
    | some i =>
      unfold Xl_lay2 at h
      obtain ⟨⟨hi, hk, hl⟩, h⟩ := zg_some h
      have hLi : ∀ j ∈ i :: L, j < xN σ ∧ rK (xC σ j) = true := fun j hj => by
        rcases List.mem_cons.mp hj with rfl | hj
        · exact ⟨hi, hk⟩
        · exact hL j hj
      refine zg_aload hO 0 dX3_lay_47 rfl ?_
      refine zg_ifnullR hO dX3_lay_49 ?_
      refine zg_aload_n hO 1 dX3_lay_52 rfl rfl ?_
      refine zg_aload hO 0 dX3_lay_53 rfl ?_
      have hp := m_push l D dA G (W0 := WX dA G tb ad σ) (d := d) (es := es) (x := ad i) (L := L.map ad) (wx_n (L := i :: L) hLi) (by rw [List.length_map]; omega)
      rw [List.length_map] at hp
      refine zx_callVv (n' := 5) (na := 1) (As := [.ref (ad i)]) (rest := []) hO hX hp mw_J30_push q1128 ⟨Nat.le_of_ble_eq_true rfl, Nat.le_of_ble_eq_true rfl⟩ ⟨?_, ?_⟩ rfl rfl (Nat.le_of_ble_eq_true rfl) ⟨(WX dA G tb ad σ).length, 10, _, _, ap0, rfl, rfl⟩ dX3_lay_55 (fun es2 => ?_)
      · have := tcl_le (L.length + 1); rw [← tcl_s] at this; omega
      · have := tsl_le (L.length + 1); rw [← tsl_s] at this; omega
      rw [Nat.add_assoc, Nat.add_assoc, tcl_s, tsl_s]
      refine zg_aload hO 0 dX3_lay_58 rfl ?_
      refine zg_getN hO hX.1 fX_3_44 (63 + i) (apW (wx_t hi hk)) rfl dX3_lay_60 ?_
      refine zg_astoreO (lv' := [(4, va_rf (Option.map ad (rB (xC σ i)))), (3, .ref d), (2, .int n), (1, .ref (G 64))]) hO dX3_lay_63 (Nat.le_of_ble_eq_true rfl) rfl ?_
      refine zg_goto (tgt := 47) hO dX3_lay_65 (by decide) ?_
      exact ih (rB (xC σ i)) (i :: L) es2 h hLi (by rw [List.length_cons]; omega)
theorem lay1_r1 {p : Program} {l : Launch} {e : Env} {s : State} {m : MethodId} {args : Array Value} {below : List Frame} {meth : Method} {c : Code} {D : va_G} {dA : Nat → ClassId} {G : Nat → Nat} {tb : Nat} {ad : Nat → Nat} {A : Nat → Prop} (hO : Ok p s m args meth c cX3_lay RX3 6 D dA A) (hX : XK dA G A s) (hr : meth.sig.returnType = some .int) {ρ : Int32 × XS} {i0 : Nat} (hi0 : i0 < 5) :
    ∀ (f : Nat) (o : Option Nat) (n : Int32) (σ : XS), Xl_lay1 4 i0 f o n σ = some ρ →
    Go p l e (rmG 6 6 150) s m args below meth c D A 6 (MQ below ((QgI D dA (fun _ : Unit => WX dA G tb ad ρ.2) ρ.1) A) args s 6 150 A) (WX dA G tb ad σ) 0 0 9 [(3, va_rf (o.map ad)), (2, .int n), (0, .ref (G (48 + 3 * i0))), (1, .ref (G 64))] [] := by
  intro f
  induction f with
  | zero =>
    intro o n σ h
    cases o <;> cases h
  | succ f ih =>
    intro o n σ h
    cases o with
    | none =>
      unfold Xl_lay1 at h
      obtain ⟨L1, hL1, h⟩ := zg_bind h
      refine zg_aload_nN hO 0 dX3_lay_9 rfl rfl ?_
      refine zj_nullN (tgt := 31) hO dX3_lay_10 (by decide) ?_
      refine zj_new (ci := 10) (fs := [.null, .int (nI 0), .int (nI 0)]) (C := RJ30) (T := TJ30) (M := 3) hO in_J30 tyJ30 tyJ30_ok q1110 q421 q122 rfl (fun j hj => by rcases (show j = 0 ∨ j = 1 ∨ j = 2 by omega) with rfl | rfl | rfl <;> rfl) (Nat.le_of_ble_eq_true rfl) (Nat.le_of_ble_eq_true rfl) dX3_lay_31 (fun d => ?_)
      refine zg_dup hO dX3_lay_34 rfl ?_
      refine zx_callIv (na := 0) (As := []) (rest := [.ref d]) hO hX (m_dqinit l D dA G) rfl ⟨by decide +kernel, q1112, q122, q1113⟩ q1111 ⟨Nat.le_of_ble_eq_true rfl, Nat.le_of_ble_eq_true rfl⟩ ⟨Nat.le_of_ble_eq_true rfl, Nat.le_of_ble_eq_true rfl⟩ rfl rfl (Nat.le_of_ble_eq_true rfl) dX3_lay_35 (fun es => ?_)
      refine zg_astore_n (lv' := [(3, .ref d), (2, .int n), (0, .ref (G (48 + 3 * i0))), (1, .ref (G 64))]) hO dX3_lay_38 rfl (Nat.le_of_ble_eq_true rfl) rfl ?_
      refine zg_aload_n hO 2 dX3_lay_39 rfl rfl ?_
      refine zg_get hO fX_3_17 (40 + 3 * i0) (apW (wx_line hi0)) rfl dX3_lay_40 ?_
      refine zg_iconst hO dX3_lay_43 ic1 ?_
      refine zg_ald (t0 := 3) (C := "EndSums$Cell") (g := some ()) (z := ()) hO (by decide) (41 + 3 * i0) (apW (wx_top hi0)) rfl dX3_lay_44 (fun _ => ?_)
      rw [show topsOf σ i0 ad (nI 1).toNatClampNeg = Option.map ad (xT σ i0 1) from rfl]
      refine zg_astoreO (lv' := [(4, va_rf (Option.map ad (xT σ i0 1))), (3, .ref d), (2, .int n), (0, .ref (G (48 + 3 * i0))), (1, .ref (G 64))]) hO dX3_lay_45 (Nat.le_of_ble_eq_true rfl) rfl ?_
      refine zg_sub (lv' := [(4, va_rf (Option.map ad (xT σ i0 1))), (3, .ref d), (2, .int n), (1, .ref (G 64))]) [0, 1, 2, 4] rfl ?_
      refine lay2_r1 (L1 := L1) hO hX hr (fun es hl64 => ?_) FU (xT σ i0 1) [] es hL1 (fun i hi => by cases hi) (Nat.zero_le _)
      refine zg_aload_n hO 0 dX3_lay_68 rfl rfl ?_
      refine zx_callVr (na := 0) (As := []) (rest := []) hO hX (m_dqiter l D dA G (by rw [List.length_map]; omega)) mw_J30_iterator q1150 ⟨Nat.le_of_ble_eq_true rfl, Nat.le_of_ble_eq_true rfl⟩ ⟨by have := tcl_le L1.length; omega, by have := tsl_le L1.length; omega⟩ rfl rfl (Nat.le_of_ble_eq_true rfl) ⟨(WX dA G tb ad σ).length, 10, _, _, ap0, rfl, rfl⟩ dX3_lay_69 (fun it => ?_)
      refine zg_astore (lv' := [(4, .ref it), (3, .ref d), (2, .int n), (1, .ref (G 64))]) hO dX3_lay_72 (Nat.le_of_ble_eq_true rfl) rfl ?_
      refine zg_sub (lv' := [(4, .ref it), (2, .int n), (1, .ref (G 64))]) [0, 2, 3] rfl ?_
      have h3 := lay3_r1 (l := l) (e := e) (below := below) (tb := tb) (d := d) (es := es) (it := it) hO hX hr (K := L1.length) (LA := L1.map ad) (List.length_map _) hl64 (u := 2 + tcl L1.length + 1) (v := 20 + tsl L1.length + 4) ⟨by have := tcl_le L1.length; omega, by have := tsl_le L1.length; omega⟩ L1 n σ (-1) h (by rw [Nat.sub_self]; rfl) (Nat.le_refl _)
      rw [show (L1.map ad).length = L1.length from List.length_map _] at h3 ⊢
      exact h3
    | some i =>
      unfold Xl_lay1 at h
      obtain ⟨hb, h⟩ := zg_none h
      obtain ⟨⟨hi, hk⟩, h⟩ := zg_some h
      refine zg_aload_n hO 0 dX3_lay_9 rfl rfl ?_
      refine zg_ifnullR hO dX3_lay_10 ?_
      refine zg_aload_n hO 3 dX3_lay_13 rfl rfl ?_
      refine zg_iload_n hO 1 dX3_lay_14 rfl rfl ?_
      refine zg_aload_n hO 0 dX3_lay_15 rfl rfl ?_
      refine zg_getN hO hX.1 fX_3_40 (63 + i) (wx_t hi hk) rfl dX3_lay_16 ?_
      refine zg_ist (ws' := WX dA G tb ad (zA σ 4 n.toNatClampNeg (rI (xC σ i)))) (g := some ()) (z := ()) hO (if_neg hb) 56 rfl rfl dX3_lay_19 (fun _ => ?_)
      refine zg_iinc (k := 1) (lv' := [(2, .int (n + (nI 1))), (3, .ref (ad i)), (0, .ref (G (48 + 3 * i0))), (1, .ref (G 64))]) hO dX3_lay_20 rfl (zii ic1) (Nat.le_of_ble_eq_true rfl) rfl ?_
      refine zg_aload_n hO 1 dX3_lay_23 rfl rfl ?_
      refine zg_getN hO hX.1 fX_3_44 (63 + i) (wx_t (σ := zA σ 4 n.toNatClampNeg (rI (xC σ i))) hi hk) rfl dX3_lay_24 ?_
      refine zg_astoreO_n (lv' := [(3, va_rf (Option.map ad (rB (xC σ i)))), (2, .int (n + (nI 1))), (0, .ref (G (48 + 3 * i0))), (1, .ref (G 64))]) hO dX3_lay_27 rfl (Nat.le_of_ble_eq_true rfl) rfl ?_
      refine zg_goto (tgt := 9) hO dX3_lay_28 (by decide) ?_
      refine zg_sub (lv' := [(3, va_rf (Option.map ad (rB (xC σ i)))), (2, .int (n + (nI 1))), (0, .ref (G (48 + 3 * i0))), (1, .ref (G 64))]) [0, 1, 2, 3] rfl ?_
      exact ih (rB (xC σ i)) (n + nI 1) _ h
theorem m_Xl_lay_r1 (l : Launch) (D : va_G) (dA : Nat → ClassId) (G : Nat → Nat) {i0 : Nat} {σ : XS} (hi0 : i0 < 5) (tb : Nat) (ad : Nat → Nat) {ρ : Int32 × XS} (h : Xl_lay_r1 i0 σ = some ρ) : CtX l yX3_lay (ws_ yX3_lay cX3_lay 6 (some .int)) 6 6 150 D dA G [.ref (G (48 + 3 * i0)), .ref (G 64)] (WX dA G tb ad σ) (QgI D dA (fun _ : Unit => WX dA G tb ad ρ.2) ρ.1) := by
  refine zx_start (cc := cX3_lay) (nL := 6) (ret := some .int) (own := RX3) (by decide) rfl rfl (Nat.le_of_ble_eq_true rfl) (fun p e s m args below meth c A hO hX hr hm _ => ?_)
  refine zg_sub (lv' := [(0, .ref (G (48 + 3 * i0))), (1, .ref (G 64))]) [0, 1] rfl ?_
  refine zg_iconst hO dX3_lay_0 ic0 ?_
  refine zg_istore_n (lv' := [(2, .int (nI 0)), (0, .ref (G (48 + 3 * i0))), (1, .ref (G 64))]) hO dX3_lay_1 rfl (Nat.le_of_ble_eq_true rfl) rfl ?_
  refine zg_aload_n hO 1 dX3_lay_2 rfl rfl ?_
  refine zg_get hO fX_3_17 (40 + 3 * i0) (wx_line hi0) rfl dX3_lay_3 ?_
  refine zg_iconst hO dX3_lay_6 ic0 ?_
  refine zg_ald (t0 := 3) (C := "EndSums$Cell") (g := some ()) (z := ()) hO (by decide) (41 + 3 * i0) (wx_top hi0) rfl dX3_lay_7 (fun _ => ?_)
  rw [show topsOf σ i0 ad (nI 0).toNatClampNeg = Option.map ad (xT σ i0 0) from rfl]
  refine zg_astoreO_n (lv' := [(3, va_rf (Option.map ad (xT σ i0 0))), (2, .int (nI 0)), (0, .ref (G (48 + 3 * i0))), (1, .ref (G 64))]) hO dX3_lay_8 rfl (Nat.le_of_ble_eq_true rfl) rfl ?_
  exact lay1_r1 hO hX hr hi0 FU (xT σ i0 0) (nI 0) σ h
