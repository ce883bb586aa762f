set_option maxRecDepth 100000
/-! run -/
section Rows
variable {p : Program} {l : Launch} {e : Env} {R : Room} {s : State} {m : MethodId} {args : Array Value} {below : List Frame} {meth : Method} {c : Code} {H : Heap} {locs : List Loc} {cells slots : Nat} {Q : State → Prop}
variable {mc ms : Nat} {free : Addr → Prop} {A0 A1 : Nat → Prop} {H0 : Heap} {a : Array Value} {pc : Nat} {ls : Array Slot} {st0 rest : List Value}
theorem vq_callr {S SX : Type} {post : S → Prop} {px : SX → Prop} {B : S → Nat → State → Prop} {BX : String → Addr → SX → State → Prop} {AX : Nat → Prop} (hr : vq_Run p l e R s m args below meth c H locs cells slots mc ms (F0 m pc ls st0) rest (va_Qr post B A1 a) (vq_X px BX AX) free) (hS : va_S A0 H0 H locs) (hA : ∀ q, q < H.size → A1 q → A0 q) (hf : ∀ q, free q → A0 q) (hAX : ∀ q, q < H.size → AX q → A0 q)
    (kx : ∀ (E : String) (ce : Cell) (q9 : Addr) (u : SX) (t : State) (H1 : Heap) (locs1 : List Loc), t.heap = H1 → s.vm.Alike t.vm → px u → BX E q9 u t → H.size ≤ H1.size → (∀ q : Nat, q < H.size → ¬ AX q → H1[q]? = H[q]?) → va_S A0 H0 H1 locs1 → H1[q9]? = some ce → ce.vm = .none → s.vm.findClass E = some ce.cls → vq_W p l e R s m args below meth c H1 locs1 (cells + mc) (slots + ms) Q (F0 m pc ls rest) q9)
    (kk : ∀ (ra : Nat) (u : S) (t : State) (H1 : Heap) (locs1 : List Loc), t.heap = H1 → s.vm.Alike t.vm → post u → B u ra t → H.size ≤ H1.size → (∀ q : Nat, q < H.size → ¬ A1 q → H1[q]? = H[q]?) → va_S A0 H0 H1 locs1 → W p l e R s m args below meth c H1 locs1 (cells + mc) (slots + ms) Q (F0 m (pc + 3) ls (.ref ra :: rest))) : W p l e R s m args below meth c H locs cells slots Q (F0 m pc ls st0) := by
  intro T hT X
  rcases hr T hT X with ⟨v, st₀, t, T', L, h0, X', hL, e1, e2, ⟨⟨u, r, hv, hp, hb⟩, hF⟩, st⟩ | ⟨q, st₀, t, T', L, E, ce, h0, X', hL, e1, e2, ⟨u, hp, hb, hF⟩, hce, hcv, hcl, st⟩
  · cases hv
    obtain ⟨k1, k2, k3⟩ := vq_keep h0 e1 hS hA hf hL hF
    obtain ⟨t2, a1, b1⟩ := kk r u t T'.heap (locs ++ L) e1.symm (by rw [← e2]; exact X'.warmed.alike) hp hb k1 k2 k3 T' rfl X'
    exact ⟨t2, st t2 a1, b1⟩
  · obtain ⟨k1, k2, k3⟩ := vq_keep h0 e1 hS hAX hf hL hF
    obtain ⟨t2, a1, b1⟩ := kx E ce q u t T'.heap (locs ++ L) e1.symm (by rw [← e2]; exact X'.warmed.alike) hp hb k1 k2 k3 (by rw [e1]; exact hce) hcv hcl T' rfl X'
    exact ⟨t2, st.trans a1, b1⟩
end Rows
section ZRN
variable {p : Program} {l : Launch} {e : Env} {s : State} {m : MethodId} {args : Array Value} {below : List Frame} {meth : Method} {c : Code} {cc : ByteArray} {own C : String} {nL : Nat} {D : va_G} {dA : Nat → ClassId} {G : Nat → Nat} {A : Nat → Prop} {Q : State → Prop} {ws X : va_W} {u v pc : Nat} {lv : List (Nat × Value)} {st rest : List Value}
  {y : MethodName} {bytes : ByteArray} {maxL N n' mc ms na index b q : Nat} {rk rs : Nat} {ret : Option FieldType} {As : List Value} {S SX : Type} {f : S → va_W} {af : S → Nat} {fx : SX → Nat → va_W} {tb : Nat} {ad : Nat → Nat} {σ : XS}
/-- a call that may throw, of a reference -/
theorem zq_callVr (hO : Ok p s m args meth c cc own nL D dA A) (hX : XK dA G A s) {E : String} (hM : CtE l y (ws_ y bytes maxL ret) n' mc ms D dA G (.ref b :: As) ws (QgF D dA f af) (XgF D dA E fx)) (hw : MwX y bytes maxL ret C na) (hlk : Cond.methodLink own index y ∈ lw_all) (hR : n' + 1 ≤ N ∧ 8 + (maxL + 11) + 64 * n' ≤ 64 * N) (hc : u + mc ≤ rk ∧ v + ms ≤ rs) (hn : As.length = na)
    (hst : st = As.reverse ++ .ref b :: rest) (hrm : (rest.map fun x => x.category).sum ≤ 8) (hrecv : ∃ (k ci : Nat) (fs : List Value) (q : vw_C), ws[k]? = some (b, .inr (ci, fs)) ∧ zg_cl[ci]? = some q ∧ q.1 = C) (hdg : decode cc pc = .ok (.invokevirtual index, 3))
    (kx : ∀ (z : SX) (q : Nat), GoX p l e (rmG N rk rs) s m args below meth c D A nL Q (fx z q) (u + mc) (v + ms) pc lv rest q) (kk : ∀ z : S, Go p l e (rmG N rk rs) s m args below meth c D A nL Q (f z) (u + mc) (v + ms) (pc + 3) lv (.ref (af z) :: rest)) : Go p l e (rmG N rk rs) s m args below meth c D A nL Q ws u v pc lv st := by
  intro H locs ls hP hD hS hl
  obtain ⟨k, ci, fs, q, h1, h2, rfl⟩ := hrecv
  obtain ⟨w1, w2, w3, w4, w5⟩ := hw
  have hts := hO.2.2.2.2.1
  have hp := zx_pc hO hX hP hD hS (.ref b :: As)
  refine vq_callr (vq_runV (As := As) (rest := rest) ⟨hO.1, hO.2.1, hO.2.2.1, hO.2.2.2.1, hts⟩ (hM H.size) ⟨callB_of na hts (lw_meth w5) rfl rfl rfl (hts _ w4) (hts _ hlk) w1 hR, hts _ w2, hts _ w3⟩
    ⟨hp.1, va_recv hO.2.2.2.2.2.1 hP h2 h1, hp.2⟩ rfl hn hl.1 hst (lv_room hrm) hdg hc) hS (fun q _ h => va_AA hO hS hD q h) (fun q h => va_AA hO hS hD q h) (fun q _ h => va_AA hO hS hD q h) (fun E9 ce q9 z t H1 locs1 ht hvm _ hB hz hk hS1 _ _ _ => ?_) (fun x z t H1 locs1 ht hvm hx hB hz hk hS1 => ?_)
  · obtain ⟨rfl, hB⟩ := hB
    subst ht
    exact kx z q9 t.heap locs1 ls hB.1 (hB.2.2.weaken fun k q _ h => va_AA hO hS hD q.1 h) hS1 hl
  · obtain ⟨rfl, hB⟩ := hB
    subst ht
    exact kk z t.heap locs1 ls hB.1 (hB.2.2.weaken fun k q _ h => va_AA hO hS hD q.1 h) hS1 hl
theorem zy_castLX (hO : Ok p s m args meth c cc own nL D dA A) {i index : Nat} (hi : i < 5) (hlk : Cond.classLink own index "EndSums$Line" ∈ lw_all) (hdg : decode cc pc = .ok (.checkcast index, 3)) (kk : Go p l e (rmG N rk rs) s m args below meth c D A nL Q (WX dA G tb ad σ ++ X) u v (pc + 3) lv (.ref (G (48 + 3 * i)) :: st)) : Go p l e (rmG N rk rs) s m args below meth c D A nL Q (WX dA G tb ad σ ++ X) u v pc lv (.ref (G (48 + 3 * i)) :: st) :=
  fun H locs ls hP hD hS hl => va_castS (nm := "EndSums$Line") hO.1 hO.2.1 hO.2.2.2.1 (hO.2.2.2.2.1 _ hlk) (hO.2.2.2.2.2.1.1 2 _ rfl).2 (va_recv hO.2.2.2.2.2.1 hP (ci := 2) (q := (RX3, TX3, 3)) rfl (apW (wx_line hi))) hdg (kk H locs ls hP hD hS hl)
theorem zy_lgetX (hO : Ok p s m args meth c cc RX1 nL D dA A) (hX : XK dA G A s) {i : Int32} {N' count : Nat} (hi : ¬ (i < 0 ∨ 4 ≤ i.toNatClampNeg)) (hlk : Cond.methodLink RX1 index ⟨"java/util/List", "get", "(I)Ljava/lang/Object;"⟩ ∈ lw_all) (hrm : (rest.map fun x => x.category).sum ≤ 8) (hdg : decode cc pc = .ok (.invokeinterface index count, 5)) (hc : u ≤ rk ∧ v ≤ rs) (kk : Go p l e (rmG (N' + 1) rk rs) s m args below meth c D A nL Q (WX dA G tb ad σ ++ X) u v (pc + 5) lv (.ref (G (48 + 3 * i.toNatClampNeg)) :: rest)) : Go p l e (rmG (N' + 1) rk rs) s m args below meth c D A nL Q (WX dA G tb ad σ ++ X) u v pc lv (.int i :: .ref (G 46) :: rest) := by
  intro H locs ls hP hD hS hl
  have hts := hO.2.2.2.2.1
  have hp := zx_pc hO hX hP.left hD.left hS [.ref (G 46), .int i]
  refine va_callFr (S := Unit) (va_runF (C := RJ8) (x := ⟨"java/util/List", "get", "(I)Ljava/lang/Object;"⟩) (As := [.int i]) (rest := rest) (hO.2.2.2.2.2.1.1 8 _ rfl).2 ⟨hO.1, hO.2.1, hO.2.2.1, hO.2.2.2.1, hts⟩ (m_lget l D dA G tb ad hi H.size) (va_cwF 1 hts (lw_app (by
      intro w hw
      simp only [List.mem_cons, List.not_mem_nil, or_false] at hw
      rcases hw with e | e | e | e
      · rw [e]; exact hlk
      · rw [e]; exact q1080
      · rw [e]; exact q1082
      · rw [e]; exact q96) (lw_meth q1084)) rfl rfl rfl (hX.1.2 _ List.mem_cons_self) (by decide +kernel) ⟨by show 0 + 1 ≤ N' + 1; omega, by show 8 + (2 + 11) + 64 * 0 ≤ 64 * (N' + 1); omega⟩)
    ⟨hp.1, va_recv hO.2.2.2.2.2.1 hP.left (ci := 8) (q0 := 38) rfl rfl, hp.2⟩ rfl rfl hl.1 rfl (lv_room hrm) hdg hc) hS (fun q _ h => va_AA hO hS hD.left q h) (fun q h => va_AA hO hS hD.left q h) (fun _ ra t H1 locs1 ht hvm hx hB hz hk hS1 => ?_)
  obtain ⟨rfl, hB⟩ := hB
  subst ht
  obtain ⟨g1, g2⟩ := zf_join hP hD hk hB.1 hB.2.2 (fun q h => va_AA hO hS hD.left q h)
  exact kk t.heap locs1 ls g1 g2 hS1 hl
end ZRN
def X_run9 (li : Nat) (cv : Int32) (had : Int64) (done : Int32) (σ : XS) : Option (Int32 × XS) :=
  (Xl_sums li 2 σ).bind fun q1 => (X_tells (if cv = 0 then lN 1 else lN 0) (zI q1 5 (nI 0))).bind fun q2 => (X_tells (xL q2 0 - had) q2).bind fun q3 => (X_tellsPair 2 q3).bind fun q4 => some (done, q4)
def X_run1 (li : Nat) (had : Int64) : List Nat → Int32 → Int32 → XS → Option (Int32 × XS)
  | c :: y :: t, cv, done, σ => (X_does li (nI c) (nI y) σ).bind fun q => if q.1 = 0 then X_run9 li q.1 had (done + nI 0) q.2 else X_run1 li had t q.1 (done + nI 1) q.2
  | _, cv, done, σ => X_run9 li cv had done σ
def X_run0 (x : Int32) (σ : XS) : List Nat ⊕ Nat → Option (Int32 × XS)
  | .inr a => some ((-21 : Int32) - nI a, σ)
  | .inl as => if x < 0 ∨ 4 ≤ x.toNatClampNeg then none else X_run1 x.toNatClampNeg (xL σ 0) as (nI 1) (nI 0) σ
def X_run (x : Int32) (σ : XS) : Option (Int32 × XS) :=
  if xI σ 4 < 0 ∨ 100 < (xI σ 4).toNatClampNeg then none else (X_isLine x).bind fun q => if q = 0 then some ((-1 : Int32), zI σ 4 (nI 0)) else X_run0 x (zI σ 4 (nI 0)) (X_readActs (xA σ 2) (xI σ 4).toNatClampNeg)
theorem mw_J11_poll : MwX yJ11_poll cJ11_poll 2 (some (.object "java/lang/Object")) RJ11 0 := ⟨by decide +kernel, q1573, q1574, q99, q1575⟩
theorem run9_l {p : Program} {l : Launch} {e : Env} {s : State} {m : MethodId} {args : Array Value} {below : List Frame} {meth : Method} {c : Code} {D : va_G} {dA : Nat → ClassId} {G : Nat → Nat} {A : Nat → Prop} (hO : Ok p s m args meth c cX1_run RX1 9 D dA A) (hX : XK dA G A s) (hr : meth.sig.returnType = some .int) {li many : Nat} (hli : li < 5) {had : Int64} {x1 : Int32} {ρ : Int32 × XS} {ll : Nat} {tb : Nat} {ad : Nat → Nat} {σ : XS} {cv done : Int32} {u v : Nat} (hu : u ≤ 7700 ∧ v ≤ 55500) (h : X_run9 li cv had done σ = some ρ) : Go p l e (rmG 62 7700 55500) s m args below meth c D A 9 (MQ below ((QgI D dA (fun z : (Nat → Nat) × Nat => WX dA G z.2 z.1 ρ.2) ρ.1) A) args s 7700 55500 A) (WX dA G tb ad σ) u v 124 [(8, .int cv), (7, .int done), (5, .long had), (4, .ref (G (48 + 3 * li))), (3, .ref ll), (0, .ref (G 0)), (1, .int x1), (2, .int (nI many))] [] := by
  unfold X_run9 at h
  obtain ⟨s1, hq1, h⟩ := zg_bind h
  obtain ⟨s2, hq2, h⟩ := zg_bind h
  obtain ⟨s3, hq3, h⟩ := zg_bind h
  obtain ⟨s4, hq4, h⟩ := zg_bind h
  have h := Option.some.inj h
  subst h
  refine zg_aload hO 3 dX1_run_124 rfl ?_
  refine zg_aload_n hO 5 dX1_run_126 rfl rfl ?_
  refine xG_1_154 hO hX dX1_run_127 ?_
  refine zx_callVv (na := 1) (As := [.ref (ad 2)]) (rest := []) hO hX (m_Xl_sums l D dA G hli tb ad hq1) mw_X3_sums q1485 ⟨Nat.le_of_ble_eq_true rfl, Nat.le_of_ble_eq_true rfl⟩ ⟨by omega, by omega⟩ rfl rfl (Nat.le_of_ble_eq_true rfl) ⟨40 + 3 * li, 2, _, _, wx_line hli, rfl, rfl⟩ dX1_run_130 (fun _ => ?_)
  refine zg_aload_n hO 5 dX1_run_133 rfl rfl ?_
  refine zg_iconst hO dX1_run_134 ic0 ?_
  refine xP_1_199 hO hX dX1_run_135 ?_
  refine zg_aload_n hO 5 dX1_run_138 rfl rfl ?_
  refine zg_iload hO 0 dX1_run_139 rfl ?_
  have k149 : ∀ z : Int64, z = (if cv = 0 then lN 1 else lN 0) → Go p l e (rmG 62 7700 55500) s m args below meth c D A 9 (MQ below ((QgI D dA (fun z : (Nat → Nat) × Nat => WX dA G z.2 z.1 s4) done) A) args s 7700 55500 A) (WX dA G tb ad (zI s1 5 (nI 0))) u v 149 [(8, .int cv), (7, .int done), (5, .long had), (4, .ref (G (48 + 3 * li))), (3, .ref ll), (0, .ref (G 0)), (1, .int x1), (2, .int (nI many))] [.long z, .ref (G 0)] := by
    intro z hz
    subst hz
    refine zx_callVv (na := 1) (As := [.long _]) (rest := []) hO hX (m_X_tells l D dA G tb ad hq2) mw_X1_tells q1272 ⟨Nat.le_of_ble_eq_true rfl, Nat.le_of_ble_eq_true rfl⟩ ⟨by omega, by omega⟩ rfl rfl (Nat.le_of_ble_eq_true rfl) ⟨0, 1, _, _, rfl, rfl, rfl⟩ dX1_run_149 (fun _ => ?_)
    refine zg_aload_n hO 5 dX1_run_152 rfl rfl ?_
    refine zg_aload_n hO 5 dX1_run_153 rfl rfl ?_
    refine xG_1_315 hO hX dX1_run_154 ?_
    refine zg_lload hO 2 dX1_run_157 rfl ?_
    refine zg_lsub hO dX1_run_159 ?_
    refine zx_callVv (na := 1) (As := [.long (xL s2 0 - had)]) (rest := []) hO hX (m_X_tells l D dA G tb ad hq3) mw_X1_tells q1272 ⟨Nat.le_of_ble_eq_true rfl, Nat.le_of_ble_eq_true rfl⟩ ⟨by omega, by omega⟩ rfl rfl (Nat.le_of_ble_eq_true rfl) ⟨0, 1, _, _, rfl, rfl, rfl⟩ dX1_run_160 (fun _ => ?_)
    refine zg_aload_n hO 5 dX1_run_163 rfl rfl ?_
    refine zg_aload_n hO 5 dX1_run_164 rfl rfl ?_
    refine xG_1_154 hO hX dX1_run_165 ?_
    refine zx_callVv (na := 1) (As := [.ref (ad 2)]) (rest := []) hO hX (m_X_tellsPair l D dA G tb ad hq4) mw_X1_tellsPair q1362 ⟨Nat.le_of_ble_eq_true rfl, Nat.le_of_ble_eq_true rfl⟩ ⟨by omega, by omega⟩ rfl rfl (Nat.le_of_ble_eq_true rfl) ⟨0, 1, _, _, rfl, rfl, rfl⟩ dX1_run_168 (fun _ => ?_)
    refine zg_iload hO 1 dX1_run_171 rfl ?_
    exact zx_iret (f := fun z : (Nat → Nat) × Nat => WX dA G z.2 z.1 s4) hO hr (ad, tb) rfl rfl ⟨by omega, by omega⟩ dX1_run_173
  by_cases hcv : cv = 0
  · refine zt_if_eq (tgt := 148) hO hcv dX1_run_141 (by decide) ?_
    refine zg_lconst hO dX1_run_148 lc1 ?_
    exact k149 _ (by rw [if_pos hcv])
  · refine zn_if_eq (tgt := 148) hO hcv dX1_run_141 (by decide) ?_
    refine zg_lconst hO dX1_run_144 lc0 ?_
    refine zg_goto (tgt := 149) hO dX1_run_145 (by decide) ?_
    exact k149 _ (by rw [if_neg hcv])
theorem run1_l {p : Program} {l : Launch} {e : Env} {s : State} {m : MethodId} {args : Array Value} {below : List Frame} {meth : Method} {c : Code} {D : va_G} {dA : Nat → ClassId} {G : Nat → Nat} {A : Nat → Prop} (hO : Ok p s m args meth c cX1_run RX1 9 D dA A) (hX : XK dA G A s) (hr : meth.sig.returnType = some .int) {li many : Nat} (hli : li < 5) {had : Int64} {x1 : Int32} {ρ : Int32 × XS} {ll : Nat} {B : va_W} : ∀ (n : Nat) (as : List Nat) (xs : List (Nat × Nat)) (mc cv done : Int32) (σ : XS) (tb : Nat) (ad : Nat → Nat) (u v : Nat), as.length = 2 * n → n ≤ 100 → AX G B xs as → cv ≠ 0 → u + 70 * n ≤ 7700 → v + 534 * n ≤ 55500 → X_run1 li had as cv done σ = some ρ →
    Go p l e (rmG 62 7700 55500) s m args below meth c D A 9 (MQ below ((QgI D dA (fun z : (Nat → Nat) × Nat => WX dA G z.2 z.1 ρ.2) ρ.1) A) args s 7700 55500 A) (WX dA G tb ad σ ++ B ++ LL ll mc xs) u v 66 [(8, .int cv), (7, .int done), (5, .long had), (4, .ref (G (48 + 3 * li))), (3, .ref ll), (0, .ref (G 0)), (1, .int x1), (2, .int (nI many))] [] := by
  intro n
  induction n with
  | zero =>
    intro as xs mc cv done σ tb ad u v hn hn1 hax hcv hu hv h
    cases as with
    | cons a as => rw [List.length_cons] at hn; omega
    | nil =>
    cases xs with
    | cons b t => exact hax.elim
    | nil =>
    have h : X_run9 li cv had done σ = some ρ := h
    refine zg_iload hO 0 dX1_run_66 rfl ?_
    refine zn_if_eq (tgt := 124) hO hcv dX1_run_68 (by decide) ?_
    refine zg_aload_n hO 4 dX1_run_71 rfl rfl ?_
    refine zi_callUi (As := []) (rest := []) hO hX (m_llisEmpty (W0 := WX dA G tb ad σ ++ B) l D dA G (mc := mc) (xs := []) (Nat.le_of_ble_eq_true rfl)) (zi_cw hO q1570 q92 (by decide +kernel) q1565 q1566 (va_Decl.of (hO.2.2.2.2.1 _ q1569) (hO.2.2.2.2.1 _ q1570)) q1568 q1569 ⟨Nat.le_of_ble_eq_true rfl, Nat.le_of_ble_eq_true rfl⟩) ⟨by omega, by omega⟩ rfl rfl (Nat.le_of_ble_eq_true rfl) ⟨(WX dA G tb ad σ ++ B).length, 6, _, _, ap0 (x := LO ll mc []) (L := LN none none []), rfl, rfl⟩ dX1_run_72 (fun _ => ?_)
    refine zt_if_ne (tgt := 124) hO (by decide) dX1_run_75 (by decide) ?_
    refine zj_tail (zj_tail ?_)
    exact run9_l hO hX hr hli ⟨by omega, by omega⟩ h
  | succ n ih =>
    intro as xs mc cv done σ tb ad u v hn hn1 hax hcv hu hv h
    match as, xs, hn, hax, h with
    | a :: y :: t, (a1, x1') :: (a2, x2') :: xs, hn, hax, h =>
    have hn : t.length = 2 * n := by simp only [List.length_cons] at hn; omega
    have hlen := hax.2.2.len
    obtain ⟨hb1, hb2, hax⟩ := hax
    have h : ((X_does li (nI a) (nI y) σ).bind fun q => if q.1 = 0 then X_run9 li q.1 had (done + nI 0) q.2 else X_run1 li had t q.1 (done + nI 1) q.2) = some ρ := h
    obtain ⟨z, hz, h⟩ := zg_bind h
    refine zg_iload hO 0 dX1_run_66 rfl ?_
    refine zn_if_eq (tgt := 124) hO hcv dX1_run_68 (by decide) ?_
    refine zg_aload_n hO 4 dX1_run_71 rfl rfl ?_
    refine zi_callUi (As := []) (rest := []) hO hX (m_llisEmpty (W0 := WX dA G tb ad σ ++ B) l D dA G (mc := mc) (xs := ((a1, x1') :: (a2, x2') :: xs)) (by show xs.length + 1 + 1 < 300; omega)) (zi_cw hO q1570 q92 (by decide +kernel) q1565 q1566 (va_Decl.of (hO.2.2.2.2.1 _ q1569) (hO.2.2.2.2.1 _ q1570)) q1568 q1569 ⟨Nat.le_of_ble_eq_true rfl, Nat.le_of_ble_eq_true rfl⟩) ⟨by omega, by omega⟩ rfl rfl (Nat.le_of_ble_eq_true rfl) ⟨(WX dA G tb ad σ ++ B).length, 6, _, _, ap0 (x := LO ll mc ((a1, x1') :: (a2, x2') :: xs)) (L := LN none none ((a1, x1') :: (a2, x2') :: xs)), rfl, rfl⟩ dX1_run_72 (fun _ => ?_)
    refine zn_if_ne (tgt := 124) hO rfl dX1_run_75 (by decide) ?_
    refine zg_aload_n hO 5 dX1_run_78 rfl rfl ?_
    refine zg_aload hO 3 dX1_run_79 rfl ?_
    refine zg_aload_n hO 4 dX1_run_81 rfl rfl ?_
    refine zx_callVr (As := []) (rest := [.ref (G (48 + 3 * li)), .ref (G 0)]) hO hX (m_llpoll (W0 := WX dA G tb ad σ ++ B) l D dA G (mc := mc) (a := a1) (x := x1') (t := ((a2, x2') :: xs)) (by show xs.length + 1 < 290; omega)) mw_J11_poll q1572 ⟨Nat.le_of_ble_eq_true rfl, Nat.le_of_ble_eq_true rfl⟩ ⟨by omega, by omega⟩ rfl rfl (Nat.le_of_ble_eq_true rfl) ⟨(WX dA G tb ad σ ++ B).length, 6, _, _, ap0 (x := LO ll mc ((a1, x1') :: ((a2, x2') :: xs))) (L := LN none none ((a1, x1') :: ((a2, x2') :: xs))), rfl, rfl⟩ dX1_run_82 (fun _ => ?_)
    have hbb : BX G (WX dA G tb ad σ ++ B ++ LL ll (mc + nI 1) ((a2, x2') :: xs)) x1' (nI a) := (BX.pre hb1).app
    refine zo_cast hO (bx_rc hO hX hbb) q503 dX1_run_85 ?_
    refine zo_callVi (As := []) (rest := [.ref (G (48 + 3 * li)), .ref (G 0)]) hO hX (m_intValue l D dA G hbb) mw_J13_intValue q504 ⟨Nat.le_of_ble_eq_true rfl, Nat.le_of_ble_eq_true rfl⟩ ⟨by omega, by omega⟩ rfl rfl (Nat.le_of_ble_eq_true rfl) (bx_rc hO hX hbb) dX1_run_88 (fun _ => ?_)
    refine zg_aload_n hO 4 dX1_run_91 rfl rfl ?_
    refine zx_callVr (As := []) (rest := [.int (nI a), .ref (G (48 + 3 * li)), .ref (G 0)]) hO hX (m_llpoll (W0 := WX dA G tb ad σ ++ B) l D dA G (mc := (mc + nI 1)) (a := a2) (x := x2') (t := xs) (by omega)) mw_J11_poll q1572 ⟨Nat.le_of_ble_eq_true rfl, Nat.le_of_ble_eq_true rfl⟩ ⟨by omega, by omega⟩ rfl rfl (Nat.le_of_ble_eq_true rfl) ⟨(WX dA G tb ad σ ++ B).length, 6, _, _, ap0 (x := LO ll (mc + nI 1) ((a2, x2') :: xs)) (L := LN none none ((a2, x2') :: xs)), rfl, rfl⟩ dX1_run_92 (fun _ => ?_)
    have hbb : BX G (WX dA G tb ad σ ++ B ++ LL ll ((mc + nI 1) + nI 1) xs) x2' (nI y) := (BX.pre hb2).app
    refine zo_cast hO (bx_rc hO hX hbb) q503 dX1_run_95 ?_
    refine zo_callVi (As := []) (rest := [.int (nI a), .ref (G (48 + 3 * li)), .ref (G 0)]) hO hX (m_intValue l D dA G hbb) mw_J13_intValue q504 ⟨Nat.le_of_ble_eq_true rfl, Nat.le_of_ble_eq_true rfl⟩ ⟨by omega, by omega⟩ rfl rfl (Nat.le_of_ble_eq_true rfl) (bx_rc hO hX hbb) dX1_run_98 (fun _ => ?_)
    refine zg_ws (List.append_assoc _ _ _) ?_
    refine zx_callViX (na := 3) (W := WX dA G tb ad σ) (As := [.ref (G (48 + 3 * li)), .int (nI a), .int (nI y)]) (rest := []) hO hX (m_X_does l D dA G hli tb ad hz) mw_X1_does q1580 ⟨Nat.le_of_ble_eq_true rfl, Nat.le_of_ble_eq_true rfl⟩ ⟨by omega, by omega⟩ rfl rfl (Nat.le_of_ble_eq_true rfl) ⟨0, 1, _, _, rfl, rfl, rfl⟩ dX1_run_101 (fun zz => ?_)
    refine zg_ws (List.append_assoc _ _ _).symm ?_
    refine zg_istore (lv' := [(8, .int z.1), (7, .int done), (5, .long had), (4, .ref (G (48 + 3 * li))), (3, .ref ll), (0, .ref (G 0)), (1, .int x1), (2, .int (nI many))]) hO dX1_run_104 (Nat.le_of_ble_eq_true rfl) rfl ?_
    refine zg_iload hO 1 dX1_run_106 rfl ?_
    refine zg_iload hO 0 dX1_run_108 rfl ?_
    by_cases hz0 : z.1 = 0
    · rw [if_pos hz0] at h
      refine zt_if_eq (tgt := 117) hO hz0 dX1_run_110 (by decide) ?_
      refine zg_iconst hO dX1_run_117 ic0 ?_
      refine zg_iadd hO dX1_run_118 ?_
      refine zg_istore (lv' := [(7, .int (done + (nI 0))), (8, .int z.1), (5, .long had), (4, .ref (G (48 + 3 * li))), (3, .ref ll), (0, .ref (G 0)), (1, .int x1), (2, .int (nI many))]) hO dX1_run_119 (Nat.le_of_ble_eq_true rfl) rfl ?_
      refine zg_goto (tgt := 66) hO dX1_run_121 (by decide) ?_
      refine zg_iload hO 1 dX1_run_66 rfl ?_
      refine zt_if_eq (tgt := 124) hO hz0 dX1_run_68 (by decide) ?_
      refine zj_tail (zj_tail ?_)
      refine zg_sub (lv' := [(8, .int z.1), (7, .int (done + nI 0)), (5, .long had), (4, .ref (G (48 + 3 * li))), (3, .ref ll), (0, .ref (G 0)), (1, .int x1), (2, .int (nI many))]) [1, 0, 2, 3, 4, 5, 6, 7] rfl ?_
      exact run9_l hO hX hr hli ⟨by omega, by omega⟩ h
    · rw [if_neg hz0] at h
      refine zn_if_eq (tgt := 117) hO hz0 dX1_run_110 (by decide) ?_
      refine zg_iconst hO dX1_run_113 ic1 ?_
      refine zg_goto (tgt := 118) hO dX1_run_114 (by decide) ?_
      refine zg_iadd hO dX1_run_118 ?_
      refine zg_istore (lv' := [(7, .int (done + (nI 1))), (8, .int z.1), (5, .long had), (4, .ref (G (48 + 3 * li))), (3, .ref ll), (0, .ref (G 0)), (1, .int x1), (2, .int (nI many))]) hO dX1_run_119 (Nat.le_of_ble_eq_true rfl) rfl ?_
      refine zg_goto (tgt := 66) hO dX1_run_121 (by decide) ?_
      refine zg_sub (lv' := [(8, .int z.1), (7, .int (done + nI 1)), (5, .long had), (4, .ref (G (48 + 3 * li))), (3, .ref ll), (0, .ref (G 0)), (1, .int x1), (2, .int (nI many))]) [1, 0, 2, 3, 4, 5, 6, 7] rfl ?_
      exact ih t xs _ z.1 _ z.2 zz.2 zz.1 _ _ hn (by omega) hax hz0 (by omega) (by omega) h
theorem m_X_run (l : Launch) (hl9 : l.stackTraces = false) (D : va_G) (dA : Nat → ClassId) (G : Nat → Nat) {x1 : Int32} {σ : XS} (tb : Nat) (ad : Nat → Nat) {ρ : Int32 × XS} (h : X_run x1 σ = some ρ) : CtX l yX1_run (wsW_ yX1_run cX1_run 9 (some .int) [(19, 25, 28, 244)]) 62 7700 55500 D dA G [.ref (G 0), .int x1] (WX dA G tb ad σ) (QgI D dA (fun z : (Nat → Nat) × Nat => WX dA G z.2 z.1 ρ.2) ρ.1) := by
  refine zx_startWT (cc := cX1_run) (nL := 9) (ret := some .int) (own := RX1) (hh := [(19, 25, 28, 244)]) (by decide) rfl rfl (Nat.le_of_ble_eq_true rfl) (fun p e s m args below meth c A hO hX htab hr _ _ => ?_)
  unfold X_run at h
  obtain ⟨hx, h⟩ := zg_none h
  have hx0 : ¬ xI σ 4 < 0 := fun z => hx (Or.inl z)
  have hx1 : (xI σ 4).toNatClampNeg ≤ 100 := Nat.le_of_not_lt fun z => hx (Or.inr z)
  have hxe := rt_typed hx0 hx1
  generalize hm : (xI σ 4).toNatClampNeg = many at h hx1 hxe
  obtain ⟨qi, hqi, h⟩ := zg_bind h
  refine zg_sub (lv' := [(0, .ref (G 0)), (1, .int x1)]) [0, 1] rfl ?_
  refine zg_aload_n hO 0 dX1_run_0 rfl rfl ?_
  refine xG_1_206 hO hX dX1_run_1 ?_
  rw [hxe]
  refine zg_istore_n (lv' := [(2, .int (nI many)), (0, .ref (G 0)), (1, .int x1)]) hO dX1_run_4 rfl (Nat.le_of_ble_eq_true rfl) rfl ?_
  refine zg_aload_n hO 1 dX1_run_5 rfl rfl ?_
  refine zg_iconst hO dX1_run_6 ic0 ?_
  refine xP_1_206 hO hX dX1_run_7 ?_
  refine zg_iload_n hO 2 dX1_run_10 rfl rfl ?_
  refine zc_callS0i (As := [.int x1]) (rest := []) hO (m_X_isLine l D dA hqi) mw_X1_isLine q1398 ⟨Nat.le_of_ble_eq_true rfl, Nat.le_of_ble_eq_true rfl⟩ ⟨Nat.zero_le _, Nat.zero_le _⟩ rfl rfl (Nat.le_of_ble_eq_true rfl) dX1_run_11 ?_
  by_cases hq0 : qi = 0
  · rw [if_pos hq0] at h
    have h := Option.some.inj h
    subst h
    refine zn_if_ne (tgt := 19) hO hq0 dX1_run_14 (by decide) ?_
    refine zg_iconst hO dX1_run_17 icm1 ?_
    exact zx_iret (f := fun z : (Nat → Nat) × Nat => WX dA G z.2 z.1 (zI σ 4 (nI 0))) hO hr (ad, tb) rfl rfl ⟨Nat.zero_le _, Nat.zero_le _⟩ dX1_run_18
  · rw [if_neg hq0] at h
    generalize hP : X_readActs (xA σ 2) many = P at h
    refine zt_if_ne (tgt := 19) hO hq0 dX1_run_14 (by decide) ?_
    refine zg_aload_n hO 1 dX1_run_19 rfl rfl ?_
    refine zg_iload_n hO 0 dX1_run_20 rfl rfl ?_
    refine zq_callVr (na := 1) (As := [.int (nI many)]) (rest := []) hO hX (m_X_readActs l hl9 D dA G (tb := tb) (ad := ad) (σ := (zI σ 4 (nI 0))) hx1 hP) mw_X1_readActs q1500 ⟨Nat.le_of_ble_eq_true rfl, Nat.le_of_ble_eq_true rfl⟩ ⟨Nat.le_of_ble_eq_true rfl, Nat.le_of_ble_eq_true rfl⟩ rfl rfl (Nat.le_of_ble_eq_true rfl) ⟨0, 1, _, _, rfl, rfl, rfl⟩ dX1_run_21 (fun z q => ?_) (fun z => ?_)
    · obtain ⟨a, ha⟩ := z
      subst ha
      have h : some ((-21 : Int32) - nI a, zI σ 4 (nI 0)) = some ρ := h
      have h := Option.some.inj h
      subst h
      refine zq_catch hO hX (WX dA G tb ad (zI σ 4 (nI 0))).length ap0 rfl _ [] htab (by decide) (by decide) (name := RX6) q1240 (hX.1.use q1252 rfl rfl) ?_
      refine zg_astore (lv' := [(4, .ref q), (2, .int (nI many)), (0, .ref (G 0)), (1, .int x1)]) hO dX1_run_28 (Nat.le_of_ble_eq_true rfl) rfl ?_
      refine zg_bipush hO dX1_run_30 (by decide : (Int8.ofInt (-21)).toInt32 = (-21 : Int32)) ?_
      refine zg_aload hO 0 dX1_run_32 rfl ?_
      refine zg_getN hO hX.1 fN_266 (WX dA G tb ad (zI σ 4 (nI 0))).length ap0 rfl dX1_run_34 ?_
      refine zg_isub hO dX1_run_37 ?_
      refine zj_tail ?_
      exact zx_iret (f := fun z : (Nat → Nat) × Nat => WX dA G z.2 z.1 (zI σ 4 (nI 0))) hO hr (ad, tb) rfl rfl ⟨Nat.le_of_ble_eq_true rfl, Nat.le_of_ble_eq_true rfl⟩ dX1_run_38
    · obtain ⟨⟨ll, mc, B, xs⟩, ⟨acc, hP2, hax⟩, k, hlen, hk⟩ := z
      subst hP2
      have h : (if x1 < 0 ∨ 4 ≤ x1.toNatClampNeg then none else X_run1 x1.toNatClampNeg (xL (zI σ 4 (nI 0)) 0) acc (nI 1) (nI 0) (zI σ 4 (nI 0))) = some ρ := h
      obtain ⟨hi, h⟩ := zg_none h
      have hli : x1.toNatClampNeg < 5 := by omega
      refine zg_astore_n (lv' := [(3, .ref ll), (2, .int (nI many)), (0, .ref (G 0)), (1, .int x1)]) hO dX1_run_24 rfl (Nat.le_of_ble_eq_true rfl) rfl ?_
      refine zg_goto (tgt := 39) hO dX1_run_25 (by decide) ?_
      refine zg_ws (List.append_assoc _ _ _) ?_
      refine zg_aload_n hO 2 dX1_run_39 rfl rfl ?_
      refine zg_get hO fX_1_162 0 rfl rfl dX1_run_40 ?_
      refine zg_iload_n hO 3 dX1_run_43 rfl rfl ?_
      refine zy_lgetX (rest := []) hO hX hi q1406 (Nat.le_of_ble_eq_true rfl) dX1_run_44 ⟨Nat.le_of_ble_eq_true rfl, Nat.le_of_ble_eq_true rfl⟩ ?_
      refine zy_castLX hO hli q231 dX1_run_49 ?_
      refine zg_astore (lv' := [(4, .ref (G (48 + 3 * x1.toNatClampNeg))), (3, .ref ll), (2, .int (nI many)), (0, .ref (G 0)), (1, .int x1)]) hO dX1_run_52 (Nat.le_of_ble_eq_true rfl) rfl ?_
      refine zg_aload_n hO 3 dX1_run_54 rfl rfl ?_
      refine zg_get hO fX_1_315 0 rfl rfl dX1_run_55 ?_
      refine zg_lstore (lv' := [(5, .long (xL (zI σ 4 (nI 0)) 0)), (4, .ref (G (48 + 3 * x1.toNatClampNeg))), (3, .ref ll), (2, .int (nI many)), (0, .ref (G 0)), (1, .int x1)]) hO dX1_run_58 (Nat.le_of_ble_eq_true rfl) rfl ?_
      refine zg_iconst hO dX1_run_60 ic0 ?_
      refine zg_istore (lv' := [(7, .int (nI 0)), (5, .long (xL (zI σ 4 (nI 0)) 0)), (4, .ref (G (48 + 3 * x1.toNatClampNeg))), (3, .ref ll), (2, .int (nI many)), (0, .ref (G 0)), (1, .int x1)]) hO dX1_run_61 (Nat.le_of_ble_eq_true rfl) rfl ?_
      refine zg_iconst hO dX1_run_63 ic1 ?_
      refine zg_istore (lv' := [(8, .int (nI 1)), (7, .int (nI 0)), (5, .long (xL (zI σ 4 (nI 0)) 0)), (4, .ref (G (48 + 3 * x1.toNatClampNeg))), (3, .ref ll), (2, .int (nI many)), (0, .ref (G 0)), (1, .int x1)]) hO dX1_run_64 (Nat.le_of_ble_eq_true rfl) rfl ?_
      refine zg_ws (List.append_assoc _ _ _).symm ?_
      refine zg_sub (lv' := [(8, .int (nI 1)), (7, .int (nI 0)), (5, .long (xL (zI σ 4 (nI 0)) 0)), (4, .ref (G (48 + 3 * x1.toNatClampNeg))), (3, .ref ll), (0, .ref (G 0)), (1, .int x1), (2, .int (nI many))]) [0, 1, 2, 3, 4, 6, 7, 5] rfl ?_
      exact run1_l hO hX hr hli k acc xs mc (nI 1) (nI 0) (zI σ 4 (nI 0)) tb ad _ _ (by rw [← hax.len]; exact hlen) hk hax (by decide) (by omega) (by omega) h
