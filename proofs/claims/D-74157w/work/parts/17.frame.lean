set_option maxRecDepth 100000
/-! CALLS IN A WORLD THAT HOLDS MORE THAN THE CALLEE's; methods with an exception table, where nothing is thrown -/
section ZFR
variable {p : Program} {l : Launch} {e : Env} {s : State} {m : MethodId} {args : Array Value} {below : List Frame} {meth : Method} {c : Code} {cc : ByteArray} {own C : String} {nL : Nat} {D : va_G} {dA : Nat → ClassId} {G : Nat → Nat} {A : Nat → Prop} {Q : State → Prop} {W X : va_W} {u v pc : Nat} {lv : List (Nat × Value)} {st rest : List Value}
  {y : MethodName} {bytes : ByteArray} {maxL N n' mc ms na index b : Nat} {rk rs : Nat} {ret : Option FieldType} {As : List Value} {S : Type} {f : S → va_W} {af : S → Nat}
theorem va_P.left {D : va_G} {cl : List vw_C} {w1 w2 : va_W} {H : Heap} (h : va_P D cl (w1 ++ w2) H) : va_P D cl w1 H := fun k q hk => h k q (apW hk)
theorem va_P.right {D : va_G} {cl : List vw_C} {w1 w2 : va_W} {H : Heap} (h : va_P D cl (w1 ++ w2) H) : va_P D cl w2 H := fun k q hk => h (w1.length + k) q (by rw [List.getElem?_append_right (by omega), show w1.length + k - w1.length = k by omega]; exact hk)
theorem va_D.left {A : Nat → Prop} {w1 w2 : va_W} (h : va_D A (w1 ++ w2)) : va_D A w1 := ⟨fun i j p q hi hj e => h.1 i j p q (apW hi) (apW hj) e, fun k q hk => h.2 k q (apW hk)⟩
theorem va_D.right {A : Nat → Prop} {w1 w2 : va_W} (h : va_D A (w1 ++ w2)) : va_D A w2 := by
  have e : ∀ {k : Nat} {q : Nat × va_E}, w2[k]? = some q → (w1 ++ w2)[w1.length + k]? = some q := fun {k q} hk => by
    rw [List.getElem?_append_right (by omega), show w1.length + k - w1.length = k by omega]
    exact hk
  exact ⟨fun i j p q hi hj h0 => by have := h.1 _ _ p q (e hi) (e hj) h0; omega, fun k q hk => h.2 _ q (e hk)⟩
theorem va_D.apart {A : Nat → Prop} {w1 w2 : va_W} (h : va_D A (w1 ++ w2)) {i j : Nat} {p q : Nat × va_E} (hi : w1[i]? = some p) (hj : w2[j]? = some q) : p.1 ≠ q.1 := by
  intro e
  have hl := (List.getElem?_eq_some_iff.mp hi).1
  have := h.1 i (w1.length + j) p q (apW hi) (by rw [List.getElem?_append_right (by omega), show w1.length + j - w1.length = j by omega]; exact hj) e
  omega
theorem zf_join {H H1 : Heap} {F : va_W} (hP : va_P D zg_cl (W ++ X) H) (hD : va_D A (W ++ X)) (hk : ∀ q : Nat, q < H.size → ¬ va_A W H.size q → H1[q]? = H[q]?) (hP1 : va_P D zg_cl F H1) (hD1 : va_D (va_A W H.size) F) (hAA : ∀ q, va_A W H.size q → A q) : va_P D zg_cl (F ++ X) H1 ∧ va_D A (F ++ X) := by
  have hx : ∀ (k : Nat) (q : Nat × va_E), X[k]? = some q → q.1 < H.size ∧ ¬ va_A W H.size q.1 := by
    intro k q hq
    have hlt := (hP.right k q hq).lt
    refine ⟨hlt, fun h => ?_⟩
    rcases h with ⟨i, e, h⟩ | h
    · exact hD.apart h hq rfl
    · omega
  refine ⟨hP1.app (hP.right.kept fun k q hq => hk _ (hx k q hq).1 (hx k q hq).2), (hD1.weaken fun k q _ h => hAA _ h).app hD.right fun i j p q hi hj e => ?_⟩
  exact (hx j q hj).2 (e ▸ hD1.2 i p hi)
theorem zx_callVvX (hO : Ok p s m args meth c cc own nL D dA A) (hX : XK dA G A s) (hM : CtX l y (ws_ y bytes maxL ret) n' mc ms D dA G (.ref b :: As) W (QgV D dA f)) (hw : MwX y bytes maxL ret C na) (hlk : Cond.methodLink own index y ∈ lw_all) (hR : n' + 1 ≤ N ∧ 8 + (maxL + 11) + 64 * n' ≤ 64 * N) (hc : u + mc ≤ rk ∧ v + ms ≤ rs) (hn : As.length = na)
    (hst : st = As.reverse ++ .ref b :: rest) (hrm : (rest.map fun x => x.category).sum ≤ 8) (hrecv : ∃ (k ci : Nat) (fs : List Value) (q : vw_C), W[k]? = some (b, .inr (ci, fs)) ∧ zg_cl[ci]? = some q ∧ q.1 = C) (hdg : decode cc pc = .ok (.invokevirtual index, 3)) (kk : ∀ z : S, Go p l e (rmG N rk rs) s m args below meth c D A nL Q (f z ++ X) (u + mc) (v + ms) (pc + 3) lv rest) : Go p l e (rmG N rk rs) s m args below meth c D A nL Q (W ++ X) u v pc lv st := by
  intro H locs ls hP hD hS hl
  refine va_callv (zx_runV hO hX hM hw hlk hR hc hn hst hrm hdg hP.left hD.left hS hl hrecv) hS (fun q _ h => va_AA hO hS hD.left q h) (fun q h => va_AA hO hS hD.left q h) (fun z t H1 locs1 ht hvm hx hB hz hk hS1 => ?_)
  subst ht
  obtain ⟨g1, g2⟩ := zf_join hP hD hk hB.1 hB.2.2 (fun q h => va_AA hO hS hD.left q h)
  exact kk z t.heap locs1 ls g1 g2 hS1 hl
theorem zx_callViX (hO : Ok p s m args meth c cc own nL D dA A) (hX : XK dA G A s) {r : Int32} (hM : CtX l y (ws_ y bytes maxL ret) n' mc ms D dA G (.ref b :: As) W (QgI D dA f r)) (hw : MwX y bytes maxL ret C na) (hlk : Cond.methodLink own index y ∈ lw_all) (hR : n' + 1 ≤ N ∧ 8 + (maxL + 11) + 64 * n' ≤ 64 * N) (hc : u + mc ≤ rk ∧ v + ms ≤ rs) (hn : As.length = na)
    (hst : st = As.reverse ++ .ref b :: rest) (hrm : (rest.map fun x => x.category).sum ≤ 8) (hrecv : ∃ (k ci : Nat) (fs : List Value) (q : vw_C), W[k]? = some (b, .inr (ci, fs)) ∧ zg_cl[ci]? = some q ∧ q.1 = C) (hdg : decode cc pc = .ok (.invokevirtual index, 3)) (kk : ∀ z : S, Go p l e (rmG N rk rs) s m args below meth c D A nL Q (f z ++ X) (u + mc) (v + ms) (pc + 3) lv (.int r :: rest)) : Go p l e (rmG N rk rs) s m args below meth c D A nL Q (W ++ X) u v pc lv st := by
  intro H locs ls hP hD hS hl
  refine va_calli (zx_runV hO hX hM hw hlk hR hc hn hst hrm hdg hP.left hD.left hS hl hrecv) hS (fun q _ h => va_AA hO hS hD.left q h) (fun q h => va_AA hO hS hD.left q h) (fun x z t H1 locs1 ht hvm hx hB hz hk hS1 => ?_)
  subst hx
  subst ht
  obtain ⟨g1, g2⟩ := zf_join hP hD hk hB.1 hB.2.2 (fun q h => va_AA hO hS hD.left q h)
  exact kk z t.heap locs1 ls g1 g2 hS1 hl
/-- a method with an exception table -/
theorem zx_startW {hh : List (Nat × Nat × Nat × Nat)} {ws : va_W} {Qf : (Nat → Prop) → Array Value → State → Outcome → State → Prop} {w : List Cond} (hy : plainName y.cls = true) (hw : w = Cond.codeWith y cc nL ret hh :: lw_all) (hown : y.cls = own) (hn : (lg_sl As).length ≤ nL)
    (body : ∀ (p : Program) (e : Env) (s : State) (m : MethodId) (args : Array Value) (below : List Frame) (meth : Method) (c : Code) (A : Nat → Prop), Ok p s m args meth c cc own nL D dA A → XK dA G A s → meth.sig.returnType = ret → meth.name = y.name → args = As.toArray →
      Go p l e (rmG N mc ms) s m args below meth c D A nL (MQ below (Qf A) args s mc ms A) ws 0 0 0 (lv_args 0 As) []) : CtX l y w N mc ms D dA G As ws Qf := by
  intro sz
  refine va_MetW (cc := cc) (maxL := nL) (ret := ret) (hh := hh) hy hw ?_
  intro p e s m args below meth c s₁ B hml hv
  obtain ⟨rfl, hsz, hP, hK, hD, hX⟩ := hv
  subst hsz
  have hts := atoms_spec (ws := w) B.pre
  have hts : ∀ x ∈ lw_all, x.before _ s = true := fun x h => hts x (by rw [hw]; exact List.mem_cons_of_mem _ h)
  have hl := lv_entry As (n := nL) hn
  rw [lg_entry_eq]
  have hD1 := hD.self (sz := s.heap.size)
  have hA : ∀ q : Nat, s.heap.size ≤ q → va_A ws s.heap.size q := fun q h => Or.inr h
  generalize va_A ws s.heap.size = A at hX hD1 hA ⊢
  exact body p e s m _ below meth c A ⟨B.exec, B.bytes, hml, hown ▸ findClass_of_methodNamed B.named, hts, hK, hA, B.notSynchronized⟩ hX B.returns (name_of_methodNamed B.named B.method).1 rfl s.heap [] _ hP hD1 va_S.rf hl
theorem zx_callFrW {count : Nat} {x : MethodName} {hh : List (Nat × Nat × Nat × Nat)} (hO : Ok p s m args meth c cc own nL D dA A) (hX : XK dA G A s) (hM : CtX l y (wsW_ y bytes maxL ret hh) n' mc ms D dA G (.ref b :: As) W (QgF D dA f af)) (hF : (C, x, y) ∈ nx_fw) (hsel : Cond.selects C x y ∈ lw_all) (hw : Cond.instanceMethod y ∈ lw_all ∧ Cond.initialized y.cls ∈ lw_all ∧ Cond.codeWith y bytes maxL ret hh ∈ lw_all) (hlk : Cond.methodLink own index x ∈ lw_all) (hd : x.cls ≠ "java/lang/invoke/MethodHandle" ∧ x.cls ≠ "java/lang/invoke/VarHandle" ∧ (parseMethodDescriptor x.desc).map (fun d => d.parameters.length) = some na) (hR : n' + 1 ≤ N ∧ 8 + (maxL + 11) + 64 * n' ≤ 64 * N) (hc : u + mc ≤ rk ∧ v + ms ≤ rs) (hn : As.length = na)
    (hst : st = As.reverse ++ .ref b :: rest) (hrm : (rest.map fun x => x.category).sum ≤ 8) (hrecv : ∃ (k ci : Nat) (fs : List Value) (q : vw_C), W[k]? = some (b, .inr (ci, fs)) ∧ zg_cl[ci]? = some q ∧ q.1 = C) (hdg : decode cc pc = .ok (.invokeinterface index count, 5)) (kk : ∀ z : S, Go p l e (rmG N rk rs) s m args below meth c D A nL Q (f z) (u + mc) (v + ms) (pc + 5) lv (.ref (af z) :: rest)) : Go p l e (rmG N rk rs) s m args below meth c D A nL Q W u v pc lv st := by
  intro H locs ls hP hD hS hl
  obtain ⟨k, ci, fs, q, h1, h2, rfl⟩ := hrecv
  obtain ⟨w1, w2, w3⟩ := hw
  have hts := hO.2.2.2.2.1
  have hp := zx_pc hO hX hP hD hS (.ref b :: As)
  refine va_callFr (va_runFW (x := x) (As := As) (rest := rest) (hO.2.2.2.2.2.1.1 ci _ h2).2 ⟨hO.1, hO.2.1, hO.2.2.1, hO.2.2.2.1, hts⟩ (hM H.size) (va_cwFW na hts (lw_app (by
      intro w hw
      simp only [List.mem_cons, List.not_mem_nil, or_false] at hw
      rcases hw with e | e | e | e
      · rw [e]; exact hlk
      · rw [e]; exact hsel
      · rw [e]; exact w1
      · rw [e]; exact w2) (lw_methW w3)) rfl rfl rfl (hX.1.2 _ hF) hd hR)
    ⟨hp.1, va_recv hO.2.2.2.2.2.1 hP h2 h1, hp.2⟩ rfl hn hl.1 hst (lv_room hrm) hdg hc) hS (fun q _ h => va_AA hO hS hD q h) (fun q h => va_AA hO hS hD q h) (fun z ra t H1 locs1 ht hvm hx hB hz hk hS1 => ?_)
  obtain ⟨rfl, hB⟩ := hB
  subst ht
  exact kk z t.heap locs1 ls hB.1 (hB.2.2.weaken fun k q _ h => va_AA hO hS hD q.1 h) hS1 hl
end ZFR
