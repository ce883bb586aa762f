set_option maxRecDepth 100000
/-! EXCEPTIONS ON THE GO LAYER -/
/-- q is thrown at pc -/
def GoX (p : Program) (l : Launch) (e : Env) (R : Room) (s : State) (m : MethodId) (args : Array Value) (below : List Frame) (meth : Method) (c : Code) (D : va_G) (A : Nat → Prop) (nL : Nat) (Q : State → Prop) (ws : va_W) (u v : Nat) (pc : Nat) (lv : List (Nat × Value)) (st : List Value) (q : Nat) : Prop :=
  ∀ (H : Heap) (locs : List Loc) (ls : Array Slot), va_P D zg_cl ws H → va_D A ws → va_S A s.heap H locs → lv_has ls nL lv → vq_W p l e R s m args below meth c H locs u v Q (F0 m pc ls st) q
/-- a walk while the object at q is fresh -/
def GoF (p : Program) (l : Launch) (e : Env) (R : Room) (s : State) (m : MethodId) (args : Array Value) (below : List Frame) (meth : Method) (c : Code) (D : va_G) (A : Nat → Prop) (nL : Nat) (Q : State → Prop) (ws : va_W) (u v : Nat) (pc : Nat) (lv : List (Nat × Value)) (st : List Value) (q : Nat) : Prop :=
  ∀ (H : Heap) (locs : List Loc) (ls : Array Slot), va_P D zg_cl ws H → va_D A ws → va_S A s.heap H locs → lv_has ls nL lv → (∃ kX : Class, s.vm.classes[D.1 16]? = some kX ∧ H[q]? = some (blank (D.1 16) kX)) → W p l e R s m args below meth c H locs u v Q (F0 m pc ls st)
/-- thrown: the class E, the world behind -/
abbrev XgF (D : va_G) (dA : Nat → ClassId) (E : String) {S : Type} (f : S → Nat → va_W) : (Nat → Prop) → String → Addr → State → State → Prop := fun A => vq_X (S := S) (fun _ => True) (fun E' q z t => E' = E ∧ Bw D dA (f z q) A t) A
section XGO
variable {p : Program} {l : Launch} {e : Env} {R : Room} {s : State} {m : MethodId} {args : Array Value} {below : List Frame} {meth : Method} {c : Code} {cc : ByteArray} {own C : String} {nL : Nat} {D : va_G} {dA : Nat → ClassId} {G : Nat → Nat} {A : Nat → Prop} {Q : State → Prop} {ws : va_W} {u v pc : Nat} {lv : List (Nat × Value)} {st rest : List Value}
  {y : MethodName} {bytes : ByteArray} {maxL N n' mc ms na index b q : Nat} {rk rs : Nat} {ret : Option FieldType} {As : List Value} {S SX : Type} {f : S → va_W} {fx : SX → Nat → va_W}
theorem zq_dup (hO : Ok p s m args meth c cc own nL D dA A) (hdg : decode cc pc = .ok (.dup, 1)) (k : GoF p l e R s m args below meth c D A nL Q ws u v (pc + 1) lv (.ref q :: .ref q :: st) q) : GoF p l e R s m args below meth c D A nL Q ws u v pc lv (.ref q :: st) q := fun H locs ls hP hD hS hl hF => lv_dup hO.1 hO.2.1 hdg rfl (k H locs ls hP hD hS hl hF)
theorem zq_ic (hO : Ok p s m args meth c cc own nL D dA A) {n : Int} {x : Int32} (hdg : decode cc pc = .ok (.iconst n, 1)) (hv : Int32.ofInt n = x) (k : GoF p l e R s m args below meth c D A nL Q ws u v (pc + 1) lv (.int x :: st) q) : GoF p l e R s m args below meth c D A nL Q ws u v pc lv st q := fun H locs ls hP hD hS hl hF => lv_iconst hO.1 hO.2.1 hdg hv (k H locs ls hP hD hS hl hF)
theorem zq_il (hO : Ok p s m args meth c cc own nL D dA A) {i : Nat} {x : Int32} (q0 : Nat) (hdg : decode cc pc = .ok (.iload i, 2)) (hq : lv[q0]? = some (i, .int x)) (k : GoF p l e R s m args below meth c D A nL Q ws u v (pc + 2) lv (.int x :: st) q) : GoF p l e R s m args below meth c D A nL Q ws u v pc lv st q := fun H locs ls hP hD hS hl hF => lv_iload hO.1 hO.2.1 hdg (lv_at hl q0 hq) (k H locs ls hP hD hS hl hF)
theorem zq_iln (hO : Ok p s m args meth c cc own nL D dA A) {k : Fin 4} {i : Nat} {x : Int32} (q0 : Nat) (hdg : decode cc pc = .ok (.iload_n k, 1)) (hi : (k : Nat) = i) (hq : lv[q0]? = some (i, .int x)) (kk : GoF p l e R s m args below meth c D A nL Q ws u v (pc + 1) lv (.int x :: st) q) : GoF p l e R s m args below meth c D A nL Q ws u v pc lv st q := fun H locs ls hP hD hS hl hF => lv_iload_n hO.1 hO.2.1 hdg hi (lv_at hl q0 hq) (kk H locs ls hP hD hS hl hF)
theorem zq_new (hO : Ok p s m args meth c cc own nL D dA A) (hcl : Cond.classLink own index RX6 ∈ lw_all) (hc : u + 1 ≤ rk) (hs : v + 7 ≤ rs) (hdg : decode cc pc = .ok (.new index, 3)) (kk : ∀ q : Nat, GoF p l e (rmG N rk rs) s m args below meth c D A nL Q (ws ++ [(q, .inr (16, [.int 0]))]) (u + 1) (v + 7) (pc + 3) lv (.ref q :: st) q) : Go p l e (rmG N rk rs) s m args below meth c D A nL Q ws u v pc lv st := by
  intro H locs ls hP hD hS hl
  have hts := hO.2.2.2.2.1
  have hKn := hO.2.2.2.2.2.1.1 16 _ rfl
  refine W.newcK hO.1 hO.2.1 hO.2.2.2.1 (hts _ hcl) (hts _ q1251) (hts _ q125) rfl hdg hc hs hKn.2.1 rfl fun H1 kC hkC e1 z1 o1 => ?_
  have hk : ∀ (k : Nat) (x : Nat × va_E), ws[k]? = some x → H1[x.1]? = H[x.1]? := fun k x hx => o1 x.1 ((hP k x hx).lt)
  refine kk H.size H1 locs ls ((hP.kept hk).app (fun k x hx => ?_)) (hD.push hP rfl (hO.2.2.2.2.2.2.1 _ hS.1)) ⟨Nat.le_trans hS.1 (by omega), fun x h1 h2 => (o1 x (Nat.lt_of_lt_of_le h1 hS.1)).trans (hS.2.1 x h1 h2), hS.2.2⟩ hl ⟨kC, hkC, e1⟩
  have hz : k < 1 := (List.getElem?_eq_some_iff.mp hx).1
  rw [show k = 0 by omega] at hx
  cases hx
  refine ⟨_, rfl, (u_born (fun _ => .int) hts in_TXF hKn hkC e1 tyXF).to (fun k hk => ?_)⟩
  rw [show k = 0 from Nat.lt_one_iff.mp hk]
  rfl
theorem zq_init (hO : Ok p s m args meth c cc own nL D dA A) (hX : XK dA G A s) (hl9 : l.stackTraces = false) {x : Int32} (hlk : Cond.methodLink own index yX6_ini ∈ lw_all) (hR : 4 + 1 ≤ N ∧ 8 + (2 + 11) + 64 * 4 ≤ 64 * N) (hc : u ≤ rk ∧ v ≤ rs) (hrm : (rest.map fun x => x.category).sum ≤ 8) (hdg : decode cc pc = .ok (.invokespecial index, 3))
    (kk : Go p l e (rmG N rk rs) s m args below meth c D A nL Q (ws ++ [(q, .inr (16, [.int x]))]) u v (pc + 3) lv rest) : GoF p l e (rmG N rk rs) s m args below meth c D A nL Q (ws ++ [(q, .inr (16, [.int 0]))]) u v pc lv (.int x :: .ref q :: rest) q := by
  intro H locs ls hP hD hS hl hF
  obtain ⟨kX, hkX, hcell⟩ := hF
  have hts := hO.2.2.2.2.1
  have hPr := hP.right
  have hDr := hD.right
  have hp : PreS s H (va_Pc [.ref q, .int x] (fun U => U.heap.size = H.size ∧ va_P D zg_cl [(q, .inr (16, [.int 0]))] U.heap ∧ va_K D zg_cl (zg_tys dA) U ∧ va_D (fun _ => True) [(q, .inr (16, [.int 0]))] ∧ XK dA G (va_A [(q, .inr (16, [.int 0]))] H.size) U ∧ Fr RX6 q U)) [.ref q, .int x] :=
    ⟨fun a U g mk q9 => by obtain ⟨q0, q1, qP, qK, qD, qX, qF⟩ := q9; exact ⟨q0, q1, qP, va_K.moved (u := U) (U := U.calling g mk a) (Vm.Alike.refl U.vm) qK, qD, qX.blind g mk a, qF⟩, fun U hU hW => by
      have hvm : s.vm.Alike U.vm := hW.alike
      obtain ⟨k', hk', he⟩ := hvm.2.2 _ _ hkX
      refine ⟨rfl, by rw [hU], by rw [hU]; exact hPr, va_K.moved hW.alike hO.2.2.2.2.2.1, hDr.weaken (fun _ _ _ _ => trivial), hX.call hO.2.2.2.2.2.2.1 hU hW hS hDr, D.1 16, k', ?_, hk', ?_⟩
      · have h3 := (hO.2.2.2.2.2.1.1 16 _ rfl).2.1
        first | (rw [← hvm.findClass]; exact h3) | (rw [hvm.findClass]; exact h3)
      · rw [hU, hcell, he]; rfl⟩
  refine va_callv (va_runI (As := [.int x]) (rest := rest) ⟨hO.1, hO.2.1, hO.2.2.1, hO.2.2.2.1, hts⟩ (m_flt hl9 H.size) (cwI 1 hts (lw_meth q1261) rfl rfl rfl (hts _ q125) (hts _ hlk) (hts _ q1260) rfl ⟨by decide, by decide, rfl⟩ hR) hp rfl rfl hl.1 rfl (lv_room hrm) hdg hc) hS (fun q9 _ h => va_AA hO hS hDr q9 h) (fun q9 h => va_AA hO hS hDr q9 h) (fun z t H1 locs1 ht hvm hx hB hz hk hS1 => ?_)
  subst ht
  have hx : ∀ (k : Nat) (r : Nat × va_E), ws[k]? = some r → r.1 < H.size ∧ ¬ va_A [(q, .inr (16, [.int 0]))] H.size r.1 := by
    intro k r hr
    have hlt := (hP.left k r hr).lt
    refine ⟨hlt, fun h => ?_⟩
    rcases h with ⟨i, e9, h⟩ | h
    · exact hD.apart hr h rfl
    · omega
  refine kk t.heap locs1 ls ((hP.left.kept fun k r hr => hk _ (hx k r hr).1 (hx k r hr).2).app hB.1) (hD.left.app (hB.2.2.weaken fun k r _ h => va_AA hO hS hDr _ h) fun i j p9 q9 hi hj e9 => ?_) hS1 hl
  have hz : j < 1 := (List.getElem?_eq_some_iff.mp hj).1
  rw [show j = 0 by omega] at hj
  cases hj
  exact hD.apart (j := 0) hi rfl e9
theorem zq_throw (hO : Ok p s m args meth c cc own nL D dA A) (hdg : decode cc pc = .ok (.athrow, 1)) (k : GoX p l e R s m args below meth c D A nL Q ws u v pc lv st q) : Go p l e R s m args below meth c D A nL Q ws u v pc lv (.ref q :: st) := fun H locs ls hP hD hS hl => vq_athrow hO.1 hO.2.1 hdg (k H locs ls hP hD hS hl)
/-- a contract of a method that may throw -/
def CtE (l : Launch) (y : MethodName) (w : List Cond) (n mc ms : Nat) (D : va_G) (dA : Nat → ClassId) (G : Nat → Nat) (As : List Value) (ws : va_W) (Qf : (Nat → Prop) → Array Value → State → Outcome → State → Prop) (XCf : (Nat → Prop) → String → Addr → State → State → Prop) : Prop :=
  ∀ sz : Nat, vq_Met l y w (rmG n mc ms) (va_Pc As (fun U => U.heap.size = sz ∧ va_P D zg_cl ws U.heap ∧ va_K D zg_cl (zg_tys dA) U ∧ va_D (fun _ => True) ws ∧ XK dA G (va_A ws sz) U)) (Qf (va_A ws sz)) (XCf (va_A ws sz)) mc ms (va_A ws sz)
theorem zx_startE {w : List Cond} {Qf : (Nat → Prop) → Array Value → State → Outcome → State → Prop} {XCf : (Nat → Prop) → String → Addr → State → State → Prop} (hy : plainName y.cls = true) (hw : w = Cond.code y cc nL ret :: lw_all) (hown : y.cls = own) (hn : (lg_sl As).length ≤ nL)
    (body : ∀ (p : Program) (e : Env) (s : State) (m : MethodId) (args : Array Value) (below : List Frame) (meth : Method) (c : Code) (A : Nat → Prop), Ok p s m args meth c cc own nL D dA A → XK dA G A s → (∀ x ∈ c.exceptionTable.toList, False) → meth.sig.returnType = ret → meth.name = y.name → args = As.toArray →
      Go p l e (rmG N mc ms) s m args below meth c D A nL (vq_MQ below (Qf A) (XCf A) args s mc ms A) ws 0 0 0 (lv_args 0 As) []) : CtE l y w N mc ms D dA G As ws Qf XCf := by
  intro sz
  refine vq_ofW (cc := cc) (maxL := nL) (ret := ret) hy hw ?_
  intro p e s m args below meth c s₁ B hml htab hv
  obtain ⟨rfl, hsz, hP, hK, hD, hX⟩ := hv
  subst hsz
  have hts := atoms_spec (ws := w) B.pre
  have hts : ∀ x ∈ lw_all, x.before _ s = true := fun x h => hts x (by rw [hw]; exact List.mem_cons_of_mem _ h)
  have hl := lv_entry As (n := nL) hn
  rw [lg_entry_eq]
  have hD1 := hD.self (sz := s.heap.size)
  have hA : ∀ q : Nat, s.heap.size ≤ q → va_A ws s.heap.size q := fun q h => Or.inr h
  generalize va_A ws s.heap.size = A at hX hD1 hA ⊢
  exact body p e s m _ below meth c A ⟨B.exec, B.bytes, hml, hown ▸ findClass_of_methodNamed B.named, hts, hK, hA, B.notSynchronized⟩ hX htab B.returns (name_of_methodNamed B.named B.method).1 rfl s.heap [] _ hP hD1 va_S.rf hl
theorem zq_ret {Qc : Array Value → State → Outcome → State → Prop} {XC : String → Addr → State → State → Prop} {free : Addr → Prop} (k : Go p l e R s m args below meth c D A nL (MQ below Qc args s mc ms free) ws u v pc lv st) : Go p l e R s m args below meth c D A nL (vq_MQ below Qc XC args s mc ms free) ws u v pc lv st := fun H locs ls hP hD hS hl => vq_ret (k H locs ls hP hD hS hl)
theorem zq_out {Qc : Array Value → State → Outcome → State → Prop} (hO : Ok p s m args meth c cc own nL D dA A) (htab : ∀ x ∈ c.exceptionTable.toList, False) (z : SX) (k0 : Nat) {ci : Nat} {E : String} {T9 : u_T} {M9 : Nat} {fs : List Value} (hk : ws[k0]? = some (q, .inr (ci, fs))) (hci : zg_cl[ci]? = some (E, T9, M9)) (hw : ws = fx z q) (hc : u ≤ mc ∧ v ≤ ms) :
    GoX p l e R s m args below meth c D A nL (vq_MQ below Qc (XgF D dA E fx A) args s mc ms A) ws u v pc lv st q := by
  intro H locs ls hP hD hS hl
  obtain ⟨r, hr, cell, hcell, hcls, hvm, -⟩ := hP k0 _ hk
  have hr : r = (E, T9, M9) := Option.some.inj (hr.symm.trans hci)
  subst hr
  exact vq_out (E := E) (fun x hx => (htab x hx).elim) hO.2.2.2.2.2.2.2 hcell hvm (by rw [hcls]; exact (hO.2.2.2.2.2.1.1 ci _ hci).2.1) (fun t ht hW => ⟨z, trivial, ⟨rfl, by rw [ht, ← hw]; exact hP, va_K.moved hW hO.2.2.2.2.2.1, by rw [← hw]; exact hD⟩, hS.F ht⟩) hS.2.2 hc.1 hc.2
theorem zq_catch (hO : Ok p s m args meth c cc own nL D dA A) (hX : XK dA G A s) (k0 : Nat) {ci : Nat} {E name : String} {T9 : u_T} {M9 : Nat} {fs : List Value} (hk : ws[k0]? = some (q, .inr (ci, fs))) (hci : zg_cl[ci]? = some (E, T9, M9)) (x : ExceptionTableEntry) (suf : List ExceptionTableEntry) (hsplit : c.exceptionTable.toList = x :: suf) (hx : covers x pc = true) (h0 : x.catchType ≠ 0)
    (hlink : Cond.classLink own x.catchType name ∈ lw_all) (hcast : (Cond.castable E name).before args s = true) (kk : Go p l e R s m args below meth c D A nL Q ws u v x.handlerPc lv [.ref q]) : GoX p l e R s m args below meth c D A nL Q ws u v pc lv st q := by
  intro H locs ls hP hD hS hl
  obtain ⟨r, hr, cell, hcell, hcls, hvm, -⟩ := hP k0 _ hk
  have hr : r = (E, T9, M9) := Option.some.inj (hr.symm.trans hci)
  subst hr
  exact vq_catch hO.2.2.2.1 [] x suf hsplit (fun z hz => by cases hz) hx h0 (hO.2.2.2.2.1 _ hlink) hcast hcell hvm (by rw [hcls]; exact (hO.2.2.2.2.2.1.1 ci _ hci).2.1) (kk H locs ls hP hD hS hl)
/-- a call that may throw -/
theorem zq_callVi (hO : Ok p s m args meth c cc own nL D dA A) (hX : XK dA G A s) {r : Int32} {E : String} (hM : CtE l y (ws_ y bytes maxL ret) n' mc ms D dA G (.ref b :: As) ws (QgI D dA f r) (XgF D dA E fx)) (hw : MwX y bytes maxL ret C na) (hlk : Cond.methodLink own index y ∈ lw_all) (hR : n' + 1 ≤ N ∧ 8 + (maxL + 11) + 64 * n' ≤ 64 * N) (hc : u + mc ≤ rk ∧ v + ms ≤ rs) (hn : As.length = na)
    (hst : st = As.reverse ++ .ref b :: rest) (hrm : (rest.map fun x => x.category).sum ≤ 8) (hrecv : ∃ (k ci : Nat) (fs : List Value) (q : vw_C), ws[k]? = some (b, .inr (ci, fs)) ∧ zg_cl[ci]? = some q ∧ q.1 = C) (hdg : decode cc pc = .ok (.invokevirtual index, 3))
    (kx : ∀ (z : SX) (q : Nat), GoX p l e (rmG N rk rs) s m args below meth c D A nL Q (fx z q) (u + mc) (v + ms) pc lv rest q) (kk : ∀ z : S, Go p l e (rmG N rk rs) s m args below meth c D A nL Q (f z) (u + mc) (v + ms) (pc + 3) lv (.int r :: rest)) : Go p l e (rmG N rk rs) s m args below meth c D A nL Q ws u v pc lv st := by
  intro H locs ls hP hD hS hl
  obtain ⟨k, ci, fs, q, h1, h2, rfl⟩ := hrecv
  obtain ⟨w1, w2, w3, w4, w5⟩ := hw
  have hts := hO.2.2.2.2.1
  have hp := zx_pc hO hX hP hD hS (.ref b :: As)
  refine vq_calli (vq_runV (As := As) (rest := rest) ⟨hO.1, hO.2.1, hO.2.2.1, hO.2.2.2.1, hts⟩ (hM H.size) ⟨callB_of na hts (lw_meth w5) rfl rfl rfl (hts _ w4) (hts _ hlk) w1 hR, hts _ w2, hts _ w3⟩
    ⟨hp.1, va_recv hO.2.2.2.2.2.1 hP h2 h1, hp.2⟩ rfl hn hl.1 hst (lv_room hrm) hdg hc) hS (fun q _ h => va_AA hO hS hD q h) (fun q h => va_AA hO hS hD q h) (fun q _ h => va_AA hO hS hD q h) (fun E9 ce q9 z t H1 locs1 ht hvm _ hB hz hk hS1 _ _ _ => ?_) (fun x z t H1 locs1 ht hvm hx hB hz hk hS1 => ?_)
  · obtain ⟨rfl, hB⟩ := hB
    subst ht
    exact kx z q9 t.heap locs1 ls hB.1 (hB.2.2.weaken fun k q _ h => va_AA hO hS hD q.1 h) hS1 hl
  · subst hx
    subst ht
    exact kk z t.heap locs1 ls hB.1 (hB.2.2.weaken fun k q _ h => va_AA hO hS hD q.1 h) hS1 hl
/-- a method with an exception table, and that table -/
theorem zx_startWT {hh : List (Nat × Nat × Nat × Nat)} {Qf : (Nat → Prop) → Array Value → State → Outcome → State → Prop} {w : List Cond} (hy : plainName y.cls = true) (hw : w = Cond.codeWith y cc nL ret hh :: lw_all) (hown : y.cls = own) (hn : (lg_sl As).length ≤ nL)
    (body : ∀ (p : Program) (e : Env) (s : State) (m : MethodId) (args : Array Value) (below : List Frame) (meth : Method) (c : Code) (A : Nat → Prop), Ok p s m args meth c cc own nL D dA A → XK dA G A s → c.exceptionTable.toList = tableOf hh → meth.sig.returnType = ret → meth.name = y.name → args = As.toArray →
      Go p l e (rmG N mc ms) s m args below meth c D A nL (MQ below (Qf A) args s mc ms A) ws 0 0 0 (lv_args 0 As) []) : CtX l y w N mc ms D dA G As ws Qf := by
  intro sz
  refine va_MetW (cc := cc) (maxL := nL) (ret := ret) (hh := hh) hy hw ?_
  intro p e s m args below meth c s₁ B hml hv
  obtain ⟨rfl, hsz, hP, hK, hD, hX⟩ := hv
  subst hsz
  have hts0 := atoms_spec (ws := w) B.pre
  have htab := vq_table (x := y) B (hts0 (Cond.codeWith y cc nL ret hh) (by rw [hw]; exact List.mem_cons_self))
  have hts : ∀ x ∈ lw_all, x.before _ s = true := fun x h => hts0 x (by rw [hw]; exact List.mem_cons_of_mem _ h)
  have hl := lv_entry As (n := nL) hn
  rw [lg_entry_eq]
  have hD1 := hD.self (sz := s.heap.size)
  have hA : ∀ q : Nat, s.heap.size ≤ q → va_A ws s.heap.size q := fun q h => Or.inr h
  generalize va_A ws s.heap.size = A at hX hD1 hA ⊢
  exact body p e s m _ below meth c A ⟨B.exec, B.bytes, hml, hown ▸ findClass_of_methodNamed B.named, hts, hK, hA, B.notSynchronized⟩ hX htab B.returns (name_of_methodNamed B.named B.method).1 rfl s.heap [] _ hP hD1 va_S.rf hl
end XGO
