set_option maxRecDepth 100000
/-! THE COMPONENT's CONSTRUCTOR -/
section ZIN2
variable {p : Program} {l : Launch} {e : Env} {s : State} {m : MethodId} {args : Array Value} {below : List Frame} {meth : Method} {c : Code} {cc : ByteArray} {own C : String} {nL : Nat} {D : va_G} {dA : Nat → ClassId} {G : Nat → Nat} {A : Nat → Prop} {Q : State → Prop} {ws ws' : va_W} {u v pc : Nat} {lv : List (Nat × Value)} {st rest : List Value}
  {y : MethodName} {bytes : ByteArray} {maxL N n' mc ms na index b : Nat} {rk rs : Nat} {ret : Option FieldType} {As : List Value} {S : Type} {f : S → va_W}
/-- a contract of a method with lambda sites -/
def CtN (l : Launch) (y : MethodName) (w : List Cond) (n mc ms : Nat) (D : va_G) (dA : Nat → ClassId) (G : Nat → Nat) (As : List Value) (ws : va_W) (Qf : (Nat → Prop) → Array Value → State → Outcome → State → Prop) : Prop :=
  ∀ sz : Nat, Met l y w (rmG n mc ms) (va_Pc As (fun U => U.heap.size = sz ∧ va_P D zg_cl ws U.heap ∧ va_K D zg_cl (zg_tys dA) U ∧ va_D (fun _ => True) ws ∧ XK dA G (va_A ws sz) U ∧ ∃ mm, U.methodNamed? y = some mm ∧ SX dA G mm U)) (Qf (va_A ws sz)) mc ms (va_A ws sz)
theorem zn_start {w : List Cond} {Qf : (Nat → Prop) → Array Value → State → Outcome → State → Prop} (hy : plainName y.cls = true) (hw : w = Cond.code y cc nL ret :: lw_all) (hown : y.cls = own) (hn : (lg_sl As).length ≤ nL)
    (body : ∀ (p : Program) (e : Env) (s : State) (m : MethodId) (args : Array Value) (below : List Frame) (meth : Method) (c : Code) (A : Nat → Prop), Ok p s m args meth c cc own nL D dA A → XK dA G A s → SX dA G m s → meth.sig.returnType = ret → meth.name = y.name → args = As.toArray →
      Go p l e (rmG N mc ms) s m args below meth c D A nL (MQ below (Qf A) args s mc ms A) ws 0 0 0 (lv_args 0 As) []) : CtN l y w N mc ms D dA G As ws Qf := by
  intro sz
  refine Met.ofW (cc := cc) (maxL := nL) (ret := ret) hy hw ?_
  intro p e s m args below meth c s₁ B hml hv
  obtain ⟨rfl, hsz, hP, hK, hD, hX, mm, hmm, hSX⟩ := hv
  cases B.named.symm.trans hmm
  subst hsz
  have hts := atoms_spec (ws := w) B.pre
  have hts : ∀ x ∈ lw_all, x.before _ s = true := fun x h => hts x (by rw [hw]; exact List.mem_cons_of_mem _ h)
  have hl := lv_entry As (n := nL) hn
  rw [lg_entry_eq]
  have hD1 := hD.self (sz := s.heap.size)
  have hA : ∀ q : Nat, s.heap.size ≤ q → va_A ws s.heap.size q := fun q h => Or.inr h
  generalize va_A ws s.heap.size = A at hX hD1 hA ⊢
  exact body p e s m _ below meth c A ⟨B.exec, B.bytes, hml, hown ▸ findClass_of_methodNamed B.named, hts, hK, hA, B.notSynchronized⟩ hX hSX B.returns (name_of_methodNamed B.named B.method).1 rfl s.heap [] _ hP hD1 va_S.rf hl
/-- the constructor with lambda sites, called -/
theorem zn_callI (hO : Ok p s m args meth c cc own nL D dA A) (hX : XK dA G A s) {mm : MethodId} (hmm : s.methodNamed? y = some mm) (hSX : SX dA G mm s) (hM : CtN l y (ws_ y bytes maxL none) n' mc ms D dA G (.ref b :: As) ws (QgV D dA f)) (hini : y.name = "<init>") (hw : (y.cls ≠ "java/lang/invoke/MethodHandle" ∧ y.cls ≠ "java/lang/invoke/VarHandle" ∧ (parseMethodDescriptor y.desc).map (fun d => d.parameters.length) = some na) ∧ Cond.instanceMethod y ∈ lw_all ∧ Cond.initialized y.cls ∈ lw_all ∧ Cond.code y bytes maxL none ∈ lw_all) (hlk : Cond.methodLink own index y ∈ lw_all) (hR : n' + 1 ≤ N ∧ 8 + (maxL + 11) + 64 * n' ≤ 64 * N) (hc : u + mc ≤ rk ∧ v + ms ≤ rs) (hn : As.length = na)
    (hst : st = As.reverse ++ .ref b :: rest) (hrm : (rest.map fun x => x.category).sum ≤ 8) (hdg : decode cc pc = .ok (.invokespecial index, 3)) (kk : ∀ z : S, Go p l e (rmG N rk rs) s m args below meth c D A nL Q (f z) (u + mc) (v + ms) (pc + 3) lv rest) : Go p l e (rmG N rk rs) s m args below meth c D A nL Q ws u v pc lv st := by
  intro H locs ls hP hD hS hl
  obtain ⟨w1, w2, w3, w4⟩ := hw
  have hts := hO.2.2.2.2.1
  have hp : PreS s H (va_Pc (.ref b :: As) (fun U => U.heap.size = H.size ∧ va_P D zg_cl ws U.heap ∧ va_K D zg_cl (zg_tys dA) U ∧ va_D (fun _ => True) ws ∧ XK dA G (va_A ws H.size) U ∧ ∃ mm, U.methodNamed? y = some mm ∧ SX dA G mm U)) (.ref b :: As) :=
    ⟨fun a U g mk q => by obtain ⟨q0, q1, qP, qK, qD, qX, q2, q3, q4⟩ := q; exact ⟨q0, q1, qP, va_K.moved (u := U) (U := U.calling g mk a) (Vm.Alike.refl U.vm) qK, qD, qX.blind g mk a, q2, q3, q4.warm (State.WarmedH.refl U)⟩, fun U hU hW => ⟨rfl, by rw [hU], by rw [hU]; exact hP, va_K.moved hW.alike hO.2.2.2.2.2.1, hD.weaken (fun _ _ _ _ => trivial), hX.call hO.2.2.2.2.2.2.1 hU hW hS hD, mm, by
      have h9 := State.methodNamed?_setVm (s := s) hW.alike y
      rw [hmm] at h9
      exact h9, hSX.warm hW⟩⟩
  refine va_callv (va_runI (As := As) (rest := rest) ⟨hO.1, hO.2.1, hO.2.2.1, hO.2.2.2.1, hts⟩ (hM H.size) (cwI na hts (lw_meth w4) rfl rfl rfl (hts _ w3) (hts _ hlk) (hts _ w2) hini w1 hR) hp rfl hn hl.1 hst (lv_room hrm) hdg hc) hS (fun q _ h => va_AA hO hS hD q h) (fun q h => va_AA hO hS hD q h) (fun z t H1 locs1 ht hvm hx hB hz hk hS1 => ?_)
  subst ht
  exact kk z t.heap locs1 ls hB.1 (hB.2.2.weaken fun k q _ h => va_AA hO hS hD q.1 h) hS1 hl
end ZIN2
theorem m_X3_init (l : Launch) (D : va_G) (dA : Nat → ClassId) (G : Nat → Nat) {W0 : va_W} {b g0 : Nat} : CtX l yX3_init (ws_ yX3_init cX3_init 2 none) 1 2 4 D dA G [.ref b, .ref g0] (W0 ++ [(b, .inr (2, [.null, .null, .null]))]) (QgV D dA (fun z : Nat × Nat => (W0 ++ [(b, .inr (2, [.ref z.1, .ref z.2, .ref g0]))] ++ [(z.1, .inl (dA 3, 2, rfA (fun _ => none)))] ++ [(z.2, .inl (dA 0, 2, .inl (fun _ => 0)))]))) := by
  refine zx_start (cc := cX3_init) (nL := 2) (ret := none) (own := RX3) (by decide) rfl rfl (Nat.le_of_ble_eq_true rfl) (fun p e s m args below meth c A hO hX hr hm _ => ?_)
  refine zg_sub (lv' := [(0, .ref b), (1, .ref g0)]) [0, 1] rfl ?_
  refine zg_aload_n hO 0 dX3_init_0 rfl rfl ?_
  refine zg_aload_n hO 1 dX3_init_1 rfl rfl ?_
  refine zg_putF hO hm (show FdF RX3 3 2 2 (.object "EndSums") from ⟨RX3, TX3, 3, _, tyX3, rfl, in_X3, by decide, q243, Or.inl rfl, tyX3_ok, nmX3, rfl, rfl, tyX3_ok 2 (by decide)⟩) W0.length ap0 rfl rfl (Nat.le_of_ble_eq_true rfl) as0 dX3_init_2 ?_
  refine zg_aload_n hO 0 dX3_init_5 rfl rfl ?_
  refine zg_obj (rest := []) hO q236 (Nat.le_of_ble_eq_true rfl) (Nat.le_of_ble_eq_true rfl) dX3_init_6 ?_
  refine zg_aload_n hO 0 dX3_init_9 rfl rfl ?_
  refine zg_iconst hO dX3_init_10 ic2 ?_
  refine zk_newq (N' := 2) hO hX (t0 := 3) rfl q238 q237 (by decide) rfl (by decide) (Nat.le_of_ble_eq_true rfl) (Nat.le_of_ble_eq_true rfl) dX3_init_11 (fun t => ?_)
  refine zg_putF (ws' := W0 ++ [(b, .inr (2, [.ref t, .null, .ref g0]))] ++ [(t, .inl (dA 3, 2, rfA (fun _ => none)))]) hO hm (show FdF RX3 17 2 0 (.array (.object "EndSums$Cell")) from ⟨RX3, TX3, 3, _, tyX3, rfl, in_X3, by decide, q239, Or.inl rfl, tyX3_ok, nmX3, rfl, rfl, tyX3_ok 0 (by decide)⟩) W0.length (apW ap0) rfl rfl (Nat.le_of_ble_eq_true rfl) (by rw [List.set_append_left _ _ (by rw [List.length_append]; exact Nat.lt_succ_self _), as0]; rfl) dX3_init_14 ?_
  refine zg_aload_n hO 0 dX3_init_17 rfl rfl ?_
  refine zg_iconst hO dX3_init_18 ic2 ?_
  refine zj_newI (N' := 2) hO (by decide) rfl (by decide) (Nat.le_of_ble_eq_true rfl) (Nat.le_of_ble_eq_true rfl) dX3_init_19 (fun m1 => ?_)
  refine zg_putF (ws' := W0 ++ [(b, .inr (2, [.ref t, .ref m1, .ref g0]))] ++ [(t, .inl (dA 3, 2, rfA (fun _ => none)))] ++ [(m1, .inl (dA 0, 2, .inl (fun _ => 0)))]) hO hm (show FdF RX3 21 2 1 (.array .int) from ⟨RX3, TX3, 3, _, tyX3, rfl, in_X3, by decide, q241, Or.inl rfl, tyX3_ok, nmX3, rfl, rfl, tyX3_ok 1 (by decide)⟩) W0.length (apW (apW ap0)) rfl rfl (Nat.le_of_ble_eq_true rfl) (by rw [List.set_append_left _ _ (by rw [List.length_append, List.length_append]; show _ < _ + 1 + 1; omega), List.set_append_left _ _ (by rw [List.length_append]; exact Nat.lt_succ_self _), as0]; rfl) dX3_init_21 ?_
  exact zx_vret (f := fun z : Nat × Nat => (W0 ++ [(b, .inr (2, [.ref z.1, .ref z.2, .ref g0]))] ++ [(z.1, .inl (dA 3, 2, rfA (fun _ => none)))] ++ [(z.2, .inl (dA 0, 2, .inl (fun _ => 0)))])) hO hr (t, m1) rfl ⟨Nat.le_refl _, Nat.le_refl _⟩ dX3_init_24
