set_option maxRecDepth 100000
section ZLK
variable {p : Program} {l : Launch} {e : Env} {R : Room} {s : State} {m : MethodId} {args : Array Value} {below : List Frame} {meth : Method} {c : Code} {H : Heap} {locs : List Loc} {cells slots : Nat} {T : State}
/-- the call through the interface comes to the made class's method -/
theorem zl_into (X : Stand p l e R s m args below meth c T locs cells slots) (hexec : p.tables.exec = Jvm.exec) {own : String} {index count : Nat} {x : MethodName} (hown : s.vm.findClass own = some m.cls) (hlink : (Cond.methodLink own index x).before args s = true)
    (hdecl : (Cond.declares x).before args s = true) (hface : (Cond.interfaceMethod x.cls x.cls x.name x.desc).before #[] s = true) (hx : x.cls ≠ "java/lang/invoke/MethodHandle" ∧ x.cls ≠ "java/lang/invoke/VarHandle")
    {σ : Jvm.Lambda.Shape} {d : ClassId} {cell : Cell} {b : Addr} (hmade : Jvm.Lambda.isMade { classPath := fun _ => none } s.vm d σ cell.cls = true) (hcan : s.lambdaCallable σ cell.cls = true) (hσ : x = ⟨σ.iface, σ.name, σ.sam.toString⟩)
    {k : Class} {methk : Method} (hk : s.vm.classes[cell.cls]? = some k) (hmk : s.vm.method? ⟨cell.cls, 1⟩ = some methk) (hfl : methk.accessFlags = 0x0001)
    (hcell : T.heap[b]? = some cell) (hobj : cell.vm = .none)
    {g : JFrame} (hg : g.method = m) {argsL rest : List Value} (hlen : ∀ sig, parseMethodDescriptor x.desc = some sig → argsL.length = sig.parameters.length) (hstack : g.stack = argsL.reverse ++ .ref b :: rest)
    (hdg : decode c.code g.pc = .ok (.invokeinterface index count, 5)) :
    ∃ vm', Stand p l e R s m args below meth c (T.setVm vm') locs cells slots ∧
      ∀ target, (∀ acts, Steps p.tables e below (doInvoke e ((T.setVm vm').setTop { g with stack := rest }) acts ⟨cell.cls, 1⟩ (.ref b :: argsL).toArray).1 target) → Steps p.tables e below (T.setTop g) target := by
  obtain ⟨r0, r, hn, hrm, hstR, hsigR⟩ := Cond.declares_spec hdecl
  obtain ⟨cL, kL, r1, hcL, hkL, hiL, hfoundL, hn1⟩ := Cond.interfaceMethod_spec hface
  cases hn.symm.trans hn1
  have hr0cls : r0.cls = cL := Option.some.inj ((findClass_of_methodNamed hn).symm.trans hcL)
  obtain ⟨hnameR, hdescR⟩ := name_of_methodNamed hn hrm
  obtain ⟨dk, k', ok, tk, file, cfK, object, iface', t, lay, methods, tgt, found, -, hk', -, hcfK, -, hi', -, -, -, -, -, -, hfound', hrec, -, -, -, -, -, -, -, -, -, hsel⟩ := Jvm.Lambda.isMade_spec hmade
  subst hσ
  obtain ⟨i2, hi2, hasg, hway⟩ := State.lambdaCallable_spec hcan
  cases hi'.symm.trans hi2
  cases hi'.symm.trans hcL
  have hf0 : found = r0 := by
    have h0 := hfoundL
    simp only [State.methodFound?, hcL, hkL, hiL, Option.bind_eq_bind, Option.bind_some] at h0
    rw [hfound'] at h0
    exact Option.some.inj h0
  subst hf0
  have hselP : selectMethod e.platform s.vm cell.cls found = .method ⟨cell.cls, 1⟩ := by rw [Launch.admits_selectMethod X.admits]; exact hsel
  exact X.invokeinterface hexec hown hlink hn hrm hstR (by rw [hr0cls]; exact hkL) hiL hx (a := b) (cell := cell) (kcell := k) hcell (fun z h => by rw [hobj] at h; cases h) hk (by rw [hr0cls]; exact hasg) hselP hmk
    (by rw [hnameR, hdescR]; exact hway) (by rw [hfl]; decide) (by simp [Method.isAbstract, hfl, hasFlag, Acc.abstract]) (g := g) hg (argsL := argsL) (rest := rest) (hlen _ hsigR) hstack hdg
/-- a lambda that holds nothing: its target is a static method of EndSums -/
theorem zl_run6 {own : String} {index count maxL mc ms nl pc1 n' N rk rs : Nat} {x y : MethodName} {σ : Jvm.Lambda.Shape} {d : ClassId} {dk : Class} {cell : Cell} {b : Addr} {fb : List UInt8} {tb : ByteArray} {ws : List Cond} {rm : Room} {Pc : Array Value → State → Prop} {Qc : Array Value → State → Outcome → State → Prop} {free : Addr → Prop} {As rest : List Value} {g : JFrame}
    (hexec : p.tables.exec = Jvm.exec) (hown : s.vm.findClass own = some m.cls) (hlink : (Cond.methodLink own index x).before args s = true)
    (hdecl : (Cond.declares x).before args s = true) (hface : (Cond.interfaceMethod x.cls x.cls x.name x.desc).before #[] s = true) (hx : x.cls ≠ "java/lang/invoke/MethodHandle" ∧ x.cls ≠ "java/lang/invoke/VarHandle")
    (hmade : Jvm.Lambda.isMade { classPath := fun _ => none } s.vm d σ cell.cls = true) (hcan : s.lambdaCallable σ cell.cls = true) (hσ : x = ⟨σ.iface, σ.name, σ.sam.toString⟩) (hσy : y = ⟨"EndSums", σ.implName, σ.implDesc.toString⟩)
    (hd : s.vm.classes[d]? = some dk) (hname : dk.name = "EndSums") (hok : lk6 σ fb nl)
    (hM : Met l y ws rm Pc Qc mc ms free) (hws : ∀ w ∈ ws, ∀ (a' : Array Value) (U : State), s.WarmedH U.vm → w.before a' U = true) (hcw : Cond.code y tb maxL none ∈ ws) (hstat : (Cond.static y).before args s = true) (hini : (Cond.initialized y.cls).before args s = true)
    (hrm : rm = rmG n' mc ms) (hR : R = rmG N rk rs) (hN : n' + 2 ≤ N) (hml8 : maxL ≤ 40) (hnl : nl ≤ 4) (hf : cells + mc ≤ R.cells ∧ slots + ms ≤ R.slots)
    (hp : PreS s H Pc As) (hcell : H[b]? = some cell) (hobj : cell.vm = .none) (hret : ∀ a st v t, Qc a st (.returned v) t → v = none)
    (hload : ∀ (mk : MethodId) (ck : Code) (U : State) (bl : List Frame), ck.code.data = fb.toArray → ck.maxLocals = nl → At U mk ck bl → ∃ L : Array Slot, L.size = ck.maxLocals ∧ ∀ tg, Steps p.tables e bl (U.setTop { method := mk, pc := pc1, locals := L, stack := As.reverse, locked := none }) tg → Steps p.tables e bl (U.setTop (entryFrame mk (.ref b :: As).toArray nl)) tg)
    (hd1 : ∀ cb : ByteArray, cb.data = fb.toArray → decode cb pc1 = .ok (.invokestatic 17, 3) ∧ decode cb (pc1 + 3) = .ok (.return_, 1))
    (hg : g.method = m) (hsize : g.locals.size = c.maxLocals) (hlen : ∀ sig, parseMethodDescriptor x.desc = some sig → As.length = sig.parameters.length) (hleny : ∀ sig, parseMethodDescriptor y.desc = some sig → As.length = sig.parameters.length)
    (hstack : g.stack = As.reverse ++ .ref b :: rest) (hW : 2 * g.monitorRoom + (rest.map fun v => v.category).sum ≤ 8) (hdg : decode c.code g.pc = .ok (.invokeinterface index count, 5)) :
    va_Run5 p l e R s m args below meth c H locs cells slots mc ms g rest (Qc As.toArray) free := by
  intro T hT X
  obtain ⟨k0, tk0, file0, methk0, ck0, toy0, t0, hk0, -, -, -, hmk0, -, -, -, -, hfl0, -⟩ := lk_facts6 hd hname hok hmade
  obtain ⟨vm₁, X₁, hstep⟩ := zl_into X hexec hown hlink hdecl hface hx hmade hcan hσ hk0 hmk0 hfl0 (by rw [hT]; exact hcell) hobj hg hlen hstack hdg
  have hW₁ : s.WarmedH vm₁ := X₁.warmed
  obtain ⟨dk1, hd1', hdn1⟩ := hW₁.alike.2.2 _ _ hd
  obtain ⟨k, tk, file, methk, ck, toy, t, hk, hkn, hfile, hpool, hmk, hck, hbytes, hml, hlk, hfl, hretk, htoy, htk, hlook, hready, hclsR⟩ := lk_facts6 (vm := vm₁) hd1' (by rw [hdn1]; exact hname) hok (Jvm.Lambda.isMade_warmer hW₁ hmade)
  obtain ⟨Y₀, hin⟩ := X₁.into (g := { g with stack := rest }) hg hsize hdg (.ref b :: As).toArray (R' := rmG (n' + 1) mc ms) hmk hck hlk (State.plainMethod.of_name (fun k' hk' => by cases hk.symm.trans hk'; rw [hkn]; decide))
    (by rw [hR]; show n' + 1 + 1 ≤ N; omega) (by rw [hR, hml]; show 2 * g.monitorRoom + (rest.map fun v => v.category).sum + (nl + 11) + 64 * (n' + 1) ≤ 64 * N; omega) hf.1 hf.2
  generalize hU : ((T.setVm vm₁).setTop { g with stack := rest }).pushFrame (.java (entryFrame ⟨cell.cls, 1⟩ (.ref b :: As).toArray ck.maxLocals)) = U at Y₀ hin
  have hvm : U.vm = vm₁ := by rw [← hU]; rfl
  have hUh : U.heap = H := by rw [← hU, ← hT]; rfl
  have hsW : s.WarmedH U.vm := by rw [hvm]; exact hW₁
  have hcy : (Cond.code y tb maxL none).before args U = true := hws _ hcw _ _ hsW
  obtain ⟨mt, hnamed⟩ := Cond.code_named hcy
  obtain ⟨metht, ct, hmt, -, -, -, -, -, -, hsigt⟩ := Cond.code_spec hnamed hcy
  have hynot : y.cls ≠ "java/lang/invoke/MethodHandle" ∧ y.cls ≠ "java/lang/invoke/VarHandle" := by rw [hσy]; exact ⟨(by decide : "EndSums" ≠ "java/lang/invoke/MethodHandle"), (by decide : "EndSums" ≠ "java/lang/invoke/VarHandle")⟩
  have hfnd := State.methodFound?_of_named hnamed hynot
  obtain ⟨kP, hkP, hkPn⟩ := className_of_methodNamed hnamed
  have hmtc := findClass_of_methodNamed hnamed
  have htt : t = mt := by
    rw [hσy] at hfnd hmtc
    have hq : toy = mt.cls := Option.some.inj (htoy.symm.trans (by rw [← hvm]; exact hmtc))
    simp only [State.methodFound?, hvm, htoy, htk, Option.bind_eq_bind, Option.bind_some, hlook] at hfnd
    exact Option.some.inj hfnd
  subst htt
  have hstat' : (Cond.static y).before args U = true := word_at hsW (Or.inl rfl) hstat
  have hstatic : metht.isStatic = true := Cond.static_spec hnamed hmt hstat'
  have hini' : (Cond.initialized y.cls).before args U = true := word_at hsW (Or.inl rfl) hini
  have hinitP : kP.init = .initialized := Cond.initialized_spec hmtc hkP hini'
  have htoyt : toy = t.cls := by rw [hσy] at hmtc; exact Option.some.inj (htoy.symm.trans (by rw [← hvm]; exact hmtc))
  have htk' : U.vm.classes[toy]? = some kP := by rw [htoyt]; exact hkP
  have hpoly : ∀ z, signaturePolymorphic kP z = false := fun z => by simp [signaturePolymorphic, hkPn, hynot.1, hynot.2]
  obtain ⟨bq, hmem⟩ := memberRef_ask' (e := e) (vm := vm₁) (d := cell.cls) (index := 17) hk hfile (Or.inl (by rw [hpool]; exact hok.2.2.2.2.1.1)) (by rw [hpool]; exact hok.2.2.2.2.1.2.2)
  have hcb := hd1 ck.code hbytes
  have hB : Back l (rmG (n' + 1) mc ms) p e (.java { g with stack := rest } :: below) ((T.setVm vm₁).calling { g with stack := rest } ⟨cell.cls, 1⟩ (.ref b :: As).toArray) (.ref b :: As).toArray y 3 8 (PreOf (rmG (n' + 1) mc ms) mc ms Pc) (PostOf Qc mc ms free) := by
    refine back_of (bytes := tb) (maxL := maxL) (ret := none) hM hp.1 (by rw [hrm]) (by rw [hrm]) (by rw [hrm]; exact Nat.le_refl _) (by rw [hrm]; show 8 + (maxL + 11) + 64 * n' ≤ 64 * (n' + 1); omega) (fun w hw a' U' hq => hws w hw a' U' ?_) hcw (fun a' U' hq => word_at ?_ (Or.inl rfl) hini)
    · exact State.WarmedH.trans (t := T.setVm vm₁) hW₁ hq
    · exact State.WarmedH.trans (t := T.setVm vm₁) hW₁ hq
  obtain ⟨L, hLs, hL⟩ := hload ⟨cell.cls, 1⟩ ck U (.java { g with stack := rest } :: below) hbytes hml Y₀.here
  have hg0 : (F0 ⟨cell.cls, 1⟩ pc1 L []).monitorRoom = 0 := rfl
  obtain ⟨v, ⟨U', l2, c2, s2⟩, Y₁, ⟨gq, mkq, tq, L2, e1, e2, hq, h1, hL2, h2, h3⟩, hst⟩ := hB ⟨cell.cls, 1⟩ methk ck ⟨U, [], 0, 0⟩ (F0 ⟨cell.cls, 1⟩ pc1 L []) (.invokestatic 17) t As.toArray Y₀ rfl hLs hcb.1 (by rw [hg0]; exact Nat.zero_le _) hnamed ⟨by show 0 + mc ≤ mc; omega, by show 0 + ms ≤ ms; omega, hp.2 U hUh hsW⟩
  dsimp only [Pt.U, Pt.locs, Pt.cells, Pt.slots] at Y₁ e1 e2 hq h1 h2 h3 hst
  subst h1; subst h2; subst h3
  obtain rfl : v = none := hret _ _ _ _ hq
  obtain ⟨fs, hleave, -, hended, hWe, hsame⟩ := Y₁.leave (v := none) (fun _ => rfl) hlk
  obtain ⟨T', X', hW', hsn, ht⟩ := X₁.outOf (g := { g with stack := rest }) hg hdg hended hWe hsame
  have hT'h : T'.heap = U'.heap := by
    have := congrArg State.heap ht
    exact this.symm
  have hT'v : T'.vm = U'.vm := by
    have := congrArg State.vm ht
    exact this.symm
  refine ⟨none, _, tq, T', l2, ?_, by simpa using X', hL2, hT'h.trans e1, hT'v.trans e2, hq, ?_⟩
  · exact hUh
  intro tg htg
  refine hstep tg fun acts => ?_
  rw [hin acts]
  refine Steps.trans (s₂ := T'.setTop { g with pc := g.pc + 5, stack := rest }) ?_ htg
  have ht' : U'.setFrames fs = T'.setTop { g with pc := g.pc + 5, stack := rest } := ht
  rw [← ht']
  refine Steps.weaken (mid := [.java { g with stack := rest }]) ?_
  rw [hml]
  refine hL _ ?_
  have hs : U.topJava?.isSome := Y₀.here.top
  jvm_step Y₀.here [hexec, hcb.1, invokestatic.wp_ready (e := e) (s := U) (m := t) (k := kP) (meth := metht) (args := As) (rest := [])
    (f := { method := ⟨cell.cls, 1⟩, pc := pc1, locals := L, stack := As.reverse, locked := none }) hs ⟨14, _, _, bq, toy, kP, by rw [hvm]; exact hmem, by rw [hvm]; exact hclsR, htk', by simp [hpoly]⟩ (by rw [hvm]; exact hready) hkP hmt (hpoly _) hstatic hinitP (hleny _ hsigt) (by simp)]
  intro acts'
  rw [doInvoke_state]
  refine hst.trans ?_
  show Steps p.tables e (.java { g with stack := rest } :: below) (U'.setTop { method := ⟨cell.cls, 1⟩, pc := pc1 + 3, locals := L, stack := [], locked := none }) _
  have hmeth' : U'.vm.method? ⟨cell.cls, 1⟩ = some methk := Y₁.method'
  jvm_step Y₁.here [Y₁.here.top, hexec, hcb.2, hmeth', hretk]
  intro acts''
  rw [hleave _ acts'' rfl rfl rfl]
  exact Steps.refl _
end ZLK
section ZLJ
variable {p : Program} {l : Launch} {e : Env} {R : Room} {s : State} {m : MethodId} {args : Array Value} {below : List Frame} {meth : Method} {c : Code} {H : Heap} {locs : List Loc} {cells slots : Nat} {T : State}
/-- a lambda that holds the receiver: its target is a method of EndSums, called on it -/
theorem zl_run5 {own : String} {index count maxL mc ms nl pc1 n' N rk rs : Nat} {x y : MethodName} {σ : Jvm.Lambda.Shape} {d : ClassId} {dk : Class} {cell : Cell} {b q0 : Addr} {fb : List UInt8} {tb : ByteArray} {ws : List Cond} {rm : Room} {Pc : Array Value → State → Prop} {Qc : Array Value → State → Outcome → State → Prop} {free : Addr → Prop} {As rest : List Value} {g : JFrame}
    (hexec : p.tables.exec = Jvm.exec) (hown : s.vm.findClass own = some m.cls) (hlink : (Cond.methodLink own index x).before args s = true)
    (hdecl : (Cond.declares x).before args s = true) (hface : (Cond.interfaceMethod x.cls x.cls x.name x.desc).before #[] s = true) (hx : x.cls ≠ "java/lang/invoke/MethodHandle" ∧ x.cls ≠ "java/lang/invoke/VarHandle")
    (hmade : Jvm.Lambda.isMade { classPath := fun _ => none } s.vm d σ cell.cls = true) (hcan : s.lambdaCallable σ cell.cls = true) (hσ : x = ⟨σ.iface, σ.name, σ.sam.toString⟩) (hσy : y = ⟨"EndSums", σ.implName, σ.implDesc.toString⟩)
    (hd : s.vm.classes[d]? = some dk) (hname : dk.name = "EndSums") (hok : lk5 σ fb nl) (hobj0 : (Cond.instantiable "java/lang/Object" 0).before args s = true)
    (hM : Met l y ws rm Pc Qc mc ms free) (hws : ∀ w ∈ ws, ∀ (a' : Array Value) (U : State), s.WarmedH U.vm → w.before a' U = true) (hcw : Cond.code y tb maxL none ∈ ws) (hinst : (Cond.instanceMethod y).before args s = true) (hsel : (Cond.selects "EndSums" y y).before args s = true) (hini : (Cond.initialized y.cls).before args s = true)
    (hrm : rm = rmG n' mc ms) (hR : R = rmG N rk rs) (hN : n' + 2 ≤ N) (hml8 : maxL ≤ 40) (hnl : nl ≤ 4) (hf : cells + mc ≤ R.cells ∧ slots + ms ≤ R.slots)
    (hp : PreV s H "EndSums" q0 Pc As) (hcell : H[b]? = some cell) (hobj : cell.vm = .none) (hslot : cell.slots[0]? = some (.ref q0)) (hret : ∀ a st v t, Qc a st (.returned v) t → v = none)
    (hd0 : ∀ cb : ByteArray, cb.data = fb.toArray → decode cb 0 = .ok (.aload_n 0, 1) ∧ decode cb 1 = .ok (.getfield 15, 3))
    (hload : ∀ (mk : MethodId) (ck : Code) (U : State) (bl : List Frame), ck.code.data = fb.toArray → ck.maxLocals = nl → At U mk ck bl → (entryFrame mk (.ref b :: As).toArray nl).locals.size = nl ∧ (entryFrame mk (.ref b :: As).toArray nl).locals[0]? = some (.val (.ref b)) ∧ ∀ (tg : State) (S0 : List Value), Steps p.tables e bl (U.setTop { method := mk, pc := pc1, locals := (entryFrame mk (.ref b :: As).toArray nl).locals, stack := As.reverse ++ S0, locked := none }) tg → Steps p.tables e bl (U.setTop { method := mk, pc := 4, locals := (entryFrame mk (.ref b :: As).toArray nl).locals, stack := S0, locked := none }) tg)
    (hd1 : ∀ cb : ByteArray, cb.data = fb.toArray → decode cb pc1 = .ok (.invokevirtual 22, 3) ∧ decode cb (pc1 + 3) = .ok (.return_, 1))
    (hg : g.method = m) (hsize : g.locals.size = c.maxLocals) (hlen : ∀ sig, parseMethodDescriptor x.desc = some sig → As.length = sig.parameters.length) (hleny : ∀ sig, parseMethodDescriptor y.desc = some sig → As.length = sig.parameters.length)
    (hstack : g.stack = As.reverse ++ .ref b :: rest) (hW : 2 * g.monitorRoom + (rest.map fun v => v.category).sum ≤ 8) (hdg : decode c.code g.pc = .ok (.invokeinterface index count, 5)) :
    va_Run5 p l e R s m args below meth c H locs cells slots mc ms g rest (Qc (Value.ref q0 :: As).toArray) free := by
  intro T hT X
  obtain ⟨hPb, ⟨cellB, hcB, hoB, hclB⟩, hPc⟩ := hp
  have hO : ∀ vm, s.WarmedH vm → ∀ o ok, vm.findClass "java/lang/Object" = some o → vm.classes[o]? = some ok → ok.instanceTypes.size = 0 := by
    intro vm hWv o ok h1 h2
    obtain ⟨cO, kO, q1, q2, -, -, -, qn⟩ := Cond.instantiable_spec hobj0
    rw [hWv.alike.findClass] at h1
    cases h1.symm.trans q1
    obtain ⟨ok', q3, q4⟩ := hWv.alike.2.2 _ _ q2
    cases h2.symm.trans q3
    rw [q4]
    exact qn
  obtain ⟨k0, tk0, file0, methk0, ck0, toy0, t0, g0', hk0, -, -, -, hmk0, -, -, -, -, hfl0, -⟩ := lk_facts5 hd hname hok hmade (hO s.vm (State.WarmedH.refl s))
  obtain ⟨vm₁, X₁, hstep⟩ := zl_into X hexec hown hlink hdecl hface hx hmade hcan hσ hk0 hmk0 hfl0 (by rw [hT]; exact hcell) hobj hg hlen hstack hdg
  have hW₁ : s.WarmedH vm₁ := X₁.warmed
  obtain ⟨dk1, hd1', hdn1⟩ := hW₁.alike.2.2 _ _ hd
  obtain ⟨k, tk, file, methk, ck, toy, t, g0, hk, hkn, hfile, hpool, hmk, hck, hbytes, hml, hlk, hfl, hretk, htoy, htk, hlook, hready, hclsR, hfR, hg0s, hg0i⟩ := lk_facts5 (vm := vm₁) hd1' (by rw [hdn1]; exact hname) hok (Jvm.Lambda.isMade_warmer hW₁ hmade) (hO vm₁ hW₁)
  obtain ⟨Y₀, hin⟩ := X₁.into (g := { g with stack := rest }) hg hsize hdg (.ref b :: As).toArray (R' := rmG (n' + 1) mc ms) hmk hck hlk (State.plainMethod.of_name (fun k' hk' => by cases hk.symm.trans hk'; rw [hkn]; decide))
    (by rw [hR]; show n' + 1 + 1 ≤ N; omega) (by rw [hR, hml]; show 2 * g.monitorRoom + (rest.map fun v => v.category).sum + (nl + 11) + 64 * (n' + 1) ≤ 64 * N; omega) hf.1 hf.2
  generalize hU : ((T.setVm vm₁).setTop { g with stack := rest }).pushFrame (.java (entryFrame ⟨cell.cls, 1⟩ (.ref b :: As).toArray ck.maxLocals)) = U at Y₀ hin
  have hvm : U.vm = vm₁ := by rw [← hU]; rfl
  have hUh : U.heap = H := by rw [← hU, ← hT]; rfl
  have hsW : s.WarmedH U.vm := by rw [hvm]; exact hW₁
  have hcy : (Cond.code y tb maxL none).before args U = true := hws _ hcw _ _ hsW
  have hinst' : (Cond.instanceMethod y).before args U = true := word_at hsW (Or.inl rfl) hinst
  have hsel' : (Cond.selects "EndSums" y y).before args U = true := word_at hsW (Or.inl rfl) hsel
  obtain ⟨mt, metht, hnamed, hmt, hstM, habM⟩ := Cond.instanceMethod_spec hinst'
  obtain ⟨metht', ct, hmt', -, -, -, -, -, -, hsigt⟩ := Cond.code_spec hnamed hcy
  cases hmt.symm.trans hmt'
  have hynot : y.cls ≠ "java/lang/invoke/MethodHandle" ∧ y.cls ≠ "java/lang/invoke/VarHandle" := by rw [hσy]; exact ⟨(by decide : "EndSums" ≠ "java/lang/invoke/MethodHandle"), (by decide : "EndSums" ≠ "java/lang/invoke/VarHandle")⟩
  have hfnd := State.methodFound?_of_named hnamed hynot
  obtain ⟨c2, r2, m2, q1, q2, q3, q4, kP, hkP, hkPi⟩ := Cond.selects_spec hsel'
  have hclB' : U.vm.findClass "EndSums" = some cellB.cls := by rw [hsW.alike.findClass]; exact hclB
  cases hclB'.symm.trans q1
  cases hfnd.symm.trans q2
  cases hnamed.symm.trans q3
  obtain ⟨kQ, hkQ, hkQn⟩ := className_of_methodNamed hnamed
  cases hkP.symm.trans hkQ
  have hmtc := findClass_of_methodNamed hnamed
  have htt : t = mt := by
    rw [hσy] at hfnd hmtc
    have hq : toy = mt.cls := Option.some.inj (htoy.symm.trans (by rw [← hvm]; exact hmtc))
    simp only [State.methodFound?, hvm, htoy, htk, Option.bind_eq_bind, Option.bind_some, hlook] at hfnd
    exact Option.some.inj hfnd
  subst htt
  have htoyt : toy = t.cls := by rw [hσy] at hmtc; exact Option.some.inj (htoy.symm.trans (by rw [← hvm]; exact hmtc))
  have hpoly : ∀ z, signaturePolymorphic kP z = false := fun z => by simp [signaturePolymorphic, hkQn, hynot.1, hynot.2]
  have hselP : selectMethod e.platform U.vm cellB.cls t = .method t := by rw [Launch.admits_selectMethod X.admits]; exact q4
  have hcb := hd1 ck.code hbytes
  have hca := hd0 ck.code hbytes
  have hB : Back l (rmG (n' + 1) mc ms) p e (.java { g with stack := rest } :: below) ((T.setVm vm₁).calling { g with stack := rest } ⟨cell.cls, 1⟩ (.ref b :: As).toArray) (.ref b :: As).toArray y 3 8 (PreOf (rmG (n' + 1) mc ms) mc ms Pc) (PostOf Qc mc ms free) := by
    refine back_of (bytes := tb) (maxL := maxL) (ret := none) hM hPb (by rw [hrm]) (by rw [hrm]) (by rw [hrm]; exact Nat.le_refl _) (by rw [hrm]; show 8 + (maxL + 11) + 64 * n' ≤ 64 * (n' + 1); omega) (fun w hw a' U' hq => hws w hw a' U' ?_) hcw (fun a' U' hq => word_at ?_ (Or.inl rfl) hini)
    · exact State.WarmedH.trans (t := T.setVm vm₁) hW₁ hq
    · exact State.WarmedH.trans (t := T.setVm vm₁) hW₁ hq
  obtain ⟨hLs, hL0, hL⟩ := hload ⟨cell.cls, 1⟩ ck U (.java { g with stack := rest } :: below) hbytes hml Y₀.here
  generalize hLL : (entryFrame ⟨cell.cls, 1⟩ (.ref b :: As).toArray nl).locals = L at hLs hL0 hL
  have hef : entryFrame ⟨cell.cls, 1⟩ (.ref b :: As).toArray nl = F0 ⟨cell.cls, 1⟩ 0 L [] := by rw [← hLL]; rfl
  have hg0 : (F0 ⟨cell.cls, 1⟩ pc1 L []).monitorRoom = 0 := rfl
  obtain ⟨v, ⟨U', l2, c2, s2⟩, Y₁, ⟨gq, mkq, tq, L2, e1, e2, hq, h1, hL2, h2, h3⟩, hst⟩ := hB ⟨cell.cls, 1⟩ methk ck ⟨U, [], 0, 0⟩ (F0 ⟨cell.cls, 1⟩ pc1 L []) (.invokevirtual 22) t (.ref q0 :: As).toArray Y₀ rfl (by show L.size = _; rw [hLs, hml]) hcb.1 (by rw [hg0]; exact Nat.zero_le _) hnamed ⟨by show 0 + mc ≤ mc; omega, by show 0 + ms ≤ ms; omega, hPc U hUh hsW⟩
  dsimp only [Pt.U, Pt.locs, Pt.cells, Pt.slots] at Y₁ e1 e2 hq h1 h2 h3 hst
  subst h1; subst h2; subst h3
  obtain rfl : v = none := hret _ _ _ _ hq
  obtain ⟨fs, hleave, -, hended, hWe, hsame⟩ := Y₁.leave (v := none) (fun _ => rfl) hlk
  obtain ⟨T', X', hW', hsn, ht⟩ := X₁.outOf (g := { g with stack := rest }) hg hdg hended hWe hsame
  have hT'h : T'.heap = U'.heap := (congrArg State.heap ht).symm
  have hT'v : T'.vm = U'.vm := (congrArg State.vm ht).symm
  refine ⟨none, _, tq, T', l2, ?_, by simpa using X', hL2, hT'h.trans e1, hT'v.trans e2, hq, ?_⟩
  · exact hUh
  intro tg htg
  refine hstep tg fun acts => ?_
  rw [hin acts]
  refine Steps.trans (s₂ := T'.setTop { g with pc := g.pc + 5, stack := rest }) ?_ htg
  have ht' : U'.setFrames fs = T'.setTop { g with pc := g.pc + 5, stack := rest } := ht
  rw [← ht']
  refine Steps.weaken (mid := [.java { g with stack := rest }]) ?_
  rw [hml, hef]
  have hs : U.topJava?.isSome := Y₀.here.top
  jvm_step Y₀.here [hexec, hca.1, hL0, Value.isRef]
  show Steps p.tables e (.java { g with stack := rest } :: below) (U.setTop { method := ⟨cell.cls, 1⟩, pc := 1, locals := L, stack := [.ref b], locked := none }) _
  jvm_step Y₀.here [hexec, hca.2, getfield.wp_ready (e := e) (s := U) (f := { method := ⟨cell.cls, 1⟩, pc := 1, locals := L, stack := [.ref b], locked := none }) (index := 15) (c := cell.cls) (a := b) (field := g0) (rest := []) (cell := cell) (v := .ref q0) hs (by rw [hvm]; exact hfR) hg0s rfl (by rw [hUh]; exact hcell) (by rw [hobj]; decide) (by rw [hg0i]; exact hslot)]
  refine hL _ [.ref q0] ?_
  jvm_step Y₀.here [hexec, hcb.1, invokevirtual.wp_ready (e := e) (s := U) (a := q0) (r := t) (m := t) (k := kP) (mk := kP) (rmeth := metht) (meth := metht) (args := As) (rest := []) (cell := cellB)
    (f := { method := ⟨cell.cls, 1⟩, pc := pc1, locals := L, stack := As.reverse ++ [.ref q0], locked := none }) hs ⟨k, file, 19, 21, toy, kP, by rw [hvm]; exact hk, hfile, by rw [hpool]; exact hok.2.2.2.2.1.1, by rw [hvm]; exact hclsR, by rw [htoyt]; exact hkP, hkPi⟩ (by rw [hvm]; exact hready) hkP hmt (hpoly _) hstM (hleny _ hsigt) rfl (by rw [hUh]; exact hcB) (fun z h => by rw [h] at hoB; cases hoB) hselP hmt habM hkP hkPi]
  intro acts'
  rw [doInvoke_state]
  refine hst.trans ?_
  show Steps p.tables e (.java { g with stack := rest } :: below) (U'.setTop { method := ⟨cell.cls, 1⟩, pc := pc1 + 3, locals := L, stack := [], locked := none }) _
  have hmeth' : U'.vm.method? ⟨cell.cls, 1⟩ = some methk := Y₁.method'
  jvm_step Y₁.here [Y₁.here.top, hexec, hcb.2, hmeth', hretk]
  intro acts''
  rw [hleave _ acts'' rfl rfl rfl]
  exact Steps.refl _
end ZLJ
