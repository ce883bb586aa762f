set_option maxRecDepth 100000
/-! LAMBDAS: what the made classes are; a call through the interface on an object of such a class -/
def lkD (σ : Jvm.Lambda.Shape) : ClassFile := (σ.file "EndSums").getD { minorVersion := 0, majorVersion := 0, constantPool := #[], accessFlags := 0, thisClass := 0, superClass := 0, interfaces := #[], fields := #[], methods := #[], attributes := #[] }
def lkF (σ : Jvm.Lambda.Shape) : Method := ((layoutMethods (lkD σ)).bind (·[1]?)).getD default
def lkL (σ : Jvm.Lambda.Shape) : Array Field × Array FieldType × Array FieldType := (layoutFields (lkD σ) 0).getD (#[], #[], #[])
abbrev lk6 (σ : Jvm.Lambda.Shape) (bytes : List UInt8) (nl : Nat) : Prop := (σ.file "EndSums").isSome = true ∧ ((layoutMethods (lkD σ)).bind (·[1]?)).isSome = true ∧ ((lkF σ).code.map fun c => (c.code.data, c.maxLocals)) = some (bytes.toArray, nl) ∧ ((lkF σ).accessFlags, (lkF σ).sig.returnType) = (0x0001, (none : Option FieldType)) ∧
  ((lkD σ).constantPool[17]? = some (.methodref 14 16) ∧ (lkD σ).constantPool.className? 14 = some "EndSums" ∧ (lkD σ).constantPool.nameAndType? 16 = some (σ.implName, σ.implDesc.toString)) ∧
  ((lkD σ).constantPool[14]? = some (.class_ 13) ∧ (lkD σ).constantPool.string? 13 = some "EndSums" ∧ 14 ≠ (lkD σ).thisClass) ∧ σ.implClass = "EndSums"
abbrev lk5 (σ : Jvm.Lambda.Shape) (bytes : List UInt8) (nl : Nat) : Prop := (σ.file "EndSums").isSome = true ∧ ((layoutMethods (lkD σ)).bind (·[1]?)).isSome = true ∧ ((lkF σ).code.map fun c => (c.code.data, c.maxLocals)) = some (bytes.toArray, nl) ∧ ((lkF σ).accessFlags, (lkF σ).sig.returnType) = (0x0001, (none : Option FieldType)) ∧
  ((lkD σ).constantPool[22]? = some (.methodref 19 21) ∧ (lkD σ).constantPool.className? 19 = some "EndSums" ∧ (lkD σ).constantPool.nameAndType? 21 = some (σ.implName, σ.implDesc.toString)) ∧
  ((lkD σ).constantPool[19]? = some (.class_ 18) ∧ (lkD σ).constantPool.string? 18 = some "EndSums" ∧ 19 ≠ (lkD σ).thisClass) ∧
  ((lkD σ).constantPool[15]? = some (.fieldref 2 14) ∧ (lkD σ).constantPool.nameAndType? 14 = some ("arg$1", "LEndSums;") ∧ (lkL σ).1.findIdx? (·.name == "arg$1") = some 0 ∧ ((lkL σ).1[0]?).map (fun f => (f.isStatic, f.slot)) = some (false, 0)) ∧ (layoutFields (lkD σ) 0).isSome = true ∧ σ.implClass = "EndSums"
theorem lk6_mk (j : Nat) (h : j = 0 ∨ j = 1 ∨ j = 2 ∨ j = 3 ∨ j = 6) : lk6 (lk_sh j) [0x2b, 0x1c, 0xb8, 0x00, 0x11, 0xb1] 3 := by
  rcases h with rfl | rfl | rfl | rfl | rfl <;> decide +kernel
theorem lk6_jn (j : Nat) (h : j = 8 ∨ j = 9 ∨ j = 10) : lk6 (lk_sh j) [0x2b, 0x2c, 0x2d, 0xb8, 0x00, 0x11, 0xb1] 4 := by
  rcases h with rfl | rfl | rfl <;> decide +kernel
theorem lk5_mk (j : Nat) (h : j = 4 ∨ j = 5 ∨ j = 7) : lk5 (lk_sh j) [0x2a, 0xb4, 0x00, 0x0f, 0x2b, 0x1c, 0xb6, 0x00, 0x16, 0xb1] 3 := by
  rcases h with rfl | rfl | rfl <;> decide +kernel
theorem lk5_jn (j : Nat) (h : j = 11 ∨ j = 12 ∨ j = 13 ∨ j = 14 ∨ j = 15) : lk5 (lk_sh j) [0x2a, 0xb4, 0x00, 0x0f, 0x2b, 0x2c, 0x2d, 0xb6, 0x00, 0x16, 0xb1] 4 := by
  rcases h with rfl | rfl | rfl | rfl | rfl <;> decide +kernel
def fb6m : ByteArray := ⟨#[0x2b, 0x1c, 0xb8, 0x00, 0x11, 0xb1]⟩
def fb6j : ByteArray := ⟨#[0x2b, 0x2c, 0x2d, 0xb8, 0x00, 0x11, 0xb1]⟩
def fb5m : ByteArray := ⟨#[0x2a, 0xb4, 0x00, 0x0f, 0x2b, 0x1c, 0xb6, 0x00, 0x16, 0xb1]⟩
def fb5j : ByteArray := ⟨#[0x2a, 0xb4, 0x00, 0x0f, 0x2b, 0x2c, 0x2d, 0xb6, 0x00, 0x16, 0xb1]⟩
theorem lk_facts6 {e : Setting} {vm : Vm} {d cl : ClassId} {dk : Class} {σ : Jvm.Lambda.Shape} {bytes : List UInt8} {nl : Nat} (hd : vm.classes[d]? = some dk) (hname : dk.name = "EndSums") (hok : lk6 σ bytes nl) (h : Jvm.Lambda.isMade e vm d σ cl = true) :
    ∃ (k tk : Class) (file : ClassFile) (methk : Method) (ck : Code) (toy : ClassId) (t : MethodId),
      vm.classes[cl]? = some k ∧ k.name = "EndSums$$Lambda" ∧ k.cf = some file ∧ file.constantPool = (lkD σ).constantPool ∧
      vm.method? ⟨cl, 1⟩ = some methk ∧ methk.code = some ck ∧ ck.code.data = bytes.toArray ∧ ck.maxLocals = nl ∧ methk.locks = false ∧ methk.accessFlags = 0x0001 ∧ methk.sig.returnType = none ∧
      vm.findClass "EndSums" = some toy ∧ vm.classes[toy]? = some tk ∧ ((Jvm.methodIn toy σ.implName σ.implDesc.toString tk.isInterface none).ask e vm).1 = .ok t ∧
      vm.methodReady cl 17 t ∧ vm.classReady cl 14 toy := by
  obtain ⟨f0, f1, f2, f3, f4, f5, f6⟩ := hok
  obtain ⟨dk', k, ok, tk, file, cf, object, iface, toy, lay, methods, target, found, hd', hk, hfile, hcf, -, -, -, -, hms, ht, htk, hg, -, hrec, -, -, -, -, hpool, hmeth, -, -, hres, -⟩ := Jvm.Lambda.isMade_spec h
  cases hd.symm.trans hd'
  have hDf : lkD σ = cf := by unfold lkD; rw [hname] at hcf; rw [hcf]; rfl
  have hFf : methods[1]? = some (lkF σ) := by
    unfold lkF
    rw [hDf, hms] at f1 ⊢
    obtain ⟨x, hx⟩ := Option.isSome_iff_exists.mp f1
    rw [hx]
    exact hx
  obtain ⟨b, hb, hsame⟩ := hmeth 1 _ hFf
  simp only [Jvm.Lambda.sameMethod, Bool.and_eq_true, decide_eq_true_eq] at hsame
  obtain ⟨⟨hn, -, hsig, hfl⟩, hcode⟩ := hsame
  simp only [Prod.mk.injEq] at f3
  rw [f6] at ht
  cases hfc : (lkF σ).code with
  | none => rw [hfc] at f2; cases f2
  | some x =>
    cases hbc : b.code with
    | none => simp [hfc, hbc] at hcode
    | some y =>
      simp only [hfc, hbc, Bool.and_eq_true, decide_eq_true_eq] at hcode
      simp only [hfc, Option.map_some, Option.some.injEq, Prod.mk.injEq] at f2
      rw [hDf] at f4 f5 ⊢
      refine ⟨k, tk, file, b, y, toy, target, hk, by rw [hrec.1, hname]; rfl, hfile, hpool.2.1, by simp [Vm.method?, hk, hb], hbc, ?_, by rw [← hcode.1.1.1.1.2.1]; exact f2.2, ?_, by rw [← hfl]; exact f3.1, by rw [← hsig]; exact f3.2, ht, htk, hg,
        ⟨k, hk, hres 17 _ (Jvm.Lambda.resolvedOf_method f4.1 f4.2.1 ht htk f4.2.2 hg)⟩, ⟨k, hk, hres 14 _ (Jvm.Lambda.resolvedOf_class f5.1 f5.2.2 f5.2.1 ht)⟩⟩
      · rw [← hcode.1.1.1.1.2.2]
        exact f2.1
      · simp [Method.locks, Method.isSynchronized, ← hfl, f3.1, hasFlag, Acc.synchronized]
theorem lk_facts5 {e : Setting} {vm : Vm} {d cl : ClassId} {dk : Class} {σ : Jvm.Lambda.Shape} {bytes : List UInt8} {nl : Nat} (hd : vm.classes[d]? = some dk) (hname : dk.name = "EndSums") (hok : lk5 σ bytes nl) (h : Jvm.Lambda.isMade e vm d σ cl = true)
    (hO : ∀ o ok, vm.findClass "java/lang/Object" = some o → vm.classes[o]? = some ok → ok.instanceTypes.size = 0) :
    ∃ (k tk : Class) (file : ClassFile) (methk : Method) (ck : Code) (toy : ClassId) (t : MethodId) (g0 : Field),
      vm.classes[cl]? = some k ∧ k.name = "EndSums$$Lambda" ∧ k.cf = some file ∧ file.constantPool = (lkD σ).constantPool ∧
      vm.method? ⟨cl, 1⟩ = some methk ∧ methk.code = some ck ∧ ck.code.data = bytes.toArray ∧ ck.maxLocals = nl ∧ methk.locks = false ∧ methk.accessFlags = 0x0001 ∧ methk.sig.returnType = none ∧
      vm.findClass "EndSums" = some toy ∧ vm.classes[toy]? = some tk ∧ ((Jvm.methodIn toy σ.implName σ.implDesc.toString tk.isInterface none).ask e vm).1 = .ok t ∧
      vm.methodReady cl 22 t ∧ vm.classReady cl 19 toy ∧ vm.fieldReady cl 15 cl g0 ∧ g0.isStatic = false ∧ g0.slot = 0 := by
  obtain ⟨f0, f1, f2, f3, f4, f5, f7, f8, f6⟩ := hok
  obtain ⟨dk', k, ok, tk, file, cf, object, iface, toy, lay, methods, target, found, hd', hk, hfile, hcf, hobj, -, hok, hlay, hms, ht, htk, hg, -, hrec, -, -, -, -, hpool, hmeth, hfields, hty, hres, -⟩ := Jvm.Lambda.isMade_spec h
  cases hd.symm.trans hd'
  have hDf : lkD σ = cf := by unfold lkD; rw [hname] at hcf; rw [hcf]; rfl
  have hFf : methods[1]? = some (lkF σ) := by
    unfold lkF
    rw [hDf, hms] at f1 ⊢
    obtain ⟨x, hx⟩ := Option.isSome_iff_exists.mp f1
    rw [hx]
    exact hx
  have hL : lkL σ = lay := by unfold lkL; rw [hO object ok hobj hok] at hlay; rw [hDf, hlay]; rfl
  rw [hL] at f7
  obtain ⟨b, hb, hsame⟩ := hmeth 1 _ hFf
  simp only [Jvm.Lambda.sameMethod, Bool.and_eq_true, decide_eq_true_eq] at hsame
  obtain ⟨⟨hn, -, hsig, hfl⟩, hcode⟩ := hsame
  simp only [Prod.mk.injEq] at f3
  obtain ⟨g0, hg0, hp0⟩ := Option.map_eq_some_iff.mp f7.2.2.2
  simp only [Prod.mk.injEq] at hp0
  rw [f6] at ht
  cases hfc : (lkF σ).code with
  | none => rw [hfc] at f2; cases f2
  | some x =>
    cases hbc : b.code with
    | none => simp [hfc, hbc] at hcode
    | some y =>
      simp only [hfc, hbc, Bool.and_eq_true, decide_eq_true_eq] at hcode
      simp only [hfc, Option.map_some, Option.some.injEq, Prod.mk.injEq] at f2
      rw [hDf] at f4 f5 f7 ⊢
      refine ⟨k, tk, file, b, y, toy, target, g0, hk, by rw [hrec.1, hname]; rfl, hfile, hpool.2.1, by simp [Vm.method?, hk, hb], hbc, ?_, by rw [← hcode.1.1.1.1.2.1]; exact f2.2, ?_, by rw [← hfl]; exact f3.1, by rw [← hsig]; exact f3.2, ht, htk, hg,
        ⟨k, hk, hres 22 _ (Jvm.Lambda.resolvedOf_method f4.1 f4.2.1 ht htk f4.2.2 hg)⟩, ⟨k, hk, hres 19 _ (Jvm.Lambda.resolvedOf_class f5.1 f5.2.2 f5.2.1 ht)⟩,
        ⟨k, 0, k, hk, hres 15 _ (Jvm.Lambda.resolvedOf_field f7.1 f7.2.1 f7.2.2.1), hk, hfields 0 _ hg0⟩, hp0.1, hp0.2⟩
      · rw [← hcode.1.1.1.1.2.2]
        exact f2.1
      · simp [Method.locks, Method.isSynchronized, ← hfl, f3.1, hasFlag, Acc.synchronized]
