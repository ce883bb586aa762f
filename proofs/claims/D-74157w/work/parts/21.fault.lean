set_option maxRecDepth 100000
def fltA : List Cond := Bundle.throwableAtoms ++ Bundle.chain0Atoms "java/lang/Exception" []
def fltB : List Cond := [.methodLink RX6 1 (Bundle.init0 "java/lang/Exception"), .selects RX6 Bundle.tFill0 Bundle.tFill0, .selects RX6 Bundle.tFill Bundle.tFill, .lays RX6 Bundle.tN "cause" "Ljava/lang/Throwable;", .lays RX6 Bundle.tN "stackTrace" Bundle.steD, .lays RX6 Bundle.tN "suppressedExceptions" Bundle.listD, .lays RX6 Bundle.tN "backtrace" "Ljava/lang/Object;", .fieldLink Bundle.tN 198 Bundle.tN "backtrace" "Ljava/lang/Object;", .lays Bundle.tN Bundle.tN "backtrace" "Ljava/lang/Object;", .laysFinal RX6 RX6 "at" "I", .instantiable RX6 7]
theorem fltA_g : ∀ w ∈ fltA.filter (fun w => vx_no w && goodWord w), w ∈ lw_all := lw_in _ [111, 778, 787, 790, 793, 795, 779, 780, 135, 136, 781, 786, 791, 1033, 768, 1034, 770, 1035, 772, 782, 784, 774, 1057, 1058, 1059, 779] (by decide +kernel) (by decide +kernel)
theorem fltA_d : ∀ w ∈ fltA.filter (fun w => vx_no w && !goodWord w), w = Cond.declares (Bundle.init0 Bundle.tN) := by decide +kernel
theorem fltB_g : ∀ w ∈ fltB, w ∈ lw_all := lw_in _ [1262, 1253, 789, 1254, 1255, 1256, 1258, 1031, 776, 1265, 1251] (by decide +kernel) (by decide +kernel)
theorem flt_all {dA : Nat → ClassId} {G : Nat → Nat} {A : Nat → Prop} {s : State} {args : Array Value} (hts : ∀ w ∈ lw_all, w.before args s = true) (hX : XK dA G A s) : ∀ w ∈ fltA, w.before args s = true := by
  obtain ⟨-, hU, hN, -⟩ := hX.2.2.2
  refine vx_own (fun w hw => ?_) (vx_isRefq hU.1) (vx_isRefq hN.1) hU.2.word hN.2.word
  obtain ⟨h1, h2⟩ := List.mem_filter.mp hw
  by_cases hg : goodWord w = true
  · exact hts _ (fltA_g w (List.mem_filter.mpr ⟨h1, by rw [h2, hg]; rfl⟩))
  · have hg' : goodWord w = false := by cases h : goodWord w <;> simp_all
    have e := fltA_d w (List.mem_filter.mpr ⟨h1, by rw [h2, hg']; rfl⟩)
    rw [e]
    exact hX.1.use q763 rfl rfl
section FLT
variable {p : Program} {l : Launch} {e : Env} {R : Room} {s : State} {m : MethodId} {args : Array Value} {below : List Frame} {meth : Method} {c : Code} {Q : State → Prop}
/-- in Fault's constructor: Exception() on a fresh Fault -/
theorem flt_super {dA : Nat → ClassId} {G : Nat → Nat} {A : Nat → Prop} {k0 n0 : Nat} (hexec : p.tables.exec = Jvm.exec) (hb : c.code = cX6_init) (hl : l.stackTraces = false) (hown : s.vm.findClass RX6 = some m.cls) (hts : ∀ w ∈ lw_all, w.before args s = true) (hX : XK dA G A s) {ls : Array Slot} (hsz : ls.size = c.maxLocals)
    {a : Nat} {cX : ClassId} {kX : Class} (hfX : s.vm.findClass RX6 = some cX) (hkX : s.vm.classes[cX]? = some kX) (hcell : s.heap[a]? = some (freshCell cX kX)) (hRf : 3 < R.frames) (hRl : 200 ≤ R.locals)
    (kk : ∀ (ce : Cell) (L : List Loc), (∀ y ∈ L, y.base = a) → ce.cls = cX → ce.vm = .none → ce.slots.size = (freshCell cX kX).slots.size → W p l e R s m args below meth c (s.heap.setIfInBounds a ce) L k0 n0 Q (F0 m 4 ls [])) :
    W p l e R s m args below meth c s.heap [] k0 n0 Q (F0 m 1 ls [.ref a]) := by
  intro T hT X
  have htr : e.platform.stackTraces = false := (show e.platform.stackTraces = l.stackTraces by rw [X.admits.platform]).trans hl
  have howns : e.platform.frameOwnsMonitors = true := by rw [X.admits.platform]
  have hfin : e.platform.finalization = false := by rw [X.admits.platform]
  have hpl : e.platform.magicAccessors = ({} : Platform).magicAccessors := by rw [X.admits.platform]
  have hall := flt_all hts hX
  have a' : ∀ x, x ∈ fltB → x.holds args s none s [] = true := fun x hx => hts _ (fltB_g x hx)
  obtain ⟨-, hU9, hN9, -⟩ := hX.2.2.2
  obtain ⟨T0, Z, L, LZ, Y⟩ := ThrowableC.of_atoms (args := args) howns hfin hpl (fun x hx => hall x (List.mem_append_left _ hx))
  obtain ⟨P1, Ps, hlen, L1, hL, hP1m, hlink1, hlink⟩ := Bundle.chain0 (args := args) hpl Y.init0 [] "java/lang/Exception" (by decide) (fun _ h => by cases h) (fun x hx => hall x (List.mem_append_right _ hx))
  obtain ⟨c1, kX', hc1, hk, hord, -, -, hn6⟩ := Cond.instantiable_spec (a' (.instantiable RX6 7) (by simp [fltB]))
  cases Option.some.inj (hc1.symm.trans hfX)
  cases Option.some.inj (hkX.symm.trans hk)
  have hsel0 : selectMethod e.platform s.vm cX T0.fill0 = .method T0.fill0 := by
    obtain ⟨c2, r2, m2, q1, q2, q3, q4, -⟩ := Cond.selects_spec (a' (.selects RX6 Bundle.tFill0 Bundle.tFill0) (by simp [fltB]))
    cases Option.some.inj (q1.symm.trans hfX)
    cases Option.some.inj (q2.symm.trans (State.methodFound?_of_named Y.fill0 (by decide)))
    cases Option.some.inj (q3.symm.trans Y.fill0)
    rw [Launch.admits_selectMethod X.admits]; exact q4
  have hselF : selectMethod e.platform s.vm cX T0.fill = .method T0.fill := by
    obtain ⟨c2, r2, m2, q1, q2, q3, q4, -⟩ := Cond.selects_spec (a' (.selects RX6 Bundle.tFill Bundle.tFill) (by simp [fltB]))
    cases Option.some.inj (q1.symm.trans hfX)
    cases Option.some.inj (q2.symm.trans (State.methodFound?_of_named Y.fill (by decide)))
    cases Option.some.inj (q3.symm.trans Y.fill)
    rw [Launch.admits_selectMethod X.admits]; exact q4
  obtain ⟨cellS0, hcS0, hiss⟩ := Y.statics
  obtain ⟨u0, hu0⟩ := Cond.staticRefV Y.unassigned L.unassignedStatic L.statics hcS0 hiss (vx_isRefq (args := args) hU9.1)
  obtain ⟨sen, hsen⟩ := Cond.staticRefV Y.sentinel L.sentinelStatic L.statics hcS0 hiss (vx_isRefq (args := args) hN9.1)
  obtain ⟨ci198, i198, fB, hk198, hg198, ha198, hsB, -, hnB, htB, hffB⟩ := Cond.ownField (t := .object "java/lang/Object") Y.found L.cls (by decide +kernel) (a' (.fieldLink Bundle.tN 198 Bundle.tN "backtrace" "Ljava/lang/Object;") (by simp [fltB])) (a' (.lays Bundle.tN Bundle.tN "backtrace" "Ljava/lang/Object;") (by simp [fltB])) e.platform hpl
  have hcellS : T.heap[T0.aS]? = some cellS0 := by rw [hT]; exact hcS0
  have hknownS : cellS0.vm ≠ .unknown := by
    intro hu
    rw [hu] at hiss
    cases hiss
  have hneS : T0.aS ≠ a := by
    intro h
    rw [h] at hcS0
    cases hcS0.symm.trans hcell
    cases hiss
  obtain ⟨tyC, dC, hdC, hdnC⟩ := Cond.laysAt hfX hk Y.cause (a' (.lays RX6 Bundle.tN "cause" "Ljava/lang/Throwable;") (by simp [fltB]))
  obtain ⟨tyS, dS, hdS, hdnS⟩ := Cond.laysAt hfX hk Y.stack (a' (.lays RX6 Bundle.tN "stackTrace" Bundle.steD) (by simp [fltB]))
  obtain ⟨tyP, dP, hdP, hdnP⟩ := Cond.laysAt hfX hk Y.supp (a' (.lays RX6 Bundle.tN "suppressedExceptions" Bundle.listD) (by simp [fltB]))
  obtain ⟨tyB, dB, hdB, hdnB⟩ := Cond.laysAt hfX hk hffB (a' (.lays RX6 Bundle.tN "backtrace" "Ljava/lang/Object;") (by simp [fltB]))
  have bC := Cond.laysApart hdB hdC hdnB hdnC (by rw [hnB, Y.causeName]; decide)
  have bS := Cond.laysApart hdB hdS hdnB hdnS (by rw [hnB, Y.stackName]; decide)
  have bP := Cond.laysApart hdB hdP hdnB hdnP (by rw [hnB, Y.suppName]; decide)
  have hskip : SkipFacts T0 e.platform s (fun u => u) u0 ((preparedCellV T0.toThrowableT (freshCell cX kX) a u0 sen).withEntry T.cur) :=
    ⟨{ ci198 := ci198, i198 := i198, fBack := fB }, ⟨hk198, hg198, ha198, hsB⟩, by
      have := fresh_default (c := cX) tyB
      rw [htB] at this
      simpa [preparedCellV, Cell.setSlot, Cell.withEntry, Array.getElem?_setIfInBounds, bC, bS, bP, bC.symm, bS.symm, bP.symm, defaultValue] using this, fun _ _ => rfl⟩
  have hd6 : decode c.code 1 = .ok (.invokespecial 1, 3) := by rw [hb]; exact dX6_init_1
  obtain ⟨tm, methC, cdC, kC, vm₁, hnC, -, -, -, -, -, -, -, hW₁, st1⟩ := Steps.initCold (tb := p.tables) (e := e) (below := below) (s := s) (U := T) X.here hexec X.warmed hpl hown (t := Bundle.init0 "java/lang/Exception") rfl rfl (by decide)
    (a' (.methodLink RX6 1 (Bundle.init0 "java/lang/Exception")) (by simp [fltB])) (hall (.instanceMethod (Bundle.init0 "java/lang/Exception")) (by simp [fltA, Bundle.chain0Atoms, Bundle.passAtoms])) (bytes := Bundle.five) (maxL := 1) (hall (.code (Bundle.init0 "java/lang/Exception") Bundle.five 1 none) (by simp [fltA, Bundle.chain0Atoms, Bundle.passAtoms]))
    (f := F0 m 1 ls [.ref a]) rfl (a := a) (rest := []) rfl hd6
  cases Option.some.inj (hnC.symm.trans hP1m)
  have X₁ := X.noted hW₁
  have hPs : Ps = [] := List.eq_nil_of_length_eq_zero hlen
  obtain ⟨vm₂, X₂, st2⟩ := X₁.ctorPlainOffV hexec (g := F0 m 1 ls []) rfl hsz T0 L Z LZ (P1 :: Ps)
    (fun P hP => by rcases List.mem_cons.mp hP with rfl | hP; exact L1; exact hL P hP) ⟨hlink1, hlink⟩ (u0 := u0) (sen := sen) (self := a) (cell := freshCell cX kX) (cellS := cellS0)
    (by show T.heap[a]? = _; rw [hT]; exact hcell) (fun _ => by simp) (by simp) rfl rfl hsel0 hselF hcellS hneS hknownS hu0 hsen
    (Takes.of_laid hk hord tyC (by rw [Y.causeType]; rfl)) (Takes.of_laid hk hord tyS (by rw [Y.stackType]; exact fits_refV_array _ u0)) (Takes.of_laid hk hord tyP (by rw [Y.suppType]; exact fits_refV_object _ sen)) Y.objLocals hskip htr [] hd6
    (by rw [hPs]; show 1 + 2 < R.frames; exact hRf) (by rw [hPs]; show 2 * 0 + 0 + (13 * 1 + 41) ≤ R.locals; omega)
  obtain ⟨t, a1, b1⟩ := kk ((preparedCellV T0.toThrowableT (freshCell cX kX) a u0 sen).setSlot T0.fStack.slot u0.v) _ (fun y hy => by
      simp only [List.nil_append, List.mem_cons, List.not_mem_nil, or_false] at hy
      rcases hy with rfl | rfl | rfl | rfl <;> rfl) rfl rfl (by simp [preparedCellV, Cell.setSlot]) _ (by rw [← hT]; rfl) X₂
  exact ⟨t, st1 _ (fun acts => by rw [doInvoke_state]; exact st2 _ a1), b1⟩
end FLT
