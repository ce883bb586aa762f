set_option maxRecDepth 100000
/-! FAULT: its constructor, and the rows that make and throw one -/
theorem in_TXF : ∀ w ∈ u_ws RX6 TXF 1, w ∈ lw_all := lw_in _ [1265] (by decide +kernel) (by decide +kernel)
theorem tyXF : ∀ k, k < 1 → parseFieldDescriptor (TXF k).2.2.1 = some ((fun _ => FieldType.int) k) := by decide +kernel
theorem pXF_7 : FdF RX6 7 16 0 .int := ⟨RX6, TXF, 1, "EndSums$Fault", fun _ => .int, rfl, in_TXF, by decide, q1263, Or.inl rfl, tyXF, fun a ha b hb hab => absurd (show a = b by omega) hab, rfl, rfl, tyXF 0 (by decide)⟩
/-- a fresh object of the class E at q -/
def Fr (E : String) (q : Nat) (U : State) : Prop := ∃ (cX : ClassId) (kX : Class), U.vm.findClass E = some cX ∧ U.vm.classes[cX]? = some kX ∧ U.heap[q]? = some (freshCell cX kX)
section FLI
variable {l : Launch} {D : va_G} {dA : Nat → ClassId} {G : Nat → Nat}
abbrev yX6_ini : MethodName := ⟨"EndSums$Fault", "<init>", "(I)V"⟩
theorem m_flt (hl : l.stackTraces = false) {q : Nat} {x : Int32} : ∀ sz : Nat, Met l yX6_ini (ws_ yX6_ini cX6_init 2 none) (rmG 4 0 0) (va_Pc [.ref q, .int x] (fun U => U.heap.size = sz ∧ va_P D zg_cl [(q, .inr (16, [.int 0]))] U.heap ∧ va_K D zg_cl (zg_tys dA) U ∧ va_D (fun _ => True) [(q, .inr (16, [.int 0]))] ∧ XK dA G (va_A [(q, .inr (16, [.int 0]))] sz) U ∧ Fr RX6 q U)) (QgV D dA (fun _ : Unit => [(q, .inr (16, [.int x]))]) (va_A [(q, .inr (16, [.int 0]))] sz)) 0 0 (va_A [(q, .inr (16, [.int 0]))] sz) := by
  intro sz
  refine Met.ofW (cc := cX6_init) (maxL := 2) (ret := none) (by decide) rfl ?_
  intro p e s m args below meth c s₁ B hml hv
  obtain ⟨rfl, hsz, hP, hK, hD, hX, cX, kX, hfX, hkX, hcell⟩ := hv
  subst hsz
  have hts := atoms_spec (ws := ws_ yX6_ini cX6_init 2 none) B.pre
  have hts : ∀ w ∈ lw_all, w.before _ s = true := fun w h => hts w (List.mem_cons_of_mem _ h)
  have hls := lv_entry [.ref q, .int x] (n := 2) (Nat.le_of_ble_eq_true rfl)
  rw [lg_entry_eq]
  have hD1 := hD.self (sz := s.heap.size)
  have hA : ∀ q9 : Nat, s.heap.size ≤ q9 → va_A [(q, .inr (16, [.int 0]))] s.heap.size q9 := fun q9 h => Or.inr h
  have hAq : va_A [(q, .inr (16, [.int 0]))] s.heap.size q := hD1.2 0 _ rfl
  generalize va_A [(q, .inr (16, [.int 0]))] s.heap.size = A at hX hD1 hA hAq ⊢
  have hown : s.vm.findClass RX6 = some m.cls := findClass_of_methodNamed B.named
  have hO : Ok p s m _ meth c cX6_init RX6 2 D dA A := ⟨B.exec, B.bytes, hml, hown, hts, hK, hA, B.notSynchronized⟩
  refine lv_aload_n (i := 0) hO.1 hO.2.1 dX6_init_0 rfl (lv_at hls 0 rfl) ?_
  refine flt_super hO.1 hO.2.1 hl hown hts hX (hls.1.trans hml.symm) hfX hkX hcell (Nat.le_of_ble_eq_true rfl) (Nat.le_of_ble_eq_true rfl) ?_
  intro ce L hL h1 h2 h3
  have hKn := hK.1 16 _ rfl
  obtain ⟨cell0, e0, -, -, e3⟩ := u_born (fun _ => .int) hts in_TXF hKn (show s.vm.classes[D.1 16]? = some kX by rw [Option.some.inj (hKn.2.1.symm.trans hfX)]; exact hkX) (show s.heap[q]? = some (blank (D.1 16) kX) by rw [Option.some.inj (hKn.2.1.symm.trans hfX)]; exact hcell) tyXF
  cases Option.some.inj (e0.symm.trans hcell)
  have hlt : D.2 16 0 < ce.slots.size := by
    rw [h3]
    exact (Array.getElem?_eq_some_iff.mp (e3 0 (by decide))).1
  have hq : q < s.heap.size := (Array.getElem?_eq_some_iff.mp hcell).1
  have hP1 : va_P D zg_cl [(q, .inr (16, [ce.slots[D.2 16 0]]))] (s.heap.setIfInBounds q ce) := fun k x9 hx => by
    have hz : k < 1 := (List.getElem?_eq_some_iff.mp hx).1
    rw [show k = 0 by omega] at hx
    cases hx
    refine ⟨_, rfl, ce, by simp [hq], h1.trans (Option.some.inj (hfX.symm.trans hKn.2.1)), h2, fun k hk => ?_⟩
    rw [show k = 0 from Nat.lt_one_iff.mp hk]
    exact Array.getElem?_eq_getElem hlt
  have hD2 : va_D A [(q, .inr (16, [ce.slots[D.2 16 0]]))] := ⟨fun i j p9 q9 hi hj _ => by
    have := (List.getElem?_eq_some_iff.mp hi).1
    have := (List.getElem?_eq_some_iff.mp hj).1
    simp only [List.length_cons, List.length_nil] at *
    omega, fun k q9 hk => by
    have hz : k < 1 := (List.getElem?_eq_some_iff.mp hk).1
    rw [show k = 0 by omega] at hk
    cases hk
    exact hAq⟩
  have hS : va_S A s.heap (s.heap.setIfInBounds q ce) L := by
    refine ⟨by simp, fun q9 _ h => ?_, fun y hy => by rw [hL y hy]; exact hAq⟩
    have hne : q ≠ q9 := fun h9 => h (h9 ▸ hAq)
    rw [Array.getElem?_setIfInBounds, if_neg hne]
  have hr : meth.sig.returnType = none := B.returns
  have hin : meth.name = "<init>" := (name_of_methodNamed B.named B.method).1
  have key : Go p l e (rmG 4 0 0) s m #[.ref q, .int x] below meth c D A 2 (MQ below (QgV D dA (fun _ : Unit => [(q, .inr (16, [.int x]))]) A) #[.ref q, .int x] s 0 0 A) [(q, .inr (16, [ce.slots[D.2 16 0]]))] 0 0 4 [(0, .ref q), (1, .int x)] [] := by
    refine zg_aload_n hO 0 dX6_init_4 rfl rfl ?_
    refine zg_iload_n hO 1 dX6_init_5 rfl rfl ?_
    refine zg_putF hO hin pXF_7 0 rfl rfl rfl (Nat.le_of_ble_eq_true rfl) rfl dX6_init_6 ?_
    exact zx_vret (f := fun _ : Unit => [(q, .inr (16, [.int x]))]) hO hr () rfl ⟨Nat.le_refl _, Nat.le_refl _⟩ dX6_init_9
  exact key _ _ _ hP1 hD2 hS hls
end FLI
