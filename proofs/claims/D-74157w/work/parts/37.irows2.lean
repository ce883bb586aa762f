set_option maxRecDepth 100000
/-! MORE ROWS FOR THE CONSTRUCTOR: an array of rows; arrays alike; its contract's form -/
theorem MO.warm {s U : State} (h : (Cond.arrayOver (.array .int)).before #[] s = true) (hW : s.WarmedH U.vm) : (Cond.arrayOver (.array .int)).before #[] U = true := by
  have e := Cond.arrayOver_setVmC (args := #[]) (s := s) (vm' := U.vm) hW.alike (.array .int)
  rw [h] at e
  exact e
def SX (dA : Nat → ClassId) (G : Nat → Nat) (m : MethodId) (U : State) : Prop := ST dA G m U ∧ (Cond.arrayOver (.array .int)).before #[] U = true
theorem SX.warm {dA : Nat → ClassId} {G : Nat → Nat} {m : MethodId} {s U : State} (h : SX dA G m s) (hW : s.WarmedH U.vm) : SX dA G m U := ⟨h.1.warm hW, MO.warm h.2 hW⟩
theorem arrV_ext {cA : ClassId} {n : Nat} {f g : Nat → Value} (h : ∀ j, j < n → f j = g j) : arrV cA n f = arrV cA n g := by
  unfold arrV
  congr 2
  funext j
  exact h j.val j.isLt
theorem oc_plain (c : ClassId) (N h0 : Nat) : ∀ i, (Jvm.Free.Multi.outerC c N h0 i).monitor = {} ∧ (Jvm.Free.Multi.outerC c N h0 i).hash = none := by
  intro i
  induction i with
  | zero => exact ⟨rfl, rfl⟩
  | succ i ih => exact ⟨by simp [Jvm.Free.Multi.outerC, Cell.setSlot, ih.1], by simp [Jvm.Free.Multi.outerC, Cell.setSlot, ih.2]⟩
section ZIS
variable {p : Program} {l : Launch} {e : Env} {s : State} {m : MethodId} {args : Array Value} {below : List Frame} {meth : Method} {c : Code} {cc : ByteArray} {own C : String} {nL : Nat} {D : va_G} {dA : Nat → ClassId} {G : Nat → Nat} {A : Nat → Prop} {Q : State → Prop} {ws ws' : va_W} {u v pc : Nat} {lv : List (Nat × Value)} {st rest : List Value} {N rk rs index : Nat}
theorem zk_fun (q0 : Nat) {a n : Nat} {cA : ClassId} {f : Nat → Option Nat} (g : Nat → Option Nat) (ha : ws[q0]? = some (a, .inl (cA, n, rfA f))) (hfg : ∀ j, j < n → f j = g j) (hw : ws.set q0 (a, .inl (cA, n, rfA g)) = ws') (kk : Go p l e (rmG N rk rs) s m args below meth c D A nL Q ws' u v pc lv st) : Go p l e (rmG N rk rs) s m args below meth c D A nL Q ws u v pc lv st := by
  subst hw
  intro H locs ls hP hD hS hl
  refine kk H locs ls (hP.set hD ha ?_ (fun _ _ => rfl)) (hD.set ha) hS hl
  have h0 : H[a]? = some (vp_cell cA (n, rfA f)) := hP q0 _ ha
  show H[a]? = some (vp_cell cA (n, rfA g))
  rw [h0]
  rw [vp_cell_q, vp_cell_q]
  exact congrArg some (arrV_ext (f := fun j => va_rf (f j)) (g := fun j => va_rf (g j)) (fun j hj => by show va_rf (f j) = va_rf (g j); rw [hfg j hj]))
theorem zj_newB (hO : Ok p s m args meth c cc own nL D dA A) {n : Int32} {N' : Nat} (hn : ¬ n < 0) (hN : n.toNatClampNeg = N') (hb : N' ≤ 1000) (hc : u + 1 ≤ rk) (hs : v + N' ≤ rs) (hdg : decode cc pc = .ok (.newarray .byte, 2))
    (kk : ∀ q : Nat, Go p l e (rmG N rk rs) s m args below meth c D A nL Q (ws ++ [(q, .inl (dA 2, N', .inl (fun _ => 0)))]) (u + 1) (v + N') (pc + 2) lv (.ref q :: st)) : Go p l e (rmG N rk rs) s m args below meth c D A nL Q ws u v pc lv (.int n :: st) := by
  intro H locs ls hP hD hS hl
  refine va_newa (atype := .byte) (ty := .byte) (a0 := (N', .inl (fun _ => 0))) hO.1 hO.2.1 (hO.2.2.2.2.1 _ q358) rfl hO.2.2.2.2.2.1 hP hD hS hO.2.2.2.2.2.2.1 (fun cA => rfl) hn hN (by show N' * 1 ≤ 536870912; omega) hc hs hdg (fun q cA H1 hK1 hP1 hD1 hS1 => ?_)
  have e1 : s.vm.findClass ("[" ++ FieldType.byte.toString) = some cA := (hK1.2 8 _ rfl).2
  have e2 : s.vm.findClass ("[" ++ FieldType.byte.toString) = some (dA 2) := (hK1.2 2 _ rfl).2
  have e3 : cA = dA 2 := Option.some.inj (e1.symm.trans e2)
  subst e3
  exact kk q H1 locs ls hP1 hD1 hS1 hl
/-- an array of 24 rows of 4 ints -/
def mrows (dA : Nat → ClassId) (q : Nat) : va_W := (List.range 24).map fun j => (q + 1 + j, .inl (dA 0, 4, .inl (fun _ => 0)))
theorem zk_multi (hO : Ok p s m args meth c cc own nL D dA A) (hMO : (Cond.arrayOver (.array .int)).before #[] s = true) (hcl : Cond.classLink own index "[[I" ∈ lw_all) (hc : u + 25 ≤ rk) (hs : v + 120 ≤ rs) (hdg : decode cc pc = .ok (.multianewarray index 2, 4))
    (kk : ∀ q : Nat, Go p l e (rmG N rk rs) s m args below meth c D A nL Q (ws ++ (q, .inl (dA 6, 24, rfA (fun j => some (q + 1 + j)))) :: mrows dA q) (u + 25) (v + 120) (pc + 4) lv (.ref q :: st)) : Go p l e (rmG N rk rs) s m args below meth c D A nL Q ws u v pc lv (.int (nI 4) :: .int (nI 24) :: st) := by
  intro H locs ls hP hD hS hl T hT X
  subst hT
  have n24 : (nI 24).toNatClampNeg = 24 := by decide
  have n4 : (nI 4).toNatClampNeg = 4 := by decide
  obtain ⟨vm₁, cA, comp, hW, hfA, hfC, -, -, X₁, step⟩ := X.multianewarray2F hO.1 (ty := .int) hO.2.2.2.1 (show (Cond.classLink own index ("[" ++ (FieldType.array .int).toString)).before args s = true from by
      rw [show "[" ++ (FieldType.array .int).toString = "[[I" by decide +kernel]; exact hO.2.2.2.2.1 _ hcl) hMO (hO.2.2.2.2.1 _ q230) (g := F0 m pc ls (.int (nI 4) :: .int (nI 24) :: st)) rfl (by rw [hO.2.1]; exact hdg) (n := nI 24) (k := nI 4) (rest := st) rfl (by decide) (by decide) (by decide) (by decide) (by decide) rfl rfl (by rw [n24]; exact hc) (by rw [n24, n4]; exact hs)
  rw [n24, n4] at X₁ step
  have e1 : s.vm.findClass ("[" ++ (FieldType.array .int).toString) = some (dA 6) := (hO.2.2.2.2.2.1.2 6 _ rfl).2
  have e2 : s.vm.findClass ("[" ++ FieldType.int.toString) = some (dA 0) := (hO.2.2.2.2.2.1.2 0 _ rfl).2
  have hcA : cA = dA 6 := Option.some.inj (hfA.symm.trans e1)
  have hcc : comp = dA 0 := Option.some.inj (hfC.symm.trans (show s.vm.findClass (FieldType.array .int).toString = some (dA 0) from e2))
  subst hcA
  subst hcc
  have f1 := Jvm.Free.Multi.fill_facts (T.setVm vm₁) (dA 6) (dA 0) 24 4 (.int 0) 24
  have f2 := Jvm.Free.Multi.fill_inner (T.setVm vm₁) (dA 6) (dA 0) 24 4 (.int 0) 24
  have f3 : ∀ {a : Addr}, a < T.heap.size → (Jvm.Free.Multi.fill (T.setVm vm₁) (dA 6) (dA 0) 24 4 (.int 0) 24).heap[a]? = T.heap[a]? := fun {a} ha => Jvm.Free.Multi.fill_old (T.setVm vm₁) (dA 6) (dA 0) 24 4 (.int 0) ha 24
  have hd0 : defaultValue .int = .int 0 := rfl
  rw [hd0] at X₁ step
  generalize Jvm.Free.Multi.fill (T.setVm vm₁) (dA 6) (dA 0) 24 4 (.int 0) 24 = T1 at X₁ step f1 f2 f3
  have z1 : T1.heap.size = T.heap.size + 1 + 24 := f1.1
  have c1 : T1.heap[T.heap.size]? = some (arrV (dA 6) 24 (fun j => .ref (T.heap.size + 1 + j))) := by
    refine f1.2.1.trans (congrArg some ?_)
    obtain ⟨o1, o2, o3⟩ := Jvm.Free.Multi.outerC_facts (dA 6) 24 T.heap.size 24
    obtain ⟨o4, o5⟩ := oc_plain (dA 6) 24 T.heap.size 24
    have o6 := Jvm.Free.Multi.outerC_slot (dA 6) 24 T.heap.size 24
    show Jvm.Free.Multi.outerC (dA 6) 24 T.heap.size 24 = _
    generalize Jvm.Free.Multi.outerC (dA 6) 24 T.heap.size 24 = C1 at o1 o2 o3 o4 o5 o6
    have o7 : C1.slots = (arrV (dA 6) 24 (fun j => .ref (T.heap.size + 1 + j))).slots := by
      apply Array.ext_getElem?
      intro i
      by_cases hi : i < 24
      · rw [o6 i hi, arrV_read _ _ hi, if_pos hi]
      · rw [Array.getElem?_eq_none (by omega), Array.getElem?_eq_none (by rw [arrV_size]; omega)]
    cases C1
    simp only at o1 o2 o4 o5 o7
    subst o1
    subst o2
    subst o4
    subst o5
    rw [o7]
    rfl
  have c2 : ∀ j, j < 24 → T1.heap[T.heap.size + 1 + j]? = some (arrV (dA 0) 4 (fun _ => .int 0)) := fun j hj => (f2 j hj).trans (congrArg some (arrV_new _ _ _))
  have hk : ∀ (k : Nat) (x : Nat × va_E), ws[k]? = some x → T1.heap[x.1]? = T.heap[x.1]? := fun k x hx => f3 ((hP k x hx).lt)
  have hrow : ∀ (k : Nat) (x : Nat × va_E), (mrows dA T.heap.size)[k]? = some x → k < 24 ∧ x = (T.heap.size + 1 + k, .inl (dA 0, 4, .inl (fun _ => 0))) := by
    intro k x hx
    have hkl : k < 24 := by
      have := (List.getElem?_eq_some_iff.mp hx).1
      simpa [mrows] using this
    refine ⟨hkl, ?_⟩
    unfold mrows at hx
    rw [List.getElem?_map, List.getElem?_range hkl] at hx
    exact (Option.some.inj hx).symm
  have hnew : ∀ (k : Nat) (x : Nat × va_E), ((T.heap.size, .inl (dA 6, 24, rfA (fun j => some (T.heap.size + 1 + j)))) :: mrows dA T.heap.size : va_W)[k]? = some x → x.1 = T.heap.size + k ∧ va_at D zg_cl x T1.heap := by
    intro k x hx
    cases k with
    | zero =>
      cases hx
      exact ⟨rfl, c1⟩
    | succ k =>
      obtain ⟨h1, h2⟩ := hrow k x hx
      subst h2
      exact ⟨by show T.heap.size + 1 + k = _; omega, c2 k h1⟩
  obtain ⟨t, a1, b1⟩ := kk T.heap.size T1.heap locs ls ((hP.kept hk).app (fun k x hx => (hnew k x hx).2)) (hD.app ⟨fun i j p q hi hj h => by
      have h1 := (hnew i p hi).1
      have h2 := (hnew j q hj).1
      omega, fun k q hq => hO.2.2.2.2.2.2.1 _ (by rw [(hnew k q hq).1]; have := hS.1; omega)⟩ (fun i j p q hi hj h => by
      have h1 := (hP i p hi).lt
      have h2 := (hnew j q hj).1
      omega)) ⟨Nat.le_trans hS.1 (by omega), fun x h1 h2 => (f3 (Nat.lt_of_lt_of_le h1 hS.1)).trans (hS.2.1 x h1 h2), hS.2.2⟩ hl T1 rfl X₁
  exact ⟨t, step t a1, b1⟩
end ZIS
