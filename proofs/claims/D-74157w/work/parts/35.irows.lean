set_option maxRecDepth 100000
/-! ROWS FOR THE COMPONENT's CONSTRUCTOR: arrays of references, lambdas made and stored -/
def lk_pc (j : Nat) : Nat := [12, 20, 28, 36, 45, 54, 63, 73, 90, 98, 106, 115, 124, 133, 143, 153].getD j 0
def lk_ix (j : Nat) : Nat := [121, 124, 125, 126, 127, 130, 131, 132, 133, 136, 137, 138, 141, 142, 143, 144].getD j 0
/-- the sixteen sites, linked -/
def ST (dA : Nat → ClassId) (G : Nat → Nat) (m : MethodId) (U : State) : Prop := ∀ j, j < 16 → ∃ (k : Class) (i0 p0 : Nat) (cf : ClassFile), U.vm.classes[m.cls]? = some k ∧ k.cf = some cf ∧ Lambda.shapeOf? cf (lk_ix j) = some (lk_sh j) ∧ (k.callSites.find? fun y => y.1 == m.idx && y.2.1 == lk_pc j) = some (i0, p0, if capt j = true then .makes (dA (30 + j)) else .constant (G (3 + j)))
theorem ST.warm {dA : Nat → ClassId} {G : Nat → Nat} {m : MethodId} {s U : State} (h : ST dA G m s) (hW : s.WarmedH U.vm) : ST dA G m U := by
  intro j hj
  obtain ⟨k, i0, p0, cf, h1, h2, h3, h4⟩ := h j hj
  obtain ⟨k', q1, q2⟩ := hW.alike.2.2 _ _ h1
  exact ⟨k', i0, p0, cf, q1, by rw [q2]; exact h2, h3, by rw [q2]; exact h4⟩
theorem lk_site {cf : ClassFile} {index : Nat} {σ : Lambda.Shape} (h : Lambda.shapeOf? cf index = some σ) : ∃ (b nt : Nat) (name desc : String) (site : MethodDescriptor), cf.constantPool[index]? = some (.invokeDynamic b nt) ∧ cf.constantPool.nameAndType? nt = some (name, desc) ∧ parseMethodDescriptor desc = some site ∧ σ.captured = site.parameters := by
  unfold Lambda.shapeOf? at h
  split at h
  · rename_i b nt hc
    obtain ⟨es, -, h⟩ := Option.bind_eq_some_iff.mp h
    obtain ⟨bm, -, h⟩ := Option.bind_eq_some_iff.mp h
    split at h
    · obtain ⟨u, -, h⟩ := Option.bind_eq_some_iff.mp h
      generalize bm.bootstrapArguments = arr at h
      have h9 : ∃ a0 a1 a2, arr = #[a0, a1, a2] := by
        by_cases hs : arr.size = 3
        · obtain ⟨ls⟩ := arr
          match ls, hs with
          | [x, y, z], _ => exact ⟨x, y, z, rfl⟩
        · delta Jvm.Lambda.shapeOf?.match_15 at h
          rw [dif_neg hs] at h
          have h : (none : Option Lambda.Shape) = some σ := h
          cases h
      obtain ⟨a0, a1, a2, rfl⟩ := h9
      conv at h => lhs; whnf
      split at h
      · split at h
        · split at h
          · obtain ⟨nd, hnd, h⟩ := Option.bind_eq_some_iff.mp h
            obtain ⟨name, desc⟩ := nd
            obtain ⟨site, hs, h⟩ := Option.bind_eq_some_iff.mp h
            split at h
            · obtain ⟨⟨i1, i2, i3, i4⟩, -, h⟩ := Option.bind_eq_some_iff.mp h
              obtain ⟨_, -, h⟩ := Option.bind_eq_some_iff.mp h
              obtain ⟨_, -, h⟩ := Option.bind_eq_some_iff.mp h
              obtain ⟨_, -, h⟩ := Option.bind_eq_some_iff.mp h
              obtain ⟨_, -, h⟩ := Option.bind_eq_some_iff.mp h
              obtain ⟨_, -, h⟩ := Option.bind_eq_some_iff.mp h
              have h := Option.some.inj h
              subst h
              exact ⟨b, nt, name, desc, site, hc, hnd, hs, rfl⟩
            · cases h
          · cases h
        · cases h
      · cases h
    · cases h
  · cases h
section ZIR
variable {p : Program} {l : Launch} {e : Env} {s : State} {m : MethodId} {args : Array Value} {below : List Frame} {meth : Method} {c : Code} {cc : ByteArray} {own C : String} {nL : Nat} {D : va_G} {dA : Nat → ClassId} {G : Nat → Nat} {A : Nat → Prop} {Q : State → Prop} {ws ws' : va_W} {u v pc : Nat} {lv : List (Nat × Value)} {st rest : List Value} {N rk rs index : Nat}
theorem zk_newq (hO : Ok p s m args meth c cc own nL D dA A) (hX : XK dA G A s) {t0 : Nat} {cA : ClassId} {n : Int32} {N' : Nat} (ht : (zg_tys dA)[t0]? = some (cA, .object C)) (hov : Cond.arrayOver (.object C) ∈ lw_tbl) (hcl : Cond.classLink own index C ∈ lw_all) (hn : ¬ n < 0) (hN : n.toNatClampNeg = N') (hb : N' ≤ 1000) (hc : u + 1 ≤ rk) (hs : v + N' ≤ rs) (hdg : decode cc pc = .ok (.anewarray index, 3))
    (kk : ∀ q : Nat, Go p l e (rmG N rk rs) s m args below meth c D A nL Q (ws ++ [(q, .inl (cA, N', rfA (fun _ => none)))]) (u + 1) (v + N') (pc + 3) lv (.ref q :: st)) : Go p l e (rmG N rk rs) s m args below meth c D A nL Q ws u v pc lv (.int n :: st) := by
  intro H locs ls hP hD hS hl
  refine va_newq hO.1 hO.2.1 hO.2.2.2.1 (hO.2.2.2.2.1 _ hcl) (hX.1.1 _ hov rfl) hO.2.2.2.2.2.1 hP hD hS hO.2.2.2.2.2.2.1 hn hN (by omega) hc hs hdg (fun q cA2 H1 hK1 hP1 hD1 hS1 => ?_)
  have e1 := va_nmO (hK1.2 8 _ rfl).2 rfl
  have e2 := va_nmO (hO.2.2.2.2.2.1.2 t0 _ ht).2 rfl
  have e3 : cA2 = cA := Option.some.inj (e1.symm.trans e2)
  subst e3
  exact kk q H1 locs ls hP1 hD1 hS1 hl
/-- an object of the class cB is stored -/
theorem zk_ast (hO : Ok p s m args meth c cc own nL D dA A) (q0 t0 : Nat) {E : String} {cA cB : ClassId} {a n v' : Nat} {f : Nat → Option Nat} (ha : ws[q0]? = some (a, .inl (cA, n, rfA f))) (ht : (zg_tys dA)[t0]? = some (cA, .object E)) (hr : ∀ (H : Heap) (locs : List Loc), va_P D zg_cl ws H → va_S A s.heap H locs → ∃ cellV : Cell, H[v']? = some cellV ∧ cellV.vm = .none ∧ cellV.cls = cB) (hkC : ∃ kC, s.vm.classes[cB]? = some kC) (hasg : ∀ comp, s.vm.findClass E = some comp → s.vm.assignable cB comp = true) {i : Int32} (hin : vp_in i n) (hw : ws.set q0 (a, .inl (cA, n, rfA (va_up f i.toNatClampNeg (some v')))) = ws') (hdg : decode cc pc = .ok (.aastore, 1))
    (kk : Go p l e (rmG N rk rs) s m args below meth c D A nL Q ws' u v (pc + 1) lv st) : Go p l e (rmG N rk rs) s m args below meth c D A nL Q ws u v pc lv (.ref v' :: .int i :: .ref a :: st) := by
  subst hw
  intro H locs ls hP hD hS hl
  have hlt : i.toNatClampNeg < n := Nat.not_le.mp fun q => hin (Or.inr q)
  have h0 : ¬ i < 0 := fun q => hin (Or.inl q)
  obtain ⟨cellV, g1, g3, g2⟩ := hr H locs hP hS
  obtain ⟨kA, comp, k1, k2, k3, -⟩ := (hO.2.2.2.2.2.1.2 t0 _ ht).2
  obtain ⟨kE, hkE, -⟩ := Vm.findClass_spec k3
  obtain ⟨kC, hkC⟩ := hkC
  refine W.aast hO.1 hO.2.1 (hP q0 _ ha) (fun q h => by cases h) (fun h => by cases h) k1 k2 rfl hkE ⟨h0, by show _ < (arrV _ _ _).slots.size; rw [arrV_size]; exact hlt⟩ g1 (fun q h => by rw [g3] at h; cases h) (by rw [g2]; exact hkC) (by rw [g2]; exact hasg _ k3) rfl rfl hdg fun H1 e z oq => ?_
  refine kk H1 _ ls (hP.set hD ha ?_ oq) (hD.set ha) (hS.put z oq (hD.2 q0 _ ha)) hl
  show H1[a]? = some (vp_cell _ _)
  rw [e]
  rw [vp_cell_q, vp_cell_q, arrV_store]
  congr 2
  funext q
  by_cases hq : q = i.toNatClampNeg
  · subst hq
    simp [updV, va_up, va_rf]
  · simp [updV, va_up, hq]
/-- the lambdas' classes are there, and are of their interface -/
theorem lk_cls (hX : XK dA G A s) {j : Nat} (hj : j < 16) : (∃ kC, s.vm.classes[dA (30 + j)]? = some kC) ∧ ∀ comp, s.vm.findClass (lk_sh j).iface = some comp → s.vm.assignable (dA (30 + j)) comp = true := by
  obtain ⟨-, d, dk, h1, h2, h3, h4⟩ := hX.2.1
  obtain ⟨h5, h6⟩ := h4 j hj
  obtain ⟨dk', k, ok, tk, file, cf, object, iface, t, lay, methods, target, found, hd', hk, -⟩ := Jvm.Lambda.isMade_spec h5
  obtain ⟨i, hi, ha, -⟩ := State.lambdaCallable_spec h6
  exact ⟨⟨k, hk⟩, fun comp hc => by cases hc.symm.trans hi; exact ha⟩
/-- a lambda that captures nothing -/
theorem zk_const (hO : Ok p s m args meth c cc own nL D dA A) (hST : ST dA G m s) (hN : 60 ≤ N) {j : Nat} (hj : j < 16) (hcp : capt j = false) (hpc : pc = lk_pc j) (hdg : decode cc pc = .ok (.invokedynamic (lk_ix j), 5)) (hrm : (st.map fun x => x.category).sum ≤ 8)
    (kk : Go p l e (rmG N rk rs) s m args below meth c D A nL Q ws u v (pc + 5) lv (.ref (G (3 + j)) :: st)) : Go p l e (rmG N rk rs) s m args below meth c D A nL Q ws u v pc lv st := by
  intro H locs ls hP hD hS hl T hT X
  obtain ⟨t, a1, b1⟩ := kk H locs ls hP hD hS hl T hT X
  obtain ⟨k, i0, p0, cf, h1, -, -, h4⟩ := hST j hj
  rw [hcp, if_neg (by decide)] at h4
  refine ⟨t, ?_, b1⟩
  exact X.lambdaConstant hO.1 (g := F0 m pc ls st) rfl (hl.1.trans hO.2.2.1.symm) (by rw [hO.2.1]; exact hdg) h1 (by rw [hpc]; exact h4) (by rw [X.admits.platform]; show 2 * 0 + (st.map fun x => x.category).sum + 3072 ≤ 64 * N; omega) a1
/-- a constant lambda is stored -/
theorem zk_astc (hO : Ok p s m args meth c cc own nL D dA A) (hX : XK dA G A s) (q0 t0 : Nat) {E : String} {cA : ClassId} {a n j : Nat} {f : Nat → Option Nat} (hj : j < 16) (hcp : capt j = false) (hE : (lk_sh j).iface = E) (ha : ws[q0]? = some (a, .inl (cA, n, rfA f))) (ht : (zg_tys dA)[t0]? = some (cA, .object E)) {i : Int32} (hin : vp_in i n) (hw : ws.set q0 (a, .inl (cA, n, rfA (va_up f i.toNatClampNeg (some (G (3 + j)))))) = ws') (hdg : decode cc pc = .ok (.aastore, 1))
    (kk : Go p l e (rmG N rk rs) s m args below meth c D A nL Q ws' u v (pc + 1) lv st) : Go p l e (rmG N rk rs) s m args below meth c D A nL Q ws u v pc lv (.ref (G (3 + j)) :: .int i :: .ref a :: st) := by
  obtain ⟨h1, h2⟩ := lk_cls hX hj
  refine zk_ast (cB := dA (30 + j)) hO q0 t0 ha ht (fun H locs hP hS => ?_) h1 (fun comp hc => h2 comp (by rw [hE]; exact hc)) hin hw hdg kk
  obtain ⟨⟨cell, g1, g3⟩, g2⟩ := hX.2.2.1 j hj hcp
  exact ⟨cell, by rw [hS.2.1 _ (Array.getElem?_eq_some_iff.mp g1).1 g2]; exact g1, g3⟩
/-- a made lambda is stored -/
theorem zk_astm (hO : Ok p s m args meth c cc own nL D dA A) (hX : XK dA G A s) (q0 t0 q1 : Nat) {E : String} {cA : ClassId} {a n j v' n1 : Nat} {f g : Nat → Option Nat} (hj : j < 16) (hE : (lk_sh j).iface = E) (ha : ws[q0]? = some (a, .inl (cA, n, rfA f))) (hv : ws[q1]? = some (v', .inl (dA (30 + j), n1, rfA g))) (ht : (zg_tys dA)[t0]? = some (cA, .object E)) {i : Int32} (hin : vp_in i n) (hw : ws.set q0 (a, .inl (cA, n, rfA (va_up f i.toNatClampNeg (some v')))) = ws') (hdg : decode cc pc = .ok (.aastore, 1))
    (kk : Go p l e (rmG N rk rs) s m args below meth c D A nL Q ws' u v (pc + 1) lv st) : Go p l e (rmG N rk rs) s m args below meth c D A nL Q ws u v pc lv (.ref v' :: .int i :: .ref a :: st) := by
  obtain ⟨h1, h2⟩ := lk_cls hX hj
  refine zk_ast (cB := dA (30 + j)) hO q0 t0 ha ht (fun H locs hP hS => ?_) h1 (fun comp hc => h2 comp (by rw [hE]; exact hc)) hin hw hdg kk
  exact ⟨_, hP q1 _ hv, rfl, rfl⟩
/-- a lambda that captures the receiver is made -/
theorem lk_inst (hX : XK dA G A s) (hobj0 : (Cond.instantiable "java/lang/Object" 0).before args s = true) {j : Nat} (hj : j < 16) (hcp : capt j = true) : ∃ kC : Class, s.vm.classes[dA (30 + j)]? = some kC ∧ kC.kind = .ordinary ∧ kC.instanceTypes = #[.object "EndSums"] := by
  obtain ⟨-, d, dk, h1, h2, h3, h4⟩ := hX.2.1
  obtain ⟨h5, h6⟩ := h4 j hj
  obtain ⟨dk', k, ok, tk, file, cf, object, iface, t, lay, methods, target, found, hd', hk, hfile, hcf, hobj, -, hok, hlay, hms, ht, htk, hg, -, hrec, -, -, -, -, hpool, hmeth, hfields, hty, -⟩ := Jvm.Lambda.isMade_spec h5
  cases h2.symm.trans hd'
  obtain ⟨cO, kO, q1, q2, -, -, -, qn⟩ := Cond.instantiable_spec hobj0
  cases hobj.symm.trans q1
  cases hok.symm.trans q2
  rw [h3] at hcf
  have h0 : ok.instanceTypes = #[] := Array.eq_empty_of_size_eq_zero qn
  rw [qn] at hlay
  have hl : ∀ i, i < 16 → capt i = true → ((((lk_sh i).file "EndSums").bind fun cf => layoutFields cf 0).map fun lay => lay.2.1) = some #[.object "EndSums"] := by decide +kernel
  have hl := hl j hj hcp
  rw [hcf] at hl
  have hl : (layoutFields cf 0).map (fun lay => lay.2.1) = some #[.object "EndSums"] := hl
  rw [hlay] at hl
  have hl : lay.2.1 = #[.object "EndSums"] := Option.some.inj hl
  exact ⟨k, hk, hrec.2.1, by rw [hty.1, h0, hl]; rfl⟩
theorem zk_make (hO : Ok p s m args meth c cc own nL D dA A) (hX : XK dA G A s) (hST : ST dA G m s) (hN : 60 ≤ N) {j g0 : Nat} (hj : j < 16) (hcp : capt j = true) (hpc : pc = lk_pc j) (hdg : decode cc pc = .ok (.invokedynamic (lk_ix j), 5)) (hrm : (st.map fun x => x.category).sum ≤ 8) (hc : u + 1 ≤ rk) (hs : v + 1 ≤ rs)
    (kk : ∀ q : Nat, Go p l e (rmG N rk rs) s m args below meth c D A nL Q (ws ++ [(q, .inl (dA (30 + j), 1, rfA (fun _ => some g0)))]) (u + 1) (v + 1) (pc + 5) lv (.ref q :: st)) : Go p l e (rmG N rk rs) s m args below meth c D A nL Q ws u v pc lv (.ref g0 :: st) := by
  intro H locs ls hP hD hS hl T hT X
  obtain ⟨k, i0, p0, cf, h1, h2, h3, h4⟩ := hST j hj
  rw [hcp, if_pos rfl] at h4
  obtain ⟨b, nt, name, desc, site, e1, e2, e3, e4⟩ := lk_site h3
  have hcap : ∀ i, i < 16 → capt i = true → (lk_sh i).captured = [.object "EndSums"] := by decide +kernel
  rw [hcap j hj hcp] at e4
  obtain ⟨kC, hkC, hkind, hinst⟩ := lk_inst hX (hO.2.2.2.2.1 _ q2197) hj hcp
  have hsl : ((kC.instanceTypes.toList.zip [Value.ref g0]).map fun (t, v) => narrow t v) = [.ref g0] := by rw [hinst]; rfl
  obtain ⟨X₁, step⟩ := X.lambdaMakes hO.1 (g := F0 m pc ls (.ref g0 :: st)) (vals := [.ref g0]) (rest := st) rfl (hl.1.trans hO.2.2.1.symm) (by rw [hO.2.1]; exact hdg) h1 (by rw [hpc]; exact h4) h2 e1 e2 (parseLong_of_parse e3) (by rw [← e4]; rfl) rfl hkC
    (by rw [X.admits.platform]; show 2 * 0 + (1 + (st.map fun x => x.category).sum) + 3072 ≤ 64 * N; omega) hc (by rw [hsl]; exact hs) (fun i v hv => by
      rw [hsl] at hv
      cases i with
      | zero => simp at hv; subst hv; simp [State.fitsSlot, State.slotType?, hkC, hkind, hinst, fits]
      | succ j => simp at hv)
  rw [hsl] at X₁ step
  subst hT
  generalize hT1 : T.pushCell { cls := dA (30 + j), slots := [Value.ref g0].toArray, vm := .none } = T1 at X₁ step
  have z1 : T1.heap.size = T.heap.size + 1 := by rw [← hT1]; simp
  have c1 : T1.heap[T.heap.size]? = some (arrV (dA (30 + j)) 1 (fun _ => .ref g0)) := by rw [← hT1]; exact State.heap_pushCell_size _ _
  have o1 : ∀ q : Nat, q < T.heap.size → T1.heap[q]? = T.heap[q]? := fun q hq => by rw [← hT1]; exact State.heap_pushCell_of_lt _ _ hq
  have hk : ∀ (k : Nat) (x : Nat × va_E), ws[k]? = some x → T1.heap[x.1]? = T.heap[x.1]? := fun k x hx => o1 x.1 ((hP k x hx).lt)
  obtain ⟨t, a1, b1⟩ := kk T.heap.size T1.heap locs ls ((hP.kept hk).app (fun k x hx => by
      have hz : k < 1 := (List.getElem?_eq_some_iff.mp hx).1
      rw [show k = 0 by omega] at hx
      cases hx
      exact c1)) (hD.push hP rfl (hO.2.2.2.2.2.2.1 _ hS.1)) ⟨Nat.le_trans hS.1 (by omega), fun x h1 h2 => (o1 x (Nat.lt_of_lt_of_le h1 hS.1)).trans (hS.2.1 x h1 h2), hS.2.2⟩ hl T1 rfl X₁
  exact ⟨t, step t a1, b1⟩
end ZIR
