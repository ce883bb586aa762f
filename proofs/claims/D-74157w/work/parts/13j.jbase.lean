set_option maxRecDepth 100000
/-! ROWS FOR THE JDK's CLASSES: arrays of Objects, new objects, references returned, calls that return references -/
abbrev rfA (f : Nat → Option Nat) : (Nat → Int32) ⊕ (Nat → Int64) ⊕ (Nat → UInt32) ⊕ (Nat → UInt64) ⊕ (Nat → Option Nat) := .inr (.inr (.inr (.inr f)))
abbrev QgF {S : Type} (D : va_G) (dA : Nat → ClassId) (f : S → va_W) (a : S → Nat) : (Nat → Prop) → Array Value → State → Outcome → State → Prop := fun A => va_Qr (S := S) (fun _ => True) (fun u x t => x = a u ∧ Bw D dA (f u) A t) A
/-- an element of an array of Objects: an object of the world, of a class that is castable -/
def elO (ws : va_W) (f : Nat → Option Nat) : Prop := ∀ (j x : Nat), f j = some x → ∃ (k ci : Nat) (vs : List Value) (r : vw_C), ws[k]? = some (x, .inr (ci, vs)) ∧ zg_cl[ci]? = some r ∧ Cond.castable r.1 "java/lang/Object" ∈ lw_tbl
section ZJB
variable {p : Program} {l : Launch} {e : Env} {R : Room} {s : State} {m : MethodId} {args : Array Value} {below : List Frame} {meth : Method} {c : Code} {cc : ByteArray} {own : String} {nL N : Nat} {D : va_G} {dA : Nat → ClassId} {G : Nat → Nat} {A : Nat → Prop} {Q : State → Prop} {ws ws' : va_W} {u v pc rk rs : Nat} {lv : List (Nat × Value)} {st rest : List Value}
theorem zj_len (hO : Ok p s m args meth c cc own nL D dA A) (q0 t0 : Nat) {a : Nat} {cA : ClassId} {x : vp_A} (ha : ws[q0]? = some (a, .inl (cA, x))) {ty : FieldType} (ht : (zg_tys dA)[t0]? = some (cA, ty)) {w : Int32} (hv : Int32.ofNat x.1 = w) (hdg : decode cc pc = .ok (.arraylength, 1)) (kk : Go p l e R s m args below meth c D A nL Q ws u v (pc + 1) lv (.int w :: st)) : Go p l e R s m args below meth c D A nL Q ws u v pc lv (.ref a :: st) :=
  fun H locs ls hP hD hS hl => va_alen hO.1 hO.2.1 hO.2.2.2.2.2.1 hP q0 t0 ha ht hv hdg (kk H locs ls hP hD hS hl)
theorem zj_ldQ (hO : Ok p s m args meth c cc own nL D dA A) {a n : Nat} {f : Nat → Option Nat} {i : Int32} (hin : ¬ (i < 0 ∨ n ≤ i.toNatClampNeg)) (q0 : Nat) (ha : ws[q0]? = some (a, .inl (dA 7, n, rfA f))) (hdg : decode cc pc = .ok (.aaload, 1)) (kk : Go p l e R s m args below meth c D A nL Q ws u v (pc + 1) lv (va_rf (f i.toNatClampNeg) :: st)) : Go p l e R s m args below meth c D A nL Q ws u v pc lv (.int i :: .ref a :: st) :=
  fun H locs ls hP hD hS hl => va_aldq hO.1 hO.2.1 hO.2.2.2.2.2.1 hP q0 7 ha rfl hin hdg (kk H locs ls hP hD hS hl)
theorem zj_stQ (hO : Ok p s m args meth c cc own nL D dA A) (hX : XK dA G A s) (q0 qk ci : Nat) {r : vw_C} {a n x : Nat} {vs : List Value} {f : Nat → Option Nat} {i : Int32} (ha : ws[q0]? = some (a, .inl (dA 7, n, rfA f))) (hca : Cond.castable r.1 "java/lang/Object" ∈ lw_tbl) (hv : ws[qk]? = some (x, .inr (ci, vs))) (hc : zg_cl[ci]? = some r) (hin : ¬ (i < 0 ∨ n ≤ i.toNatClampNeg)) (hw : ws.set q0 (a, .inl (dA 7, n, rfA (va_up f i.toNatClampNeg (some x)))) = ws') (hdg : decode cc pc = .ok (.aastore, 1)) (kk : Go p l e R s m args below meth c D A nL Q ws' u v (pc + 1) lv st) : Go p l e R s m args below meth c D A nL Q ws u v pc lv (.ref x :: .int i :: .ref a :: st) := by
  subst hw
  exact fun H locs ls hP hD hS hl => va_astqO hO.1 hO.2.1 hO.2.2.2.2.2.1 hP hD hS q0 7 qk ci ha rfl (hX.1.1 _ hca rfl) hv hc hin hdg (fun H1 locs1 hP1 hD1 hS1 => kk H1 locs1 ls hP1 hD1 hS1 hl)
theorem zj_stN (hO : Ok p s m args meth c cc own nL D dA A) (q0 : Nat) {a n : Nat} {f : Nat → Option Nat} {i : Int32} (ha : ws[q0]? = some (a, .inl (dA 7, n, rfA f))) (hin : ¬ (i < 0 ∨ n ≤ i.toNatClampNeg)) (hw : ws.set q0 (a, .inl (dA 7, n, rfA (va_up f i.toNatClampNeg none))) = ws') (hdg : decode cc pc = .ok (.aastore, 1)) (kk : Go p l e R s m args below meth c D A nL Q ws' u v (pc + 1) lv st) : Go p l e R s m args below meth c D A nL Q ws u v pc lv (.null :: .int i :: .ref a :: st) := by
  subst hw
  exact fun H locs ls hP hD hS hl => va_astqN hO.1 hO.2.1 hO.2.2.2.2.2.1 hP hD hS q0 7 ha rfl hin hdg (fun H1 locs1 hP1 hD1 hS1 => kk H1 locs1 ls hP1 hD1 hS1 hl)
theorem zj_newQ (hO : Ok p s m args meth c cc own nL D dA A) (hX : XK dA G A s) {index : Nat} {n : Int32} {N' : Nat} (hcl : Cond.classLink own index "java/lang/Object" ∈ lw_all) (hn : ¬ n < 0) (hN : n.toNatClampNeg = N') (hbytes : N' * 4 ≤ 536870912) (hc : u + 1 ≤ rk) (hs : v + N' ≤ rs) (hdg : decode cc pc = .ok (.anewarray index, 3))
    (kk : ∀ q : Nat, Go p l e (rmG N rk rs) s m args below meth c D A nL Q (ws ++ [(q, .inl (dA 7, N', rfA (fun _ => none)))]) (u + 1) (v + N') (pc + 3) lv (.ref q :: st)) : Go p l e (rmG N rk rs) s m args below meth c D A nL Q ws u v pc lv (.int n :: st) := by
  intro H locs ls hP hD hS hl
  refine va_newq hO.1 hO.2.1 hO.2.2.2.1 (hO.2.2.2.2.1 _ hcl) (hX.1.1 _ q255 rfl) hO.2.2.2.2.2.1 hP hD hS hO.2.2.2.2.2.2.1 hn hN hbytes hc hs hdg (fun q cA H1 hK1 hP1 hD1 hS1 => ?_)
  have e1 := va_nmO (hK1.2 8 _ rfl).2 rfl
  have e2 := va_nmO (hK1.2 7 _ rfl).2 rfl
  have e3 : cA = dA 7 := Option.some.inj (e1.symm.trans e2)
  subst e3
  exact kk q H1 locs ls hP1 hD1 hS1 hl
theorem zj_new (hO : Ok p s m args meth c cc own nL D dA A) {C : String} {T : u_T} {M ci index : Nat} (hin : ∀ w ∈ u_ws C T M, w ∈ lw_all) (ty : Nat → FieldType) (hty : ∀ k, k < M → parseFieldDescriptor (T k).2.2.1 = some (ty k)) (hcl : Cond.classLink own index C ∈ lw_all) (hinst : Cond.instantiable C M ∈ lw_all) (hini : Cond.initialized C ∈ lw_all) (hci : zg_cl[ci]? = some (C, T, M)) {fs : List Value} (hfs : ∀ j, j < M → defaultValue (ty j) = vp_V fs j) (hc : u + 1 ≤ rk) (hs : v + M ≤ rs) (hdg : decode cc pc = .ok (.new index, 3))
    (kk : ∀ q : Nat, Go p l e (rmG N rk rs) s m args below meth c D A nL Q (ws ++ [(q, .inr (ci, fs))]) (u + 1) (v + M) (pc + 3) lv (.ref q :: st)) : Go p l e (rmG N rk rs) s m args below meth c D A nL Q ws u v pc lv st := by
  intro H locs ls hP hD hS hl
  exact va_new hO.1 hO.2.1 hO.2.2.2.2.1 hin ty hty hO.2.2.2.1 (hO.2.2.2.2.1 _ hcl) (hO.2.2.2.2.1 _ hinst) (hO.2.2.2.2.1 _ hini) hO.2.2.2.2.2.1 hP hD hS hO.2.2.2.2.2.2.1 hci hfs hc hs hdg (fun q H1 hP1 hD1 hS1 => kk q H1 locs ls hP1 hD1 hS1 hl)
theorem zj_acmp_ne (hO : Ok p s m args meth c cc own nL D dA A) {x : Nat} {off : Int} (hdg : decode cc pc = .ok (.if_acmp .ne off, 3)) (hz : (0 : Int) ≤ (pc : Int) + off) (k : Go p l e R s m args below meth c D A nL Q ws u v (pc + 3) lv st) : Go p l e R s m args below meth c D A nL Q ws u v pc lv (.ref x :: .ref x :: st) :=
  fun H locs ls hP hD hS hl => lv_acmp_ne (rx := some x) (ry := some x) (tgt := ((pc : Int) + off).toNat) hO.1 hO.2.1 hdg (Int.toNat_of_nonneg hz).symm (fun h => absurd rfl h) (fun _ => k H locs ls hP hD hS hl)
theorem zj_getC (hO : Ok p s m args meth c cc own nL D dA A) (hX : XK dA G A s) {index mi a n : Nat} {f : Nat → Option Nat} (hM : va_Mi "[Ljava/lang/Object;" mi s) (hlk : Cond.methodLink own index ⟨"java/lang/Object", "getClass", "()Ljava/lang/Class;"⟩ ∈ lw_all) (q0 : Nat) (ha : ws[q0]? = some (a, .inl (dA 7, n, rfA f))) (hN : 1 ≤ N) (hrm : (st.map fun x => x.category).sum ≤ 8) (hdg : decode cc pc = .ok (.invokevirtual index, 3))
    (k : Go p l e (rmG N rk rs) s m args below meth c D A nL Q ws u v (pc + 3) lv (.ref mi :: st)) : Go p l e (rmG N rk rs) s m args below meth c D A nL Q ws u v pc lv (.ref a :: st) := by
  intro H locs ls hP hD hS hl
  have hts := hO.2.2.2.2.1
  exact va_getC hO.1 hO.2.1 (hO.2.2.1.trans hl.1.symm) hO.2.2.2.1 (hts _ hlk) (hX.1.use q2181 rfl rfl) (hts _ q2180) (hts _ q262) (hts _ q284) hM ⟨_, hP q0 _ ha, rfl, va_nmO (hO.2.2.2.2.2.1.2 7 _ rfl).2 rfl⟩ hN (by show _ + 14 ≤ 64 * N; omega) hdg (k H locs ls hP hD hS hl)
theorem zj_ldcM (hO : Ok p s m args meth c cc own nL D dA A) {index mi : Nat} {C : String} (hM : va_Mi C mi s) (hlk : Cond.classLink own index C ∈ lw_all) (hdg : decode cc pc = .ok (.ldc index, 2)) (k : Go p l e R s m args below meth c D A nL Q ws u v (pc + 2) lv (.ref mi :: st)) : Go p l e R s m args below meth c D A nL Q ws u v pc lv st :=
  fun H locs ls hP hD hS hl => va_ldcM hO.1 hO.2.1 hO.2.2.2.1 (hO.2.2.2.2.1 _ hlk) hM hdg (k H locs ls hP hD hS hl)
theorem zj_nn {z : Int32} (hz : ¬ z < 0) : z.toInt = (z.toNatClampNeg : Int) := by
  have hz0 : (0 : Int) ≤ z.toInt := by
    have := Int32.not_lt.mp hz
    simpa using Int32.le_iff_toInt_le.mp this
  show z.toInt = ((z.toInt.toNat : Nat) : Int)
  omega
theorem zj_cpy (hO : Ok p s m args meth c cc own nL D dA A) (hX : XK dA G A s) {index : Nat} (hlk : Cond.methodLink own index arraycopyName ∈ lw_all) (q0 q1 : Nat) {a0 a n0 n1 : Nat} {f g : Nat → Option Nat} (ha0 : ws[q0]? = some (a0, .inl (dA 7, n0, rfA f))) (ha1 : ws[q1]? = some (a, .inl (dA 7, n1, rfA g))) (hel : elO ws f)
    {sp dp n : Int32} (h1 : ¬ sp < 0) (h2 : ¬ dp < 0) (h3 : ¬ n < 0) (h4 : sp.toNatClampNeg + n.toNatClampNeg ≤ n0) (h5 : dp.toNatClampNeg + n.toNatClampNeg ≤ n1) (hN : 1 ≤ N) (hrm : (st.map fun x => x.category).sum ≤ 8) (hw : ws.set q1 (a, .inl (dA 7, n1, rfA (va_cpy f g sp.toNatClampNeg dp.toNatClampNeg n.toNatClampNeg))) = ws') (hdg : decode cc pc = .ok (.invokestatic index, 3))
    (kk : Go p l e (rmG N rk rs) s m args below meth c D A nL Q ws' u v (pc + 3) lv st) : Go p l e (rmG N rk rs) s m args below meth c D A nL Q ws u v pc lv (.int n :: .int dp :: .ref a :: .int sp :: .ref a0 :: st) := by
  subst hw
  intro H locs ls hP hD hS hl T hT X
  have hts := hO.2.2.2.2.1
  have hK := hO.2.2.2.2.2.1
  have hc0 : H[a0]? = some (vp_cell (dA 7) (n0, rfA f)) := hP q0 _ ha0
  have hc1 : H[a]? = some (vp_cell (dA 7) (n1, rfA g)) := hP q1 _ ha1
  obtain ⟨kA, comp, k1, k2, k3, -⟩ := (hK.2 7 _ rfl).2
  obtain ⟨kE, hkE, -⟩ := Vm.findClass_spec k3
  obtain ⟨vm', X', step⟩ := X.arraycopy hO.1 hO.2.2.2.1 (hts _ hlk) (hts _ q433) (hts _ q432) (hts _ q104) (src := a0) (dst := a) (cs := vp_cell (dA 7) (n0, rfA f)) (cd := vp_cell (dA 7) (n1, rfA g)) (srcPos := sp) (destPos := dp) (n := n) (by rw [hT]; exact hc0) (by rw [hT]; exact hc1)
    (fun _ h => by cases h) (fun _ h => by cases h) (fun h => by cases h) (fun h => by cases h) k1 k1 k2 k2 rfl h1 h2 h3
    (by rw [zj_nn h1, zj_nn h3]; show ¬ _ > ((arrV (dA 7) n0 (fun j => va_rf (f j))).slots.size : Int); rw [arrV_size]; omega)
    (by rw [zj_nn h2, zj_nn h3]; show ¬ _ > ((arrV (dA 7) n1 (fun j => va_rf (g j))).slots.size : Int); rw [arrV_size]; omega)
    (fun vm₁ hvm i hi => by
      have e : (vp_cell (dA 7) (n0, rfA f)).slots.getD (sp.toNatClampNeg + i) .null = va_rf (f (sp.toNatClampNeg + i)) := by
        show (arrV (dA 7) n0 (fun j => va_rf (f j))).slots.getD _ _ = _
        rw [Array.getD_eq_getD_getElem?, arrV_read _ _ (by omega)]
        rfl
      rw [e]
      cases hf : f (sp.toNatClampNeg + i) with
      | none => exact ⟨rfl, trivial⟩
      | some x =>
        refine ⟨rfl, ?_⟩
        obtain ⟨k, ci, vs, r, g1, g2, g3⟩ := hel _ _ hf
        obtain ⟨r', hr', cellV, f1, f2, f3, -⟩ := hP k _ g1
        have hcls := (hK.1 ci r g2).2
        obtain ⟨c0, t1, j1, j2, j3⟩ := Cond.castable_spec (hX.1.use (args := args) g3 rfl rfl)
        cases hcls.1.symm.trans j1
        cases k3.symm.trans j2
        obtain ⟨kC, hkC, -⟩ := hcls.2
        obtain ⟨kC', hkC', -⟩ := hvm.2.2 _ _ hkC
        obtain ⟨kE', hkE', -⟩ := hvm.2.2 _ _ hkE
        exact ⟨cellV, by show T.heap[x]? = _; rw [hT]; exact f1, (fun q h => by rw [f3] at h; cases h), ⟨kC', by rw [f2]; exact hkC'⟩, ⟨kE', hkE'⟩, by rw [f2]; show vm₁.assignable _ _ = true; rw [hvm.assignable]; exact j3⟩)
    (g := F0 m pc ls (.int n :: .int dp :: .ref a :: .int sp :: .ref a0 :: st)) rfl (hl.1.trans hO.2.2.1.symm) (rest := st) rfl (by rw [hO.2.1]; exact hdg) hN (by show 2 * 0 + _ + _ ≤ 64 * N; have hw : nativeFrameWords "java/lang/System" "arraycopy" 5 ≤ 16 := (by decide); omega)
  have e1 : copied (vp_cell (dA 7) (n0, rfA f)) (vp_cell (dA 7) (n1, rfA g)) sp dp n = vp_cell (dA 7) (n1, rfA (va_cpy f g sp.toNatClampNeg dp.toNatClampNeg n.toNatClampNeg)) := va_copied va_rf (dA 7) (dA 7) f g h4
  rw [e1] at X' step
  have hl2 : a < H.size := (Array.getElem?_eq_some_iff.mp hc1).1
  have hheap : ((T.setVm vm').setCell a (vp_cell (dA 7) (n1, rfA (va_cpy f g sp.toNatClampNeg dp.toNatClampNeg n.toNatClampNeg)))).heap = H.setIfInBounds a (vp_cell (dA 7) (n1, rfA (va_cpy f g sp.toNatClampNeg dp.toNatClampNeg n.toNatClampNeg))) := by rw [← hT]; rfl
  have oq : ∀ q : Nat, q ≠ a → (H.setIfInBounds a (vp_cell (dA 7) (n1, rfA (va_cpy f g sp.toNatClampNeg dp.toNatClampNeg n.toNatClampNeg))))[q]? = H[q]? := fun q hq => by simp [Array.getElem?_setIfInBounds, Ne.symm hq]
  obtain ⟨t, a1, b1⟩ := kk _ _ ls (hP.set hD ha1 (show (H.setIfInBounds a _)[a]? = some _ by simp [Array.getElem?_setIfInBounds, hl2]) oq) (hD.set ha1) ⟨by simp; exact hS.1, fun q g1 g2 => by
      rw [oq q (fun e => g2 (by rw [e]; exact hD.2 q1 _ ha1))]
      exact hS.2.1 q g1 g2, fun q hq => by
      rcases List.mem_append.mp hq with h | h
      · exact hS.2.2 q h
      · obtain ⟨z, -, hz⟩ := List.mem_map.mp h
        rw [← hz]
        exact hD.2 q1 _ ha1⟩ hl _ hheap X'
  exact ⟨t, step t a1, b1⟩
theorem zj_aret {S : Type} {f : S → va_W} {a : S → Nat} {mc ms : Nat} {rt : FieldType} (hO : Ok p s m args meth c cc own nL D dA A) (hr : meth.sig.returnType = some rt) (hrt : (∃ n, rt = .object n) ∨ ∃ t, rt = .array t) {x : Nat} (z : S) (hw : ws = f z) (hx : x = a z) (hc : u ≤ mc ∧ v ≤ ms) (hdg : decode cc pc = .ok (.areturn, 1)) : Go p l e R s m args below meth c D A nL (MQ below ((QgF D dA f a) A) args s mc ms A) ws u v pc lv [.ref x] :=
  fun H locs ls hP hD hS _ => W.widen hc.1 hc.2 (W.aret (v := .ref x) hO.1 hO.2.1 hr hrt (Or.inr ⟨_, rfl⟩) (fun t ht hW => ⟨⟨z, x, rfl, trivial, hx, by rw [ht, ← hw]; exact hP, va_K.moved hW.alike hO.2.2.2.2.2.1, by rw [← hw]; exact hD⟩, hS.F ht⟩) hS.2.2 hdg hO.2.2.2.2.2.2.2)
end ZJB
section ZJC
variable {p : Program} {l : Launch} {e : Env} {s : State} {m : MethodId} {args : Array Value} {below : List Frame} {meth : Method} {c : Code} {cc : ByteArray} {own C : String} {nL : Nat} {D : va_G} {dA : Nat → ClassId} {G : Nat → Nat} {A : Nat → Prop} {Q : State → Prop} {ws : va_W} {u v pc : Nat} {lv : List (Nat × Value)} {st rest : List Value}
  {y : MethodName} {bytes : ByteArray} {maxL N n' mc ms na index b : Nat} {rk rs : Nat} {ret : Option FieldType} {As : List Value} {S : Type} {f : S → va_W} {af : S → Nat}
theorem zx_callVr (hO : Ok p s m args meth c cc own nL D dA A) (hX : XK dA G A s) (hM : CtX l y (ws_ y bytes maxL ret) n' mc ms D dA G (.ref b :: As) ws (QgF D dA f af)) (hw : MwX y bytes maxL ret C na) (hlk : Cond.methodLink own index y ∈ lw_all) (hR : n' + 1 ≤ N ∧ 8 + (maxL + 11) + 64 * n' ≤ 64 * N) (hc : u + mc ≤ rk ∧ v + ms ≤ rs) (hn : As.length = na)
    (hst : st = As.reverse ++ .ref b :: rest) (hrm : (rest.map fun x => x.category).sum ≤ 8) (hrecv : ∃ (k ci : Nat) (fs : List Value) (q : vw_C), ws[k]? = some (b, .inr (ci, fs)) ∧ zg_cl[ci]? = some q ∧ q.1 = C) (hdg : decode cc pc = .ok (.invokevirtual index, 3)) (kk : ∀ z : S, Go p l e (rmG N rk rs) s m args below meth c D A nL Q (f z) (u + mc) (v + ms) (pc + 3) lv (.ref (af z) :: rest)) : Go p l e (rmG N rk rs) s m args below meth c D A nL Q ws u v pc lv st := by
  intro H locs ls hP hD hS hl
  refine va_callr (zx_runV hO hX hM hw hlk hR hc hn hst hrm hdg hP hD hS hl hrecv) hS (fun q _ h => va_AA hO hS hD q h) (fun q h => va_AA hO hS hD q h) (fun z ra t H1 locs1 ht hvm hx hB hz hk hS1 => ?_)
  obtain ⟨rfl, hB⟩ := hB
  subst ht
  exact kk z t.heap locs1 ls hB.1 (hB.2.2.weaken fun k q _ h => va_AA hO hS hD q.1 h) hS1 hl
theorem zx_callSr (hO : Ok p s m args meth c cc own nL D dA A) (hX : XK dA G A s) (hM : CtX l y (ws_ y bytes maxL ret) n' mc ms D dA G As ws (QgF D dA f af)) (hw : MwS y bytes maxL ret na) (hlk : Cond.methodLink own index y ∈ lw_all) (hR : n' + 1 ≤ N ∧ 8 + (maxL + 11) + 64 * n' ≤ 64 * N) (hc : u + mc ≤ rk ∧ v + ms ≤ rs) (hn : As.length = na)
    (hst : st = As.reverse ++ rest) (hrm : (rest.map fun x => x.category).sum ≤ 8) (hdg : decode cc pc = .ok (.invokestatic index, 3)) (kk : ∀ z : S, Go p l e (rmG N rk rs) s m args below meth c D A nL Q (f z) (u + mc) (v + ms) (pc + 3) lv (.ref (af z) :: rest)) : Go p l e (rmG N rk rs) s m args below meth c D A nL Q ws u v pc lv st := by
  intro H locs ls hP hD hS hl
  refine va_callr (zx_runS hO hX hM hw hlk hR hc hn hst hrm hdg hP hD hS hl) hS (fun q _ h => va_AA hO hS hD q h) (fun q h => va_AA hO hS hD q h) (fun z ra t H1 locs1 ht hvm hx hB hz hk hS1 => ?_)
  obtain ⟨rfl, hB⟩ := hB
  subst ht
  exact kk z t.heap locs1 ls hB.1 (hB.2.2.weaken fun k q _ h => va_AA hO hS hD q.1 h) hS1 hl
theorem zx_callIv (hO : Ok p s m args meth c cc own nL D dA A) (hX : XK dA G A s) (hM : CtX l y (ws_ y bytes maxL none) n' mc ms D dA G (.ref b :: As) ws (QgV D dA f)) (hini : y.name = "<init>") (hw : (y.cls ≠ "java/lang/invoke/MethodHandle" ∧ y.cls ≠ "java/lang/invoke/VarHandle" ∧ (parseMethodDescriptor y.desc).map (fun d => d.parameters.length) = some na) ∧ Cond.instanceMethod y ∈ lw_all ∧ Cond.initialized y.cls ∈ lw_all ∧ Cond.code y bytes maxL none ∈ lw_all) (hlk : Cond.methodLink own index y ∈ lw_all) (hR : n' + 1 ≤ N ∧ 8 + (maxL + 11) + 64 * n' ≤ 64 * N) (hc : u + mc ≤ rk ∧ v + ms ≤ rs) (hn : As.length = na)
    (hst : st = As.reverse ++ .ref b :: rest) (hrm : (rest.map fun x => x.category).sum ≤ 8) (hdg : decode cc pc = .ok (.invokespecial index, 3)) (kk : ∀ z : S, Go p l e (rmG N rk rs) s m args below meth c D A nL Q (f z) (u + mc) (v + ms) (pc + 3) lv rest) : Go p l e (rmG N rk rs) s m args below meth c D A nL Q ws u v pc lv st := by
  intro H locs ls hP hD hS hl
  refine va_callv (zx_runI hO hX hM hini hw hlk hR hc hn hst hrm hdg hP hD hS hl) hS (fun q _ h => va_AA hO hS hD q h) (fun q h => va_AA hO hS hD q h) (fun z t H1 locs1 ht hvm hx hB hz hk hS1 => ?_)
  subst ht
  exact kk z t.heap locs1 ls hB.1 (hB.2.2.weaken fun k q _ h => va_AA hO hS hD q.1 h) hS1 hl
theorem zx_runF {count : Nat} {x : MethodName} (hO : Ok p s m args meth c cc own nL D dA A) (hX : XK dA G A s) {Qf : (Nat → Prop) → Array Value → State → Outcome → State → Prop} (hM : CtX l y (ws_ y bytes maxL ret) n' mc ms D dA G (.ref b :: As) ws Qf) (hF : (C, x, y) ∈ nx_fw) (hsel : Cond.selects C x y ∈ lw_all) (hw : Cond.instanceMethod y ∈ lw_all ∧ Cond.initialized y.cls ∈ lw_all ∧ Cond.code y bytes maxL ret ∈ lw_all) (hlk : Cond.methodLink own index x ∈ lw_all) (hd : x.cls ≠ "java/lang/invoke/MethodHandle" ∧ x.cls ≠ "java/lang/invoke/VarHandle" ∧ (parseMethodDescriptor x.desc).map (fun d => d.parameters.length) = some na) (hR : n' + 1 ≤ N ∧ 8 + (maxL + 11) + 64 * n' ≤ 64 * N) (hc : u + mc ≤ rk ∧ v + ms ≤ rs) (hn : As.length = na)
    (hst : st = As.reverse ++ .ref b :: rest) (hrm : (rest.map fun x => x.category).sum ≤ 8) (hdg : decode cc pc = .ok (.invokeinterface index count, 5))
    {H : Heap} {locs : List Loc} {ls : Array Slot} (hP : va_P D zg_cl ws H) (hD : va_D A ws) (hS : va_S A s.heap H locs) (hl : lv_has ls nL lv)
    (hrecv : ∃ (k ci : Nat) (fs : List Value) (q : vw_C), ws[k]? = some (b, .inr (ci, fs)) ∧ zg_cl[ci]? = some q ∧ q.1 = C) :
    va_Run5 p l e (rmG N rk rs) s m args below meth c H locs u v mc ms (F0 m pc ls st) rest (Qf (va_A ws H.size) (Value.ref b :: As).toArray) (va_A ws H.size) := by
  obtain ⟨k, ci, fs, q, h1, h2, rfl⟩ := hrecv
  obtain ⟨w1, w2, w3⟩ := hw
  have hts := hO.2.2.2.2.1
  have hp := zx_pc hO hX hP hD hS (.ref b :: As)
  exact va_runF (x := x) (As := As) (rest := rest) (hO.2.2.2.2.2.1.1 ci _ h2).2 ⟨hO.1, hO.2.1, hO.2.2.1, hO.2.2.2.1, hts⟩ (hM H.size) (va_cwF na hts (lw_app (by
      intro w hw
      simp only [List.mem_cons, List.not_mem_nil, or_false] at hw
      rcases hw with e | e | e | e
      · rw [e]; exact hlk
      · rw [e]; exact hsel
      · rw [e]; exact w1
      · rw [e]; exact w2) (lw_meth w3)) rfl rfl rfl (hX.1.2 _ hF) hd hR)
    ⟨hp.1, va_recv hO.2.2.2.2.2.1 hP h2 h1, hp.2⟩ rfl hn hl.1 hst (lv_room hrm) hdg hc
theorem zx_callFi {count : Nat} {x : MethodName} (hO : Ok p s m args meth c cc own nL D dA A) (hX : XK dA G A s) {r : Int32} (hM : CtX l y (ws_ y bytes maxL ret) n' mc ms D dA G (.ref b :: As) ws (QgI D dA f r)) (hF : (C, x, y) ∈ nx_fw) (hsel : Cond.selects C x y ∈ lw_all) (hw : Cond.instanceMethod y ∈ lw_all ∧ Cond.initialized y.cls ∈ lw_all ∧ Cond.code y bytes maxL ret ∈ lw_all) (hlk : Cond.methodLink own index x ∈ lw_all) (hd : x.cls ≠ "java/lang/invoke/MethodHandle" ∧ x.cls ≠ "java/lang/invoke/VarHandle" ∧ (parseMethodDescriptor x.desc).map (fun d => d.parameters.length) = some na) (hR : n' + 1 ≤ N ∧ 8 + (maxL + 11) + 64 * n' ≤ 64 * N) (hc : u + mc ≤ rk ∧ v + ms ≤ rs) (hn : As.length = na)
    (hst : st = As.reverse ++ .ref b :: rest) (hrm : (rest.map fun x => x.category).sum ≤ 8) (hrecv : ∃ (k ci : Nat) (fs : List Value) (q : vw_C), ws[k]? = some (b, .inr (ci, fs)) ∧ zg_cl[ci]? = some q ∧ q.1 = C) (hdg : decode cc pc = .ok (.invokeinterface index count, 5)) (kk : ∀ z : S, Go p l e (rmG N rk rs) s m args below meth c D A nL Q (f z) (u + mc) (v + ms) (pc + 5) lv (.int r :: rest)) : Go p l e (rmG N rk rs) s m args below meth c D A nL Q ws u v pc lv st := by
  intro H locs ls hP hD hS hl
  refine va_callFi (zx_runF hO hX hM hF hsel hw hlk hd hR hc hn hst hrm hdg hP hD hS hl hrecv) hS (fun q _ h => va_AA hO hS hD q h) (fun q h => va_AA hO hS hD q h) (fun x z t H1 locs1 ht hvm hx hB hz hk hS1 => ?_)
  subst hx
  subst ht
  exact kk z t.heap locs1 ls hB.1 (hB.2.2.weaken fun k q _ h => va_AA hO hS hD q.1 h) hS1 hl
theorem zx_callFr {count : Nat} {x : MethodName} (hO : Ok p s m args meth c cc own nL D dA A) (hX : XK dA G A s) (hM : CtX l y (ws_ y bytes maxL ret) n' mc ms D dA G (.ref b :: As) ws (QgF D dA f af)) (hF : (C, x, y) ∈ nx_fw) (hsel : Cond.selects C x y ∈ lw_all) (hw : Cond.instanceMethod y ∈ lw_all ∧ Cond.initialized y.cls ∈ lw_all ∧ Cond.code y bytes maxL ret ∈ lw_all) (hlk : Cond.methodLink own index x ∈ lw_all) (hd : x.cls ≠ "java/lang/invoke/MethodHandle" ∧ x.cls ≠ "java/lang/invoke/VarHandle" ∧ (parseMethodDescriptor x.desc).map (fun d => d.parameters.length) = some na) (hR : n' + 1 ≤ N ∧ 8 + (maxL + 11) + 64 * n' ≤ 64 * N) (hc : u + mc ≤ rk ∧ v + ms ≤ rs) (hn : As.length = na)
    (hst : st = As.reverse ++ .ref b :: rest) (hrm : (rest.map fun x => x.category).sum ≤ 8) (hrecv : ∃ (k ci : Nat) (fs : List Value) (q : vw_C), ws[k]? = some (b, .inr (ci, fs)) ∧ zg_cl[ci]? = some q ∧ q.1 = C) (hdg : decode cc pc = .ok (.invokeinterface index count, 5)) (kk : ∀ z : S, Go p l e (rmG N rk rs) s m args below meth c D A nL Q (f z) (u + mc) (v + ms) (pc + 5) lv (.ref (af z) :: rest)) : Go p l e (rmG N rk rs) s m args below meth c D A nL Q ws u v pc lv st := by
  intro H locs ls hP hD hS hl
  refine va_callFr (zx_runF hO hX hM hF hsel hw hlk hd hR hc hn hst hrm hdg hP hD hS hl hrecv) hS (fun q _ h => va_AA hO hS hD q h) (fun q h => va_AA hO hS hD q h) (fun z ra t H1 locs1 ht hvm hx hB hz hk hS1 => ?_)
  obtain ⟨rfl, hB⟩ := hB
  subst ht
  exact kk z t.heap locs1 ls hB.1 (hB.2.2.weaken fun k q _ h => va_AA hO hS hD q.1 h) hS1 hl
end ZJC
theorem fJ30_3 : FdL RJ30 3 10 0 := ⟨RJ30, TJ30, 3, "java/util/ArrayDeque", rfl, in_J30, by decide, q1116, Or.inl rfl⟩
theorem fJ30_24 : FdL RJ30 24 10 1 := ⟨RJ30, TJ30, 3, "java/util/ArrayDeque", rfl, in_J30, by decide, q1119, Or.inl rfl⟩
theorem fJ30_20 : FdL RJ30 20 10 2 := ⟨RJ30, TJ30, 3, "java/util/ArrayDeque", rfl, in_J30, by decide, q1120, Or.inl rfl⟩
theorem pJ30_3 : FdP RJ30 3 10 0 (.array (.object "java/lang/Object")) := ⟨RJ30, TJ30, 3, "java/util/ArrayDeque", tyJ30, rfl, in_J30, by decide, q1116, Or.inl rfl, tyJ30_ok, nmJ30, rfl, tyJ30_ok 0 (by decide)⟩
theorem pJ30_24 : FdP RJ30 24 10 1 .int := ⟨RJ30, TJ30, 3, "java/util/ArrayDeque", tyJ30, rfl, in_J30, by decide, q1119, Or.inl rfl, tyJ30_ok, nmJ30, rfl, tyJ30_ok 1 (by decide)⟩
theorem fJ31_19 : FdL RJ31 19 11 1 := ⟨RJ31, TJ31, 4, "java/util/ArrayDeque$DeqIterator", rfl, in_J31, by decide, q1168, Or.inl rfl⟩
theorem fJ31_1 : FdL RJ31 1 11 3 := ⟨RJ31, TJ31, 4, "java/util/ArrayDeque$DeqIterator", rfl, in_J31, by decide, q1170, Or.inl rfl⟩
theorem fJ31_35 : FdL RJ31 35 10 0 := ⟨RJ30, TJ30, 3, "java/util/ArrayDeque", rfl, in_J30, by decide, q1117, Or.inl rfl⟩
theorem fJ31_29 : FdL RJ31 29 11 0 := ⟨RJ31, TJ31, 4, "java/util/ArrayDeque$DeqIterator", rfl, in_J31, by decide, q1167, Or.inl rfl⟩
theorem pJ31_23 : FdP RJ31 23 11 2 .int := ⟨RJ31, TJ31, 4, "java/util/ArrayDeque$DeqIterator", tyJ31, rfl, in_J31, by decide, q1169, Or.inl rfl, tyJ31_ok, nmJ31, rfl, tyJ31_ok 2 (by decide)⟩
theorem pJ31_29 : FdP RJ31 29 11 0 .int := ⟨RJ31, TJ31, 4, "java/util/ArrayDeque$DeqIterator", tyJ31, rfl, in_J31, by decide, q1167, Or.inl rfl, tyJ31_ok, nmJ31, rfl, tyJ31_ok 0 (by decide)⟩
theorem pJ31_19 : FdP RJ31 19 11 1 .int := ⟨RJ31, TJ31, 4, "java/util/ArrayDeque$DeqIterator", tyJ31, rfl, in_J31, by decide, q1168, Or.inl rfl, tyJ31_ok, nmJ31, rfl, tyJ31_ok 1 (by decide)⟩
theorem pJ31_1 : FdF RJ31 1 11 3 (.object "java/util/ArrayDeque") := ⟨RJ31, TJ31, 4, "java/util/ArrayDeque$DeqIterator", tyJ31, rfl, in_J31, by decide, q1170, Or.inl rfl, tyJ31_ok, nmJ31, rfl, rfl, tyJ31_ok 3 (by decide)⟩
theorem fJ31_26 : FdL RJ31 26 10 1 := ⟨RJ30, TJ30, 3, "java/util/ArrayDeque", rfl, in_J30, by decide, q1118, Or.inl rfl⟩
theorem pJ8_7 : FdF RJ8 7 8 0 (.array (.object "java/lang/Object")) := ⟨RJ8, TJ8, 2, "java/util/ImmutableCollections$ListN", tyJ8, rfl, in_J8, by decide, q325, Or.inl rfl, tyJ8_ok, nmJ8, rfl, rfl, tyJ8_ok 0 (by decide)⟩
theorem pJ8_13 : FdF RJ8 13 8 1 .boolean := ⟨RJ8, TJ8, 2, "java/util/ImmutableCollections$ListN", tyJ8, rfl, in_J8, by decide, q326, Or.inl rfl, tyJ8_ok, nmJ8, rfl, rfl, tyJ8_ok 1 (by decide)⟩
theorem pJ16_7 : FdF RJ16 7 9 0 (.object "java/util/List") := ⟨RJ16, TJ16, 4, "java/util/ImmutableCollections$ListItr", tyJ16, rfl, in_J16, by decide, q645, Or.inl rfl, tyJ16_ok, nmJ16, rfl, rfl, tyJ16_ok 0 (by decide)⟩
theorem pJ16_13 : FdF RJ16 13 9 1 .int := ⟨RJ16, TJ16, 4, "java/util/ImmutableCollections$ListItr", tyJ16, rfl, in_J16, by decide, q646, Or.inl rfl, tyJ16_ok, nmJ16, rfl, rfl, tyJ16_ok 1 (by decide)⟩
theorem pJ16_17 : FdP RJ16 17 9 3 .int := ⟨RJ16, TJ16, 4, "java/util/ImmutableCollections$ListItr", tyJ16, rfl, in_J16, by decide, q648, Or.inl rfl, tyJ16_ok, nmJ16, rfl, tyJ16_ok 3 (by decide)⟩
theorem pJ16_20 : FdF RJ16 20 9 2 .boolean := ⟨RJ16, TJ16, 4, "java/util/ImmutableCollections$ListItr", tyJ16, rfl, in_J16, by decide, q647, Or.inl rfl, tyJ16_ok, nmJ16, rfl, rfl, tyJ16_ok 2 (by decide)⟩
theorem fJ16_17 : FdL RJ16 17 9 3 := ⟨RJ16, TJ16, 4, "java/util/ImmutableCollections$ListItr", rfl, in_J16, by decide, q648, Or.inl rfl⟩
theorem fJ16_13 : FdL RJ16 13 9 1 := ⟨RJ16, TJ16, 4, "java/util/ImmutableCollections$ListItr", rfl, in_J16, by decide, q646, Or.inl rfl⟩
theorem fJ16_7 : FdL RJ16 7 9 0 := ⟨RJ16, TJ16, 4, "java/util/ImmutableCollections$ListItr", rfl, in_J16, by decide, q645, Or.inl rfl⟩
theorem pJ32_7 : FdP RJ32 7 12 1 .int := ⟨RJ32, TJ32, 3, "java/util/BitSet", tyJ32, rfl, in_J32, by decide, q1293, Or.inl rfl, tyJ32_ok, nmJ32, rfl, tyJ32_ok 1 (by decide)⟩
theorem pJ32_24 : FdP RJ32 24 12 2 .boolean := ⟨RJ32, TJ32, 3, "java/util/BitSet", tyJ32, rfl, in_J32, by decide, q1294, Or.inl rfl, tyJ32_ok, nmJ32, rfl, tyJ32_ok 2 (by decide)⟩
theorem pJ32_11 : FdP RJ32 11 12 0 (.array .long) := ⟨RJ32, TJ32, 3, "java/util/BitSet", tyJ32, rfl, in_J32, by decide, q1292, Or.inl rfl, tyJ32_ok, nmJ32, rfl, tyJ32_ok 0 (by decide)⟩
theorem fJ32_11 : FdL RJ32 11 12 0 := ⟨RJ32, TJ32, 3, "java/util/BitSet", rfl, in_J32, by decide, q1292, Or.inl rfl⟩
theorem fJ32_7 : FdL RJ32 7 12 1 := ⟨RJ32, TJ32, 3, "java/util/BitSet", rfl, in_J32, by decide, q1293, Or.inl rfl⟩
theorem pJ11_7 : FdP RJ11 7 6 1 .int := ⟨RJ11, TJ11, 4, "java/util/LinkedList", tyJ11, rfl, in_J11, by decide, q373, Or.inl rfl, tyJ11_ok, nmJ11, rfl, tyJ11_ok 1 (by decide)⟩
theorem fJ11_7 : FdL RJ11 7 6 1 := ⟨RJ11, TJ11, 4, "java/util/LinkedList", rfl, in_J11, by decide, q373, Or.inl rfl⟩
theorem fJ11_27 : FdL RJ11 27 6 3 := ⟨RJ11, TJ11, 4, "java/util/LinkedList", rfl, in_J11, by decide, q376, Or.inl rfl⟩
theorem fJ11_30 : FdL RJ11 30 7 2 := ⟨RJ15, TJ15, 3, "java/util/LinkedList$Node", rfl, in_J15, by decide, q479, Or.inl rfl⟩
theorem pJ11_18 : FdP RJ11 18 6 2 (.object "java/util/LinkedList$Node") := ⟨RJ11, TJ11, 4, "java/util/LinkedList", tyJ11, rfl, in_J11, by decide, q375, Or.inl rfl, tyJ11_ok, nmJ11, rfl, tyJ11_ok 2 (by decide)⟩
theorem pJ11_36 : FdP RJ11 36 7 1 (.object "java/util/LinkedList$Node") := ⟨RJ15, TJ15, 3, "java/util/LinkedList$Node", tyJ15, rfl, in_J15, by decide, q477, Or.inl rfl, tyJ15_ok, nmJ15, rfl, tyJ15_ok 1 (by decide)⟩
theorem pJ11_27 : FdP RJ11 27 6 3 (.object "java/util/LinkedList$Node") := ⟨RJ11, TJ11, 4, "java/util/LinkedList", tyJ11, rfl, in_J11, by decide, q376, Or.inl rfl, tyJ11_ok, nmJ11, rfl, tyJ11_ok 3 (by decide)⟩
theorem pJ11_30 : FdP RJ11 30 7 2 (.object "java/util/LinkedList$Node") := ⟨RJ15, TJ15, 3, "java/util/LinkedList$Node", tyJ15, rfl, in_J15, by decide, q479, Or.inl rfl, tyJ15_ok, nmJ15, rfl, tyJ15_ok 2 (by decide)⟩
theorem fJ11_33 : FdL RJ11 33 6 0 := ⟨RJ11, TJ11, 4, "java/util/LinkedList", rfl, in_J11, by decide, q381, Or.inr q379⟩
theorem pJ11_33 : FdP RJ11 33 6 0 .int := ⟨RJ11, TJ11, 4, "java/util/LinkedList", tyJ11, rfl, in_J11, by decide, q381, Or.inr q379, tyJ11_ok, nmJ11, rfl, tyJ11_ok 0 (by decide)⟩
theorem fJ11_18 : FdL RJ11 18 6 2 := ⟨RJ11, TJ11, 4, "java/util/LinkedList", rfl, in_J11, by decide, q375, Or.inl rfl⟩
theorem fJ11_39 : FdL RJ11 39 7 0 := ⟨RJ15, TJ15, 3, "java/util/LinkedList$Node", rfl, in_J15, by decide, q474, Or.inl rfl⟩
theorem fJ11_36 : FdL RJ11 36 7 1 := ⟨RJ15, TJ15, 3, "java/util/LinkedList$Node", rfl, in_J15, by decide, q477, Or.inl rfl⟩
theorem pJ11_39 : FdP RJ11 39 7 0 (.object "java/lang/Object") := ⟨RJ15, TJ15, 3, "java/util/LinkedList$Node", tyJ15, rfl, in_J15, by decide, q474, Or.inl rfl, tyJ15_ok, nmJ15, rfl, tyJ15_ok 0 (by decide)⟩
theorem pJ15_7 : FdP RJ15 7 7 0 (.object "java/lang/Object") := ⟨RJ15, TJ15, 3, "java/util/LinkedList$Node", tyJ15, rfl, in_J15, by decide, q472, Or.inl rfl, tyJ15_ok, nmJ15, rfl, tyJ15_ok 0 (by decide)⟩
theorem pJ15_13 : FdP RJ15 13 7 1 (.object "java/util/LinkedList$Node") := ⟨RJ15, TJ15, 3, "java/util/LinkedList$Node", tyJ15, rfl, in_J15, by decide, q475, Or.inl rfl, tyJ15_ok, nmJ15, rfl, tyJ15_ok 1 (by decide)⟩
theorem pJ15_17 : FdP RJ15 17 7 2 (.object "java/util/LinkedList$Node") := ⟨RJ15, TJ15, 3, "java/util/LinkedList$Node", tyJ15, rfl, in_J15, by decide, q478, Or.inl rfl, tyJ15_ok, nmJ15, rfl, tyJ15_ok 2 (by decide)⟩
theorem pJ13_205 : FdF RJ13 205 13 0 .int := ⟨RJ13, TJ13, 1, "java/lang/Integer", tyJ13, rfl, in_J13, by decide, q354, Or.inl rfl, tyJ13_ok, nmJ13, rfl, rfl, tyJ13_ok 0 (by decide)⟩
theorem fJ13_205 : FdL RJ13 205 13 0 := ⟨RJ13, TJ13, 1, "java/lang/Integer", rfl, in_J13, by decide, q354, Or.inl rfl⟩

