set_option maxRecDepth 100000
def ymk : MethodName := ⟨"EndSums$Make", "of", "(LEndSums$Pair;I)V"⟩
def yjn : MethodName := ⟨"EndSums$Join", "of", "(LEndSums$Pair;LEndSums$Pair;LEndSums$Pair;)V"⟩
section ZLG
variable {p : Program} {l : Launch} {e : Env} {s : State} {m : MethodId} {args : Array Value} {below : List Frame} {meth : Method} {c : Code} {cc : ByteArray} {own C : String} {nL : Nat} {D : va_G} {dA : Nat → ClassId} {G : Nat → Nat} {A : Nat → Prop} {Q : State → Prop} {ws : va_W} {u v pc : Nat} {lv : List (Nat × Value)} {rest : List Value}
  {y : MethodName} {bytes : ByteArray} {maxL N n' na index count nl pc1 : Nat} {rk rs : Nat} {As : List Value} {S : Type} {f : S → va_W} {x : MethodName} {fb : List UInt8}
theorem zl_lenW {sig : MethodDescriptor} {d : String} {na : Nat} {As : List Value} (hn : As.length = na) (h : (parseMethodDescriptor d).map (fun d => d.parameters.length) = some na) (hs : parseMethodDescriptor d = some sig) : As.length = sig.parameters.length := by
  rw [hs] at h
  exact hn.trans (Option.some.inj h).symm
theorem zl_go6 {j : Nat} (hj : j < 16) (hnc : capt j = false) (hO : Ok p s m args meth c cc own nL D dA A) (hX : XK dA G A s) (hM : CtX l y (ws_ y bytes maxL none) n' 0 0 D dA G As ws (QgV D dA f)) (hw : MwS y bytes maxL none na)
    (hlk : Cond.methodLink own index x ∈ lw_all) (hdc : Cond.declares x ∈ lw_tbl) (hxm : x ∈ ([ymk, yjn] : List MethodName)) (hσ : x = ⟨(lk_sh j).iface, (lk_sh j).name, (lk_sh j).sam.toString⟩) (hσy : y = ⟨"EndSums", (lk_sh j).implName, (lk_sh j).implDesc.toString⟩) (hok : lk6 (lk_sh j) fb nl)
    (hlx : (parseMethodDescriptor x.desc).map (fun d => d.parameters.length) = some na) (hR : n' + 2 ≤ N ∧ maxL ≤ 40 ∧ nl ≤ 4) (hc : u ≤ rk ∧ v ≤ rs) (hn : As.length = na) (hrm : (rest.map fun x => x.category).sum ≤ 8) (hdg : decode cc pc = .ok (.invokeinterface index count, 5))
    (hload : p.tables.exec = Jvm.exec → ∀ (b : Nat) (mk : MethodId) (ck : Code) (U : State) (bl : List Frame), ck.code.data = fb.toArray → ck.maxLocals = nl → At U mk ck bl → ∃ L : Array Slot, L.size = ck.maxLocals ∧ ∀ tg, Steps p.tables e bl (U.setTop { method := mk, pc := pc1, locals := L, stack := As.reverse, locked := none }) tg → Steps p.tables e bl (U.setTop (entryFrame mk (.ref b :: As).toArray nl)) tg)
    (hd1 : ∀ cb : ByteArray, cb.data = fb.toArray → decode cb pc1 = .ok (.invokestatic 17, 3) ∧ decode cb (pc1 + 3) = .ok (.return_, 1))
    (kk : ∀ z : S, Go p l e (rmG N rk rs) s m args below meth c D A nL Q (f z) u v (pc + 5) lv rest) : Go p l e (rmG N rk rs) s m args below meth c D A nL Q ws u v pc lv (As.reverse ++ .ref (G (3 + j)) :: rest) := by
  intro H locs ls hP hD hS hl
  obtain ⟨w1, w2, w3, w4⟩ := hw
  have hts := hO.2.2.2.2.1
  have hp := zx_pc hO hX hP hD hS As
  obtain ⟨hf, d, dk, h1, h2, h3, h4⟩ := hX.2.1
  obtain ⟨⟨cell, g1, g3, g4⟩, g2⟩ := hX.2.2.1 j hj hnc
  have hlt : G (3 + j) < s.heap.size := (Array.getElem?_eq_some_iff.mp g1).1
  have hHc : H[G (3 + j)]? = some cell := by rw [hS.2.1 _ hlt g2]; exact g1
  have hx : x.cls ≠ "java/lang/invoke/MethodHandle" ∧ x.cls ≠ "java/lang/invoke/VarHandle" := by
    rcases List.mem_cons.mp hxm with rfl | hxm
    · exact ⟨by decide, by decide⟩
    · rcases List.mem_cons.mp hxm with rfl | hxm
      · exact ⟨by decide, by decide⟩
      · cases hxm
  have hrun := zl_run6 (p := p) (l := l) (e := e) (R := rmG N rk rs) (s := s) (m := m) (args := args) (below := below) (meth := meth) (c := c) (H := H) (locs := locs) (cells := u) (slots := v) (g := F0 m pc ls (As.reverse ++ .ref (G (3 + j)) :: rest)) (rest := rest) (count := count) hO.1 hO.2.2.2.1 (hts _ hlk) (hX.1.use hdc rfl rfl) (hf _ hxm) hx (by rw [g4]; exact (h4 j hj).1) (by rw [g4]; exact (h4 j hj).2) hσ hσy h2 h3 hok (hM H.size) (pay_in hts (lw_meth w4)) (tb := bytes) (maxL := maxL) List.mem_cons_self (hts _ w2) (hts _ w3) rfl rfl hR.1 hR.2.1 hR.2.2 hc hp hHc g3
    (fun a st v t hq => by obtain ⟨⟨_, hq, -⟩, -⟩ := hq; exact Outcome.returned.inj hq) (fun mk ck U bl => hload hO.1 (G (3 + j)) mk ck U bl) hd1 rfl (hl.1.trans hO.2.2.1.symm) (fun sig h => zl_lenW hn hlx h) (fun sig h => zl_lenW hn w1.2.2 h) rfl (lv_room hrm) (by rw [hO.2.1]; exact hdg)
  refine va_callFv hrun hS (fun q _ h => va_AA hO hS hD q h) (fun q h => va_AA hO hS hD q h) (fun z t H1 locs1 ht hvm hx hB hz hk hS1 => ?_)
  subst ht
  exact kk z t.heap locs1 ls hB.1 (hB.2.2.weaken fun k q _ h => va_AA hO hS hD q.1 h) hS1 hl
theorem zl_go5 {j q0 : Nat} (hj : j < 16) (hcp : ws[q0]? = some (G (3 + j), .inl (dA (30 + j), 1, .inr (.inr (.inr (.inr (fun _ => some (G 0)))))))) (hO : Ok p s m args meth c cc own nL D dA A) (hX : XK dA G A s) (hM : CtX l y (ws_ y bytes maxL none) n' 0 0 D dA G (.ref (G 0) :: As) ws (QgV D dA f)) (hw : MwX y bytes maxL none RX1 na)
    (hlk : Cond.methodLink own index x ∈ lw_all) (hdc : Cond.declares x ∈ lw_tbl) (hxm : x ∈ ([ymk, yjn] : List MethodName)) (hσ : x = ⟨(lk_sh j).iface, (lk_sh j).name, (lk_sh j).sam.toString⟩) (hσy : y = ⟨"EndSums", (lk_sh j).implName, (lk_sh j).implDesc.toString⟩) (hok : lk5 (lk_sh j) fb nl)
    (hlx : (parseMethodDescriptor x.desc).map (fun d => d.parameters.length) = some na) (hR : n' + 2 ≤ N ∧ maxL ≤ 40 ∧ nl ≤ 4) (hc : u ≤ rk ∧ v ≤ rs) (hn : As.length = na) (hrm : (rest.map fun x => x.category).sum ≤ 8) (hdg : decode cc pc = .ok (.invokeinterface index count, 5))
    (hrecv : ∃ (k ci : Nat) (fs : List Value) (q : vw_C), ws[k]? = some (G 0, .inr (ci, fs)) ∧ zg_cl[ci]? = some q ∧ q.1 = RX1)
    (hd0 : ∀ cb : ByteArray, cb.data = fb.toArray → decode cb 0 = .ok (.aload_n 0, 1) ∧ decode cb 1 = .ok (.getfield 15, 3))
    (hload : p.tables.exec = Jvm.exec → ∀ (b : Nat) (mk : MethodId) (ck : Code) (U : State) (bl : List Frame), ck.code.data = fb.toArray → ck.maxLocals = nl → At U mk ck bl → (entryFrame mk (.ref b :: As).toArray nl).locals.size = nl ∧ (entryFrame mk (.ref b :: As).toArray nl).locals[0]? = some (.val (.ref b)) ∧ ∀ (tg : State) (S0 : List Value), Steps p.tables e bl (U.setTop { method := mk, pc := pc1, locals := (entryFrame mk (.ref b :: As).toArray nl).locals, stack := As.reverse ++ S0, locked := none }) tg → Steps p.tables e bl (U.setTop { method := mk, pc := 4, locals := (entryFrame mk (.ref b :: As).toArray nl).locals, stack := S0, locked := none }) tg)
    (hd1 : ∀ cb : ByteArray, cb.data = fb.toArray → decode cb pc1 = .ok (.invokevirtual 22, 3) ∧ decode cb (pc1 + 3) = .ok (.return_, 1))
    (kk : ∀ z : S, Go p l e (rmG N rk rs) s m args below meth c D A nL Q (f z) u v (pc + 5) lv rest) : Go p l e (rmG N rk rs) s m args below meth c D A nL Q ws u v pc lv (As.reverse ++ .ref (G (3 + j)) :: rest) := by
  intro H locs ls hP hD hS hl
  obtain ⟨k, ci, fs, q, r1, r2, r3⟩ := hrecv
  obtain ⟨w1, w2, w3, w4, w5⟩ := hw
  have hts := hO.2.2.2.2.1
  have hp := zx_pc hO hX hP hD hS (.ref (G 0) :: As)
  obtain ⟨hf, d, dk, h1, h2, h3, h4⟩ := hX.2.1
  have hHc : H[G (3 + j)]? = some (arrV (dA (30 + j)) 1 (fun _ => .ref (G 0))) := hP q0 _ hcp
  have hrv := va_recv hO.2.2.2.2.2.1 hP r2 r1
  rw [r3] at hrv
  have hx : x.cls ≠ "java/lang/invoke/MethodHandle" ∧ x.cls ≠ "java/lang/invoke/VarHandle" := by
    rcases List.mem_cons.mp hxm with rfl | hxm
    · exact ⟨by decide, by decide⟩
    · rcases List.mem_cons.mp hxm with rfl | hxm
      · exact ⟨by decide, by decide⟩
      · cases hxm
  have hrun := zl_run5 (p := p) (l := l) (e := e) (R := rmG N rk rs) (s := s) (m := m) (args := args) (below := below) (meth := meth) (c := c) (H := H) (locs := locs) (cells := u) (slots := v) (g := F0 m pc ls (As.reverse ++ .ref (G (3 + j)) :: rest)) (rest := rest) (count := count) (q0 := G 0) hO.1 hO.2.2.2.1 (hts _ hlk) (hX.1.use hdc rfl rfl) (hf _ hxm) hx (h4 j hj).1 (h4 j hj).2 hσ hσy h2 h3 hok (hts _ q2197) (hM H.size) (pay_in hts (lw_meth w5)) (tb := bytes) (maxL := maxL) List.mem_cons_self (hts _ w2) (hts _ w3) (hts _ w4) rfl rfl hR.1 hR.2.1 hR.2.2 hc ⟨hp.1, hrv, hp.2⟩ hHc rfl (arrV_read _ _ (by decide))
    (fun a st v t hq => by obtain ⟨⟨_, hq, -⟩, -⟩ := hq; exact Outcome.returned.inj hq) hd0 (fun mk ck U bl => hload hO.1 (G (3 + j)) mk ck U bl) hd1 rfl (hl.1.trans hO.2.2.1.symm) (fun sig h => zl_lenW hn hlx h) (fun sig h => zl_lenW hn w1.2.2 h) rfl (lv_room hrm) (by rw [hO.2.1]; exact hdg)
  refine va_callFv hrun hS (fun q _ h => va_AA hO hS hD q h) (fun q h => va_AA hO hS hD q h) (fun z t H1 locs1 ht hvm hx hB hz hk hS1 => ?_)
  subst ht
  exact kk z t.heap locs1 ls hB.1 (hB.2.2.weaken fun k q _ h => va_AA hO hS hD q.1 h) hS1 hl
end ZLG
theorem fd6m (cb : ByteArray) (h : cb.data = ([0x2b, 0x1c, 0xb8, 0x00, 0x11, 0xb1] : List UInt8).toArray) : decode cb 2 = .ok (.invokestatic 17, 3) ∧ decode cb (2 + 3) = .ok (.return_, 1) := by
  have hc : cb = fb6m := ByteArray.ext h
  subst hc
  decide +kernel
theorem fd6j (cb : ByteArray) (h : cb.data = ([0x2b, 0x2c, 0x2d, 0xb8, 0x00, 0x11, 0xb1] : List UInt8).toArray) : decode cb 3 = .ok (.invokestatic 17, 3) ∧ decode cb (3 + 3) = .ok (.return_, 1) := by
  have hc : cb = fb6j := ByteArray.ext h
  subst hc
  decide +kernel
theorem fd5m (cb : ByteArray) (h : cb.data = ([0x2a, 0xb4, 0x00, 0x0f, 0x2b, 0x1c, 0xb6, 0x00, 0x16, 0xb1] : List UInt8).toArray) : decode cb 6 = .ok (.invokevirtual 22, 3) ∧ decode cb (6 + 3) = .ok (.return_, 1) := by
  have hc : cb = fb5m := ByteArray.ext h
  subst hc
  decide +kernel
theorem fd5j (cb : ByteArray) (h : cb.data = ([0x2a, 0xb4, 0x00, 0x0f, 0x2b, 0x2c, 0x2d, 0xb6, 0x00, 0x16, 0xb1] : List UInt8).toArray) : decode cb 7 = .ok (.invokevirtual 22, 3) ∧ decode cb (7 + 3) = .ok (.return_, 1) := by
  have hc : cb = fb5j := ByteArray.ext h
  subst hc
  decide +kernel
theorem fe5m (cb : ByteArray) (h : cb.data = ([0x2a, 0xb4, 0x00, 0x0f, 0x2b, 0x1c, 0xb6, 0x00, 0x16, 0xb1] : List UInt8).toArray) : decode cb 0 = .ok (.aload_n 0, 1) ∧ decode cb 1 = .ok (.getfield 15, 3) := by
  have hc : cb = fb5m := ByteArray.ext h
  subst hc
  decide +kernel
theorem fe5j (cb : ByteArray) (h : cb.data = ([0x2a, 0xb4, 0x00, 0x0f, 0x2b, 0x2c, 0x2d, 0xb6, 0x00, 0x16, 0xb1] : List UInt8).toArray) : decode cb 0 = .ok (.aload_n 0, 1) ∧ decode cb 1 = .ok (.getfield 15, 3) := by
  have hc : cb = fb5j := ByteArray.ext h
  subst hc
  decide +kernel
theorem dd6m0 : decode fb6m 0 = .ok (.aload_n 1, 1) := by decide +kernel
theorem dd6m1 : decode fb6m 1 = .ok (.iload_n 2, 1) := by decide +kernel
theorem dd6j0 : decode fb6j 0 = .ok (.aload_n 1, 1) := by decide +kernel
theorem dd6j1 : decode fb6j 1 = .ok (.aload_n 2, 1) := by decide +kernel
theorem dd6j2 : decode fb6j 2 = .ok (.aload_n 3, 1) := by decide +kernel
theorem dd5m4 : decode fb5m 4 = .ok (.aload_n 1, 1) := by decide +kernel
theorem dd5m5 : decode fb5m 5 = .ok (.iload_n 2, 1) := by decide +kernel
theorem dd5j4 : decode fb5j 4 = .ok (.aload_n 1, 1) := by decide +kernel
theorem dd5j5 : decode fb5j 5 = .ok (.aload_n 2, 1) := by decide +kernel
theorem dd5j6 : decode fb5j 6 = .ok (.aload_n 3, 1) := by decide +kernel
section ZLD
variable {p : Program} {e : Env}
theorem fl6m {a : Nat} {x : Int32} (hexec : p.tables.exec = Jvm.exec) (b : Nat) (mk : MethodId) (ck : Code) (U : State) (bl : List Frame) (h : ck.code.data = ([0x2b, 0x1c, 0xb8, 0x00, 0x11, 0xb1] : List UInt8).toArray) (hml : ck.maxLocals = 3) (hA : At U mk ck bl) :
    ∃ L : Array Slot, L.size = ck.maxLocals ∧ ∀ tg, Steps p.tables e bl (U.setTop { method := mk, pc := 2, locals := L, stack := [.ref a, .int x].reverse, locked := none }) tg → Steps p.tables e bl (U.setTop (entryFrame mk (.ref b :: [.ref a, .int x]).toArray 3)) tg := by
  have hc : ck.code = fb6m := ByteArray.ext h
  refine ⟨#[.val (.ref b), .val (.ref a), .val (.int x)], by rw [hml]; rfl, fun tg k => ?_⟩
  have h0 : entryFrame mk (.ref b :: [.ref a, .int x]).toArray 3 = { method := mk, pc := 0, locals := #[.val (.ref b), .val (.ref a), .val (.int x)], stack := [], locked := none } := rfl
  rw [h0]
  jvm_step hA [hexec, hc, dd6m0, Value.isRef]
  jvm_step hA [hexec, hc, dd6m1]
  exact k
theorem fl6j {a1 a2 a3 : Nat} (hexec : p.tables.exec = Jvm.exec) (b : Nat) (mk : MethodId) (ck : Code) (U : State) (bl : List Frame) (h : ck.code.data = ([0x2b, 0x2c, 0x2d, 0xb8, 0x00, 0x11, 0xb1] : List UInt8).toArray) (hml : ck.maxLocals = 4) (hA : At U mk ck bl) :
    ∃ L : Array Slot, L.size = ck.maxLocals ∧ ∀ tg, Steps p.tables e bl (U.setTop { method := mk, pc := 3, locals := L, stack := [.ref a1, .ref a2, .ref a3].reverse, locked := none }) tg → Steps p.tables e bl (U.setTop (entryFrame mk (.ref b :: [.ref a1, .ref a2, .ref a3]).toArray 4)) tg := by
  have hc : ck.code = fb6j := ByteArray.ext h
  refine ⟨#[.val (.ref b), .val (.ref a1), .val (.ref a2), .val (.ref a3)], by rw [hml]; rfl, fun tg k => ?_⟩
  have h0 : entryFrame mk (.ref b :: [.ref a1, .ref a2, .ref a3]).toArray 4 = { method := mk, pc := 0, locals := #[.val (.ref b), .val (.ref a1), .val (.ref a2), .val (.ref a3)], stack := [], locked := none } := rfl
  rw [h0]
  jvm_step hA [hexec, hc, dd6j0, Value.isRef]
  jvm_step hA [hexec, hc, dd6j1, Value.isRef]
  jvm_step hA [hexec, hc, dd6j2, Value.isRef]
  exact k
theorem fl5m {a : Nat} {x : Int32} (hexec : p.tables.exec = Jvm.exec) (b : Nat) (mk : MethodId) (ck : Code) (U : State) (bl : List Frame) (h : ck.code.data = ([0x2a, 0xb4, 0x00, 0x0f, 0x2b, 0x1c, 0xb6, 0x00, 0x16, 0xb1] : List UInt8).toArray) (hml : ck.maxLocals = 3) (hA : At U mk ck bl) :
    (entryFrame mk (.ref b :: [.ref a, .int x]).toArray 3).locals.size = 3 ∧ (entryFrame mk (.ref b :: [.ref a, .int x]).toArray 3).locals[0]? = some (.val (.ref b)) ∧ ∀ (tg : State) (S0 : List Value), Steps p.tables e bl (U.setTop { method := mk, pc := 6, locals := (entryFrame mk (.ref b :: [.ref a, .int x]).toArray 3).locals, stack := [.ref a, .int x].reverse ++ S0, locked := none }) tg → Steps p.tables e bl (U.setTop { method := mk, pc := 4, locals := (entryFrame mk (.ref b :: [.ref a, .int x]).toArray 3).locals, stack := S0, locked := none }) tg := by
  have hc : ck.code = fb5m := ByteArray.ext h
  have h0 : (entryFrame mk (.ref b :: [.ref a, .int x]).toArray 3).locals = #[.val (.ref b), .val (.ref a), .val (.int x)] := rfl
  rw [h0]
  refine ⟨rfl, rfl, fun tg S0 k => ?_⟩
  jvm_step hA [hexec, hc, dd5m4, Value.isRef]
  jvm_step hA [hexec, hc, dd5m5]
  exact k
theorem fl5j {a1 a2 a3 : Nat} (hexec : p.tables.exec = Jvm.exec) (b : Nat) (mk : MethodId) (ck : Code) (U : State) (bl : List Frame) (h : ck.code.data = ([0x2a, 0xb4, 0x00, 0x0f, 0x2b, 0x2c, 0x2d, 0xb6, 0x00, 0x16, 0xb1] : List UInt8).toArray) (hml : ck.maxLocals = 4) (hA : At U mk ck bl) :
    (entryFrame mk (.ref b :: [.ref a1, .ref a2, .ref a3]).toArray 4).locals.size = 4 ∧ (entryFrame mk (.ref b :: [.ref a1, .ref a2, .ref a3]).toArray 4).locals[0]? = some (.val (.ref b)) ∧ ∀ (tg : State) (S0 : List Value), Steps p.tables e bl (U.setTop { method := mk, pc := 7, locals := (entryFrame mk (.ref b :: [.ref a1, .ref a2, .ref a3]).toArray 4).locals, stack := [.ref a1, .ref a2, .ref a3].reverse ++ S0, locked := none }) tg → Steps p.tables e bl (U.setTop { method := mk, pc := 4, locals := (entryFrame mk (.ref b :: [.ref a1, .ref a2, .ref a3]).toArray 4).locals, stack := S0, locked := none }) tg := by
  have hc : ck.code = fb5j := ByteArray.ext h
  have h0 : (entryFrame mk (.ref b :: [.ref a1, .ref a2, .ref a3]).toArray 4).locals = #[.val (.ref b), .val (.ref a1), .val (.ref a2), .val (.ref a3)] := rfl
  rw [h0]
  refine ⟨rfl, rfl, fun tg S0 k => ?_⟩
  jvm_step hA [hexec, hc, dd5j4, Value.isRef]
  jvm_step hA [hexec, hc, dd5j5, Value.isRef]
  jvm_step hA [hexec, hc, dd5j6, Value.isRef]
  exact k
end ZLD
