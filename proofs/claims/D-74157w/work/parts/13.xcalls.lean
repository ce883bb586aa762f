set_option maxRecDepth 100000
theorem zg_chk {c : Prop} [Decidable c] {α : Type} {f : Option α} {z : α} {P : Prop} (h : (if c then f else none) = some z) (k : c → f = some z → P) : P := k (zg_some h).1 (zg_some h).2
section ZYC
variable {p : Program} {l : Launch} {e : Env} {R : Room} {s : State} {m : MethodId} {args : Array Value} {below : List Frame} {meth : Method} {c : Code} {cc : ByteArray} {own : String} {nL N : Nat} {D : va_G} {dA : Nat → ClassId} {G : Nat → Nat} {tb : Nat} {ad : Nat → Nat} {A : Nat → Prop} {Q : State → Prop} {σ : XS} {u v pc rk rs : Nat} {lv : List (Nat × Value)} {st rest : List Value} {y : MethodName} {bytes : ByteArray} {maxL n' mc ms na index b : Nat} {ret : Option FieldType} {As : List Value}
theorem zy_callViF {C : String} (hO : Ok p s m args meth c cc own nL D dA A) (hX : XK dA G A s) {f : Option (Int32 × XS)} {α : Type} {g : (Int32 × XS) → Option α} {z : α} (h : f.bind g = some z) (hM : ∀ q, f = some q → CtX l y (ws_ y bytes maxL ret) n' mc ms D dA G (.ref b :: As) (WX dA G tb ad σ) (QgI D dA (fun _ : Unit => WX dA G tb ad q.2) q.1)) (hw : MwX y bytes maxL ret C na) (hlk : Cond.methodLink own index y ∈ lw_all) (hR : n' + 1 ≤ N ∧ 8 + (maxL + 11) + 64 * n' ≤ 64 * N) (hc : u + mc ≤ rk ∧ v + ms ≤ rs) (hn : As.length = na)
    (hst : st = As.reverse ++ .ref b :: rest) (hrm : (rest.map fun x => x.category).sum ≤ 8) (hrecv : ∃ (k ci : Nat) (fs : List Value) (q : vw_C), (WX dA G tb ad σ)[k]? = some (b, .inr (ci, fs)) ∧ zg_cl[ci]? = some q ∧ q.1 = C) (hdg : decode cc pc = .ok (.invokevirtual index, 3)) (kk : ∀ q, g q = some z → Go p l e (rmG N rk rs) s m args below meth c D A nL Q (WX dA G tb ad q.2) (u + mc) (v + ms) (pc + 3) lv (.int q.1 :: rest)) : Go p l e (rmG N rk rs) s m args below meth c D A nL Q (WX dA G tb ad σ) u v pc lv st := by
  obtain ⟨q, h1, h2⟩ := zg_bind h
  exact zx_callVi (f := fun _ : Unit => WX dA G tb ad q.2) hO hX (hM q h1) hw hlk hR hc hn hst hrm hrecv hdg (fun _ => kk q h2)
theorem zy_callViG {C : String} (hO : Ok p s m args meth c cc own nL D dA A) (hX : XK dA G A s) {f : Option (Int32 × XS)} {α : Type} {g : (Int32 × XS) → Option α} {z : α} (h : f.bind g = some z) (hM : ∀ q, f = some q → CtX l y (ws_ y bytes maxL ret) n' mc ms D dA G (.ref b :: As) (WX dA G tb ad σ) (QgI D dA (fun z : (Nat → Nat) × Nat => WX dA G z.2 z.1 q.2) q.1)) (hw : MwX y bytes maxL ret C na) (hlk : Cond.methodLink own index y ∈ lw_all) (hR : n' + 1 ≤ N ∧ 8 + (maxL + 11) + 64 * n' ≤ 64 * N) (hc : u + mc ≤ rk ∧ v + ms ≤ rs) (hn : As.length = na)
    (hst : st = As.reverse ++ .ref b :: rest) (hrm : (rest.map fun x => x.category).sum ≤ 8) (hrecv : ∃ (k ci : Nat) (fs : List Value) (q : vw_C), (WX dA G tb ad σ)[k]? = some (b, .inr (ci, fs)) ∧ zg_cl[ci]? = some q ∧ q.1 = C) (hdg : decode cc pc = .ok (.invokevirtual index, 3)) (kk : ∀ q ad' tb', g q = some z → Go p l e (rmG N rk rs) s m args below meth c D A nL Q (WX dA G tb' ad' q.2) (u + mc) (v + ms) (pc + 3) lv (.int q.1 :: rest)) : Go p l e (rmG N rk rs) s m args below meth c D A nL Q (WX dA G tb ad σ) u v pc lv st := by
  obtain ⟨q, h1, h2⟩ := zg_bind h
  exact zx_callVi (f := fun z : (Nat → Nat) × Nat => WX dA G z.2 z.1 q.2) hO hX (hM q h1) hw hlk hR hc hn hst hrm hrecv hdg (fun z => kk q z.1 z.2 h2)
theorem zy_callVlF {C : String} (hO : Ok p s m args meth c cc own nL D dA A) (hX : XK dA G A s) {f : Option (Int64 × XS)} {α : Type} {g : (Int64 × XS) → Option α} {z : α} (h : f.bind g = some z) (hM : ∀ q, f = some q → CtX l y (ws_ y bytes maxL ret) n' mc ms D dA G (.ref b :: As) (WX dA G tb ad σ) (QgL D dA (fun _ : Unit => WX dA G tb ad q.2) q.1)) (hw : MwX y bytes maxL ret C na) (hlk : Cond.methodLink own index y ∈ lw_all) (hR : n' + 1 ≤ N ∧ 8 + (maxL + 11) + 64 * n' ≤ 64 * N) (hc : u + mc ≤ rk ∧ v + ms ≤ rs) (hn : As.length = na)
    (hst : st = As.reverse ++ .ref b :: rest) (hrm : (rest.map fun x => x.category).sum ≤ 8) (hrecv : ∃ (k ci : Nat) (fs : List Value) (q : vw_C), (WX dA G tb ad σ)[k]? = some (b, .inr (ci, fs)) ∧ zg_cl[ci]? = some q ∧ q.1 = C) (hdg : decode cc pc = .ok (.invokevirtual index, 3)) (kk : ∀ q, g q = some z → Go p l e (rmG N rk rs) s m args below meth c D A nL Q (WX dA G tb ad q.2) (u + mc) (v + ms) (pc + 3) lv (.long q.1 :: rest)) : Go p l e (rmG N rk rs) s m args below meth c D A nL Q (WX dA G tb ad σ) u v pc lv st := by
  obtain ⟨q, h1, h2⟩ := zg_bind h
  exact zx_callVl (f := fun _ : Unit => WX dA G tb ad q.2) hO hX (hM q h1) hw hlk hR hc hn hst hrm hrecv hdg (fun _ => kk q h2)
theorem zy_callVlG {C : String} (hO : Ok p s m args meth c cc own nL D dA A) (hX : XK dA G A s) {f : Option (Int64 × XS)} {α : Type} {g : (Int64 × XS) → Option α} {z : α} (h : f.bind g = some z) (hM : ∀ q, f = some q → CtX l y (ws_ y bytes maxL ret) n' mc ms D dA G (.ref b :: As) (WX dA G tb ad σ) (QgL D dA (fun z : (Nat → Nat) × Nat => WX dA G z.2 z.1 q.2) q.1)) (hw : MwX y bytes maxL ret C na) (hlk : Cond.methodLink own index y ∈ lw_all) (hR : n' + 1 ≤ N ∧ 8 + (maxL + 11) + 64 * n' ≤ 64 * N) (hc : u + mc ≤ rk ∧ v + ms ≤ rs) (hn : As.length = na)
    (hst : st = As.reverse ++ .ref b :: rest) (hrm : (rest.map fun x => x.category).sum ≤ 8) (hrecv : ∃ (k ci : Nat) (fs : List Value) (q : vw_C), (WX dA G tb ad σ)[k]? = some (b, .inr (ci, fs)) ∧ zg_cl[ci]? = some q ∧ q.1 = C) (hdg : decode cc pc = .ok (.invokevirtual index, 3)) (kk : ∀ q ad' tb', g q = some z → Go p l e (rmG N rk rs) s m args below meth c D A nL Q (WX dA G tb' ad' q.2) (u + mc) (v + ms) (pc + 3) lv (.long q.1 :: rest)) : Go p l e (rmG N rk rs) s m args below meth c D A nL Q (WX dA G tb ad σ) u v pc lv st := by
  obtain ⟨q, h1, h2⟩ := zg_bind h
  exact zx_callVl (f := fun z : (Nat → Nat) × Nat => WX dA G z.2 z.1 q.2) hO hX (hM q h1) hw hlk hR hc hn hst hrm hrecv hdg (fun z => kk q z.1 z.2 h2)
theorem zy_callVvF {C : String} (hO : Ok p s m args meth c cc own nL D dA A) (hX : XK dA G A s) {f : Option (XS)} {α : Type} {g : (XS) → Option α} {z : α} (h : f.bind g = some z) (hM : ∀ q, f = some q → CtX l y (ws_ y bytes maxL ret) n' mc ms D dA G (.ref b :: As) (WX dA G tb ad σ) (QgV D dA (fun _ : Unit => WX dA G tb ad q))) (hw : MwX y bytes maxL ret C na) (hlk : Cond.methodLink own index y ∈ lw_all) (hR : n' + 1 ≤ N ∧ 8 + (maxL + 11) + 64 * n' ≤ 64 * N) (hc : u + mc ≤ rk ∧ v + ms ≤ rs) (hn : As.length = na)
    (hst : st = As.reverse ++ .ref b :: rest) (hrm : (rest.map fun x => x.category).sum ≤ 8) (hrecv : ∃ (k ci : Nat) (fs : List Value) (q : vw_C), (WX dA G tb ad σ)[k]? = some (b, .inr (ci, fs)) ∧ zg_cl[ci]? = some q ∧ q.1 = C) (hdg : decode cc pc = .ok (.invokevirtual index, 3)) (kk : ∀ q, g q = some z → Go p l e (rmG N rk rs) s m args below meth c D A nL Q (WX dA G tb ad q) (u + mc) (v + ms) (pc + 3) lv rest) : Go p l e (rmG N rk rs) s m args below meth c D A nL Q (WX dA G tb ad σ) u v pc lv st := by
  obtain ⟨q, h1, h2⟩ := zg_bind h
  exact zx_callVv (f := fun _ : Unit => WX dA G tb ad q) hO hX (hM q h1) hw hlk hR hc hn hst hrm hrecv hdg (fun _ => kk q h2)
theorem zy_callVvG {C : String} (hO : Ok p s m args meth c cc own nL D dA A) (hX : XK dA G A s) {f : Option (XS)} {α : Type} {g : (XS) → Option α} {z : α} (h : f.bind g = some z) (hM : ∀ q, f = some q → CtX l y (ws_ y bytes maxL ret) n' mc ms D dA G (.ref b :: As) (WX dA G tb ad σ) (QgV D dA (fun z : (Nat → Nat) × Nat => WX dA G z.2 z.1 q))) (hw : MwX y bytes maxL ret C na) (hlk : Cond.methodLink own index y ∈ lw_all) (hR : n' + 1 ≤ N ∧ 8 + (maxL + 11) + 64 * n' ≤ 64 * N) (hc : u + mc ≤ rk ∧ v + ms ≤ rs) (hn : As.length = na)
    (hst : st = As.reverse ++ .ref b :: rest) (hrm : (rest.map fun x => x.category).sum ≤ 8) (hrecv : ∃ (k ci : Nat) (fs : List Value) (q : vw_C), (WX dA G tb ad σ)[k]? = some (b, .inr (ci, fs)) ∧ zg_cl[ci]? = some q ∧ q.1 = C) (hdg : decode cc pc = .ok (.invokevirtual index, 3)) (kk : ∀ q ad' tb', g q = some z → Go p l e (rmG N rk rs) s m args below meth c D A nL Q (WX dA G tb' ad' q) (u + mc) (v + ms) (pc + 3) lv rest) : Go p l e (rmG N rk rs) s m args below meth c D A nL Q (WX dA G tb ad σ) u v pc lv st := by
  obtain ⟨q, h1, h2⟩ := zg_bind h
  exact zx_callVv (f := fun z : (Nat → Nat) × Nat => WX dA G z.2 z.1 q) hO hX (hM q h1) hw hlk hR hc hn hst hrm hrecv hdg (fun z => kk q z.1 z.2 h2)
theorem zy_callNiF {C host : String} (hO : Ok p s m args meth c cc own nL D dA A) (hX : XK dA G A s) {f : Option (Int32 × XS)} {α : Type} {g : (Int32 × XS) → Option α} {z : α} (h : f.bind g = some z) (hM : ∀ q, f = some q → CtX l y (ws_ y bytes maxL ret) n' mc ms D dA G (.ref b :: As) (WX dA G tb ad σ) (QgI D dA (fun _ : Unit => WX dA G tb ad q.2) q.1)) (hw : MwX y bytes maxL ret C na) (hlk : Cond.methodLinkNest own index y host ∈ lw_tbl) (hR : n' + 1 ≤ N ∧ 8 + (maxL + 11) + 64 * n' ≤ 64 * N) (hc : u + mc ≤ rk ∧ v + ms ≤ rs) (hn : As.length = na)
    (hst : st = As.reverse ++ .ref b :: rest) (hrm : (rest.map fun x => x.category).sum ≤ 8) (hrecv : ∃ (k ci : Nat) (fs : List Value) (q : vw_C), (WX dA G tb ad σ)[k]? = some (b, .inr (ci, fs)) ∧ zg_cl[ci]? = some q ∧ q.1 = C) (hdg : decode cc pc = .ok (.invokevirtual index, 3)) (kk : ∀ q, g q = some z → Go p l e (rmG N rk rs) s m args below meth c D A nL Q (WX dA G tb ad q.2) (u + mc) (v + ms) (pc + 3) lv (.int q.1 :: rest)) : Go p l e (rmG N rk rs) s m args below meth c D A nL Q (WX dA G tb ad σ) u v pc lv st := by
  obtain ⟨q, h1, h2⟩ := zg_bind h
  exact zx_callNi (f := fun _ : Unit => WX dA G tb ad q.2) hO hX (hM q h1) hw hlk hR hc hn hst hrm hrecv hdg (fun _ => kk q h2)
theorem zy_callNiG {C host : String} (hO : Ok p s m args meth c cc own nL D dA A) (hX : XK dA G A s) {f : Option (Int32 × XS)} {α : Type} {g : (Int32 × XS) → Option α} {z : α} (h : f.bind g = some z) (hM : ∀ q, f = some q → CtX l y (ws_ y bytes maxL ret) n' mc ms D dA G (.ref b :: As) (WX dA G tb ad σ) (QgI D dA (fun z : (Nat → Nat) × Nat => WX dA G z.2 z.1 q.2) q.1)) (hw : MwX y bytes maxL ret C na) (hlk : Cond.methodLinkNest own index y host ∈ lw_tbl) (hR : n' + 1 ≤ N ∧ 8 + (maxL + 11) + 64 * n' ≤ 64 * N) (hc : u + mc ≤ rk ∧ v + ms ≤ rs) (hn : As.length = na)
    (hst : st = As.reverse ++ .ref b :: rest) (hrm : (rest.map fun x => x.category).sum ≤ 8) (hrecv : ∃ (k ci : Nat) (fs : List Value) (q : vw_C), (WX dA G tb ad σ)[k]? = some (b, .inr (ci, fs)) ∧ zg_cl[ci]? = some q ∧ q.1 = C) (hdg : decode cc pc = .ok (.invokevirtual index, 3)) (kk : ∀ q ad' tb', g q = some z → Go p l e (rmG N rk rs) s m args below meth c D A nL Q (WX dA G tb' ad' q.2) (u + mc) (v + ms) (pc + 3) lv (.int q.1 :: rest)) : Go p l e (rmG N rk rs) s m args below meth c D A nL Q (WX dA G tb ad σ) u v pc lv st := by
  obtain ⟨q, h1, h2⟩ := zg_bind h
  exact zx_callNi (f := fun z : (Nat → Nat) × Nat => WX dA G z.2 z.1 q.2) hO hX (hM q h1) hw hlk hR hc hn hst hrm hrecv hdg (fun z => kk q z.1 z.2 h2)
theorem zy_callNlF {C host : String} (hO : Ok p s m args meth c cc own nL D dA A) (hX : XK dA G A s) {f : Option (Int64 × XS)} {α : Type} {g : (Int64 × XS) → Option α} {z : α} (h : f.bind g = some z) (hM : ∀ q, f = some q → CtX l y (ws_ y bytes maxL ret) n' mc ms D dA G (.ref b :: As) (WX dA G tb ad σ) (QgL D dA (fun _ : Unit => WX dA G tb ad q.2) q.1)) (hw : MwX y bytes maxL ret C na) (hlk : Cond.methodLinkNest own index y host ∈ lw_tbl) (hR : n' + 1 ≤ N ∧ 8 + (maxL + 11) + 64 * n' ≤ 64 * N) (hc : u + mc ≤ rk ∧ v + ms ≤ rs) (hn : As.length = na)
    (hst : st = As.reverse ++ .ref b :: rest) (hrm : (rest.map fun x => x.category).sum ≤ 8) (hrecv : ∃ (k ci : Nat) (fs : List Value) (q : vw_C), (WX dA G tb ad σ)[k]? = some (b, .inr (ci, fs)) ∧ zg_cl[ci]? = some q ∧ q.1 = C) (hdg : decode cc pc = .ok (.invokevirtual index, 3)) (kk : ∀ q, g q = some z → Go p l e (rmG N rk rs) s m args below meth c D A nL Q (WX dA G tb ad q.2) (u + mc) (v + ms) (pc + 3) lv (.long q.1 :: rest)) : Go p l e (rmG N rk rs) s m args below meth c D A nL Q (WX dA G tb ad σ) u v pc lv st := by
  obtain ⟨q, h1, h2⟩ := zg_bind h
  exact zx_callNl (f := fun _ : Unit => WX dA G tb ad q.2) hO hX (hM q h1) hw hlk hR hc hn hst hrm hrecv hdg (fun _ => kk q h2)
theorem zy_callNlG {C host : String} (hO : Ok p s m args meth c cc own nL D dA A) (hX : XK dA G A s) {f : Option (Int64 × XS)} {α : Type} {g : (Int64 × XS) → Option α} {z : α} (h : f.bind g = some z) (hM : ∀ q, f = some q → CtX l y (ws_ y bytes maxL ret) n' mc ms D dA G (.ref b :: As) (WX dA G tb ad σ) (QgL D dA (fun z : (Nat → Nat) × Nat => WX dA G z.2 z.1 q.2) q.1)) (hw : MwX y bytes maxL ret C na) (hlk : Cond.methodLinkNest own index y host ∈ lw_tbl) (hR : n' + 1 ≤ N ∧ 8 + (maxL + 11) + 64 * n' ≤ 64 * N) (hc : u + mc ≤ rk ∧ v + ms ≤ rs) (hn : As.length = na)
    (hst : st = As.reverse ++ .ref b :: rest) (hrm : (rest.map fun x => x.category).sum ≤ 8) (hrecv : ∃ (k ci : Nat) (fs : List Value) (q : vw_C), (WX dA G tb ad σ)[k]? = some (b, .inr (ci, fs)) ∧ zg_cl[ci]? = some q ∧ q.1 = C) (hdg : decode cc pc = .ok (.invokevirtual index, 3)) (kk : ∀ q ad' tb', g q = some z → Go p l e (rmG N rk rs) s m args below meth c D A nL Q (WX dA G tb' ad' q.2) (u + mc) (v + ms) (pc + 3) lv (.long q.1 :: rest)) : Go p l e (rmG N rk rs) s m args below meth c D A nL Q (WX dA G tb ad σ) u v pc lv st := by
  obtain ⟨q, h1, h2⟩ := zg_bind h
  exact zx_callNl (f := fun z : (Nat → Nat) × Nat => WX dA G z.2 z.1 q.2) hO hX (hM q h1) hw hlk hR hc hn hst hrm hrecv hdg (fun z => kk q z.1 z.2 h2)
theorem zy_callNvF {C host : String} (hO : Ok p s m args meth c cc own nL D dA A) (hX : XK dA G A s) {f : Option (XS)} {α : Type} {g : (XS) → Option α} {z : α} (h : f.bind g = some z) (hM : ∀ q, f = some q → CtX l y (ws_ y bytes maxL ret) n' mc ms D dA G (.ref b :: As) (WX dA G tb ad σ) (QgV D dA (fun _ : Unit => WX dA G tb ad q))) (hw : MwX y bytes maxL ret C na) (hlk : Cond.methodLinkNest own index y host ∈ lw_tbl) (hR : n' + 1 ≤ N ∧ 8 + (maxL + 11) + 64 * n' ≤ 64 * N) (hc : u + mc ≤ rk ∧ v + ms ≤ rs) (hn : As.length = na)
    (hst : st = As.reverse ++ .ref b :: rest) (hrm : (rest.map fun x => x.category).sum ≤ 8) (hrecv : ∃ (k ci : Nat) (fs : List Value) (q : vw_C), (WX dA G tb ad σ)[k]? = some (b, .inr (ci, fs)) ∧ zg_cl[ci]? = some q ∧ q.1 = C) (hdg : decode cc pc = .ok (.invokevirtual index, 3)) (kk : ∀ q, g q = some z → Go p l e (rmG N rk rs) s m args below meth c D A nL Q (WX dA G tb ad q) (u + mc) (v + ms) (pc + 3) lv rest) : Go p l e (rmG N rk rs) s m args below meth c D A nL Q (WX dA G tb ad σ) u v pc lv st := by
  obtain ⟨q, h1, h2⟩ := zg_bind h
  exact zx_callNv (f := fun _ : Unit => WX dA G tb ad q) hO hX (hM q h1) hw hlk hR hc hn hst hrm hrecv hdg (fun _ => kk q h2)
theorem zy_callNvG {C host : String} (hO : Ok p s m args meth c cc own nL D dA A) (hX : XK dA G A s) {f : Option (XS)} {α : Type} {g : (XS) → Option α} {z : α} (h : f.bind g = some z) (hM : ∀ q, f = some q → CtX l y (ws_ y bytes maxL ret) n' mc ms D dA G (.ref b :: As) (WX dA G tb ad σ) (QgV D dA (fun z : (Nat → Nat) × Nat => WX dA G z.2 z.1 q))) (hw : MwX y bytes maxL ret C na) (hlk : Cond.methodLinkNest own index y host ∈ lw_tbl) (hR : n' + 1 ≤ N ∧ 8 + (maxL + 11) + 64 * n' ≤ 64 * N) (hc : u + mc ≤ rk ∧ v + ms ≤ rs) (hn : As.length = na)
    (hst : st = As.reverse ++ .ref b :: rest) (hrm : (rest.map fun x => x.category).sum ≤ 8) (hrecv : ∃ (k ci : Nat) (fs : List Value) (q : vw_C), (WX dA G tb ad σ)[k]? = some (b, .inr (ci, fs)) ∧ zg_cl[ci]? = some q ∧ q.1 = C) (hdg : decode cc pc = .ok (.invokevirtual index, 3)) (kk : ∀ q ad' tb', g q = some z → Go p l e (rmG N rk rs) s m args below meth c D A nL Q (WX dA G tb' ad' q) (u + mc) (v + ms) (pc + 3) lv rest) : Go p l e (rmG N rk rs) s m args below meth c D A nL Q (WX dA G tb ad σ) u v pc lv st := by
  obtain ⟨q, h1, h2⟩ := zg_bind h
  exact zx_callNv (f := fun z : (Nat → Nat) × Nat => WX dA G z.2 z.1 q) hO hX (hM q h1) hw hlk hR hc hn hst hrm hrecv hdg (fun z => kk q z.1 z.2 h2)
theorem zy_callSiF (hO : Ok p s m args meth c cc own nL D dA A) (hX : XK dA G A s) {f : Option (Int32 × XS)} {α : Type} {g : (Int32 × XS) → Option α} {z : α} (h : f.bind g = some z) (hM : ∀ q, f = some q → CtX l y (ws_ y bytes maxL ret) n' mc ms D dA G (As) (WX dA G tb ad σ) (QgI D dA (fun _ : Unit => WX dA G tb ad q.2) q.1)) (hw : MwS y bytes maxL ret na) (hlk : Cond.methodLink own index y ∈ lw_all) (hR : n' + 1 ≤ N ∧ 8 + (maxL + 11) + 64 * n' ≤ 64 * N) (hc : u + mc ≤ rk ∧ v + ms ≤ rs) (hn : As.length = na)
    (hst : st = As.reverse ++ rest) (hrm : (rest.map fun x => x.category).sum ≤ 8) (hdg : decode cc pc = .ok (.invokestatic index, 3)) (kk : ∀ q, g q = some z → Go p l e (rmG N rk rs) s m args below meth c D A nL Q (WX dA G tb ad q.2) (u + mc) (v + ms) (pc + 3) lv (.int q.1 :: rest)) : Go p l e (rmG N rk rs) s m args below meth c D A nL Q (WX dA G tb ad σ) u v pc lv st := by
  obtain ⟨q, h1, h2⟩ := zg_bind h
  exact zx_callSi (f := fun _ : Unit => WX dA G tb ad q.2) hO hX (hM q h1) hw hlk hR hc hn hst hrm hdg (fun _ => kk q h2)
theorem zy_callSiG (hO : Ok p s m args meth c cc own nL D dA A) (hX : XK dA G A s) {f : Option (Int32 × XS)} {α : Type} {g : (Int32 × XS) → Option α} {z : α} (h : f.bind g = some z) (hM : ∀ q, f = some q → CtX l y (ws_ y bytes maxL ret) n' mc ms D dA G (As) (WX dA G tb ad σ) (QgI D dA (fun z : (Nat → Nat) × Nat => WX dA G z.2 z.1 q.2) q.1)) (hw : MwS y bytes maxL ret na) (hlk : Cond.methodLink own index y ∈ lw_all) (hR : n' + 1 ≤ N ∧ 8 + (maxL + 11) + 64 * n' ≤ 64 * N) (hc : u + mc ≤ rk ∧ v + ms ≤ rs) (hn : As.length = na)
    (hst : st = As.reverse ++ rest) (hrm : (rest.map fun x => x.category).sum ≤ 8) (hdg : decode cc pc = .ok (.invokestatic index, 3)) (kk : ∀ q ad' tb', g q = some z → Go p l e (rmG N rk rs) s m args below meth c D A nL Q (WX dA G tb' ad' q.2) (u + mc) (v + ms) (pc + 3) lv (.int q.1 :: rest)) : Go p l e (rmG N rk rs) s m args below meth c D A nL Q (WX dA G tb ad σ) u v pc lv st := by
  obtain ⟨q, h1, h2⟩ := zg_bind h
  exact zx_callSi (f := fun z : (Nat → Nat) × Nat => WX dA G z.2 z.1 q.2) hO hX (hM q h1) hw hlk hR hc hn hst hrm hdg (fun z => kk q z.1 z.2 h2)
theorem zy_callSlF (hO : Ok p s m args meth c cc own nL D dA A) (hX : XK dA G A s) {f : Option (Int64 × XS)} {α : Type} {g : (Int64 × XS) → Option α} {z : α} (h : f.bind g = some z) (hM : ∀ q, f = some q → CtX l y (ws_ y bytes maxL ret) n' mc ms D dA G (As) (WX dA G tb ad σ) (QgL D dA (fun _ : Unit => WX dA G tb ad q.2) q.1)) (hw : MwS y bytes maxL ret na) (hlk : Cond.methodLink own index y ∈ lw_all) (hR : n' + 1 ≤ N ∧ 8 + (maxL + 11) + 64 * n' ≤ 64 * N) (hc : u + mc ≤ rk ∧ v + ms ≤ rs) (hn : As.length = na)
    (hst : st = As.reverse ++ rest) (hrm : (rest.map fun x => x.category).sum ≤ 8) (hdg : decode cc pc = .ok (.invokestatic index, 3)) (kk : ∀ q, g q = some z → Go p l e (rmG N rk rs) s m args below meth c D A nL Q (WX dA G tb ad q.2) (u + mc) (v + ms) (pc + 3) lv (.long q.1 :: rest)) : Go p l e (rmG N rk rs) s m args below meth c D A nL Q (WX dA G tb ad σ) u v pc lv st := by
  obtain ⟨q, h1, h2⟩ := zg_bind h
  exact zx_callSl (f := fun _ : Unit => WX dA G tb ad q.2) hO hX (hM q h1) hw hlk hR hc hn hst hrm hdg (fun _ => kk q h2)
theorem zy_callSlG (hO : Ok p s m args meth c cc own nL D dA A) (hX : XK dA G A s) {f : Option (Int64 × XS)} {α : Type} {g : (Int64 × XS) → Option α} {z : α} (h : f.bind g = some z) (hM : ∀ q, f = some q → CtX l y (ws_ y bytes maxL ret) n' mc ms D dA G (As) (WX dA G tb ad σ) (QgL D dA (fun z : (Nat → Nat) × Nat => WX dA G z.2 z.1 q.2) q.1)) (hw : MwS y bytes maxL ret na) (hlk : Cond.methodLink own index y ∈ lw_all) (hR : n' + 1 ≤ N ∧ 8 + (maxL + 11) + 64 * n' ≤ 64 * N) (hc : u + mc ≤ rk ∧ v + ms ≤ rs) (hn : As.length = na)
    (hst : st = As.reverse ++ rest) (hrm : (rest.map fun x => x.category).sum ≤ 8) (hdg : decode cc pc = .ok (.invokestatic index, 3)) (kk : ∀ q ad' tb', g q = some z → Go p l e (rmG N rk rs) s m args below meth c D A nL Q (WX dA G tb' ad' q.2) (u + mc) (v + ms) (pc + 3) lv (.long q.1 :: rest)) : Go p l e (rmG N rk rs) s m args below meth c D A nL Q (WX dA G tb ad σ) u v pc lv st := by
  obtain ⟨q, h1, h2⟩ := zg_bind h
  exact zx_callSl (f := fun z : (Nat → Nat) × Nat => WX dA G z.2 z.1 q.2) hO hX (hM q h1) hw hlk hR hc hn hst hrm hdg (fun z => kk q z.1 z.2 h2)
theorem zy_callSvF (hO : Ok p s m args meth c cc own nL D dA A) (hX : XK dA G A s) {f : Option (XS)} {α : Type} {g : (XS) → Option α} {z : α} (h : f.bind g = some z) (hM : ∀ q, f = some q → CtX l y (ws_ y bytes maxL ret) n' mc ms D dA G (As) (WX dA G tb ad σ) (QgV D dA (fun _ : Unit => WX dA G tb ad q))) (hw : MwS y bytes maxL ret na) (hlk : Cond.methodLink own index y ∈ lw_all) (hR : n' + 1 ≤ N ∧ 8 + (maxL + 11) + 64 * n' ≤ 64 * N) (hc : u + mc ≤ rk ∧ v + ms ≤ rs) (hn : As.length = na)
    (hst : st = As.reverse ++ rest) (hrm : (rest.map fun x => x.category).sum ≤ 8) (hdg : decode cc pc = .ok (.invokestatic index, 3)) (kk : ∀ q, g q = some z → Go p l e (rmG N rk rs) s m args below meth c D A nL Q (WX dA G tb ad q) (u + mc) (v + ms) (pc + 3) lv rest) : Go p l e (rmG N rk rs) s m args below meth c D A nL Q (WX dA G tb ad σ) u v pc lv st := by
  obtain ⟨q, h1, h2⟩ := zg_bind h
  exact zx_callSv (f := fun _ : Unit => WX dA G tb ad q) hO hX (hM q h1) hw hlk hR hc hn hst hrm hdg (fun _ => kk q h2)
theorem zy_callSvG (hO : Ok p s m args meth c cc own nL D dA A) (hX : XK dA G A s) {f : Option (XS)} {α : Type} {g : (XS) → Option α} {z : α} (h : f.bind g = some z) (hM : ∀ q, f = some q → CtX l y (ws_ y bytes maxL ret) n' mc ms D dA G (As) (WX dA G tb ad σ) (QgV D dA (fun z : (Nat → Nat) × Nat => WX dA G z.2 z.1 q))) (hw : MwS y bytes maxL ret na) (hlk : Cond.methodLink own index y ∈ lw_all) (hR : n' + 1 ≤ N ∧ 8 + (maxL + 11) + 64 * n' ≤ 64 * N) (hc : u + mc ≤ rk ∧ v + ms ≤ rs) (hn : As.length = na)
    (hst : st = As.reverse ++ rest) (hrm : (rest.map fun x => x.category).sum ≤ 8) (hdg : decode cc pc = .ok (.invokestatic index, 3)) (kk : ∀ q ad' tb', g q = some z → Go p l e (rmG N rk rs) s m args below meth c D A nL Q (WX dA G tb' ad' q) (u + mc) (v + ms) (pc + 3) lv rest) : Go p l e (rmG N rk rs) s m args below meth c D A nL Q (WX dA G tb ad σ) u v pc lv st := by
  obtain ⟨q, h1, h2⟩ := zg_bind h
  exact zx_callSv (f := fun z : (Nat → Nat) × Nat => WX dA G z.2 z.1 q) hO hX (hM q h1) hw hlk hR hc hn hst hrm hdg (fun z => kk q z.1 z.2 h2)
theorem zy_callPi (hO : Ok p s m args meth c cc own nL D dA A) (hX : XK dA G A s) {f : Option (Int32 × XS)} {α : Type} {g : (Int32 × XS) → Option α} {z : α} {i : Nat} (h : f.bind g = some z) (hi : i < xN σ) (hM : ∀ q, f = some q → CtX l y (ws_ y bytes maxL ret) n' mc ms D dA G (.ref (ad i) :: As) (WX dA G tb ad σ) (QgI D dA (fun _ : Unit => WX dA G tb ad q.2) q.1)) (hw1 : MwX y bytes maxL ret RX2 na) (hw2 : MwX y bytes maxL ret RX5 na) (hlk : Cond.methodLink own index y ∈ lw_all) (hR : n' + 1 ≤ N ∧ 8 + (maxL + 11) + 64 * n' ≤ 64 * N) (hc : u + mc ≤ rk ∧ v + ms ≤ rs) (hn : As.length = na)
    (hst : st = As.reverse ++ .ref (ad i) :: rest) (hrm : (rest.map fun x => x.category).sum ≤ 8) (hdg : decode cc pc = .ok (.invokevirtual index, 3)) (kk : ∀ q, g q = some z → Go p l e (rmG N rk rs) s m args below meth c D A nL Q (WX dA G tb ad q.2) (u + mc) (v + ms) (pc + 3) lv (.int q.1 :: rest)) : Go p l e (rmG N rk rs) s m args below meth c D A nL Q (WX dA G tb ad σ) u v pc lv st := by
  obtain ⟨q, h1, h2⟩ := zg_bind h
  cases hk : rK (xC σ i) with
  | false => exact zx_callVi (f := fun _ : Unit => WX dA G tb ad q.2) hO hX (hM q h1) hw1 hlk hR hc hn hst hrm ⟨63 + i, 3, _, _, wx_f hi hk, rfl, rfl⟩ hdg (fun _ => kk q h2)
  | true => exact zx_callVi (f := fun _ : Unit => WX dA G tb ad q.2) hO hX (hM q h1) hw2 hlk hR hc hn hst hrm ⟨63 + i, 4, _, _, wx_t hi hk, rfl, rfl⟩ hdg (fun _ => kk q h2)
theorem zy_callPv (hO : Ok p s m args meth c cc own nL D dA A) (hX : XK dA G A s) {f : Option (XS)} {α : Type} {g : (XS) → Option α} {z : α} {i : Nat} (h : f.bind g = some z) (hi : i < xN σ) (hM : ∀ q, f = some q → CtX l y (ws_ y bytes maxL ret) n' mc ms D dA G (.ref (ad i) :: As) (WX dA G tb ad σ) (QgV D dA (fun _ : Unit => WX dA G tb ad q))) (hw1 : MwX y bytes maxL ret RX2 na) (hw2 : MwX y bytes maxL ret RX5 na) (hlk : Cond.methodLink own index y ∈ lw_all) (hR : n' + 1 ≤ N ∧ 8 + (maxL + 11) + 64 * n' ≤ 64 * N) (hc : u + mc ≤ rk ∧ v + ms ≤ rs) (hn : As.length = na)
    (hst : st = As.reverse ++ .ref (ad i) :: rest) (hrm : (rest.map fun x => x.category).sum ≤ 8) (hdg : decode cc pc = .ok (.invokevirtual index, 3)) (kk : ∀ q, g q = some z → Go p l e (rmG N rk rs) s m args below meth c D A nL Q (WX dA G tb ad q) (u + mc) (v + ms) (pc + 3) lv rest) : Go p l e (rmG N rk rs) s m args below meth c D A nL Q (WX dA G tb ad σ) u v pc lv st := by
  obtain ⟨q, h1, h2⟩ := zg_bind h
  cases hk : rK (xC σ i) with
  | false => exact zx_callVv (f := fun _ : Unit => WX dA G tb ad q) hO hX (hM q h1) hw1 hlk hR hc hn hst hrm ⟨63 + i, 3, _, _, wx_f hi hk, rfl, rfl⟩ hdg (fun _ => kk q h2)
  | true => exact zx_callVv (f := fun _ : Unit => WX dA G tb ad q) hO hX (hM q h1) hw2 hlk hR hc hn hst hrm ⟨63 + i, 4, _, _, wx_t hi hk, rfl, rfl⟩ hdg (fun _ => kk q h2)
theorem zy_iretF (hO : Ok p s m args meth c cc own nL D dA A) (hr : meth.sig.returnType = some .int) {x : Int32} {ρ : Int32 × XS} (h : some (x, σ) = some ρ) {mc ms : Nat} (hc : u ≤ mc ∧ v ≤ ms) (hdg : decode cc pc = .ok (.ireturn, 1)) : Go p l e R s m args below meth c D A nL (MQ below ((QgI D dA (fun _ : Unit => WX dA G tb ad ρ.2) ρ.1) A) args s mc ms A) (WX dA G tb ad σ) u v pc lv [.int x] := by
  cases h
  exact zx_iret (f := fun _ : Unit => WX dA G tb ad σ) hO hr () rfl rfl hc hdg
theorem zy_lretF (hO : Ok p s m args meth c cc own nL D dA A) (hr : meth.sig.returnType = some .long) {x : Int64} {ρ : Int64 × XS} (h : some (x, σ) = some ρ) {mc ms : Nat} (hc : u ≤ mc ∧ v ≤ ms) (hdg : decode cc pc = .ok (.lreturn, 1)) : Go p l e R s m args below meth c D A nL (MQ below ((QgL D dA (fun _ : Unit => WX dA G tb ad ρ.2) ρ.1) A) args s mc ms A) (WX dA G tb ad σ) u v pc lv [.long x] := by
  cases h
  exact zx_lret (f := fun _ : Unit => WX dA G tb ad σ) hO hr () rfl rfl hc hdg
theorem zy_zretF (hO : Ok p s m args meth c cc own nL D dA A) (hr : meth.sig.returnType = some .boolean) {x : Int32} {ρ : Int32 × XS} (hx : x = 0 ∨ x = 1) (h : some (x, σ) = some ρ) {mc ms : Nat} (hc : u ≤ mc ∧ v ≤ ms) (hdg : decode cc pc = .ok (.ireturn, 1)) : Go p l e R s m args below meth c D A nL (MQ below ((QgI D dA (fun _ : Unit => WX dA G tb ad ρ.2) ρ.1) A) args s mc ms A) (WX dA G tb ad σ) u v pc lv [.int x] := by
  cases h
  exact zx_zret (f := fun _ : Unit => WX dA G tb ad σ) hO hr hx () rfl rfl hc hdg
theorem zy_vretF (hO : Ok p s m args meth c cc own nL D dA A) (hr : meth.sig.returnType = none) {ρ : XS} (h : some σ = some ρ) {mc ms : Nat} (hc : u ≤ mc ∧ v ≤ ms) (hdg : decode cc pc = .ok (.return_, 1)) : Go p l e R s m args below meth c D A nL (MQ below ((QgV D dA (fun _ : Unit => WX dA G tb ad ρ)) A) args s mc ms A) (WX dA G tb ad σ) u v pc lv [] := by
  cases h
  exact zx_vret (f := fun _ : Unit => WX dA G tb ad σ) hO hr () rfl hc hdg
theorem zy_iretG (hO : Ok p s m args meth c cc own nL D dA A) (hr : meth.sig.returnType = some .int) {x : Int32} {ρ : Int32 × XS} (h : some (x, σ) = some ρ) {mc ms : Nat} (hc : u ≤ mc ∧ v ≤ ms) (hdg : decode cc pc = .ok (.ireturn, 1)) : Go p l e R s m args below meth c D A nL (MQ below ((QgI D dA (fun z : (Nat → Nat) × Nat => WX dA G z.2 z.1 ρ.2) ρ.1) A) args s mc ms A) (WX dA G tb ad σ) u v pc lv [.int x] := by
  cases h
  exact zx_iret (f := fun z : (Nat → Nat) × Nat => WX dA G z.2 z.1 σ) hO hr (ad, tb) rfl rfl hc hdg
theorem zy_lretG (hO : Ok p s m args meth c cc own nL D dA A) (hr : meth.sig.returnType = some .long) {x : Int64} {ρ : Int64 × XS} (h : some (x, σ) = some ρ) {mc ms : Nat} (hc : u ≤ mc ∧ v ≤ ms) (hdg : decode cc pc = .ok (.lreturn, 1)) : Go p l e R s m args below meth c D A nL (MQ below ((QgL D dA (fun z : (Nat → Nat) × Nat => WX dA G z.2 z.1 ρ.2) ρ.1) A) args s mc ms A) (WX dA G tb ad σ) u v pc lv [.long x] := by
  cases h
  exact zx_lret (f := fun z : (Nat → Nat) × Nat => WX dA G z.2 z.1 σ) hO hr (ad, tb) rfl rfl hc hdg
theorem zy_zretG (hO : Ok p s m args meth c cc own nL D dA A) (hr : meth.sig.returnType = some .boolean) {x : Int32} {ρ : Int32 × XS} (hx : x = 0 ∨ x = 1) (h : some (x, σ) = some ρ) {mc ms : Nat} (hc : u ≤ mc ∧ v ≤ ms) (hdg : decode cc pc = .ok (.ireturn, 1)) : Go p l e R s m args below meth c D A nL (MQ below ((QgI D dA (fun z : (Nat → Nat) × Nat => WX dA G z.2 z.1 ρ.2) ρ.1) A) args s mc ms A) (WX dA G tb ad σ) u v pc lv [.int x] := by
  cases h
  exact zx_zret (f := fun z : (Nat → Nat) × Nat => WX dA G z.2 z.1 σ) hO hr hx (ad, tb) rfl rfl hc hdg
theorem zy_vretG (hO : Ok p s m args meth c cc own nL D dA A) (hr : meth.sig.returnType = none) {ρ : XS} (h : some σ = some ρ) {mc ms : Nat} (hc : u ≤ mc ∧ v ≤ ms) (hdg : decode cc pc = .ok (.return_, 1)) : Go p l e R s m args below meth c D A nL (MQ below ((QgV D dA (fun z : (Nat → Nat) × Nat => WX dA G z.2 z.1 ρ)) A) args s mc ms A) (WX dA G tb ad σ) u v pc lv [] := by
  cases h
  exact zx_vret (f := fun z : (Nat → Nat) × Nat => WX dA G z.2 z.1 σ) hO hr (ad, tb) rfl hc hdg
end ZYC
section ZYS
variable {p : Program} {l : Launch} {e : Env} {R : Room} {s : State} {m : MethodId} {args : Array Value} {below : List Frame} {meth : Method} {c : Code} {cc : ByteArray} {own : String} {nL N : Nat} {D : va_G} {dA : Nat → ClassId} {G : Nat → Nat} {tb : Nat} {ad : Nat → Nat} {A : Nat → Prop} {Q : State → Prop} {σ : XS} {u v pc rk rs : Nat} {lv : List (Nat × Value)} {st rest : List Value}
theorem zy_castL (hO : Ok p s m args meth c cc own nL D dA A) {i index : Nat} (hi : i < 5) (hlk : Cond.classLink own index "EndSums$Line" ∈ lw_all) (hdg : decode cc pc = .ok (.checkcast index, 3)) (kk : Go p l e R s m args below meth c D A nL Q (WX dA G tb ad σ) u v (pc + 3) lv (.ref (G (48 + 3 * i)) :: st)) : Go p l e R s m args below meth c D A nL Q (WX dA G tb ad σ) u v pc lv (.ref (G (48 + 3 * i)) :: st) :=
  fun H locs ls hP hD hS hl => va_castS (nm := "EndSums$Line") hO.1 hO.2.1 hO.2.2.2.1 (hO.2.2.2.2.1 _ hlk) (hO.2.2.2.2.2.1.1 2 _ rfl).2 (va_recv hO.2.2.2.2.2.1 hP (ci := 2) (q := (RX3, TX3, 3)) rfl (wx_line hi)) hdg (kk H locs ls hP hD hS hl)
theorem zg_aldA (hO : Ok p s m args meth c cc own nL D dA A) {ws : va_W} {a n t0 : Nat} {cA : ClassId} {f : Nat → Option Nat} {i : Int32} {α : Type} {g : Option α} {z : α} (h : (if i < 0 ∨ n ≤ i.toNatClampNeg then none else g) = some z) (q0 : Nat) (ha : ws[q0]? = some (a, .inl (cA, n, .inr (.inr (.inr (.inr f)))))) (ht : (zg_tys dA)[t0]? = some (cA, .array .int)) (hdg : decode cc pc = .ok (.aaload, 1)) (kk : g = some z → Go p l e R s m args below meth c D A nL Q ws u v (pc + 1) lv (va_rf (f i.toNatClampNeg) :: st)) : Go p l e R s m args below meth c D A nL Q ws u v pc lv (.int i :: .ref a :: st) := by
  have hin := (zg_none h).1
  have hlt : i.toNatClampNeg < n := Nat.not_le.mp fun q => hin (Or.inr q)
  intro H locs ls hP hD hS hl
  exact W.aald (v := va_rf (f i.toNatClampNeg)) (ty := .array .int) hO.1 hO.2.1 (hP q0 _ ha) ((hO.2.2.2.2.2.1.2 t0 _ ht).1 n (fun j => va_rf (f j))) rfl (fun q => by cases q) (by show ¬ (i < 0 ∨ (arrV _ _ _).slots.size ≤ _); rw [arrV_size]; exact hin) (by show (arrV _ _ _).slots[_]? = _; rw [arrV_read _ _ hlt]) rfl rfl hdg (kk (zg_none h).2 H locs ls hP hD hS hl)
theorem xL_arr (hO : Ok p s m args meth c cc own nL D dA A) {i : Int32} {α : Type} {g : Option α} {z : α} (h : (if i < 0 ∨ 24 ≤ i.toNatClampNeg then none else g) = some z) (hdg : decode cc pc = .ok (.aaload, 1)) (kk : i.toNatClampNeg < 24 → g = some z → Go p l e R s m args below meth c D A nL Q (WX dA G tb ad σ) u v (pc + 1) lv (.ref (G (20 + i.toNatClampNeg)) :: st)) : Go p l e R s m args below meth c D A nL Q (WX dA G tb ad σ) u v pc lv (.int i :: .ref (G 19) :: st) := by
  refine zg_aldA (t0 := 6) hO h 11 rfl rfl hdg (fun h2 => ?_)
  have hlt : i.toNatClampNeg < 24 := by have := (zg_none h).1; omega
  exact kk hlt h2
theorem zg_ifnullR (hO : Ok p s m args meth c cc own nL D dA A) {ws : va_W} {x : Nat} {off : Int} (hdg : decode cc pc = .ok (.ifnull off, 3)) (k : Go p l e R s m args below meth c D A nL Q ws u v (pc + 3) lv st) : Go p l e R s m args below meth c D A nL Q ws u v pc lv (.ref x :: st) := fun H locs ls hP hD hS hl => lv_ifnull hO.1 hO.2.1 hdg (k H locs ls hP hD hS hl)
/-- the pool grows -/
theorem okRef_lt {o : Option Nat} (h : okRef σ o = true) {q : Nat} : o.map (va_up ad (xN σ) q) = o.map ad := by
  cases o with
  | none => rfl
  | some i =>
    have hi : i < xN σ := by simpa [okRef] using h
    simp [va_up, Nat.ne_of_lt hi]
theorem tops_new (hV : VX σ) {q l : Nat} {r : PR} (hl : l < 5) : topsOf (zN σ r) l (va_up ad (xN σ) q) = topsOf σ l ad := by
  funext j
  unfold topsOf
  split
  · rename_i hj
    exact okRef_lt (hV.2.2 l hl j hj)
  · rfl
theorem wx_new (hV : VX σ) {q : Nat} {r : PR} (hr : rB r = none) : WX dA G tb ad σ ++ [(q, pcell ad r)] = WX dA G tb (va_up ad (xN σ) q) (zN σ r) := by
  have h0 : va_up ad (xN σ) q 0 = ad 0 := va_up_ne _ _ (by have := hV.1; omega)
  have h1 : va_up ad (xN σ) q 1 = ad 1 := va_up_ne _ _ (by have := hV.1; omega)
  have h2 : va_up ad (xN σ) q 2 = ad 2 := va_up_ne _ _ (by have := hV.1; omega)
  have hf : fixX dA G tb (va_up ad (xN σ) q) (zN σ r) = fixX dA G tb ad σ := by
    unfold fixX
    rw [h0, h1, h2, tops_new hV (l := 0) (by decide), tops_new hV (l := 1) (by decide), tops_new hV (l := 2) (by decide), tops_new hV (l := 3) (by decide), tops_new hV (l := 4) (by decide)]
    rfl
  have hp : poolX (va_up ad (xN σ) q) (xN (zN σ r)) (xC (zN σ r)) = poolX ad (xN σ) (xC σ) ++ [(q, pcell ad r)] := by
    show (List.range (xN σ + 1)).map _ = _
    rw [List.range_succ, List.map_append]
    congr 1
    · refine List.map_congr_left fun i hi => ?_
      have hi : i < xN σ := List.mem_range.mp hi
      have e1 : va_up ad (xN σ) q i = ad i := va_up_ne _ _ (Nat.ne_of_lt hi)
      have e2 : xC (zN σ r) i = xC σ i := va_up_ne _ _ (Nat.ne_of_lt hi)
      rw [e1, e2]
      unfold pcell
      rw [okRef_lt (hV.2.1 i hi)]
    · have e1 : va_up ad (xN σ) q (xN σ) = q := va_up_self _ _ _
      have e2 : xC (zN σ r) (xN σ) = r := va_up_self _ _ _
      simp only [List.map_cons, List.map_nil, e1, e2]
      unfold pcell
      rw [hr]
      rfl
  unfold WX
  rw [hf, hp, List.append_assoc]
theorem zy_newC (hO : Ok p s m args meth c cc RX3 nL D dA A) {MC MS : Nat} {α : Type} {f : Option α} {z : α} (h : (if VX σ ∧ u + 1 ≤ MC ∧ v + 6 ≤ MS then f else none) = some z) (hdg : decode cc pc = .ok (.new 15, 3)) (kk : ∀ ad', (u + 1 ≤ MC ∧ v + 6 ≤ MS) → f = some z → Go p l e (rmG N MC MS) s m args below meth c D A nL Q (WX dA G tb ad' (zN σ (true, lN 0, lN 0, nI 0, none, nI 0, nI 0))) (u + 1) (v + 6) (pc + 3) lv (.ref (ad' (xN σ)) :: st)) : Go p l e (rmG N MC MS) s m args below meth c D A nL Q (WX dA G tb ad σ) u v pc lv st := by
  obtain ⟨⟨hV, h1, h2⟩, h3⟩ := zg_some h
  intro H locs ls hP hD hS hl
  refine va_new (ci := 4) (fs := [.long (lN 0), .long (lN 0), .int (nI 0), .null, .int (nI 0), .int (nI 0)]) (C := RX5) (T := TX5) (N := 6) hO.1 hO.2.1 hO.2.2.2.2.1 in_X5 tyX5 tyX5_ok hO.2.2.2.1 (hO.2.2.2.2.1 _ q237) (hO.2.2.2.2.1 _ q1196) (hO.2.2.2.2.1 _ q124) hO.2.2.2.2.2.1 hP hD hS hO.2.2.2.2.2.2.1 rfl (fun j hj => by rcases (show j = 0 ∨ j = 1 ∨ j = 2 ∨ j = 3 ∨ j = 4 ∨ j = 5 by omega) with rfl | rfl | rfl | rfl | rfl | rfl <;> rfl) h1 h2 hdg (fun q H1 hP1 hD1 hS1 => ?_)
  have hw := wx_new (dA := dA) (G := G) (tb := tb) (ad := ad) hV (q := q) (r := (true, lN 0, lN 0, nI 0, none, nI 0, nI 0)) rfl
  rw [pc_t (r := (true, lN 0, lN 0, nI 0, none, nI 0, nI 0)) rfl] at hw
  have hP2 : va_P D zg_cl (WX dA G tb (va_up ad (xN σ) q) (zN σ (true, lN 0, lN 0, nI 0, none, nI 0, nI 0))) H1 := by rw [← hw]; exact hP1
  have hD2 : va_D A (WX dA G tb (va_up ad (xN σ) q) (zN σ (true, lN 0, lN 0, nI 0, none, nI 0, nI 0))) := by rw [← hw]; exact hD1
  have k2 := kk (va_up ad (xN σ) q) ⟨h1, h2⟩ h3 H1 locs ls hP2 hD2 hS1 hl
  rw [va_up_self] at k2
  exact k2
theorem zy_newP (hO : Ok p s m args meth c cc RX1 nL D dA A) {MC MS : Nat} {α : Type} {f : Option α} {z : α} (h : (if VX σ ∧ u + 1 ≤ MC ∧ v + 2 ≤ MS then f else none) = some z) (hdg : decode cc pc = .ok (.new 14, 3)) (kk : ∀ ad', (u + 1 ≤ MC ∧ v + 2 ≤ MS) → f = some z → Go p l e (rmG N MC MS) s m args below meth c D A nL Q (WX dA G tb ad' (zN σ (false, lN 0, lN 0, nI 0, none, nI 0, nI 0))) (u + 1) (v + 2) (pc + 3) lv (.ref (ad' (xN σ)) :: st)) : Go p l e (rmG N MC MS) s m args below meth c D A nL Q (WX dA G tb ad σ) u v pc lv st := by
  obtain ⟨⟨hV, h1, h2⟩, h3⟩ := zg_some h
  intro H locs ls hP hD hS hl
  refine va_new (ci := 3) (fs := [.long (lN 0), .long (lN 0)]) (C := RX2) (T := TX2) (N := 2) hO.1 hO.2.1 hO.2.2.2.2.1 in_X2 tyX2 tyX2_ok hO.2.2.2.1 (hO.2.2.2.2.1 _ q211) (hO.2.2.2.2.1 _ q212) (hO.2.2.2.2.1 _ q87) hO.2.2.2.2.2.1 hP hD hS hO.2.2.2.2.2.2.1 rfl (fun j hj => by rcases (show j = 0 ∨ j = 1 by omega) with rfl | rfl <;> rfl) h1 h2 hdg (fun q H1 hP1 hD1 hS1 => ?_)
  have hw := wx_new (dA := dA) (G := G) (tb := tb) (ad := ad) hV (q := q) (r := (false, lN 0, lN 0, nI 0, none, nI 0, nI 0)) rfl
  rw [pc_f (r := (false, lN 0, lN 0, nI 0, none, nI 0, nI 0)) rfl] at hw
  have hP2 : va_P D zg_cl (WX dA G tb (va_up ad (xN σ) q) (zN σ (false, lN 0, lN 0, nI 0, none, nI 0, nI 0))) H1 := by rw [← hw]; exact hP1
  have hD2 : va_D A (WX dA G tb (va_up ad (xN σ) q) (zN σ (false, lN 0, lN 0, nI 0, none, nI 0, nI 0))) := by rw [← hw]; exact hD1
  have k2 := kk (va_up ad (xN σ) q) ⟨h1, h2⟩ h3 H1 locs ls hP2 hD2 hS1 hl
  rw [va_up_self] at k2
  exact k2
theorem zg_obj (hO : Ok p s m args meth c cc own nL D dA A) {ws : va_W} {a idx : Nat} (hlk : Cond.methodLink own idx Lib.objectInit ∈ lw_all) (hN : 1 ≤ N) (hrm : (rest.map fun x => x.category).sum ≤ 8) (hdg : decode cc pc = .ok (.invokespecial idx, 3)) (kk : Go p l e (rmG N rk rs) s m args below meth c D A nL Q ws u v (pc + 3) lv rest) : Go p l e (rmG N rk rs) s m args below meth c D A nL Q ws u v pc lv (.ref a :: rest) := by
  intro H locs ls hP hD hS hl
  refine W.objInit hO.1 hO.2.1 hO.2.2.2.1 (hO.2.2.2.2.1 _ hlk) (hO.2.2.2.2.1 _ q135) (hO.2.2.2.2.1 _ q136) rfl (hl.1.trans hO.2.2.1.symm) rfl hdg hN (by show 2 * 0 + (rest.map fun x => x.category).sum + 12 ≤ 64 * N; omega) ?_
  exact kk H locs ls hP hD hS hl
/-- Pair(): nothing is done; from any world that holds the component's -/
theorem m_pinit (l : Launch) (D : va_G) (dA : Nat → ClassId) (b : Nat) : Ct l yX2_init (ws_ yX2_init cX2_init 1 none) 1 0 0 D dA [.ref b] [] A0s (QfV D dA []) := by
  refine zc_start (cc := cX2_init) (nL := 1) (ret := none) (own := RX2) (by decide) rfl rfl (Nat.le_of_ble_eq_true rfl) (fun _ _ h => h) (fun p e s m args below meth c hO hr _ _ => ?_)
  refine zg_sub (lv' := [(0, .ref b)]) [0] rfl ?_
  refine zg_aload_n hO 0 dX2_init_0 rfl rfl ?_
  refine zg_obj (rest := []) hO q216 (Nat.le_of_ble_eq_true rfl) (Nat.le_of_ble_eq_true rfl) dX2_init_1 ?_
  exact zc_vret hO hr dX2_init_4
/-- a call of Pair() by a nest mate -/
theorem zy_pinitN (hO : Ok p s m args meth c cc own nL D dA A) (hN : NX s) {ws : va_W} {index b : Nat} {host : String} (hlk : Cond.methodLinkNest own index yX2_init host ∈ lw_tbl) (hR : 2 ≤ N) (hc : u ≤ rk ∧ v ≤ rs) (hrm : (rest.map fun x => x.category).sum ≤ 8) (hdg : decode cc pc = .ok (.invokespecial index, 3)) (kk : Go p l e (rmG N rk rs) s m args below meth c D A nL Q ws u v (pc + 3) lv rest) : Go p l e (rmG N rk rs) s m args below meth c D A nL Q ws u v pc lv (.ref b :: rest) := by
  intro H locs ls hP hD hS hl
  have hts := hO.2.2.2.2.1
  refine va_callv (S := Unit) (va_runIN (As := []) (rest := rest) ⟨hO.1, hO.2.1, hO.2.2.1, hO.2.2.2.1, hts⟩ (m_pinit l D dA b H.size) ⟨va_cnB 0 hts (lw_meth q215) rfl rfl rfl (hN.1 _ hlk rfl) (hts _ q87) (by decide +kernel) ⟨hR, by show 8 + (1 + 11) + 64 * 1 ≤ 64 * N; omega⟩, rfl, hts _ q214⟩
    ⟨fun a U g mk q => by obtain ⟨q0, q1, qP, qK, qD⟩ := q; exact ⟨q0, q1, qP, va_K.moved (u := U) (U := U.calling g mk a) (Vm.Alike.refl U.vm) qK, qD⟩, fun U hU hW => ⟨rfl, by rw [hU], by rw [hU]; exact zc_nilP, va_K.moved hW.alike hO.2.2.2.2.2.1, zc_nil (D := D)⟩⟩ rfl rfl hl.1 rfl (lv_room hrm) hdg hc) hS (fun q h1 h2 => absurd h1 (by have h3 : H.size ≤ q := h2; omega)) (fun q h => hO.2.2.2.2.2.2.1 q (Nat.le_trans hS.1 h)) (fun _ t H1 locs1 ht hvm hx hB hz hk hS1 => ?_)
  exact kk H1 locs1 ls (hP.kept fun k q hq => hk _ (hP k q hq).lt (fun h3 => absurd (hP k q hq).lt (by have h4 : H.size ≤ q.1 := h3; omega))) hD hS1 hl
theorem zy_pinit (hO : Ok p s m args meth c cc RX1 nL D dA A) (hX : XK dA G A s) {b : Nat} {ws : va_W} {N' : Nat} (hrm : (rest.map fun x => x.category).sum ≤ 8) (hdg : decode cc pc = .ok (.invokespecial 146, 3)) (kk : Go p l e (rmG (N' + 2) rk rs) s m args below meth c D A nL Q ws u v (pc + 3) lv rest) (hc : u ≤ rk ∧ v ≤ rs := by first | exact ⟨Nat.le_refl _, Nat.le_refl _⟩ | (constructor <;> omega)) : Go p l e (rmG (N' + 2) rk rs) s m args below meth c D A nL Q ws u v pc lv (.ref b :: rest) := zy_pinitN hO hX.1 q213 (by omega) hc hrm hdg kk
theorem fXF_5_7 : FdF RX5 7 4 2 .int := ⟨RX5, TX5, 6, "EndSums$Cell", tyX5, rfl, in_X5, by decide, q1201, Or.inl rfl, tyX5_ok, nmX5, rfl, rfl, tyX5_ok 2 (by decide)⟩
theorem fXF_5_13 : FdF RX5 13 4 3 (.object "EndSums$Cell") := ⟨RX5, TX5, 6, "EndSums$Cell", tyX5, rfl, in_X5, by decide, q1204, Or.inl rfl, tyX5_ok, nmX5, rfl, rfl, tyX5_ok 3 (by decide)⟩
theorem nar_rf (o : Option Nat) (C : String) : narrow (.object C) (va_rf o) = va_rf o := by cases o <;> rfl
theorem fit_rf (o : Option Nat) (C : String) : fits (.object C) (va_rf o) = true := by cases o <;> rfl
/-- Cell(item, below) -/
theorem m_cinit (l : Launch) (D : va_G) (dA : Nat → ClassId) (G : Nat → Nat) {i : Nat} {x : Int32} {o : Option Nat} {σ : XS} (tb : Nat) (ad : Nat → Nat) (hi : i < xN σ ∧ rK (xC σ i) = true) : CtX l yX5_init (ws_ yX5_init cX5_init 3 none) 2 0 0 D dA G [.ref (ad i), .int x, va_rf (Option.map ad o)] (WX dA G tb ad σ) (QgV D dA (fun _ : Unit => WX dA G tb ad (zC σ i (uB (uI (xC σ i) x) o)))) := by
  refine zx_start (cc := cX5_init) (nL := 3) (ret := none) (own := RX5) (by decide) rfl rfl (by show (lg_sl _).length ≤ 3; simp [lg_sl, ro_cat, show ∀ a, (Value.ref a).category = 1 from fun _ => rfl, show ∀ a, (Value.int a).category = 1 from fun _ => rfl]) (fun p e s m args below meth c A hO hX hr hm _ => ?_)
  have hl3 : lv_args 0 [Value.ref (ad i), .int x, va_rf (Option.map ad o)] = [(0, .ref (ad i)), (1, .int x), (2, va_rf (Option.map ad o))] := by simp [lv_args, ro_cat, show ∀ a, (Value.ref a).category = 1 from fun _ => rfl, show ∀ a, (Value.int a).category = 1 from fun _ => rfl]
  rw [hl3]
  refine zg_aload_n hO 0 dX5_init_0 rfl rfl ?_
  refine zy_pinitN (rest := []) hO hX.1 q1200 (Nat.le_refl 2) ⟨Nat.le_refl _, Nat.le_refl _⟩ (Nat.le_of_ble_eq_true rfl) dX5_init_1 ?_
  refine zg_aload_n hO 0 dX5_init_4 rfl rfl ?_
  refine zg_iload_n hO 1 dX5_init_5 rfl rfl ?_
  refine zg_putF hO hm fXF_5_7 (63 + i) (wx_t hi.1 hi.2) rfl rfl (Nat.le_of_ble_eq_true rfl) (wx_set hi.1 (pc_t (r := uI (xC σ i) x) hi.2).symm) dX5_init_6 ?_
  refine zg_aload_n hO 0 dX5_init_9 rfl rfl ?_
  refine zg_aloadO_n hO 2 dX5_init_10 rfl rfl ?_
  have e1 : xC (zC σ i (uI (xC σ i) x)) i = uI (xC σ i) x := va_up_self _ _ _
  have hk1 : rK (xC (zC σ i (uI (xC σ i) x)) i) = true := by rw [e1]; exact hi.2
  have hz : zC (zC σ i (uI (xC σ i) x)) i (uB (xC (zC σ i (uI (xC σ i) x)) i) o) = zC σ i (uB (uI (xC σ i) x) o) := by
    rw [e1]
    unfold zC
    congr 3
    funext j
    by_cases hj : j = i <;> simp [va_up, hj]
  refine zg_putF hO hm fXF_5_13 (63 + i) (wx_t (σ := zC σ i (uI (xC σ i) x)) hi.1 hk1) (nar_rf _ _) (fit_rf _ _) (Nat.le_of_ble_eq_true rfl) (wx_set (σ := zC σ i (uI (xC σ i) x)) hi.1 (pc_t (r := uB (xC (zC σ i (uI (xC σ i) x)) i) o) hk1).symm) dX5_init_11 ?_
  rw [hz]
  exact zx_vret (f := fun _ : Unit => WX dA G tb ad (zC σ i (uB (uI (xC σ i) x) o))) hO hr () rfl ⟨Nat.le_refl _, Nat.le_refl _⟩ dX5_init_14
theorem zy_cinit (hO : Ok p s m args meth c cc RX3 nL D dA A) (hX : XK dA G A s) {i : Nat} {x : Int32} {o : Option Nat} {N' : Nat} {α : Type} {f : Option α} {z : α} (h : (if i < xN σ ∧ rK (xC σ i) = true then f else none) = some z) (hrm : (rest.map fun x => x.category).sum ≤ 8) (hdg : decode cc pc = .ok (.invokespecial 25, 3)) (kk : f = some z → Go p l e (rmG (N' + 3) rk rs) s m args below meth c D A nL Q (WX dA G tb ad (zC σ i (uB (uI (xC σ i) x) o))) u v (pc + 3) lv rest) (hc : u ≤ rk ∧ v ≤ rs := by first | exact ⟨Nat.le_refl _, Nat.le_refl _⟩ | (constructor <;> omega)) : Go p l e (rmG (N' + 3) rk rs) s m args below meth c D A nL Q (WX dA G tb ad σ) u v pc lv (va_rf (Option.map ad o) :: .int x :: .ref (ad i) :: rest) := by
  obtain ⟨hi, h2⟩ := zg_some h
  intro H locs ls hP hD hS hl
  refine va_callv (S := Unit) (zx_runI (As := [.int x, va_rf (Option.map ad o)]) (rest := rest) (n' := 2) (na := 2) hO hX (m_cinit l D dA G (x := x) (o := o) tb ad hi) rfl ⟨by decide +kernel, q1198, q124, q1199⟩ q1197 ⟨by omega, by show 8 + (3 + 11) + 64 * 2 ≤ 64 * (N' + 3); omega⟩ hc rfl rfl hrm hdg hP hD hS hl) hS (fun q _ h => va_AA hO hS hD q h) (fun q h => va_AA hO hS hD q h) (fun _ t H1 locs1 ht hvm hx hB hz hk hS1 => ?_)
  subst ht
  exact kk h2 t.heap locs1 ls hB.1 (hB.2.2.weaken fun k q _ h => va_AA hO hS hD q.1 h) hS1 hl
abbrev QgR {S : Type} (D : va_G) (dA : Nat → ClassId) (f : S → va_W) (a : Nat) : (Nat → Prop) → Array Value → State → Outcome → State → Prop := fun A => va_Qr (S := S) (fun _ => True) (fun u x t => x = a ∧ Bw D dA (f u) A t) A
theorem fJ8_7 : FdL RJ8 7 8 0 := ⟨RJ8, TJ8, 2, "java/util/ImmutableCollections$ListN", rfl, in_J8, by decide, q325, Or.inl rfl⟩
/-- ListN.get(i) of the lines -/
theorem m_lget (l : Launch) (D : va_G) (dA : Nat → ClassId) (G : Nat → Nat) {i : Int32} {σ : XS} (tb : Nat) (ad : Nat → Nat) (hi : ¬ (i < 0 ∨ 4 ≤ i.toNatClampNeg)) : CtX l yJ8_get (ws_ yJ8_get cJ8_get 2 (some (.object "java/lang/Object"))) 0 0 0 D dA G [.ref (G 46), .int i] (WX dA G tb ad σ) (QgR D dA (fun _ : Unit => WX dA G tb ad σ) (G (48 + 3 * i.toNatClampNeg))) := by
  refine zx_start (cc := cJ8_get) (nL := 2) (ret := some (.object "java/lang/Object")) (own := RJ8) (by decide) rfl rfl (Nat.le_of_ble_eq_true rfl) (fun p e s m args below meth c A hO hX hr hm _ => ?_)
  refine zg_sub (lv' := [(0, .ref (G 46)), (1, .int i)]) [0, 1] rfl ?_
  refine zg_aload_n hO 0 dJ8_get_0 rfl rfl ?_
  refine zg_get hO fJ8_7 38 rfl rfl dJ8_get_1 ?_
  refine zg_iload_n hO 1 dJ8_get_4 rfl rfl ?_
  refine zg_ald (t0 := 7) (C := "java/lang/Object") (n := 4) (g := some ()) (z := ()) hO (by rw [if_neg hi]) 39 rfl rfl dJ8_get_5 (fun _ => ?_)
  exact fun H locs ls hP hD hS _ => W.aret (v := .ref (G (48 + 3 * i.toNatClampNeg))) hO.1 hO.2.1 hr (Or.inl ⟨_, rfl⟩) (Or.inr ⟨_, rfl⟩) (fun t ht hW => ⟨⟨(), _, rfl, trivial, rfl, by rw [ht]; exact hP, va_K.moved hW.alike hO.2.2.2.2.2.1, hD⟩, hS.F ht⟩) hS.2.2 dJ8_get_6 hO.2.2.2.2.2.2.2
theorem zy_lget (hO : Ok p s m args meth c cc RX1 nL D dA A) (hX : XK dA G A s) {i : Int32} {N' index count : Nat} {α : Type} {f : Option α} {z : α} (h : (if i < 0 ∨ 4 ≤ i.toNatClampNeg then none else f) = some z) (hlk : Cond.methodLink RX1 index ⟨"java/util/List", "get", "(I)Ljava/lang/Object;"⟩ ∈ lw_all) (hrm : (rest.map fun x => x.category).sum ≤ 8) (hdg : decode cc pc = .ok (.invokeinterface index count, 5)) (kk : i.toNatClampNeg < 5 → f = some z → Go p l e (rmG (N' + 1) rk rs) s m args below meth c D A nL Q (WX dA G tb ad σ) u v (pc + 5) lv (.ref (G (48 + 3 * i.toNatClampNeg)) :: rest)) (hc : u ≤ rk ∧ v ≤ rs := by first | exact ⟨Nat.le_refl _, Nat.le_refl _⟩ | (constructor <;> omega)) : Go p l e (rmG (N' + 1) rk rs) s m args below meth c D A nL Q (WX dA G tb ad σ) u v pc lv (.int i :: .ref (G 46) :: rest) := by
  obtain ⟨hi, h2⟩ := zg_none h
  have hlt : i.toNatClampNeg < 5 := by omega
  intro H locs ls hP hD hS hl
  have hts := hO.2.2.2.2.1
  have hp := zx_pc hO hX hP hD hS [.ref (G 46), .int i]
  refine va_callFr (S := Unit) (va_runF (C := RJ8) (x := ⟨"java/util/List", "get", "(I)Ljava/lang/Object;"⟩) (As := [.int i]) (rest := rest) (hO.2.2.2.2.2.1.1 8 _ rfl).2 ⟨hO.1, hO.2.1, hO.2.2.1, hO.2.2.2.1, hts⟩ (m_lget l D dA G tb ad hi H.size) (va_cwF 1 hts (lw_app (by
      intro w hw
      simp only [List.mem_cons, List.not_mem_nil, or_false] at hw
      rcases hw with e | e | e | e
      · rw [e]; exact hlk
      · rw [e]; exact q1080
      · rw [e]; exact q1082
      · rw [e]; exact q96) (lw_meth q1084)) rfl rfl rfl (hX.1.2 _ List.mem_cons_self) (by decide +kernel) ⟨by show 0 + 1 ≤ N' + 1; omega, by show 8 + (2 + 11) + 64 * 0 ≤ 64 * (N' + 1); omega⟩)
    ⟨hp.1, va_recv hO.2.2.2.2.2.1 hP (ci := 8) (q0 := 38) rfl rfl, hp.2⟩ rfl rfl hl.1 rfl (lv_room hrm) hdg hc) hS (fun q _ h => va_AA hO hS hD q h) (fun q h => va_AA hO hS hD q h) (fun _ ra t H1 locs1 ht hvm hx hB hz hk hS1 => ?_)
  obtain ⟨rfl, hB⟩ := hB
  subst ht
  exact kk hlt h2 t.heap locs1 ls hB.1 (hB.2.2.weaken fun k q _ h => va_AA hO hS hD q.1 h) hS1 hl
end ZYS
