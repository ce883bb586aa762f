set_option maxRecDepth 100000
/-! CALLS OF INHERITED AND OF OVERRIDING METHODS -/
section ZIN
variable {p : Program} {l : Launch} {e : Env} {s : State} {m : MethodId} {args : Array Value} {below : List Frame} {meth : Method} {c : Code} {cc : ByteArray} {own C : String} {nL : Nat} {D : va_G} {dA : Nat → ClassId} {G : Nat → Nat} {A : Nat → Prop} {Q : State → Prop} {ws : va_W} {u v pc : Nat} {lv : List (Nat × Value)} {st rest : List Value}
  {y : MethodName} {bytes : ByteArray} {maxL N n' mc ms na index b : Nat} {rk rs : Nat} {ret : Option FieldType} {As : List Value} {S : Type} {f : S → va_W} {owner : String} {x : MethodName} {r : Int32}
theorem zi_callUi (hO : Ok p s m args meth c cc own nL D dA A) (hX : XK dA G A s) (hM : CtX l y (ws_ y bytes maxL ret) n' mc ms D dA G (.ref b :: As) ws (QgI D dA f r))
    (cw : va_CU (rmG N rk rs) s args own C owner index x y bytes maxL ret (ws_ y bytes maxL ret) (rmG n' mc ms) mc ms na) (hc : u + mc ≤ rk ∧ v + ms ≤ rs) (hn : As.length = na)
    (hst : st = As.reverse ++ .ref b :: rest) (hrm : (rest.map fun x => x.category).sum ≤ 8) (hrecv : ∃ (k ci : Nat) (fs : List Value) (q : vw_C), ws[k]? = some (b, .inr (ci, fs)) ∧ zg_cl[ci]? = some q ∧ q.1 = C) (hdg : decode cc pc = .ok (.invokevirtual index, 3)) (kk : ∀ z : S, Go p l e (rmG N rk rs) s m args below meth c D A nL Q (f z) (u + mc) (v + ms) (pc + 3) lv (.int r :: rest)) : Go p l e (rmG N rk rs) s m args below meth c D A nL Q ws u v pc lv st := by
  intro H locs ls hP hD hS hl
  obtain ⟨k, ci, fs, q, h1, h2, rfl⟩ := hrecv
  have hp := zx_pc hO hX hP hD hS (.ref b :: As)
  refine va_calli (va_runU (As := As) (rest := rest) ⟨hO.1, hO.2.1, hO.2.2.1, hO.2.2.2.1, hO.2.2.2.2.1⟩ (hM H.size) cw ⟨hp.1, va_recv hO.2.2.2.2.2.1 hP h2 h1, hp.2⟩ rfl hn hl.1 hst (lv_room hrm) hdg hc) hS (fun q _ h => va_AA hO hS hD q h) (fun q h => va_AA hO hS hD q h) (fun x z t H1 locs1 ht hvm hx hB hz hk hS1 => ?_)
  subst hx
  subst ht
  exact kk z t.heap locs1 ls hB.1 (hB.2.2.weaken fun k q _ h => va_AA hO hS hD q.1 h) hS1 hl
/-- what such a call asks -/
theorem zi_cw (hO : Ok p s m args meth c cc own nL D dA A) (hcode : Cond.code y bytes maxL ret ∈ lw_all) (hini : Cond.initialized y.cls ∈ lw_all) (hd : owner ≠ "java/lang/invoke/MethodHandle" ∧ owner ≠ "java/lang/invoke/VarHandle" ∧ (parseMethodDescriptor x.desc).map (fun d => d.parameters.length) = some na) (hlk : Cond.methodLink own index x ∈ lw_all) (hsame : Cond.sameMethod x.cls owner x.name x.desc ∈ lw_all) (hdecl : va_Decl s ⟨owner, x.name, x.desc⟩) (hsel : Cond.selects C x y ∈ lw_all) (hinst : Cond.instanceMethod y ∈ lw_all)
    (hR : n' + 1 ≤ N ∧ 8 + (maxL + 11) + 64 * n' ≤ 64 * N) : va_CU (rmG N rk rs) s args own C owner index x y bytes maxL ret (ws_ y bytes maxL ret) (rmG n' mc ms) mc ms na := by
  have hts := hO.2.2.2.2.1
  have hG := lw_meth hcode
  refine ⟨⟨rfl, rfl, hR.1, hR.2, pay_in hts hG, List.mem_cons_self⟩, hts _ hcode, hts _ hini, ⟨hd.1, hd.2.1⟩, fun sig h => ?_, hts _ hlk, hts _ hsame, hdecl, hts _ hsel, hts _ hinst⟩
  have h2 := hd.2.2
  rw [h] at h2
  exact (Option.some.inj h2).symm
end ZIN
