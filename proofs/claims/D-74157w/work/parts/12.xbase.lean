set_option maxRecDepth 100000
/-! THE COMPONENT: contracts whose world may grow; the tables' words that ride at a contract's start -/
/-- the kinds of words that are carried one by one -/
def nx_ok (w : Cond) : Bool := match w with
  | .fieldLinkNest .. => true
  | .methodLinkNest .. => true
  | .castable .. => true
  | .declares .. => true
  | .arrayOver (.object _) => true
  | _ => false
def nx_fw : List (String × MethodName × MethodName) := [("java/util/ImmutableCollections$ListN", ⟨"java/util/List", "get", "(I)Ljava/lang/Object;"⟩, ⟨"java/util/ImmutableCollections$ListN", "get", "(I)Ljava/lang/Object;"⟩), ("java/util/ImmutableCollections$ListN", ⟨"java/util/List", "size", "()I"⟩, ⟨"java/util/ImmutableCollections$ListN", "size", "()I"⟩), ("java/util/ImmutableCollections$ListN", ⟨"java/util/List", "iterator", "()Ljava/util/Iterator;"⟩, ⟨"java/util/ImmutableCollections$AbstractImmutableList", "iterator", "()Ljava/util/Iterator;"⟩), ("java/util/ImmutableCollections$ListItr", ⟨"java/util/Iterator", "hasNext", "()Z"⟩, ⟨"java/util/ImmutableCollections$ListItr", "hasNext", "()Z"⟩), ("java/util/ImmutableCollections$ListItr", ⟨"java/util/Iterator", "next", "()Ljava/lang/Object;"⟩, ⟨"java/util/ImmutableCollections$ListItr", "next", "()Ljava/lang/Object;"⟩), ("java/util/ArrayDeque$DeqIterator", ⟨"java/util/Iterator", "hasNext", "()Z"⟩, ⟨"java/util/ArrayDeque$DeqIterator", "hasNext", "()Z"⟩), ("java/util/ArrayDeque$DeqIterator", ⟨"java/util/Iterator", "next", "()Ljava/lang/Object;"⟩, ⟨"java/util/ArrayDeque$DeqIterator", "next", "()Ljava/lang/Object;"⟩), ("java/util/ImmutableCollections$ListN", ⟨"java/util/Collection", "toArray", "()[Ljava/lang/Object;"⟩, ⟨"java/util/ImmutableCollections$ListN", "toArray", "()[Ljava/lang/Object;"⟩)]
def NX (U : State) : Prop := (∀ w ∈ lw_tbl, nx_ok w = true → va_Nw w U) ∧ ∀ t ∈ nx_fw, va_Fw t.1 t.2.1 t.2.2 U
theorem nx_fw_ok : ∀ t ∈ nx_fw, t.2.1.cls ≠ "java/lang/invoke/MethodHandle" ∧ t.2.1.cls ≠ "java/lang/invoke/VarHandle" := by decide +kernel
theorem NX.warm {s U : State} (h : NX s) (hW : s.WarmedH U.vm) : NX U := by
  refine ⟨fun w hw hk => ?_, fun t ht => (h.2 t ht).moved (nx_fw_ok t ht) hW.alike⟩
  have h1 := h.1 w hw hk
  cases w <;> first | (exact absurd (show false = true from hk) Bool.false_ne_true) | skip
  case fieldLinkNest => exact h1.warmF hW
  case methodLinkNest => exact h1.warmM hW
  case castable => exact h1.warmC hW
  case declares => exact h1.warmD hW
  case arrayOver ty => cases ty <;> first | (exact absurd (show false = true from hk) Bool.false_ne_true) | exact va_AO.moved hW.alike h1
theorem NX.use {w : Cond} {args : Array Value} {s : State} (h : NX s) (hw : w ∈ lw_tbl) (hk : nx_ok w = true) (hT : w.onTables = true) : w.before args s = true := va_Nw.use hT (h.1 w hw hk)
def lk_mk (imp : String) (cap : List FieldType) (kind : Nat) : Jvm.Lambda.Shape := { iface := "EndSums$Make", name := "of", sam := ⟨[.object "EndSums$Pair", .int], none⟩, captured := cap, kind := kind, implClass := "EndSums", implName := imp, implDesc := ⟨[.object "EndSums$Pair", .int], none⟩, implItf := false, inst := ⟨[.object "EndSums$Pair", .int], none⟩ }
def lk_jn (imp : String) (cap : List FieldType) (kind : Nat) : Jvm.Lambda.Shape := { iface := "EndSums$Join", name := "of", sam := ⟨[.object "EndSums$Pair", .object "EndSums$Pair", .object "EndSums$Pair"], none⟩, captured := cap, kind := kind, implClass := "EndSums", implName := imp, implDesc := ⟨[.object "EndSums$Pair", .object "EndSums$Pair", .object "EndSums$Pair"], none⟩, implItf := false, inst := ⟨[.object "EndSums$Pair", .object "EndSums$Pair", .object "EndSums$Pair"], none⟩ }
/-- the shapes of the sixteen sites, in their order -/
def lk_sh (j : Nat) : Jvm.Lambda.Shape := match j with
  | 0 => lk_mk "lambda$new$0" [] 6
  | 1 => lk_mk "lambda$new$1" [] 6
  | 2 => lk_mk "lambda$new$2" [] 6
  | 3 => lk_mk "lambda$new$3" [] 6
  | 4 => lk_mk "bracket" [.object "EndSums"] 5
  | 5 => lk_mk "lambda$new$4" [.object "EndSums"] 5
  | 6 => lk_mk "lambda$new$5" [] 6
  | 7 => lk_mk "ofTable" [.object "EndSums"] 5
  | 8 => lk_jn "lambda$new$6" [] 6
  | 9 => lk_jn "lambda$new$7" [] 6
  | 10 => lk_jn "lambda$new$8" [] 6
  | 11 => lk_jn "maps" [.object "EndSums"] 5
  | 12 => lk_jn "brackets" [.object "EndSums"] 5
  | 13 => lk_jn "arranged" [.object "EndSums"] 5
  | 14 => lk_jn "ends" [.object "EndSums"] 5
  | _ => lk_jn "byTable" [.object "EndSums"] 5
/-- the lambdas' classes: dA 30 .. dA 45 -/
def LF (U : State) : Prop := ∀ x ∈ ([⟨"EndSums$Make", "of", "(LEndSums$Pair;I)V"⟩, ⟨"EndSums$Join", "of", "(LEndSums$Pair;LEndSums$Pair;LEndSums$Pair;)V"⟩] : List MethodName), (Cond.interfaceMethod x.cls x.cls x.name x.desc).before #[] U = true
theorem LF.warm {s U : State} (h : LF s) (hW : s.WarmedH U.vm) : LF U := by
  intro x hx
  have h1 := h x hx
  obtain ⟨-, -, r, -, -, -, -, hn⟩ := Cond.interfaceMethod_spec h1
  have hx' : x.cls ≠ "java/lang/invoke/MethodHandle" ∧ x.cls ≠ "java/lang/invoke/VarHandle" := by
    rcases List.mem_cons.mp hx with rfl | hx
    · exact ⟨by decide, by decide⟩
    · rcases List.mem_cons.mp hx with rfl | hx
      · exact ⟨by decide, by decide⟩
      · cases hx
  have e := Cond.onTables_vm (A := #[]) (A' := #[]) (U := s) (U' := U) U.vm (Cond.interfaceMethod x.cls x.cls x.name x.desc) rfl
  have hU : U.setVm U.vm = U := rfl
  rw [hU] at e
  rw [← e, Cond.interfaceMethod_setVm hW.alike (r := r) hn hx']
  exact h1
def LK (dA : Nat → ClassId) (U : State) : Prop := LF U ∧ ∃ (d : ClassId) (dk : Class), U.vm.findClass "EndSums" = some d ∧ U.vm.classes[d]? = some dk ∧ dk.name = "EndSums" ∧ ∀ j, j < 16 → Jvm.Lambda.isMade { classPath := fun _ => none } U.vm d (lk_sh j) (dA (30 + j)) = true ∧ U.lambdaCallable (lk_sh j) (dA (30 + j)) = true
theorem LK.warm {dA : Nat → ClassId} {s U : State} (h : LK dA s) (hW : s.WarmedH U.vm) : LK dA U := by
  obtain ⟨h0, d, dk, h1, h2, h3, h4⟩ := h
  have hA := hW.alike
  obtain ⟨dk', q1, q2⟩ := hA.2.2 _ _ h2
  refine ⟨h0.warm hW, d, dk', by rw [hA.findClass]; exact h1, q1, by rw [q2]; exact h3, fun j hj => ⟨Jvm.Lambda.isMade_warmer hW (h4 j hj).1, ?_⟩⟩
  have hc := (h4 j hj).2
  simp only [State.lambdaCallable, hA.findClass, hA.assignable, hA.superclasses, hA.declaredIn] at hc ⊢
  exact hc
/-- which of the sixteen lambdas hold the receiver -/
def capt (j : Nat) : Bool := j == 4 || j == 5 || j == 7 || (decide (11 ≤ j))
/-- what the statics of the JDK, the class objects, the String constants hold: old cells, that nobody writes -/
def SK (G : Nat → Nat) (A : Nat → Prop) (U : State) (H : Heap) : Prop :=
  (va_Z "java/lang/Integer$IntegerCache" "high" "I" (.int (nI 127)) A U H ∧ va_Z "java/lang/Integer$IntegerCache" "cache" "[Ljava/lang/Integer;" (.ref (G 91)) A U H ∧ va_T (.object "java/lang/Integer") (G 91) 256 (fun k => .ref (G (100 + k))) A U H ∧ vb_C (fun k => G (100 + k)) A U H) ∧
  vx_Zq Bundle.tN "UNASSIGNED_STACK" Bundle.steD A U H ∧ vx_Zq Bundle.tN "SUPPRESSED_SENTINEL" Bundle.listD A U H ∧
  va_Z "java/util/ImmutableCollections" "$assertionsDisabled" "Z" (.int (nI 1)) A U H ∧ va_Zq "java/util/ImmutableCollections" "EMPTY" "Ljava/lang/Object;" A U H ∧
  va_Z "java/lang/String" "COMPACT_STRINGS" "Z" (.int (nI 1)) A U H ∧ va_Z "java/util/BitSet" "$assertionsDisabled" "Z" (.int (nI 1)) A U H ∧
  (vk_R "EndSums" 352 "fbFBr" (G 92) U ∧ vk_S 1 [5] [[nI 102, nI 98, nI 70, nI 66, nI 114]] (fun i => G (92 + i)) (fun i => G (94 + i)) A U H) ∧ va_Mi "[Ljava/lang/Object;" (G 90) U
theorem SK.call {G : Nat → Nat} {A B : Nat → Prop} {s U : State} {H H1 : Heap} (h : SK G A s H) (hW : s.WarmedH U.vm) (hq : ∀ a : Nat, a < H.size → ¬ A a → H1[a]? = H[a]?) (hAB : ∀ q, B q → A q) : SK G B U H1 := by
  obtain ⟨⟨a1, a2, a3, a4⟩, a5, a6, a7, a8, a9, a10, ⟨a11, a12⟩, a13⟩ := h
  have hv := hW.alike
  exact ⟨⟨va_Z.moved hv ((a1.kept hq).narrow hAB), va_Z.moved hv ((a2.kept hq).narrow hAB), va_T.moved hv ((a3.kept hq).narrow hAB), vb_C.moved hv ((a4.kept hq).narrow hAB)⟩, vx_Zq.moved hv ((a5.kept hq).narrow hAB), vx_Zq.moved hv ((a6.kept hq).narrow hAB), va_Z.moved hv ((a7.kept hq).narrow hAB), va_Zq.moved hv ((a8.kept hq).narrow hAB), va_Z.moved hv ((a9.kept hq).narrow hAB), va_Z.moved hv ((a10.kept hq).narrow hAB), ⟨vk_R.warm hW a11, vk_S.moved hv ((a12.kept hq).narrow hAB)⟩, va_Mi.moved hv a13⟩
/-- what holds ahead of every call of the component: the words, the lambdas' classes, the constant lambda objects, which nobody writes -/
def XK (dA : Nat → ClassId) (G : Nat → Nat) (A : Nat → Prop) (U : State) : Prop := NX U ∧ LK dA U ∧ (∀ j, j < 16 → capt j = false → (∃ cell : Cell, U.heap[G (3 + j)]? = some cell ∧ cell.vm = .none ∧ cell.cls = dA (30 + j)) ∧ ¬ A (G (3 + j))) ∧ SK G A U U.heap
abbrev QgI {S : Type} (D : va_G) (dA : Nat → ClassId) (f : S → va_W) (r : Int32) : (Nat → Prop) → Array Value → State → Outcome → State → Prop := fun A => va_Qi (S := S) (fun x _ => x = r) (fun u t => Bw D dA (f u) A t) A
abbrev QgL {S : Type} (D : va_G) (dA : Nat → ClassId) (f : S → va_W) (r : Int64) : (Nat → Prop) → Array Value → State → Outcome → State → Prop := fun A => va_Ql (S := S) (fun x _ => x = r) (fun u t => Bw D dA (f u) A t) A
abbrev QgV {S : Type} (D : va_G) (dA : Nat → ClassId) (f : S → va_W) : (Nat → Prop) → Array Value → State → Outcome → State → Prop := fun A => va_Qv (S := S) (fun _ => True) (fun u t => Bw D dA (f u) A t) A

/-- a cell or a pair: is it a cell, p, q, item, what is below, lines, round -/
abbrev PR : Type := Bool × Int64 × Int64 × Int32 × Option Nat × Int32 × Int32
def rK (r : PR) : Bool := r.1
def rP (r : PR) : Int64 := r.2.1
def rQ (r : PR) : Int64 := r.2.2.1
def rI (r : PR) : Int32 := r.2.2.2.1
def rB (r : PR) : Option Nat := r.2.2.2.2.1
def rL (r : PR) : Int32 := r.2.2.2.2.2.1
def rR (r : PR) : Int32 := r.2.2.2.2.2.2
/-- the component's state: numbers and arrays (as the twin's), the lines' tops, how many cells were made, the cells -/
abbrev XS : Type := MS × (Nat → Nat → Option Nat) × Nat × (Nat → PR)
def xI (σ : XS) (k : Nat) : Int32 := σ.1.1 k
def xL (σ : XS) (k : Nat) : Int64 := σ.1.2.1 k
def xA (σ : XS) (k : Nat) : Nat → Int32 := σ.1.2.2.1 k
def xB (σ : XS) (k : Nat) : Nat → Int64 := σ.1.2.2.2 k
def xT (σ : XS) (l : Nat) : Nat → Option Nat := σ.2.1 l
def xN (σ : XS) : Nat := σ.2.2.1
def xC (σ : XS) (i : Nat) : PR := σ.2.2.2 i
def zI (σ : XS) (k : Nat) (x : Int32) : XS := (sI σ.1 k x, σ.2)
def zL (σ : XS) (k : Nat) (x : Int64) : XS := (sL σ.1 k x, σ.2)
def zA (σ : XS) (k i : Nat) (x : Int32) : XS := (sA σ.1 k i x, σ.2)
def zB (σ : XS) (k i : Nat) (x : Int64) : XS := (sB σ.1 k i x, σ.2)
def zT (σ : XS) (l j : Nat) (o : Option Nat) : XS := (σ.1, va_up σ.2.1 l (va_up (σ.2.1 l) j o), σ.2.2)
def zC (σ : XS) (i : Nat) (r : PR) : XS := (σ.1, σ.2.1, σ.2.2.1, va_up σ.2.2.2 i r)
def zN (σ : XS) (r : PR) : XS := (σ.1, σ.2.1, σ.2.2.1 + 1, va_up σ.2.2.2 σ.2.2.1 r)
def pcell (ad : Nat → Nat) (r : PR) : va_E := if r.1 = true then .inr (4, [.long (rP r), .long (rQ r), .int (rI r), va_rf ((rB r).map ad), .int (rL r), .int (rR r)]) else .inr (3, [.long (rP r), .long (rQ r)])
def poolX (ad : Nat → Nat) (n : Nat) (c : Nat → PR) : va_W := (List.range n).map (fun i => (ad i, pcell ad (c i)))
/-- no place of the state names a cell that isn't there -/
def okRef (σ : XS) (o : Option Nat) : Bool := match o with
  | none => true
  | some i => decide (i < xN σ)
def cellOk (σ : XS) (o : Option Nat) : Bool := match o with
  | none => true
  | some i => decide (i < xN σ) && rK (xC σ i)
abbrev VX (σ : XS) : Prop := 3 ≤ xN σ ∧ (∀ i, i < xN σ → okRef σ (rB (xC σ i)) = true) ∧ ∀ l, l < 5 → ∀ j, j < 2 → okRef σ (xT σ l j) = true
def topsOf (σ : XS) (l : Nat) (ad : Nat → Nat) : Nat → Option Nat := fun j => if j < 2 then (xT σ l j).map ad else none
def oc {α : Type} (o : Option Nat) (a : α) (f : Nat → α) : α := match o with
  | none => a
  | some i => f i
-- ints: 0 rule, 1 size, 2 neutral, 3 rebuilt, 4 typed, 5 rowMany, 6 round, 7 dearWork, 8 dearEnds; long 0 work; int arrays: 0 placed, 1 table, 2 text, 3 row0, 4 row1, 5..9 many of a line, 20..43 rows of arrangements; long arrays: 0 row, 1 powersP, 2 powersQ, 3 firstP, 4 firstQ
def fixX (dA : Nat → ClassId) (G : Nat → Nat) (tb : Nat) (ad : Nat → Nat) (σ : XS) : va_W := [(G 0, .inr (1, [.ref (G 1), .ref (G 2), .ref (G 19), .ref (G 44), .int (xI σ 0), .int (xI σ 1), .int (xI σ 2), .ref tb, .long (xL σ 0), .int (xI σ 3), .ref (ad 0), .ref (ad 1), .ref (ad 2), .ref (G 46), .ref (G 60), .ref (G 63), .ref (G 64), .ref (G 65), .int (xI σ 4), .ref (G 66), .int (xI σ 5), .ref (G 67), .ref (G 68), .ref (G 69), .ref (G 70), .int (xI σ 6), .int (xI σ 7), .int (xI σ 8)])), (G 1, .inl (dA 4, 8, .inr (.inr (.inr (.inr (fun j => some (G (3 + j)))))))), (G 2, .inl (dA 5, 8, .inr (.inr (.inr (.inr (fun j => some (G (11 + j)))))))), (G 7, .inl (dA 34, 1, .inr (.inr (.inr (.inr (fun _ => some (G 0))))))), (G 8, .inl (dA 35, 1, .inr (.inr (.inr (.inr (fun _ => some (G 0))))))), (G 10, .inl (dA 37, 1, .inr (.inr (.inr (.inr (fun _ => some (G 0))))))), (G 14, .inl (dA 41, 1, .inr (.inr (.inr (.inr (fun _ => some (G 0))))))), (G 15, .inl (dA 42, 1, .inr (.inr (.inr (.inr (fun _ => some (G 0))))))), (G 16, .inl (dA 43, 1, .inr (.inr (.inr (.inr (fun _ => some (G 0))))))), (G 17, .inl (dA 44, 1, .inr (.inr (.inr (.inr (fun _ => some (G 0))))))), (G 18, .inl (dA 45, 1, .inr (.inr (.inr (.inr (fun _ => some (G 0))))))), (G 19, .inl (dA 6, 24, .inr (.inr (.inr (.inr (fun j => some (G (20 + j)))))))), (G 20, .inl (dA 0, 4, .inl (xA σ 20))), (G 21, .inl (dA 0, 4, .inl (xA σ 21))), (G 22, .inl (dA 0, 4, .inl (xA σ 22))), (G 23, .inl (dA 0, 4, .inl (xA σ 23))), (G 24, .inl (dA 0, 4, .inl (xA σ 24))), (G 25, .inl (dA 0, 4, .inl (xA σ 25))), (G 26, .inl (dA 0, 4, .inl (xA σ 26))), (G 27, .inl (dA 0, 4, .inl (xA σ 27))), (G 28, .inl (dA 0, 4, .inl (xA σ 28))), (G 29, .inl (dA 0, 4, .inl (xA σ 29))), (G 30, .inl (dA 0, 4, .inl (xA σ 30))), (G 31, .inl (dA 0, 4, .inl (xA σ 31))), (G 32, .inl (dA 0, 4, .inl (xA σ 32))), (G 33, .inl (dA 0, 4, .inl (xA σ 33))), (G 34, .inl (dA 0, 4, .inl (xA σ 34))), (G 35, .inl (dA 0, 4, .inl (xA σ 35))), (G 36, .inl (dA 0, 4, .inl (xA σ 36))), (G 37, .inl (dA 0, 4, .inl (xA σ 37))), (G 38, .inl (dA 0, 4, .inl (xA σ 38))), (G 39, .inl (dA 0, 4, .inl (xA σ 39))), (G 40, .inl (dA 0, 4, .inl (xA σ 40))), (G 41, .inl (dA 0, 4, .inl (xA σ 41))), (G 42, .inl (dA 0, 4, .inl (xA σ 42))), (G 43, .inl (dA 0, 4, .inl (xA σ 43))), (G 44, .inl (dA 0, 4, .inl (xA σ 0))), (tb, .inl (dA 0, 25, .inl (xA σ 1))), (G 46, .inr (8, [.ref (G 47), .int 0])), (G 47, .inl (dA 7, 4, .inr (.inr (.inr (.inr (fun j => some (G (48 + 3 * j)))))))), (G 48, .inr (2, [.ref (G 49), .ref (G 50), .ref (G 0)])), (G 49, .inl (dA 3, 2, .inr (.inr (.inr (.inr (topsOf σ 0 ad)))))), (G 50, .inl (dA 0, 2, .inl (xA σ 5))), (G 51, .inr (2, [.ref (G 52), .ref (G 53), .ref (G 0)])), (G 52, .inl (dA 3, 2, .inr (.inr (.inr (.inr (topsOf σ 1 ad)))))), (G 53, .inl (dA 0, 2, .inl (xA σ 6))), (G 54, .inr (2, [.ref (G 55), .ref (G 56), .ref (G 0)])), (G 55, .inl (dA 3, 2, .inr (.inr (.inr (.inr (topsOf σ 2 ad)))))), (G 56, .inl (dA 0, 2, .inl (xA σ 7))), (G 57, .inr (2, [.ref (G 58), .ref (G 59), .ref (G 0)])), (G 58, .inl (dA 3, 2, .inr (.inr (.inr (.inr (topsOf σ 3 ad)))))), (G 59, .inl (dA 0, 2, .inl (xA σ 8))), (G 60, .inr (2, [.ref (G 61), .ref (G 62), .ref (G 0)])), (G 61, .inl (dA 3, 2, .inr (.inr (.inr (.inr (topsOf σ 4 ad)))))), (G 62, .inl (dA 0, 2, .inl (xA σ 9))), (G 63, .inl (dA 0, 64, .inl (xA σ 3))), (G 64, .inl (dA 0, 64, .inl (xA σ 4))), (G 65, .inl (dA 2, 100, .inl (xA σ 2))), (G 66, .inl (dA 1, 128, .inr (.inl (xB σ 0)))), (G 67, .inl (dA 1, 128, .inr (.inl (xB σ 1)))), (G 68, .inl (dA 1, 128, .inr (.inl (xB σ 2)))), (G 69, .inl (dA 1, 64, .inr (.inl (xB σ 3)))), (G 70, .inl (dA 1, 64, .inr (.inl (xB σ 4))))]
def WX (dA : Nat → ClassId) (G : Nat → Nat) (tb : Nat) (ad : Nat → Nat) (σ : XS) : va_W := fixX dA G tb ad σ ++ poolX ad (xN σ) (xC σ)
theorem px_get {X : va_W} {ad : Nat → Nat} {n i : Nat} {c : Nat → PR} (hX : X.length = 63) (h : i < n) : (X ++ poolX ad n c)[63 + i]? = some (ad i, pcell ad (c i)) := by
  rw [List.getElem?_append_right (by omega), hX, Nat.add_sub_cancel_left]
  simp [poolX, h]
theorem px_set {X : va_W} {ad : Nat → Nat} {n i : Nat} {c : Nat → PR} {r : PR} (hX : X.length = 63) (h : i < n) : (X ++ poolX ad n c).set (63 + i) (ad i, pcell ad r) = X ++ poolX ad n (va_up c i r) := by
  rw [List.set_append_right _ _ (by omega), hX, Nat.add_sub_cancel_left]
  congr 1
  refine List.ext_getElem? fun k => ?_
  simp only [poolX, List.getElem?_set, List.length_map, List.length_range, List.getElem?_map]
  by_cases hk : i = k
  · subst hk
    simp [h, va_up]
  · simp only [hk, if_false]
    cases hr : (List.range n)[k]? with
    | none => rfl
    | some z =>
      have hz : z = k := by
        have := List.getElem?_eq_some_iff.mp hr
        obtain ⟨_, h2⟩ := this
        simpa using h2.symm
      subst hz
      simp [va_up, Ne.symm hk]
theorem wx_len {dA : Nat → ClassId} {G : Nat → Nat} {tb : Nat} {ad : Nat → Nat} {σ : XS} : (fixX dA G tb ad σ).length = 63 := rfl
theorem ro_cat (o : Option Nat) : (va_rf o).category = 1 := by cases o <;> rfl
section ZXC
variable {p : Program} {l : Launch} {e : Env} {s : State} {m : MethodId} {args : Array Value} {below : List Frame} {meth : Method} {c : Code} {cc : ByteArray} {own C : String} {nL : Nat} {D : va_G} {dA : Nat → ClassId} {G : Nat → Nat} {A : Nat → Prop} {Q : State → Prop} {ws ws' : va_W} {u v pc : Nat} {lv : List (Nat × Value)} {st rest : List Value}
  {y : MethodName} {bytes : ByteArray} {maxL N n' mc ms na index b : Nat} {rk rs : Nat} {ret : Option FieldType} {As : List Value} {Qf : (Nat → Prop) → Array Value → State → Outcome → State → Prop}
/-- a contract of the component -/
def CtX (l : Launch) (y : MethodName) (w : List Cond) (n mc ms : Nat) (D : va_G) (dA : Nat → ClassId) (G : Nat → Nat) (As : List Value) (ws : va_W) (Qf : (Nat → Prop) → Array Value → State → Outcome → State → Prop) : Prop :=
  ∀ sz : Nat, Met l y w (rmG n mc ms) (va_Pc As (fun U => U.heap.size = sz ∧ va_P D zg_cl ws U.heap ∧ va_K D zg_cl (zg_tys dA) U ∧ va_D (fun _ => True) ws ∧ XK dA G (va_A ws sz) U)) (Qf (va_A ws sz)) mc ms (va_A ws sz)
theorem XK.call (hX : XK dA G A s) {U : State} {H : Heap} {locs : List Loc} (hA : ∀ q : Nat, s.heap.size ≤ q → A q) (hU : U.heap = H) (hW : s.WarmedH U.vm) (hS : va_S A s.heap H locs) (hD : va_D A ws) : XK dA G (va_A ws H.size) U := by
  refine ⟨hX.1.warm hW, hX.2.1.warm hW, fun j hj hc => ?_, ?_⟩
  · obtain ⟨⟨cell, h1, h3⟩, h2⟩ := hX.2.2.1 j hj hc
    have hl : G (3 + j) < s.heap.size := (Array.getElem?_eq_some_iff.mp h1).1
    refine ⟨⟨cell, by rw [hU, hS.2.1 _ hl h2]; exact h1, h3⟩, fun h => ?_⟩
    rcases h with ⟨k, e, h⟩ | h
    · exact h2 (hD.2 k _ h)
    · have := hS.1
      omega
  · rw [hU]
    refine hX.2.2.2.call hW hS.2.1 (fun q h => ?_)
    rcases h with ⟨k, e, h⟩ | h
    · exact hD.2 k _ h
    · exact hA q (Nat.le_trans hS.1 h)
theorem XK.blind {U : State} (hX : XK dA G A U) (g : JFrame) (mk : MethodId) (a : Array Value) : XK dA G A (U.calling g mk a) := ⟨hX.1.warm (State.WarmedH.refl U), hX.2.1.warm (State.WarmedH.refl U), hX.2.2.1, hX.2.2.2.call (State.WarmedH.refl U) (fun _ _ _ => rfl) (fun _ h => h)⟩
theorem zx_start {w : List Cond} (hy : plainName y.cls = true) (hw : w = Cond.code y cc nL ret :: lw_all) (hown : y.cls = own) (hn : (lg_sl As).length ≤ nL)
    (body : ∀ (p : Program) (e : Env) (s : State) (m : MethodId) (args : Array Value) (below : List Frame) (meth : Method) (c : Code) (A : Nat → Prop), Ok p s m args meth c cc own nL D dA A → XK dA G A s → meth.sig.returnType = ret → meth.name = y.name → args = As.toArray →
      Go p l e (rmG N mc ms) s m args below meth c D A nL (MQ below (Qf A) args s mc ms A) ws 0 0 0 (lv_args 0 As) []) : CtX l y w N mc ms D dA G As ws Qf := by
  intro sz
  refine Met.ofW (cc := cc) (maxL := nL) (ret := ret) hy hw ?_
  intro p e s m args below meth c s₁ B hml hv
  obtain ⟨rfl, hsz, hP, hK, hD, hX⟩ := hv
  subst hsz
  have hts := atoms_spec (ws := w) B.pre
  have hts : ∀ x ∈ lw_all, x.before _ s = true := fun x h => hts x (by rw [hw]; exact List.mem_cons_of_mem _ h)
  have hl := lv_entry As (n := nL) hn
  rw [lg_entry_eq]
  have hD1 := hD.self (sz := s.heap.size)
  have hA : ∀ q : Nat, s.heap.size ≤ q → va_A ws s.heap.size q := fun q h => Or.inr h
  generalize va_A ws s.heap.size = A at hX hD1 hA ⊢
  exact body p e s m _ below meth c A ⟨B.exec, B.bytes, hml, hown ▸ findClass_of_methodNamed B.named, hts, hK, hA, B.notSynchronized⟩ hX B.returns (name_of_methodNamed B.named B.method).1 rfl s.heap [] _ hP hD1 va_S.rf hl
theorem va_AA (hO : Ok p s m args meth c cc own nL D dA A) {H : Heap} {locs : List Loc} (hS : va_S A s.heap H locs) (hD : va_D A ws) : ∀ q, va_A ws H.size q → A q := fun q h => by
  rcases h with ⟨k, e, h⟩ | h
  · exact hD.2 k _ h
  · exact hO.2.2.2.2.2.2.1 q (Nat.le_trans hS.1 h)
/-- the words of a method called through an object of the class C (its own or one that inherits it) -/
def MwX (y : MethodName) (bytes : ByteArray) (maxL : Nat) (ret : Option FieldType) (C : String) (na : Nat) : Prop :=
  (y.cls ≠ "java/lang/invoke/MethodHandle" ∧ y.cls ≠ "java/lang/invoke/VarHandle" ∧ (parseMethodDescriptor y.desc).map (fun d => d.parameters.length) = some na) ∧ Cond.instanceMethod y ∈ lw_all ∧ Cond.selects C y y ∈ lw_all ∧ Cond.initialized y.cls ∈ lw_all ∧ Cond.code y bytes maxL ret ∈ lw_all
theorem zx_pc (hO : Ok p s m args meth c cc own nL D dA A) (hX : XK dA G A s) {H : Heap} {locs : List Loc} (hP : va_P D zg_cl ws H) (hD : va_D A ws) (hS : va_S A s.heap H locs) (As : List Value) :
    PreS s H (va_Pc As (fun U => U.heap.size = H.size ∧ va_P D zg_cl ws U.heap ∧ va_K D zg_cl (zg_tys dA) U ∧ va_D (fun _ => True) ws ∧ XK dA G (va_A ws H.size) U)) As :=
  ⟨fun a U g mk q => by obtain ⟨q0, q1, qP, qK, qD, qX⟩ := q; exact ⟨q0, q1, qP, va_K.moved (u := U) (U := U.calling g mk a) (Vm.Alike.refl U.vm) qK, qD, qX.blind g mk a⟩, fun U hU hW => ⟨rfl, by rw [hU], by rw [hU]; exact hP, va_K.moved hW.alike hO.2.2.2.2.2.1, hD.weaken (fun _ _ _ _ => trivial), hX.call hO.2.2.2.2.2.2.1 hU hW hS hD⟩⟩
theorem zx_runV (hO : Ok p s m args meth c cc own nL D dA A) (hX : XK dA G A s) (hM : CtX l y (ws_ y bytes maxL ret) n' mc ms D dA G (.ref b :: As) ws Qf) (hw : MwX y bytes maxL ret C na) (hlk : Cond.methodLink own index y ∈ lw_all) (hR : n' + 1 ≤ N ∧ 8 + (maxL + 11) + 64 * n' ≤ 64 * N) (hc : u + mc ≤ rk ∧ v + ms ≤ rs) (hn : As.length = na)
    (hst : st = As.reverse ++ .ref b :: rest) (hrm : (rest.map fun x => x.category).sum ≤ 8) (hdg : decode cc pc = .ok (.invokevirtual index, 3))
    {H : Heap} {locs : List Loc} {ls : Array Slot} (hP : va_P D zg_cl ws H) (hD : va_D A ws) (hS : va_S A s.heap H locs) (hl : lv_has ls nL lv)
    (hrecv : ∃ (k ci : Nat) (fs : List Value) (q : vw_C), ws[k]? = some (b, .inr (ci, fs)) ∧ zg_cl[ci]? = some q ∧ q.1 = C) :
    va_Run p l e (rmG N rk rs) s m args below meth c H locs u v mc ms (F0 m pc ls st) rest (Qf (va_A ws H.size) (Value.ref b :: As).toArray) (va_A ws H.size) := by
  obtain ⟨k, ci, fs, q, h1, h2, rfl⟩ := hrecv
  obtain ⟨w1, w2, w3, w4, w5⟩ := hw
  have hts := hO.2.2.2.2.1
  have hp := zx_pc hO hX hP hD hS (.ref b :: As)
  exact va_runV (As := As) (rest := rest) ⟨hO.1, hO.2.1, hO.2.2.1, hO.2.2.2.1, hts⟩ (hM H.size) ⟨callB_of na hts (lw_meth w5) rfl rfl rfl (hts _ w4) (hts _ hlk) w1 hR, hts _ w2, hts _ w3⟩
    ⟨hp.1, va_recv hO.2.2.2.2.2.1 hP h2 h1, hp.2⟩ rfl hn hl.1 hst (lv_room hrm) hdg hc
theorem zx_runVN {host : String} (hO : Ok p s m args meth c cc own nL D dA A) (hX : XK dA G A s) (hM : CtX l y (ws_ y bytes maxL ret) n' mc ms D dA G (.ref b :: As) ws Qf) (hw : MwX y bytes maxL ret C na) (hlk : Cond.methodLinkNest own index y host ∈ lw_tbl) (hR : n' + 1 ≤ N ∧ 8 + (maxL + 11) + 64 * n' ≤ 64 * N) (hc : u + mc ≤ rk ∧ v + ms ≤ rs) (hn : As.length = na)
    (hst : st = As.reverse ++ .ref b :: rest) (hrm : (rest.map fun x => x.category).sum ≤ 8) (hdg : decode cc pc = .ok (.invokevirtual index, 3))
    {H : Heap} {locs : List Loc} {ls : Array Slot} (hP : va_P D zg_cl ws H) (hD : va_D A ws) (hS : va_S A s.heap H locs) (hl : lv_has ls nL lv)
    (hrecv : ∃ (k ci : Nat) (fs : List Value) (q : vw_C), ws[k]? = some (b, .inr (ci, fs)) ∧ zg_cl[ci]? = some q ∧ q.1 = C) :
    va_Run p l e (rmG N rk rs) s m args below meth c H locs u v mc ms (F0 m pc ls st) rest (Qf (va_A ws H.size) (Value.ref b :: As).toArray) (va_A ws H.size) := by
  obtain ⟨k, ci, fs, q, h1, h2, rfl⟩ := hrecv
  obtain ⟨w1, w2, w3, w4, w5⟩ := hw
  have hts := hO.2.2.2.2.1
  have hp := zx_pc hO hX hP hD hS (.ref b :: As)
  exact va_runVN (As := As) (rest := rest) ⟨hO.1, hO.2.1, hO.2.2.1, hO.2.2.2.1, hts⟩ (hM H.size) ⟨va_cnB na hts (lw_meth w5) rfl rfl rfl (hX.1.1 _ hlk rfl) (hts _ w4) w1 hR, hts _ w2, hts _ w3⟩
    ⟨hp.1, va_recv hO.2.2.2.2.2.1 hP h2 h1, hp.2⟩ rfl hn hl.1 hst (lv_room hrm) hdg hc
theorem zx_runS (hO : Ok p s m args meth c cc own nL D dA A) (hX : XK dA G A s) (hM : CtX l y (ws_ y bytes maxL ret) n' mc ms D dA G As ws Qf) (hw : MwS y bytes maxL ret na) (hlk : Cond.methodLink own index y ∈ lw_all) (hR : n' + 1 ≤ N ∧ 8 + (maxL + 11) + 64 * n' ≤ 64 * N) (hc : u + mc ≤ rk ∧ v + ms ≤ rs) (hn : As.length = na)
    (hst : st = As.reverse ++ rest) (hrm : (rest.map fun x => x.category).sum ≤ 8) (hdg : decode cc pc = .ok (.invokestatic index, 3))
    {H : Heap} {locs : List Loc} {ls : Array Slot} (hP : va_P D zg_cl ws H) (hD : va_D A ws) (hS : va_S A s.heap H locs) (hl : lv_has ls nL lv) :
    va_Run p l e (rmG N rk rs) s m args below meth c H locs u v mc ms (F0 m pc ls st) rest (Qf (va_A ws H.size) As.toArray) (va_A ws H.size) := by
  obtain ⟨w1, w2, w3, w4⟩ := hw
  have hp := zx_pc hO hX hP hD hS As
  exact va_runS (As := As) (rest := rest) ⟨hO.1, hO.2.1, hO.2.2.1, hO.2.2.2.1, hO.2.2.2.2.1⟩ (hM H.size) (va_cwS na hO.2.2.2.2.1 (lw_S hlk w2 w3 w4) rfl rfl rfl w1 hR) hp rfl hn hl.1 hst (lv_room hrm) hdg hc
theorem zx_runI (hO : Ok p s m args meth c cc own nL D dA A) (hX : XK dA G A s) (hM : CtX l y (ws_ y bytes maxL none) n' mc ms D dA G (.ref b :: As) ws Qf) (hini : y.name = "<init>") (hw : (y.cls ≠ "java/lang/invoke/MethodHandle" ∧ y.cls ≠ "java/lang/invoke/VarHandle" ∧ (parseMethodDescriptor y.desc).map (fun d => d.parameters.length) = some na) ∧ Cond.instanceMethod y ∈ lw_all ∧ Cond.initialized y.cls ∈ lw_all ∧ Cond.code y bytes maxL none ∈ lw_all) (hlk : Cond.methodLink own index y ∈ lw_all) (hR : n' + 1 ≤ N ∧ 8 + (maxL + 11) + 64 * n' ≤ 64 * N) (hc : u + mc ≤ rk ∧ v + ms ≤ rs) (hn : As.length = na)
    (hst : st = As.reverse ++ .ref b :: rest) (hrm : (rest.map fun x => x.category).sum ≤ 8) (hdg : decode cc pc = .ok (.invokespecial index, 3))
    {H : Heap} {locs : List Loc} {ls : Array Slot} (hP : va_P D zg_cl ws H) (hD : va_D A ws) (hS : va_S A s.heap H locs) (hl : lv_has ls nL lv) :
    va_Run p l e (rmG N rk rs) s m args below meth c H locs u v mc ms (F0 m pc ls st) rest (Qf (va_A ws H.size) (Value.ref b :: As).toArray) (va_A ws H.size) := by
  obtain ⟨w1, w2, w3, w4⟩ := hw
  have hts := hO.2.2.2.2.1
  have hp := zx_pc hO hX hP hD hS (.ref b :: As)
  exact va_runI (As := As) (rest := rest) ⟨hO.1, hO.2.1, hO.2.2.1, hO.2.2.2.1, hts⟩ (hM H.size) (cwI na hts (lw_meth w4) rfl rfl rfl (hts _ w3) (hts _ hlk) (hts _ w2) hini w1 hR) hp rfl hn hl.1 hst (lv_room hrm) hdg hc
end ZXC

section ZXD
variable {p : Program} {l : Launch} {e : Env} {s : State} {m : MethodId} {args : Array Value} {below : List Frame} {meth : Method} {c : Code} {cc : ByteArray} {own C : String} {nL : Nat} {D : va_G} {dA : Nat → ClassId} {G : Nat → Nat} {A : Nat → Prop} {Q : State → Prop} {ws : va_W} {u v pc : Nat} {lv : List (Nat × Value)} {st rest : List Value}
  {y : MethodName} {bytes : ByteArray} {maxL N n' mc ms na index b : Nat} {rk rs : Nat} {ret : Option FieldType} {As : List Value} {S : Type} {f : S → va_W}
theorem zx_callVi (hO : Ok p s m args meth c cc own nL D dA A) (hX : XK dA G A s) {r : Int32} (hM : CtX l y (ws_ y bytes maxL ret) n' mc ms D dA G (.ref b :: As) ws (QgI D dA f r)) (hw : MwX y bytes maxL ret C na) (hlk : Cond.methodLink own index y ∈ lw_all) (hR : n' + 1 ≤ N ∧ 8 + (maxL + 11) + 64 * n' ≤ 64 * N) (hc : u + mc ≤ rk ∧ v + ms ≤ rs) (hn : As.length = na)
    (hst : st = As.reverse ++ .ref b :: rest) (hrm : (rest.map fun x => x.category).sum ≤ 8) (hrecv : ∃ (k ci : Nat) (fs : List Value) (q : vw_C), ws[k]? = some (b, .inr (ci, fs)) ∧ zg_cl[ci]? = some q ∧ q.1 = C) (hdg : decode cc pc = .ok (.invokevirtual index, 3)) (kk : ∀ z : S, Go p l e (rmG N rk rs) s m args below meth c D A nL Q (f z) (u + mc) (v + ms) (pc + 3) lv (.int r :: rest)) : Go p l e (rmG N rk rs) s m args below meth c D A nL Q ws u v pc lv st := by
  intro H locs ls hP hD hS hl
  refine va_calli (zx_runV hO hX hM hw hlk hR hc hn hst hrm hdg hP hD hS hl hrecv) hS (fun q _ h => va_AA hO hS hD q h) (fun q h => va_AA hO hS hD q h) (fun x z t H1 locs1 ht hvm hx hB hz hk hS1 => ?_)
  subst hx
  subst ht
  exact kk z t.heap locs1 ls hB.1 (hB.2.2.weaken fun k q _ h => va_AA hO hS hD q.1 h) hS1 hl
theorem zx_callVl (hO : Ok p s m args meth c cc own nL D dA A) (hX : XK dA G A s) {r : Int64} (hM : CtX l y (ws_ y bytes maxL ret) n' mc ms D dA G (.ref b :: As) ws (QgL D dA f r)) (hw : MwX y bytes maxL ret C na) (hlk : Cond.methodLink own index y ∈ lw_all) (hR : n' + 1 ≤ N ∧ 8 + (maxL + 11) + 64 * n' ≤ 64 * N) (hc : u + mc ≤ rk ∧ v + ms ≤ rs) (hn : As.length = na)
    (hst : st = As.reverse ++ .ref b :: rest) (hrm : (rest.map fun x => x.category).sum ≤ 8) (hrecv : ∃ (k ci : Nat) (fs : List Value) (q : vw_C), ws[k]? = some (b, .inr (ci, fs)) ∧ zg_cl[ci]? = some q ∧ q.1 = C) (hdg : decode cc pc = .ok (.invokevirtual index, 3)) (kk : ∀ z : S, Go p l e (rmG N rk rs) s m args below meth c D A nL Q (f z) (u + mc) (v + ms) (pc + 3) lv (.long r :: rest)) : Go p l e (rmG N rk rs) s m args below meth c D A nL Q ws u v pc lv st := by
  intro H locs ls hP hD hS hl
  refine va_calll (zx_runV hO hX hM hw hlk hR hc hn hst hrm hdg hP hD hS hl hrecv) hS (fun q _ h => va_AA hO hS hD q h) (fun q h => va_AA hO hS hD q h) (fun x z t H1 locs1 ht hvm hx hB hz hk hS1 => ?_)
  subst hx
  subst ht
  exact kk z t.heap locs1 ls hB.1 (hB.2.2.weaken fun k q _ h => va_AA hO hS hD q.1 h) hS1 hl
theorem zx_callVv (hO : Ok p s m args meth c cc own nL D dA A) (hX : XK dA G A s) (hM : CtX l y (ws_ y bytes maxL ret) n' mc ms D dA G (.ref b :: As) ws (QgV D dA f)) (hw : MwX y bytes maxL ret C na) (hlk : Cond.methodLink own index y ∈ lw_all) (hR : n' + 1 ≤ N ∧ 8 + (maxL + 11) + 64 * n' ≤ 64 * N) (hc : u + mc ≤ rk ∧ v + ms ≤ rs) (hn : As.length = na)
    (hst : st = As.reverse ++ .ref b :: rest) (hrm : (rest.map fun x => x.category).sum ≤ 8) (hrecv : ∃ (k ci : Nat) (fs : List Value) (q : vw_C), ws[k]? = some (b, .inr (ci, fs)) ∧ zg_cl[ci]? = some q ∧ q.1 = C) (hdg : decode cc pc = .ok (.invokevirtual index, 3)) (kk : ∀ z : S, Go p l e (rmG N rk rs) s m args below meth c D A nL Q (f z) (u + mc) (v + ms) (pc + 3) lv rest) : Go p l e (rmG N rk rs) s m args below meth c D A nL Q ws u v pc lv st := by
  intro H locs ls hP hD hS hl
  refine va_callv (zx_runV hO hX hM hw hlk hR hc hn hst hrm hdg hP hD hS hl hrecv) hS (fun q _ h => va_AA hO hS hD q h) (fun q h => va_AA hO hS hD q h) (fun z t H1 locs1 ht hvm hx hB hz hk hS1 => ?_)
  subst ht
  skip
  exact kk z t.heap locs1 ls hB.1 (hB.2.2.weaken fun k q _ h => va_AA hO hS hD q.1 h) hS1 hl
theorem zx_callNi {host : String} (hO : Ok p s m args meth c cc own nL D dA A) (hX : XK dA G A s) {r : Int32} (hM : CtX l y (ws_ y bytes maxL ret) n' mc ms D dA G (.ref b :: As) ws (QgI D dA f r)) (hw : MwX y bytes maxL ret C na) (hlk : Cond.methodLinkNest own index y host ∈ lw_tbl) (hR : n' + 1 ≤ N ∧ 8 + (maxL + 11) + 64 * n' ≤ 64 * N) (hc : u + mc ≤ rk ∧ v + ms ≤ rs) (hn : As.length = na)
    (hst : st = As.reverse ++ .ref b :: rest) (hrm : (rest.map fun x => x.category).sum ≤ 8) (hrecv : ∃ (k ci : Nat) (fs : List Value) (q : vw_C), ws[k]? = some (b, .inr (ci, fs)) ∧ zg_cl[ci]? = some q ∧ q.1 = C) (hdg : decode cc pc = .ok (.invokevirtual index, 3)) (kk : ∀ z : S, Go p l e (rmG N rk rs) s m args below meth c D A nL Q (f z) (u + mc) (v + ms) (pc + 3) lv (.int r :: rest)) : Go p l e (rmG N rk rs) s m args below meth c D A nL Q ws u v pc lv st := by
  intro H locs ls hP hD hS hl
  refine va_calli (zx_runVN hO hX hM hw hlk hR hc hn hst hrm hdg hP hD hS hl hrecv) hS (fun q _ h => va_AA hO hS hD q h) (fun q h => va_AA hO hS hD q h) (fun x z t H1 locs1 ht hvm hx hB hz hk hS1 => ?_)
  subst hx
  subst ht
  exact kk z t.heap locs1 ls hB.1 (hB.2.2.weaken fun k q _ h => va_AA hO hS hD q.1 h) hS1 hl
theorem zx_callNl {host : String} (hO : Ok p s m args meth c cc own nL D dA A) (hX : XK dA G A s) {r : Int64} (hM : CtX l y (ws_ y bytes maxL ret) n' mc ms D dA G (.ref b :: As) ws (QgL D dA f r)) (hw : MwX y bytes maxL ret C na) (hlk : Cond.methodLinkNest own index y host ∈ lw_tbl) (hR : n' + 1 ≤ N ∧ 8 + (maxL + 11) + 64 * n' ≤ 64 * N) (hc : u + mc ≤ rk ∧ v + ms ≤ rs) (hn : As.length = na)
    (hst : st = As.reverse ++ .ref b :: rest) (hrm : (rest.map fun x => x.category).sum ≤ 8) (hrecv : ∃ (k ci : Nat) (fs : List Value) (q : vw_C), ws[k]? = some (b, .inr (ci, fs)) ∧ zg_cl[ci]? = some q ∧ q.1 = C) (hdg : decode cc pc = .ok (.invokevirtual index, 3)) (kk : ∀ z : S, Go p l e (rmG N rk rs) s m args below meth c D A nL Q (f z) (u + mc) (v + ms) (pc + 3) lv (.long r :: rest)) : Go p l e (rmG N rk rs) s m args below meth c D A nL Q ws u v pc lv st := by
  intro H locs ls hP hD hS hl
  refine va_calll (zx_runVN hO hX hM hw hlk hR hc hn hst hrm hdg hP hD hS hl hrecv) hS (fun q _ h => va_AA hO hS hD q h) (fun q h => va_AA hO hS hD q h) (fun x z t H1 locs1 ht hvm hx hB hz hk hS1 => ?_)
  subst hx
  subst ht
  exact kk z t.heap locs1 ls hB.1 (hB.2.2.weaken fun k q _ h => va_AA hO hS hD q.1 h) hS1 hl
theorem zx_callNv {host : String} (hO : Ok p s m args meth c cc own nL D dA A) (hX : XK dA G A s) (hM : CtX l y (ws_ y bytes maxL ret) n' mc ms D dA G (.ref b :: As) ws (QgV D dA f)) (hw : MwX y bytes maxL ret C na) (hlk : Cond.methodLinkNest own index y host ∈ lw_tbl) (hR : n' + 1 ≤ N ∧ 8 + (maxL + 11) + 64 * n' ≤ 64 * N) (hc : u + mc ≤ rk ∧ v + ms ≤ rs) (hn : As.length = na)
    (hst : st = As.reverse ++ .ref b :: rest) (hrm : (rest.map fun x => x.category).sum ≤ 8) (hrecv : ∃ (k ci : Nat) (fs : List Value) (q : vw_C), ws[k]? = some (b, .inr (ci, fs)) ∧ zg_cl[ci]? = some q ∧ q.1 = C) (hdg : decode cc pc = .ok (.invokevirtual index, 3)) (kk : ∀ z : S, Go p l e (rmG N rk rs) s m args below meth c D A nL Q (f z) (u + mc) (v + ms) (pc + 3) lv rest) : Go p l e (rmG N rk rs) s m args below meth c D A nL Q ws u v pc lv st := by
  intro H locs ls hP hD hS hl
  refine va_callv (zx_runVN hO hX hM hw hlk hR hc hn hst hrm hdg hP hD hS hl hrecv) hS (fun q _ h => va_AA hO hS hD q h) (fun q h => va_AA hO hS hD q h) (fun z t H1 locs1 ht hvm hx hB hz hk hS1 => ?_)
  subst ht
  skip
  exact kk z t.heap locs1 ls hB.1 (hB.2.2.weaken fun k q _ h => va_AA hO hS hD q.1 h) hS1 hl
theorem zx_callSi (hO : Ok p s m args meth c cc own nL D dA A) (hX : XK dA G A s) {r : Int32} (hM : CtX l y (ws_ y bytes maxL ret) n' mc ms D dA G (As) ws (QgI D dA f r)) (hw : MwS y bytes maxL ret na) (hlk : Cond.methodLink own index y ∈ lw_all) (hR : n' + 1 ≤ N ∧ 8 + (maxL + 11) + 64 * n' ≤ 64 * N) (hc : u + mc ≤ rk ∧ v + ms ≤ rs) (hn : As.length = na)
    (hst : st = As.reverse ++ rest) (hrm : (rest.map fun x => x.category).sum ≤ 8) (hdg : decode cc pc = .ok (.invokestatic index, 3)) (kk : ∀ z : S, Go p l e (rmG N rk rs) s m args below meth c D A nL Q (f z) (u + mc) (v + ms) (pc + 3) lv (.int r :: rest)) : Go p l e (rmG N rk rs) s m args below meth c D A nL Q ws u v pc lv st := by
  intro H locs ls hP hD hS hl
  refine va_calli (zx_runS hO hX hM hw hlk hR hc hn hst hrm hdg hP hD hS hl) hS (fun q _ h => va_AA hO hS hD q h) (fun q h => va_AA hO hS hD q h) (fun x z t H1 locs1 ht hvm hx hB hz hk hS1 => ?_)
  subst hx
  subst ht
  exact kk z t.heap locs1 ls hB.1 (hB.2.2.weaken fun k q _ h => va_AA hO hS hD q.1 h) hS1 hl
theorem zx_callSl (hO : Ok p s m args meth c cc own nL D dA A) (hX : XK dA G A s) {r : Int64} (hM : CtX l y (ws_ y bytes maxL ret) n' mc ms D dA G (As) ws (QgL D dA f r)) (hw : MwS y bytes maxL ret na) (hlk : Cond.methodLink own index y ∈ lw_all) (hR : n' + 1 ≤ N ∧ 8 + (maxL + 11) + 64 * n' ≤ 64 * N) (hc : u + mc ≤ rk ∧ v + ms ≤ rs) (hn : As.length = na)
    (hst : st = As.reverse ++ rest) (hrm : (rest.map fun x => x.category).sum ≤ 8) (hdg : decode cc pc = .ok (.invokestatic index, 3)) (kk : ∀ z : S, Go p l e (rmG N rk rs) s m args below meth c D A nL Q (f z) (u + mc) (v + ms) (pc + 3) lv (.long r :: rest)) : Go p l e (rmG N rk rs) s m args below meth c D A nL Q ws u v pc lv st := by
  intro H locs ls hP hD hS hl
  refine va_calll (zx_runS hO hX hM hw hlk hR hc hn hst hrm hdg hP hD hS hl) hS (fun q _ h => va_AA hO hS hD q h) (fun q h => va_AA hO hS hD q h) (fun x z t H1 locs1 ht hvm hx hB hz hk hS1 => ?_)
  subst hx
  subst ht
  exact kk z t.heap locs1 ls hB.1 (hB.2.2.weaken fun k q _ h => va_AA hO hS hD q.1 h) hS1 hl
theorem zx_callSv (hO : Ok p s m args meth c cc own nL D dA A) (hX : XK dA G A s) (hM : CtX l y (ws_ y bytes maxL ret) n' mc ms D dA G (As) ws (QgV D dA f)) (hw : MwS y bytes maxL ret na) (hlk : Cond.methodLink own index y ∈ lw_all) (hR : n' + 1 ≤ N ∧ 8 + (maxL + 11) + 64 * n' ≤ 64 * N) (hc : u + mc ≤ rk ∧ v + ms ≤ rs) (hn : As.length = na)
    (hst : st = As.reverse ++ rest) (hrm : (rest.map fun x => x.category).sum ≤ 8) (hdg : decode cc pc = .ok (.invokestatic index, 3)) (kk : ∀ z : S, Go p l e (rmG N rk rs) s m args below meth c D A nL Q (f z) (u + mc) (v + ms) (pc + 3) lv rest) : Go p l e (rmG N rk rs) s m args below meth c D A nL Q ws u v pc lv st := by
  intro H locs ls hP hD hS hl
  refine va_callv (zx_runS hO hX hM hw hlk hR hc hn hst hrm hdg hP hD hS hl) hS (fun q _ h => va_AA hO hS hD q h) (fun q h => va_AA hO hS hD q h) (fun z t H1 locs1 ht hvm hx hB hz hk hS1 => ?_)
  subst ht
  skip
  exact kk z t.heap locs1 ls hB.1 (hB.2.2.weaken fun k q _ h => va_AA hO hS hD q.1 h) hS1 hl
theorem zx_iret {R : Room} (hO : Ok p s m args meth c cc own nL D dA A) (hr : meth.sig.returnType = some .int) {x r : Int32} (z : S) (hw : ws = f z) (hxr : x = r) (hc : u ≤ mc ∧ v ≤ ms) (hdg : decode cc pc = .ok (.ireturn, 1)) : Go p l e R s m args below meth c D A nL (MQ below ((QgI D dA f r) A) args s mc ms A) ws u v pc lv [.int x] := by
  subst hxr
  exact fun H locs ls hP hD hS _ => W.widen hc.1 hc.2 (W.iret (v := x) hO.1 hO.2.1 hr (fun t ht hW => ⟨⟨x, z, rfl, rfl, by rw [ht, ← hw]; exact hP, va_K.moved hW.alike hO.2.2.2.2.2.1, by rw [← hw]; exact hD⟩, hS.F ht⟩) hS.2.2 hdg hO.2.2.2.2.2.2.2)
theorem zx_lret {R : Room} (hO : Ok p s m args meth c cc own nL D dA A) (hr : meth.sig.returnType = some .long) {x r : Int64} (z : S) (hw : ws = f z) (hxr : x = r) (hc : u ≤ mc ∧ v ≤ ms) (hdg : decode cc pc = .ok (.lreturn, 1)) : Go p l e R s m args below meth c D A nL (MQ below ((QgL D dA f r) A) args s mc ms A) ws u v pc lv [.long x] := by
  subst hxr
  exact fun H locs ls hP hD hS _ => W.widen hc.1 hc.2 (W.lret (v := x) hO.1 hO.2.1 hr (fun t ht hW => ⟨⟨x, z, rfl, rfl, by rw [ht, ← hw]; exact hP, va_K.moved hW.alike hO.2.2.2.2.2.1, by rw [← hw]; exact hD⟩, hS.F ht⟩) hS.2.2 hdg hO.2.2.2.2.2.2.2)
theorem zx_zret {R : Room} (hO : Ok p s m args meth c cc own nL D dA A) (hr : meth.sig.returnType = some .boolean) {x r : Int32} (hx : x = 0 ∨ x = 1) (z : S) (hw : ws = f z) (hxr : x = r) (hc : u ≤ mc ∧ v ≤ ms) (hdg : decode cc pc = .ok (.ireturn, 1)) : Go p l e R s m args below meth c D A nL (MQ below ((QgI D dA f r) A) args s mc ms A) ws u v pc lv [.int x] := by
  subst hxr
  exact fun H locs ls hP hD hS _ => W.widen hc.1 hc.2 (W.zret (v := x) hO.1 hO.2.1 hr (by rcases hx with rfl | rfl <;> rfl) (fun t ht hW => ⟨⟨x, z, rfl, rfl, by rw [ht, ← hw]; exact hP, va_K.moved hW.alike hO.2.2.2.2.2.1, by rw [← hw]; exact hD⟩, hS.F ht⟩) hS.2.2 hdg hO.2.2.2.2.2.2.2)
theorem zx_vret {R : Room} (hO : Ok p s m args meth c cc own nL D dA A) (hr : meth.sig.returnType = none) (z : S) (hw : ws = f z) (hc : u ≤ mc ∧ v ≤ ms) (hdg : decode cc pc = .ok (.return_, 1)) : Go p l e R s m args below meth c D A nL (MQ below ((QgV D dA f) A) args s mc ms A) ws u v pc lv [] :=
  fun H locs ls hP hD hS _ => W.widen hc.1 hc.2 (W.vret hO.1 hO.2.1 hr (fun t ht hW => ⟨⟨z, rfl, trivial, by rw [ht, ← hw]; exact hP, va_K.moved hW.alike hO.2.2.2.2.2.1, by rw [← hw]; exact hD⟩, hS.F ht⟩) hS.2.2 hdg hO.2.2.2.2.2.2.2)
end ZXD

/-- a field by a nest mate's entry -/
def FdN (own : String) (index ci k : Nat) : Prop := ∃ (C : String) (T : u_T) (N : Nat) (ref host : String), zg_cl[ci]? = some (C, T, N) ∧ (∀ w ∈ u_ws C T N, w ∈ lw_all) ∧ k < N ∧ Cond.fieldLinkNest own index ref (T k).2.1 (T k).2.2.1 host ∈ lw_tbl ∧ (ref = (T k).1 ∨ Cond.sameField ref (T k).1 (T k).2.1 (T k).2.2.1 ∈ lw_all)
def FdNP (own : String) (index ci k : Nat) (ty : FieldType) : Prop := ∃ (C : String) (T : u_T) (N : Nat) (ref host : String) (ty0 : Nat → FieldType), zg_cl[ci]? = some (C, T, N) ∧ (∀ w ∈ u_ws C T N, w ∈ lw_all) ∧ k < N ∧ Cond.fieldLinkNest own index ref (T k).2.1 (T k).2.2.1 host ∈ lw_tbl ∧ (ref = (T k).1 ∨ Cond.sameField ref (T k).1 (T k).2.1 (T k).2.2.1 ∈ lw_all) ∧ (∀ k, k < N → parseFieldDescriptor (T k).2.2.1 = some (ty0 k)) ∧ (∀ a, a < N → ∀ b, b < N → a ≠ b → (T a).2.1 ≠ (T b).2.1) ∧ (T k).2.2.2 = false ∧ parseFieldDescriptor (T k).2.2.1 = some ty
/-- a final field, written by its class's constructor -/
def FdF (own : String) (index ci k : Nat) (ty : FieldType) : Prop := ∃ (C : String) (T : u_T) (N : Nat) (ref : String) (ty0 : Nat → FieldType), zg_cl[ci]? = some (C, T, N) ∧ (∀ w ∈ u_ws C T N, w ∈ lw_all) ∧ k < N ∧ Cond.fieldLink own index ref (T k).2.1 (T k).2.2.1 ∈ lw_all ∧ (ref = (T k).1 ∨ Cond.sameField ref (T k).1 (T k).2.1 (T k).2.2.1 ∈ lw_all) ∧ (∀ k, k < N → parseFieldDescriptor (T k).2.2.1 = some (ty0 k)) ∧ (∀ a, a < N → ∀ b, b < N → a ≠ b → (T a).2.1 ≠ (T b).2.1) ∧ (T k).2.2.2 = true ∧ (T k).1 = own ∧ parseFieldDescriptor (T k).2.2.1 = some ty
section ZNF
variable {p : Program} {l : Launch} {e : Env} {R : Room} {s : State} {m : MethodId} {args : Array Value} {below : List Frame} {meth : Method} {c : Code} {cc : ByteArray} {own : String} {nL : Nat} {D : va_G} {dA : Nat → ClassId} {A : Nat → Prop} {Q : State → Prop} {ws : va_W} {u v pc : Nat} {lv : List (Nat × Value)} {st : List Value}
theorem zg_getN (hO : Ok p s m args meth c cc own nL D dA A) (hN : NX s) {index ci k a : Nat} (hF : FdN own index ci k) (q0 : Nat) {fs : List Value} {x : Value} (he : ws[q0]? = some (a, .inr (ci, fs))) (hv : fs[k]? = some x) (hdg : decode cc pc = .ok (.getfield index, 3)) (kk : Go p l e R s m args below meth c D A nL Q ws u v (pc + 3) lv (x :: st)) : Go p l e R s m args below meth c D A nL Q ws u v pc lv (.ref a :: st) := by
  obtain ⟨C, T, N, ref, host, h1, h2, h3, h4, h5⟩ := hF
  exact fun H locs ls hP hD hS hl => va_getN hO.1 hO.2.1 hO.2.2.2.2.1 h2 hO.2.2.2.1 hO.2.2.2.2.2.1 hP q0 he h1 k h3 (hN.use h4 rfl rfl) (zg_same hO.2.2.2.2.1 h5) hv hdg (kk H locs ls hP hD hS hl)
theorem zg_putN (hO : Ok p s m args meth c cc own nL D dA A) (hN : NX s) {index ci k a : Nat} {ty : FieldType} (hF : FdNP own index ci k ty) (q0 : Nat) {fs : List Value} {x : Value} {ws' : va_W} (he : ws[q0]? = some (a, .inr (ci, fs))) (hn : narrow ty x = x) (hfit : fits ty x = true) (hl : k < fs.length) (hw : ws.set q0 (a, .inr (ci, fs.set k x)) = ws') (hdg : decode cc pc = .ok (.putfield index, 3)) (kk : Go p l e R s m args below meth c D A nL Q ws' u v (pc + 3) lv st) : Go p l e R s m args below meth c D A nL Q ws u v pc lv (x :: .ref a :: st) := by
  obtain ⟨C, T, N, ref, host, ty0, h1, h2, h3, h4, h5, h6, h7, h8, h9⟩ := hF
  subst hw
  exact fun H locs ls hP hD hS hls => va_putN hO.1 hO.2.1 hO.2.2.2.2.1 h2 ty0 h6 h7 hO.2.2.2.1 hO.2.2.2.2.2.1 hP hD hS q0 he h1 k h3 (hN.use h4 rfl rfl) (zg_same hO.2.2.2.2.1 h5) h8 h9 hn hfit hl hdg (fun H1 locs1 hP1 hD1 hS1 => kk H1 locs1 ls hP1 hD1 hS1 hls)
theorem zg_putF (hO : Ok p s m args meth c cc own nL D dA A) (hin : meth.name = "<init>") {index ci k a : Nat} {ty : FieldType} (hF : FdF own index ci k ty) (q0 : Nat) {fs : List Value} {x : Value} {ws' : va_W} (he : ws[q0]? = some (a, .inr (ci, fs))) (hn : narrow ty x = x) (hfit : fits ty x = true) (hl : k < fs.length) (hw : ws.set q0 (a, .inr (ci, fs.set k x)) = ws') (hdg : decode cc pc = .ok (.putfield index, 3)) (kk : Go p l e R s m args below meth c D A nL Q ws' u v (pc + 3) lv st) : Go p l e R s m args below meth c D A nL Q ws u v pc lv (x :: .ref a :: st) := by
  obtain ⟨C, T, N, ref, ty0, h1, h2, h3, h4, h5, h6, h7, h8, h9, h10⟩ := hF
  subst hw
  exact fun H locs ls hP hD hS hls => va_putF hO.1 hO.2.1 hO.2.2.2.2.1 h2 ty0 h6 h7 hO.2.2.2.1 hO.2.2.2.2.2.1 hP hD hS q0 he h1 k h3 (hO.2.2.2.2.1 _ h4) (zg_same hO.2.2.2.2.1 h5) h8 hin h9 h10 hn hfit hl hdg (fun H1 locs1 hP1 hD1 hS1 => kk H1 locs1 ls hP1 hD1 hS1 hls)
theorem zg_bld (hO : Ok p s m args meth c cc own nL D dA A) {a n : Nat} {f : Nat → Int32} {i : Int32} {α : Type} {g : Option α} {z : α} (h : (if i < 0 ∨ n ≤ i.toNatClampNeg then none else g) = some z) (q0 : Nat) (ha : ws[q0]? = some (a, .inl (dA 2, n, .inl f))) (hdg : decode cc pc = .ok (.baload, 1)) (kk : g = some z → Go p l e R s m args below meth c D A nL Q ws u v (pc + 1) lv (.int (f i.toNatClampNeg) :: st)) : Go p l e R s m args below meth c D A nL Q ws u v pc lv (.int i :: .ref a :: st) := fun H locs ls hP hD hS hl => va_bald hO.1 hO.2.1 hO.2.2.2.2.2.1 hP q0 2 ha rfl (zg_none h).1 hdg (kk (zg_none h).2 H locs ls hP hD hS hl)
theorem zg_bst (hO : Ok p s m args meth c cc own nL D dA A) {a n : Nat} {f : Nat → Int32} {i : Int32} {x : Int32} {α : Type} {g : Option α} {z : α} {ws' : va_W} (h : (if i < 0 ∨ n ≤ i.toNatClampNeg then none else g) = some z) (q0 : Nat) (ha : ws[q0]? = some (a, .inl (dA 2, n, .inl f))) (hw : ws.set q0 (a, .inl (dA 2, n, .inl (upd f i.toNatClampNeg (vp_nar .byte x)))) = ws') (hdg : decode cc pc = .ok (.bastore, 1)) (kk : g = some z → Go p l e R s m args below meth c D A nL Q ws' u v (pc + 1) lv st) : Go p l e R s m args below meth c D A nL Q ws u v pc lv (.int x :: .int i :: .ref a :: st) := by
  subst hw
  exact fun H locs ls hP hD hS hl => va_bast hO.1 hO.2.1 hO.2.2.2.2.2.1 hP hD hS q0 2 ha rfl (zg_none h).1 hdg (fun H1 locs1 hP1 hD1 hS1 => kk (zg_none h).2 H1 locs1 ls hP1 hD1 hS1 hl)
theorem zg_alen (hO : Ok p s m args meth c cc own nL D dA A) {a t0 : Nat} {cA : ClassId} {x : vp_A} {ty : FieldType} (q0 : Nat) (ha : ws[q0]? = some (a, .inl (cA, x))) (ht : (zg_tys dA)[t0]? = some (cA, ty)) {y : Int32} (hy : Int32.ofNat x.1 = y) (hdg : decode cc pc = .ok (.arraylength, 1)) (kk : Go p l e R s m args below meth c D A nL Q ws u v (pc + 1) lv (.int y :: st)) : Go p l e R s m args below meth c D A nL Q ws u v pc lv (.ref a :: st) := fun H locs ls hP hD hS hl => va_alen hO.1 hO.2.1 hO.2.2.2.2.2.1 hP q0 t0 ha ht hy hdg (kk H locs ls hP hD hS hl)
theorem zg_ald (hO : Ok p s m args meth c cc own nL D dA A) {a n t0 : Nat} {cA : ClassId} {C : String} {f : Nat → Option Nat} {i : Int32} {α : Type} {g : Option α} {z : α} (h : (if i < 0 ∨ n ≤ i.toNatClampNeg then none else g) = some z) (q0 : Nat) (ha : ws[q0]? = some (a, .inl (cA, n, .inr (.inr (.inr (.inr f)))))) (ht : (zg_tys dA)[t0]? = some (cA, .object C)) (hdg : decode cc pc = .ok (.aaload, 1)) (kk : g = some z → Go p l e R s m args below meth c D A nL Q ws u v (pc + 1) lv (va_rf (f i.toNatClampNeg) :: st)) : Go p l e R s m args below meth c D A nL Q ws u v pc lv (.int i :: .ref a :: st) := fun H locs ls hP hD hS hl => va_aldq hO.1 hO.2.1 hO.2.2.2.2.2.1 hP q0 t0 ha ht (zg_none h).1 hdg (kk (zg_none h).2 H locs ls hP hD hS hl)
theorem zg_aloadO_n (hO : Ok p s m args meth c cc own nL D dA A) {k : Fin 4} {i : Nat} {o : Option Nat} (q : Nat) (hdg : decode cc pc = .ok (.aload_n k, 1)) (hi : (k : Nat) = i) (hq : lv[q]? = some (i, va_rf o)) (kk : Go p l e R s m args below meth c D A nL Q ws u v (pc + 1) lv (va_rf o :: st)) : Go p l e R s m args below meth c D A nL Q ws u v pc lv st := by
  cases o with
  | none => exact zg_aload_nN hO q hdg hi hq kk
  | some a => exact zg_aload_n hO q hdg hi hq kk
theorem zg_aloadO (hO : Ok p s m args meth c cc own nL D dA A) {i : Nat} {o : Option Nat} (q : Nat) (hdg : decode cc pc = .ok (.aload i, 2)) (hq : lv[q]? = some (i, va_rf o)) (kk : Go p l e R s m args below meth c D A nL Q ws u v (pc + 2) lv (va_rf o :: st)) : Go p l e R s m args below meth c D A nL Q ws u v pc lv st := by
  cases o with
  | none => exact zg_aloadN hO q hdg hq kk
  | some a => exact zg_aload hO q hdg hq kk
theorem zg_astoreO_n (hO : Ok p s m args meth c cc own nL D dA A) {k : Fin 4} {i : Nat} {o : Option Nat} {lv' : List (Nat × Value)} (hdg : decode cc pc = .ok (.astore_n k, 1)) (hi : (k : Nat) = i) (hn : i < nL) (hl : (i, va_rf o) :: lv.filter (fun q => !(q.1 == i) && !(q.1 + 1 == i && q.2.category == 2)) = lv') (kk : Go p l e R s m args below meth c D A nL Q ws u v (pc + 1) lv' st) : Go p l e R s m args below meth c D A nL Q ws u v pc lv (va_rf o :: st) := by
  cases o with
  | none => exact zg_astore_nN hO hdg hi hn hl kk
  | some a => exact zg_astore_n hO hdg hi hn hl kk
theorem zg_astoreO (hO : Ok p s m args meth c cc own nL D dA A) {i : Nat} {o : Option Nat} {lv' : List (Nat × Value)} (hdg : decode cc pc = .ok (.astore i, 2)) (hn : i < nL) (hl : (i, va_rf o) :: lv.filter (fun q => !(q.1 == i) && !(q.1 + 1 == i && q.2.category == 2)) = lv') (kk : Go p l e R s m args below meth c D A nL Q ws u v (pc + 2) lv' st) : Go p l e R s m args below meth c D A nL Q ws u v pc lv (va_rf o :: st) := by
  cases o with
  | none => exact zg_astoreN hO hdg hn hl kk
  | some a => exact zg_astore hO hdg hn hl kk
theorem zx_ifnull (hO : Ok p s m args meth c cc own nL D dA A) {ad : Nat → Nat} {o : Option Nat} {α : Type} {f : α} {g : Nat → α} {z : α} (h : oc o f g = z) {off : Int} {tgt : Nat} (hdg : decode cc pc = .ok (.ifnull off, 3)) (ht : (pc : Int) + off = (tgt : Int)) (kn : o = none → f = z → Go p l e R s m args below meth c D A nL Q ws u v tgt lv st) (ks : ∀ i, o = some i → g i = z → Go p l e R s m args below meth c D A nL Q ws u v (pc + 3) lv st) : Go p l e R s m args below meth c D A nL Q ws u v pc lv (va_rf (o.map ad) :: st) := by
  cases o with
  | none => exact fun H locs ls hP hD hS hl => lv_ifnullN hO.1 hO.2.1 hdg ht (kn rfl h H locs ls hP hD hS hl)
  | some i => exact fun H locs ls hP hD hS hl => lv_ifnull hO.1 hO.2.1 hdg (ks i rfl h H locs ls hP hD hS hl)
theorem zx_ifnonnull (hO : Ok p s m args meth c cc own nL D dA A) {ad : Nat → Nat} {o : Option Nat} {α : Type} {f : α} {g : Nat → α} {z : α} (h : oc o f g = z) {off : Int} {tgt : Nat} (hdg : decode cc pc = .ok (.ifnonnull off, 3)) (ht : (pc : Int) + off = (tgt : Int)) (kn : o = none → f = z → Go p l e R s m args below meth c D A nL Q ws u v (pc + 3) lv st) (ks : ∀ i, o = some i → g i = z → Go p l e R s m args below meth c D A nL Q ws u v tgt lv st) : Go p l e R s m args below meth c D A nL Q ws u v pc lv (va_rf (o.map ad) :: st) := by
  cases o with
  | none => exact fun H locs ls hP hD hS hl => lv_ifnonnullN hO.1 hO.2.1 hdg (kn rfl h H locs ls hP hD hS hl)
  | some i => exact fun H locs ls hP hD hS hl => lv_ifnonnull hO.1 hO.2.1 hdg ht (ks i rfl h H locs ls hP hD hS hl)
/-- a place that is asked for what it names: it must name a cell -/
theorem zx_oc {o : Option Nat} {α : Type} {g : Nat → Option α} {z : α} {Pq : Prop} (h : oc o none g = some z) (ks : ∀ i, o = some i → g i = some z → Pq) : Pq := by
  cases o with
  | none => cases h
  | some i => exact ks i rfl h
theorem zx_top (ad : Nat → Nat) {o : Option Nat} {i : Nat} (ho : o = some i) (k : Go p l e R s m args below meth c D A nL Q ws u v pc lv (.ref (ad i) :: st)) : Go p l e R s m args below meth c D A nL Q ws u v pc lv (va_rf (o.map ad) :: st) := by subst ho; exact k
end ZNF
section ZXL
variable {p : Program} {l : Launch} {e : Env} {R : Room} {s : State} {m : MethodId} {args : Array Value} {below : List Frame} {meth : Method} {c : Code} {cc : ByteArray} {nL N : Nat} {D : va_G} {dA : Nat → ClassId} {G : Nat → Nat} {tb : Nat} {ad : Nat → Nat} {A : Nat → Prop} {Q : State → Prop} {σ : XS} {u v pc : Nat} {lv : List (Nat × Value)} {st rest : List Value}
theorem pc_f {ad : Nat → Nat} {r : PR} (h : rK r = false) : pcell ad r = .inr (3, [.long (rP r), .long (rQ r)]) := by
  have h1 : r.1 = false := h
  simp [pcell, h1]
theorem pc_t {ad : Nat → Nat} {r : PR} (h : rK r = true) : pcell ad r = .inr (4, [.long (rP r), .long (rQ r), .int (rI r), va_rf ((rB r).map ad), .int (rL r), .int (rR r)]) := by
  have h1 : r.1 = true := h
  simp [pcell, h1]
theorem wx_f {i : Nat} (hi : i < xN σ) (h : rK (xC σ i) = false) : (WX dA G tb ad σ)[63 + i]? = some (ad i, .inr (3, [.long (rP (xC σ i)), .long (rQ (xC σ i))])) := by
  rw [← pc_f (ad := ad) h]; exact px_get wx_len hi
theorem wx_t {i : Nat} (hi : i < xN σ) (h : rK (xC σ i) = true) : (WX dA G tb ad σ)[63 + i]? = some (ad i, .inr (4, [.long (rP (xC σ i)), .long (rQ (xC σ i)), .int (rI (xC σ i)), va_rf ((rB (xC σ i)).map ad), .int (rL (xC σ i)), .int (rR (xC σ i))])) := by
  rw [← pc_t (ad := ad) h]; exact px_get wx_len hi
def uP (r : PR) (x : Int64) : PR := (r.1, x, r.2.2)
def uQ (r : PR) (x : Int64) : PR := (r.1, r.2.1, x, r.2.2.2)
def uI (r : PR) (x : Int32) : PR := (r.1, r.2.1, r.2.2.1, x, r.2.2.2.2)
def uB (r : PR) (o : Option Nat) : PR := (r.1, r.2.1, r.2.2.1, r.2.2.2.1, o, r.2.2.2.2.2)
def uL (r : PR) (x : Int32) : PR := (r.1, r.2.1, r.2.2.1, r.2.2.2.1, r.2.2.2.2.1, x, r.2.2.2.2.2.2)
def uR (r : PR) (x : Int32) : PR := (r.1, r.2.1, r.2.2.1, r.2.2.2.1, r.2.2.2.2.1, r.2.2.2.2.2.1, x)
theorem wx_set {i : Nat} {r : PR} {e : va_E} (hi : i < xN σ) (he : e = pcell ad r) : (WX dA G tb ad σ).set (63 + i) (ad i, e) = WX dA G tb ad (zC σ i r) := by
  rw [he]; exact px_set wx_len hi
theorem wx_line {i : Nat} (hi : i < 5) : (WX dA G tb ad σ)[40 + 3 * i]? = some (G (48 + 3 * i), .inr (2, [.ref (G (49 + 3 * i)), .ref (G (50 + 3 * i)), .ref (G 0)])) := by
  rcases (show i = 0 ∨ i = 1 ∨ i = 2 ∨ i = 3 ∨ i = 4 by omega) with rfl | rfl | rfl | rfl | rfl <;> rfl
theorem wx_top {i : Nat} (hi : i < 5) : (WX dA G tb ad σ)[41 + 3 * i]? = some (G (49 + 3 * i), .inl (dA 3, 2, .inr (.inr (.inr (.inr (topsOf σ i ad)))))) := by
  rcases (show i = 0 ∨ i = 1 ∨ i = 2 ∨ i = 3 ∨ i = 4 by omega) with rfl | rfl | rfl | rfl | rfl <;> rfl
theorem wx_many {i : Nat} (hi : i < 5) : (WX dA G tb ad σ)[42 + 3 * i]? = some (G (50 + 3 * i), .inl (dA 0, 2, .inl (xA σ (5 + i)))) := by
  rcases (show i = 0 ∨ i = 1 ∨ i = 2 ∨ i = 3 ∨ i = 4 by omega) with rfl | rfl | rfl | rfl | rfl <;> rfl
theorem wx_manyS {i k : Nat} {x : Int32} (hi : i < 5) : (WX dA G tb ad σ).set (42 + 3 * i) (G (50 + 3 * i), .inl (dA 0, 2, .inl (upd (xA σ (5 + i)) k x))) = WX dA G tb ad (zA σ (5 + i) k x) := by
  rcases (show i = 0 ∨ i = 1 ∨ i = 2 ∨ i = 3 ∨ i = 4 by omega) with rfl | rfl | rfl | rfl | rfl <;> rfl
theorem topsOf_set {i k : Nat} {o : Option Nat} (hk : k < 2) : va_up (topsOf σ i ad) k (o.map ad) = topsOf (zT σ i k o) i ad := by
  funext j
  by_cases h : j = k
  · subst h
    simp [va_up, topsOf, zT, xT, hk]
  · simp [va_up, topsOf, zT, xT, h]
theorem topsOf_ne {i i' k : Nat} {o : Option Nat} (h : i' ≠ i) : topsOf (zT σ i k o) i' ad = topsOf σ i' ad := by
  funext j
  simp [topsOf, zT, xT, va_up, h]
theorem wx_topS {i k : Nat} {o : Option Nat} (hi : i < 5) (hk : k < 2) : (WX dA G tb ad σ).set (41 + 3 * i) (G (49 + 3 * i), .inl (dA 3, 2, .inr (.inr (.inr (.inr (va_up (topsOf σ i ad) k (o.map ad))))))) = WX dA G tb ad (zT σ i k o) := by
  rw [topsOf_set hk]
  unfold WX fixX
  rcases (show i = 0 ∨ i = 1 ∨ i = 2 ∨ i = 3 ∨ i = 4 by omega) with rfl | rfl | rfl | rfl | rfl
  · rw [topsOf_ne (show (1 : Nat) ≠ 0 by decide), topsOf_ne (show (2 : Nat) ≠ 0 by decide), topsOf_ne (show (3 : Nat) ≠ 0 by decide), topsOf_ne (show (4 : Nat) ≠ 0 by decide)]; rfl
  · rw [topsOf_ne (show (0 : Nat) ≠ 1 by decide), topsOf_ne (show (2 : Nat) ≠ 1 by decide), topsOf_ne (show (3 : Nat) ≠ 1 by decide), topsOf_ne (show (4 : Nat) ≠ 1 by decide)]; rfl
  · rw [topsOf_ne (show (0 : Nat) ≠ 2 by decide), topsOf_ne (show (1 : Nat) ≠ 2 by decide), topsOf_ne (show (3 : Nat) ≠ 2 by decide), topsOf_ne (show (4 : Nat) ≠ 2 by decide)]; rfl
  · rw [topsOf_ne (show (0 : Nat) ≠ 3 by decide), topsOf_ne (show (1 : Nat) ≠ 3 by decide), topsOf_ne (show (2 : Nat) ≠ 3 by decide), topsOf_ne (show (4 : Nat) ≠ 3 by decide)]; rfl
  · rw [topsOf_ne (show (0 : Nat) ≠ 4 by decide), topsOf_ne (show (1 : Nat) ≠ 4 by decide), topsOf_ne (show (2 : Nat) ≠ 4 by decide), topsOf_ne (show (3 : Nat) ≠ 4 by decide)]; rfl
theorem wx_row {i : Nat} (hi : i < 24) : (WX dA G tb ad σ)[12 + i]? = some (G (20 + i), .inl (dA 0, 4, .inl (xA σ (20 + i)))) := by
  rcases (show i = 0 ∨ i = 1 ∨ i = 2 ∨ i = 3 ∨ i = 4 ∨ i = 5 ∨ i = 6 ∨ i = 7 ∨ i = 8 ∨ i = 9 ∨ i = 10 ∨ i = 11 ∨ i = 12 ∨ i = 13 ∨ i = 14 ∨ i = 15 ∨ i = 16 ∨ i = 17 ∨ i = 18 ∨ i = 19 ∨ i = 20 ∨ i = 21 ∨ i = 22 ∨ i = 23 by omega) with rfl | rfl | rfl | rfl | rfl | rfl | rfl | rfl | rfl | rfl | rfl | rfl | rfl | rfl | rfl | rfl | rfl | rfl | rfl | rfl | rfl | rfl | rfl | rfl <;> rfl
theorem wx_rowS {i k : Nat} {x : Int32} (hi : i < 24) : (WX dA G tb ad σ).set (12 + i) (G (20 + i), .inl (dA 0, 4, .inl (upd (xA σ (20 + i)) k x))) = WX dA G tb ad (zA σ (20 + i) k x) := by
  rcases (show i = 0 ∨ i = 1 ∨ i = 2 ∨ i = 3 ∨ i = 4 ∨ i = 5 ∨ i = 6 ∨ i = 7 ∨ i = 8 ∨ i = 9 ∨ i = 10 ∨ i = 11 ∨ i = 12 ∨ i = 13 ∨ i = 14 ∨ i = 15 ∨ i = 16 ∨ i = 17 ∨ i = 18 ∨ i = 19 ∨ i = 20 ∨ i = 21 ∨ i = 22 ∨ i = 23 by omega) with rfl | rfl | rfl | rfl | rfl | rfl | rfl | rfl | rfl | rfl | rfl | rfl | rfl | rfl | rfl | rfl | rfl | rfl | rfl | rfl | rfl | rfl | rfl | rfl <;> rfl
theorem fX_1_19 : FdL RX1 19 1 5 := ⟨RX1, TX1, 28, "EndSums", rfl, in_X1, by decide, q516, Or.inl rfl⟩
theorem xG_1_19 (hO : Ok p s m args meth c cc RX1 nL D dA A) (hX : XK dA G A s) (hdg : decode cc pc = .ok (.getfield 19, 3)) (kk : Go p l e R s m args below meth c D A nL Q (WX dA G tb ad σ) u v (pc + 3) lv (.int (xI σ 1) :: st)) : Go p l e R s m args below meth c D A nL Q (WX dA G tb ad σ) u v pc lv (.ref (G 0) :: st) := zg_get hO fX_1_19 0 rfl rfl hdg kk
theorem fXp_1_19 : FdP RX1 19 1 5 .int := ⟨RX1, TX1, 28, "EndSums", tyX1, rfl, in_X1, by decide, q516, Or.inl rfl, tyX1_ok, nmX1, rfl, tyX1_ok 5 (by decide)⟩
theorem xP_1_19 (hO : Ok p s m args meth c cc RX1 nL D dA A) (hX : XK dA G A s) {x : Int32} (hdg : decode cc pc = .ok (.putfield 19, 3)) (kk : Go p l e R s m args below meth c D A nL Q (WX dA G tb ad (zI σ 1 x)) u v (pc + 3) lv st) : Go p l e R s m args below meth c D A nL Q (WX dA G tb ad σ) u v pc lv (.int x :: .ref (G 0) :: st) := zg_put hO fXp_1_19 0 rfl rfl rfl (Nat.le_of_ble_eq_true rfl) rfl hdg kk
theorem fX_1_23f : FdL RX1 23 3 0 := ⟨RX2, TX2, 2, "EndSums$Pair", rfl, in_X2, by decide, q218, Or.inl rfl⟩
theorem fX_1_23t : FdL RX1 23 4 0 := ⟨RX5, TX5, 6, "EndSums$Pair", rfl, in_X5, by decide, q218, Or.inl rfl⟩
theorem xG_1_23 (hO : Ok p s m args meth c cc RX1 nL D dA A) (hX : XK dA G A s) {i : Nat} {α : Type} {f : Option α} {z : α} (h : (if i < xN σ then f else none) = some z) (hdg : decode cc pc = .ok (.getfield 23, 3)) (kk : f = some z → Go p l e R s m args below meth c D A nL Q (WX dA G tb ad σ) u v (pc + 3) lv (.long (rP (xC σ i)) :: st)) : Go p l e R s m args below meth c D A nL Q (WX dA G tb ad σ) u v pc lv (.ref (ad i) :: st) := by
  obtain ⟨hi, h2⟩ := zg_some h
  cases hk : rK (xC σ i) with
  | false => exact zg_get hO fX_1_23f (63 + i) (wx_f hi hk) rfl hdg (kk h2)
  | true => exact zg_get hO fX_1_23t (63 + i) (wx_t hi hk) rfl hdg (kk h2)
theorem fX_1_29f : FdL RX1 29 3 1 := ⟨RX2, TX2, 2, "EndSums$Pair", rfl, in_X2, by decide, q222, Or.inl rfl⟩
theorem fX_1_29t : FdL RX1 29 4 1 := ⟨RX5, TX5, 6, "EndSums$Pair", rfl, in_X5, by decide, q222, Or.inl rfl⟩
theorem xG_1_29 (hO : Ok p s m args meth c cc RX1 nL D dA A) (hX : XK dA G A s) {i : Nat} {α : Type} {f : Option α} {z : α} (h : (if i < xN σ then f else none) = some z) (hdg : decode cc pc = .ok (.getfield 29, 3)) (kk : f = some z → Go p l e R s m args below meth c D A nL Q (WX dA G tb ad σ) u v (pc + 3) lv (.long (rQ (xC σ i)) :: st)) : Go p l e R s m args below meth c D A nL Q (WX dA G tb ad σ) u v pc lv (.ref (ad i) :: st) := by
  obtain ⟨hi, h2⟩ := zg_some h
  cases hk : rK (xC σ i) with
  | false => exact zg_get hO fX_1_29f (63 + i) (wx_f hi hk) rfl hdg (kk h2)
  | true => exact zg_get hO fX_1_29t (63 + i) (wx_t hi hk) rfl hdg (kk h2)
theorem fX_1_37 : FdL RX1 37 1 7 := ⟨RX1, TX1, 28, "EndSums", rfl, in_X1, by decide, q518, Or.inl rfl⟩
theorem xG_1_37 (hO : Ok p s m args meth c cc RX1 nL D dA A) (hX : XK dA G A s) (hdg : decode cc pc = .ok (.getfield 37, 3)) (kk : Go p l e R s m args below meth c D A nL Q (WX dA G tb ad σ) u v (pc + 3) lv (.ref tb :: st)) : Go p l e R s m args below meth c D A nL Q (WX dA G tb ad σ) u v pc lv (.ref (G 0) :: st) := zg_get hO fX_1_37 0 rfl rfl hdg kk
theorem fX_1_59 : FdL RX1 59 1 2 := ⟨RX1, TX1, 28, "EndSums", rfl, in_X1, by decide, q513, Or.inl rfl⟩
theorem xG_1_59 (hO : Ok p s m args meth c cc RX1 nL D dA A) (hX : XK dA G A s) (hdg : decode cc pc = .ok (.getfield 59, 3)) (kk : Go p l e R s m args below meth c D A nL Q (WX dA G tb ad σ) u v (pc + 3) lv (.ref (G 19) :: st)) : Go p l e R s m args below meth c D A nL Q (WX dA G tb ad σ) u v pc lv (.ref (G 0) :: st) := zg_get hO fX_1_59 0 rfl rfl hdg kk
theorem fX_1_79 : FdL RX1 79 1 3 := ⟨RX1, TX1, 28, "EndSums", rfl, in_X1, by decide, q514, Or.inl rfl⟩
theorem xG_1_79 (hO : Ok p s m args meth c cc RX1 nL D dA A) (hX : XK dA G A s) (hdg : decode cc pc = .ok (.getfield 79, 3)) (kk : Go p l e R s m args below meth c D A nL Q (WX dA G tb ad σ) u v (pc + 3) lv (.ref (G 44) :: st)) : Go p l e R s m args below meth c D A nL Q (WX dA G tb ad σ) u v pc lv (.ref (G 0) :: st) := zg_get hO fX_1_79 0 rfl rfl hdg kk
theorem fX_1_88 : FdL RX1 88 1 0 := ⟨RX1, TX1, 28, "EndSums", rfl, in_X1, by decide, q511, Or.inl rfl⟩
theorem xG_1_88 (hO : Ok p s m args meth c cc RX1 nL D dA A) (hX : XK dA G A s) (hdg : decode cc pc = .ok (.getfield 88, 3)) (kk : Go p l e R s m args below meth c D A nL Q (WX dA G tb ad σ) u v (pc + 3) lv (.ref (G 1) :: st)) : Go p l e R s m args below meth c D A nL Q (WX dA G tb ad σ) u v pc lv (.ref (G 0) :: st) := zg_get hO fX_1_88 0 rfl rfl hdg kk
theorem fX_1_92 : FdL RX1 92 1 4 := ⟨RX1, TX1, 28, "EndSums", rfl, in_X1, by decide, q515, Or.inl rfl⟩
theorem xG_1_92 (hO : Ok p s m args meth c cc RX1 nL D dA A) (hX : XK dA G A s) (hdg : decode cc pc = .ok (.getfield 92, 3)) (kk : Go p l e R s m args below meth c D A nL Q (WX dA G tb ad σ) u v (pc + 3) lv (.int (xI σ 0) :: st)) : Go p l e R s m args below meth c D A nL Q (WX dA G tb ad σ) u v pc lv (.ref (G 0) :: st) := zg_get hO fX_1_92 0 rfl rfl hdg kk
theorem fXp_1_92 : FdP RX1 92 1 4 .int := ⟨RX1, TX1, 28, "EndSums", tyX1, rfl, in_X1, by decide, q515, Or.inl rfl, tyX1_ok, nmX1, rfl, tyX1_ok 4 (by decide)⟩
theorem xP_1_92 (hO : Ok p s m args meth c cc RX1 nL D dA A) (hX : XK dA G A s) {x : Int32} (hdg : decode cc pc = .ok (.putfield 92, 3)) (kk : Go p l e R s m args below meth c D A nL Q (WX dA G tb ad (zI σ 0 x)) u v (pc + 3) lv st) : Go p l e R s m args below meth c D A nL Q (WX dA G tb ad σ) u v pc lv (.int x :: .ref (G 0) :: st) := zg_put hO fXp_1_92 0 rfl rfl rfl (Nat.le_of_ble_eq_true rfl) rfl hdg kk
theorem fX_1_100 : FdL RX1 100 1 1 := ⟨RX1, TX1, 28, "EndSums", rfl, in_X1, by decide, q512, Or.inl rfl⟩
theorem xG_1_100 (hO : Ok p s m args meth c cc RX1 nL D dA A) (hX : XK dA G A s) (hdg : decode cc pc = .ok (.getfield 100, 3)) (kk : Go p l e R s m args below meth c D A nL Q (WX dA G tb ad σ) u v (pc + 3) lv (.ref (G 2) :: st)) : Go p l e R s m args below meth c D A nL Q (WX dA G tb ad σ) u v pc lv (.ref (G 0) :: st) := zg_get hO fX_1_100 0 rfl rfl hdg kk
theorem fX_1_113 : FdL RX1 113 1 6 := ⟨RX1, TX1, 28, "EndSums", rfl, in_X1, by decide, q517, Or.inl rfl⟩
theorem xG_1_113 (hO : Ok p s m args meth c cc RX1 nL D dA A) (hX : XK dA G A s) (hdg : decode cc pc = .ok (.getfield 113, 3)) (kk : Go p l e R s m args below meth c D A nL Q (WX dA G tb ad σ) u v (pc + 3) lv (.int (xI σ 2) :: st)) : Go p l e R s m args below meth c D A nL Q (WX dA G tb ad σ) u v pc lv (.ref (G 0) :: st) := zg_get hO fX_1_113 0 rfl rfl hdg kk
theorem fXp_1_113 : FdP RX1 113 1 6 .int := ⟨RX1, TX1, 28, "EndSums", tyX1, rfl, in_X1, by decide, q517, Or.inl rfl, tyX1_ok, nmX1, rfl, tyX1_ok 6 (by decide)⟩
theorem xP_1_113 (hO : Ok p s m args meth c cc RX1 nL D dA A) (hX : XK dA G A s) {x : Int32} (hdg : decode cc pc = .ok (.putfield 113, 3)) (kk : Go p l e R s m args below meth c D A nL Q (WX dA G tb ad (zI σ 2 x)) u v (pc + 3) lv st) : Go p l e R s m args below meth c D A nL Q (WX dA G tb ad σ) u v pc lv (.int x :: .ref (G 0) :: st) := zg_put hO fXp_1_113 0 rfl rfl rfl (Nat.le_of_ble_eq_true rfl) rfl hdg kk
theorem fX_1_147 : FdL RX1 147 1 10 := ⟨RX1, TX1, 28, "EndSums", rfl, in_X1, by decide, q523, Or.inl rfl⟩
theorem xG_1_147 (hO : Ok p s m args meth c cc RX1 nL D dA A) (hX : XK dA G A s) (hdg : decode cc pc = .ok (.getfield 147, 3)) (kk : Go p l e R s m args below meth c D A nL Q (WX dA G tb ad σ) u v (pc + 3) lv (.ref (ad 0) :: st)) : Go p l e R s m args below meth c D A nL Q (WX dA G tb ad σ) u v pc lv (.ref (G 0) :: st) := zg_get hO fX_1_147 0 rfl rfl hdg kk
theorem fX_1_151 : FdL RX1 151 1 11 := ⟨RX1, TX1, 28, "EndSums", rfl, in_X1, by decide, q524, Or.inl rfl⟩
theorem xG_1_151 (hO : Ok p s m args meth c cc RX1 nL D dA A) (hX : XK dA G A s) (hdg : decode cc pc = .ok (.getfield 151, 3)) (kk : Go p l e R s m args below meth c D A nL Q (WX dA G tb ad σ) u v (pc + 3) lv (.ref (ad 1) :: st)) : Go p l e R s m args below meth c D A nL Q (WX dA G tb ad σ) u v pc lv (.ref (G 0) :: st) := zg_get hO fX_1_151 0 rfl rfl hdg kk
theorem fX_1_154 : FdL RX1 154 1 12 := ⟨RX1, TX1, 28, "EndSums", rfl, in_X1, by decide, q525, Or.inl rfl⟩
theorem xG_1_154 (hO : Ok p s m args meth c cc RX1 nL D dA A) (hX : XK dA G A s) (hdg : decode cc pc = .ok (.getfield 154, 3)) (kk : Go p l e R s m args below meth c D A nL Q (WX dA G tb ad σ) u v (pc + 3) lv (.ref (ad 2) :: st)) : Go p l e R s m args below meth c D A nL Q (WX dA G tb ad σ) u v pc lv (.ref (G 0) :: st) := zg_get hO fX_1_154 0 rfl rfl hdg kk
theorem fX_1_162 : FdL RX1 162 1 13 := ⟨RX1, TX1, 28, "EndSums", rfl, in_X1, by decide, q526, Or.inl rfl⟩
theorem xG_1_162 (hO : Ok p s m args meth c cc RX1 nL D dA A) (hX : XK dA G A s) (hdg : decode cc pc = .ok (.getfield 162, 3)) (kk : Go p l e R s m args below meth c D A nL Q (WX dA G tb ad σ) u v (pc + 3) lv (.ref (G 46) :: st)) : Go p l e R s m args below meth c D A nL Q (WX dA G tb ad σ) u v pc lv (.ref (G 0) :: st) := zg_get hO fX_1_162 0 rfl rfl hdg kk
theorem fX_1_166 : FdL RX1 166 1 14 := ⟨RX1, TX1, 28, "EndSums", rfl, in_X1, by decide, q527, Or.inl rfl⟩
theorem xG_1_166 (hO : Ok p s m args meth c cc RX1 nL D dA A) (hX : XK dA G A s) (hdg : decode cc pc = .ok (.getfield 166, 3)) (kk : Go p l e R s m args below meth c D A nL Q (WX dA G tb ad σ) u v (pc + 3) lv (.ref (G 60) :: st)) : Go p l e R s m args below meth c D A nL Q (WX dA G tb ad σ) u v pc lv (.ref (G 0) :: st) := zg_get hO fX_1_166 0 rfl rfl hdg kk
theorem fX_1_170 : FdL RX1 170 1 15 := ⟨RX1, TX1, 28, "EndSums", rfl, in_X1, by decide, q529, Or.inl rfl⟩
theorem xG_1_170 (hO : Ok p s m args meth c cc RX1 nL D dA A) (hX : XK dA G A s) (hdg : decode cc pc = .ok (.getfield 170, 3)) (kk : Go p l e R s m args below meth c D A nL Q (WX dA G tb ad σ) u v (pc + 3) lv (.ref (G 63) :: st)) : Go p l e R s m args below meth c D A nL Q (WX dA G tb ad σ) u v pc lv (.ref (G 0) :: st) := zg_get hO fX_1_170 0 rfl rfl hdg kk
theorem fX_1_173 : FdL RX1 173 1 16 := ⟨RX1, TX1, 28, "EndSums", rfl, in_X1, by decide, q531, Or.inl rfl⟩
theorem xG_1_173 (hO : Ok p s m args meth c cc RX1 nL D dA A) (hX : XK dA G A s) (hdg : decode cc pc = .ok (.getfield 173, 3)) (kk : Go p l e R s m args below meth c D A nL Q (WX dA G tb ad σ) u v (pc + 3) lv (.ref (G 64) :: st)) : Go p l e R s m args below meth c D A nL Q (WX dA G tb ad σ) u v pc lv (.ref (G 0) :: st) := zg_get hO fX_1_173 0 rfl rfl hdg kk
theorem fX_1_176 : FdL RX1 176 1 17 := ⟨RX1, TX1, 28, "EndSums", rfl, in_X1, by decide, q532, Or.inl rfl⟩
theorem xG_1_176 (hO : Ok p s m args meth c cc RX1 nL D dA A) (hX : XK dA G A s) (hdg : decode cc pc = .ok (.getfield 176, 3)) (kk : Go p l e R s m args below meth c D A nL Q (WX dA G tb ad σ) u v (pc + 3) lv (.ref (G 65) :: st)) : Go p l e R s m args below meth c D A nL Q (WX dA G tb ad σ) u v pc lv (.ref (G 0) :: st) := zg_get hO fX_1_176 0 rfl rfl hdg kk
theorem fX_1_180 : FdL RX1 180 1 19 := ⟨RX1, TX1, 28, "EndSums", rfl, in_X1, by decide, q534, Or.inl rfl⟩
theorem xG_1_180 (hO : Ok p s m args meth c cc RX1 nL D dA A) (hX : XK dA G A s) (hdg : decode cc pc = .ok (.getfield 180, 3)) (kk : Go p l e R s m args below meth c D A nL Q (WX dA G tb ad σ) u v (pc + 3) lv (.ref (G 66) :: st)) : Go p l e R s m args below meth c D A nL Q (WX dA G tb ad σ) u v pc lv (.ref (G 0) :: st) := zg_get hO fX_1_180 0 rfl rfl hdg kk
theorem fX_1_184 : FdL RX1 184 1 21 := ⟨RX1, TX1, 28, "EndSums", rfl, in_X1, by decide, q536, Or.inl rfl⟩
theorem xG_1_184 (hO : Ok p s m args meth c cc RX1 nL D dA A) (hX : XK dA G A s) (hdg : decode cc pc = .ok (.getfield 184, 3)) (kk : Go p l e R s m args below meth c D A nL Q (WX dA G tb ad σ) u v (pc + 3) lv (.ref (G 67) :: st)) : Go p l e R s m args below meth c D A nL Q (WX dA G tb ad σ) u v pc lv (.ref (G 0) :: st) := zg_get hO fX_1_184 0 rfl rfl hdg kk
theorem fX_1_187 : FdL RX1 187 1 22 := ⟨RX1, TX1, 28, "EndSums", rfl, in_X1, by decide, q537, Or.inl rfl⟩
theorem xG_1_187 (hO : Ok p s m args meth c cc RX1 nL D dA A) (hX : XK dA G A s) (hdg : decode cc pc = .ok (.getfield 187, 3)) (kk : Go p l e R s m args below meth c D A nL Q (WX dA G tb ad σ) u v (pc + 3) lv (.ref (G 68) :: st)) : Go p l e R s m args below meth c D A nL Q (WX dA G tb ad σ) u v pc lv (.ref (G 0) :: st) := zg_get hO fX_1_187 0 rfl rfl hdg kk
theorem fX_1_190 : FdL RX1 190 1 23 := ⟨RX1, TX1, 28, "EndSums", rfl, in_X1, by decide, q538, Or.inl rfl⟩
theorem xG_1_190 (hO : Ok p s m args meth c cc RX1 nL D dA A) (hX : XK dA G A s) (hdg : decode cc pc = .ok (.getfield 190, 3)) (kk : Go p l e R s m args below meth c D A nL Q (WX dA G tb ad σ) u v (pc + 3) lv (.ref (G 69) :: st)) : Go p l e R s m args below meth c D A nL Q (WX dA G tb ad σ) u v pc lv (.ref (G 0) :: st) := zg_get hO fX_1_190 0 rfl rfl hdg kk
theorem fX_1_193 : FdL RX1 193 1 24 := ⟨RX1, TX1, 28, "EndSums", rfl, in_X1, by decide, q539, Or.inl rfl⟩
theorem xG_1_193 (hO : Ok p s m args meth c cc RX1 nL D dA A) (hX : XK dA G A s) (hdg : decode cc pc = .ok (.getfield 193, 3)) (kk : Go p l e R s m args below meth c D A nL Q (WX dA G tb ad σ) u v (pc + 3) lv (.ref (G 70) :: st)) : Go p l e R s m args below meth c D A nL Q (WX dA G tb ad σ) u v pc lv (.ref (G 0) :: st) := zg_get hO fX_1_193 0 rfl rfl hdg kk
theorem fX_1_199 : FdL RX1 199 1 20 := ⟨RX1, TX1, 28, "EndSums", rfl, in_X1, by decide, q535, Or.inl rfl⟩
theorem xG_1_199 (hO : Ok p s m args meth c cc RX1 nL D dA A) (hX : XK dA G A s) (hdg : decode cc pc = .ok (.getfield 199, 3)) (kk : Go p l e R s m args below meth c D A nL Q (WX dA G tb ad σ) u v (pc + 3) lv (.int (xI σ 5) :: st)) : Go p l e R s m args below meth c D A nL Q (WX dA G tb ad σ) u v pc lv (.ref (G 0) :: st) := zg_get hO fX_1_199 0 rfl rfl hdg kk
theorem fXp_1_199 : FdP RX1 199 1 20 .int := ⟨RX1, TX1, 28, "EndSums", tyX1, rfl, in_X1, by decide, q535, Or.inl rfl, tyX1_ok, nmX1, rfl, tyX1_ok 20 (by decide)⟩
theorem xP_1_199 (hO : Ok p s m args meth c cc RX1 nL D dA A) (hX : XK dA G A s) {x : Int32} (hdg : decode cc pc = .ok (.putfield 199, 3)) (kk : Go p l e R s m args below meth c D A nL Q (WX dA G tb ad (zI σ 5 x)) u v (pc + 3) lv st) : Go p l e R s m args below meth c D A nL Q (WX dA G tb ad σ) u v pc lv (.int x :: .ref (G 0) :: st) := zg_put hO fXp_1_199 0 rfl rfl rfl (Nat.le_of_ble_eq_true rfl) rfl hdg kk
theorem fX_1_206 : FdL RX1 206 1 18 := ⟨RX1, TX1, 28, "EndSums", rfl, in_X1, by decide, q533, Or.inl rfl⟩
theorem xG_1_206 (hO : Ok p s m args meth c cc RX1 nL D dA A) (hX : XK dA G A s) (hdg : decode cc pc = .ok (.getfield 206, 3)) (kk : Go p l e R s m args below meth c D A nL Q (WX dA G tb ad σ) u v (pc + 3) lv (.int (xI σ 4) :: st)) : Go p l e R s m args below meth c D A nL Q (WX dA G tb ad σ) u v pc lv (.ref (G 0) :: st) := zg_get hO fX_1_206 0 rfl rfl hdg kk
theorem fXp_1_206 : FdP RX1 206 1 18 .int := ⟨RX1, TX1, 28, "EndSums", tyX1, rfl, in_X1, by decide, q533, Or.inl rfl, tyX1_ok, nmX1, rfl, tyX1_ok 18 (by decide)⟩
theorem xP_1_206 (hO : Ok p s m args meth c cc RX1 nL D dA A) (hX : XK dA G A s) {x : Int32} (hdg : decode cc pc = .ok (.putfield 206, 3)) (kk : Go p l e R s m args below meth c D A nL Q (WX dA G tb ad (zI σ 4 x)) u v (pc + 3) lv st) : Go p l e R s m args below meth c D A nL Q (WX dA G tb ad σ) u v pc lv (.int x :: .ref (G 0) :: st) := zg_put hO fXp_1_206 0 rfl rfl rfl (Nat.le_of_ble_eq_true rfl) rfl hdg kk
theorem fX_1_225 : FdN RX1 225 2 1 := ⟨RX3, TX3, 3, "EndSums$Line", "EndSums", rfl, in_X3, by decide, q242, Or.inl rfl⟩
theorem xG_1_225 (hO : Ok p s m args meth c cc RX1 nL D dA A) (hX : XK dA G A s) {i : Nat} (hi : i < 5) (hdg : decode cc pc = .ok (.getfield 225, 3)) (kk : Go p l e R s m args below meth c D A nL Q (WX dA G tb ad σ) u v (pc + 3) lv (.ref (G (50 + 3 * i)) :: st)) : Go p l e R s m args below meth c D A nL Q (WX dA G tb ad σ) u v pc lv (.ref (G (48 + 3 * i)) :: st) := zg_getN hO hX.1 fX_1_225 (40 + 3 * i) (wx_line hi) rfl hdg kk
theorem fX_1_315 : FdL RX1 315 1 8 := ⟨RX1, TX1, 28, "EndSums", rfl, in_X1, by decide, q520, Or.inl rfl⟩
theorem xG_1_315 (hO : Ok p s m args meth c cc RX1 nL D dA A) (hX : XK dA G A s) (hdg : decode cc pc = .ok (.getfield 315, 3)) (kk : Go p l e R s m args below meth c D A nL Q (WX dA G tb ad σ) u v (pc + 3) lv (.long (xL σ 0) :: st)) : Go p l e R s m args below meth c D A nL Q (WX dA G tb ad σ) u v pc lv (.ref (G 0) :: st) := zg_get hO fX_1_315 0 rfl rfl hdg kk
theorem fXp_1_315 : FdP RX1 315 1 8 .long := ⟨RX1, TX1, 28, "EndSums", tyX1, rfl, in_X1, by decide, q520, Or.inl rfl, tyX1_ok, nmX1, rfl, tyX1_ok 8 (by decide)⟩
theorem xP_1_315 (hO : Ok p s m args meth c cc RX1 nL D dA A) (hX : XK dA G A s) {x : Int64} (hdg : decode cc pc = .ok (.putfield 315, 3)) (kk : Go p l e R s m args below meth c D A nL Q (WX dA G tb ad (zL σ 0 x)) u v (pc + 3) lv st) : Go p l e R s m args below meth c D A nL Q (WX dA G tb ad σ) u v pc lv (.long x :: .ref (G 0) :: st) := zg_put hO fXp_1_315 0 rfl rfl rfl (Nat.le_of_ble_eq_true rfl) rfl hdg kk
theorem fX_1_382 : FdN RX1 382 2 0 := ⟨RX3, TX3, 3, "EndSums$Line", "EndSums", rfl, in_X3, by decide, q240, Or.inl rfl⟩
theorem xG_1_382 (hO : Ok p s m args meth c cc RX1 nL D dA A) (hX : XK dA G A s) {i : Nat} (hi : i < 5) (hdg : decode cc pc = .ok (.getfield 382, 3)) (kk : Go p l e R s m args below meth c D A nL Q (WX dA G tb ad σ) u v (pc + 3) lv (.ref (G (49 + 3 * i)) :: st)) : Go p l e R s m args below meth c D A nL Q (WX dA G tb ad σ) u v pc lv (.ref (G (48 + 3 * i)) :: st) := zg_getN hO hX.1 fX_1_382 (40 + 3 * i) (wx_line hi) rfl hdg kk
theorem fX_1_386 : FdN RX1 386 4 3 := ⟨RX5, TX5, 6, "EndSums$Cell", "EndSums", rfl, in_X5, by decide, q1206, Or.inl rfl⟩
theorem xG_1_386 (hO : Ok p s m args meth c cc RX1 nL D dA A) (hX : XK dA G A s) {i : Nat} {α : Type} {f : Option α} {z : α} (h : (if i < xN σ ∧ rK (xC σ i) = true then f else none) = some z) (hdg : decode cc pc = .ok (.getfield 386, 3)) (kk : f = some z → Go p l e R s m args below meth c D A nL Q (WX dA G tb ad σ) u v (pc + 3) lv (va_rf ((rB (xC σ i)).map ad) :: st)) : Go p l e R s m args below meth c D A nL Q (WX dA G tb ad σ) u v pc lv (.ref (ad i) :: st) := by
  obtain ⟨⟨hi, hk⟩, h2⟩ := zg_some h
  exact zg_getN hO hX.1 fX_1_386 (63 + i) (wx_t hi hk) rfl hdg (kk h2)
theorem fX_1_392 : FdN RX1 392 4 2 := ⟨RX5, TX5, 6, "EndSums$Cell", "EndSums", rfl, in_X5, by decide, q1203, Or.inl rfl⟩
theorem xG_1_392 (hO : Ok p s m args meth c cc RX1 nL D dA A) (hX : XK dA G A s) {i : Nat} {α : Type} {f : Option α} {z : α} (h : (if i < xN σ ∧ rK (xC σ i) = true then f else none) = some z) (hdg : decode cc pc = .ok (.getfield 392, 3)) (kk : f = some z → Go p l e R s m args below meth c D A nL Q (WX dA G tb ad σ) u v (pc + 3) lv (.int (rI (xC σ i)) :: st)) : Go p l e R s m args below meth c D A nL Q (WX dA G tb ad σ) u v pc lv (.ref (ad i) :: st) := by
  obtain ⟨⟨hi, hk⟩, h2⟩ := zg_some h
  exact zg_getN hO hX.1 fX_1_392 (63 + i) (wx_t hi hk) rfl hdg (kk h2)
theorem fX_1_402 : FdL RX1 402 1 9 := ⟨RX1, TX1, 28, "EndSums", rfl, in_X1, by decide, q522, Or.inl rfl⟩
theorem xG_1_402 (hO : Ok p s m args meth c cc RX1 nL D dA A) (hX : XK dA G A s) (hdg : decode cc pc = .ok (.getfield 402, 3)) (kk : Go p l e R s m args below meth c D A nL Q (WX dA G tb ad σ) u v (pc + 3) lv (.int (xI σ 3) :: st)) : Go p l e R s m args below meth c D A nL Q (WX dA G tb ad σ) u v pc lv (.ref (G 0) :: st) := zg_get hO fX_1_402 0 rfl rfl hdg kk
theorem fXp_1_402 : FdP RX1 402 1 9 .int := ⟨RX1, TX1, 28, "EndSums", tyX1, rfl, in_X1, by decide, q522, Or.inl rfl, tyX1_ok, nmX1, rfl, tyX1_ok 9 (by decide)⟩
theorem xP_1_402 (hO : Ok p s m args meth c cc RX1 nL D dA A) (hX : XK dA G A s) {x : Int32} (hdg : decode cc pc = .ok (.putfield 402, 3)) (kk : Go p l e R s m args below meth c D A nL Q (WX dA G tb ad (zI σ 3 x)) u v (pc + 3) lv st) : Go p l e R s m args below meth c D A nL Q (WX dA G tb ad σ) u v pc lv (.int x :: .ref (G 0) :: st) := zg_put hO fXp_1_402 0 rfl rfl rfl (Nat.le_of_ble_eq_true rfl) rfl hdg kk
theorem fX_1_411 : FdL RX1 411 1 25 := ⟨RX1, TX1, 28, "EndSums", rfl, in_X1, by decide, q540, Or.inl rfl⟩
theorem xG_1_411 (hO : Ok p s m args meth c cc RX1 nL D dA A) (hX : XK dA G A s) (hdg : decode cc pc = .ok (.getfield 411, 3)) (kk : Go p l e R s m args below meth c D A nL Q (WX dA G tb ad σ) u v (pc + 3) lv (.int (xI σ 6) :: st)) : Go p l e R s m args below meth c D A nL Q (WX dA G tb ad σ) u v pc lv (.ref (G 0) :: st) := zg_get hO fX_1_411 0 rfl rfl hdg kk
theorem fXp_1_411 : FdP RX1 411 1 25 .int := ⟨RX1, TX1, 28, "EndSums", tyX1, rfl, in_X1, by decide, q540, Or.inl rfl, tyX1_ok, nmX1, rfl, tyX1_ok 25 (by decide)⟩
theorem xP_1_411 (hO : Ok p s m args meth c cc RX1 nL D dA A) (hX : XK dA G A s) {x : Int32} (hdg : decode cc pc = .ok (.putfield 411, 3)) (kk : Go p l e R s m args below meth c D A nL Q (WX dA G tb ad (zI σ 6 x)) u v (pc + 3) lv st) : Go p l e R s m args below meth c D A nL Q (WX dA G tb ad σ) u v pc lv (.int x :: .ref (G 0) :: st) := zg_put hO fXp_1_411 0 rfl rfl rfl (Nat.le_of_ble_eq_true rfl) rfl hdg kk
theorem fX_1_414 : FdN RX1 414 4 5 := ⟨RX5, TX5, 6, "EndSums$Cell", "EndSums", rfl, in_X5, by decide, q1208, Or.inl rfl⟩
theorem xG_1_414 (hO : Ok p s m args meth c cc RX1 nL D dA A) (hX : XK dA G A s) {i : Nat} {α : Type} {f : Option α} {z : α} (h : (if i < xN σ ∧ rK (xC σ i) = true then f else none) = some z) (hdg : decode cc pc = .ok (.getfield 414, 3)) (kk : f = some z → Go p l e R s m args below meth c D A nL Q (WX dA G tb ad σ) u v (pc + 3) lv (.int (rR (xC σ i)) :: st)) : Go p l e R s m args below meth c D A nL Q (WX dA G tb ad σ) u v pc lv (.ref (ad i) :: st) := by
  obtain ⟨⟨hi, hk⟩, h2⟩ := zg_some h
  exact zg_getN hO hX.1 fX_1_414 (63 + i) (wx_t hi hk) rfl hdg (kk h2)
theorem fXp_1_414 : FdNP RX1 414 4 5 .int := ⟨RX5, TX5, 6, "EndSums$Cell", "EndSums", tyX5, rfl, in_X5, by decide, q1208, Or.inl rfl, tyX5_ok, nmX5, rfl, tyX5_ok 5 (by decide)⟩
theorem xP_1_414 (hO : Ok p s m args meth c cc RX1 nL D dA A) (hX : XK dA G A s) {i : Nat} {x : Int32} {α : Type} {f : Option α} {z : α} (h : (if i < xN σ ∧ rK (xC σ i) = true then f else none) = some z) (hdg : decode cc pc = .ok (.putfield 414, 3)) (kk : f = some z → Go p l e R s m args below meth c D A nL Q (WX dA G tb ad (zC σ i (uR (xC σ i) x))) u v (pc + 3) lv st) : Go p l e R s m args below meth c D A nL Q (WX dA G tb ad σ) u v pc lv (.int x :: .ref (ad i) :: st) := by
  obtain ⟨⟨hi, hk⟩, h2⟩ := zg_some h
  exact zg_putN hO hX.1 fXp_1_414 (63 + i) (wx_t hi hk) rfl rfl (Nat.le_of_ble_eq_true rfl) (wx_set hi (pc_t (r := uR (xC σ i) x) hk).symm) hdg (kk h2)
theorem fX_1_415 : FdN RX1 415 4 4 := ⟨RX5, TX5, 6, "EndSums$Cell", "EndSums", rfl, in_X5, by decide, q1207, Or.inl rfl⟩
theorem xG_1_415 (hO : Ok p s m args meth c cc RX1 nL D dA A) (hX : XK dA G A s) {i : Nat} {α : Type} {f : Option α} {z : α} (h : (if i < xN σ ∧ rK (xC σ i) = true then f else none) = some z) (hdg : decode cc pc = .ok (.getfield 415, 3)) (kk : f = some z → Go p l e R s m args below meth c D A nL Q (WX dA G tb ad σ) u v (pc + 3) lv (.int (rL (xC σ i)) :: st)) : Go p l e R s m args below meth c D A nL Q (WX dA G tb ad σ) u v pc lv (.ref (ad i) :: st) := by
  obtain ⟨⟨hi, hk⟩, h2⟩ := zg_some h
  exact zg_getN hO hX.1 fX_1_415 (63 + i) (wx_t hi hk) rfl hdg (kk h2)
theorem fXp_1_415 : FdNP RX1 415 4 4 .int := ⟨RX5, TX5, 6, "EndSums$Cell", "EndSums", tyX5, rfl, in_X5, by decide, q1207, Or.inl rfl, tyX5_ok, nmX5, rfl, tyX5_ok 4 (by decide)⟩
theorem xP_1_415 (hO : Ok p s m args meth c cc RX1 nL D dA A) (hX : XK dA G A s) {i : Nat} {x : Int32} {α : Type} {f : Option α} {z : α} (h : (if i < xN σ ∧ rK (xC σ i) = true then f else none) = some z) (hdg : decode cc pc = .ok (.putfield 415, 3)) (kk : f = some z → Go p l e R s m args below meth c D A nL Q (WX dA G tb ad (zC σ i (uL (xC σ i) x))) u v (pc + 3) lv st) : Go p l e R s m args below meth c D A nL Q (WX dA G tb ad σ) u v pc lv (.int x :: .ref (ad i) :: st) := by
  obtain ⟨⟨hi, hk⟩, h2⟩ := zg_some h
  exact zg_putN hO hX.1 fXp_1_415 (63 + i) (wx_t hi hk) rfl rfl (Nat.le_of_ble_eq_true rfl) (wx_set hi (pc_t (r := uL (xC σ i) x) hk).symm) hdg (kk h2)
theorem fX_1_429 : FdL RX1 429 1 26 := ⟨RX1, TX1, 28, "EndSums", rfl, in_X1, by decide, q541, Or.inl rfl⟩
theorem xG_1_429 (hO : Ok p s m args meth c cc RX1 nL D dA A) (hX : XK dA G A s) (hdg : decode cc pc = .ok (.getfield 429, 3)) (kk : Go p l e R s m args below meth c D A nL Q (WX dA G tb ad σ) u v (pc + 3) lv (.int (xI σ 7) :: st)) : Go p l e R s m args below meth c D A nL Q (WX dA G tb ad σ) u v pc lv (.ref (G 0) :: st) := zg_get hO fX_1_429 0 rfl rfl hdg kk
theorem fXp_1_429 : FdP RX1 429 1 26 .int := ⟨RX1, TX1, 28, "EndSums", tyX1, rfl, in_X1, by decide, q541, Or.inl rfl, tyX1_ok, nmX1, rfl, tyX1_ok 26 (by decide)⟩
theorem xP_1_429 (hO : Ok p s m args meth c cc RX1 nL D dA A) (hX : XK dA G A s) {x : Int32} (hdg : decode cc pc = .ok (.putfield 429, 3)) (kk : Go p l e R s m args below meth c D A nL Q (WX dA G tb ad (zI σ 7 x)) u v (pc + 3) lv st) : Go p l e R s m args below meth c D A nL Q (WX dA G tb ad σ) u v pc lv (.int x :: .ref (G 0) :: st) := zg_put hO fXp_1_429 0 rfl rfl rfl (Nat.le_of_ble_eq_true rfl) rfl hdg kk
theorem fX_1_432 : FdL RX1 432 1 27 := ⟨RX1, TX1, 28, "EndSums", rfl, in_X1, by decide, q542, Or.inl rfl⟩
theorem xG_1_432 (hO : Ok p s m args meth c cc RX1 nL D dA A) (hX : XK dA G A s) (hdg : decode cc pc = .ok (.getfield 432, 3)) (kk : Go p l e R s m args below meth c D A nL Q (WX dA G tb ad σ) u v (pc + 3) lv (.int (xI σ 8) :: st)) : Go p l e R s m args below meth c D A nL Q (WX dA G tb ad σ) u v pc lv (.ref (G 0) :: st) := zg_get hO fX_1_432 0 rfl rfl hdg kk
theorem fXp_1_432 : FdP RX1 432 1 27 .int := ⟨RX1, TX1, 28, "EndSums", tyX1, rfl, in_X1, by decide, q542, Or.inl rfl, tyX1_ok, nmX1, rfl, tyX1_ok 27 (by decide)⟩
theorem xP_1_432 (hO : Ok p s m args meth c cc RX1 nL D dA A) (hX : XK dA G A s) {x : Int32} (hdg : decode cc pc = .ok (.putfield 432, 3)) (kk : Go p l e R s m args below meth c D A nL Q (WX dA G tb ad (zI σ 8 x)) u v (pc + 3) lv st) : Go p l e R s m args below meth c D A nL Q (WX dA G tb ad σ) u v pc lv (.int x :: .ref (G 0) :: st) := zg_put hO fXp_1_432 0 rfl rfl rfl (Nat.le_of_ble_eq_true rfl) rfl hdg kk
theorem fX_5_7 : FdL RX5 7 4 2 := ⟨RX5, TX5, 6, "EndSums$Cell", rfl, in_X5, by decide, q1201, Or.inl rfl⟩
theorem xG_5_7 (hO : Ok p s m args meth c cc RX5 nL D dA A) (hX : XK dA G A s) {i : Nat} {α : Type} {f : Option α} {z : α} (h : (if i < xN σ ∧ rK (xC σ i) = true then f else none) = some z) (hdg : decode cc pc = .ok (.getfield 7, 3)) (kk : f = some z → Go p l e R s m args below meth c D A nL Q (WX dA G tb ad σ) u v (pc + 3) lv (.int (rI (xC σ i)) :: st)) : Go p l e R s m args below meth c D A nL Q (WX dA G tb ad σ) u v pc lv (.ref (ad i) :: st) := by
  obtain ⟨⟨hi, hk⟩, h2⟩ := zg_some h
  exact zg_get hO fX_5_7 (63 + i) (wx_t hi hk) rfl hdg (kk h2)
theorem fX_5_13 : FdL RX5 13 4 3 := ⟨RX5, TX5, 6, "EndSums$Cell", rfl, in_X5, by decide, q1204, Or.inl rfl⟩
theorem xG_5_13 (hO : Ok p s m args meth c cc RX5 nL D dA A) (hX : XK dA G A s) {i : Nat} {α : Type} {f : Option α} {z : α} (h : (if i < xN σ ∧ rK (xC σ i) = true then f else none) = some z) (hdg : decode cc pc = .ok (.getfield 13, 3)) (kk : f = some z → Go p l e R s m args below meth c D A nL Q (WX dA G tb ad σ) u v (pc + 3) lv (va_rf ((rB (xC σ i)).map ad) :: st)) : Go p l e R s m args below meth c D A nL Q (WX dA G tb ad σ) u v pc lv (.ref (ad i) :: st) := by
  obtain ⟨⟨hi, hk⟩, h2⟩ := zg_some h
  exact zg_get hO fX_5_13 (63 + i) (wx_t hi hk) rfl hdg (kk h2)
theorem fX_3_3 : FdL RX3 3 2 2 := ⟨RX3, TX3, 3, "EndSums$Line", rfl, in_X3, by decide, q243, Or.inl rfl⟩
theorem xG_3_3 (hO : Ok p s m args meth c cc RX3 nL D dA A) (hX : XK dA G A s) {i : Nat} (hi : i < 5) (hdg : decode cc pc = .ok (.getfield 3, 3)) (kk : Go p l e R s m args below meth c D A nL Q (WX dA G tb ad σ) u v (pc + 3) lv (.ref (G 0) :: st)) : Go p l e R s m args below meth c D A nL Q (WX dA G tb ad σ) u v pc lv (.ref (G (48 + 3 * i)) :: st) := zg_get hO fX_3_3 (40 + 3 * i) (wx_line hi) rfl hdg kk
theorem fX_3_17 : FdL RX3 17 2 0 := ⟨RX3, TX3, 3, "EndSums$Line", rfl, in_X3, by decide, q239, Or.inl rfl⟩
theorem xG_3_17 (hO : Ok p s m args meth c cc RX3 nL D dA A) (hX : XK dA G A s) {i : Nat} (hi : i < 5) (hdg : decode cc pc = .ok (.getfield 17, 3)) (kk : Go p l e R s m args below meth c D A nL Q (WX dA G tb ad σ) u v (pc + 3) lv (.ref (G (49 + 3 * i)) :: st)) : Go p l e R s m args below meth c D A nL Q (WX dA G tb ad σ) u v pc lv (.ref (G (48 + 3 * i)) :: st) := zg_get hO fX_3_17 (40 + 3 * i) (wx_line hi) rfl hdg kk
theorem fX_3_21 : FdL RX3 21 2 1 := ⟨RX3, TX3, 3, "EndSums$Line", rfl, in_X3, by decide, q241, Or.inl rfl⟩
theorem xG_3_21 (hO : Ok p s m args meth c cc RX3 nL D dA A) (hX : XK dA G A s) {i : Nat} (hi : i < 5) (hdg : decode cc pc = .ok (.getfield 21, 3)) (kk : Go p l e R s m args below meth c D A nL Q (WX dA G tb ad σ) u v (pc + 3) lv (.ref (G (50 + 3 * i)) :: st)) : Go p l e R s m args below meth c D A nL Q (WX dA G tb ad σ) u v pc lv (.ref (G (48 + 3 * i)) :: st) := zg_get hO fX_3_21 (40 + 3 * i) (wx_line hi) rfl hdg kk
theorem fX_3_36 : FdN RX3 36 1 8 := ⟨RX1, TX1, 28, "EndSums", "EndSums", rfl, in_X1, by decide, q519, Or.inl rfl⟩
theorem xG_3_36 (hO : Ok p s m args meth c cc RX3 nL D dA A) (hX : XK dA G A s) (hdg : decode cc pc = .ok (.getfield 36, 3)) (kk : Go p l e R s m args below meth c D A nL Q (WX dA G tb ad σ) u v (pc + 3) lv (.long (xL σ 0) :: st)) : Go p l e R s m args below meth c D A nL Q (WX dA G tb ad σ) u v pc lv (.ref (G 0) :: st) := zg_getN hO hX.1 fX_3_36 0 rfl rfl hdg kk
theorem fXp_3_36 : FdNP RX3 36 1 8 .long := ⟨RX1, TX1, 28, "EndSums", "EndSums", tyX1, rfl, in_X1, by decide, q519, Or.inl rfl, tyX1_ok, nmX1, rfl, tyX1_ok 8 (by decide)⟩
theorem xP_3_36 (hO : Ok p s m args meth c cc RX3 nL D dA A) (hX : XK dA G A s) {x : Int64} (hdg : decode cc pc = .ok (.putfield 36, 3)) (kk : Go p l e R s m args below meth c D A nL Q (WX dA G tb ad (zL σ 0 x)) u v (pc + 3) lv st) : Go p l e R s m args below meth c D A nL Q (WX dA G tb ad σ) u v pc lv (.long x :: .ref (G 0) :: st) := zg_putN hO hX.1 fXp_3_36 0 rfl rfl rfl (Nat.le_of_ble_eq_true rfl) rfl hdg kk
theorem fX_3_40 : FdN RX3 40 4 2 := ⟨RX5, TX5, 6, "EndSums$Cell", "EndSums", rfl, in_X5, by decide, q1202, Or.inl rfl⟩
theorem xG_3_40 (hO : Ok p s m args meth c cc RX3 nL D dA A) (hX : XK dA G A s) {i : Nat} {α : Type} {f : Option α} {z : α} (h : (if i < xN σ ∧ rK (xC σ i) = true then f else none) = some z) (hdg : decode cc pc = .ok (.getfield 40, 3)) (kk : f = some z → Go p l e R s m args below meth c D A nL Q (WX dA G tb ad σ) u v (pc + 3) lv (.int (rI (xC σ i)) :: st)) : Go p l e R s m args below meth c D A nL Q (WX dA G tb ad σ) u v pc lv (.ref (ad i) :: st) := by
  obtain ⟨⟨hi, hk⟩, h2⟩ := zg_some h
  exact zg_getN hO hX.1 fX_3_40 (63 + i) (wx_t hi hk) rfl hdg (kk h2)
theorem fX_3_44 : FdN RX3 44 4 3 := ⟨RX5, TX5, 6, "EndSums$Cell", "EndSums", rfl, in_X5, by decide, q1205, Or.inl rfl⟩
theorem xG_3_44 (hO : Ok p s m args meth c cc RX3 nL D dA A) (hX : XK dA G A s) {i : Nat} {α : Type} {f : Option α} {z : α} (h : (if i < xN σ ∧ rK (xC σ i) = true then f else none) = some z) (hdg : decode cc pc = .ok (.getfield 44, 3)) (kk : f = some z → Go p l e R s m args below meth c D A nL Q (WX dA G tb ad σ) u v (pc + 3) lv (va_rf ((rB (xC σ i)).map ad) :: st)) : Go p l e R s m args below meth c D A nL Q (WX dA G tb ad σ) u v pc lv (.ref (ad i) :: st) := by
  obtain ⟨⟨hi, hk⟩, h2⟩ := zg_some h
  exact zg_getN hO hX.1 fX_3_44 (63 + i) (wx_t hi hk) rfl hdg (kk h2)
theorem fX_3_76 : FdN RX3 76 1 15 := ⟨RX1, TX1, 28, "EndSums", "EndSums", rfl, in_X1, by decide, q528, Or.inl rfl⟩
theorem xG_3_76 (hO : Ok p s m args meth c cc RX3 nL D dA A) (hX : XK dA G A s) (hdg : decode cc pc = .ok (.getfield 76, 3)) (kk : Go p l e R s m args below meth c D A nL Q (WX dA G tb ad σ) u v (pc + 3) lv (.ref (G 63) :: st)) : Go p l e R s m args below meth c D A nL Q (WX dA G tb ad σ) u v pc lv (.ref (G 0) :: st) := zg_getN hO hX.1 fX_3_76 0 rfl rfl hdg kk
theorem fX_3_91 : FdN RX3 91 1 9 := ⟨RX1, TX1, 28, "EndSums", "EndSums", rfl, in_X1, by decide, q521, Or.inl rfl⟩
theorem xG_3_91 (hO : Ok p s m args meth c cc RX3 nL D dA A) (hX : XK dA G A s) (hdg : decode cc pc = .ok (.getfield 91, 3)) (kk : Go p l e R s m args below meth c D A nL Q (WX dA G tb ad σ) u v (pc + 3) lv (.int (xI σ 3) :: st)) : Go p l e R s m args below meth c D A nL Q (WX dA G tb ad σ) u v pc lv (.ref (G 0) :: st) := zg_getN hO hX.1 fX_3_91 0 rfl rfl hdg kk
theorem fXp_3_91 : FdNP RX3 91 1 9 .int := ⟨RX1, TX1, 28, "EndSums", "EndSums", tyX1, rfl, in_X1, by decide, q521, Or.inl rfl, tyX1_ok, nmX1, rfl, tyX1_ok 9 (by decide)⟩
theorem xP_3_91 (hO : Ok p s m args meth c cc RX3 nL D dA A) (hX : XK dA G A s) {x : Int32} (hdg : decode cc pc = .ok (.putfield 91, 3)) (kk : Go p l e R s m args below meth c D A nL Q (WX dA G tb ad (zI σ 3 x)) u v (pc + 3) lv st) : Go p l e R s m args below meth c D A nL Q (WX dA G tb ad σ) u v pc lv (.int x :: .ref (G 0) :: st) := zg_putN hO hX.1 fXp_3_91 0 rfl rfl rfl (Nat.le_of_ble_eq_true rfl) rfl hdg kk
theorem fX_3_102 : FdN RX3 102 1 16 := ⟨RX1, TX1, 28, "EndSums", "EndSums", rfl, in_X1, by decide, q530, Or.inl rfl⟩
theorem xG_3_102 (hO : Ok p s m args meth c cc RX3 nL D dA A) (hX : XK dA G A s) (hdg : decode cc pc = .ok (.getfield 102, 3)) (kk : Go p l e R s m args below meth c D A nL Q (WX dA G tb ad σ) u v (pc + 3) lv (.ref (G 64) :: st)) : Go p l e R s m args below meth c D A nL Q (WX dA G tb ad σ) u v pc lv (.ref (G 0) :: st) := zg_getN hO hX.1 fX_3_102 0 rfl rfl hdg kk
theorem fX_3_116t : FdL RX3 116 4 0 := ⟨RX5, TX5, 6, "EndSums$Cell", rfl, in_X5, by decide, q219, Or.inr q220⟩
theorem xG_3_116 (hO : Ok p s m args meth c cc RX3 nL D dA A) (hX : XK dA G A s) {i : Nat} {α : Type} {f : Option α} {z : α} (h : (if i < xN σ ∧ rK (xC σ i) = true then f else none) = some z) (hdg : decode cc pc = .ok (.getfield 116, 3)) (kk : f = some z → Go p l e R s m args below meth c D A nL Q (WX dA G tb ad σ) u v (pc + 3) lv (.long (rP (xC σ i)) :: st)) : Go p l e R s m args below meth c D A nL Q (WX dA G tb ad σ) u v pc lv (.ref (ad i) :: st) := by
  obtain ⟨⟨hi, hk⟩, h2⟩ := zg_some h
  exact zg_get hO fX_3_116t (63 + i) (wx_t hi hk) rfl hdg (kk h2)
theorem fX_3_119t : FdL RX3 119 4 1 := ⟨RX5, TX5, 6, "EndSums$Cell", rfl, in_X5, by decide, q223, Or.inr q224⟩
theorem xG_3_119 (hO : Ok p s m args meth c cc RX3 nL D dA A) (hX : XK dA G A s) {i : Nat} {α : Type} {f : Option α} {z : α} (h : (if i < xN σ ∧ rK (xC σ i) = true then f else none) = some z) (hdg : decode cc pc = .ok (.getfield 119, 3)) (kk : f = some z → Go p l e R s m args below meth c D A nL Q (WX dA G tb ad σ) u v (pc + 3) lv (.long (rQ (xC σ i)) :: st)) : Go p l e R s m args below meth c D A nL Q (WX dA G tb ad σ) u v pc lv (.ref (ad i) :: st) := by
  obtain ⟨⟨hi, hk⟩, h2⟩ := zg_some h
  exact zg_get hO fX_3_119t (63 + i) (wx_t hi hk) rfl hdg (kk h2)
theorem fX_2_7f : FdL RX2 7 3 0 := ⟨RX2, TX2, 2, "EndSums$Pair", rfl, in_X2, by decide, q217, Or.inl rfl⟩
theorem fX_2_7t : FdL RX2 7 4 0 := ⟨RX5, TX5, 6, "EndSums$Pair", rfl, in_X5, by decide, q217, Or.inl rfl⟩
theorem xG_2_7 (hO : Ok p s m args meth c cc RX2 nL D dA A) (hX : XK dA G A s) {i : Nat} {α : Type} {f : Option α} {z : α} (h : (if i < xN σ then f else none) = some z) (hdg : decode cc pc = .ok (.getfield 7, 3)) (kk : f = some z → Go p l e R s m args below meth c D A nL Q (WX dA G tb ad σ) u v (pc + 3) lv (.long (rP (xC σ i)) :: st)) : Go p l e R s m args below meth c D A nL Q (WX dA G tb ad σ) u v pc lv (.ref (ad i) :: st) := by
  obtain ⟨hi, h2⟩ := zg_some h
  cases hk : rK (xC σ i) with
  | false => exact zg_get hO fX_2_7f (63 + i) (wx_f hi hk) rfl hdg (kk h2)
  | true => exact zg_get hO fX_2_7t (63 + i) (wx_t hi hk) rfl hdg (kk h2)
theorem fXp_2_7f : FdP RX2 7 3 0 .long := ⟨RX2, TX2, 2, "EndSums$Pair", tyX2, rfl, in_X2, by decide, q217, Or.inl rfl, tyX2_ok, nmX2, rfl, tyX2_ok 0 (by decide)⟩
theorem fXp_2_7t : FdP RX2 7 4 0 .long := ⟨RX5, TX5, 6, "EndSums$Pair", tyX5, rfl, in_X5, by decide, q217, Or.inl rfl, tyX5_ok, nmX5, rfl, tyX5_ok 0 (by decide)⟩
theorem xP_2_7 (hO : Ok p s m args meth c cc RX2 nL D dA A) (hX : XK dA G A s) {i : Nat} {x : Int64} {α : Type} {f : Option α} {z : α} (h : (if i < xN σ then f else none) = some z) (hdg : decode cc pc = .ok (.putfield 7, 3)) (kk : f = some z → Go p l e R s m args below meth c D A nL Q (WX dA G tb ad (zC σ i (uP (xC σ i) x))) u v (pc + 3) lv st) : Go p l e R s m args below meth c D A nL Q (WX dA G tb ad σ) u v pc lv (.long x :: .ref (ad i) :: st) := by
  obtain ⟨hi, h2⟩ := zg_some h
  cases hk : rK (xC σ i) with
  | false => exact zg_put hO fXp_2_7f (63 + i) (wx_f hi hk) rfl rfl (Nat.le_of_ble_eq_true rfl) (wx_set hi (pc_f (r := uP (xC σ i) x) hk).symm) hdg (kk h2)
  | true => exact zg_put hO fXp_2_7t (63 + i) (wx_t hi hk) rfl rfl (Nat.le_of_ble_eq_true rfl) (wx_set hi (pc_t (r := uP (xC σ i) x) hk).symm) hdg (kk h2)
theorem fX_2_13f : FdL RX2 13 3 1 := ⟨RX2, TX2, 2, "EndSums$Pair", rfl, in_X2, by decide, q221, Or.inl rfl⟩
theorem fX_2_13t : FdL RX2 13 4 1 := ⟨RX5, TX5, 6, "EndSums$Pair", rfl, in_X5, by decide, q221, Or.inl rfl⟩
theorem xG_2_13 (hO : Ok p s m args meth c cc RX2 nL D dA A) (hX : XK dA G A s) {i : Nat} {α : Type} {f : Option α} {z : α} (h : (if i < xN σ then f else none) = some z) (hdg : decode cc pc = .ok (.getfield 13, 3)) (kk : f = some z → Go p l e R s m args below meth c D A nL Q (WX dA G tb ad σ) u v (pc + 3) lv (.long (rQ (xC σ i)) :: st)) : Go p l e R s m args below meth c D A nL Q (WX dA G tb ad σ) u v pc lv (.ref (ad i) :: st) := by
  obtain ⟨hi, h2⟩ := zg_some h
  cases hk : rK (xC σ i) with
  | false => exact zg_get hO fX_2_13f (63 + i) (wx_f hi hk) rfl hdg (kk h2)
  | true => exact zg_get hO fX_2_13t (63 + i) (wx_t hi hk) rfl hdg (kk h2)
theorem fXp_2_13f : FdP RX2 13 3 1 .long := ⟨RX2, TX2, 2, "EndSums$Pair", tyX2, rfl, in_X2, by decide, q221, Or.inl rfl, tyX2_ok, nmX2, rfl, tyX2_ok 1 (by decide)⟩
theorem fXp_2_13t : FdP RX2 13 4 1 .long := ⟨RX5, TX5, 6, "EndSums$Pair", tyX5, rfl, in_X5, by decide, q221, Or.inl rfl, tyX5_ok, nmX5, rfl, tyX5_ok 1 (by decide)⟩
theorem xP_2_13 (hO : Ok p s m args meth c cc RX2 nL D dA A) (hX : XK dA G A s) {i : Nat} {x : Int64} {α : Type} {f : Option α} {z : α} (h : (if i < xN σ then f else none) = some z) (hdg : decode cc pc = .ok (.putfield 13, 3)) (kk : f = some z → Go p l e R s m args below meth c D A nL Q (WX dA G tb ad (zC σ i (uQ (xC σ i) x))) u v (pc + 3) lv st) : Go p l e R s m args below meth c D A nL Q (WX dA G tb ad σ) u v pc lv (.long x :: .ref (ad i) :: st) := by
  obtain ⟨hi, h2⟩ := zg_some h
  cases hk : rK (xC σ i) with
  | false => exact zg_put hO fXp_2_13f (63 + i) (wx_f hi hk) rfl rfl (Nat.le_of_ble_eq_true rfl) (wx_set hi (pc_f (r := uQ (xC σ i) x) hk).symm) hdg (kk h2)
  | true => exact zg_put hO fXp_2_13t (63 + i) (wx_t hi hk) rfl rfl (Nat.le_of_ble_eq_true rfl) (wx_set hi (pc_t (r := uQ (xC σ i) x) hk).symm) hdg (kk h2)
variable {own : String}
theorem xL_placed (hO : Ok p s m args meth c cc own nL D dA A) {i : Int32} {α : Type} {g : Option α} {z : α} (h : (if i < 0 ∨ 4 ≤ i.toNatClampNeg then none else g) = some z) (hdg : decode cc pc = .ok (.iaload, 1)) (kk : g = some z → Go p l e R s m args below meth c D A nL Q (WX dA G tb ad σ) u v (pc + 1) lv (.int (xA σ 0 i.toNatClampNeg) :: st)) : Go p l e R s m args below meth c D A nL Q (WX dA G tb ad σ) u v pc lv (.int i :: .ref (G 44) :: st) := zg_ild hO h 36 rfl hdg kk
theorem xS_placed (hO : Ok p s m args meth c cc own nL D dA A) {i x : Int32} {α : Type} {g : Option α} {z : α} (h : (if i < 0 ∨ 4 ≤ i.toNatClampNeg then none else g) = some z) (hdg : decode cc pc = .ok (.iastore, 1)) (kk : g = some z → Go p l e R s m args below meth c D A nL Q (WX dA G tb ad (zA σ 0 i.toNatClampNeg x)) u v (pc + 1) lv st) : Go p l e R s m args below meth c D A nL Q (WX dA G tb ad σ) u v pc lv (.int x :: .int i :: .ref (G 44) :: st) := zg_ist hO h 36 rfl rfl hdg kk
theorem xL_table (hO : Ok p s m args meth c cc own nL D dA A) {i : Int32} {α : Type} {g : Option α} {z : α} (h : (if i < 0 ∨ 25 ≤ i.toNatClampNeg then none else g) = some z) (hdg : decode cc pc = .ok (.iaload, 1)) (kk : g = some z → Go p l e R s m args below meth c D A nL Q (WX dA G tb ad σ) u v (pc + 1) lv (.int (xA σ 1 i.toNatClampNeg) :: st)) : Go p l e R s m args below meth c D A nL Q (WX dA G tb ad σ) u v pc lv (.int i :: .ref tb :: st) := zg_ild hO h 37 rfl hdg kk
theorem xS_table (hO : Ok p s m args meth c cc own nL D dA A) {i x : Int32} {α : Type} {g : Option α} {z : α} (h : (if i < 0 ∨ 25 ≤ i.toNatClampNeg then none else g) = some z) (hdg : decode cc pc = .ok (.iastore, 1)) (kk : g = some z → Go p l e R s m args below meth c D A nL Q (WX dA G tb ad (zA σ 1 i.toNatClampNeg x)) u v (pc + 1) lv st) : Go p l e R s m args below meth c D A nL Q (WX dA G tb ad σ) u v pc lv (.int x :: .int i :: .ref tb :: st) := zg_ist hO h 37 rfl rfl hdg kk
theorem xL_text (hO : Ok p s m args meth c cc own nL D dA A) {i : Int32} {α : Type} {g : Option α} {z : α} (h : (if i < 0 ∨ 100 ≤ i.toNatClampNeg then none else g) = some z) (hdg : decode cc pc = .ok (.baload, 1)) (kk : g = some z → Go p l e R s m args below meth c D A nL Q (WX dA G tb ad σ) u v (pc + 1) lv (.int (xA σ 2 i.toNatClampNeg) :: st)) : Go p l e R s m args below meth c D A nL Q (WX dA G tb ad σ) u v pc lv (.int i :: .ref (G 65) :: st) := zg_bld hO h 57 rfl hdg kk
theorem xS_text (hO : Ok p s m args meth c cc own nL D dA A) {i x : Int32} {α : Type} {g : Option α} {z : α} (h : (if i < 0 ∨ 100 ≤ i.toNatClampNeg then none else g) = some z) (hdg : decode cc pc = .ok (.bastore, 1)) (kk : g = some z → Go p l e R s m args below meth c D A nL Q (WX dA G tb ad (zA σ 2 i.toNatClampNeg (vp_nar .byte x))) u v (pc + 1) lv st) : Go p l e R s m args below meth c D A nL Q (WX dA G tb ad σ) u v pc lv (.int x :: .int i :: .ref (G 65) :: st) := zg_bst hO h 57 rfl rfl hdg kk
theorem xL_row0 (hO : Ok p s m args meth c cc own nL D dA A) {i : Int32} {α : Type} {g : Option α} {z : α} (h : (if i < 0 ∨ 64 ≤ i.toNatClampNeg then none else g) = some z) (hdg : decode cc pc = .ok (.iaload, 1)) (kk : g = some z → Go p l e R s m args below meth c D A nL Q (WX dA G tb ad σ) u v (pc + 1) lv (.int (xA σ 3 i.toNatClampNeg) :: st)) : Go p l e R s m args below meth c D A nL Q (WX dA G tb ad σ) u v pc lv (.int i :: .ref (G 63) :: st) := zg_ild hO h 55 rfl hdg kk
theorem xS_row0 (hO : Ok p s m args meth c cc own nL D dA A) {i x : Int32} {α : Type} {g : Option α} {z : α} (h : (if i < 0 ∨ 64 ≤ i.toNatClampNeg then none else g) = some z) (hdg : decode cc pc = .ok (.iastore, 1)) (kk : g = some z → Go p l e R s m args below meth c D A nL Q (WX dA G tb ad (zA σ 3 i.toNatClampNeg x)) u v (pc + 1) lv st) : Go p l e R s m args below meth c D A nL Q (WX dA G tb ad σ) u v pc lv (.int x :: .int i :: .ref (G 63) :: st) := zg_ist hO h 55 rfl rfl hdg kk
theorem xL_row1 (hO : Ok p s m args meth c cc own nL D dA A) {i : Int32} {α : Type} {g : Option α} {z : α} (h : (if i < 0 ∨ 64 ≤ i.toNatClampNeg then none else g) = some z) (hdg : decode cc pc = .ok (.iaload, 1)) (kk : g = some z → Go p l e R s m args below meth c D A nL Q (WX dA G tb ad σ) u v (pc + 1) lv (.int (xA σ 4 i.toNatClampNeg) :: st)) : Go p l e R s m args below meth c D A nL Q (WX dA G tb ad σ) u v pc lv (.int i :: .ref (G 64) :: st) := zg_ild hO h 56 rfl hdg kk
theorem xS_row1 (hO : Ok p s m args meth c cc own nL D dA A) {i x : Int32} {α : Type} {g : Option α} {z : α} (h : (if i < 0 ∨ 64 ≤ i.toNatClampNeg then none else g) = some z) (hdg : decode cc pc = .ok (.iastore, 1)) (kk : g = some z → Go p l e R s m args below meth c D A nL Q (WX dA G tb ad (zA σ 4 i.toNatClampNeg x)) u v (pc + 1) lv st) : Go p l e R s m args below meth c D A nL Q (WX dA G tb ad σ) u v pc lv (.int x :: .int i :: .ref (G 64) :: st) := zg_ist hO h 56 rfl rfl hdg kk
theorem xL_row (hO : Ok p s m args meth c cc own nL D dA A) {i : Int32} {α : Type} {g : Option α} {z : α} (h : (if i < 0 ∨ 128 ≤ i.toNatClampNeg then none else g) = some z) (hdg : decode cc pc = .ok (.laload, 1)) (kk : g = some z → Go p l e R s m args below meth c D A nL Q (WX dA G tb ad σ) u v (pc + 1) lv (.long (xB σ 0 i.toNatClampNeg) :: st)) : Go p l e R s m args below meth c D A nL Q (WX dA G tb ad σ) u v pc lv (.int i :: .ref (G 66) :: st) := zg_lld hO h 58 rfl hdg kk
theorem xS_row (hO : Ok p s m args meth c cc own nL D dA A) {i : Int32} {x : Int64} {α : Type} {g : Option α} {z : α} (h : (if i < 0 ∨ 128 ≤ i.toNatClampNeg then none else g) = some z) (hdg : decode cc pc = .ok (.lastore, 1)) (kk : g = some z → Go p l e R s m args below meth c D A nL Q (WX dA G tb ad (zB σ 0 i.toNatClampNeg x)) u v (pc + 1) lv st) : Go p l e R s m args below meth c D A nL Q (WX dA G tb ad σ) u v pc lv (.long x :: .int i :: .ref (G 66) :: st) := zg_lst hO h 58 rfl rfl hdg kk
theorem xL_powersP (hO : Ok p s m args meth c cc own nL D dA A) {i : Int32} {α : Type} {g : Option α} {z : α} (h : (if i < 0 ∨ 128 ≤ i.toNatClampNeg then none else g) = some z) (hdg : decode cc pc = .ok (.laload, 1)) (kk : g = some z → Go p l e R s m args below meth c D A nL Q (WX dA G tb ad σ) u v (pc + 1) lv (.long (xB σ 1 i.toNatClampNeg) :: st)) : Go p l e R s m args below meth c D A nL Q (WX dA G tb ad σ) u v pc lv (.int i :: .ref (G 67) :: st) := zg_lld hO h 59 rfl hdg kk
theorem xS_powersP (hO : Ok p s m args meth c cc own nL D dA A) {i : Int32} {x : Int64} {α : Type} {g : Option α} {z : α} (h : (if i < 0 ∨ 128 ≤ i.toNatClampNeg then none else g) = some z) (hdg : decode cc pc = .ok (.lastore, 1)) (kk : g = some z → Go p l e R s m args below meth c D A nL Q (WX dA G tb ad (zB σ 1 i.toNatClampNeg x)) u v (pc + 1) lv st) : Go p l e R s m args below meth c D A nL Q (WX dA G tb ad σ) u v pc lv (.long x :: .int i :: .ref (G 67) :: st) := zg_lst hO h 59 rfl rfl hdg kk
theorem xL_powersQ (hO : Ok p s m args meth c cc own nL D dA A) {i : Int32} {α : Type} {g : Option α} {z : α} (h : (if i < 0 ∨ 128 ≤ i.toNatClampNeg then none else g) = some z) (hdg : decode cc pc = .ok (.laload, 1)) (kk : g = some z → Go p l e R s m args below meth c D A nL Q (WX dA G tb ad σ) u v (pc + 1) lv (.long (xB σ 2 i.toNatClampNeg) :: st)) : Go p l e R s m args below meth c D A nL Q (WX dA G tb ad σ) u v pc lv (.int i :: .ref (G 68) :: st) := zg_lld hO h 60 rfl hdg kk
theorem xS_powersQ (hO : Ok p s m args meth c cc own nL D dA A) {i : Int32} {x : Int64} {α : Type} {g : Option α} {z : α} (h : (if i < 0 ∨ 128 ≤ i.toNatClampNeg then none else g) = some z) (hdg : decode cc pc = .ok (.lastore, 1)) (kk : g = some z → Go p l e R s m args below meth c D A nL Q (WX dA G tb ad (zB σ 2 i.toNatClampNeg x)) u v (pc + 1) lv st) : Go p l e R s m args below meth c D A nL Q (WX dA G tb ad σ) u v pc lv (.long x :: .int i :: .ref (G 68) :: st) := zg_lst hO h 60 rfl rfl hdg kk
theorem xL_firstP (hO : Ok p s m args meth c cc own nL D dA A) {i : Int32} {α : Type} {g : Option α} {z : α} (h : (if i < 0 ∨ 64 ≤ i.toNatClampNeg then none else g) = some z) (hdg : decode cc pc = .ok (.laload, 1)) (kk : g = some z → Go p l e R s m args below meth c D A nL Q (WX dA G tb ad σ) u v (pc + 1) lv (.long (xB σ 3 i.toNatClampNeg) :: st)) : Go p l e R s m args below meth c D A nL Q (WX dA G tb ad σ) u v pc lv (.int i :: .ref (G 69) :: st) := zg_lld hO h 61 rfl hdg kk
theorem xS_firstP (hO : Ok p s m args meth c cc own nL D dA A) {i : Int32} {x : Int64} {α : Type} {g : Option α} {z : α} (h : (if i < 0 ∨ 64 ≤ i.toNatClampNeg then none else g) = some z) (hdg : decode cc pc = .ok (.lastore, 1)) (kk : g = some z → Go p l e R s m args below meth c D A nL Q (WX dA G tb ad (zB σ 3 i.toNatClampNeg x)) u v (pc + 1) lv st) : Go p l e R s m args below meth c D A nL Q (WX dA G tb ad σ) u v pc lv (.long x :: .int i :: .ref (G 69) :: st) := zg_lst hO h 61 rfl rfl hdg kk
theorem xL_firstQ (hO : Ok p s m args meth c cc own nL D dA A) {i : Int32} {α : Type} {g : Option α} {z : α} (h : (if i < 0 ∨ 64 ≤ i.toNatClampNeg then none else g) = some z) (hdg : decode cc pc = .ok (.laload, 1)) (kk : g = some z → Go p l e R s m args below meth c D A nL Q (WX dA G tb ad σ) u v (pc + 1) lv (.long (xB σ 4 i.toNatClampNeg) :: st)) : Go p l e R s m args below meth c D A nL Q (WX dA G tb ad σ) u v pc lv (.int i :: .ref (G 70) :: st) := zg_lld hO h 62 rfl hdg kk
theorem xS_firstQ (hO : Ok p s m args meth c cc own nL D dA A) {i : Int32} {x : Int64} {α : Type} {g : Option α} {z : α} (h : (if i < 0 ∨ 64 ≤ i.toNatClampNeg then none else g) = some z) (hdg : decode cc pc = .ok (.lastore, 1)) (kk : g = some z → Go p l e R s m args below meth c D A nL Q (WX dA G tb ad (zB σ 4 i.toNatClampNeg x)) u v (pc + 1) lv st) : Go p l e R s m args below meth c D A nL Q (WX dA G tb ad σ) u v pc lv (.long x :: .int i :: .ref (G 70) :: st) := zg_lst hO h 62 rfl rfl hdg kk
theorem xL_many (hO : Ok p s m args meth c cc own nL D dA A) {k : Nat} (hk : k < 5) {i : Int32} {α : Type} {g : Option α} {z : α} (h : (if i < 0 ∨ 2 ≤ i.toNatClampNeg then none else g) = some z) (hdg : decode cc pc = .ok (.iaload, 1)) (kk : g = some z → Go p l e R s m args below meth c D A nL Q (WX dA G tb ad σ) u v (pc + 1) lv (.int (xA σ (5 + k) i.toNatClampNeg) :: st)) : Go p l e R s m args below meth c D A nL Q (WX dA G tb ad σ) u v pc lv (.int i :: .ref (G (50 + 3 * k)) :: st) := zg_ild hO h (42 + 3 * k) (wx_many hk) hdg kk
theorem xS_many (hO : Ok p s m args meth c cc own nL D dA A) {k : Nat} (hk : k < 5) {i x : Int32} {α : Type} {g : Option α} {z : α} (h : (if i < 0 ∨ 2 ≤ i.toNatClampNeg then none else g) = some z) (hdg : decode cc pc = .ok (.iastore, 1)) (kk : g = some z → Go p l e R s m args below meth c D A nL Q (WX dA G tb ad (zA σ (5 + k) i.toNatClampNeg x)) u v (pc + 1) lv st) : Go p l e R s m args below meth c D A nL Q (WX dA G tb ad σ) u v pc lv (.int x :: .int i :: .ref (G (50 + 3 * k)) :: st) := zg_ist hO h (42 + 3 * k) (wx_many hk) (wx_manyS hk) hdg kk
theorem xL_top (hO : Ok p s m args meth c cc own nL D dA A) {k : Nat} (hk : k < 5) {i : Int32} {α : Type} {g : Option α} {z : α} (h : (if i < 0 ∨ 2 ≤ i.toNatClampNeg then none else g) = some z) (hdg : decode cc pc = .ok (.aaload, 1)) (kk : g = some z → Go p l e R s m args below meth c D A nL Q (WX dA G tb ad σ) u v (pc + 1) lv (va_rf ((xT σ k i.toNatClampNeg).map ad) :: st)) : Go p l e R s m args below meth c D A nL Q (WX dA G tb ad σ) u v pc lv (.int i :: .ref (G (49 + 3 * k)) :: st) := by
  refine zg_ald (t0 := 3) (C := "EndSums$Cell") hO h (41 + 3 * k) (wx_top hk) rfl hdg (fun h2 => ?_)
  have hb : i.toNatClampNeg < 2 := by have := (zg_none h).1; omega
  rw [show topsOf σ k ad i.toNatClampNeg = (xT σ k i.toNatClampNeg).map ad from if_pos hb]
  exact kk h2
theorem xS_top (hO : Ok p s m args meth c cc own nL D dA A) {k : Nat} (hk : k < 5) {i : Int32} {o : Option Nat} {α : Type} {g : Option α} {z : α} (h : (if i < 0 ∨ 2 ≤ i.toNatClampNeg then none else (if cellOk σ o = true then g else none)) = some z) (hdg : decode cc pc = .ok (.aastore, 1)) (kk : g = some z → Go p l e R s m args below meth c D A nL Q (WX dA G tb ad (zT σ k i.toNatClampNeg o)) u v (pc + 1) lv st) : Go p l e R s m args below meth c D A nL Q (WX dA G tb ad σ) u v pc lv (va_rf (o.map ad) :: .int i :: .ref (G (49 + 3 * k)) :: st) := by
  obtain ⟨hb, h1⟩ := zg_none h
  obtain ⟨ho, h2⟩ := zg_some h1
  have hb2 : i.toNatClampNeg < 2 := by omega
  intro H locs ls hP hD hS hl
  cases o with
  | none =>
    refine va_astqN (C := "EndSums$Cell") hO.1 hO.2.1 hO.2.2.2.2.2.1 hP hD hS (41 + 3 * k) 3 (wx_top hk) rfl hb hdg (fun H1 locs1 hP1 hD1 hS1 => ?_)
    have hw := wx_topS (dA := dA) (G := G) (tb := tb) (ad := ad) (σ := σ) (o := none) hk hb2
    simp only [Option.map_none] at hw
    rw [hw] at hP1 hD1
    exact kk h2 H1 locs1 ls hP1 hD1 hS1 hl
  | some b =>
    simp only [cellOk, Bool.and_eq_true, decide_eq_true_eq] at ho
    refine va_astq (r := (RX5, TX5, 6)) hO.1 hO.2.1 hO.2.2.2.2.2.1 hP hD hS (41 + 3 * k) 3 (63 + b) 4 (wx_top hk) rfl (wx_t ho.1 ho.2) rfl hb hdg (fun H1 locs1 hP1 hD1 hS1 => ?_)
    have hw := wx_topS (dA := dA) (G := G) (tb := tb) (ad := ad) (σ := σ) (o := some b) hk hb2
    simp only [Option.map_some] at hw
    rw [hw] at hP1 hD1
    exact kk h2 H1 locs1 ls hP1 hD1 hS1 hl
theorem xS_topS (hO : Ok p s m args meth c cc own nL D dA A) {k b : Nat} (hk : k < 5) {i : Int32} {α : Type} {g : Option α} {z : α} (h : (if i < 0 ∨ 2 ≤ i.toNatClampNeg then none else (if cellOk σ (some b) = true then g else none)) = some z) (hdg : decode cc pc = .ok (.aastore, 1)) (kk : g = some z → Go p l e R s m args below meth c D A nL Q (WX dA G tb ad (zT σ k i.toNatClampNeg (some b))) u v (pc + 1) lv st) : Go p l e R s m args below meth c D A nL Q (WX dA G tb ad σ) u v pc lv (.ref (ad b) :: .int i :: .ref (G (49 + 3 * k)) :: st) := xS_top (o := some b) hO hk h hdg kk
theorem xS_topN (hO : Ok p s m args meth c cc own nL D dA A) {k : Nat} (hk : k < 5) {i : Int32} {α : Type} {g : Option α} {z : α} (h : (if i < 0 ∨ 2 ≤ i.toNatClampNeg then none else (if cellOk σ none = true then g else none)) = some z) (hdg : decode cc pc = .ok (.aastore, 1)) (kk : g = some z → Go p l e R s m args below meth c D A nL Q (WX dA G tb ad (zT σ k i.toNatClampNeg none)) u v (pc + 1) lv st) : Go p l e R s m args below meth c D A nL Q (WX dA G tb ad σ) u v pc lv (.null :: .int i :: .ref (G (49 + 3 * k)) :: st) := xS_top (o := none) hO hk h hdg kk
theorem xL_line (hO : Ok p s m args meth c cc own nL D dA A) {k : Nat} (hk : k < 24) {i : Int32} {α : Type} {g : Option α} {z : α} (h : (if i < 0 ∨ 4 ≤ i.toNatClampNeg then none else g) = some z) (hdg : decode cc pc = .ok (.iaload, 1)) (kk : g = some z → Go p l e R s m args below meth c D A nL Q (WX dA G tb ad σ) u v (pc + 1) lv (.int (xA σ (20 + k) i.toNatClampNeg) :: st)) : Go p l e R s m args below meth c D A nL Q (WX dA G tb ad σ) u v pc lv (.int i :: .ref (G (20 + k)) :: st) := zg_ild hO h (12 + k) (wx_row hk) hdg kk
theorem xS_line (hO : Ok p s m args meth c cc own nL D dA A) {k : Nat} (hk : k < 24) {i x : Int32} {α : Type} {g : Option α} {z : α} (h : (if i < 0 ∨ 4 ≤ i.toNatClampNeg then none else g) = some z) (hdg : decode cc pc = .ok (.iastore, 1)) (kk : g = some z → Go p l e R s m args below meth c D A nL Q (WX dA G tb ad (zA σ (20 + k) i.toNatClampNeg x)) u v (pc + 1) lv st) : Go p l e R s m args below meth c D A nL Q (WX dA G tb ad σ) u v pc lv (.int x :: .int i :: .ref (G (20 + k)) :: st) := zg_ist hO h (12 + k) (wx_row hk) (wx_rowS hk) hdg kk
end ZXL
