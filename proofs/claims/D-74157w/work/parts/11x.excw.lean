set_option maxRecDepth 100000
def vx_no (w : Cond) : Bool := decide (w ≠ .isRef (.static Bundle.tN "UNASSIGNED_STACK" Bundle.steD)) && decide (w ≠ .isRef (.static Bundle.tN "SUPPRESSED_SENTINEL" Bundle.listD)) && decide (w ≠ .laysStatic Bundle.tN "UNASSIGNED_STACK" Bundle.steD) && decide (w ≠ .laysStatic Bundle.tN "SUPPRESSED_SENTINEL" Bundle.listD)
def vx_at0 (own : String) (ic : Nat) (X : String) (names : List String) : List Cond := (Bundle.ownAtoms0 own ic X names).filter vx_no
def vx_atS (own : String) (ic : Nat) (X : String) (names : List String) : List Cond := (Bundle.ownAtoms own ic X names).filter vx_no
/-- a word that the tables alone decide, or a good one -/
def vx_ot (w : Cond) : Bool := w.onTables || goodWord w
theorem vx_ot_at {args a' : Array Value} {s U : State} {w : Cond} (hW : s.WarmedH U.vm) (hvm : s.vm = U.vm) (hg : vx_ot w = true) (h : w.before args s = true) : w.before a' U = true := by
  simp only [vx_ot, Bool.or_eq_true] at hg
  rcases hg with hg | hg
  · exact va_tabs hg hvm h
  · exact word_at hW (good_of_word hg) h
/-- a list's words: the good ones out of the method's own list, the others by premises of their own -/
theorem vx_hat {args : Array Value} {s : State} {L B : List Cond} (h1 : ∀ w ∈ L.filter goodWord, w.before args s = true) (h2 : ∀ w ∈ L.filter (fun w => !goodWord w), w ∈ B) (h3 : ∀ w ∈ B, w.before args s = true) : ∀ w ∈ L, w.before args s = true := by
  intro w hw
  by_cases g : goodWord w = true
  · exact h1 w (List.mem_filter.mpr ⟨hw, g⟩)
  · refine h3 w (h2 w (List.mem_filter.mpr ⟨hw, ?_⟩))
    show (!goodWord w) = true
    cases hgw : goodWord w
    · rfl
    · exact absurd hgw g
theorem vx_c {args : Array Value} {s : State} {w : Cond} {B : List Cond} (h : w.before args s = true) (t : ∀ w ∈ B, w.before args s = true) : ∀ w' ∈ w :: B, w'.before args s = true := fun w' h' => (List.mem_cons.mp h').elim (fun e => by rw [e]; exact h) (t w')
theorem vx_n {args : Array Value} {s : State} : ∀ w ∈ ([] : List Cond), w.before args s = true := fun _ h => nomatch h
theorem vx_own {args : Array Value} {s : State} {L : List Cond} (h1 : ∀ w ∈ L.filter vx_no, w.before args s = true)
    (hU : (Cond.isRef (.static Bundle.tN "UNASSIGNED_STACK" Bundle.steD)).before args s = true) (hN : (Cond.isRef (.static Bundle.tN "SUPPRESSED_SENTINEL" Bundle.listD)).before args s = true)
    (lU : (Cond.laysStatic Bundle.tN "UNASSIGNED_STACK" Bundle.steD).before args s = true) (lN : (Cond.laysStatic Bundle.tN "SUPPRESSED_SENTINEL" Bundle.listD).before args s = true) : ∀ w ∈ L, w.before args s = true := by
  intro w hw
  by_cases e1 : w = .isRef (.static Bundle.tN "UNASSIGNED_STACK" Bundle.steD)
  · rw [e1]; exact hU
  · by_cases e2 : w = .isRef (.static Bundle.tN "SUPPRESSED_SENTINEL" Bundle.listD)
    · rw [e2]; exact hN
    · by_cases e3 : w = .laysStatic Bundle.tN "UNASSIGNED_STACK" Bundle.steD
      · rw [e3]; exact lU
      · by_cases e4 : w = .laysStatic Bundle.tN "SUPPRESSED_SENTINEL" Bundle.listD
        · rw [e4]; exact lN
        · exact h1 w (List.mem_filter.mpr ⟨hw, by unfold vx_no; rw [decide_eq_true e1, decide_eq_true e2, decide_eq_true e3, decide_eq_true e4]; rfl⟩)
/-- where a static field lies, its class's statics cell in H -/
def vx_L (C n d : String) (A : Nat → Prop) (U : State) (H : Heap) : Prop := ∃ (c : ClassId) (k : Class) (i : Nat) (f : Field) (a : Nat) (cell : Cell), U.vm.findClass C = some c ∧ U.fieldFound? C n d = some (c, k, i, f) ∧ f.isStatic = true ∧ k.statics = some a ∧ H[a]? = some cell ∧ cell.vm.isStatics = true ∧ cell.cls = c ∧ f.slot < cell.slots.size ∧ k.staticTypes[f.slot]? = some f.type ∧ ¬ A a
theorem vx_L.moved {C n d : String} {A : Nat → Prop} {u U : State} {H : Heap} (hvm : u.vm.Alike U.vm) (h : vx_L C n d A u H) : vx_L C n d A U H := by
  obtain ⟨c, k, i, f, a, cell, h1, h2, h3, h4, h5, h6, h7, h8, h9, h10⟩ := h
  obtain ⟨k', hi', he⟩ := State.fieldFound?_setVm hvm h2
  exact ⟨c, k', i, f, a, cell, by rw [hvm.findClass]; exact h1, hi', h3, by rw [he]; exact h4, h5, h6, h7, h8, by rw [he]; exact h9, h10⟩
theorem vx_L.kept {C n d : String} {A : Nat → Prop} {U : State} {H H1 : Heap} (h : vx_L C n d A U H) (hq : ∀ a : Nat, a < H.size → ¬ A a → H1[a]? = H[a]?) : vx_L C n d A U H1 := by
  obtain ⟨c, k, i, f, a, cell, h1, h2, h3, h4, h5, h6, h7, h8, h9, h10⟩ := h
  exact ⟨c, k, i, f, a, cell, h1, h2, h3, h4, by rw [hq a (Array.getElem?_eq_some_iff.mp h5).1 h10]; exact h5, h6, h7, h8, h9, h10⟩
theorem vx_L.narrow {C n d : String} {A B : Nat → Prop} {U : State} {H : Heap} (h : vx_L C n d A U H) (hAB : ∀ q, B q → A q) : vx_L C n d B U H := by
  obtain ⟨c, k, i, f, a, cell, h1, h2, h3, h4, h5, h6, h7, h8, h9, h10⟩ := h
  exact ⟨c, k, i, f, a, cell, h1, h2, h3, h4, h5, h6, h7, h8, h9, fun z => h10 (hAB _ z)⟩
theorem vx_L.word {C n d : String} {A : Nat → Prop} {s : State} {args : Array Value} (h : vx_L C n d A s s.heap) : (Cond.laysStatic C n d).before args s = true := by
  obtain ⟨c, k, i, f, a, cell, h1, h2, h3, h4, h5, h6, h7, h8, h9, -⟩ := h
  show (Cond.laysStatic C n d).holds args s none s [] = true
  exact Cond.laysStatic_of h1 h2 h3 h4 h5 h6 h7 h8 h9
/-- .. and what it holds: null or some reference -/
def vx_Zq (C n d : String) (A : Nat → Prop) (U : State) (H : Heap) : Prop := va_Zq C n d A U H ∧ vx_L C n d A U H
theorem vx_Zq.moved {C n d : String} {A : Nat → Prop} {u U : State} {H : Heap} (hvm : u.vm.Alike U.vm) (h : vx_Zq C n d A u H) : vx_Zq C n d A U H := ⟨va_Zq.moved hvm h.1, vx_L.moved hvm h.2⟩
theorem vx_Zq.kept {C n d : String} {A : Nat → Prop} {U : State} {H H1 : Heap} (h : vx_Zq C n d A U H) (hq : ∀ a : Nat, a < H.size → ¬ A a → H1[a]? = H[a]?) : vx_Zq C n d A U H1 := ⟨va_Zq.kept h.1 hq, vx_L.kept h.2 hq⟩
theorem vx_Zq.narrow {C n d : String} {A B : Nat → Prop} {U : State} {H : Heap} (h : vx_Zq C n d A U H) (hAB : ∀ q, B q → A q) : vx_Zq C n d B U H := ⟨va_Zq.narrow h.1 hAB, vx_L.narrow h.2 hAB⟩
theorem vx_Zqof {args : Array Value} {s : State} {C n d : String} {A : Nat → Prop} (hl : (Cond.laysStatic C n d).before args s = true) (hini : (Cond.initialized C).before args s = true) (h : (Cond.isRef (.static C n d)).before args s = true) (hA : ∀ a : Nat, a < s.heap.size → ¬ A a) : vx_Zq C n d A s s.heap := by
  refine ⟨va_Zqof hl hini h hA, ?_⟩
  obtain ⟨c, k, i, f, a, cell, h1, h2, h3, h4, h5, h6, h7, h8, h9⟩ := Cond.laysStatic_spec hl
  exact ⟨c, k, i, f, a, cell, h1, h2, h3, h4, h5, h6, h7, h8, h9, hA a (Array.getElem?_eq_some_iff.mp h5).1⟩
theorem vx_isRef {C n d : String} {v : Value} {A : Nat → Prop} {s : State} {args : Array Value} (h : va_Z C n d v A s s.heap) (hv : v.isRef = true) : (Cond.isRef (.static C n d)).before args s = true := by
  obtain ⟨cf, kf, fi, f, a, cell, h1, h2, h3, h4, h5, h6, h7, -⟩ := h
  have he : (Term.static C n d).eval args s none [] s = some v := by
    simp [Term.eval, State.fieldNamed?, h1, h2, h4, h5, h6, h7]
  simp only [Cond.before, Cond.holds, Cond.value, he]
  cases v <;> simp_all [Value.isRef]
theorem vx_isRefq {C n d : String} {A : Nat → Prop} {s : State} {args : Array Value} (h : va_Zq C n d A s s.heap) : (Cond.isRef (.static C n d)).before args s = true := by
  rcases h with h | ⟨t, h⟩
  · exact vx_isRef h rfl
  · exact vx_isRef h rfl
