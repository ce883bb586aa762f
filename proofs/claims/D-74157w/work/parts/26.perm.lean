set_option maxRecDepth 100000
/-! WORLDS UP TO ORDER -/
theorem va_D_nodup {A : Nat → Prop} {ws : va_W} : va_D A ws ↔ (ws.map Prod.fst).Nodup ∧ ∀ x ∈ ws, A x.1 := by
  constructor
  · intro h
    refine ⟨List.pairwise_iff_getElem.mpr fun i j hi hj hij e => ?_, fun x hx => ?_⟩
    · rw [List.length_map] at hi hj
      rw [List.getElem_map, List.getElem_map] at e
      have := h.1 i j _ _ (List.getElem?_eq_getElem hi) (List.getElem?_eq_getElem hj) e
      omega
    · obtain ⟨k, hk⟩ := List.mem_iff_getElem?.mp hx
      exact h.2 k x hk
  · intro h
    refine ⟨fun i j p q hi hj e => ?_, fun k q hk => h.2 q (List.mem_of_getElem? hk)⟩
    obtain ⟨hi1, hi2⟩ := List.getElem?_eq_some_iff.mp hi
    obtain ⟨hj1, hj2⟩ := List.getElem?_eq_some_iff.mp hj
    have hp := List.pairwise_iff_getElem.mp h.1
    rcases Nat.lt_trichotomy i j with z | z | z
    · exact absurd (by rw [List.getElem_map, List.getElem_map, hi2, hj2]; exact e) (hp i j (by rw [List.length_map]; exact hi1) (by rw [List.length_map]; exact hj1) z)
    · exact z
    · exact absurd (by rw [List.getElem_map, List.getElem_map, hi2, hj2]; exact e.symm) (hp j i (by rw [List.length_map]; exact hj1) (by rw [List.length_map]; exact hi1) z)
theorem zt_perm {p : Program} {l : Launch} {e : Env} {R : Room} {s : State} {m : MethodId} {args : Array Value} {below : List Frame} {meth : Method} {c : Code} {nL : Nat} {D : va_G} {A : Nat → Prop} {Q : State → Prop} {u v pc : Nat} {lv : List (Nat × Value)} {st : List Value} {ws ws' : va_W} (h : ws.Perm ws')
    (kk : Go p l e R s m args below meth c D A nL Q ws' u v pc lv st) : Go p l e R s m args below meth c D A nL Q ws u v pc lv st :=
  fun H locs ls hP hD hS hl => kk H locs ls (fun k q hk => by
    obtain ⟨j, hj⟩ := List.mem_iff_getElem?.mp (h.mem_iff.mpr (List.mem_of_getElem? hk))
    exact hP j q hj) (va_D_nodup.mpr ⟨((h.map Prod.fst).nodup_iff).mp (va_D_nodup.mp hD).1, fun x hx => (va_D_nodup.mp hD).2 x (h.mem_iff.mpr hx)⟩) hS hl
