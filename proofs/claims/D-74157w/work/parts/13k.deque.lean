set_option maxRecDepth 100000
theorem ap0 {α : Type} {W : List α} {x : α} {L : List α} : (W ++ x :: L)[W.length]? = some x := by simp
theorem ap1 {α : Type} {W : List α} {x y : α} {L : List α} : (W ++ x :: y :: L)[W.length + 1]? = some y := by
  rw [List.getElem?_append_right (by omega), show W.length + 1 - W.length = 1 by omega]
  rfl
theorem ap2 {α : Type} {W : List α} {x y z : α} {L : List α} : (W ++ x :: y :: z :: L)[W.length + 2]? = some z := by
  rw [List.getElem?_append_right (by omega), show W.length + 2 - W.length = 2 by omega]
  rfl
theorem apW {α : Type} {W L : List α} {k : Nat} {x : α} (h : W[k]? = some x) : (W ++ L)[k]? = some x := by
  rw [List.getElem?_append_left (List.getElem?_eq_some_iff.mp h).1]
  exact h
theorem as0 {α : Type} {W : List α} {x z : α} {L : List α} : (W ++ x :: L).set W.length z = W ++ z :: L := by
  rw [List.set_append_right _ _ (Nat.le_refl _), Nat.sub_self]
  rfl
theorem as1 {α : Type} {W : List α} {x y z : α} {L : List α} : (W ++ x :: y :: L).set (W.length + 1) z = W ++ x :: z :: L := by
  rw [List.set_append_right _ _ (by omega), show W.length + 1 - W.length = 1 by omega]
  rfl
theorem as2 {α : Type} {W : List α} {x y w z : α} {L : List α} : (W ++ x :: y :: w :: L).set (W.length + 2) z = W ++ x :: y :: z :: L := by
  rw [List.set_append_right _ _ (by omega), show W.length + 2 - W.length = 2 by omega]
  rfl
theorem elO.app {W L : va_W} {f : Nat → Option Nat} (h : elO W f) : elO (W ++ L) f := fun j x hx => by
  obtain ⟨k, ci, vs, r, h1, h2, h3⟩ := h j x hx
  exact ⟨k, ci, vs, r, apW h1, h2, h3⟩
section ZJN
variable {p : Program} {l : Launch} {e : Env} {R : Room} {s : State} {m : MethodId} {args : Array Value} {below : List Frame} {meth : Method} {c : Code} {cc : ByteArray} {own : String} {nL N : Nat} {D : va_G} {dA : Nat → ClassId} {G : Nat → Nat} {A : Nat → Prop} {Q : State → Prop} {ws ws' : va_W} {u v pc rk rs : Nat} {lv : List (Nat × Value)} {st rest : List Value}
theorem zj_drop (φ : Nat → Nat) (hφ : ∀ (k : Nat) (x : Nat × va_E), ws'[k]? = some x → ws[φ k]? = some x) (hinj : ∀ i j, φ i = φ j → i = j) (kk : Go p l e R s m args below meth c D A nL Q ws' u v pc lv st) : Go p l e R s m args below meth c D A nL Q ws u v pc lv st :=
  fun H locs ls hP hD hS hl => kk H locs ls (fun k q h => hP (φ k) q (hφ k q h)) ⟨fun i j p q hi hj e => hinj i j (hD.1 _ _ _ _ (hφ i p hi) (hφ j q hj) e), fun k q h => hD.2 _ q (hφ k q h)⟩ hS hl
theorem dr_one {α : Type} {W L : List α} {x y : α} (k : Nat) (z : α) (h : (W ++ x :: L)[k]? = some z) : (W ++ x :: y :: L)[if k ≤ W.length then k else k + 1]? = some z := by
  by_cases hk : k < W.length
  · rw [if_pos (by omega), List.getElem?_append_left hk]
    rw [List.getElem?_append_left hk] at h
    exact h
  · rw [List.getElem?_append_right (by omega)] at h
    by_cases hk2 : k = W.length
    · subst hk2
      rw [if_pos (Nat.le_refl _), List.getElem?_append_right (by omega), Nat.sub_self]
      rw [Nat.sub_self] at h
      exact h
    · rw [if_neg (by omega), List.getElem?_append_right (by omega)]
      obtain ⟨r, hr⟩ : ∃ r, k - W.length = r + 1 := ⟨k - W.length - 1, by omega⟩
      rw [hr] at h
      rw [show k + 1 - W.length = r + 1 + 1 by omega]
      exact h
theorem dr_inj (n : Nat) : ∀ i j : Nat, (if i ≤ n then i else i + 1) = (if j ≤ n then j else j + 1) → i = j := fun i j h => by
  split at h <;> split at h <;> omega
theorem zn_if_le (hO : Ok p s m args meth c cc own nL D dA A) {x : Int32} (hc : ¬ (x ≤ 0)) {off : Int} {tgt : Nat} (hdg : decode cc pc = .ok (.ifCond .le off, 3)) (ht : (pc : Int) + off = (tgt : Int)) (kk : Go p l e R s m args below meth c D A nL Q ws u v (pc + 3) lv st) : Go p l e R s m args below meth c D A nL Q ws u v pc lv (.int x :: st) := zg_if_le (α := Nat) (f := 0) (g := 1) (z := 1) hO (if_neg hc) hdg ht (fun h => absurd h (by decide)) (fun _ => kk)
theorem zt_if_le (hO : Ok p s m args meth c cc own nL D dA A) {x : Int32} (hc : x ≤ 0) {off : Int} {tgt : Nat} (hdg : decode cc pc = .ok (.ifCond .le off, 3)) (ht : (pc : Int) + off = (tgt : Int)) (kk : Go p l e R s m args below meth c D A nL Q ws u v tgt lv st) : Go p l e R s m args below meth c D A nL Q ws u v pc lv (.int x :: st) := zg_if_le (α := Nat) (f := 0) (g := 1) (z := 0) hO (if_pos hc) hdg ht (fun _ => kk) (fun h => absurd h (by decide))
theorem zn_icmp_le (hO : Ok p s m args meth c cc own nL D dA A) {x y : Int32} (hc : ¬ (x ≤ y)) {off : Int} {tgt : Nat} (hdg : decode cc pc = .ok (.if_icmp .le off, 3)) (ht : (pc : Int) + off = (tgt : Int)) (kk : Go p l e R s m args below meth c D A nL Q ws u v (pc + 3) lv st) : Go p l e R s m args below meth c D A nL Q ws u v pc lv (.int y :: .int x :: st) := zg_icmp_le (α := Nat) (f := 0) (g := 1) (z := 1) hO (if_neg hc) hdg ht (fun h => absurd h (by decide)) (fun _ => kk)
theorem zt_icmp_le (hO : Ok p s m args meth c cc own nL D dA A) {x y : Int32} (hc : x ≤ y) {off : Int} {tgt : Nat} (hdg : decode cc pc = .ok (.if_icmp .le off, 3)) (ht : (pc : Int) + off = (tgt : Int)) (kk : Go p l e R s m args below meth c D A nL Q ws u v tgt lv st) : Go p l e R s m args below meth c D A nL Q ws u v pc lv (.int y :: .int x :: st) := zg_icmp_le (α := Nat) (f := 0) (g := 1) (z := 0) hO (if_pos hc) hdg ht (fun _ => kk) (fun h => absurd h (by decide))
theorem zn_if_lt (hO : Ok p s m args meth c cc own nL D dA A) {x : Int32} (hc : ¬ (x < 0)) {off : Int} {tgt : Nat} (hdg : decode cc pc = .ok (.ifCond .lt off, 3)) (ht : (pc : Int) + off = (tgt : Int)) (kk : Go p l e R s m args below meth c D A nL Q ws u v (pc + 3) lv st) : Go p l e R s m args below meth c D A nL Q ws u v pc lv (.int x :: st) := zg_if_lt (α := Nat) (f := 0) (g := 1) (z := 1) hO (if_neg hc) hdg ht (fun h => absurd h (by decide)) (fun _ => kk)
theorem zt_if_lt (hO : Ok p s m args meth c cc own nL D dA A) {x : Int32} (hc : x < 0) {off : Int} {tgt : Nat} (hdg : decode cc pc = .ok (.ifCond .lt off, 3)) (ht : (pc : Int) + off = (tgt : Int)) (kk : Go p l e R s m args below meth c D A nL Q ws u v tgt lv st) : Go p l e R s m args below meth c D A nL Q ws u v pc lv (.int x :: st) := zg_if_lt (α := Nat) (f := 0) (g := 1) (z := 0) hO (if_pos hc) hdg ht (fun _ => kk) (fun h => absurd h (by decide))
theorem zn_icmp_lt (hO : Ok p s m args meth c cc own nL D dA A) {x y : Int32} (hc : ¬ (x < y)) {off : Int} {tgt : Nat} (hdg : decode cc pc = .ok (.if_icmp .lt off, 3)) (ht : (pc : Int) + off = (tgt : Int)) (kk : Go p l e R s m args below meth c D A nL Q ws u v (pc + 3) lv st) : Go p l e R s m args below meth c D A nL Q ws u v pc lv (.int y :: .int x :: st) := zg_icmp_lt (α := Nat) (f := 0) (g := 1) (z := 1) hO (if_neg hc) hdg ht (fun h => absurd h (by decide)) (fun _ => kk)
theorem zt_icmp_lt (hO : Ok p s m args meth c cc own nL D dA A) {x y : Int32} (hc : x < y) {off : Int} {tgt : Nat} (hdg : decode cc pc = .ok (.if_icmp .lt off, 3)) (ht : (pc : Int) + off = (tgt : Int)) (kk : Go p l e R s m args below meth c D A nL Q ws u v tgt lv st) : Go p l e R s m args below meth c D A nL Q ws u v pc lv (.int y :: .int x :: st) := zg_icmp_lt (α := Nat) (f := 0) (g := 1) (z := 0) hO (if_pos hc) hdg ht (fun _ => kk) (fun h => absurd h (by decide))
theorem zn_if_ge (hO : Ok p s m args meth c cc own nL D dA A) {x : Int32} (hc : ¬ (0 ≤ x)) {off : Int} {tgt : Nat} (hdg : decode cc pc = .ok (.ifCond .ge off, 3)) (ht : (pc : Int) + off = (tgt : Int)) (kk : Go p l e R s m args below meth c D A nL Q ws u v (pc + 3) lv st) : Go p l e R s m args below meth c D A nL Q ws u v pc lv (.int x :: st) := zg_if_ge (α := Nat) (f := 0) (g := 1) (z := 1) hO (if_neg hc) hdg ht (fun h => absurd h (by decide)) (fun _ => kk)
theorem zt_if_ge (hO : Ok p s m args meth c cc own nL D dA A) {x : Int32} (hc : 0 ≤ x) {off : Int} {tgt : Nat} (hdg : decode cc pc = .ok (.ifCond .ge off, 3)) (ht : (pc : Int) + off = (tgt : Int)) (kk : Go p l e R s m args below meth c D A nL Q ws u v tgt lv st) : Go p l e R s m args below meth c D A nL Q ws u v pc lv (.int x :: st) := zg_if_ge (α := Nat) (f := 0) (g := 1) (z := 0) hO (if_pos hc) hdg ht (fun _ => kk) (fun h => absurd h (by decide))
theorem zn_icmp_ge (hO : Ok p s m args meth c cc own nL D dA A) {x y : Int32} (hc : ¬ (y ≤ x)) {off : Int} {tgt : Nat} (hdg : decode cc pc = .ok (.if_icmp .ge off, 3)) (ht : (pc : Int) + off = (tgt : Int)) (kk : Go p l e R s m args below meth c D A nL Q ws u v (pc + 3) lv st) : Go p l e R s m args below meth c D A nL Q ws u v pc lv (.int y :: .int x :: st) := zg_icmp_ge (α := Nat) (f := 0) (g := 1) (z := 1) hO (if_neg hc) hdg ht (fun h => absurd h (by decide)) (fun _ => kk)
theorem zt_icmp_ge (hO : Ok p s m args meth c cc own nL D dA A) {x y : Int32} (hc : y ≤ x) {off : Int} {tgt : Nat} (hdg : decode cc pc = .ok (.if_icmp .ge off, 3)) (ht : (pc : Int) + off = (tgt : Int)) (kk : Go p l e R s m args below meth c D A nL Q ws u v tgt lv st) : Go p l e R s m args below meth c D A nL Q ws u v pc lv (.int y :: .int x :: st) := zg_icmp_ge (α := Nat) (f := 0) (g := 1) (z := 0) hO (if_pos hc) hdg ht (fun _ => kk) (fun h => absurd h (by decide))
theorem zn_if_gt (hO : Ok p s m args meth c cc own nL D dA A) {x : Int32} (hc : ¬ (0 < x)) {off : Int} {tgt : Nat} (hdg : decode cc pc = .ok (.ifCond .gt off, 3)) (ht : (pc : Int) + off = (tgt : Int)) (kk : Go p l e R s m args below meth c D A nL Q ws u v (pc + 3) lv st) : Go p l e R s m args below meth c D A nL Q ws u v pc lv (.int x :: st) := zg_if_gt (α := Nat) (f := 0) (g := 1) (z := 1) hO (if_neg hc) hdg ht (fun h => absurd h (by decide)) (fun _ => kk)
theorem zt_if_gt (hO : Ok p s m args meth c cc own nL D dA A) {x : Int32} (hc : 0 < x) {off : Int} {tgt : Nat} (hdg : decode cc pc = .ok (.ifCond .gt off, 3)) (ht : (pc : Int) + off = (tgt : Int)) (kk : Go p l e R s m args below meth c D A nL Q ws u v tgt lv st) : Go p l e R s m args below meth c D A nL Q ws u v pc lv (.int x :: st) := zg_if_gt (α := Nat) (f := 0) (g := 1) (z := 0) hO (if_pos hc) hdg ht (fun _ => kk) (fun h => absurd h (by decide))
theorem zn_icmp_gt (hO : Ok p s m args meth c cc own nL D dA A) {x y : Int32} (hc : ¬ (y < x)) {off : Int} {tgt : Nat} (hdg : decode cc pc = .ok (.if_icmp .gt off, 3)) (ht : (pc : Int) + off = (tgt : Int)) (kk : Go p l e R s m args below meth c D A nL Q ws u v (pc + 3) lv st) : Go p l e R s m args below meth c D A nL Q ws u v pc lv (.int y :: .int x :: st) := zg_icmp_gt (α := Nat) (f := 0) (g := 1) (z := 1) hO (if_neg hc) hdg ht (fun h => absurd h (by decide)) (fun _ => kk)
theorem zt_icmp_gt (hO : Ok p s m args meth c cc own nL D dA A) {x y : Int32} (hc : y < x) {off : Int} {tgt : Nat} (hdg : decode cc pc = .ok (.if_icmp .gt off, 3)) (ht : (pc : Int) + off = (tgt : Int)) (kk : Go p l e R s m args below meth c D A nL Q ws u v tgt lv st) : Go p l e R s m args below meth c D A nL Q ws u v pc lv (.int y :: .int x :: st) := zg_icmp_gt (α := Nat) (f := 0) (g := 1) (z := 0) hO (if_pos hc) hdg ht (fun _ => kk) (fun h => absurd h (by decide))
theorem zn_if_eq (hO : Ok p s m args meth c cc own nL D dA A) {x : Int32} (hc : ¬ (x = 0)) {off : Int} {tgt : Nat} (hdg : decode cc pc = .ok (.ifCond .eq off, 3)) (ht : (pc : Int) + off = (tgt : Int)) (kk : Go p l e R s m args below meth c D A nL Q ws u v (pc + 3) lv st) : Go p l e R s m args below meth c D A nL Q ws u v pc lv (.int x :: st) := zg_if_eq (α := Nat) (f := 0) (g := 1) (z := 1) hO (if_neg hc) hdg ht (fun h => absurd h (by decide)) (fun _ => kk)
theorem zt_if_eq (hO : Ok p s m args meth c cc own nL D dA A) {x : Int32} (hc : x = 0) {off : Int} {tgt : Nat} (hdg : decode cc pc = .ok (.ifCond .eq off, 3)) (ht : (pc : Int) + off = (tgt : Int)) (kk : Go p l e R s m args below meth c D A nL Q ws u v tgt lv st) : Go p l e R s m args below meth c D A nL Q ws u v pc lv (.int x :: st) := zg_if_eq (α := Nat) (f := 0) (g := 1) (z := 0) hO (if_pos hc) hdg ht (fun _ => kk) (fun h => absurd h (by decide))
theorem zn_icmp_eq (hO : Ok p s m args meth c cc own nL D dA A) {x y : Int32} (hc : ¬ (x = y)) {off : Int} {tgt : Nat} (hdg : decode cc pc = .ok (.if_icmp .eq off, 3)) (ht : (pc : Int) + off = (tgt : Int)) (kk : Go p l e R s m args below meth c D A nL Q ws u v (pc + 3) lv st) : Go p l e R s m args below meth c D A nL Q ws u v pc lv (.int y :: .int x :: st) := zg_icmp_eq (α := Nat) (f := 0) (g := 1) (z := 1) hO (if_neg hc) hdg ht (fun h => absurd h (by decide)) (fun _ => kk)
theorem zt_icmp_eq (hO : Ok p s m args meth c cc own nL D dA A) {x y : Int32} (hc : x = y) {off : Int} {tgt : Nat} (hdg : decode cc pc = .ok (.if_icmp .eq off, 3)) (ht : (pc : Int) + off = (tgt : Int)) (kk : Go p l e R s m args below meth c D A nL Q ws u v tgt lv st) : Go p l e R s m args below meth c D A nL Q ws u v pc lv (.int y :: .int x :: st) := zg_icmp_eq (α := Nat) (f := 0) (g := 1) (z := 0) hO (if_pos hc) hdg ht (fun _ => kk) (fun h => absurd h (by decide))
theorem zn_if_ne (hO : Ok p s m args meth c cc own nL D dA A) {x : Int32} (hc : x = 0) {off : Int} {tgt : Nat} (hdg : decode cc pc = .ok (.ifCond .ne off, 3)) (ht : (pc : Int) + off = (tgt : Int)) (kk : Go p l e R s m args below meth c D A nL Q ws u v (pc + 3) lv st) : Go p l e R s m args below meth c D A nL Q ws u v pc lv (.int x :: st) := zg_if_ne (α := Nat) (f := 0) (g := 1) (z := 0) hO (if_pos hc) hdg ht (fun h => absurd h (by decide)) (fun _ => kk)
theorem zt_if_ne (hO : Ok p s m args meth c cc own nL D dA A) {x : Int32} (hc : ¬ (x = 0)) {off : Int} {tgt : Nat} (hdg : decode cc pc = .ok (.ifCond .ne off, 3)) (ht : (pc : Int) + off = (tgt : Int)) (kk : Go p l e R s m args below meth c D A nL Q ws u v tgt lv st) : Go p l e R s m args below meth c D A nL Q ws u v pc lv (.int x :: st) := zg_if_ne (α := Nat) (f := 0) (g := 1) (z := 1) hO (if_neg hc) hdg ht (fun _ => kk) (fun h => absurd h (by decide))
theorem zn_icmp_ne (hO : Ok p s m args meth c cc own nL D dA A) {x y : Int32} (hc : x = y) {off : Int} {tgt : Nat} (hdg : decode cc pc = .ok (.if_icmp .ne off, 3)) (ht : (pc : Int) + off = (tgt : Int)) (kk : Go p l e R s m args below meth c D A nL Q ws u v (pc + 3) lv st) : Go p l e R s m args below meth c D A nL Q ws u v pc lv (.int y :: .int x :: st) := zg_icmp_ne (α := Nat) (f := 0) (g := 1) (z := 0) hO (if_pos hc) hdg ht (fun h => absurd h (by decide)) (fun _ => kk)
theorem zt_icmp_ne (hO : Ok p s m args meth c cc own nL D dA A) {x y : Int32} (hc : ¬ (x = y)) {off : Int} {tgt : Nat} (hdg : decode cc pc = .ok (.if_icmp .ne off, 3)) (ht : (pc : Int) + off = (tgt : Int)) (kk : Go p l e R s m args below meth c D A nL Q ws u v tgt lv st) : Go p l e R s m args below meth c D A nL Q ws u v pc lv (.int y :: .int x :: st) := zg_icmp_ne (α := Nat) (f := 0) (g := 1) (z := 1) hO (if_neg hc) hdg ht (fun _ => kk) (fun h => absurd h (by decide))
theorem zj_nonnull (hO : Ok p s m args meth c cc own nL D dA A) {x : Nat} {off : Int} {tgt : Nat} (hdg : decode cc pc = .ok (.ifnonnull off, 3)) (ht : (pc : Int) + off = (tgt : Int)) (k : Go p l e R s m args below meth c D A nL Q ws u v tgt lv st) : Go p l e R s m args below meth c D A nL Q ws u v pc lv (.ref x :: st) := fun H locs ls hP hD hS hl => lv_ifnonnull hO.1 hO.2.1 hdg ht (k H locs ls hP hD hS hl)
end ZJN
theorem mw_J30_dec : MwS yJ30_dec cJ30_dec 2 (some .int) 2 := ⟨by decide +kernel, q1137, q122, q1138⟩
theorem mw_J30_sub : MwS yJ30_sub cJ30_sub 3 (some .int) 3 := ⟨by decide +kernel, q1165, q122, q1166⟩
theorem mw_J30_inc : MwS yJ30_inc cJ30_inc 2 (some .int) 2 := ⟨by decide +kernel, q1064, q122, q1065⟩
theorem mw_J30_size : MwX yJ30_size cJ30_size 1 (some .int) RJ30 0 := ⟨by decide +kernel, q1161, q1162, q122, q1163⟩
theorem mw_J30_grow : MwX yJ30_grow cJ30_grow 9 none RJ30 1 := ⟨by decide +kernel, q1141, qs18, q122, q1142⟩
theorem mw_J30_addFirst : MwX yJ30_addFirst cJ30_addFirst 3 none RJ30 1 := ⟨by decide +kernel, q1133, q1134, q122, q1135⟩
theorem mw_J30_push : MwX yJ30_push cJ30_push 2 none RJ30 1 := ⟨by decide +kernel, q1129, q1130, q122, q1131⟩
theorem mw_J30_iterator : MwX yJ30_iterator cJ30_iterator 1 (some (.object "java/util/Iterator")) RJ30 0 := ⟨by decide +kernel, q1151, q1152, q122, q1153⟩
theorem mw_J30_nonNullElementAt : MwS yJ30_nonNullElementAt cJ30_nonNullElementAt 3 (some (.object "java/lang/Object")) 2 := ⟨by decide +kernel, q1061, q122, q1062⟩
theorem mw_J14_copyOf : MwS yJ14_copyOf cJ14_copyOf 2 (some (.array (.object "java/lang/Object"))) 2 := ⟨by decide +kernel, q449, q103, q450⟩
theorem mw_J14_copyOf_2 : MwS yJ14_copyOf_2 cJ14_copyOf_2 4 (some (.array (.object "java/lang/Object"))) 3 := ⟨by decide +kernel, q453, q103, q454⟩
theorem m_dec (l : Launch) (D : va_G) (dA : Nat → ClassId) {i n r : Int32} (h : (if 0 ≤ i + (-1) then i + (-1) else n - nI 1) = r) : Ct l yJ30_dec (ws_ yJ30_dec cJ30_dec 2 (some .int)) 0 0 0 D dA [.int i, .int n] [] A0s (QfI D dA [] r) := by
  refine zc_start (cc := cJ30_dec) (nL := 2) (ret := some .int) (own := RJ30) (by decide) rfl rfl (Nat.le_of_ble_eq_true rfl) (fun _ _ h => h) (fun p e s m args below meth c hO hr _ _ => ?_)
  refine zg_sub (lv' := [(0, .int i), (1, .int n)]) [0, 1] rfl ?_
  refine zg_iinc (k := 0) (lv' := [(0, .int (i + (-1))), (1, .int n)]) hO dJ30_dec_0 rfl (zii icm1) (Nat.le_of_ble_eq_true rfl) rfl ?_
  refine zg_iload_n hO 0 dJ30_dec_3 rfl rfl ?_
  refine zg_if_ge (tgt := 11) hO h dJ30_dec_4 (by decide) (fun h => ?_) (fun h => ?_)
  · subst h
    refine zg_iload_n hO 0 dJ30_dec_11 rfl rfl ?_
    exact zc_iret hO hr dJ30_dec_12
  · subst h
    refine zg_iload_n hO 1 dJ30_dec_7 rfl rfl ?_
    refine zg_iconst hO dJ30_dec_8 ic1 ?_
    refine zg_isub hO dJ30_dec_9 ?_
    refine zg_istore_n (lv' := [(0, .int (n - (nI 1))), (1, .int n)]) hO dJ30_dec_10 rfl (Nat.le_of_ble_eq_true rfl) rfl ?_
    refine zg_iload_n hO 0 dJ30_dec_11 rfl rfl ?_
    exact zc_iret hO hr dJ30_dec_12
theorem m_sub (l : Launch) (D : va_G) (dA : Nat → ClassId) {i j n r : Int32} (h : (if 0 ≤ i - j then i - j else i - j + n) = r) : Ct l yJ30_sub (ws_ yJ30_sub cJ30_sub 3 (some .int)) 0 0 0 D dA [.int i, .int j, .int n] [] A0s (QfI D dA [] r) := by
  refine zc_start (cc := cJ30_sub) (nL := 3) (ret := some .int) (own := RJ30) (by decide) rfl rfl (Nat.le_of_ble_eq_true rfl) (fun _ _ h => h) (fun p e s m args below meth c hO hr _ _ => ?_)
  refine zg_sub (lv' := [(0, .int i), (1, .int j), (2, .int n)]) [0, 1, 2] rfl ?_
  refine zg_iload_n hO 0 dJ30_sub_0 rfl rfl ?_
  refine zg_iload_n hO 1 dJ30_sub_1 rfl rfl ?_
  refine zg_isub hO dJ30_sub_2 ?_
  refine zg_dup hO dJ30_sub_3 rfl ?_
  refine zg_istore_n (lv' := [(0, .int (i - j)), (1, .int j), (2, .int n)]) hO dJ30_sub_4 rfl (Nat.le_of_ble_eq_true rfl) rfl ?_
  refine zg_if_ge (tgt := 12) hO h dJ30_sub_5 (by decide) (fun h => ?_) (fun h => ?_)
  · subst h
    refine zg_iload_n hO 0 dJ30_sub_12 rfl rfl ?_
    exact zc_iret hO hr dJ30_sub_13
  · subst h
    refine zg_iload_n hO 0 dJ30_sub_8 rfl rfl ?_
    refine zg_iload_n hO 2 dJ30_sub_9 rfl rfl ?_
    refine zg_iadd hO dJ30_sub_10 ?_
    refine zg_istore_n (lv' := [(0, .int ((i - j) + n)), (1, .int j), (2, .int n)]) hO dJ30_sub_11 rfl (Nat.le_of_ble_eq_true rfl) rfl ?_
    refine zg_iload_n hO 0 dJ30_sub_12 rfl rfl ?_
    exact zc_iret hO hr dJ30_sub_13
theorem m_inc (l : Launch) (D : va_G) (dA : Nat → ClassId) {i n r : Int32} (h : (if i + nI 1 < n then i + nI 1 else nI 0) = r) : Ct l yJ30_inc (ws_ yJ30_inc cJ30_inc 2 (some .int)) 0 0 0 D dA [.int i, .int n] [] A0s (QfI D dA [] r) := by
  refine zc_start (cc := cJ30_inc) (nL := 2) (ret := some .int) (own := RJ30) (by decide) rfl rfl (Nat.le_of_ble_eq_true rfl) (fun _ _ h => h) (fun p e s m args below meth c hO hr _ _ => ?_)
  refine zg_sub (lv' := [(0, .int i), (1, .int n)]) [0, 1] rfl ?_
  refine zg_iinc (k := 0) (lv' := [(0, .int (i + (nI 1))), (1, .int n)]) hO dJ30_inc_0 rfl (zii ic1) (Nat.le_of_ble_eq_true rfl) rfl ?_
  refine zg_iload_n hO 0 dJ30_inc_3 rfl rfl ?_
  refine zg_iload_n hO 1 dJ30_inc_4 rfl rfl ?_
  refine zg_icmp_lt (tgt := 10) hO h dJ30_inc_5 (by decide) (fun h => ?_) (fun h => ?_)
  · subst h
    refine zg_iload_n hO 0 dJ30_inc_10 rfl rfl ?_
    exact zc_iret hO hr dJ30_inc_11
  · subst h
    refine zg_iconst hO dJ30_inc_8 ic0 ?_
    refine zg_istore_n (lv' := [(0, .int (nI 0)), (1, .int n)]) hO dJ30_inc_9 rfl (Nat.le_of_ble_eq_true rfl) rfl ?_
    refine zg_iload_n hO 0 dJ30_inc_10 rfl rfl ?_
    exact zc_iret hO hr dJ30_inc_11
