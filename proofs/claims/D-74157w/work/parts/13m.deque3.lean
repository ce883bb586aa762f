set_option maxRecDepth 100000
def dcap (k : Nat) : Nat := if k < 17 then 17 else if k < 36 then 36 else 74
def dhd (k : Nat) : Int32 := if k = 0 then nI 0 else nI (dcap k - k)
def dqf (L : List Nat) : Nat → Option Nat := fun j => if j < dcap L.length - L.length then none else L[j - (dcap L.length - L.length)]?
abbrev DQ (dA : Nat → ClassId) (d es : Nat) (L : List Nat) : va_W := [(d, .inr (10, [.ref es, .int (dhd L.length), .int (nI 0)])), (es, .inl (dA 7, dcap L.length, rfA (dqf L)))]
/-- the list's objects are cells of the world -/
def InC (W : va_W) (L : List Nat) : Prop := ∀ y ∈ L, ∃ (k : Nat) (vs : List Value), W[k]? = some (y, .inr (4, vs))
theorem InC.el {W : va_W} {L : List Nat} {f : Nat → Option Nat} (h : InC W L) (hf : ∀ j x, f j = some x → x ∈ L) : elO W f := fun j x hx => by
  obtain ⟨k, vs, h1⟩ := h x (hf j x hx)
  exact ⟨k, 4, vs, _, h1, rfl, q2158⟩
theorem dqf_mem {L : List Nat} (j x : Nat) (h : dqf L j = some x) : x ∈ L := by
  unfold dqf at h
  split at h
  · cases h
  · exact List.mem_of_getElem? h
theorem dcap_le (k : Nat) (h : k < 73) : k < dcap k ∧ dcap k ≤ 74 := by
  unfold dcap
  split
  · omega
  · split <;> omega
def gcl (k : Nat) : Nat := if k + 1 = 17 ∨ k + 1 = 36 then 1 else 0
def gsl (k : Nat) : Nat := if k + 1 = 17 then 36 else if k + 1 = 36 then 74 else 0
theorem dq_dec : ∀ k : Nat, k < 73 → (if 0 ≤ dhd k + (-1) then dhd k + (-1) else nI (dcap k) - nI 1) = nI (dcap k - (k + 1)) := by decide +kernel
theorem dq_hd : ∀ k : Nat, k < 73 → ¬ (k + 1 = 17 ∨ k + 1 = 36) → dhd (k + 1) = nI (dcap k - (k + 1)) ∧ dcap (k + 1) = dcap k ∧ ¬ nI (dcap k - (k + 1)) = nI 0 := by decide +kernel
theorem dq_at : ∀ k : Nat, k < 73 → ¬ (nI (dcap k - (k + 1)) < 0 ∨ dcap k ≤ (nI (dcap k - (k + 1))).toNatClampNeg) ∧ (nI (dcap k - (k + 1))).toNatClampNeg = dcap k - (k + 1) := by decide +kernel
theorem dq_up {L : List Nat} {x : Nat} (h : L.length < 73) (hg : ¬ (L.length + 1 = 17 ∨ L.length + 1 = 36)) : va_up (dqf L) (dcap L.length - (L.length + 1)) (some x) = dqf (x :: L) := by
  obtain ⟨-, h2, -⟩ := dq_hd L.length h hg
  obtain ⟨h3, -⟩ := dcap_le L.length h
  funext j
  unfold va_up dqf
  rw [List.length_cons, h2]
  by_cases hj : j = dcap L.length - (L.length + 1)
  · rw [if_pos hj, if_neg (by omega), hj, Nat.sub_self]
    rfl
  · rw [if_neg hj]
    by_cases hj2 : j < dcap L.length - (L.length + 1)
    · rw [if_pos hj2, if_pos (by omega)]
    · rw [if_neg hj2, if_neg (by omega), show j - (dcap L.length - (L.length + 1)) = (j - (dcap L.length - L.length)) + 1 by omega]
      rfl
theorem dq_upG {L : List Nat} {x n ns : Nat} {f : Nat → Option Nat} (hL : L.length + 1 = n) (hc : dcap L.length = n) (hc2 : dcap n = n + ns) (hf : f = va_up (dqf L) (dcap L.length - (L.length + 1)) (some x)) (hns : n ≤ ns) :
    (fun j => if j < ns then none else va_cpy (va_cpy f (fun _ => none) 0 0 n) (va_cpy f (fun _ => none) 0 0 n) 0 ns n j) = dqf (x :: L) := by
  have hf2 : ∀ j, j < n → f j = (x :: L)[j]? := by
    intro j hj
    rw [hf]
    unfold va_up dqf
    rw [hc, hL, Nat.sub_self]
    by_cases h0 : j = 0
    · rw [if_pos h0, h0]
      rfl
    · rw [if_neg h0, if_neg (by omega), show n - L.length = 1 by omega]
      obtain ⟨r, rfl⟩ : ∃ r, j = r + 1 := ⟨j - 1, by omega⟩
      rfl
  funext j
  unfold dqf
  rw [List.length_cons, hL, hc2, show n + ns - n = ns by omega]
  by_cases hj : j < ns
  · rw [if_pos hj, if_pos hj]
  · rw [if_neg hj, if_neg hj]
    unfold va_cpy
    by_cases hj2 : j < ns + n
    · rw [if_pos ⟨by omega, hj2⟩, if_pos ⟨Nat.zero_le _, by omega⟩, Nat.sub_zero, Nat.zero_add, Nat.zero_add]
      exact hf2 _ (by omega)
    · rw [if_neg (by omega), if_neg (by omega)]
      exact (List.getElem?_eq_none (by rw [List.length_cons]; omega)).symm
theorem m_acinit (l : Launch) (D : va_G) (dA : Nat → ClassId) (G : Nat → Nat) {W0 : va_W} {b : Nat} : CtX l yJ4_init (ws_ yJ4_init cJ4_init 1 none) 1 0 0 D dA G [.ref b] W0 (QgV D dA (fun _ : Unit => W0)) := by
  refine zx_start (cc := cJ4_init) (nL := 1) (ret := none) (own := RJ4) (by decide) rfl rfl (Nat.le_of_ble_eq_true rfl) (fun p e s m args below meth c A hO hX hr hm _ => ?_)
  refine zg_sub (lv' := [(0, .ref b)]) [0] rfl ?_
  refine zg_aload_n hO 0 dJ4_init_0 rfl rfl ?_
  refine zg_obj (rest := []) hO q305 (Nat.le_of_ble_eq_true rfl) (Nat.le_of_ble_eq_true rfl) dJ4_init_1 ?_
  exact zx_vret (f := fun _ : Unit => W0) hO hr () rfl ⟨Nat.le_refl _, Nat.le_refl _⟩ dJ4_init_4
theorem m_dqinit (l : Launch) (D : va_G) (dA : Nat → ClassId) (G : Nat → Nat) {W0 : va_W} {d : Nat} : CtX l yJ30_init (ws_ yJ30_init cJ30_init 1 none) 2 1 17 D dA G [.ref d] (W0 ++ [(d, .inr (10, [.null, .int (nI 0), .int (nI 0)]))]) (QgV D dA (fun q : Nat => W0 ++ DQ dA d q [])) := by
  refine zx_start (cc := cJ30_init) (nL := 1) (ret := none) (own := RJ30) (by decide) rfl rfl (Nat.le_of_ble_eq_true rfl) (fun p e s m args below meth c A hO hX hr hm _ => ?_)
  refine zg_sub (lv' := [(0, .ref d)]) [0] rfl ?_
  refine zg_aload_n hO 0 dJ30_init_0 rfl rfl ?_
  refine zx_callIv (As := []) (rest := []) hO hX (m_acinit l D dA G) rfl ⟨by decide +kernel, q303, q92, q304⟩ q1114 ⟨Nat.le_of_ble_eq_true rfl, Nat.le_of_ble_eq_true rfl⟩ ⟨by omega, by omega⟩ rfl rfl (Nat.le_of_ble_eq_true rfl) dJ30_init_1 (fun _ => ?_)
  refine zg_aload_n hO 0 dJ30_init_4 rfl rfl ?_
  refine zg_bipush hO dJ30_init_5 (by decide : (Int8.ofInt 17).toInt32 = nI 17) ?_
  refine zj_newQ (N' := 17) hO hX q1115 (by decide) (by decide) (by decide) (Nat.le_of_ble_eq_true rfl) (Nat.le_of_ble_eq_true rfl) dJ30_init_7 (fun q => ?_)
  rw [List.append_assoc]
  refine zg_put hO pJ30_3 W0.length ap0 rfl rfl (Nat.le_of_ble_eq_true rfl) as0 dJ30_init_10 ?_
  have e0 : (fun _ => none : Nat → Option Nat) = dqf [] := by
    funext j
    unfold dqf
    split
    · rfl
    · rfl
  rw [e0]
  exact zx_vret (f := fun q : Nat => W0 ++ DQ dA d q []) hO hr q rfl ⟨Nat.le_refl _, Nat.le_refl _⟩ dJ30_init_13
theorem m_addFirst (l : Launch) (D : va_G) (dA : Nat → ClassId) (G : Nat → Nat) {W0 : va_W} {d es x : Nat} {L : List Nat} (hx : InC W0 (x :: L)) (hL : L.length < 73) : CtX l yJ30_addFirst (ws_ yJ30_addFirst cJ30_addFirst 3 none) 4 (gcl L.length) (gsl L.length) D dA G [.ref d, .ref x] (W0 ++ DQ dA d es L) (QgV D dA (fun q : Nat => W0 ++ DQ dA d q (x :: L))) := by
  obtain ⟨qx, vx, hqx⟩ := hx x List.mem_cons_self
  refine zx_start (cc := cJ30_addFirst) (nL := 3) (ret := none) (own := RJ30) (by decide) rfl rfl (Nat.le_of_ble_eq_true rfl) (fun p e s m args below meth c A hO hX hr hm _ => ?_)
  refine zg_sub (lv' := [(0, .ref d), (1, .ref x)]) [0, 1] rfl ?_
  refine zg_aload_n hO 1 dJ30_addFirst_0 rfl rfl ?_
  refine zj_nonnull (tgt := 12) hO dJ30_addFirst_1 (by decide) ?_
  refine zg_aload_n hO 0 dJ30_addFirst_12 rfl rfl ?_
  refine zg_get hO fJ30_3 W0.length ap0 rfl dJ30_addFirst_13 ?_
  refine zg_astore_n (lv' := [(2, .ref es), (0, .ref d), (1, .ref x)]) hO dJ30_addFirst_16 rfl (Nat.le_of_ble_eq_true rfl) rfl ?_
  refine zg_aload_n hO 0 dJ30_addFirst_17 rfl rfl ?_
  refine zg_aload_n hO 1 dJ30_addFirst_18 rfl rfl ?_
  refine zg_aload_n hO 1 dJ30_addFirst_19 rfl rfl ?_
  refine zg_get hO fJ30_24 W0.length ap0 rfl dJ30_addFirst_20 ?_
  refine zg_aload_n hO 0 dJ30_addFirst_23 rfl rfl ?_
  refine zj_len (w := nI (dcap L.length)) hO (W0.length + 1) 7 ap1 rfl rfl dJ30_addFirst_24 ?_
  refine zc_callS0i (As := [.int (dhd L.length), .int (nI (dcap L.length))]) (rest := [.ref d, .ref es]) hO (m_dec l D dA (dq_dec L.length hL)) mw_J30_dec q1136 ⟨Nat.le_of_ble_eq_true rfl, Nat.le_of_ble_eq_true rfl⟩ ⟨Nat.zero_le _, Nat.zero_le _⟩ rfl rfl (Nat.le_of_ble_eq_true rfl) dJ30_addFirst_25 ?_
  refine zg_dup_x1 hO dJ30_addFirst_28 rfl rfl ?_
  refine zg_put hO pJ30_24 W0.length ap0 rfl rfl (Nat.le_of_ble_eq_true rfl) as0 dJ30_addFirst_29 ?_
  refine zg_aload_n hO 2 dJ30_addFirst_32 rfl rfl ?_
  refine zj_stQ hO hX (W0.length + 1) qx 4 ap1 q2158 (apW hqx) rfl (dq_at L.length hL).1 as1 dJ30_addFirst_33 ?_
  rw [(dq_at L.length hL).2]
  refine zg_aload_n hO 1 dJ30_addFirst_34 rfl rfl ?_
  refine zg_get hO fJ30_24 W0.length ap0 rfl dJ30_addFirst_35 ?_
  refine zg_aload_n hO 1 dJ30_addFirst_38 rfl rfl ?_
  refine zg_get hO fJ30_20 W0.length ap0 rfl dJ30_addFirst_39 ?_
  by_cases hg : L.length + 1 = 17 ∨ L.length + 1 = 36
  · rcases hg with hg | hg
    · have hc : dcap L.length = 17 := by rw [show L.length = 16 by omega]; rfl
      refine zn_icmp_ne (tgt := 50) hO (by rw [hg, show dcap L.length = 17 by rw [show L.length = 16 by omega]; rfl]) dJ30_addFirst_42 (by decide) ?_
      refine zg_aload_n hO 1 dJ30_addFirst_45 rfl rfl ?_
      refine zg_iconst hO dJ30_addFirst_46 ic1 ?_
      have e0 : nI (dcap L.length - (L.length + 1)) = nI 0 := by rw [hc, hg]
      have e1 := dq_upG (x := x) (n := 17) (ns := 19) hg hc rfl rfl (by decide)
      have hel : elO W0 (va_up (dqf L) (dcap L.length - (L.length + 1)) (some x)) := hx.el (fun j y hy => by
        unfold va_up at hy
        split at hy
        · cases hy
          exact List.mem_cons_self
        · exact List.mem_cons_of_mem _ (dqf_mem j y hy))
      have hf0 : va_up (dqf L) (dcap L.length - (L.length + 1)) (some x) 0 = some x := by
        rw [hc, hg]
        rfl
      rw [e0, hc]
      rw [hc] at hel hf0 e1
      refine zx_callVv (n' := 3) (mc := 1) (ms := 36) (As := [.int (nI 1)]) (rest := []) hO hX (m_grow17 l D dA G (x0 := x) (es := es) hel hf0) mw_J30_grow q1139 ⟨Nat.le_of_ble_eq_true rfl, Nat.le_of_ble_eq_true rfl⟩ ⟨?_, ?_⟩ rfl rfl (Nat.le_of_ble_eq_true rfl) ⟨W0.length, 10, _, _, ap0, rfl, rfl⟩ dJ30_addFirst_47 (fun q => ?_)
      · show 0 + 1 ≤ gcl L.length
        unfold gcl
        rw [if_pos (by omega)]
        omega
      · show 0 + 36 ≤ gsl L.length
        unfold gsl
        rw [if_pos hg]
        omega
      · rw [e1]
        refine zx_vret (f := fun q : Nat => W0 ++ DQ dA d q (x :: L)) hO hr q ?_ ⟨?_, ?_⟩ dJ30_addFirst_50
        · show _ = W0 ++ [(d, _), (q, _)]
          rw [show dhd (x :: L).length = nI 19 by rw [List.length_cons, hg]; rfl, show dcap (x :: L).length = 36 by rw [List.length_cons, hg]; rfl]
        · show 0 + 1 ≤ gcl L.length
          unfold gcl
          rw [if_pos (by omega)]
          omega
        · show 0 + 36 ≤ gsl L.length
          unfold gsl
          rw [if_pos hg]
          omega
    · have hc : dcap L.length = 36 := by rw [show L.length = 35 by omega]; rfl
      refine zn_icmp_ne (tgt := 50) hO (by rw [hg, show dcap L.length = 36 by rw [show L.length = 35 by omega]; rfl]) dJ30_addFirst_42 (by decide) ?_
      refine zg_aload_n hO 1 dJ30_addFirst_45 rfl rfl ?_
      refine zg_iconst hO dJ30_addFirst_46 ic1 ?_
      have e0 : nI (dcap L.length - (L.length + 1)) = nI 0 := by rw [hc, hg]
      have e1 := dq_upG (x := x) (n := 36) (ns := 38) hg hc rfl rfl (by decide)
      have hel : elO W0 (va_up (dqf L) (dcap L.length - (L.length + 1)) (some x)) := hx.el (fun j y hy => by
        unfold va_up at hy
        split at hy
        · cases hy
          exact List.mem_cons_self
        · exact List.mem_cons_of_mem _ (dqf_mem j y hy))
      have hf0 : va_up (dqf L) (dcap L.length - (L.length + 1)) (some x) 0 = some x := by
        rw [hc, hg]
        rfl
      rw [e0, hc]
      rw [hc] at hel hf0 e1
      refine zx_callVv (n' := 3) (mc := 1) (ms := 74) (As := [.int (nI 1)]) (rest := []) hO hX (m_grow36 l D dA G (x0 := x) (es := es) hel hf0) mw_J30_grow q1139 ⟨Nat.le_of_ble_eq_true rfl, Nat.le_of_ble_eq_true rfl⟩ ⟨?_, ?_⟩ rfl rfl (Nat.le_of_ble_eq_true rfl) ⟨W0.length, 10, _, _, ap0, rfl, rfl⟩ dJ30_addFirst_47 (fun q => ?_)
      · show 0 + 1 ≤ gcl L.length
        unfold gcl
        rw [if_pos (by omega)]
        omega
      · show 0 + 74 ≤ gsl L.length
        unfold gsl
        rw [if_neg (by omega), if_pos hg]
        omega
      · rw [e1]
        refine zx_vret (f := fun q : Nat => W0 ++ DQ dA d q (x :: L)) hO hr q ?_ ⟨?_, ?_⟩ dJ30_addFirst_50
        · show _ = W0 ++ [(d, _), (q, _)]
          rw [show dhd (x :: L).length = nI 38 by rw [List.length_cons, hg]; rfl, show dcap (x :: L).length = 74 by rw [List.length_cons, hg]; rfl]
        · show 0 + 1 ≤ gcl L.length
          unfold gcl
          rw [if_pos (by omega)]
          omega
        · show 0 + 74 ≤ gsl L.length
          unfold gsl
          rw [if_neg (by omega), if_pos hg]
          omega
  · obtain ⟨h1, h2, h3⟩ := dq_hd L.length hL hg
    refine zt_icmp_ne (tgt := 50) hO h3 dJ30_addFirst_42 (by decide) ?_
    rw [dq_up hL hg, ← h1, ← h2]
    exact zx_vret (f := fun q : Nat => W0 ++ DQ dA d q (x :: L)) hO hr es rfl ⟨Nat.zero_le _, Nat.zero_le _⟩ dJ30_addFirst_50
theorem m_push (l : Launch) (D : va_G) (dA : Nat → ClassId) (G : Nat → Nat) {W0 : va_W} {d es x : Nat} {L : List Nat} (hx : InC W0 (x :: L)) (hL : L.length < 73) : CtX l yJ30_push (ws_ yJ30_push cJ30_push 2 none) 5 (gcl L.length) (gsl L.length) D dA G [.ref d, .ref x] (W0 ++ DQ dA d es L) (QgV D dA (fun q : Nat => W0 ++ DQ dA d q (x :: L))) := by
  refine zx_start (cc := cJ30_push) (nL := 2) (ret := none) (own := RJ30) (by decide) rfl rfl (Nat.le_of_ble_eq_true rfl) (fun p e s m args below meth c A hO hX hr hm _ => ?_)
  refine zg_sub (lv' := [(0, .ref d), (1, .ref x)]) [0, 1] rfl ?_
  refine zg_aload_n hO 0 dJ30_push_0 rfl rfl ?_
  refine zg_aload_n hO 1 dJ30_push_1 rfl rfl ?_
  refine zx_callVv (As := [.ref x]) (rest := []) hO hX (m_addFirst l D dA G hx hL) mw_J30_addFirst q1132 ⟨Nat.le_of_ble_eq_true rfl, Nat.le_of_ble_eq_true rfl⟩ ⟨by rw [Nat.zero_add]; exact Nat.le_refl _, by rw [Nat.zero_add]; exact Nat.le_refl _⟩ rfl rfl (Nat.le_of_ble_eq_true rfl) ⟨W0.length, 10, _, _, ap0, rfl, rfl⟩ dJ30_push_2 (fun q => ?_)
  exact zx_vret (f := fun q : Nat => W0 ++ DQ dA d q (x :: L)) hO hr q rfl ⟨by rw [Nat.zero_add]; exact Nat.le_refl _, by rw [Nat.zero_add]; exact Nat.le_refl _⟩ dJ30_push_5
theorem dq_size : ∀ k : Nat, k < 73 → (if 0 ≤ nI 0 - dhd k then nI 0 - dhd k else nI 0 - dhd k + nI (dcap k)) = nI k := by decide +kernel
theorem m_dqsize (l : Launch) (D : va_G) (dA : Nat → ClassId) (G : Nat → Nat) {W0 W1 : va_W} {d es : Nat} {L : List Nat} (hL : L.length < 73) : CtX l yJ30_size (ws_ yJ30_size cJ30_size 1 (some .int)) 1 0 0 D dA G [.ref d] (W0 ++ (DQ dA d es L ++ W1)) (QgI D dA (fun _ : Unit => W0 ++ (DQ dA d es L ++ W1)) (nI L.length)) := by
  refine zx_start (cc := cJ30_size) (nL := 1) (ret := some .int) (own := RJ30) (by decide) rfl rfl (Nat.le_of_ble_eq_true rfl) (fun p e s m args below meth c A hO hX hr hm _ => ?_)
  refine zg_sub (lv' := [(0, .ref d)]) [0] rfl ?_
  refine zg_aload_n hO 0 dJ30_size_0 rfl rfl ?_
  refine zg_get hO fJ30_20 W0.length ap0 rfl dJ30_size_1 ?_
  refine zg_aload_n hO 0 dJ30_size_4 rfl rfl ?_
  refine zg_get hO fJ30_24 W0.length ap0 rfl dJ30_size_5 ?_
  refine zg_aload_n hO 0 dJ30_size_8 rfl rfl ?_
  refine zg_get hO fJ30_3 W0.length ap0 rfl dJ30_size_9 ?_
  refine zj_len (w := nI (dcap L.length)) hO (W0.length + 1) 7 ap1 rfl rfl dJ30_size_12 ?_
  refine zc_callS0i (As := [.int (nI 0), .int (dhd L.length), .int (nI (dcap L.length))]) (rest := []) hO (m_sub l D dA (dq_size L.length hL)) mw_J30_sub q1164 ⟨Nat.le_of_ble_eq_true rfl, Nat.le_of_ble_eq_true rfl⟩ ⟨Nat.zero_le _, Nat.zero_le _⟩ rfl rfl (Nat.le_of_ble_eq_true rfl) dJ30_size_13 ?_
  exact zx_iret (f := fun _ : Unit => W0 ++ (DQ dA d es L ++ W1)) hO hr () rfl rfl ⟨Nat.le_refl _, Nat.le_refl _⟩ dJ30_size_16
/-- the iterator with r elements to come -/
def dcu (k r : Nat) : Int32 := if r = 0 then nI 0 else nI (dcap k - r)
abbrev DI (d it k r : Nat) (lr : Int32) : va_W := [(it, .inr (11, [.int (dcu k r), .int (nI r), .int lr, .ref d]))]
theorem m_diinit (l : Launch) (D : va_G) (dA : Nat → ClassId) (G : Nat → Nat) {W0 : va_W} {d es it : Nat} {L : List Nat} (hL : L.length < 73) : CtX l yJ31_init (ws_ yJ31_init cJ31_init 2 none) 2 0 0 D dA G [.ref it, .ref d] (W0 ++ (DQ dA d es L ++ [(it, .inr (11, [.int (nI 0), .int (nI 0), .int (nI 0), .null]))])) (QgV D dA (fun _ : Unit => W0 ++ (DQ dA d es L ++ DI d it L.length L.length (-1)))) := by
  refine zx_start (cc := cJ31_init) (nL := 2) (ret := none) (own := RJ31) (by decide) rfl rfl (Nat.le_of_ble_eq_true rfl) (fun p e s m args below meth c A hO hX hr hm _ => ?_)
  refine zg_sub (lv' := [(0, .ref it), (1, .ref d)]) [0, 1] rfl ?_
  refine zg_aload_n hO 0 dJ31_init_0 rfl rfl ?_
  refine zg_aload_n hO 1 dJ31_init_1 rfl rfl ?_
  refine zg_putF hO hm pJ31_1 (W0.length + 2) ap2 rfl rfl (Nat.le_of_ble_eq_true rfl) as2 dJ31_init_2 ?_
  refine zg_aload_n hO 0 dJ31_init_5 rfl rfl ?_
  refine zg_obj (rest := []) hO q1159 (Nat.le_of_ble_eq_true rfl) (Nat.le_of_ble_eq_true rfl) dJ31_init_6 ?_
  refine zg_aload_n hO 0 dJ31_init_9 rfl rfl ?_
  refine zg_aload_n hO 0 dJ31_init_10 rfl rfl ?_
  refine zg_get hO fJ31_1 (W0.length + 2) ap2 rfl dJ31_init_11 ?_
  refine zx_callVi (As := []) (rest := [.ref it]) hO hX (m_dqsize l D dA G (W1 := [(it, .inr (11, [.int (nI 0), .int (nI 0), .int (nI 0), .ref d]))]) hL) mw_J30_size q1160 ⟨Nat.le_of_ble_eq_true rfl, Nat.le_of_ble_eq_true rfl⟩ ⟨Nat.le_refl _, Nat.le_refl _⟩ rfl rfl (Nat.le_of_ble_eq_true rfl) ⟨W0.length, 10, _, _, ap0, rfl, rfl⟩ dJ31_init_14 (fun _ => ?_)
  refine zg_put hO pJ31_19 (W0.length + 2) ap2 rfl rfl (Nat.le_of_ble_eq_true rfl) as2 dJ31_init_17 ?_
  refine zg_aload_n hO 0 dJ31_init_20 rfl rfl ?_
  refine zg_iconst hO dJ31_init_21 icm1 ?_
  refine zg_put hO pJ31_23 (W0.length + 2) ap2 rfl rfl (Nat.le_of_ble_eq_true rfl) as2 dJ31_init_22 ?_
  refine zg_aload_n hO 0 dJ31_init_25 rfl rfl ?_
  refine zg_aload_n hO 1 dJ31_init_26 rfl rfl ?_
  refine zg_get hO fJ31_26 W0.length ap0 rfl dJ31_init_27 ?_
  refine zg_put hO pJ31_29 (W0.length + 2) ap2 rfl rfl (Nat.le_of_ble_eq_true rfl) as2 dJ31_init_30 ?_
  exact zx_vret (f := fun _ : Unit => W0 ++ (DQ dA d es L ++ DI d it L.length L.length (-1))) hO hr () rfl ⟨Nat.le_refl _, Nat.le_refl _⟩ dJ31_init_33
theorem m_dqiter (l : Launch) (D : va_G) (dA : Nat → ClassId) (G : Nat → Nat) {W0 : va_W} {d es : Nat} {L : List Nat} (hL : L.length < 73) : CtX l yJ30_iterator (ws_ yJ30_iterator cJ30_iterator 1 (some (.object "java/util/Iterator"))) 3 1 4 D dA G [.ref d] (W0 ++ DQ dA d es L) (QgF D dA (fun q : Nat => W0 ++ (DQ dA d es L ++ DI d q L.length L.length (-1))) (fun q => q)) := by
  refine zx_start (cc := cJ30_iterator) (nL := 1) (ret := some (.object "java/util/Iterator")) (own := RJ30) (by decide) rfl rfl (Nat.le_of_ble_eq_true rfl) (fun p e s m args below meth c A hO hX hr hm _ => ?_)
  refine zg_sub (lv' := [(0, .ref d)]) [0] rfl ?_
  refine zj_new (ci := 11) (fs := [.int (nI 0), .int (nI 0), .int (nI 0), .null]) (C := RJ31) (T := TJ31) (M := 4) hO in_J31 tyJ31 tyJ31_ok q1154 q1155 q123 rfl (fun j hj => by rcases (show j = 0 ∨ j = 1 ∨ j = 2 ∨ j = 3 by omega) with rfl | rfl | rfl | rfl <;> rfl) (Nat.le_of_ble_eq_true rfl) (Nat.le_of_ble_eq_true rfl) dJ30_iterator_0 (fun q => ?_)
  rw [List.append_assoc]
  refine zg_dup hO dJ30_iterator_3 rfl ?_
  refine zg_aload_n hO 0 dJ30_iterator_4 rfl rfl ?_
  refine zx_callIv (na := 1) (As := [.ref d]) (rest := [.ref q]) hO hX (m_diinit l D dA G hL) rfl ⟨by decide +kernel, q1157, q123, q1158⟩ q1156 ⟨Nat.le_of_ble_eq_true rfl, Nat.le_of_ble_eq_true rfl⟩ ⟨Nat.le_refl _, Nat.le_refl _⟩ rfl rfl (Nat.le_of_ble_eq_true rfl) dJ30_iterator_5 (fun _ => ?_)
  exact zj_aret (f := fun q : Nat => W0 ++ (DQ dA d es L ++ DI d q L.length L.length (-1))) (a := fun q => q) hO hr (Or.inl ⟨_, rfl⟩) q rfl rfl ⟨Nat.le_refl _, Nat.le_refl _⟩ dJ30_iterator_8
theorem dq_pos : ∀ r : Nat, r < 80 → (nI r ≤ 0 ↔ r = 0) ∧ (0 < nI r ↔ r ≠ 0) := by decide +kernel
theorem m_dihas (l : Launch) (D : va_G) (dA : Nat → ClassId) (G : Nat → Nat) {W0 : va_W} {d es it r : Nat} {L : List Nat} {lr : Int32} (hr0 : r < 80) : CtX l yJ31_hasNext (ws_ yJ31_hasNext cJ31_hasNext 1 (some .boolean)) 0 0 0 D dA G [.ref it] (W0 ++ (DQ dA d es L ++ DI d it L.length r lr)) (QgI D dA (fun _ : Unit => W0 ++ (DQ dA d es L ++ DI d it L.length r lr)) (if r = 0 then nI 0 else nI 1)) := by
  refine zx_start (cc := cJ31_hasNext) (nL := 1) (ret := some .boolean) (own := RJ31) (by decide) rfl rfl (Nat.le_of_ble_eq_true rfl) (fun p e s m args below meth c A hO hX hr hm _ => ?_)
  refine zg_sub (lv' := [(0, .ref it)]) [0] rfl ?_
  refine zg_aload_n hO 0 dJ31_hasNext_0 rfl rfl ?_
  refine zg_get hO fJ31_19 (W0.length + 2) ap2 rfl dJ31_hasNext_1 ?_
  by_cases hz : r = 0
  · refine zt_if_le (tgt := 11) hO ((dq_pos r hr0).1.mpr hz) dJ31_hasNext_4 (by decide) ?_
    refine zg_iconst hO dJ31_hasNext_11 ic0 ?_
    exact zx_zret (f := fun _ : Unit => W0 ++ (DQ dA d es L ++ DI d it L.length r lr)) hO hr (Or.inl rfl) () rfl (by rw [if_pos hz]) ⟨Nat.le_refl _, Nat.le_refl _⟩ dJ31_hasNext_12
  · refine zn_if_le (tgt := 11) hO (fun h => hz ((dq_pos r hr0).1.mp h)) dJ31_hasNext_4 (by decide) ?_
    refine zg_iconst hO dJ31_hasNext_7 ic1 ?_
    refine zg_goto (tgt := 12) hO dJ31_hasNext_8 (by decide) ?_
    exact zx_zret (f := fun _ : Unit => W0 ++ (DQ dA d es L ++ DI d it L.length r lr)) hO hr (Or.inr rfl) () rfl (by rw [if_neg hz]) ⟨Nat.le_refl _, Nat.le_refl _⟩ dJ31_hasNext_12
theorem m_nnat (l : Launch) (D : va_G) (dA : Nat → ClassId) (G : Nat → Nat) {W0 : va_W} {k0 es n x : Nat} {f : Nat → Option Nat} {i : Int32} (h0 : W0[k0]? = some (es, .inl (dA 7, n, rfA f))) (hin : ¬ (i < 0 ∨ n ≤ i.toNatClampNeg)) (hx : f i.toNatClampNeg = some x) : CtX l yJ30_nonNullElementAt (ws_ yJ30_nonNullElementAt cJ30_nonNullElementAt 3 (some (.object "java/lang/Object"))) 0 0 0 D dA G [.ref es, .int i] W0 (QgF D dA (fun _ : Unit => W0) (fun _ => x)) := by
  refine zx_start (cc := cJ30_nonNullElementAt) (nL := 3) (ret := some (.object "java/lang/Object")) (own := RJ30) (by decide) rfl rfl (Nat.le_of_ble_eq_true rfl) (fun p e s m args below meth c A hO hX hr hm _ => ?_)
  refine zg_sub (lv' := [(0, .ref es), (1, .int i)]) [0, 1] rfl ?_
  refine zg_aload_n hO 0 dJ30_nonNullElementAt_0 rfl rfl ?_
  refine zg_iload_n hO 1 dJ30_nonNullElementAt_1 rfl rfl ?_
  refine zj_ldQ hO hin k0 h0 dJ30_nonNullElementAt_2 ?_
  rw [hx]
  refine zg_astore_n (lv' := [(2, .ref x), (0, .ref es), (1, .int i)]) hO dJ30_nonNullElementAt_3 rfl (Nat.le_of_ble_eq_true rfl) rfl ?_
  refine zg_aload_n hO 0 dJ30_nonNullElementAt_4 rfl rfl ?_
  refine zj_nonnull (tgt := 16) hO dJ30_nonNullElementAt_5 (by decide) ?_
  refine zg_aload_n hO 0 dJ30_nonNullElementAt_16 rfl rfl ?_
  exact zj_aret (f := fun _ : Unit => W0) (a := fun _ => x) hO hr (Or.inl ⟨_, rfl⟩) () rfl rfl ⟨Nat.le_refl _, Nat.le_refl _⟩ dJ30_nonNullElementAt_17
theorem dq_cu : ∀ k : Nat, k < 73 → ∀ r : Nat, r < k → ¬ (dcu k (r + 1) < 0 ∨ dcap k ≤ (dcu k (r + 1)).toNatClampNeg) ∧ (dcu k (r + 1)).toNatClampNeg = dcap k - (r + 1) ∧ (if dcu k (r + 1) + nI 1 < nI (dcap k) then dcu k (r + 1) + nI 1 else nI 0) = dcu k r ∧ nI (r + 1) - nI 1 = nI r := by decide +kernel
theorem dqf_at {L : List Nat} {r x : Nat} (hL : L.length < 73) (hr : r < L.length) (hx : L[L.length - (r + 1)]? = some x) : dqf L (dcap L.length - (r + 1)) = some x := by
  have h := dcap_le L.length hL
  unfold dqf
  rw [if_neg (by omega), show dcap L.length - (r + 1) - (dcap L.length - L.length) = L.length - (r + 1) by omega]
  exact hx
theorem m_dinext (l : Launch) (D : va_G) (dA : Nat → ClassId) (G : Nat → Nat) {W0 : va_W} {d es it r x : Nat} {L : List Nat} {lr : Int32} (hL : L.length < 73) (hr0 : r < L.length) (hx : L[L.length - (r + 1)]? = some x) : CtX l yJ31_next (ws_ yJ31_next cJ31_next 3 (some (.object "java/lang/Object"))) 1 0 0 D dA G [.ref it] (W0 ++ (DQ dA d es L ++ DI d it L.length (r + 1) lr)) (QgF D dA (fun q : Int32 => W0 ++ (DQ dA d es L ++ DI d it L.length r q)) (fun _ => x)) := by
  obtain ⟨hi1, hi2, hi3, hi4⟩ := dq_cu L.length hL r hr0
  refine zx_start (cc := cJ31_next) (nL := 3) (ret := some (.object "java/lang/Object")) (own := RJ31) (by decide) rfl rfl (Nat.le_of_ble_eq_true rfl) (fun p e s m args below meth c A hO hX hr hm _ => ?_)
  refine zg_sub (lv' := [(0, .ref it)]) [0] rfl ?_
  refine zg_aload_n hO 0 dJ31_next_0 rfl rfl ?_
  refine zg_get hO fJ31_19 (W0.length + 2) ap2 rfl dJ31_next_1 ?_
  refine zt_if_gt (tgt := 15) hO ((dq_pos (r + 1) (by omega)).2.mpr (by omega)) dJ31_next_4 (by decide) ?_
  refine zg_aload_n hO 0 dJ31_next_15 rfl rfl ?_
  refine zg_get hO fJ31_1 (W0.length + 2) ap2 rfl dJ31_next_16 ?_
  refine zg_get hO fJ31_35 W0.length ap0 rfl dJ31_next_19 ?_
  refine zg_astore_n (lv' := [(1, .ref es), (0, .ref it)]) hO dJ31_next_22 rfl (Nat.le_of_ble_eq_true rfl) rfl ?_
  refine zg_aload_n hO 0 dJ31_next_23 rfl rfl ?_
  refine zg_aload_n hO 1 dJ31_next_24 rfl rfl ?_
  refine zg_get hO fJ31_29 (W0.length + 2) ap2 rfl dJ31_next_25 ?_
  refine zx_callSr (As := [.ref es, .int (dcu L.length (r + 1))]) (rest := []) hO hX (m_nnat l D dA G (k0 := W0.length + 1) ap1 hi1 (by rw [hi2]; exact dqf_at hL hr0 hx)) mw_J30_nonNullElementAt q1060 ⟨Nat.le_of_ble_eq_true rfl, Nat.le_of_ble_eq_true rfl⟩ ⟨Nat.le_refl _, Nat.le_refl _⟩ rfl rfl (Nat.le_of_ble_eq_true rfl) dJ31_next_28 (fun _ => ?_)
  refine zg_astore_n (lv' := [(2, .ref x), (1, .ref es), (0, .ref it)]) hO dJ31_next_31 rfl (Nat.le_of_ble_eq_true rfl) rfl ?_
  refine zg_aload_n hO 2 dJ31_next_32 rfl rfl ?_
  refine zg_aload_n hO 2 dJ31_next_33 rfl rfl ?_
  refine zg_aload_n hO 2 dJ31_next_34 rfl rfl ?_
  refine zg_get hO fJ31_29 (W0.length + 2) ap2 rfl dJ31_next_35 ?_
  refine zg_dup_x1 hO dJ31_next_38 rfl rfl ?_
  refine zg_put hO pJ31_23 (W0.length + 2) ap2 rfl rfl (Nat.le_of_ble_eq_true rfl) as2 dJ31_next_39 ?_
  refine zg_aload_n hO 1 dJ31_next_42 rfl rfl ?_
  refine zj_len (w := nI (dcap L.length)) hO (W0.length + 1) 7 ap1 rfl rfl dJ31_next_43 ?_
  refine zc_callS0i (As := [.int (dcu L.length (r + 1)), .int (nI (dcap L.length))]) (rest := [.ref it]) hO (m_inc l D dA hi3) mw_J30_inc q1063 ⟨Nat.le_of_ble_eq_true rfl, Nat.le_of_ble_eq_true rfl⟩ ⟨Nat.zero_le _, Nat.zero_le _⟩ rfl rfl (Nat.le_of_ble_eq_true rfl) dJ31_next_44 ?_
  refine zg_put hO pJ31_29 (W0.length + 2) ap2 rfl rfl (Nat.le_of_ble_eq_true rfl) as2 dJ31_next_47 ?_
  refine zg_aload_n hO 2 dJ31_next_50 rfl rfl ?_
  refine zg_dup hO dJ31_next_51 rfl ?_
  refine zg_get hO fJ31_19 (W0.length + 2) ap2 rfl dJ31_next_52 ?_
  refine zg_iconst hO dJ31_next_55 ic1 ?_
  refine zg_isub hO dJ31_next_56 ?_
  refine zg_put hO pJ31_19 (W0.length + 2) ap2 rfl rfl (Nat.le_of_ble_eq_true rfl) as2 dJ31_next_57 ?_
  refine zg_aload_n hO 0 dJ31_next_60 rfl rfl ?_
  exact zj_aret (f := fun q : Int32 => W0 ++ (DQ dA d es L ++ DI d it L.length r q)) (a := fun _ => x) hO hr (Or.inl ⟨_, rfl⟩) (dcu L.length (r + 1)) (by rw [hi4]; rfl) rfl ⟨Nat.le_refl _, Nat.le_refl _⟩ dJ31_next_61
