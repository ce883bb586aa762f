set_option maxRecDepth 100000
/-! make and join: which lambda is called -/
def X_make (i : Nat) (v : Int32) (σ : XS) : Option XS :=
  if xI σ 0 < 0 ∨ 8 ≤ (xI σ 0).toNatClampNeg then none else
  match (xI σ 0).toNatClampNeg with
  | 0 => X_lambda_new_0 i v σ
  | 1 => X_lambda_new_1 i v σ
  | 2 => X_lambda_new_2 i v σ
  | 3 => X_lambda_new_3 i v σ
  | 4 => X_bracket i v σ
  | 5 => X_lambda_new_4 i v σ
  | 6 => X_lambda_new_5 i v σ
  | 7 => X_ofTable i v σ
  | _ => none
def X_join (i a b : Nat) (σ : XS) : Option XS :=
  if xI σ 0 < 0 ∨ 8 ≤ (xI σ 0).toNatClampNeg then none else
  match (xI σ 0).toNatClampNeg with
  | 0 => X_lambda_new_6 i a b σ
  | 1 => X_lambda_new_7 i a b σ
  | 2 => X_lambda_new_8 i a b σ
  | 3 => X_maps i a b σ
  | 4 => X_brackets i a b σ
  | 5 => X_arranged i a b σ
  | 6 => X_ends i a b σ
  | 7 => X_byTable i a b σ
  | _ => none
theorem mw_X1_make : MwX yX1_make cX1_make 3 none RX1 2 := ⟨by decide +kernel, q1222, qs20, q85, q1223⟩
theorem mw_X1_join : MwX yX1_join cX1_join 4 none RX1 3 := ⟨by decide +kernel, q1230, qs21, q85, q1231⟩
section ZXM
variable {p : Program} {l : Launch} {e : Env} {s : State} {m : MethodId} {args : Array Value} {below : List Frame} {meth : Method} {c : Code} {cc : ByteArray} {own : String} {nL : Nat} {D : va_G} {dA : Nat → ClassId} {A : Nat → Prop} {Q : State → Prop} {R : Room} {u v pc : Nat} {lv : List (Nat × Value)} {st : List Value}
theorem zg_aldO (hO : Ok p s m args meth c cc own nL D dA A) {ws : va_W} {a n t0 : Nat} {cA : ClassId} {C : String} {f : Nat → Option Nat} {i : Int32} {α : Type} {g : Option α} {z : α} (h : (if i < 0 ∨ n ≤ i.toNatClampNeg then none else g) = some z) (q0 : Nat) (ha : ws[q0]? = some (a, .inl (cA, n, .inr (.inr (.inr (.inr f)))))) (ht : (zg_tys dA)[t0]? = some (cA, .object C)) (hdg : decode cc pc = .ok (.aaload, 1)) (kk : i.toNatClampNeg < n → g = some z → Go p l e R s m args below meth c D A nL Q ws u v (pc + 1) lv (va_rf (f i.toNatClampNeg) :: st)) : Go p l e R s m args below meth c D A nL Q ws u v pc lv (.int i :: .ref a :: st) := by
  have hin := (zg_none h).1
  have hlt : i.toNatClampNeg < n := Nat.not_le.mp fun q => hin (Or.inr q)
  intro H locs ls hP hD hS hl
  exact W.aald (v := va_rf (f i.toNatClampNeg)) (ty := .object C) hO.1 hO.2.1 (hP q0 _ ha) ((hO.2.2.2.2.2.1.2 t0 _ ht).1 n (fun j => va_rf (f j))) rfl (fun q => by cases q) (by show ¬ (i < 0 ∨ (arrV _ _ _).slots.size ≤ _); rw [arrV_size]; exact hin) (by show (arrV _ _ _).slots[_]? = _; rw [arrV_read _ _ hlt]) rfl rfl hdg (kk hlt (zg_none h).2 H locs ls hP hD hS hl)
end ZXM
theorem lj_d1 : (parseMethodDescriptor ymk.desc).map (fun d => d.parameters.length) = some 2 := by decide +kernel
theorem lj_d2 : (parseMethodDescriptor yjn.desc).map (fun d => d.parameters.length) = some 3 := by decide +kernel
theorem lj_s0 : ymk = ⟨(lk_sh 0).iface, (lk_sh 0).name, (lk_sh 0).sam.toString⟩ := by decide +kernel
theorem lj_y0 : yX1_lambda_new_0 = ⟨"EndSums", (lk_sh 0).implName, (lk_sh 0).implDesc.toString⟩ := by decide +kernel
theorem lj_s1 : ymk = ⟨(lk_sh 1).iface, (lk_sh 1).name, (lk_sh 1).sam.toString⟩ := by decide +kernel
theorem lj_y1 : yX1_lambda_new_1 = ⟨"EndSums", (lk_sh 1).implName, (lk_sh 1).implDesc.toString⟩ := by decide +kernel
theorem lj_s2 : ymk = ⟨(lk_sh 2).iface, (lk_sh 2).name, (lk_sh 2).sam.toString⟩ := by decide +kernel
theorem lj_y2 : yX1_lambda_new_2 = ⟨"EndSums", (lk_sh 2).implName, (lk_sh 2).implDesc.toString⟩ := by decide +kernel
theorem lj_s3 : ymk = ⟨(lk_sh 3).iface, (lk_sh 3).name, (lk_sh 3).sam.toString⟩ := by decide +kernel
theorem lj_y3 : yX1_lambda_new_3 = ⟨"EndSums", (lk_sh 3).implName, (lk_sh 3).implDesc.toString⟩ := by decide +kernel
theorem lj_s4 : ymk = ⟨(lk_sh 4).iface, (lk_sh 4).name, (lk_sh 4).sam.toString⟩ := by decide +kernel
theorem lj_y4 : yX1_bracket = ⟨"EndSums", (lk_sh 4).implName, (lk_sh 4).implDesc.toString⟩ := by decide +kernel
theorem lj_s5 : ymk = ⟨(lk_sh 5).iface, (lk_sh 5).name, (lk_sh 5).sam.toString⟩ := by decide +kernel
theorem lj_y5 : yX1_lambda_new_4 = ⟨"EndSums", (lk_sh 5).implName, (lk_sh 5).implDesc.toString⟩ := by decide +kernel
theorem lj_s6 : ymk = ⟨(lk_sh 6).iface, (lk_sh 6).name, (lk_sh 6).sam.toString⟩ := by decide +kernel
theorem lj_y6 : yX1_lambda_new_5 = ⟨"EndSums", (lk_sh 6).implName, (lk_sh 6).implDesc.toString⟩ := by decide +kernel
theorem lj_s7 : ymk = ⟨(lk_sh 7).iface, (lk_sh 7).name, (lk_sh 7).sam.toString⟩ := by decide +kernel
theorem lj_y7 : yX1_ofTable = ⟨"EndSums", (lk_sh 7).implName, (lk_sh 7).implDesc.toString⟩ := by decide +kernel
theorem m_X_make (l : Launch) (D : va_G) (dA : Nat → ClassId) (G : Nat → Nat) {i1 : Nat} {x2 : Int32} {σ : XS} (tb : Nat) (ad : Nat → Nat) {ρ : XS} (h : X_make i1 x2 σ = some ρ) : CtX l yX1_make (ws_ yX1_make cX1_make 3 none) 43 0 0 D dA G [.ref (G 0), .ref (ad i1), .int x2] (WX dA G tb ad σ) (QgV D dA (fun _ : Unit => WX dA G tb ad ρ)) := by
  refine zx_start (cc := cX1_make) (nL := 3) (ret := none) (own := RX1) (by decide) rfl rfl (Nat.le_of_ble_eq_true rfl) (fun p e s m args below meth c A hO hX hr _ _ => ?_)
  unfold X_make at h
  refine zg_sub (lv' := [(0, .ref (G 0)), (1, .ref (ad i1)), (2, .int x2)]) [0, 1, 2] rfl ?_
  refine zg_aload_n hO 0 dX1_make_0 rfl rfl ?_
  refine xG_1_88 hO hX dX1_make_1 ?_
  refine zg_aload_n hO 0 dX1_make_4 rfl rfl ?_
  refine xG_1_92 hO hX dX1_make_5 ?_
  refine zg_aldO (t0 := 4) hO h 1 rfl rfl dX1_make_8 (fun hlt h => ?_)
  refine zg_aload_n hO 1 dX1_make_9 rfl rfl ?_
  refine zg_iload_n hO 2 dX1_make_10 rfl rfl ?_
  generalize (xI σ 0).toNatClampNeg = k at h hlt ⊢
  match k, hlt, h with
  | 0, _, h => exact zl_go6 (j := 0) (As := [.ref (ad i1), .int x2]) (rest := []) (by decide) (by decide) hO hX (m_X_lambda_new_0 l D dA G tb ad h) mw_X1_lambda_new_0 q1225 q1227 List.mem_cons_self lj_s0 lj_y0 (lk6_mk 0 (by decide)) lj_d1 ⟨Nat.le_of_ble_eq_true rfl, Nat.le_of_ble_eq_true rfl, Nat.le_of_ble_eq_true rfl⟩ ⟨Nat.le_refl _, Nat.le_refl _⟩ rfl (Nat.le_of_ble_eq_true rfl) dX1_make_11 (fun hx b mk ck U bl => fl6m hx b mk ck U bl) fd6m (fun _ => zy_vretF hO hr rfl ⟨Nat.le_refl _, Nat.le_refl _⟩ dX1_make_16)
  | 1, _, h => exact zl_go6 (j := 1) (As := [.ref (ad i1), .int x2]) (rest := []) (by decide) (by decide) hO hX (m_X_lambda_new_1 l D dA G tb ad h) mw_X1_lambda_new_1 q1225 q1227 List.mem_cons_self lj_s1 lj_y1 (lk6_mk 1 (by decide)) lj_d1 ⟨Nat.le_of_ble_eq_true rfl, Nat.le_of_ble_eq_true rfl, Nat.le_of_ble_eq_true rfl⟩ ⟨Nat.le_refl _, Nat.le_refl _⟩ rfl (Nat.le_of_ble_eq_true rfl) dX1_make_11 (fun hx b mk ck U bl => fl6m hx b mk ck U bl) fd6m (fun _ => zy_vretF hO hr rfl ⟨Nat.le_refl _, Nat.le_refl _⟩ dX1_make_16)
  | 2, _, h => exact zl_go6 (j := 2) (As := [.ref (ad i1), .int x2]) (rest := []) (by decide) (by decide) hO hX (m_X_lambda_new_2 l D dA G tb ad h) mw_X1_lambda_new_2 q1225 q1227 List.mem_cons_self lj_s2 lj_y2 (lk6_mk 2 (by decide)) lj_d1 ⟨Nat.le_of_ble_eq_true rfl, Nat.le_of_ble_eq_true rfl, Nat.le_of_ble_eq_true rfl⟩ ⟨Nat.le_refl _, Nat.le_refl _⟩ rfl (Nat.le_of_ble_eq_true rfl) dX1_make_11 (fun hx b mk ck U bl => fl6m hx b mk ck U bl) fd6m (fun _ => zy_vretF hO hr rfl ⟨Nat.le_refl _, Nat.le_refl _⟩ dX1_make_16)
  | 3, _, h => exact zl_go6 (j := 3) (As := [.ref (ad i1), .int x2]) (rest := []) (by decide) (by decide) hO hX (m_X_lambda_new_3 l D dA G tb ad h) mw_X1_lambda_new_3 q1225 q1227 List.mem_cons_self lj_s3 lj_y3 (lk6_mk 3 (by decide)) lj_d1 ⟨Nat.le_of_ble_eq_true rfl, Nat.le_of_ble_eq_true rfl, Nat.le_of_ble_eq_true rfl⟩ ⟨Nat.le_refl _, Nat.le_refl _⟩ rfl (Nat.le_of_ble_eq_true rfl) dX1_make_11 (fun hx b mk ck U bl => fl6m hx b mk ck U bl) fd6m (fun _ => zy_vretF hO hr rfl ⟨Nat.le_refl _, Nat.le_refl _⟩ dX1_make_16)
  | 4, _, h => exact zl_go5 (j := 4) (q0 := 3) (As := [.ref (ad i1), .int x2]) (rest := []) (by decide) rfl hO hX (m_X_bracket l D dA G tb ad h) mw_X1_bracket q1225 q1227 List.mem_cons_self lj_s4 lj_y4 (lk5_mk 4 (by decide)) lj_d1 ⟨Nat.le_of_ble_eq_true rfl, Nat.le_of_ble_eq_true rfl, Nat.le_of_ble_eq_true rfl⟩ ⟨Nat.le_refl _, Nat.le_refl _⟩ rfl (Nat.le_of_ble_eq_true rfl) dX1_make_11 ⟨0, 1, _, _, rfl, rfl, rfl⟩ fe5m (fun hx b mk ck U bl => fl5m hx b mk ck U bl) fd5m (fun _ => zy_vretF hO hr rfl ⟨Nat.le_refl _, Nat.le_refl _⟩ dX1_make_16)
  | 5, _, h => exact zl_go5 (j := 5) (q0 := 4) (As := [.ref (ad i1), .int x2]) (rest := []) (by decide) rfl hO hX (m_X_lambda_new_4 l D dA G tb ad h) mw_X1_lambda_new_4 q1225 q1227 List.mem_cons_self lj_s5 lj_y5 (lk5_mk 5 (by decide)) lj_d1 ⟨Nat.le_of_ble_eq_true rfl, Nat.le_of_ble_eq_true rfl, Nat.le_of_ble_eq_true rfl⟩ ⟨Nat.le_refl _, Nat.le_refl _⟩ rfl (Nat.le_of_ble_eq_true rfl) dX1_make_11 ⟨0, 1, _, _, rfl, rfl, rfl⟩ fe5m (fun hx b mk ck U bl => fl5m hx b mk ck U bl) fd5m (fun _ => zy_vretF hO hr rfl ⟨Nat.le_refl _, Nat.le_refl _⟩ dX1_make_16)
  | 6, _, h => exact zl_go6 (j := 6) (As := [.ref (ad i1), .int x2]) (rest := []) (by decide) (by decide) hO hX (m_X_lambda_new_5 l D dA G tb ad h) mw_X1_lambda_new_5 q1225 q1227 List.mem_cons_self lj_s6 lj_y6 (lk6_mk 6 (by decide)) lj_d1 ⟨Nat.le_of_ble_eq_true rfl, Nat.le_of_ble_eq_true rfl, Nat.le_of_ble_eq_true rfl⟩ ⟨Nat.le_refl _, Nat.le_refl _⟩ rfl (Nat.le_of_ble_eq_true rfl) dX1_make_11 (fun hx b mk ck U bl => fl6m hx b mk ck U bl) fd6m (fun _ => zy_vretF hO hr rfl ⟨Nat.le_refl _, Nat.le_refl _⟩ dX1_make_16)
  | 7, _, h => exact zl_go5 (j := 7) (q0 := 5) (As := [.ref (ad i1), .int x2]) (rest := []) (by decide) rfl hO hX (m_X_ofTable l D dA G tb ad h) mw_X1_ofTable q1225 q1227 List.mem_cons_self lj_s7 lj_y7 (lk5_mk 7 (by decide)) lj_d1 ⟨Nat.le_of_ble_eq_true rfl, Nat.le_of_ble_eq_true rfl, Nat.le_of_ble_eq_true rfl⟩ ⟨Nat.le_refl _, Nat.le_refl _⟩ rfl (Nat.le_of_ble_eq_true rfl) dX1_make_11 ⟨0, 1, _, _, rfl, rfl, rfl⟩ fe5m (fun hx b mk ck U bl => fl5m hx b mk ck U bl) fd5m (fun _ => zy_vretF hO hr rfl ⟨Nat.le_refl _, Nat.le_refl _⟩ dX1_make_16)
  | (n + 8), hlt, _ => exact absurd hlt (by omega)
theorem lj_s8 : yjn = ⟨(lk_sh 8).iface, (lk_sh 8).name, (lk_sh 8).sam.toString⟩ := by decide +kernel
theorem lj_y8 : yX1_lambda_new_6 = ⟨"EndSums", (lk_sh 8).implName, (lk_sh 8).implDesc.toString⟩ := by decide +kernel
theorem lj_s9 : yjn = ⟨(lk_sh 9).iface, (lk_sh 9).name, (lk_sh 9).sam.toString⟩ := by decide +kernel
theorem lj_y9 : yX1_lambda_new_7 = ⟨"EndSums", (lk_sh 9).implName, (lk_sh 9).implDesc.toString⟩ := by decide +kernel
theorem lj_s10 : yjn = ⟨(lk_sh 10).iface, (lk_sh 10).name, (lk_sh 10).sam.toString⟩ := by decide +kernel
theorem lj_y10 : yX1_lambda_new_8 = ⟨"EndSums", (lk_sh 10).implName, (lk_sh 10).implDesc.toString⟩ := by decide +kernel
theorem lj_s11 : yjn = ⟨(lk_sh 11).iface, (lk_sh 11).name, (lk_sh 11).sam.toString⟩ := by decide +kernel
theorem lj_y11 : yX1_maps = ⟨"EndSums", (lk_sh 11).implName, (lk_sh 11).implDesc.toString⟩ := by decide +kernel
theorem lj_s12 : yjn = ⟨(lk_sh 12).iface, (lk_sh 12).name, (lk_sh 12).sam.toString⟩ := by decide +kernel
theorem lj_y12 : yX1_brackets = ⟨"EndSums", (lk_sh 12).implName, (lk_sh 12).implDesc.toString⟩ := by decide +kernel
theorem lj_s13 : yjn = ⟨(lk_sh 13).iface, (lk_sh 13).name, (lk_sh 13).sam.toString⟩ := by decide +kernel
theorem lj_y13 : yX1_arranged = ⟨"EndSums", (lk_sh 13).implName, (lk_sh 13).implDesc.toString⟩ := by decide +kernel
theorem lj_s14 : yjn = ⟨(lk_sh 14).iface, (lk_sh 14).name, (lk_sh 14).sam.toString⟩ := by decide +kernel
theorem lj_y14 : yX1_ends = ⟨"EndSums", (lk_sh 14).implName, (lk_sh 14).implDesc.toString⟩ := by decide +kernel
theorem lj_s15 : yjn = ⟨(lk_sh 15).iface, (lk_sh 15).name, (lk_sh 15).sam.toString⟩ := by decide +kernel
theorem lj_y15 : yX1_byTable = ⟨"EndSums", (lk_sh 15).implName, (lk_sh 15).implDesc.toString⟩ := by decide +kernel
theorem m_X_join (l : Launch) (D : va_G) (dA : Nat → ClassId) (G : Nat → Nat) {i1 i2 i3 : Nat} {σ : XS} (tb : Nat) (ad : Nat → Nat) {ρ : XS} (h : X_join i1 i2 i3 σ = some ρ) : CtX l yX1_join (ws_ yX1_join cX1_join 4 none) 43 0 0 D dA G [.ref (G 0), .ref (ad i1), .ref (ad i2), .ref (ad i3)] (WX dA G tb ad σ) (QgV D dA (fun _ : Unit => WX dA G tb ad ρ)) := by
  refine zx_start (cc := cX1_join) (nL := 4) (ret := none) (own := RX1) (by decide) rfl rfl (Nat.le_of_ble_eq_true rfl) (fun p e s m args below meth c A hO hX hr _ _ => ?_)
  unfold X_join at h
  refine zg_sub (lv' := [(0, .ref (G 0)), (1, .ref (ad i1)), (2, .ref (ad i2)), (3, .ref (ad i3))]) [0, 1, 2, 3] rfl ?_
  refine zg_aload_n hO 0 dX1_join_0 rfl rfl ?_
  refine xG_1_100 hO hX dX1_join_1 ?_
  refine zg_aload_n hO 0 dX1_join_4 rfl rfl ?_
  refine xG_1_92 hO hX dX1_join_5 ?_
  refine zg_aldO (t0 := 5) hO h 2 rfl rfl dX1_join_8 (fun hlt h => ?_)
  refine zg_aload_n hO 1 dX1_join_9 rfl rfl ?_
  refine zg_aload_n hO 2 dX1_join_10 rfl rfl ?_
  refine zg_aload_n hO 3 dX1_join_11 rfl rfl ?_
  generalize (xI σ 0).toNatClampNeg = k at h hlt ⊢
  match k, hlt, h with
  | 0, _, h => exact zl_go6 (j := 8) (As := [.ref (ad i1), .ref (ad i2), .ref (ad i3)]) (rest := []) (by decide) (by decide) hO hX (m_X_lambda_new_6 l D dA G tb ad h) mw_X1_lambda_new_6 q1233 q1235 (List.mem_cons_of_mem _ List.mem_cons_self) lj_s8 lj_y8 (lk6_jn 8 (by decide)) lj_d2 ⟨Nat.le_of_ble_eq_true rfl, Nat.le_of_ble_eq_true rfl, Nat.le_of_ble_eq_true rfl⟩ ⟨Nat.le_refl _, Nat.le_refl _⟩ rfl (Nat.le_of_ble_eq_true rfl) dX1_join_12 (fun hx b mk ck U bl => fl6j hx b mk ck U bl) fd6j (fun _ => zy_vretF hO hr rfl ⟨Nat.le_refl _, Nat.le_refl _⟩ dX1_join_17)
  | 1, _, h => exact zl_go6 (j := 9) (As := [.ref (ad i1), .ref (ad i2), .ref (ad i3)]) (rest := []) (by decide) (by decide) hO hX (m_X_lambda_new_7 l D dA G tb ad h) mw_X1_lambda_new_7 q1233 q1235 (List.mem_cons_of_mem _ List.mem_cons_self) lj_s9 lj_y9 (lk6_jn 9 (by decide)) lj_d2 ⟨Nat.le_of_ble_eq_true rfl, Nat.le_of_ble_eq_true rfl, Nat.le_of_ble_eq_true rfl⟩ ⟨Nat.le_refl _, Nat.le_refl _⟩ rfl (Nat.le_of_ble_eq_true rfl) dX1_join_12 (fun hx b mk ck U bl => fl6j hx b mk ck U bl) fd6j (fun _ => zy_vretF hO hr rfl ⟨Nat.le_refl _, Nat.le_refl _⟩ dX1_join_17)
  | 2, _, h => exact zl_go6 (j := 10) (As := [.ref (ad i1), .ref (ad i2), .ref (ad i3)]) (rest := []) (by decide) (by decide) hO hX (m_X_lambda_new_8 l D dA G tb ad h) mw_X1_lambda_new_8 q1233 q1235 (List.mem_cons_of_mem _ List.mem_cons_self) lj_s10 lj_y10 (lk6_jn 10 (by decide)) lj_d2 ⟨Nat.le_of_ble_eq_true rfl, Nat.le_of_ble_eq_true rfl, Nat.le_of_ble_eq_true rfl⟩ ⟨Nat.le_refl _, Nat.le_refl _⟩ rfl (Nat.le_of_ble_eq_true rfl) dX1_join_12 (fun hx b mk ck U bl => fl6j hx b mk ck U bl) fd6j (fun _ => zy_vretF hO hr rfl ⟨Nat.le_refl _, Nat.le_refl _⟩ dX1_join_17)
  | 3, _, h => exact zl_go5 (j := 11) (q0 := 6) (As := [.ref (ad i1), .ref (ad i2), .ref (ad i3)]) (rest := []) (by decide) rfl hO hX (m_X_maps l D dA G tb ad h) mw_X1_maps q1233 q1235 (List.mem_cons_of_mem _ List.mem_cons_self) lj_s11 lj_y11 (lk5_jn 11 (by decide)) lj_d2 ⟨Nat.le_of_ble_eq_true rfl, Nat.le_of_ble_eq_true rfl, Nat.le_of_ble_eq_true rfl⟩ ⟨Nat.le_refl _, Nat.le_refl _⟩ rfl (Nat.le_of_ble_eq_true rfl) dX1_join_12 ⟨0, 1, _, _, rfl, rfl, rfl⟩ fe5j (fun hx b mk ck U bl => fl5j hx b mk ck U bl) fd5j (fun _ => zy_vretF hO hr rfl ⟨Nat.le_refl _, Nat.le_refl _⟩ dX1_join_17)
  | 4, _, h => exact zl_go5 (j := 12) (q0 := 7) (As := [.ref (ad i1), .ref (ad i2), .ref (ad i3)]) (rest := []) (by decide) rfl hO hX (m_X_brackets l D dA G tb ad h) mw_X1_brackets q1233 q1235 (List.mem_cons_of_mem _ List.mem_cons_self) lj_s12 lj_y12 (lk5_jn 12 (by decide)) lj_d2 ⟨Nat.le_of_ble_eq_true rfl, Nat.le_of_ble_eq_true rfl, Nat.le_of_ble_eq_true rfl⟩ ⟨Nat.le_refl _, Nat.le_refl _⟩ rfl (Nat.le_of_ble_eq_true rfl) dX1_join_12 ⟨0, 1, _, _, rfl, rfl, rfl⟩ fe5j (fun hx b mk ck U bl => fl5j hx b mk ck U bl) fd5j (fun _ => zy_vretF hO hr rfl ⟨Nat.le_refl _, Nat.le_refl _⟩ dX1_join_17)
  | 5, _, h => exact zl_go5 (j := 13) (q0 := 8) (As := [.ref (ad i1), .ref (ad i2), .ref (ad i3)]) (rest := []) (by decide) rfl hO hX (m_X_arranged l D dA G tb ad h) mw_X1_arranged q1233 q1235 (List.mem_cons_of_mem _ List.mem_cons_self) lj_s13 lj_y13 (lk5_jn 13 (by decide)) lj_d2 ⟨Nat.le_of_ble_eq_true rfl, Nat.le_of_ble_eq_true rfl, Nat.le_of_ble_eq_true rfl⟩ ⟨Nat.le_refl _, Nat.le_refl _⟩ rfl (Nat.le_of_ble_eq_true rfl) dX1_join_12 ⟨0, 1, _, _, rfl, rfl, rfl⟩ fe5j (fun hx b mk ck U bl => fl5j hx b mk ck U bl) fd5j (fun _ => zy_vretF hO hr rfl ⟨Nat.le_refl _, Nat.le_refl _⟩ dX1_join_17)
  | 6, _, h => exact zl_go5 (j := 14) (q0 := 9) (As := [.ref (ad i1), .ref (ad i2), .ref (ad i3)]) (rest := []) (by decide) rfl hO hX (m_X_ends l D dA G tb ad h) mw_X1_ends q1233 q1235 (List.mem_cons_of_mem _ List.mem_cons_self) lj_s14 lj_y14 (lk5_jn 14 (by decide)) lj_d2 ⟨Nat.le_of_ble_eq_true rfl, Nat.le_of_ble_eq_true rfl, Nat.le_of_ble_eq_true rfl⟩ ⟨Nat.le_refl _, Nat.le_refl _⟩ rfl (Nat.le_of_ble_eq_true rfl) dX1_join_12 ⟨0, 1, _, _, rfl, rfl, rfl⟩ fe5j (fun hx b mk ck U bl => fl5j hx b mk ck U bl) fd5j (fun _ => zy_vretF hO hr rfl ⟨Nat.le_refl _, Nat.le_refl _⟩ dX1_join_17)
  | 7, _, h => exact zl_go5 (j := 15) (q0 := 10) (As := [.ref (ad i1), .ref (ad i2), .ref (ad i3)]) (rest := []) (by decide) rfl hO hX (m_X_byTable l D dA G tb ad h) mw_X1_byTable q1233 q1235 (List.mem_cons_of_mem _ List.mem_cons_self) lj_s15 lj_y15 (lk5_jn 15 (by decide)) lj_d2 ⟨Nat.le_of_ble_eq_true rfl, Nat.le_of_ble_eq_true rfl, Nat.le_of_ble_eq_true rfl⟩ ⟨Nat.le_refl _, Nat.le_refl _⟩ rfl (Nat.le_of_ble_eq_true rfl) dX1_join_12 ⟨0, 1, _, _, rfl, rfl, rfl⟩ fe5j (fun hx b mk ck U bl => fl5j hx b mk ck U bl) fd5j (fun _ => zy_vretF hO hr rfl ⟨Nat.le_refl _, Nat.le_refl _⟩ dX1_join_17)
  | (n + 8), hlt, _ => exact absurd hlt (by omega)
