/-! a Fault is made: Throwable's, Exception's, Fault's constructors -/
theorem cl_dfX8 : ∀ j, j < 8 → defaultValue (tyX8 j) = vp_V (cl_df 8) j := by decide +kernel
theorem cl_dfJ4 : ∀ j, j < 4 → defaultValue (tyJ4 j) = vp_V (cl_df 16) j := by decide +kernel
theorem cl_dfJ10 : ∀ j, j < 4 → defaultValue (tyJ10 j) = vp_V (cl_df 17) j := by decide +kernel
section CXF
variable {p : Program} {l : Launch} {e : Env} {R : Room} {s : State} {m : MethodId} {args : Array Value} {below : List Frame} {meth : Method} {c : Code} {H : Heap} {locs : List Loc} {cells slots : Nat} {Q : State → Prop}
variable {cc : ByteArray} {nL pc : Nat} {ls : Array Slot} {rest : List Value} {D : va_G} {dA : Nat → ClassId} {A : Nat → Prop} {own ref : String} {index a i0 : Nat} {X : va_W} {fs : List Value}
theorem cx_raw {v : Value} (S : CallFix p m c cc nL s args lw_all own) (hK : va_K D vwCl (cl_ty dA) s) (hP : va_P D vwCl (X.set i0 (a, .inr (8, fs))) H) (hD : va_D A (X.set i0 (a, .inr (8, fs)))) (hS : va_S A s.heap H locs) (hi : i0 < X.length) (k : Nat) (hk : k < 8) (hlink : Cond.fieldLink own index ref (TX8 k).2.1 (TX8 k).2.2.1 ∈ lw_all) (hs : (TX8 k).1 = ref) (hfin : (TX8 k).2.2.2 = false) (hn : narrow (tyX8 k) v = v) (hfit : fits (tyX8 k) v = true) (hl : fs.length = 8) (hdg : decode cc pc = .ok (.putfield index, 3))
    (kk : ∀ (H1 : Heap) (locs1 : List Loc), va_P D vwCl (X.set i0 (a, .inr (8, fs.set k v))) H1 → va_D A (X.set i0 (a, .inr (8, fs.set k v))) → va_S A s.heap H1 locs1 → W p l e R s m args below meth c H1 locs1 cells slots Q (F0 m (pc + 3) ls rest)) : W p l e R s m args below meth c H locs cells slots Q (F0 m pc ls (v :: .ref a :: rest)) := by
  refine va_put (D := D) (ci := 8) (v := v) (ty := tyX8 k) (C := RX8) (T := TX8) (N := 8) S.1 S.2.1 S.2.2.2.2 in_X8 tyX8 tyX8_ok nmX8 S.2.2.2.1 hK hP hD hS i0 (by rw [List.getElem?_set_self hi]) rfl k hk (S.2.2.2.2 _ hlink) (fun x h9 => by rw [hs] at h9; exact h9) hfin (tyX8_ok k hk) hn hfit (by rw [hl]; exact hk) hdg (fun H1 locs1 hP hD hS => kk H1 locs1 ?_ ?_ hS)
  · rw [List.set_set] at hP; exact hP
  · rw [List.set_set] at hD; exact hD
end CXF
theorem cx_zq {C n d : String} {A : Nat → Prop} {U : State} {H : Heap} (h : vx_Zq C n d A U H) : ∃ v : Value, (v = .null ∨ ∃ t, v = .ref t) ∧ va_Z C n d v A U H := by
  rcases h.1 with h | ⟨t, h⟩
  · exact ⟨_, Or.inl rfl, h⟩
  · exact ⟨_, Or.inr ⟨t, rfl⟩, h⟩
theorem cx_nf {k : Nat} {v : Value} (hk : k < 5) (hv : v = .null ∨ ∃ t, v = .ref t) : narrow (tyX8 k) v = v ∧ fits (tyX8 k) v = true := by
  have h : k = 0 ∨ k = 1 ∨ k = 2 ∨ k = 3 ∨ k = 4 := by omega
  rcases hv with rfl | ⟨t, rfl⟩ <;> rcases h with rfl | rfl | rfl | rfl | rfl <;> exact ⟨rfl, rfl⟩
theorem cd_J0_init_3 : yJ0_init_3.cls ≠ "java/lang/invoke/MethodHandle" ∧ yJ0_init_3.cls ≠ "java/lang/invoke/VarHandle" ∧ (parseMethodDescriptor yJ0_init_3.desc).map (fun d => d.parameters.length) = some 4 := by decide +kernel
theorem cd_J1_init_3 : yJ1_init_3.cls ≠ "java/lang/invoke/MethodHandle" ∧ yJ1_init_3.cls ≠ "java/lang/invoke/VarHandle" ∧ (parseMethodDescriptor yJ1_init_3.desc).map (fun d => d.parameters.length) = some 4 := by decide +kernel
theorem cd_X8_init : yX8_init.cls ≠ "java/lang/invoke/MethodHandle" ∧ yX8_init.cls ≠ "java/lang/invoke/VarHandle" ∧ (parseMethodDescriptor yX8_init.desc).map (fun d => d.parameters.length) = some 2 := by decide +kernel
set_option maxHeartbeats 4000000 in
set_option maxRecDepth 100000 in
theorem cm_J0_init_3 (l : Launch) (D : va_G) (dA : Nat → ClassId) (ad0 : Nat → Nat) (A : Nat → Prop) (a0 o0 : Nat) (σ0 : cl_S) (e0 : cl_at ad0 σ0 a0 o0) (hk : cl_k σ0 o0 = 8) (hz : ∀ k, k < 5 → cl_r σ0 o0 k = 0) : cl_Cv l yJ0_init_3 cJ0_init_3 5 ({ frames := 1, cells := 0, slots := 0, locals := 20 }) D dA ad0 A [.ref a0, .null, .null, .int 0, .int 0] σ0 σ0 := by
  refine cl_in RJ0 rfl (by decide) (Nat.le_of_ble_eq_true rfl) ?_
  intro p e s m below meth c ls S hr hlocks hini hv hl
  have hx := S.1
  have hb := S.2.1
  have hown := S.2.2.2.1
  have hts := S.2.2.2.2
  obtain ⟨hN, hK, hP, hD, hA, hZ⟩ := hv
  replace hl : lv_has ls 5 [(0, .ref a0), (1, .null), (2, .null), (3, .int 0), (4, .int 0)] := hl
  obtain ⟨rfl, h1, h2⟩ := e0
  replace h1 := cl_Kk hZ h1 hk (by decide)
  have hi : o0 - 1 - cl_K < (cl_ws dA ad0 σ0).length := by simp only [cl_ws, List.length_map, List.length_range]; omega
  have hob : cl_ob ad0 σ0 o0 (cl_fk 8) 0 = [.null, .null, .null, .null, .null, .int (cl_i σ0 o0 5), .int (cl_i σ0 o0 6), .int (cl_i σ0 o0 7)] := by
    show [va_rf (cl_rf ad0 (cl_r σ0 o0 0)), va_rf (cl_rf ad0 (cl_r σ0 o0 1)), va_rf (cl_rf ad0 (cl_r σ0 o0 2)), va_rf (cl_rf ad0 (cl_r σ0 o0 3)), va_rf (cl_rf ad0 (cl_r σ0 o0 4)), .int (cl_i σ0 o0 5), .int (cl_i σ0 o0 6), .int (cl_i σ0 o0 7)] = _
    rw [hz 0 (by decide), hz 1 (by decide), hz 2 (by decide), hz 3 (by decide), hz 4 (by decide)]
    rfl
  have hset : (cl_ws dA ad0 σ0).set (o0 - 1 - cl_K) (ad0 o0, .inr (8, [.null, .null, .null, .null, .null, .int (cl_i σ0 o0 5), .int (cl_i σ0 o0 6), .int (cl_i σ0 o0 7)])) = cl_ws dA ad0 σ0 := by
    have h3 := cl_ws_set (dA := dA) (ad := ad0) (η := σ0) (η' := σ0) h1 rfl (fun _ _ => rfl)
    rw [cl_ce_ob hk (by decide), hob] at h3
    exact h3
  have hP0 := hP
  have hD0 := hD
  rw [← hset] at hP0 hD0
  obtain ⟨v1, hv1, hZ1⟩ := cx_zq hN.x.2.2.1.2.2.2.1
  obtain ⟨v2, hv2, hZ2⟩ := cx_zq hN.x.2.2.1.2.2.2.2.1
  refine lv_aload_n hx hb dJ0_init_3_0 rfl (lv_at hl 0 rfl) ?_
  refine W.objInit hx hb hown (hts _ q325) (hts _ q123) (hts _ q124) rfl (by rw [S.2.2.1]; exact hl.1) rfl dJ0_init_3_1 (Nat.le_of_ble_eq_true rfl) (Nat.le_of_ble_eq_true rfl) ?_
  refine lv_aload_n hx hb dJ0_init_3_4 rfl (lv_at hl 0 rfl) ?_
  refine lv_aload_n hx hb dJ0_init_3_5 rfl (lv_at hl 0 rfl) ?_
  refine cx_raw (v := .ref (ad0 o0)) S hK hP0 hD0 va_S.rf hi 0 (by decide) q360 rfl rfl rfl rfl rfl dJ0_init_3_6 (fun _ _ hP1 hD1 hS1 => ?_)
  refine lv_aload_n hx hb dJ0_init_3_9 rfl (lv_at hl 0 rfl) ?_
  refine va_gets hx hb hZ1 hS1 hown (hts _ q326) (fun _ h => h) dJ0_init_3_10 ?_
  refine cx_raw (v := v1) S hK hP1 hD1 hS1 hi 1 (by decide) q361 rfl rfl (cx_nf (k := 1) (by decide) hv1).1 (cx_nf (k := 1) (by decide) hv1).2 rfl dJ0_init_3_13 (fun _ _ hP2 hD2 hS2 => ?_)
  refine lv_aload_n hx hb dJ0_init_3_16 rfl (lv_at hl 0 rfl) ?_
  refine va_gets hx hb hZ2 hS2 hown (hts _ q328) (fun _ h => h) dJ0_init_3_17 ?_
  refine cx_raw (v := v2) S hK hP2 hD2 hS2 hi 2 (by decide) q362 rfl rfl (cx_nf (k := 2) (by decide) hv2).1 (cx_nf (k := 2) (by decide) hv2).2 rfl dJ0_init_3_20 (fun _ _ hP3 hD3 hS3 => ?_)
  refine lv_iload hx hb dJ0_init_3_23 (lv_at hl 4 rfl) ?_
  refine lv_if_eq (tgt := 36) hx hb dJ0_init_3_25 (by show ((25 : Nat) : Int) + 11 = 36; decide) (fun hc => ?_) (fun hc => absurd rfl hc)
  refine lv_aload_n hx hb dJ0_init_3_36 rfl (lv_at hl 0 rfl) ?_
  refine lv_null hx hb dJ0_init_3_37 ?_
  refine cx_raw (v := .null) S hK hP3 hD3 hS3 hi 1 (by decide) q361 rfl rfl rfl rfl rfl dJ0_init_3_38 (fun _ _ hP4 hD4 hS4 => ?_)
  refine lv_aload_n hx hb dJ0_init_3_41 rfl (lv_at hl 0 rfl) ?_
  refine lv_aload_nN hx hb dJ0_init_3_42 rfl (lv_at hl 1 rfl) ?_
  refine cx_raw (v := .null) S hK hP4 hD4 hS4 hi 3 (by decide) q359 rfl rfl rfl rfl rfl dJ0_init_3_43 (fun _ _ hP5 hD5 hS5 => ?_)
  refine lv_aload_n hx hb dJ0_init_3_46 rfl (lv_at hl 0 rfl) ?_
  refine lv_aload_nN hx hb dJ0_init_3_47 rfl (lv_at hl 2 rfl) ?_
  refine cx_raw (v := .null) S hK hP5 hD5 hS5 hi 0 (by decide) q360 rfl rfl rfl rfl rfl dJ0_init_3_48 (fun _ _ hP6 hD6 hS6 => ?_)
  refine lv_iload_n hx hb dJ0_init_3_51 rfl (lv_at hl 3 rfl) ?_
  refine lv_if_ne (tgt := 60) hx hb dJ0_init_3_52 (by show ((52 : Nat) : Int) + 8 = 60; decide) (fun hc => absurd rfl hc) (fun hc => ?_)
  refine lv_aload_n hx hb dJ0_init_3_55 rfl (lv_at hl 0 rfl) ?_
  refine lv_null hx hb dJ0_init_3_56 ?_
  refine cx_raw (v := .null) S hK hP6 hD6 hS6 hi 2 (by decide) q362 rfl rfl rfl rfl rfl dJ0_init_3_57 (fun H7 locs7 hP7 hD7 hS7 => ?_)
  replace hP7 : va_P D vwCl ((cl_ws dA ad0 σ0).set (o0 - 1 - cl_K) (ad0 o0, .inr (8, [.null, .null, .null, .null, .null, .int (cl_i σ0 o0 5), .int (cl_i σ0 o0 6), .int (cl_i σ0 o0 7)]))) H7 := hP7
  rw [hset] at hP7
  have V : cl_V D dA (ad0, cl_n σ0) ad0 A s.heap σ0 s H7 locs7 := ⟨hN, hK, hP7, hD, hS7, hA, hZ, fun _ _ => rfl, Nat.le_refl _⟩
  exact cl_rv S V hr hlocks dJ0_init_3_60
set_option maxHeartbeats 4000000 in
set_option maxRecDepth 100000 in
theorem cm_J1_init_3 (l : Launch) (D : va_G) (dA : Nat → ClassId) (ad0 : Nat → Nat) (A : Nat → Prop) (a0 o0 : Nat) (σ0 : cl_S) (e0 : cl_at ad0 σ0 a0 o0) (hk : cl_k σ0 o0 = 8) (hz : ∀ k, k < 5 → cl_r σ0 o0 k = 0) : cl_Cv l yJ1_init_3 cJ1_init_3 5 ({ frames := 2, cells := 0, slots := 0, locals := 44 }) D dA ad0 A [.ref a0, .null, .null, .int 0, .int 0] σ0 σ0 := by
  refine cl_in RJ1 rfl (by decide) (Nat.le_of_ble_eq_true rfl) ?_
  intro p e s m below meth c ls S hr hlocks hini hv hl
  have hx := S.1
  have hb := S.2.1
  have hown := S.2.2.2.1
  have hts := S.2.2.2.2
  obtain ⟨hN, hK, hP, hD, hA, hZ⟩ := hv
  have V : cl_V D dA (ad0, cl_n σ0) ad0 A s.heap σ0 s s.heap [] := ⟨hN, hK, hP, hD, va_S.rf, hA, hZ, fun _ _ => rfl, Nat.le_refl _⟩
  replace hl : lv_has ls 5 [(0, .ref a0), (1, .null), (2, .null), (3, .int 0), (4, .int 0)] := hl
  refine lv_aload_n hx hb dJ1_init_3_0 rfl (lv_at hl 0 rfl) ?_
  refine lv_aload_nN hx hb dJ1_init_3_1 rfl (lv_at hl 1 rfl) ?_
  refine lv_aload_nN hx hb dJ1_init_3_2 rfl (lv_at hl 2 rfl) ?_
  refine lv_iload_n hx hb dJ1_init_3_3 rfl (lv_at hl 3 rfl) ?_
  refine lv_iload hx hb dJ1_init_3_4 (lv_at hl 4 rfl) ?_
  refine cl_cv (va_runI (As := [.null, .null, .int 0, .int 0]) S (cm_J0_init_3 l D dA _ A a0 o0 σ0 e0 hk hz) (cwI 4 hts (lw_meth q594) rfl rfl rfl (hts _ q84) (hts _ q592) (hts _ q593) rfl cd_J0_init_3 ⟨Nat.le_of_ble_eq_true rfl, Nat.le_of_ble_eq_true rfl⟩) (cl_preS V [.ref a0, .null, .null, .int 0, .int 0]) rfl rfl hl.1 rfl (lv_room (Nat.le_of_ble_eq_true rfl)) dJ1_init_3_6 ⟨Nat.le_of_ble_eq_true rfl, Nat.le_of_ble_eq_true rfl⟩) V (fun ad _ _ hag hle V => ?_)
  exact cl_rv S V hr hlocks dJ1_init_3_9
set_option maxHeartbeats 4000000 in
set_option maxRecDepth 100000 in
theorem cm_X8_init (l : Launch) (D : va_G) (dA : Nat → ClassId) (ad0 : Nat → Nat) (A : Nat → Prop) (a0 : Nat) (o0 : Nat) (p0 p1 : Int32) (σ0 : cl_S) (σ' : cl_S) (e0 : cl_at ad0 σ0 a0 o0) (hF : cl_X8_init o0 σ0 p0 p1 = some σ') : cl_Cv l yX8_init cX8_init 3 ({ frames := 3, cells := 0, slots := 0, locals := 68 }) D dA ad0 A [.ref a0, .int p0, .int p1] σ0 σ' := by
  refine cl_in RX8 rfl (by decide) (Nat.le_of_ble_eq_true rfl) ?_
  intro p e s m below meth c ls S hr hlocks hini hv hl
  have hx := S.1
  have hb := S.2.1
  have hown := S.2.2.2.1
  have hts := S.2.2.2.2
  obtain ⟨hN, hK, hP, hD, hA, hZ⟩ := hv
  have V : cl_V D dA (ad0, cl_n σ0) ad0 A s.heap σ0 s s.heap [] := ⟨hN, hK, hP, hD, va_S.rf, hA, hZ, fun _ _ => rfl, Nat.le_refl _⟩
  replace hl : lv_has ls 3 [(0, .ref a0), (1, .int p0), (2, .int p1)] := hl
  unfold cl_X8_init at hF
  obtain ⟨hg, hF⟩ := dx_gd_some hF
  obtain ⟨hk, z0, z1, z2, z3, z4⟩ := of_decide_eq_true hg
  have hz : ∀ k, k < 5 → cl_r σ0 o0 k = 0 := fun k hk => by
    have h : k = 0 ∨ k = 1 ∨ k = 2 ∨ k = 3 ∨ k = 4 := by omega
    rcases h with rfl | rfl | rfl | rfl | rfl <;> assumption
  refine lv_aload_n hx hb dX8_init_0 rfl (lv_at hl 0 rfl) ?_
  refine lv_null hx hb dX8_init_1 ?_
  refine lv_null hx hb dX8_init_2 ?_
  refine lv_iconst (v := 0) hx hb dX8_init_3 (by decide) ?_
  refine lv_iconst (v := 0) hx hb dX8_init_4 (by decide) ?_
  refine cl_cv (va_runI (As := [.null, .null, .int 0, .int 0]) S (cm_J1_init_3 l D dA _ A a0 o0 σ0 e0 hk hz) (cwI 4 hts (lw_meth q591) rfl rfl rfl (hts _ q85) (hts _ q589) (hts _ q590) rfl cd_J1_init_3 ⟨Nat.le_of_ble_eq_true rfl, Nat.le_of_ble_eq_true rfl⟩) (cl_preS V [.ref a0, .null, .null, .int 0, .int 0]) rfl rfl hl.1 rfl (lv_room (Nat.le_of_ble_eq_true rfl)) dX8_init_5 ⟨Nat.le_of_ble_eq_true rfl, Nat.le_of_ble_eq_true rfl⟩) V (fun ad _ _ hag hle V => ?_)
  replace e0 := e0.mv hag hle
  refine lv_aload_n hx hb dX8_init_8 rfl (lv_at hl 0 rfl) ?_
  refine lv_iload_n hx hb dX8_init_9 rfl (lv_at hl 1 rfl) ?_
  refine cl_piF S V e0 hk rfl (by decide) in_X8 tyX8 tyX8_ok nmX8 6 (by decide) rfl q595 rfl rfl rfl hini rfl dX8_init_10 (fun _ _ V => ?_)
  refine lv_aload_n hx hb dX8_init_13 rfl (lv_at hl 0 rfl) ?_
  refine lv_iload_n hx hb dX8_init_14 rfl (lv_at hl 2 rfl) ?_
  refine cl_piF S V e0 hk rfl (by decide) in_X8 tyX8 tyX8_ok nmX8 7 (by decide) rfl q597 rfl rfl rfl hini rfl dX8_init_15 (fun _ _ V => ?_)
  replace hF := Option.some.inj hF
  subst hF
  exact cl_rv S V hr hlocks dX8_init_18
