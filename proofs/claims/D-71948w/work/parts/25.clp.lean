/-! persons' number, copies of arrays, static calls of nest mates; what a new object holds -/
theorem cl_k_nw {η : cl_S} {c n : Nat} : cl_k (cl_nw η c n) (cl_n η + 1) = c := by simp [cl_k, cl_nw, va_up, cl_n]
theorem cl_dfX0 : ∀ j, j < 13 → defaultValue (tyX0 j) = vp_V (cl_df 0) j := by decide +kernel
theorem cl_dfX1 : ∀ j, j < 1 → defaultValue (tyX1 j) = vp_V (cl_df 1) j := by decide +kernel
theorem cl_dfX2 : ∀ j, j < 10 → defaultValue (tyX2 j) = vp_V (cl_df 2) j := by decide +kernel
theorem cl_dfX3 : ∀ j, j < 1 → defaultValue (tyX3 j) = vp_V (cl_df 3) j := by decide +kernel
theorem cl_dfX4 : ∀ j, j < 8 → defaultValue (tyX4 j) = vp_V (cl_df 4) j := by decide +kernel
theorem cl_dfX5 : ∀ j, j < 2 → defaultValue (tyX5 j) = vp_V (cl_df 5) j := by decide +kernel
theorem cl_dfX7 : ∀ j, j < 7 → defaultValue (tyX7 j) = vp_V (cl_df 7) j := by decide +kernel
theorem cl_dfX11 : ∀ j, j < 1 → defaultValue (tyX11 j) = vp_V (cl_df 9) j := by decide +kernel
theorem cl_dfX12 : ∀ j, j < 1 → defaultValue (tyX12 j) = vp_V (cl_df 10) j := by decide +kernel
theorem cl_dfX13 : ∀ j, j < 1 → defaultValue (tyX13 j) = vp_V (cl_df 11) j := by decide +kernel
theorem cl_dfX14 : ∀ j, j < 1 → defaultValue (tyX14 j) = vp_V (cl_df 12) j := by decide +kernel
theorem cl_dfX15 : ∀ j, j < 1 → defaultValue (tyX15 j) = vp_V (cl_df 13) j := by decide +kernel
theorem cl_dfX16 : ∀ j, j < 2 → defaultValue (tyX16 j) = vp_V (cl_df 14) j := by decide +kernel
theorem cl_dfX18 : ∀ j, j < 2 → defaultValue (tyX18 j) = vp_V (cl_df 15) j := by decide +kernel
section CLP
variable {p : Program} {l : Launch} {e : Env} {R : Room} {s : State} {m : MethodId} {args : Array Value} {below : List Frame} {meth : Method} {c : Code} {H : Heap} {locs : List Loc} {cells slots : Nat} {Q : State → Prop}
variable {cc : ByteArray} {nL pc : Nat} {ls : Array Slot} {rest st : List Value} {D : va_G} {dA : Nat → ClassId} {B : (Nat → Nat) × Nat} {ad : Nat → Nat} {A : Nat → Prop} {H0 : Heap} {η : cl_S} {own : String} {a o b o2 : Nat}
theorem cl_giP {index : Nat} (S : CallFix p m c cc nL s args lw_all own) (V : cl_V D dA B ad A H0 η s H locs) (ha : cl_at ad η a o) (hk : 9 ≤ cl_k η o ∧ cl_k η o ≤ 13) (hlink : Cond.fieldLink own index "DatedContacts$Person" "number" "I" ∈ lw_all) (hdg : decode cc pc = .ok (.getfield index, 3))
    (kk : W p l e R s m args below meth c H locs cells slots Q (F0 m (pc + 3) ls (.int (cl_i η o 0) :: rest))) : W p l e R s m args below meth c H locs cells slots Q (F0 m pc ls (.ref a :: rest)) := by
  have h : cl_k η o = 9 ∨ cl_k η o = 10 ∨ cl_k η o = 11 ∨ cl_k η o = 12 ∨ cl_k η o = 13 := by omega
  rcases h with h | h | h | h | h
  · exact cl_gi S V ha h rfl (by decide) in_X11 0 (by decide) rfl hlink rfl hdg kk
  · exact cl_gi S V ha h rfl (by decide) in_X12 0 (by decide) rfl hlink rfl hdg kk
  · exact cl_gi S V ha h rfl (by decide) in_X13 0 (by decide) rfl hlink rfl hdg kk
  · exact cl_gi S V ha h rfl (by decide) in_X14 0 (by decide) rfl hlink rfl hdg kk
  · exact cl_gi S V ha h rfl (by decide) in_X15 0 (by decide) rfl hlink rfl hdg kk
theorem cl_piP {index : Nat} (S : CallFix p m c cc nL s args lw_all RX10) (V : cl_V D dA B ad A H0 η s H locs) (ha : cl_at ad η a o) (hk : 9 ≤ cl_k η o ∧ cl_k η o ≤ 13) (hlink : Cond.fieldLink RX10 index "DatedContacts$Person" "number" "I" ∈ lw_all) (hini : meth.name = "<init>") {v : Int32} (hdg : decode cc pc = .ok (.putfield index, 3))
    (kk : ∀ (H1 : Heap) (locs1 : List Loc), cl_V D dA B ad A H0 (cl_wi η o 0 v) s H1 locs1 → W p l e R s m args below meth c H1 locs1 cells slots Q (F0 m (pc + 3) ls rest)) : W p l e R s m args below meth c H locs cells slots Q (F0 m pc ls (.int v :: .ref a :: rest)) := by
  have h : cl_k η o = 9 ∨ cl_k η o = 10 ∨ cl_k η o = 11 ∨ cl_k η o = 12 ∨ cl_k η o = 13 := by omega
  rcases h with h | h | h | h | h
  · exact cl_piF S V ha h rfl (by decide) in_X11 tyX11 tyX11_ok nmX11 0 (by decide) rfl hlink rfl rfl rfl hini rfl hdg kk
  · exact cl_piF S V ha h rfl (by decide) in_X12 tyX12 tyX12_ok nmX12 0 (by decide) rfl hlink rfl rfl rfl hini rfl hdg kk
  · exact cl_piF S V ha h rfl (by decide) in_X13 tyX13 tyX13_ok nmX13 0 (by decide) rfl hlink rfl rfl rfl hini rfl hdg kk
  · exact cl_piF S V ha h rfl (by decide) in_X14 tyX14 tyX14_ok nmX14 0 (by decide) rfl hlink rfl rfl rfl hini rfl hdg kk
  · exact cl_piF S V ha h rfl (by decide) in_X15 tyX15 tyX15_ok nmX15 0 (by decide) rfl hlink rfl rfl rfl hini rfl hdg kk
theorem cl_anyK {r tag : Nat} {C : String} (V : cl_V D dA B ad A H0 η s H locs) (ha : cl_at ad η a r) (hk : cl_okk tag (cl_k η r) = true) (t0 : Nat) (ht : (cl_ty dA)[t0]? = some (dA tag, .object C)) (h1 : t0 = tag - 21) (h2 : 24 ≤ tag ∧ tag ≤ 27) : va_Any C s H a := by
  have h : tag = 24 ∨ tag = 25 ∨ tag = 26 ∨ tag = 27 := by omega
  subst h1
  rcases h with rfl | rfl | rfl | rfl
  · cases ht
    exact cl_anyS V ha (of_decide_eq_true hk) rfl (by decide)
  · cases ht
    exact cl_anyP V ha (of_decide_eq_true hk)
  · cases ht
    exact cl_any V ha (of_decide_eq_true hk) rfl (by decide) cn_q1013
  · cases ht
    exact cl_anyS V ha (of_decide_eq_true hk) rfl (by decide)
/-- System.arraycopy, whole arrays of ints from 0 -/
theorem cl_cpi {index n : Nat} {N z : Int32} (S : CallFix p m c cc nL s args lw_all own) (V : cl_V D dA B ad A H0 η s H locs) (ha : cl_at ad η a o) (hk : cl_k η o = 20) (hb : cl_at ad η b o2) (hk2 : cl_k η o2 = 20) (hl : ls.size = nL) (hlink : Cond.methodLink own index arraycopyName ∈ lw_all) (hnat : Cond.native arraycopyName ∈ lw_all) (hstat : Cond.static arraycopyName ∈ lw_all) (hini : Cond.initialized "java/lang/System" ∈ lw_all)
    (h4 : n ≤ cl_l η o) (h5 : n ≤ cl_l η o2) (hframes : 1 ≤ R.frames) (hlocals : (rest.map fun v => v.category).sum + (nativeFrameWords "java/lang/System" "arraycopy" 5 + 11) ≤ R.locals) (hdg : decode cc pc = .ok (.invokestatic index, 3)) (hN : N.toNatClampNeg = n ∧ ¬ N < 0 := by decide) (hz : z = 0 := by rfl)
    (kk : ∀ (H1 : Heap) (locs1 : List Loc), cl_V D dA B ad A H0 (cl_si η o2 (va_cpy (cl_i η o) (cl_i η o2) 0 0 n)) s H1 locs1 → W p l e R s m args below meth c H1 locs1 cells slots Q (F0 m (pc + 3) ls rest)) : W p l e R s m args below meth c H locs cells slots Q (F0 m pc ls (.int N :: .int z :: .ref b :: .int z :: .ref a :: rest)) := by
  obtain ⟨rfl, h1, h2⟩ := ha
  obtain ⟨rfl, g1, g2⟩ := hb
  replace h1 := cl_Kk V.2.2.2.2.2.2.1 h1 hk (by decide)
  replace g1 := cl_Kk V.2.2.2.2.2.2.1 g1 hk2 (by decide)
  obtain ⟨rfl, hn⟩ := hN
  subst hz
  have z0 : (0 : Int32).toNatClampNeg = 0 := by decide
  refine va_copyi (ty := .int) S.1 S.2.1 (by rw [hl]; exact S.2.2.1) S.2.2.2.1 (S.2.2.2.2 _ hlink) (S.2.2.2.2 _ hnat) (S.2.2.2.2 _ hstat) (S.2.2.2.2 _ hini) V.2.1 V.2.2.1 V.2.2.2.1 V.2.2.2.2.1 (o - 1 - cl_K) (o2 - 1 - cl_K) 0 0 (by rw [cl_ws_at h1 h2, cl_ce_ia hk (by decide) (by decide)]) (by rw [cl_ws_at g1 g2, cl_ce_ia hk2 (by decide) (by decide)]) rfl rfl rfl (by decide) (by decide) hn (by rw [z0, Nat.zero_add]; exact h4) (by rw [z0, Nat.zero_add]; exact h5) (fun _ _ => rfl) hframes hlocals hdg (fun H1 locs1 hP hD hS => kk H1 locs1 ?_)
  rw [z0] at hP hD
  exact cl_V_ai V g1 hk2 (by decide) (by decide) hP hD hS
theorem cl_cpr {index n : Nat} {N z : Int32} {C : String} (t0 ct : Nat) (S : CallFix p m c cc nL s args lw_all own) (V : cl_V D dA B ad A H0 η s H locs) (ha : cl_at ad η a o) (hk : cl_k η o = ct) (hb : cl_at ad η b o2) (hk2 : cl_k η o2 = ct) (h24 : t0 = ct - 21 ∧ 24 ≤ ct ∧ ct ≤ 27) (ht : (cl_ty dA)[t0]? = some (dA ct, .object C)) (hl : ls.size = nL) (hlink : Cond.methodLink own index arraycopyName ∈ lw_all) (hnat : Cond.native arraycopyName ∈ lw_all) (hstat : Cond.static arraycopyName ∈ lw_all) (hini : Cond.initialized "java/lang/System" ∈ lw_all)
    (h4 : n ≤ cl_l η o) (h5 : n ≤ cl_l η o2) (hok : cl_oks η o ct n = true) (hframes : 1 ≤ R.frames) (hlocals : (rest.map fun v => v.category).sum + (nativeFrameWords "java/lang/System" "arraycopy" 5 + 11) ≤ R.locals) (hdg : decode cc pc = .ok (.invokestatic index, 3)) (hN : N.toNatClampNeg = n ∧ ¬ N < 0 := by decide) (hz : z = 0 := by rfl)
    (kk : ∀ (H1 : Heap) (locs1 : List Loc), cl_V D dA B ad A H0 (cl_sr η o2 (va_cpy (cl_r η o) (cl_r η o2) 0 0 n)) s H1 locs1 → W p l e R s m args below meth c H1 locs1 cells slots Q (F0 m (pc + 3) ls rest)) : W p l e R s m args below meth c H locs cells slots Q (F0 m pc ls (.int N :: .int z :: .ref b :: .int z :: .ref a :: rest)) := by
  obtain ⟨rfl, h1, h2⟩ := ha
  obtain ⟨rfl, g1, g2⟩ := hb
  replace h1 := cl_Kk V.2.2.2.2.2.2.1 h1 hk (cl_ck_24 (by omega))
  replace g1 := cl_Kk V.2.2.2.2.2.2.1 g1 hk2 (cl_ck_24 (by omega))
  obtain ⟨rfl, hn⟩ := hN
  subst hz
  have z0 : (0 : Int32).toNatClampNeg = 0 := by decide
  have q24 : ¬ ct < 24 := by omega
  refine va_copyM S.1 S.2.1 (by rw [hl]; exact S.2.2.1) S.2.2.2.1 (S.2.2.2.2 _ hlink) (S.2.2.2.2 _ hnat) (S.2.2.2.2 _ hstat) (S.2.2.2.2 _ hini) V.2.1 V.2.2.1 V.2.2.2.1 V.2.2.2.2.1 (o - 1 - cl_K) (o2 - 1 - cl_K) t0 t0 (by rw [cl_ws_at h1 h2, cl_ce_ra hk q24]) (by rw [cl_ws_at g1 g2, cl_ce_ra hk2 q24]) ht ht (by decide) (by decide) hn (by rw [z0, Nat.zero_add]; exact h4) (by rw [z0, Nat.zero_add]; exact h5) (fun i hi y hy => ?_) hframes hlocals hdg (fun H1 locs1 hP hD hS => kk H1 locs1 ?_)
  · rw [z0, Nat.zero_add] at hy
    have hy : cl_rf ad (cl_r η o i) = some y := hy
    have h0 : ¬ cl_r η o i = 0 := fun h => by rw [cl_rf_n h] at hy; cases hy
    rw [cl_rf_s h0] at hy
    have hq := List.all_eq_true.mp hok i (List.mem_range.mpr hi)
    rcases Bool.or_eq_true _ _ ▸ hq with h | h
    · exact absurd (of_decide_eq_true h) h0
    · exact cl_anyK (tag := ct) V ⟨(Option.some.inj hy).symm, Nat.pos_of_ne_zero h0, V.2.2.2.2.2.2.1.1 o i⟩ h t0 ht h24.1 h24.2
  · rw [z0] at hP hD
    have hZ : cl_Z (cl_sr η o2 (va_cpy (cl_r η o) (cl_r η o2) 0 0 N.toNatClampNeg)) := by
      refine cl_Z_sr V.2.2.2.2.2.2.1 g1 (fun k' => ?_)
      by_cases hlt : k' < N.toNatClampNeg
      · rw [pk_cpy_in (Nat.zero_le _) (by omega)]
        exact V.2.2.2.2.2.2.1.1 o _
      · rw [pk_cpy_out (Or.inr (by omega))]
        exact V.2.2.2.2.2.2.1.1 o2 _
    refine cl_V_put (o := o2) (η' := cl_sr η o2 (va_cpy (cl_r η o) (cl_r η o2) 0 0 N.toNatClampNeg)) V g1 rfl hZ (fun o' h => cl_ce_ne_sr h) ?_ hP hD hS
    rw [cl_ce_ra (η := cl_sr η o2 (va_cpy (cl_r η o) (cl_r η o2) 0 0 N.toNatClampNeg)) (ci := ct) hk2 q24]
    have e1 : (fun j => cl_rf ad (cl_r (cl_sr η o2 (va_cpy (cl_r η o) (cl_r η o2) 0 0 N.toNatClampNeg)) o2 j)) = va_cpy (fun j => cl_rf ad (cl_r η o j)) (fun j => cl_rf ad (cl_r η o2 j)) 0 0 N.toNatClampNeg := by
      funext j
      have e2 : cl_r (cl_sr η o2 (va_cpy (cl_r η o) (cl_r η o2) 0 0 N.toNatClampNeg)) o2 j = va_cpy (cl_r η o) (cl_r η o2) 0 0 N.toNatClampNeg j := by simp [cl_r, cl_sr, va_up]
      rw [e2]
      by_cases hlt : j < N.toNatClampNeg
      · rw [pk_cpy_in (Nat.zero_le _) (by omega), pk_cpy_in (Nat.zero_le _) (by omega)]
      · rw [pk_cpy_out (Or.inr (by omega)), pk_cpy_out (Or.inr (by omega))]
    rw [e1]
    rfl
variable {y : MethodName} {bytes : ByteArray} {maxL n index : Nat} {rt : FieldType} {rm : Room}
theorem dx_cPNi {host : String} (S : CallFix p m c cc nL s args lw_all own) (As : List Value) {r : Int32} (hM : dx_Pi l y bytes maxL rt rm As r) (cw : va_CN R s args own index y host bytes maxL (some rt) (ws_ y bytes maxL (some rt)) rm 0 0 n ∧ (Cond.static y).before args s = true ∧ True) (hst : st = As.reverse ++ rest) (hn : As.length = n) (hsize : ls.size = nL) (hW : (rest.map fun v => v.category).sum ≤ 8) (hdg : decode cc pc = .ok (.invokestatic index, 3)) (hroom : cells ≤ R.cells ∧ slots ≤ R.slots)
    (kk : W p l e R s m args below meth c H locs cells slots Q (F0 m (pc + 3) ls (.int r :: rest))) : W p l e R s m args below meth c H locs cells slots Q (F0 m pc ls st) := by
  subst hst
  intro T hT X
  obtain ⟨v, st₀, t, T', L, h0, X', hL, e1, -, ⟨r1, hv, hp, hh⟩, stp⟩ := va_runSN (As := As) (rest := rest) (g := F0 m pc ls (As.reverse ++ rest)) S hM cw ⟨fun _ _ _ _ q => q, fun _ _ _ => ⟨rfl, trivial⟩⟩ rfl hn hsize rfl (lv_room hW) hdg hroom T hT X
  cases hv
  subst hp
  obtain ⟨t2, a1, b1⟩ := kk T' (by rw [e1, hh, h0]) (Stand.forget X' (fun q h => (hL q h).elim))
  exact ⟨t2, stp t2 a1, b1⟩
end CLP
