/-! arrays, making, calls, ends over the abstract heap -/
section CLA
variable {p : Program} {l : Launch} {e : Env} {R : Room} {s : State} {m : MethodId} {args : Array Value} {below : List Frame} {meth : Method} {c : Code} {H : Heap} {locs : List Loc} {cells slots : Nat} {Q : State → Prop}
variable {cc : ByteArray} {nL pc : Nat} {ls : Array Slot} {rest : List Value} {D : va_G} {dA : Nat → ClassId} {B : (Nat → Nat) × Nat} {ad : Nat → Nat} {A : Nat → Prop} {H0 : Heap} {η : cl_S} {own : String} {a o : Nat}
theorem cl_V_ai {ct : Nat} {f : Nat → Int32} {H1 : Heap} {locs1 : List Loc} (V : cl_V D dA B ad A H0 η s H locs) (h1 : cl_K < o) (hk : cl_k η o = ct) (g1 : ¬ ct < 20) (g2 : ct < 24) (hP : va_P D vwCl ((cl_ws dA ad η).set (o - 1 - cl_K) (ad o, .inl (dA ct, cl_l η o, .inl f))) H1) (hD : va_D A ((cl_ws dA ad η).set (o - 1 - cl_K) (ad o, .inl (dA ct, cl_l η o, .inl f)))) (hS : va_S A H0 H1 locs1) : cl_V D dA B ad A H0 (cl_si η o f) s H1 locs1 := by
  refine cl_V_put (o := o) (η' := cl_si η o f) V h1 rfl (cl_Z_si V.2.2.2.2.2.2.1 h1) (fun o' h => cl_ce_ne_si h) ?_ hP hD hS
  rw [cl_ce_ia (η := cl_si η o f) (ci := ct) hk g1 g2]
  have e1 : cl_i (cl_si η o f) o = f := by funext k; simp [cl_i, cl_si, va_up]
  rw [e1]
  rfl
theorem cl_ld (S : CallFix p m c cc nL s args lw_all own) (V : cl_V D dA B ad A H0 η s H locs) (ha : cl_at ad η a o) (hk : cl_k η o = 20) {i : Int32} (hin : vp_in i (cl_l η o)) (hdg : decode cc pc = .ok (.iaload, 1))
    (kk : W p l e R s m args below meth c H locs cells slots Q (F0 m (pc + 1) ls (.int (cl_i η o i.toNatClampNeg) :: rest))) : W p l e R s m args below meth c H locs cells slots Q (F0 m pc ls (.int i :: .ref a :: rest)) := by
  obtain ⟨rfl, h1, h2⟩ := ha
  replace h1 := cl_Kk V.2.2.2.2.2.2.1 h1 hk (by decide)
  exact va_iald S.1 S.2.1 V.2.1 V.2.2.1 (o - 1 - cl_K) 0 (by rw [cl_ws_at h1 h2, cl_ce_ia hk (by decide) (by decide)]) rfl hin hdg kk
theorem cl_ldb (S : CallFix p m c cc nL s args lw_all own) (V : cl_V D dA B ad A H0 η s H locs) (ha : cl_at ad η a o) (hk : cl_k η o = 21) {i : Int32} (hin : vp_in i (cl_l η o)) (hdg : decode cc pc = .ok (.baload, 1))
    (kk : W p l e R s m args below meth c H locs cells slots Q (F0 m (pc + 1) ls (.int (cl_i η o i.toNatClampNeg) :: rest))) : W p l e R s m args below meth c H locs cells slots Q (F0 m pc ls (.int i :: .ref a :: rest)) := by
  obtain ⟨rfl, h1, h2⟩ := ha
  replace h1 := cl_Kk V.2.2.2.2.2.2.1 h1 hk (by decide)
  exact va_bald S.1 S.2.1 V.2.1 V.2.2.1 (o - 1 - cl_K) 1 (by rw [cl_ws_at h1 h2, cl_ce_ia hk (by decide) (by decide)]) rfl hin hdg kk
theorem cl_lds (S : CallFix p m c cc nL s args lw_all own) (V : cl_V D dA B ad A H0 η s H locs) (ha : cl_at ad η a o) (hk : cl_k η o = 22) {i : Int32} (hin : vp_in i (cl_l η o)) (hdg : decode cc pc = .ok (.saload, 1))
    (kk : W p l e R s m args below meth c H locs cells slots Q (F0 m (pc + 1) ls (.int (cl_i η o i.toNatClampNeg) :: rest))) : W p l e R s m args below meth c H locs cells slots Q (F0 m pc ls (.int i :: .ref a :: rest)) := by
  obtain ⟨rfl, h1, h2⟩ := ha
  replace h1 := cl_Kk V.2.2.2.2.2.2.1 h1 hk (by decide)
  exact va_sald S.1 S.2.1 V.2.1 V.2.2.1 (o - 1 - cl_K) 2 (by rw [cl_ws_at h1 h2, cl_ce_ia hk (by decide) (by decide)]) rfl hin hdg kk
theorem cl_st (S : CallFix p m c cc nL s args lw_all own) (V : cl_V D dA B ad A H0 η s H locs) (ha : cl_at ad η a o) (hk : cl_k η o = 20) {i v : Int32} (hin : vp_in i (cl_l η o)) (hdg : decode cc pc = .ok (.iastore, 1))
    (kk : ∀ (H1 : Heap) (locs1 : List Loc), cl_V D dA B ad A H0 (cl_wi η o i.toNatClampNeg v) s H1 locs1 → W p l e R s m args below meth c H1 locs1 cells slots Q (F0 m (pc + 1) ls rest)) : W p l e R s m args below meth c H locs cells slots Q (F0 m pc ls (.int v :: .int i :: .ref a :: rest)) := by
  obtain ⟨rfl, h1, h2⟩ := ha
  replace h1 := cl_Kk V.2.2.2.2.2.2.1 h1 hk (by decide)
  exact va_iast S.1 S.2.1 V.2.1 V.2.2.1 V.2.2.2.1 V.2.2.2.2.1 (o - 1 - cl_K) 0 (by rw [cl_ws_at h1 h2, cl_ce_ia hk (by decide) (by decide)]) rfl hin hdg (fun H1 locs1 hP hD hS => kk H1 locs1 (cl_V_ai V h1 hk (by decide) (by decide) hP hD hS))
theorem cl_stb (S : CallFix p m c cc nL s args lw_all own) (V : cl_V D dA B ad A H0 η s H locs) (ha : cl_at ad η a o) (hk : cl_k η o = 21) {i v : Int32} (hin : vp_in i (cl_l η o)) (hdg : decode cc pc = .ok (.bastore, 1))
    (kk : ∀ (H1 : Heap) (locs1 : List Loc), cl_V D dA B ad A H0 (cl_wi η o i.toNatClampNeg v.toInt8.toInt32) s H1 locs1 → W p l e R s m args below meth c H1 locs1 cells slots Q (F0 m (pc + 1) ls rest)) : W p l e R s m args below meth c H locs cells slots Q (F0 m pc ls (.int v :: .int i :: .ref a :: rest)) := by
  obtain ⟨rfl, h1, h2⟩ := ha
  replace h1 := cl_Kk V.2.2.2.2.2.2.1 h1 hk (by decide)
  refine va_bast S.1 S.2.1 V.2.1 V.2.2.1 V.2.2.2.1 V.2.2.2.2.1 (o - 1 - cl_K) 1 (by rw [cl_ws_at h1 h2, cl_ce_ia hk (by decide) (by decide)]) rfl hin hdg (fun H1 locs1 hP hD hS => kk H1 locs1 ?_)
  rw [vp_nar_byte] at hP hD
  exact cl_V_ai V h1 hk (by decide) (by decide) hP hD hS
theorem cl_sts (S : CallFix p m c cc nL s args lw_all own) (V : cl_V D dA B ad A H0 η s H locs) (ha : cl_at ad η a o) (hk : cl_k η o = 22) {i v : Int32} (hin : vp_in i (cl_l η o)) (hdg : decode cc pc = .ok (.sastore, 1))
    (kk : ∀ (H1 : Heap) (locs1 : List Loc), cl_V D dA B ad A H0 (cl_wi η o i.toNatClampNeg v.toInt16.toInt32) s H1 locs1 → W p l e R s m args below meth c H1 locs1 cells slots Q (F0 m (pc + 1) ls rest)) : W p l e R s m args below meth c H locs cells slots Q (F0 m pc ls (.int v :: .int i :: .ref a :: rest)) := by
  obtain ⟨rfl, h1, h2⟩ := ha
  replace h1 := cl_Kk V.2.2.2.2.2.2.1 h1 hk (by decide)
  refine va_sast S.1 S.2.1 V.2.1 V.2.2.1 V.2.2.2.1 V.2.2.2.2.1 (o - 1 - cl_K) 2 (by rw [cl_ws_at h1 h2, cl_ce_ia hk (by decide) (by decide)]) rfl hin hdg (fun H1 locs1 hP hD hS => kk H1 locs1 ?_)
  rw [vp_nar_short] at hP hD
  exact cl_V_ai V h1 hk (by decide) (by decide) hP hD hS
/-- references in an array: t0 the array type's place in cl_ty, ct its kind -/
theorem cl_lr {C : String} (t0 ct : Nat) (S : CallFix p m c cc nL s args lw_all own) (V : cl_V D dA B ad A H0 η s H locs) (ha : cl_at ad η a o) (hk : cl_k η o = ct) (h24 : ¬ ct < 24) (ht : (cl_ty dA)[t0]? = some (dA ct, .object C)) {i : Int32} (hin : vp_in i (cl_l η o)) (hdg : decode cc pc = .ok (.aaload, 1)) (h0 : ¬ cl_r η o i.toNatClampNeg = 0)
    (kk : ∀ b : Nat, cl_at ad η b (cl_r η o i.toNatClampNeg) → W p l e R s m args below meth c H locs cells slots Q (F0 m (pc + 1) ls (.ref b :: rest))) : W p l e R s m args below meth c H locs cells slots Q (F0 m pc ls (.int i :: .ref a :: rest)) := by
  obtain ⟨rfl, h1, h2⟩ := ha
  replace h1 := cl_Kk V.2.2.2.2.2.2.1 h1 hk (cl_ck_24 h24)
  refine va_aldq S.1 S.2.1 V.2.1 V.2.2.1 (o - 1 - cl_K) t0 (by rw [cl_ws_at h1 h2, cl_ce_ra hk h24]) ht hin hdg ?_
  show W p l e R s m args below meth c H locs cells slots Q (F0 m (pc + 1) ls (va_rf (cl_rf ad (cl_r η o i.toNatClampNeg)) :: rest))
  rw [cl_rf_s h0]
  exact kk _ ⟨rfl, Nat.pos_of_ne_zero h0, V.2.2.2.2.2.2.1.1 o _⟩
theorem cl_ln {C : String} (t0 ct : Nat) (S : CallFix p m c cc nL s args lw_all own) (V : cl_V D dA B ad A H0 η s H locs) (ha : cl_at ad η a o) (hk : cl_k η o = ct) (h24 : ¬ ct < 24) (ht : (cl_ty dA)[t0]? = some (dA ct, .object C)) {i : Int32} (hin : vp_in i (cl_l η o)) (hdg : decode cc pc = .ok (.aaload, 1)) (h0 : cl_r η o i.toNatClampNeg = 0)
    (kk : W p l e R s m args below meth c H locs cells slots Q (F0 m (pc + 1) ls (.null :: rest))) : W p l e R s m args below meth c H locs cells slots Q (F0 m pc ls (.int i :: .ref a :: rest)) := by
  obtain ⟨rfl, h1, h2⟩ := ha
  replace h1 := cl_Kk V.2.2.2.2.2.2.1 h1 hk (cl_ck_24 h24)
  refine va_aldq S.1 S.2.1 V.2.1 V.2.2.1 (o - 1 - cl_K) t0 (by rw [cl_ws_at h1 h2, cl_ce_ra hk h24]) ht hin hdg ?_
  show W p l e R s m args below meth c H locs cells slots Q (F0 m (pc + 1) ls (va_rf (cl_rf ad (cl_r η o i.toNatClampNeg)) :: rest))
  rw [cl_rf_n h0]
  exact kk
theorem cl_V_ar {ct k v : Nat} {g : Nat → Option Nat} {H1 : Heap} {locs1 : List Loc} (V : cl_V D dA B ad A H0 η s H locs) (h1 : cl_K < o) (hk : cl_k η o = ct) (h24 : ¬ ct < 24) (hv : v ≤ cl_n η) (hg : g = fun j => cl_rf ad (cl_r (cl_wr η o k v) o j)) (hP : va_P D vwCl ((cl_ws dA ad η).set (o - 1 - cl_K) (ad o, .inl (dA ct, cl_l η o, .inr (.inr (.inr (.inr g)))))) H1) (hD : va_D A ((cl_ws dA ad η).set (o - 1 - cl_K) (ad o, .inl (dA ct, cl_l η o, .inr (.inr (.inr (.inr g))))))) (hS : va_S A H0 H1 locs1) : cl_V D dA B ad A H0 (cl_wr η o k v) s H1 locs1 := by
  refine cl_V_put (o := o) (η' := cl_wr η o k v) V h1 rfl (cl_Z_wr V.2.2.2.2.2.2.1 h1 hv) (fun o' h => cl_ce_ne_sr h) ?_ hP hD hS
  rw [cl_ce_ra (η := cl_wr η o k v) (ci := ct) hk h24, hg]
  rfl
theorem cl_wr_fn (k v : Nat) : (fun j => cl_rf ad (cl_r (cl_wr η o k v) o j)) = va_up (fun j => cl_rf ad (cl_r η o j)) k (cl_rf ad v) := by
  funext j
  by_cases h : j = k
  · subst h
    simp [cl_r, cl_wr, cl_sr, va_up]
  · simp [cl_r, cl_wr, cl_sr, va_up, h]
theorem cl_sa {C : String} (t0 ct : Nat) (S : CallFix p m c cc nL s args lw_all own) (V : cl_V D dA B ad A H0 η s H locs) (ha : cl_at ad η a o) (hk : cl_k η o = ct) (h24 : ¬ ct < 24) (ht : (cl_ty dA)[t0]? = some (dA ct, .object C)) {i : Int32} (hin : vp_in i (cl_l η o)) {b v : Nat} (hb : cl_at ad η b v) (hany : va_Any C s H b) (hdg : decode cc pc = .ok (.aastore, 1))
    (kk : ∀ (H1 : Heap) (locs1 : List Loc), cl_V D dA B ad A H0 (cl_wr η o i.toNatClampNeg v) s H1 locs1 → W p l e R s m args below meth c H1 locs1 cells slots Q (F0 m (pc + 1) ls rest)) : W p l e R s m args below meth c H locs cells slots Q (F0 m pc ls (.ref b :: .int i :: .ref a :: rest)) := by
  obtain ⟨rfl, h1, h2⟩ := ha
  replace h1 := cl_Kk V.2.2.2.2.2.2.1 h1 hk (cl_ck_24 h24)
  obtain ⟨rfl, b1, b2⟩ := hb
  refine va_astqM S.1 S.2.1 V.2.1 V.2.2.1 V.2.2.2.1 V.2.2.2.2.1 (o - 1 - cl_K) t0 (by rw [cl_ws_at h1 h2, cl_ce_ra hk h24]) ht hany hin hdg (fun H1 locs1 hP hD hS => kk H1 locs1 (cl_V_ar V h1 hk h24 b2 ?_ hP hD hS))
  rw [cl_wr_fn, cl_rf_s (by omega)]
theorem cl_san {C : String} (t0 ct : Nat) (S : CallFix p m c cc nL s args lw_all own) (V : cl_V D dA B ad A H0 η s H locs) (ha : cl_at ad η a o) (hk : cl_k η o = ct) (h24 : ¬ ct < 24) (ht : (cl_ty dA)[t0]? = some (dA ct, .object C)) {i : Int32} (hin : vp_in i (cl_l η o)) (hdg : decode cc pc = .ok (.aastore, 1))
    (kk : ∀ (H1 : Heap) (locs1 : List Loc), cl_V D dA B ad A H0 (cl_wr η o i.toNatClampNeg 0) s H1 locs1 → W p l e R s m args below meth c H1 locs1 cells slots Q (F0 m (pc + 1) ls rest)) : W p l e R s m args below meth c H locs cells slots Q (F0 m pc ls (.null :: .int i :: .ref a :: rest)) := by
  obtain ⟨rfl, h1, h2⟩ := ha
  replace h1 := cl_Kk V.2.2.2.2.2.2.1 h1 hk (cl_ck_24 h24)
  refine va_astqN S.1 S.2.1 V.2.1 V.2.2.1 V.2.2.2.1 V.2.2.2.2.1 (o - 1 - cl_K) t0 (by rw [cl_ws_at h1 h2, cl_ce_ra hk h24]) ht hin hdg (fun H1 locs1 hP hD hS => kk H1 locs1 (cl_V_ar V h1 hk h24 (Nat.zero_le _) ?_ hP hD hS))
  rw [cl_wr_fn, cl_rf_n rfl]
/-- an object of a known class may stand where E is wanted -/
theorem cl_any {C E : String} {T : u_T} {N ci : Nat} (V : cl_V D dA B ad A H0 η s H locs) (ha : cl_at ad η a o) (hk : cl_k η o = ci) (hc : vwCl[ci]? = some (C, T, N)) (h20 : ci < 20) (hE : Cond.castable C E ∈ cl_nws) : va_Any E s H a := by
  obtain ⟨rfl, h1, h2⟩ := ha
  replace h1 := cl_Kk V.2.2.2.2.2.2.1 h1 hk (cl_ck_ob hc)
  refine va_rAny (q0 := o - 1 - cl_K) (ci := ci) V.2.1 V.2.2.1 (by rw [cl_ws_at h1 h2, cl_ce_ob hk h20]) hc (fun comp c0 g1 g2 => ?_)
  obtain ⟨c1, t1, f1, f2, f3⟩ := Cond.castable_spec (va_Nw.use (A := #[]) rfl (V.1.1 _ hE))
  cases f1.symm.trans g2
  cases f2.symm.trans g1
  exact f3
theorem cl_anyS {C : String} {T : u_T} {N ci : Nat} (V : cl_V D dA B ad A H0 η s H locs) (ha : cl_at ad η a o) (hk : cl_k η o = ci) (hc : vwCl[ci]? = some (C, T, N)) (h20 : ci < 20) : va_Any C s H a := by
  obtain ⟨rfl, h1, h2⟩ := ha
  replace h1 := cl_Kk V.2.2.2.2.2.2.1 h1 hk (cl_ck_ob hc)
  refine va_rAny (q0 := o - 1 - cl_K) (ci := ci) V.2.1 V.2.2.1 (by rw [cl_ws_at h1 h2, cl_ce_ob hk h20]) hc (fun comp c0 g1 g2 => ?_)
  cases g1.symm.trans g2
  rw [Option.some.inj (g1.symm.trans (V.2.1.1 ci _ hc).2.1)]
  exact va_assign (V.2.1.1 ci _ hc).2
theorem cl_anyP (V : cl_V D dA B ad A H0 η s H locs) (ha : cl_at ad η a o) (hk : 9 ≤ cl_k η o ∧ cl_k η o ≤ 13) : va_Any RX10 s H a := by
  have h : cl_k η o = 9 ∨ cl_k η o = 10 ∨ cl_k η o = 11 ∨ cl_k η o = 12 ∨ cl_k η o = 13 := by omega
  rcases h with h | h | h | h | h
  · exact cl_any V ha h rfl (by decide) cn_q2072
  · exact cl_any V ha h rfl (by decide) cn_q2071
  · exact cl_any V ha h rfl (by decide) cn_q2070
  · exact cl_any V ha h rfl (by decide) cn_q2074
  · exact cl_any V ha h rfl (by decide) cn_q2073
theorem cl_len (t0 ct : Nat) {ty : FieldType} (S : CallFix p m c cc nL s args lw_all own) (V : cl_V D dA B ad A H0 η s H locs) (ha : cl_at ad η a o) (hk : cl_k η o = ct) (h20 : ¬ ct < 20) (hck : cl_ck ct = false) (ht : (cl_ty dA)[t0]? = some (dA ct, ty)) (hdg : decode cc pc = .ok (.arraylength, 1))
    (kk : W p l e R s m args below meth c H locs cells slots Q (F0 m (pc + 1) ls (.int (Int32.ofNat (cl_l η o)) :: rest))) : W p l e R s m args below meth c H locs cells slots Q (F0 m pc ls (.ref a :: rest)) := by
  obtain ⟨rfl, h1, h2⟩ := ha
  replace h1 := cl_Kk V.2.2.2.2.2.2.1 h1 hk hck
  by_cases h24 : ct < 24
  · exact va_alen S.1 S.2.1 V.2.1 V.2.2.1 (o - 1 - cl_K) t0 (by rw [cl_ws_at h1 h2, cl_ce_ia hk h20 h24]) ht rfl hdg kk
  · exact va_alen S.1 S.2.1 V.2.1 V.2.2.1 (o - 1 - cl_K) t0 (by rw [cl_ws_at h1 h2, cl_ce_ra hk h24]) ht rfl hdg kk
/-- making -/
theorem cl_V_nw {c0 n q : Nat} {e0 : va_E} {H1 : Heap} {locs1 : List Loc} (V : cl_V D dA B ad A H0 η s H locs) (hck : cl_ck c0 = false) (he : cl_ce dA (va_up ad (cl_n η + 1) q) (cl_nw η c0 n) (cl_n η + 1) = e0) (hP : va_P D vwCl (cl_ws dA ad η ++ [(q, e0)]) H1) (hD : va_D A (cl_ws dA ad η ++ [(q, e0)])) (hS : va_S A H0 H1 locs1) : cl_V D dA B (va_up ad (cl_n η + 1) q) A H0 (cl_nw η c0 n) s H1 locs1 := by
  rw [cl_ws_nw V.2.2.2.2.2.2.1.2.1 V.2.2.2.2.2.2.1.1 he] at hP hD
  exact ⟨V.1, V.2.1, hP, hD, hS, V.2.2.2.2.2.1, cl_Z_nw V.2.2.2.2.2.2.1 hck, fun o h => by rw [va_up_ne _ _ (by have := V.2.2.2.2.2.2.2.2; omega)]; exact V.2.2.2.2.2.2.2.1 o h, Nat.le_trans V.2.2.2.2.2.2.2.2 (Nat.le_succ _)⟩
theorem cl_nw_at {c0 n q : Nat} : cl_at (va_up ad (cl_n η + 1) q) (cl_nw η c0 n) q (cl_n η + 1) := ⟨by rw [va_up_self], Nat.succ_le_succ (Nat.zero_le _), Nat.le_refl _⟩
theorem cl_nw_ag {q : Nat} : ∀ x, x ≤ cl_n η → va_up ad (cl_n η + 1) q x = ad x := fun x hx => va_up_ne _ _ (by omega)
def cl_df (c : Nat) : List Value := (cl_fk c).map (fun b => if b then .int 0 else .null)
theorem cl_ob_nw {ad' : Nat → Nat} {η' : cl_S} {o' : Nat} (h1 : ∀ k, cl_i η' o' k = 0) (h2 : ∀ k, cl_r η' o' k = 0) : ∀ (bs : List Bool) (j : Nat), cl_ob ad' η' o' bs j = bs.map (fun b => if b then .int 0 else .null) := by
  intro bs
  induction bs with
  | nil => intro j; rfl
  | cons b bs ih =>
    intro j
    cases b
    · simp [cl_ob, ih, h2, cl_rf, va_rf]
    · simp [cl_ob, ih, h1]
theorem cl_new {C : String} {T : u_T} {N ci index : Nat} (S : CallFix p m c cc nL s args lw_all own) (V : cl_V D dA B ad A H0 η s H locs) (hc : vwCl[ci]? = some (C, T, N)) (h20 : ci < 20) (hin : ∀ w ∈ u_ws C T N, w ∈ lw_all) (ty0 : Nat → FieldType) (hty : ∀ k, k < N → parseFieldDescriptor (T k).2.2.1 = some (ty0 k)) (hdf : ∀ j, j < N → defaultValue (ty0 j) = vp_V (cl_df ci) j) (hcl : Cond.classLink own index C ∈ lw_all) (hinst : Cond.instantiable C N ∈ lw_all) (hini : Cond.initialized C ∈ lw_all) (hcells : cells + 1 ≤ R.cells) (hslots : slots + N ≤ R.slots) (hdg : decode cc pc = .ok (.new index, 3))
    (kk : ∀ (b : Nat) (ad' : Nat → Nat) (H1 : Heap), (∀ x, x ≤ cl_n η → ad' x = ad x) → cl_at ad' (cl_nw η ci 0) b (cl_n η + 1) → cl_V D dA B ad' A H0 (cl_nw η ci 0) s H1 locs → W p l e R s m args below meth c H1 locs (cells + 1) (slots + N) Q (F0 m (pc + 3) ls (.ref b :: rest))) : W p l e R s m args below meth c H locs cells slots Q (F0 m pc ls rest) := by
  refine va_new (D := D) (ci := ci) (fs := cl_df ci) (C := C) (T := T) (N := N) S.1 S.2.1 S.2.2.2.2 hin ty0 hty S.2.2.2.1 (S.2.2.2.2 _ hcl) (S.2.2.2.2 _ hinst) (S.2.2.2.2 _ hini) V.2.1 V.2.2.1 V.2.2.2.1 V.2.2.2.2.1 V.2.2.2.2.2.1 hc hdf hcells hslots hdg (fun q H1 hP hD hS => kk q _ H1 cl_nw_ag cl_nw_at (cl_V_nw V (cl_ck_ob hc) ?_ hP hD hS))
  have hk : cl_k (cl_nw η ci 0) (cl_n η + 1) = ci := by simp [cl_k, cl_nw, va_up, cl_n]
  rw [cl_ce_ob hk h20, cl_ob_nw (fun k => by simp [cl_i, cl_nw, va_up, cl_n]) (fun k => by simp [cl_r, cl_nw, va_up, cl_n])]
  rfl
theorem cl_newa (t0 ct : Nat) {atype : ArrayType} {ty : FieldType} (S : CallFix p m c cc nL s args lw_all own) (V : cl_V D dA B ad A H0 η s H locs) (g1 : ¬ ct < 20) (g2 : ct < 24) (hck : cl_ck ct = false) (ht : (cl_ty dA)[t0]? = some (dA ct, ty)) (hty : newarray.typeOf atype = ty) (hprim : ∀ (u : State) (x : ClassId), va_RA u x ty → u.vm.findClass ("[" ++ ty.toString) = some x) (harr : Cond.arrayClass ty ∈ lw_all) (hdv : defaultValue ty = .int 0) {n : Int32} {N' : Nat} (hn : ¬ n < 0) (hN : n.toNatClampNeg = N') (hbytes : N' * componentBytes ty ≤ 536870912) (hcells : cells + 1 ≤ R.cells) (hslots : slots + N' ≤ R.slots) (hdg : decode cc pc = .ok (.newarray atype, 2))
    (kk : ∀ (b : Nat) (ad' : Nat → Nat) (H1 : Heap), (∀ x, x ≤ cl_n η → ad' x = ad x) → cl_at ad' (cl_nw η ct N') b (cl_n η + 1) → cl_V D dA B ad' A H0 (cl_nw η ct N') s H1 locs → W p l e R s m args below meth c H1 locs (cells + 1) (slots + N') Q (F0 m (pc + 2) ls (.ref b :: rest))) : W p l e R s m args below meth c H locs cells slots Q (F0 m pc ls (.int n :: rest)) := by
  refine va_newa (ty := ty) (a0 := (N', .inl (fun _ => 0))) S.1 S.2.1 (by rw [hty]; exact S.2.2.2.2 _ harr) hty V.2.1 V.2.2.1 V.2.2.2.1 V.2.2.2.2.1 V.2.2.2.2.2.1 (fun cA => by rw [vp_cell_i, hdv]) hn hN hbytes hcells hslots hdg (fun q cA H1 hK hP hD hS => kk q _ H1 cl_nw_ag cl_nw_at (cl_V_nw V hck ?_ hP hD hS))
  have hx : cA = dA ct := by
    have h1 := hprim s cA (hK.2 7 (cA, ty) rfl).2
    have h2 := hprim s (dA ct) (V.2.1.2 t0 _ ht).2
    exact Option.some.inj (h1.symm.trans h2)
  subst hx
  have hk : cl_k (cl_nw η ct N') (cl_n η + 1) = ct := by simp [cl_k, cl_nw, va_up, cl_n]
  rw [cl_ce_ia hk g1 g2]
  have e1 : cl_i (cl_nw η ct N') (cl_n η + 1) = fun _ => 0 := by funext k; simp [cl_i, cl_nw, va_up, cl_n]
  have e2 : cl_l (cl_nw η ct N') (cl_n η + 1) = N' := by simp [cl_l, cl_nw, va_up, cl_n]
  rw [e1, e2]
theorem cl_newr {C : String} (t0 ct : Nat) {index : Nat} (S : CallFix p m c cc nL s args lw_all own) (V : cl_V D dA B ad A H0 η s H locs) (h24 : ¬ ct < 24) (ht : (cl_ty dA)[t0]? = some (dA ct, .object C)) (hcl : Cond.classLink own index C ∈ lw_all) (hover : va_AO C s) {n : Int32} {N' : Nat} (hn : ¬ n < 0) (hN : n.toNatClampNeg = N') (hbytes : N' * 4 ≤ 536870912) (hcells : cells + 1 ≤ R.cells) (hslots : slots + N' ≤ R.slots) (hdg : decode cc pc = .ok (.anewarray index, 3))
    (kk : ∀ (b : Nat) (ad' : Nat → Nat) (H1 : Heap), (∀ x, x ≤ cl_n η → ad' x = ad x) → cl_at ad' (cl_nw η ct N') b (cl_n η + 1) → cl_V D dA B ad' A H0 (cl_nw η ct N') s H1 locs → W p l e R s m args below meth c H1 locs (cells + 1) (slots + N') Q (F0 m (pc + 3) ls (.ref b :: rest))) : W p l e R s m args below meth c H locs cells slots Q (F0 m pc ls (.int n :: rest)) := by
  refine va_newq S.1 S.2.1 S.2.2.2.1 (S.2.2.2.2 _ hcl) hover V.2.1 V.2.2.1 V.2.2.2.1 V.2.2.2.2.1 V.2.2.2.2.2.1 hn hN hbytes hcells hslots hdg (fun q cA H1 hK hP hD hS => kk q _ H1 cl_nw_ag cl_nw_at (cl_V_nw V (cl_ck_24 h24) ?_ hP hD hS))
  have hx : cA = dA ct := by
    obtain ⟨_, _, _, _, _, h1⟩ := (hK.2 7 (cA, .object C) rfl).2
    obtain ⟨_, _, _, _, _, h2⟩ := (V.2.1.2 t0 _ ht).2
    exact Option.some.inj (h1.symm.trans h2)
  subst hx
  have hk : cl_k (cl_nw η ct N') (cl_n η + 1) = ct := by simp [cl_k, cl_nw, va_up, cl_n]
  rw [cl_ce_ra hk h24]
  have e1 : (fun j => cl_rf (va_up ad (cl_n η + 1) q) (cl_r (cl_nw η ct N') (cl_n η + 1) j)) = fun _ => none := by funext k; simp [cl_r, cl_nw, va_up, cl_n, cl_rf]
  have e2 : cl_l (cl_nw η ct N') (cl_n η + 1) = N' := by simp [cl_l, cl_nw, va_up, cl_n]
  rw [e1, e2]
end CLA
