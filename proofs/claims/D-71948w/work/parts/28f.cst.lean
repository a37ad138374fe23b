/-! Strings: constants among the ids (kinds 18, 23), read like the others -/
section CST
variable {p : Program} {l : Launch} {e : Env} {R : Room} {s : State} {m : MethodId} {args : Array Value} {below : List Frame} {meth : Method} {c : Code} {H : Heap} {locs : List Loc} {cells slots : Nat} {Q : State → Prop}
variable {cc : ByteArray} {nL pc : Nat} {ls : Array Slot} {rest : List Value} {D : va_G} {dA : Nat → ClassId} {B : (Nat → Nat) × Nat} {ad : Nat → Nat} {A : Nat → Prop} {η : cl_S} {own ref : String} {a b o o2 index : Nat}
theorem cl_cat {H0 : Heap} {i : Nat} (V : cl_V D dA B ad A H0 η s H locs) (h1 : 1 ≤ i) (h2 : i ≤ 18) : cl_at ad η (B.1 i) i :=
  ⟨(V.2.2.2.2.2.2.2.1 i (Nat.le_trans h2 V.1.x.1)).symm, h1, Nat.le_trans h2 V.2.2.2.2.2.2.1.2.1⟩
/-- a constant's id, its address -/
theorem cl_con {H0 : Heap} {ci : Nat} (V : cl_V D dA B ad A H0 η s H locs) (ha : cl_at ad η a o) (hk : cl_k η o = ci) (hc : cl_ck ci = true) : o ≤ 18 ∧ a = B.1 o ∧ cl_c0k o = ci := by
  have h1 : o ≤ 18 := cl_Kc V.2.2.2.2.2.2.1 hk hc
  refine ⟨h1, ?_, ?_⟩
  · rw [ha.1]; exact V.2.2.2.2.2.2.2.1 o (Nat.le_trans h1 V.1.x.1)
  · rw [← hk]; exact ((V.2.2.2.2.2.2.1.2.2.2 o ha.2.1 h1).1).symm
theorem cl_con_s {H0 : Heap} (V : cl_V D dA B ad A H0 η s H locs) (ha : cl_at ad η a o) (hk : cl_k η o = 18) : o ≤ 8 := by
  obtain ⟨h1, -, h3⟩ := cl_con V ha hk rfl
  unfold cl_c0k at h3
  split at h3
  · assumption
  · omega
theorem cl_con_b {H0 : Heap} (V : cl_V D dA B ad A H0 η s H locs) (ha : cl_at ad η a o) (hk : cl_k η o = 23) : 9 ≤ o := by
  obtain ⟨h1, -, h3⟩ := cl_con V ha hk rfl
  unfold cl_c0k at h3
  split at h3
  · omega
  · omega
/-- a String's coder, its bytes -/
theorem cl_giS (S : CallFix p m c cc nL s args lw_all own) (V : cl_V D dA B ad A s.heap η s H locs) (ha : cl_at ad η a o) (hk : cl_k η o = 16 ∨ cl_k η o = 18) (hlink : Cond.fieldLink own index "java/lang/String" "coder" "B" ∈ lw_all) (hdg : decode cc pc = .ok (.getfield index, 3))
    (kk : W p l e R s m args below meth c H locs cells slots Q (F0 m (pc + 3) ls (.int (cl_i η o 1) :: rest))) : W p l e R s m args below meth c H locs cells slots Q (F0 m pc ls (.ref a :: rest)) := by
  rcases hk with hk | hk
  · exact cl_gi S V ha hk rfl (by decide) in_J4 1 (by decide) rfl hlink rfl hdg kk
  · have h8 := cl_con_s V ha hk
    obtain ⟨h1, rfl, -⟩ := cl_con V ha hk rfl
    have e : cl_i η o 1 = 0 := by
      rw [(V.2.2.2.2.2.2.1.2.2.2 o ha.2.1 h1).2.2.1]
      have h : o = 1 ∨ o = 2 ∨ o = 3 ∨ o = 4 ∨ o = 5 ∨ o = 6 ∨ o = 7 ∨ o = 8 := by have := ha.2.1; omega
      rcases h with rfl | rfl | rfl | rfl | rfl | rfl | rfl | rfl <;> rfl
    rw [e] at kk
    exact vk_getf S.1 S.2.1 (V.1.x.2.1.1 o ha.2.1 h8).2.1 V.2.2.2.2.1 S.2.2.2.1 (S.2.2.2.2 _ hlink) (fun _ h => h) hdg kk
theorem cl_grS (S : CallFix p m c cc nL s args lw_all own) (V : cl_V D dA B ad A s.heap η s H locs) (ha : cl_at ad η a o) (hk : cl_k η o = 16 ∨ cl_k η o = 18) (hlink : Cond.fieldLink own index "java/lang/String" "value" "[B" ∈ lw_all) (hdg : decode cc pc = .ok (.getfield index, 3)) (h0 : ¬ cl_r η o 0 = 0)
    (kk : ∀ b : Nat, cl_at ad η b (cl_r η o 0) → W p l e R s m args below meth c H locs cells slots Q (F0 m (pc + 3) ls (.ref b :: rest))) : W p l e R s m args below meth c H locs cells slots Q (F0 m pc ls (.ref a :: rest)) := by
  rcases hk with hk | hk
  · exact cl_gr S V ha hk rfl (by decide) in_J4 0 (by decide) rfl hlink rfl hdg h0 kk
  · have h8 := cl_con_s V ha hk
    obtain ⟨h1, rfl, -⟩ := cl_con V ha hk rfl
    have e : cl_r η o 0 = o + 8 := by
      rw [(V.2.2.2.2.2.2.1.2.2.2 o ha.2.1 h1).2.2.2]
      unfold cl_c0r
      rw [if_pos h8]
      rfl
    rw [e] at kk
    exact vk_getf S.1 S.2.1 (V.1.x.2.1.1 o ha.2.1 h8).2.2 V.2.2.2.2.1 S.2.2.2.1 (S.2.2.2.2 _ hlink) (fun _ h => h) hdg (kk _ (cl_cat V (by omega) (by omega)))
/-- bytes -/
theorem cl_ldbS (S : CallFix p m c cc nL s args lw_all own) (V : cl_V D dA B ad A s.heap η s H locs) (ha : cl_at ad η a o) (hk : cl_k η o = 21 ∨ cl_k η o = 23) {i : Int32} (hin : vp_in i (cl_l η o)) (hdg : decode cc pc = .ok (.baload, 1))
    (kk : W p l e R s m args below meth c H locs cells slots Q (F0 m (pc + 1) ls (.int (cl_i η o i.toNatClampNeg) :: rest))) : W p l e R s m args below meth c H locs cells slots Q (F0 m pc ls (.int i :: .ref a :: rest)) := by
  rcases hk with hk | hk
  · exact cl_ldb S V ha hk hin hdg kk
  · have h9 := cl_con_b V ha hk
    obtain ⟨h1, rfl, -⟩ := cl_con V ha hk rfl
    have hC := V.2.2.2.2.2.2.1.2.2.2 o ha.2.1 h1
    rw [hC.2.1] at hin
    rw [hC.2.2.1] at kk
    exact va_tb S.1 S.2.1 (V.1.x.2.1.2 o h9 h1) V.2.2.2.2.1 hin rfl hdg kk
theorem cl_lenS (S : CallFix p m c cc nL s args lw_all own) (V : cl_V D dA B ad A s.heap η s H locs) (ha : cl_at ad η a o) (hk : cl_k η o = 21 ∨ cl_k η o = 23) (hdg : decode cc pc = .ok (.arraylength, 1))
    (kk : W p l e R s m args below meth c H locs cells slots Q (F0 m (pc + 1) ls (.int (Int32.ofNat (cl_l η o)) :: rest))) : W p l e R s m args below meth c H locs cells slots Q (F0 m pc ls (.ref a :: rest)) := by
  rcases hk with hk | hk
  · exact cl_len 1 21 S V ha hk (by decide) (by decide) rfl hdg kk
  · have h9 := cl_con_b V ha hk
    obtain ⟨h1, rfl, -⟩ := cl_con V ha hk rfl
    have hC := V.2.2.2.2.2.2.1.2.2.2 o ha.2.1 h1
    rw [hC.2.1] at kk
    exact va_tlen S.1 S.2.1 (V.1.x.2.1.2 o h9 h1) V.2.2.2.2.1 rfl hdg kk
theorem cl_recvS (V : cl_V D dA B ad A s.heap η s H locs) (ha : cl_at ad η a o) (hk : cl_k η o = 16 ∨ cl_k η o = 18) : ∃ cell : Cell, H[a]? = some cell ∧ cell.vm.isStatics = false ∧ s.vm.findClass "java/lang/String" = some cell.cls := by
  rcases hk with hk | hk
  · exact cl_recv V ha hk rfl (by decide)
  · have h8 := cl_con_s V ha hk
    obtain ⟨h1, rfl, -⟩ := cl_con V ha hk rfl
    obtain ⟨cell, q1, q2, q3, -⟩ := (V.1.x.2.1.1 o ha.2.1 h8).1.kept V.2.2.2.2.1.2.1
    exact ⟨cell, q1, q2, q3⟩
theorem cl_preVS (V : cl_V D dA B ad A s.heap η s H locs) (As : List Value) (ha : cl_at ad η a o) (hk : cl_k η o = 16 ∨ cl_k η o = 18) : PreV s H "java/lang/String" a (cl_Pre D dA ad A (.ref a :: As) η) As := ⟨cl_blind, cl_recvS V ha hk, cl_pre V (.ref a :: As)⟩
/-- a made String isn't a constant -/
theorem cl_neSC (V : cl_V D dA B ad A s.heap η s H locs) (ha : cl_at ad η a o) (hk : cl_k η o = 16) (hb : cl_at ad η b o2) (hk2 : cl_k η o2 = 18) : ¬ a = b := by
  intro he
  have h8 := cl_con_s V hb hk2
  obtain ⟨h1, e1, -⟩ := cl_con V hb hk2 rfl
  obtain ⟨cell, q1, q2, q3, q4⟩ := (V.1.x.2.1.1 o2 hb.2.1 h8).1
  have hK := cl_Kk V.2.2.2.2.2.2.1 ha.2.1 hk (by decide)
  have hA := V.2.2.2.1.2 (o - 1 - cl_K) _ (cl_ws_at hK ha.2.2)
  rw [← ha.1, he, e1] at hA
  exact q4 hA
theorem cl_cf_i {ty : FieldType} {f : Nat → Int32} {sp n : Nat} (h : cl_cf ty f sp n = true) (i : Nat) (hi : i < n) : fits ty (.int (f (sp + i))) = true := List.all_eq_true.mp h i (List.mem_range.mpr hi)
/-- System.arraycopy between arrays of numbers of one kind -/
theorem cl_cpn (t0 ct : Nat) {ty : FieldType} {sp dp n : Int32} (S : CallFix p m c cc nL s args lw_all own) (V : cl_V D dA B ad A s.heap η s H locs) (ha : cl_at ad η a o) (hk : cl_k η o = ct) (hb : cl_at ad η b o2) (hk2 : cl_k η o2 = ct) (g1 : ¬ ct < 20) (g2 : ct < 24) (hck : cl_ck ct = false) (ht : (cl_ty dA)[t0]? = some (dA ct, ty)) (hpr : ty = .int ∨ ty = .byte ∨ ty = .short) (hl : ls.size = nL) (hlink : Cond.methodLink own index arraycopyName ∈ lw_all) (hnat : Cond.native arraycopyName ∈ lw_all) (hstat : Cond.static arraycopyName ∈ lw_all) (hini : Cond.initialized "java/lang/System" ∈ lw_all)
    (hg : cl_cg η o o2 sp dp n = true) (hfit : cl_cf ty (cl_i η o) sp.toNatClampNeg n.toNatClampNeg = true) (hframes : 1 ≤ R.frames) (hlocals : (rest.map fun v => v.category).sum + (nativeFrameWords "java/lang/System" "arraycopy" 5 + 11) ≤ R.locals) (hdg : decode cc pc = .ok (.invokestatic index, 3))
    (kk : ∀ (H1 : Heap) (locs1 : List Loc), cl_V D dA B ad A s.heap (cl_cp η o o2 sp dp n) s H1 locs1 → W p l e R s m args below meth c H1 locs1 cells slots Q (F0 m (pc + 3) ls rest)) : W p l e R s m args below meth c H locs cells slots Q (F0 m pc ls (.int n :: .int dp :: .ref b :: .int sp :: .ref a :: rest)) := by
  obtain ⟨rfl, h1, h2⟩ := ha
  obtain ⟨rfl, k1, k2⟩ := hb
  replace h1 := cl_Kk V.2.2.2.2.2.2.1 h1 hk hck
  replace k1 := cl_Kk V.2.2.2.2.2.2.1 k1 hk2 hck
  obtain ⟨q1, q2, q3, q4, q5⟩ := of_decide_eq_true hg
  refine va_copyi (ty := ty) S.1 S.2.1 (by rw [hl]; exact S.2.2.1) S.2.2.2.1 (S.2.2.2.2 _ hlink) (S.2.2.2.2 _ hnat) (S.2.2.2.2 _ hstat) (S.2.2.2.2 _ hini) V.2.1 V.2.2.1 V.2.2.2.1 V.2.2.2.2.1 (o - 1 - cl_K) (o2 - 1 - cl_K) t0 t0 (by rw [cl_ws_at h1 h2, cl_ce_ia hk g1 g2]) (by rw [cl_ws_at k1 k2, cl_ce_ia hk2 g1 g2]) ht ht (by rcases hpr with rfl | rfl | rfl <;> rfl) q1 q2 q3 q4 q5 (fun i hi => cl_cf_i hfit i hi) hframes hlocals hdg (fun H1 locs1 hP hD hS => kk H1 locs1 ?_)
  exact cl_V_ai V k1 hk2 g1 g2 hP hD hS
/-- .. out of bytes that may be a constant's -/
theorem cl_cpb {sp dp n : Int32} (S : CallFix p m c cc nL s args lw_all own) (V : cl_V D dA B ad A s.heap η s H locs) (ha : cl_at ad η a o) (hk : cl_k η o = 21 ∨ cl_k η o = 23) (hb : cl_at ad η b o2) (hk2 : cl_k η o2 = 21) (hl : ls.size = nL) (hlink : Cond.methodLink own index arraycopyName ∈ lw_all) (hnat : Cond.native arraycopyName ∈ lw_all) (hstat : Cond.static arraycopyName ∈ lw_all) (hini : Cond.initialized "java/lang/System" ∈ lw_all)
    (hg : cl_cg η o o2 sp dp n = true) (hfit : cl_cf .byte (cl_i η o) sp.toNatClampNeg n.toNatClampNeg = true) (hframes : 1 ≤ R.frames) (hlocals : (rest.map fun v => v.category).sum + (nativeFrameWords "java/lang/System" "arraycopy" 5 + 11) ≤ R.locals) (hdg : decode cc pc = .ok (.invokestatic index, 3))
    (kk : ∀ (H1 : Heap) (locs1 : List Loc), cl_V D dA B ad A s.heap (cl_cp η o o2 sp dp n) s H1 locs1 → W p l e R s m args below meth c H1 locs1 cells slots Q (F0 m (pc + 3) ls rest)) : W p l e R s m args below meth c H locs cells slots Q (F0 m pc ls (.int n :: .int dp :: .ref b :: .int sp :: .ref a :: rest)) := by
  rcases hk with hk | hk
  · exact cl_cpn 1 21 S V ha hk hb hk2 (by decide) (by decide) (by decide) rfl (Or.inr (Or.inl rfl)) hl hlink hnat hstat hini hg hfit hframes hlocals hdg kk
  · have h9 := cl_con_b V ha hk
    obtain ⟨h1, rfl, -⟩ := cl_con V ha hk rfl
    obtain ⟨rfl, k1, k2⟩ := hb
    replace k1 := cl_Kk V.2.2.2.2.2.2.1 k1 hk2 (by decide)
    obtain ⟨q1, q2, q3, q4, q5⟩ := of_decide_eq_true hg
    have hC := V.2.2.2.2.2.2.1.2.2.2 o ha.2.1 h1
    rw [hC.2.1] at q4
    rw [hC.2.2.1] at hfit
    refine vk_copyt S.1 S.2.1 (by rw [hl]; exact S.2.2.1) S.2.2.2.1 (S.2.2.2.2 _ hlink) (S.2.2.2.2 _ hnat) (S.2.2.2.2 _ hstat) (S.2.2.2.2 _ hini) V.2.1 V.2.2.1 V.2.2.2.1 V.2.2.2.2.1 (V.1.x.2.1.2 o h9 h1) (o2 - 1 - cl_K) 1 (by rw [cl_ws_at k1 k2, cl_ce_ia hk2 (by decide) (by decide)]) rfl q1 q2 q3 q4 q5 (fun i hi => cl_cf_i hfit i hi) hframes hlocals hdg (fun H1 locs1 hP hD hS => kk H1 locs1 ?_)
    unfold cl_cp
    rw [hC.2.2.1]
    exact cl_V_ai V k1 hk2 (by decide) (by decide) hP hD hS
/-- fields of a small type -/
theorem cl_piB {C : String} {T : u_T} {N ci : Nat} {H0 : Heap} (S : CallFix p m c cc nL s args lw_all own) (V : cl_V D dA B ad A H0 η s H locs) (ha : cl_at ad η a o) (hk : cl_k η o = ci) (hc : vwCl[ci]? = some (C, T, N)) (h20 : ci < 20) (hin : ∀ w ∈ u_ws C T N, w ∈ lw_all) (ty0 : Nat → FieldType) (hty : ∀ k, k < N → parseFieldDescriptor (T k).2.2.1 = some (ty0 k)) (hnm : ∀ a, a < N → ∀ b, b < N → a ≠ b → (T a).2.1 ≠ (T b).2.1) (k : Nat) (hkN : k < N) (hf : (cl_fk ci)[k]? = some true) (hlink : Cond.fieldLink own index ref (T k).2.1 (T k).2.2.1 ∈ lw_all) (hs : (T k).1 = ref) (hfin : (T k).2.2.2 = false) {v : Int32} (hn : narrow (ty0 k) (.int v) = .int v) (hfit : fits (ty0 k) (.int v) = true) (hdg : decode cc pc = .ok (.putfield index, 3))
    (kk : ∀ (H1 : Heap) (locs1 : List Loc), cl_V D dA B ad A H0 (cl_wi η o k v) s H1 locs1 → W p l e R s m args below meth c H1 locs1 cells slots Q (F0 m (pc + 3) ls rest)) : W p l e R s m args below meth c H locs cells slots Q (F0 m pc ls (.int v :: .ref a :: rest)) := by
  obtain ⟨rfl, h1, h2⟩ := ha
  replace h1 := cl_Kk V.2.2.2.2.2.2.1 h1 hk (cl_ck_ob hc)
  refine va_put (D := D) (ci := ci) (v := .int v) (ty := ty0 k) (C := C) (T := T) (N := N) S.1 S.2.1 S.2.2.2.2 hin ty0 hty hnm S.2.2.2.1 V.2.1 V.2.2.1 V.2.2.2.1 V.2.2.2.2.1 (o - 1 - cl_K) (by rw [cl_ws_at h1 h2, cl_ce_ob hk h20]) hc k hkN (S.2.2.2.2 _ hlink) (fun x h9 => by rw [hs] at h9; exact h9) hfin (hty k hkN) hn hfit ?_ hdg (fun H1 locs1 hP hD hS => kk H1 locs1 (cl_V_wi V h1 hk h20 hf hP hD hS))
  rw [cl_ob_len]
  exact (List.getElem?_eq_some_iff.mp hf).1
theorem cl_piBF {C : String} {T : u_T} {N ci : Nat} {H0 : Heap} (S : CallFix p m c cc nL s args lw_all own) (V : cl_V D dA B ad A H0 η s H locs) (ha : cl_at ad η a o) (hk : cl_k η o = ci) (hc : vwCl[ci]? = some (C, T, N)) (h20 : ci < 20) (hin : ∀ w ∈ u_ws C T N, w ∈ lw_all) (ty0 : Nat → FieldType) (hty : ∀ k, k < N → parseFieldDescriptor (T k).2.2.1 = some (ty0 k)) (hnm : ∀ a, a < N → ∀ b, b < N → a ≠ b → (T a).2.1 ≠ (T b).2.1) (k : Nat) (hkN : k < N) (hf : (cl_fk ci)[k]? = some true) (hlink : Cond.fieldLink own index ref (T k).2.1 (T k).2.2.1 ∈ lw_all) (hs : (T k).1 = ref) (hfin : (T k).2.2.2 = true) (hini : meth.name = "<init>") (hdecl : (T k).1 = own) {v : Int32} (hn : narrow (ty0 k) (.int v) = .int v) (hfit : fits (ty0 k) (.int v) = true) (hdg : decode cc pc = .ok (.putfield index, 3))
    (kk : ∀ (H1 : Heap) (locs1 : List Loc), cl_V D dA B ad A H0 (cl_wi η o k v) s H1 locs1 → W p l e R s m args below meth c H1 locs1 cells slots Q (F0 m (pc + 3) ls rest)) : W p l e R s m args below meth c H locs cells slots Q (F0 m pc ls (.int v :: .ref a :: rest)) := by
  obtain ⟨rfl, h1, h2⟩ := ha
  replace h1 := cl_Kk V.2.2.2.2.2.2.1 h1 hk (cl_ck_ob hc)
  refine va_putF (D := D) (ci := ci) (v := .int v) (ty := ty0 k) (C := C) (T := T) (N := N) S.1 S.2.1 S.2.2.2.2 hin ty0 hty hnm S.2.2.2.1 V.2.1 V.2.2.1 V.2.2.2.1 V.2.2.2.2.1 (o - 1 - cl_K) (by rw [cl_ws_at h1 h2, cl_ce_ob hk h20]) hc k hkN (S.2.2.2.2 _ hlink) (fun x h9 => by rw [hs] at h9; exact h9) hfin hini hdecl (hty k hkN) hn hfit ?_ hdg (fun H1 locs1 hP hD hS => kk H1 locs1 (cl_V_wi V h1 hk h20 hf hP hD hS))
  rw [cl_ob_len]
  exact (List.getElem?_eq_some_iff.mp hf).1
end CST
theorem cl_cwQ {R : Room} {s : State} {args : Array Value} {own C owner : String} {index maxL : Nat} {x y : MethodName} {bytes : ByteArray} {ret : Option FieldType} {rm : Room} {k : Nat} (hts : ∀ w ∈ lw_all, w.before args s = true) (hlink : Cond.methodLink own index x ∈ lw_all) (hsame : Cond.sameMethod x.cls owner x.name x.desc ∈ lw_all) (hdi : Cond.instanceMethod ⟨owner, x.name, x.desc⟩ ∈ lw_all) {b0 : ByteArray} {m0 : Nat} {r0 : Option FieldType} (hdc : Cond.code ⟨owner, x.name, x.desc⟩ b0 m0 r0 ∈ lw_all) (hsel : (Cond.selects C x y).before args s = true) (hin : Cond.instanceMethod y ∈ lw_all) (hini : Cond.initialized y.cls ∈ lw_all) (hco : Cond.code y bytes maxL ret ∈ lw_all) (ho : owner ≠ "java/lang/invoke/MethodHandle" ∧ owner ≠ "java/lang/invoke/VarHandle") (hd : (parseMethodDescriptor x.desc).map (fun d => d.parameters.length) = some k) (hR : rm.frames + 1 ≤ R.frames ∧ 8 + (maxL + 11) + rm.locals ≤ R.locals) : va_CU R s args own C owner index x y bytes maxL ret (ws_ y bytes maxL ret) rm rm.cells rm.slots k := by
  refine ⟨⟨rfl, rfl, hR.1, hR.2, pay_in hts (lw_meth hco), List.mem_cons_self⟩, hts _ hco, hts _ hini, ho, fun sig h => ?_, hts _ hlink, hts _ hsame, va_Decl.of (hts _ hdi) (hts _ hdc), hsel, hts _ hin⟩
  have h2 := hd
  rw [h] at h2
  exact (Option.some.inj h2).symm
