/-! contracts over the abstract heap, calls, ends -/
abbrev cl_Pre (D : va_G) (dA : Nat → ClassId) (ad : Nat → Nat) (A : Nat → Prop) (av : List Value) (η : cl_S) : Array Value → State → Prop := va_Pc av (fun U => cl_N (ad, cl_n η) A U.heap U ∧ va_K D vwCl (cl_ty dA) U ∧ va_P D vwCl (cl_ws dA ad η) U.heap ∧ va_D A (cl_ws dA ad η) ∧ (∀ q, U.heap.size ≤ q → A q) ∧ cl_Z η)
/-- what a method that writes leaves: the new heap, old objects where they were -/
abbrev cl_Bw (D : va_G) (dA : Nat → ClassId) (ad : Nat → Nat) (A : Nat → Prop) (η η' : cl_S) (ad2 : Nat → Nat) (t : State) : Prop := va_P D vwCl (cl_ws dA ad2 η') t.heap ∧ va_D A (cl_ws dA ad2 η') ∧ cl_Z η' ∧ (∀ o, o ≤ cl_n η → ad2 o = ad o) ∧ cl_n η ≤ cl_n η'
abbrev cl_Qi (D : va_G) (dA : Nat → ClassId) (ad : Nat → Nat) (A : Nat → Prop) (η η' : cl_S) (r : Int32) : Array Value → State → Outcome → State → Prop := va_Qi (fun (r2 : Int32) (_ : Nat → Nat) => r2 = r) (cl_Bw D dA ad A η η') A
abbrev cl_Ql (D : va_G) (dA : Nat → ClassId) (ad : Nat → Nat) (A : Nat → Prop) (η η' : cl_S) (r : Int64) : Array Value → State → Outcome → State → Prop := va_Ql (fun (r2 : Int64) (_ : Nat → Nat) => r2 = r) (cl_Bw D dA ad A η η') A
abbrev cl_Qv (D : va_G) (dA : Nat → ClassId) (ad : Nat → Nat) (A : Nat → Prop) (η η' : cl_S) : Array Value → State → Outcome → State → Prop := va_Qv (fun (_ : Nat → Nat) => True) (cl_Bw D dA ad A η η') A
abbrev cl_Qr (D : va_G) (dA : Nat → ClassId) (ad : Nat → Nat) (A : Nat → Prop) (η η' : cl_S) (r : Nat) : Array Value → State → Outcome → State → Prop := va_Qq (fun (r2 : Option Nat) (ad2 : Nat → Nat) => r2 = cl_rf ad2 r ∧ r ≤ cl_n η') (cl_Bw D dA ad A η η') A
def cl_Ci (l : Launch) (y : MethodName) (cc : ByteArray) (nL : Nat) (rt : FieldType) (rm : Room) (D : va_G) (dA : Nat → ClassId) (ad : Nat → Nat) (A : Nat → Prop) (av : List Value) (η : cl_S) (r : Int32) (η' : cl_S) : Prop := Met l y (ws_ y cc nL (some rt)) rm (cl_Pre D dA ad A av η) (cl_Qi D dA ad A η η' r) rm.cells rm.slots A
def cl_Cl (l : Launch) (y : MethodName) (cc : ByteArray) (nL : Nat) (rm : Room) (D : va_G) (dA : Nat → ClassId) (ad : Nat → Nat) (A : Nat → Prop) (av : List Value) (η : cl_S) (r : Int64) (η' : cl_S) : Prop := Met l y (ws_ y cc nL (some .long)) rm (cl_Pre D dA ad A av η) (cl_Ql D dA ad A η η' r) rm.cells rm.slots A
def cl_Cv (l : Launch) (y : MethodName) (cc : ByteArray) (nL : Nat) (rm : Room) (D : va_G) (dA : Nat → ClassId) (ad : Nat → Nat) (A : Nat → Prop) (av : List Value) (η : cl_S) (η' : cl_S) : Prop := Met l y (ws_ y cc nL none) rm (cl_Pre D dA ad A av η) (cl_Qv D dA ad A η η') rm.cells rm.slots A
def cl_Cr (l : Launch) (y : MethodName) (cc : ByteArray) (nL : Nat) (rt : FieldType) (rm : Room) (D : va_G) (dA : Nat → ClassId) (ad : Nat → Nat) (A : Nat → Prop) (av : List Value) (η : cl_S) (r : Nat) (η' : cl_S) : Prop := Met l y (ws_ y cc nL (some rt)) rm (cl_Pre D dA ad A av η) (cl_Qr D dA ad A η η' r) rm.cells rm.slots A
section CLC
variable {p : Program} {l : Launch} {e : Env} {R : Room} {s : State} {m : MethodId} {args : Array Value} {below : List Frame} {meth : Method} {c : Code} {H : Heap} {locs : List Loc} {cells slots mc ms : Nat} {Q : State → Prop}
variable {cc : ByteArray} {nL pc : Nat} {ls : Array Slot} {rest st : List Value} {D : va_G} {dA : Nat → ClassId} {B : (Nat → Nat) × Nat} {ad : Nat → Nat} {A : Nat → Prop} {H0 : Heap} {η η' : cl_S} {own : String} {a o : Nat} {av : Array Value}
theorem cl_blind {av : List Value} : FrameBlind (cl_Pre D dA ad A av η) := fun a U g mk q => by
  obtain ⟨q0, qN, qK, qP, qD, qA, qZ⟩ := q
  exact ⟨q0, cl_N.same (s := U) (U := U.calling g mk a) rfl qN, va_K.moved (u := U) (U := U.calling g mk a) (Vm.Alike.refl U.vm) qK, qP, qD, qA, qZ⟩
theorem cl_recv {C : String} {T : u_T} {N ci : Nat} (V : cl_V D dA B ad A H0 η s H locs) (ha : cl_at ad η a o) (hk : cl_k η o = ci) (hc : vwCl[ci]? = some (C, T, N)) (h20 : ci < 20) : ∃ cellB : Cell, H[a]? = some cellB ∧ cellB.vm.isStatics = false ∧ s.vm.findClass C = some cellB.cls := by
  obtain ⟨rfl, h1, h2⟩ := ha
  replace h1 := cl_Kk V.2.2.2.2.2.2.1 h1 hk (cl_ck_ob hc)
  exact va_recv V.2.1 V.2.2.1 (q0 := o - 1 - cl_K) hc (by rw [cl_ws_at h1 h2, cl_ce_ob hk h20])
theorem cl_pre (V : cl_V D dA B ad A H0 η s H locs) (As : List Value) : ∀ U : State, U.heap = H → s.WarmedH U.vm → cl_Pre D dA ad A As η As.toArray U := fun U hU hW => ⟨rfl, by rw [hU]; exact V.1.call hW V.2.2.2.2.2.2.2.2 V.2.2.2.2.2.2.2.1 V.2.2.2.2.1.2.1, va_K.moved hW.alike V.2.1, by rw [hU]; exact V.2.2.1, V.2.2.2.1, fun q h => V.2.2.2.2.2.1 q (Nat.le_trans V.2.2.2.2.1.1 (by rw [← hU]; exact h)), V.2.2.2.2.2.2.1⟩
theorem cl_preV {C : String} {T : u_T} {N ci : Nat} (V : cl_V D dA B ad A H0 η s H locs) (As : List Value) (ha : cl_at ad η a o) (hk : cl_k η o = ci) (hc : vwCl[ci]? = some (C, T, N)) (h20 : ci < 20) : PreV s H C a (cl_Pre D dA ad A (.ref a :: As) η) As := ⟨cl_blind, cl_recv V ha hk hc h20, cl_pre V (.ref a :: As)⟩
theorem cl_preS (V : cl_V D dA B ad A H0 η s H locs) (As : List Value) : PreS s H (cl_Pre D dA ad A As η) As := ⟨cl_blind, cl_pre V As⟩
theorem cl_V_call {ad2 : Nat → Nat} {t : State} {H1 : Heap} {locs1 : List Loc} (V : cl_V D dA B ad A H0 η s H locs) (ht : t.heap = H1) (hB : cl_Bw D dA ad A η η' ad2 t) (hS : va_S A H0 H1 locs1) : cl_V D dA B ad2 A H0 η' s H1 locs1 := by
  obtain ⟨hP, hD, hZ, hag, hle⟩ := hB
  rw [ht] at hP
  exact ⟨V.1, V.2.1, hP, hD, hS, V.2.2.2.2.2.1, hZ, fun o h => by rw [hag o (Nat.le_trans h V.2.2.2.2.2.2.2.2)]; exact V.2.2.2.2.2.2.2.1 o h, Nat.le_trans V.2.2.2.2.2.2.2.2 hle⟩
theorem cl_ci {r : Int32} (hr : va_Run p l e R s m args below meth c H locs cells slots mc ms (F0 m pc ls st) rest (cl_Qi D dA ad A η η' r av) A) (V : cl_V D dA B ad A H0 η s H locs)
    (kk : ∀ (ad2 : Nat → Nat) (H1 : Heap) (locs1 : List Loc), (∀ x, x ≤ cl_n η → ad2 x = ad x) → cl_n η ≤ cl_n η' → cl_V D dA B ad2 A H0 η' s H1 locs1 → W p l e R s m args below meth c H1 locs1 (cells + mc) (slots + ms) Q (F0 m (pc + 3) ls (.int r :: rest))) : W p l e R s m args below meth c H locs cells slots Q (F0 m pc ls st) := by
  refine va_calli hr V.2.2.2.2.1 (fun q _ h => h) (fun q h => h) (fun r1 ad2 t H1 locs1 ht hvm hw hB hz hk hS => ?_)
  subst hw
  exact kk ad2 H1 locs1 hB.2.2.2.1 hB.2.2.2.2 (cl_V_call V ht hB hS)
theorem cl_cl {r : Int64} (hr : va_Run p l e R s m args below meth c H locs cells slots mc ms (F0 m pc ls st) rest (cl_Ql D dA ad A η η' r av) A) (V : cl_V D dA B ad A H0 η s H locs)
    (kk : ∀ (ad2 : Nat → Nat) (H1 : Heap) (locs1 : List Loc), (∀ x, x ≤ cl_n η → ad2 x = ad x) → cl_n η ≤ cl_n η' → cl_V D dA B ad2 A H0 η' s H1 locs1 → W p l e R s m args below meth c H1 locs1 (cells + mc) (slots + ms) Q (F0 m (pc + 3) ls (.long r :: rest))) : W p l e R s m args below meth c H locs cells slots Q (F0 m pc ls st) := by
  refine va_calll hr V.2.2.2.2.1 (fun q _ h => h) (fun q h => h) (fun r1 ad2 t H1 locs1 ht hvm hw hB hz hk hS => ?_)
  subst hw
  exact kk ad2 H1 locs1 hB.2.2.2.1 hB.2.2.2.2 (cl_V_call V ht hB hS)
theorem cl_cv (hr : va_Run p l e R s m args below meth c H locs cells slots mc ms (F0 m pc ls st) rest (cl_Qv D dA ad A η η' av) A) (V : cl_V D dA B ad A H0 η s H locs)
    (kk : ∀ (ad2 : Nat → Nat) (H1 : Heap) (locs1 : List Loc), (∀ x, x ≤ cl_n η → ad2 x = ad x) → cl_n η ≤ cl_n η' → cl_V D dA B ad2 A H0 η' s H1 locs1 → W p l e R s m args below meth c H1 locs1 (cells + mc) (slots + ms) Q (F0 m (pc + 3) ls rest)) : W p l e R s m args below meth c H locs cells slots Q (F0 m pc ls st) := by
  refine va_callv hr V.2.2.2.2.1 (fun q _ h => h) (fun q h => h) (fun ad2 t H1 locs1 ht hvm hw hB hz hk hS => ?_)
  exact kk ad2 H1 locs1 hB.2.2.2.1 hB.2.2.2.2 (cl_V_call V ht hB hS)
theorem cl_cr {r : Nat} (hr : va_Run p l e R s m args below meth c H locs cells slots mc ms (F0 m pc ls st) rest (cl_Qr D dA ad A η η' r av) A) (V : cl_V D dA B ad A H0 η s H locs) (h0 : ¬ r = 0)
    (kk : ∀ (b : Nat) (ad2 : Nat → Nat) (H1 : Heap) (locs1 : List Loc), (∀ x, x ≤ cl_n η → ad2 x = ad x) → cl_n η ≤ cl_n η' → cl_at ad2 η' b r → cl_V D dA B ad2 A H0 η' s H1 locs1 → W p l e R s m args below meth c H1 locs1 (cells + mc) (slots + ms) Q (F0 m (pc + 3) ls (.ref b :: rest))) : W p l e R s m args below meth c H locs cells slots Q (F0 m pc ls st) := by
  refine va_callq hr V.2.2.2.2.1 (fun q _ h => h) (fun q h => h) (fun r1 ad2 t H1 locs1 ht hvm hw hB hz hk hS => ?_)
  rw [hw.1, cl_rf_s h0]
  exact kk _ ad2 H1 locs1 hB.2.2.2.1 hB.2.2.2.2 ⟨rfl, Nat.pos_of_ne_zero h0, hw.2⟩ (cl_V_call V ht hB hS)
theorem cl_crn {r : Nat} (hr : va_Run p l e R s m args below meth c H locs cells slots mc ms (F0 m pc ls st) rest (cl_Qr D dA ad A η η' r av) A) (V : cl_V D dA B ad A H0 η s H locs) (h0 : r = 0)
    (kk : ∀ (ad2 : Nat → Nat) (H1 : Heap) (locs1 : List Loc), (∀ x, x ≤ cl_n η → ad2 x = ad x) → cl_n η ≤ cl_n η' → cl_V D dA B ad2 A H0 η' s H1 locs1 → W p l e R s m args below meth c H1 locs1 (cells + mc) (slots + ms) Q (F0 m (pc + 3) ls (.null :: rest))) : W p l e R s m args below meth c H locs cells slots Q (F0 m pc ls st) := by
  refine va_callq hr V.2.2.2.2.1 (fun q _ h => h) (fun q h => h) (fun r1 ad2 t H1 locs1 ht hvm hw hB hz hk hS => ?_)
  rw [hw.1, cl_rf_n h0]
  exact kk ad2 H1 locs1 hB.2.2.2.1 hB.2.2.2.2 (cl_V_call V ht hB hS)
/-- through an interface -/
theorem cl_cFi {r : Int32} (hr : va_Run5 p l e R s m args below meth c H locs cells slots mc ms (F0 m pc ls st) rest (cl_Qi D dA ad A η η' r av) A) (V : cl_V D dA B ad A H0 η s H locs)
    (kk : ∀ (ad2 : Nat → Nat) (H1 : Heap) (locs1 : List Loc), (∀ x, x ≤ cl_n η → ad2 x = ad x) → cl_n η ≤ cl_n η' → cl_V D dA B ad2 A H0 η' s H1 locs1 → W p l e R s m args below meth c H1 locs1 (cells + mc) (slots + ms) Q (F0 m (pc + 5) ls (.int r :: rest))) : W p l e R s m args below meth c H locs cells slots Q (F0 m pc ls st) := by
  refine va_callFi hr V.2.2.2.2.1 (fun q _ h => h) (fun q h => h) (fun r1 ad2 t H1 locs1 ht hvm hw hB hz hk hS => ?_)
  subst hw
  exact kk ad2 H1 locs1 hB.2.2.2.1 hB.2.2.2.2 (cl_V_call V ht hB hS)
/-- ends -/
theorem cl_Bw_of {t : State} (V : cl_V D dA (ad, cl_n η) B.1 A H0 η' s H locs) (ht : t.heap = H) : cl_Bw D dA ad A η η' B.1 t := ⟨by rw [ht]; exact V.2.2.1, V.2.2.2.1, V.2.2.2.2.2.2.1, V.2.2.2.2.2.2.2.1, V.2.2.2.2.2.2.2.2⟩
theorem cl_ri {ad1 : Nat → Nat} {rt : FieldType} (S : CallFix p m c cc nL s args lw_all own) (V : cl_V D dA (ad, cl_n η) ad1 A s.heap η' s H locs) (hr : meth.sig.returnType = some rt) (hlocks : meth.locks = false) {v : Int32} (hn : narrow rt (.int v) = .int v) (hdg : decode cc pc = .ok (.ireturn, 1)) : W p l e R s m args below meth c H locs cells slots (MQ below (cl_Qi D dA ad A η η' v) args s cells slots A) (F0 m pc ls [.int v]) :=
  W.zret (v := v) S.1 S.2.1 hr hn (fun t ht hW => ⟨⟨v, ad1, rfl, rfl, cl_Bw_of (B := (ad1, 0)) V ht⟩, V.2.2.2.2.1.F ht⟩) V.2.2.2.2.1.2.2 hdg hlocks
theorem cl_rl {ad1 : Nat → Nat} (S : CallFix p m c cc nL s args lw_all own) (V : cl_V D dA (ad, cl_n η) ad1 A s.heap η' s H locs) (hr : meth.sig.returnType = some .long) (hlocks : meth.locks = false) {v : Int64} (hdg : decode cc pc = .ok (.lreturn, 1)) : W p l e R s m args below meth c H locs cells slots (MQ below (cl_Ql D dA ad A η η' v) args s cells slots A) (F0 m pc ls [.long v]) :=
  W.lret (v := v) S.1 S.2.1 hr (fun t ht hW => ⟨⟨v, ad1, rfl, rfl, cl_Bw_of (B := (ad1, 0)) V ht⟩, V.2.2.2.2.1.F ht⟩) V.2.2.2.2.1.2.2 hdg hlocks
theorem cl_rv {ad1 : Nat → Nat} (S : CallFix p m c cc nL s args lw_all own) (V : cl_V D dA (ad, cl_n η) ad1 A s.heap η' s H locs) (hr : meth.sig.returnType = none) (hlocks : meth.locks = false) (hdg : decode cc pc = .ok (.return_, 1)) : W p l e R s m args below meth c H locs cells slots (MQ below (cl_Qv D dA ad A η η') args s cells slots A) (F0 m pc ls []) :=
  W.vret S.1 S.2.1 hr (fun t ht hW => ⟨⟨ad1, rfl, trivial, cl_Bw_of (B := (ad1, 0)) V ht⟩, V.2.2.2.2.1.F ht⟩) V.2.2.2.2.1.2.2 hdg hlocks
theorem cl_rr {ad1 : Nat → Nat} {rt : FieldType} (S : CallFix p m c cc nL s args lw_all own) (V : cl_V D dA (ad, cl_n η) ad1 A s.heap η' s H locs) (hr : meth.sig.returnType = some rt) (hrt : (∃ n, rt = .object n) ∨ ∃ t, rt = .array t) (hlocks : meth.locks = false) {b v : Nat} (hb : cl_at ad1 η' b v) (hdg : decode cc pc = .ok (.areturn, 1)) : W p l e R s m args below meth c H locs cells slots (MQ below (cl_Qr D dA ad A η η' v) args s cells slots A) (F0 m pc ls [.ref b]) :=
  W.aret (v := .ref b) S.1 S.2.1 hr hrt (Or.inr ⟨b, rfl⟩) (fun t ht hW => ⟨⟨some b, ad1, rfl, ⟨by rw [cl_rf_s (by have := hb.2.1; omega), hb.1], hb.2.2⟩, cl_Bw_of (B := (ad1, 0)) V ht⟩, V.2.2.2.2.1.F ht⟩) V.2.2.2.2.1.2.2 hdg hlocks
theorem cl_rrn {ad1 : Nat → Nat} {rt : FieldType} (S : CallFix p m c cc nL s args lw_all own) (V : cl_V D dA (ad, cl_n η) ad1 A s.heap η' s H locs) (hr : meth.sig.returnType = some rt) (hrt : (∃ n, rt = .object n) ∨ ∃ t, rt = .array t) (hlocks : meth.locks = false) (hdg : decode cc pc = .ok (.areturn, 1)) : W p l e R s m args below meth c H locs cells slots (MQ below (cl_Qr D dA ad A η η' 0) args s cells slots A) (F0 m pc ls [.null]) :=
  W.aret (v := .null) S.1 S.2.1 hr hrt (Or.inl rfl) (fun t ht hW => ⟨⟨none, ad1, rfl, ⟨(cl_rf_n rfl).symm, Nat.zero_le _⟩, cl_Bw_of (B := (ad1, 0)) V ht⟩, V.2.2.2.2.1.F ht⟩) V.2.2.2.2.1.2.2 hdg hlocks
end CLC
/-- a method's beginning, with its name -/
theorem cl_in {l : Launch} {y : MethodName} {cc : ByteArray} {nL : Nat} {ret : Option FieldType} {rm : Room} {Pc : State → Prop} {Qc : Array Value → State → Outcome → State → Prop} {mc ms : Nat} {free : Addr → Prop} {av : List Value} (own : String) (hown : y.cls = own) (hy : plainName y.cls = true) (hs : (lg_sl av).length ≤ nL)
    (body : ∀ (p : Program) (e : Env) (s : State) (m : MethodId) (below : List Frame) (meth : Method) (c : Code) (ls : Array Slot), CallFix p m c cc nL s av.toArray lw_all own → meth.sig.returnType = ret → meth.locks = false → meth.name = y.name → Pc s → lv_has ls nL (lv_args 0 av) → W p l e rm s m av.toArray below meth c s.heap [] 0 0 (MQ below Qc av.toArray s mc ms free) (F0 m 0 ls [])) : Met l y (ws_ y cc nL ret) rm (va_Pc av Pc) Qc mc ms free := by
  subst hown
  refine Met.ofW (cc := cc) (maxL := nL) (ret := ret) hy rfl ?_
  intro p e s m args below meth c s₁ B hml hv
  obtain ⟨rfl, hv⟩ := hv
  have hts := atoms_spec (ws := ws_ y cc nL ret) B.pre
  rw [lg_entry_eq]
  exact body p e s m below meth c _ ⟨B.exec, B.bytes, hml, findClass_of_methodNamed B.named, fun w h => hts w (List.mem_cons_of_mem _ h)⟩ B.returns B.notSynchronized (name_of_methodNamed B.named B.method).1 hv (lv_entry av hs)
