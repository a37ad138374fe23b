/-! methods that throw and catch, over the abstract heap. What is thrown, by a number: 1 null, 2 place, 3 kind, 4 size, 5 store; from 10 on: the Fault whose id is that less 10 -/
theorem dx_bx_some {ρ α : Type} {o : Option ((ρ ⊕ Nat) × cl_S)} {f : ρ → cl_S → Option α} {g : Nat → cl_S → Option α} {w : α} (h : dx_bx o f g = some w) : ∃ z η, o = some (z, η) ∧ dx_xs z (fun r => f r η) (fun x => g x η) = some w := by
  cases o with
  | none => cases h
  | some q => exact ⟨q.1, q.2, rfl, h⟩
theorem dx_bx_l {ρ α : Type} {o : Option ((ρ ⊕ Nat) × cl_S)} {r : ρ} {η : cl_S} (f : ρ → cl_S → Option α) (g : Nat → cl_S → Option α) (h : o = some (.inl r, η)) : dx_bx o f g = f r η := by rw [h]; rfl
theorem dx_bx_r {ρ α : Type} {o : Option ((ρ ⊕ Nat) × cl_S)} {x : Nat} {η : cl_S} (f : ρ → cl_S → Option α) (g : Nat → cl_S → Option α) (h : o = some (.inr x, η)) : dx_bx o f g = g x η := by rw [h]; rfl
theorem dx_xs_l {ρ α : Type} {r : ρ} {f : ρ → Option α} {g : Nat → Option α} {w : α} (h : dx_xs (.inl r) f g = some w) : f r = some w := h
theorem dx_xs_r {ρ α : Type} {x : Nat} {f : ρ → Option α} {g : Nat → Option α} {w : α} (h : dx_xs (.inr x) f g = some w) : g x = some w := h
theorem dx_xs_nz {α : Type} {z : Nat ⊕ Nat} {k : Nat → Option α} {g : Nat → Option α} {w : α} (h : dx_xs z (fun r => dx_gd (decide (¬ r = 0)) (k r)) g = some w) : ∀ r, z = .inl r → ¬ r = 0 := fun r hz => by
  subst hz
  have h2 : dx_gd (decide (¬ r = 0)) (k r) = some w := h
  exact of_decide_eq_true (dx_gd_some h2).1
def cx_en (x : Nat) : String := if x = 1 then "java/lang/NullPointerException" else if x = 2 then "java/lang/ArrayIndexOutOfBoundsException" else if x = 3 then "java/lang/ClassCastException" else if x = 4 then "java/lang/NegativeArraySizeException" else if x = 5 then "java/lang/ArrayStoreException" else "DatedContacts$Fault"
theorem cx_en_F {x : Nat} (h : 10 ≤ x) : cx_en x = "DatedContacts$Fault" := by
  unfold cx_en
  rw [if_neg (by omega), if_neg (by omega), if_neg (by omega), if_neg (by omega), if_neg (by omega)]
def cx_qx (ad : Nat → Nat) (η : cl_S) (x : Nat) (q : Addr) : Prop := 10 ≤ x → cl_at ad η q (x - 10)
theorem cx_qx_s {ad : Nat → Nat} {η : cl_S} {x : Nat} {q : Addr} (h : x < 10) : cx_qx ad η x q := fun h2 => by omega
abbrev cx_X {ρ : Type} (D : va_G) (dA : Nat → ClassId) (ad : Nat → Nat) (A : Nat → Prop) (η η' : cl_S) (z : ρ ⊕ Nat) : String → State → State → Addr → Prop := vx_X (fun (_ : Nat → Nat) => True) (fun E ad2 t q => ∃ x, z = .inr x ∧ E = cx_en x ∧ cx_qx ad2 η' x q ∧ cl_Bw D dA ad A η η' ad2 t) A
abbrev cx_Qi (D : va_G) (dA : Nat → ClassId) (ad : Nat → Nat) (A : Nat → Prop) (η η' : cl_S) (z : Int32 ⊕ Nat) : Array Value → State → Outcome → State → Prop := va_Qi (fun (r2 : Int32) (_ : Nat → Nat) => z = .inl r2) (cl_Bw D dA ad A η η') A
abbrev cx_Qv (D : va_G) (dA : Nat → ClassId) (ad : Nat → Nat) (A : Nat → Prop) (η η' : cl_S) (z : Unit ⊕ Nat) : Array Value → State → Outcome → State → Prop := va_Qv (fun (_ : Nat → Nat) => z = .inl ()) (cl_Bw D dA ad A η η') A
abbrev cx_Qr (D : va_G) (dA : Nat → ClassId) (ad : Nat → Nat) (A : Nat → Prop) (η η' : cl_S) (z : Nat ⊕ Nat) : Array Value → State → Outcome → State → Prop := va_Qq (fun (r2 : Option Nat) (ad2 : Nat → Nat) => ∃ r, z = .inl r ∧ r2 = cl_rf ad2 r ∧ r ≤ cl_n η') (cl_Bw D dA ad A η η') A
def cx_Ci (l : Launch) (y : MethodName) (cc : ByteArray) (nL : Nat) (rt : FieldType) (rm : Room) (D : va_G) (dA : Nat → ClassId) (ad : Nat → Nat) (A : Nat → Prop) (av : List Value) (η : cl_S) (z : Int32 ⊕ Nat) (η' : cl_S) : Prop := vx_Met l y (ws_ y cc nL (some rt)) rm (cl_Pre D dA ad A av η) (cx_Qi D dA ad A η η' z) (cx_X D dA ad A η η' z) rm.cells rm.slots A
def cx_Cv (l : Launch) (y : MethodName) (cc : ByteArray) (nL : Nat) (rm : Room) (D : va_G) (dA : Nat → ClassId) (ad : Nat → Nat) (A : Nat → Prop) (av : List Value) (η : cl_S) (z : Unit ⊕ Nat) (η' : cl_S) : Prop := vx_Met l y (ws_ y cc nL none) rm (cl_Pre D dA ad A av η) (cx_Qv D dA ad A η η' z) (cx_X D dA ad A η η' z) rm.cells rm.slots A
def cx_Cr (l : Launch) (y : MethodName) (cc : ByteArray) (nL : Nat) (rt : FieldType) (rm : Room) (D : va_G) (dA : Nat → ClassId) (ad : Nat → Nat) (A : Nat → Prop) (av : List Value) (η : cl_S) (z : Nat ⊕ Nat) (η' : cl_S) : Prop := vx_Met l y (ws_ y cc nL (some rt)) rm (cl_Pre D dA ad A av η) (cx_Qr D dA ad A η η' z) (cx_X D dA ad A η η' z) rm.cells rm.slots A
/-- a method with handlers of its own, that throws nothing -/
abbrev cx_No : String → State → State → Addr → Prop := fun _ _ _ _ => False
def cx_Hi (l : Launch) (y : MethodName) (cc : ByteArray) (nL : Nat) (rt : FieldType) (hh : List (Nat × Nat × Nat × Nat)) (rm : Room) (D : va_G) (dA : Nat → ClassId) (ad : Nat → Nat) (A : Nat → Prop) (av : List Value) (η : cl_S) (r : Int32) (η' : cl_S) : Prop := Met l y (wsW_ y cc nL (some rt) hh) rm (cl_Pre D dA ad A av η) (cl_Qi D dA ad A η η' r) rm.cells rm.slots A
section CX
variable {p : Program} {l : Launch} {e : Env} {R : Room} {s : State} {m : MethodId} {args : Array Value} {below : List Frame} {meth : Method} {c : Code} {H : Heap} {locs : List Loc} {cells slots mc ms : Nat} {Q : State → Prop}
variable {cc : ByteArray} {nL pc : Nat} {ls : Array Slot} {rest st : List Value} {D : va_G} {dA : Nat → ClassId} {B : (Nat → Nat) × Nat} {ad : Nat → Nat} {A : Nat → Prop} {H0 : Heap} {η η' : cl_S} {own : String} {a o : Nat} {av : Array Value}
theorem cx_ci {z : Int32 ⊕ Nat} (hr : vx_Run p l e R s m args below meth c H locs cells slots mc ms (F0 m pc ls st) rest (cx_Qi D dA ad A η η' z av) (cx_X D dA ad A η η' z) A) (V : cl_V D dA B ad A H0 η s H locs)
    (kx : ∀ (x : Nat) (ce : Cell) (q9 : Addr) (ad2 : Nat → Nat) (H1 : Heap) (locs1 : List Loc), z = .inr x → (∀ x, x ≤ cl_n η → ad2 x = ad x) → cl_n η ≤ cl_n η' → cx_qx ad2 η' x q9 → cl_V D dA B ad2 A H0 η' s H1 locs1 → H1[q9]? = some ce → ce.vm = .none → s.vm.findClass (cx_en x) = some ce.cls → vx_W p l e R s m args below meth c H1 locs1 (cells + mc) (slots + ms) Q (F0 m pc ls rest) q9)
    (kk : ∀ (r : Int32) (ad2 : Nat → Nat) (H1 : Heap) (locs1 : List Loc), z = .inl r → (∀ x, x ≤ cl_n η → ad2 x = ad x) → cl_n η ≤ cl_n η' → cl_V D dA B ad2 A H0 η' s H1 locs1 → W p l e R s m args below meth c H1 locs1 (cells + mc) (slots + ms) Q (F0 m (pc + 3) ls (.int r :: rest))) : W p l e R s m args below meth c H locs cells slots Q (F0 m pc ls st) := by
  refine vx_calli hr V.2.2.2.2.1 (fun q _ h => h) (fun q h => h) (fun q _ h => h) (fun E ce q9 ad2 t H1 locs1 ht hvm _ hB hz hk hS hce hcv hcl => ?_) (fun r ad2 t H1 locs1 ht hvm hw hB hz hk hS => ?_)
  · obtain ⟨x, hz0, rfl, hq, hB⟩ := hB
    exact kx x ce q9 ad2 H1 locs1 hz0 hB.2.2.2.1 hB.2.2.2.2 hq (cl_V_call V ht hB hS) hce hcv hcl
  · exact kk r ad2 H1 locs1 hw hB.2.2.2.1 hB.2.2.2.2 (cl_V_call V ht hB hS)
theorem cx_cv {z : Unit ⊕ Nat} (hr : vx_Run p l e R s m args below meth c H locs cells slots mc ms (F0 m pc ls st) rest (cx_Qv D dA ad A η η' z av) (cx_X D dA ad A η η' z) A) (V : cl_V D dA B ad A H0 η s H locs)
    (kx : ∀ (x : Nat) (ce : Cell) (q9 : Addr) (ad2 : Nat → Nat) (H1 : Heap) (locs1 : List Loc), z = .inr x → (∀ x, x ≤ cl_n η → ad2 x = ad x) → cl_n η ≤ cl_n η' → cx_qx ad2 η' x q9 → cl_V D dA B ad2 A H0 η' s H1 locs1 → H1[q9]? = some ce → ce.vm = .none → s.vm.findClass (cx_en x) = some ce.cls → vx_W p l e R s m args below meth c H1 locs1 (cells + mc) (slots + ms) Q (F0 m pc ls rest) q9)
    (kk : ∀ (r : Unit) (ad2 : Nat → Nat) (H1 : Heap) (locs1 : List Loc), z = .inl r → (∀ x, x ≤ cl_n η → ad2 x = ad x) → cl_n η ≤ cl_n η' → cl_V D dA B ad2 A H0 η' s H1 locs1 → W p l e R s m args below meth c H1 locs1 (cells + mc) (slots + ms) Q (F0 m (pc + 3) ls rest)) : W p l e R s m args below meth c H locs cells slots Q (F0 m pc ls st) := by
  refine vx_callv hr V.2.2.2.2.1 (fun q _ h => h) (fun q h => h) (fun q _ h => h) (fun E ce q9 ad2 t H1 locs1 ht hvm _ hB hz hk hS hce hcv hcl => ?_) (fun ad2 t H1 locs1 ht hvm hw hB hz hk hS => ?_)
  · obtain ⟨x, hz0, rfl, hq, hB⟩ := hB
    exact kx x ce q9 ad2 H1 locs1 hz0 hB.2.2.2.1 hB.2.2.2.2 hq (cl_V_call V ht hB hS) hce hcv hcl
  · exact kk () ad2 H1 locs1 hw hB.2.2.2.1 hB.2.2.2.2 (cl_V_call V ht hB hS)
theorem cx_cr {z : Nat ⊕ Nat} (hr : vx_Run p l e R s m args below meth c H locs cells slots mc ms (F0 m pc ls st) rest (cx_Qr D dA ad A η η' z av) (cx_X D dA ad A η η' z) A) (V : cl_V D dA B ad A H0 η s H locs) (h0 : ∀ r, z = .inl r → ¬ r = 0)
    (kx : ∀ (x : Nat) (ce : Cell) (q9 : Addr) (ad2 : Nat → Nat) (H1 : Heap) (locs1 : List Loc), z = .inr x → (∀ x, x ≤ cl_n η → ad2 x = ad x) → cl_n η ≤ cl_n η' → cx_qx ad2 η' x q9 → cl_V D dA B ad2 A H0 η' s H1 locs1 → H1[q9]? = some ce → ce.vm = .none → s.vm.findClass (cx_en x) = some ce.cls → vx_W p l e R s m args below meth c H1 locs1 (cells + mc) (slots + ms) Q (F0 m pc ls rest) q9)
    (kk : ∀ (r b : Nat) (ad2 : Nat → Nat) (H1 : Heap) (locs1 : List Loc), z = .inl r → (∀ x, x ≤ cl_n η → ad2 x = ad x) → cl_n η ≤ cl_n η' → cl_at ad2 η' b r → cl_V D dA B ad2 A H0 η' s H1 locs1 → W p l e R s m args below meth c H1 locs1 (cells + mc) (slots + ms) Q (F0 m (pc + 3) ls (.ref b :: rest))) : W p l e R s m args below meth c H locs cells slots Q (F0 m pc ls st) := by
  refine vx_callq hr V.2.2.2.2.1 (fun q _ h => h) (fun q h => h) (fun q _ h => h) (fun E ce q9 ad2 t H1 locs1 ht hvm _ hB hz hk hS hce hcv hcl => ?_) (fun r ad2 t H1 locs1 ht hvm hw hB hz hk hS => ?_)
  · obtain ⟨x, hz0, rfl, hq, hB⟩ := hB
    exact kx x ce q9 ad2 H1 locs1 hz0 hB.2.2.2.1 hB.2.2.2.2 hq (cl_V_call V ht hB hS) hce hcv hcl
  · obtain ⟨r1, hz1, hr1, hr2⟩ := hw
    rw [hr1, cl_rf_s (h0 r1 hz1)]
    exact kk r1 _ ad2 H1 locs1 hz1 hB.2.2.2.1 hB.2.2.2.2 ⟨rfl, Nat.pos_of_ne_zero (h0 r1 hz1), hr2⟩ (cl_V_call V ht hB hS)
/-- ends -/
theorem cx_ri {ad1 : Nat → Nat} {rt : FieldType} (S : CallFix p m c cc nL s args lw_all own) (V : cl_V D dA (ad, cl_n η) ad1 A s.heap η' s H locs) (hr : meth.sig.returnType = some rt) (hlocks : meth.locks = false) {v : Int32} (hn : narrow rt (.int v) = .int v) (hdg : decode cc pc = .ok (.ireturn, 1)) : W p l e R s m args below meth c H locs cells slots (vx_MQ below (cx_Qi D dA ad A η η' (.inl v)) (cx_X D dA ad A η η' (.inl v : Int32 ⊕ Nat)) args s cells slots A) (F0 m pc ls [.int v]) :=
  vx_ret (W.zret (v := v) S.1 S.2.1 hr hn (fun t ht hW => ⟨⟨v, ad1, rfl, rfl, cl_Bw_of (B := (ad1, 0)) V ht⟩, V.2.2.2.2.1.F ht⟩) V.2.2.2.2.1.2.2 hdg hlocks)
theorem cx_rv {ad1 : Nat → Nat} (S : CallFix p m c cc nL s args lw_all own) (V : cl_V D dA (ad, cl_n η) ad1 A s.heap η' s H locs) (hr : meth.sig.returnType = none) (hlocks : meth.locks = false) (hdg : decode cc pc = .ok (.return_, 1)) : W p l e R s m args below meth c H locs cells slots (vx_MQ below (cx_Qv D dA ad A η η' (.inl ())) (cx_X D dA ad A η η' (.inl () : Unit ⊕ Nat)) args s cells slots A) (F0 m pc ls []) :=
  vx_ret (W.vret S.1 S.2.1 hr (fun t ht hW => ⟨⟨ad1, rfl, rfl, cl_Bw_of (B := (ad1, 0)) V ht⟩, V.2.2.2.2.1.F ht⟩) V.2.2.2.2.1.2.2 hdg hlocks)
theorem cx_rr {ad1 : Nat → Nat} {rt : FieldType} (S : CallFix p m c cc nL s args lw_all own) (V : cl_V D dA (ad, cl_n η) ad1 A s.heap η' s H locs) (hr : meth.sig.returnType = some rt) (hrt : (∃ n, rt = .object n) ∨ ∃ t, rt = .array t) (hlocks : meth.locks = false) {b v : Nat} (hb : cl_at ad1 η' b v) (hdg : decode cc pc = .ok (.areturn, 1)) : W p l e R s m args below meth c H locs cells slots (vx_MQ below (cx_Qr D dA ad A η η' (.inl v)) (cx_X D dA ad A η η' (.inl v : Nat ⊕ Nat)) args s cells slots A) (F0 m pc ls [.ref b]) :=
  vx_ret (W.aret (v := .ref b) S.1 S.2.1 hr hrt (Or.inr ⟨b, rfl⟩) (fun t ht hW => ⟨⟨some b, ad1, rfl, ⟨v, rfl, by rw [cl_rf_s (by have := hb.2.1; omega), hb.1], hb.2.2⟩, cl_Bw_of (B := (ad1, 0)) V ht⟩, V.2.2.2.2.1.F ht⟩) V.2.2.2.2.1.2.2 hdg hlocks)
theorem cx_out {ρ : Type} {ad1 : Nat → Nat} {x : Nat} {ce : Cell} {q : Addr} {Qc : Array Value → State → Outcome → State → Prop} (V : cl_V D dA (ad, cl_n η) ad1 A s.heap η' s H locs) (htab : ∀ x ∈ c.exceptionTable.toList, False) (hlocks : meth.locks = false) (hq : cx_qx ad1 η' x q) (hce : H[q]? = some ce) (hcv : ce.vm = .none) (hcl : s.vm.findClass (cx_en x) = some ce.cls) (h1 : cells ≤ mc) (h2 : slots ≤ ms) :
    vx_W p l e R s m args below meth c H locs cells slots (vx_MQ below Qc (cx_X D dA ad A η η' (.inr x : ρ ⊕ Nat)) args s mc ms A) (F0 m pc ls rest) q :=
  vx_out (fun x h => (htab x h).elim) hlocks hce hcv hcl (fun t ht hal => ⟨ad1, trivial, ⟨x, rfl, rfl, hq, cl_Bw_of (B := (ad1, 0)) V ht⟩, V.2.2.2.2.1.F ht⟩) V.2.2.2.2.1.2.2 h1 h2
/-- the heap has only grown -/
theorem cl_V_grow {H1 : Heap} (V : cl_V D dA B ad A H0 η s H locs) (h2 : ∀ q : Nat, q < H.size → H1[q]? = H[q]?) (hS : va_S A H0 H1 locs) : cl_V D dA B ad A H0 η s H1 locs := by
  refine ⟨V.1, V.2.1, fun k q hq => ?_, V.2.2.2.1, hS, V.2.2.2.2.2⟩
  have h3 := V.2.2.1 k q hq
  obtain ⟨q0, e0⟩ := q
  cases e0 with
  | inl x =>
    have h4 : H[q0]? = some (vp_cell x.1 x.2) := h3
    show H1[q0]? = some (vp_cell x.1 x.2)
    rw [h2 q0 (Array.getElem?_eq_some_iff.mp h4).1]
    exact h4
  | inr x =>
    obtain ⟨r, hr, hob⟩ := h3
    exact ⟨r, hr, hob.kept (h2 q0 (Array.getElem?_eq_some_iff.mp hob.choose_spec.1).1)⟩
end CX
/-- a method's beginning: one that throws -/
theorem cx_in {l : Launch} {y : MethodName} {cc : ByteArray} {nL : Nat} {ret : Option FieldType} {rm : Room} {Pc : State → Prop} {Qc : Array Value → State → Outcome → State → Prop} {XC : String → State → State → Addr → Prop} {mc ms : Nat} {free : Addr → Prop} {av : List Value} (own : String) (hown : y.cls = own) (hy : plainName y.cls = true) (hs : (lg_sl av).length ≤ nL)
    (body : ∀ (p : Program) (e : Env) (s : State) (m : MethodId) (below : List Frame) (meth : Method) (c : Code) (ls : Array Slot), CallFix p m c cc nL s av.toArray lw_all own → meth.sig.returnType = ret → meth.locks = false → meth.name = y.name → (∀ x ∈ c.exceptionTable.toList, False) → Pc s → lv_has ls nL (lv_args 0 av) → W p l e rm s m av.toArray below meth c s.heap [] 0 0 (vx_MQ below Qc XC av.toArray s mc ms free) (F0 m 0 ls [])) : vx_Met l y (ws_ y cc nL ret) rm (va_Pc av Pc) Qc XC mc ms free := by
  subst hown
  refine vx_ofW (cc := cc) (maxL := nL) (ret := ret) hy rfl ?_
  intro p e s m args below meth c s₁ B hml htab hv
  obtain ⟨rfl, hv⟩ := hv
  have hts := atoms_spec (ws := ws_ y cc nL ret) B.pre
  rw [lg_entry_eq]
  exact body p e s m below meth c _ ⟨B.exec, B.bytes, hml, findClass_of_methodNamed B.named, fun w h => hts w (List.mem_cons_of_mem _ h)⟩ B.returns B.notSynchronized (name_of_methodNamed B.named B.method).1 htab hv (lv_entry av hs)
/-- one with handlers, that throws nothing -/
theorem cx_inH {l : Launch} {y : MethodName} {cc : ByteArray} {nL : Nat} {ret : Option FieldType} {hh : List (Nat × Nat × Nat × Nat)} {rm : Room} {Pc : State → Prop} {Qc : Array Value → State → Outcome → State → Prop} {mc ms : Nat} {free : Addr → Prop} {av : List Value} (own : String) (hown : y.cls = own) (hy : plainName y.cls = true) (hs : (lg_sl av).length ≤ nL)
    (body : ∀ (p : Program) (e : Env) (s : State) (m : MethodId) (below : List Frame) (meth : Method) (c : Code) (ls : Array Slot), CallFix p m c cc nL s av.toArray lw_all own → meth.sig.returnType = ret → meth.locks = false → meth.name = y.name → c.exceptionTable.toList = tableOf hh → Pc s → lv_has ls nL (lv_args 0 av) → W p l e rm s m av.toArray below meth c s.heap [] 0 0 (vx_MQ below Qc cx_No av.toArray s mc ms free) (F0 m 0 ls [])) : Met l y (wsW_ y cc nL ret hh) rm (va_Pc av Pc) Qc mc ms free := by
  subst hown
  have h : vx_Met l y (wsW_ y cc nL ret hh) rm (va_Pc av Pc) Qc cx_No mc ms free := by
    refine vx_ofWH (cc := cc) (maxL := nL) (ret := ret) (hh := hh) hy rfl ?_
    intro p e s m args below meth c s₁ B hml hv
    obtain ⟨rfl, hv⟩ := hv
    have hts := atoms_spec (ws := wsW_ y cc nL ret hh) B.pre
    rw [lg_entry_eq]
    exact body p e s m below meth c _ ⟨B.exec, B.bytes, hml, findClass_of_methodNamed B.named, fun w h => hts w (List.mem_cons_of_mem _ h)⟩ B.returns B.notSynchronized (name_of_methodNamed B.named B.method).1 (vx_table (x := y) B (hts _ List.mem_cons_self)) hv (lv_entry av hs)
  intro p e h1 h2 h3 s m args below h4 h5 h6 h7
  obtain ⟨k, o, a1, a2, a3, a4⟩ := h p e h1 h2 h3 s m args below h4 h5 h6 h7
  refine ⟨k, o, a1, a2, a3, ?_⟩
  rcases a4 with a4 | ⟨q, -, E, ce, L, hX, -⟩
  · exact a4
  · exact hX.elim
