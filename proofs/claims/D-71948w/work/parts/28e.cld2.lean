/-! Person's size and mark: Marked's own where super is called right below Person; by the receiver's class elsewhere -/
theorem cl_selP {args : Array Value} {s : State} {C n d : String} {y : MethodName} (hd : RX9 ≠ "java/lang/invoke/MethodHandle" ∧ RX9 ≠ "java/lang/invoke/VarHandle") (hsame : (Cond.sameMethod RX10 RX9 n d).before args s = true) (hsel : (Cond.selects C ⟨RX9, n, d⟩ y).before args s = true) : (Cond.selects C ⟨RX10, n, d⟩ y).before args s = true := by
  obtain ⟨cn', ck, r1, hcn', hck, hni, hf, hn1⟩ := Cond.sameMethod_found hsame
  have hf2 : s.methodFound? RX9 n d = some r1 := State.methodFound?_of_named hn1 hd
  have e : s.methodFound? RX10 n d = s.methodFound? RX9 n d := hf.trans hf2.symm
  simp only [Cond.before, Cond.holds, Cond.value] at hsel ⊢
  rw [e]
  exact hsel
theorem dw_0 : (Jvm.Cond.methodLink "DatedContacts" (390 : Nat) ({ cls := "DatedContacts$Person", name := "size", desc := "(LDatedContacts$Trail;LDatedContacts$Held;)I" } : Jvm.MethodName)) ∈ cl_dws := List.mem_of_getElem? (i := 0) rfl
theorem dw_1 : (Jvm.Cond.sameMethod "DatedContacts$Person" "DatedContacts$Marked" "size" "(LDatedContacts$Trail;LDatedContacts$Held;)I") ∈ cl_dws := List.mem_of_getElem? (i := 1) rfl
theorem dw_2 : (Jvm.Cond.methodLink "DatedContacts$Open" (14 : Nat) ({ cls := "DatedContacts$Person", name := "size", desc := "(LDatedContacts$Trail;LDatedContacts$Held;)I" } : Jvm.MethodName)) ∈ cl_dws := List.mem_of_getElem? (i := 2) rfl
theorem dw_3 : (Jvm.Cond.methodLink "DatedContacts$Open" (23 : Nat) ({ cls := "DatedContacts$Person", name := "mark", desc := "(LDatedContacts$Trail;LDatedContacts$Held;)I" } : Jvm.MethodName)) ∈ cl_dws := List.mem_of_getElem? (i := 3) rfl
theorem dw_4 : (Jvm.Cond.sameMethod "DatedContacts$Person" "DatedContacts$Marked" "mark" "(LDatedContacts$Trail;LDatedContacts$Held;)I") ∈ cl_dws := List.mem_of_getElem? (i := 4) rfl
theorem dw_5 : (Jvm.Cond.methodLink "DatedContacts$Ward" (14 : Nat) ({ cls := "DatedContacts$Person", name := "size", desc := "(LDatedContacts$Trail;LDatedContacts$Held;)I" } : Jvm.MethodName)) ∈ cl_dws := List.mem_of_getElem? (i := 5) rfl
theorem dw_6 : (Jvm.Cond.methodLink "DatedContacts" (394 : Nat) ({ cls := "DatedContacts$Person", name := "mark", desc := "(LDatedContacts$Trail;LDatedContacts$Held;)I" } : Jvm.MethodName)) ∈ cl_dws := List.mem_of_getElem? (i := 6) rfl
theorem dw_7 : (Jvm.Cond.methodLink "DatedContacts$Ward" (18 : Nat) ({ cls := "DatedContacts$Person", name := "mark", desc := "(LDatedContacts$Trail;LDatedContacts$Held;)I" } : Jvm.MethodName)) ∈ cl_dws := List.mem_of_getElem? (i := 7) rfl
theorem dw_8 : (Cond.selects "java/lang/StringBuilder" ⟨"java/lang/AbstractStringBuilder", "ensureCapacityInternal", "(I)V"⟩ ⟨"java/lang/AbstractStringBuilder", "ensureCapacityInternal", "(I)V"⟩) ∈ cl_dws := List.mem_of_getElem? (i := 8) rfl
theorem dw_9 : (Cond.selects "java/lang/StringBuilder" ⟨"java/lang/AbstractStringBuilder", "newCapacity", "(I)I"⟩ ⟨"java/lang/AbstractStringBuilder", "newCapacity", "(I)I"⟩) ∈ cl_dws := List.mem_of_getElem? (i := 9) rfl
theorem dw_10 : (Cond.selects "java/lang/StringBuilder" ⟨"java/lang/AbstractStringBuilder", "putStringAt", "(ILjava/lang/String;)V"⟩ ⟨"java/lang/AbstractStringBuilder", "putStringAt", "(ILjava/lang/String;)V"⟩) ∈ cl_dws := List.mem_of_getElem? (i := 10) rfl
theorem dw_11 : (Cond.selects "java/lang/StringBuilder" ⟨"java/lang/AbstractStringBuilder", "inflateIfNeededFor", "(Ljava/lang/String;)V"⟩ ⟨"java/lang/AbstractStringBuilder", "inflateIfNeededFor", "(Ljava/lang/String;)V"⟩) ∈ cl_dws := List.mem_of_getElem? (i := 11) rfl
theorem lw_O {own : String} {idx : Nat} {C owner : String} {x y : MethodName} {b : ByteArray} {L : Nat} {r : Option FieldType} (h1 : Cond.methodLink own idx x ∈ lw_all) (h2 : Cond.sameMethod x.cls owner x.name x.desc ∈ lw_all) (h0 : Cond.instanceMethod ⟨owner, x.name, x.desc⟩ ∈ lw_all) (h3 : Cond.selects C x y ∈ lw_all) (h4 : Cond.instanceMethod y ∈ lw_all) (h5 : Cond.initialized y.cls ∈ lw_all) (h6 : Cond.code y b L r ∈ lw_all) : GoodIn lw_all (va_wsO own idx C owner x y (ws_ y b L r)) := by
  refine lw_app ?_ (lw_meth h6)
  intro w hw
  simp only [List.mem_cons, List.not_mem_nil, or_false] at hw
  rcases hw with e | e | e | e | e | e
  · rw [e]; exact h1
  · rw [e]; exact h2
  · rw [e]; exact h0
  · rw [e]; exact h3
  · rw [e]; exact h4
  · rw [e]; exact h5
theorem cl_cwP {R : Room} {s : State} {args : Array Value} {own C : String} {index maxL : Nat} {n d : String} {y : MethodName} {bytes : ByteArray} {ret : Option FieldType} {rm : Room} {k : Nat} (hts : ∀ w ∈ lw_all, w.before args s = true) (hN : ∀ w ∈ cl_nws, va_Nw w s) (hlink : (Cond.methodLink own index ⟨RX10, n, d⟩).before args s = true) (hsame : (Cond.sameMethod RX10 RX9 n d).before args s = true) (hdecl : Cond.declares ⟨RX9, n, d⟩ ∈ cl_nws) (hsel : Cond.selects C ⟨RX9, n, d⟩ y ∈ lw_all) (hin : Cond.instanceMethod y ∈ lw_all) (hini : Cond.initialized y.cls ∈ lw_all) (hco : Cond.code y bytes maxL ret ∈ lw_all) (hd : (parseMethodDescriptor d).map (fun d => d.parameters.length) = some k) (hR : rm.frames + 1 ≤ R.frames ∧ 8 + (maxL + 11) + rm.locals ≤ R.locals) : va_CU R s args own C RX9 index ⟨RX10, n, d⟩ y bytes maxL ret (ws_ y bytes maxL ret) rm rm.cells rm.slots k := by
  refine ⟨⟨rfl, rfl, hR.1, hR.2, pay_in hts (lw_meth hco), List.mem_cons_self⟩, hts _ hco, hts _ hini, by decide, fun sig h => ?_, hlink, hsame, va_Decl.abs (hN _ hdecl), cl_selP (by decide) hsame (hts _ hsel), hts _ hin⟩
  have h2 := hd
  rw [show parseMethodDescriptor d = some sig from h] at h2
  exact (Option.some.inj h2).symm
section CLE
variable {p : Program} {l : Launch} {e : Env} {R : Room} {s : State} {m : MethodId} {args : Array Value} {below : List Frame} {meth : Method} {c : Code} {H : Heap} {locs : List Loc} {cells slots mc ms n : Nat}
theorem cl_runSD {nm d : String} {y : MethodName} {bytes cc : ByteArray} {maxL nL index : Nat} {ret : Option FieldType} {rm : Room} {Pc : Array Value → State → Prop} {Qc : Array Value → State → Outcome → State → Prop} {free : Addr → Prop} {own C : String} {cC : ClassId} {b : Addr} {As rest : List Value} {g : JFrame}
    (hat : ClassAt s C cC) (S : CallFix p m c cc nL s args lw_all own) (hM : Met l y (ws_ y bytes maxL ret) rm Pc Qc mc ms free) (hy : y = ⟨RX9, nm, d⟩) (hrc : rm.cells = mc) (hrs : rm.slots = ms) (h1 : (Cond.methodLink own index ⟨RX10, nm, d⟩).before args s = true) (h2 : (Cond.sameMethod RX10 RX9 nm d).before args s = true) (hlsp : cl_lsp nm d s) (h3 : Cond.superclass own RX10 ∈ lw_all) (h5 : Cond.instanceMethod y ∈ lw_all) (h6 : Cond.initialized y.cls ∈ lw_all) (h7 : Cond.code y bytes maxL ret ∈ lw_all)
    (hd : nm ≠ "<init>" ∧ (parseMethodDescriptor y.desc).map (fun d => d.parameters.length) = some n) (hR : rm.frames + 1 ≤ R.frames ∧ 8 + (maxL + 11) + rm.locals ≤ R.locals) (hp : PreV s H C b Pc As)
    (hg : g.method = m) (hn : As.length = n) (hsize : g.locals.size = nL) (hstack : g.stack = As.reverse ++ .ref b :: rest) (hW : 2 * g.monitorRoom + (rest.map fun v => v.category).sum ≤ 8) (hdg : decode cc g.pc = .ok (.invokespecial index, 3)) (hf : cells + mc ≤ R.cells ∧ slots + ms ≤ R.slots) :
    va_Run p l e R s m args below meth c H locs cells slots mc ms g rest (Qc (Value.ref b :: As).toArray) (free) := by
  obtain ⟨hx, hb, hml, ho, ht⟩ := S
  have hini := ht _ h6
  have hK : Back l R p e below s args y 3 8 (PreOf R mc ms Pc) (PostOf Qc mc ms free) := back_of (bytes := bytes) (maxL := maxL) (ret := ret) hM hp.1 hrc hrs hR.1 hR.2 (pay_in ht (lw_meth h7)) List.mem_cons_self (fun a' U hW => word_at hW (Or.inl (by first | rfl | simp [Cond.onTables, Cond.keeps, Cond.steady])) hini)
  obtain ⟨-, ⟨cellB, hcB, hoB, hclB⟩, hPc⟩ := hp
  obtain ⟨hfc, kB, hkB, -⟩ := hat
  cases hfc.symm.trans hclB
  subst hg
  intro T hT X
  have hpl : e.platform.magicAccessors = ({} : Platform).magicAccessors := by rw [X.admits.platform]
  obtain ⟨mk, methM, hnamed, hmethM, hstM, habM⟩ := Cond.instanceMethod_spec (ht _ h5)
  obtain ⟨methM', cM, hmethM', -, -, -, -, -, -, hsigM⟩ := Cond.code_spec hnamed (ht _ h7)
  cases hmethM.symm.trans hmethM'
  have hlen2 : ∀ sig, parseMethodDescriptor y.desc = some sig → As.length = sig.parameters.length := fun sig h => by
    have h2 := hd.2
    rw [h] at h2
    rw [hn]
    exact (Option.some.inj h2).symm
  have hlen := hlen2 _ hsigM
  subst hy
  obtain ⟨cn', ck, r1, hcn', hck, hni, hfd, hn1⟩ := Cond.sameMethod_found h2
  cases hnamed.symm.trans hn1
  obtain ⟨c0, m0, l1, l2, l3⟩ := hlsp
  cases l1.symm.trans hcn'
  cases l2.symm.trans hnamed
  obtain ⟨ps, dk, kp, hps, hdk, hkp, hsuper, -, -, hnid⟩ := Cond.superclass_spec ho (ht _ h3)
  cases hps.symm.trans hcn'
  obtain ⟨ci, hl, hright⟩ := Cond.methodLink_specUp ho hcn' hck hni hfd h1 e.platform hpl (by rw [X.admits.platform])
  obtain ⟨kr, hkr, -⟩ := className_of_methodNamed hnamed
  obtain ⟨hrn, hrd⟩ := name_of_methodNamed hnamed hmethM
  obtain ⟨dk₀, cfile, nt, _, _, ck₀, _, _, hd₀, hcf, hcp, -, -, -, hc₀, -, hpoly, -⟩ := hl.here
  cases hdk.symm.trans hd₀
  cases hck.symm.trans hc₀
  obtain ⟨vm₁, hW', hstep₁⟩ := Steps.invokeSuperColdArgs (tb := p.tables) (e := e) (s₀ := s) (U := T) (f := g) (args := As) (rest := rest) (a := b) (cell := cellB) (m := mk) X.here hx (by rw [hb]; exact hdg) X.warmed hl hright hdk hcf hcp hmethM hck
    (by rw [hrn]; simp [hd.1]) hstM (by rw [hrn, hrd, hsuper]; simpa using l3) hnid hkr habM hlen hstack (by rw [hT]; exact hcB) (fun z h => by rw [h] at hoB; cases hoB) hkB
  have X₁ := X.noted hW'
  obtain ⟨v, ⟨U', l2, c2, s2⟩, X', ⟨g', mk', t, L, e1, e2, hq, h1', hL, h2', h3'⟩, hsteps⟩ := hK g.method meth c ⟨T.setVm vm₁, locs, cells, slots⟩ { g with stack := rest } (.invokespecial index) mk (Value.ref b :: As).toArray X₁ rfl (hsize.trans hml.symm) (by rw [hb]; exact hdg) hW (X₁.named hnamed) ⟨hf.1, hf.2, hPc (T.setVm vm₁) hT X₁.warmed⟩
  dsimp only [Pt.U, Pt.locs, Pt.cells, Pt.slots] at X' e1 e2 h1' h2' h3'
  subst h1'; subst h2'; subst h3'
  exact ⟨v, (T.setVm vm₁).calling g' mk' (Value.ref b :: As).toArray, t, U', L, hT, X', hL, e1, e2, hq, fun target h => hstep₁ _ (hsteps.trans h)⟩
theorem cl_runSP {nm d : String} {y : MethodName} {bytes cc : ByteArray} {maxL nL index : Nat} {ret : Option FieldType} {rm : Room} {Qc : Array Value → State → Outcome → State → Prop} {free : Addr → Prop} {own : String} {a o : Nat} {As rest : List Value} {g : JFrame} {D : va_G} {dA : Nat → ClassId} {B : (Nat → Nat) × Nat} {ad : Nat → Nat} {A : Nat → Prop} {H0 : Heap} {η : cl_S}
    (S : CallFix p m c cc nL s args lw_all own) (V : cl_V D dA B ad A H0 η s H locs) (ha : cl_at ad η a o) (hk : 9 ≤ cl_k η o ∧ cl_k η o ≤ 13) (hM : Met l y (ws_ y bytes maxL ret) rm (cl_Pre D dA ad A (.ref a :: As) η) Qc mc ms free) (hy : y = ⟨RX9, nm, d⟩) (hrc : rm.cells = mc) (hrs : rm.slots = ms) (h1 : Cond.methodLink own index ⟨RX10, nm, d⟩ ∈ cl_dws) (h2 : Cond.sameMethod RX10 RX9 nm d ∈ cl_dws) (hlsp : cl_lsp nm d s) (h3 : Cond.superclass own RX10 ∈ lw_all) (h5 : Cond.instanceMethod y ∈ lw_all) (h6 : Cond.initialized y.cls ∈ lw_all) (h7 : Cond.code y bytes maxL ret ∈ lw_all)
    (hd : nm ≠ "<init>" ∧ (parseMethodDescriptor y.desc).map (fun d => d.parameters.length) = some n) (hR : rm.frames + 1 ≤ R.frames ∧ 8 + (maxL + 11) + rm.locals ≤ R.locals)
    (hg : g.method = m) (hn : As.length = n) (hsize : g.locals.size = nL) (hstack : g.stack = As.reverse ++ .ref a :: rest) (hW : 2 * g.monitorRoom + (rest.map fun v => v.category).sum ≤ 8) (hdg : decode cc g.pc = .ok (.invokespecial index, 3)) (hf : cells + mc ≤ R.cells ∧ slots + ms ≤ R.slots) :
    va_Run p l e R s m args below meth c H locs cells slots mc ms g rest (Qc (Value.ref a :: As).toArray) (free) := by
  have w1 : (Cond.methodLink own index ⟨RX10, nm, d⟩).before args s = true := va_Nw.use rfl (V.1.2.2.2.2.2.2.1.1 _ h1)
  have w2 : (Cond.sameMethod RX10 RX9 nm d).before args s = true := va_Nw.use rfl (V.1.2.2.2.2.2.2.1.1 _ h2)
  have h : cl_k η o = 9 ∨ cl_k η o = 10 ∨ cl_k η o = 11 ∨ cl_k η o = 12 ∨ cl_k η o = 13 := by omega
  rcases h with h | h | h | h | h
  · exact cl_runSD (V.2.1.1 9 _ rfl).2 S hM hy hrc hrs w1 w2 hlsp h3 h5 h6 h7 hd hR (cl_preV V As ha h rfl (by decide)) hg hn hsize hstack hW hdg hf
  · exact cl_runSD (V.2.1.1 10 _ rfl).2 S hM hy hrc hrs w1 w2 hlsp h3 h5 h6 h7 hd hR (cl_preV V As ha h rfl (by decide)) hg hn hsize hstack hW hdg hf
  · exact cl_runSD (V.2.1.1 11 _ rfl).2 S hM hy hrc hrs w1 w2 hlsp h3 h5 h6 h7 hd hR (cl_preV V As ha h rfl (by decide)) hg hn hsize hstack hW hdg hf
  · exact cl_runSD (V.2.1.1 12 _ rfl).2 S hM hy hrc hrs w1 w2 hlsp h3 h5 h6 h7 hd hR (cl_preV V As ha h rfl (by decide)) hg hn hsize hstack hW hdg hf
  · exact cl_runSD (V.2.1.1 13 _ rfl).2 S hM hy hrc hrs w1 w2 hlsp h3 h5 h6 h7 hd hR (cl_preV V As ha h rfl (by decide)) hg hn hsize hstack hW hdg hf
end CLE
