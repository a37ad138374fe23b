/-! calls of super's methods, calls through interfaces: the words -/
theorem lw_F {own : String} {idx : Nat} {C : String} {x y : MethodName} {b : ByteArray} {L : Nat} {r : Option FieldType} (h1 : Cond.methodLink own idx x ∈ lw_all) (h2 : Cond.selects C x y ∈ lw_all) (h3 : Cond.instanceMethod y ∈ lw_all) (h4 : Cond.initialized y.cls ∈ lw_all) (h5 : Cond.code y b L r ∈ lw_all) : GoodIn lw_all (va_wsF own idx C x y (ws_ y b L r)) := by
  refine lw_app ?_ (lw_meth h5)
  intro w hw
  simp only [List.mem_cons, List.not_mem_nil, or_false] at hw
  rcases hw with e | e | e | e
  · rw [e]; exact h1
  · rw [e]; exact h2
  · rw [e]; exact h3
  · rw [e]; exact h4
theorem lw_U {own : String} {idx : Nat} {C owner : String} {x y : MethodName} {b : ByteArray} {L : Nat} {r : Option FieldType} (h1 : Cond.methodLink own idx x ∈ lw_all) (h2 : Cond.sameMethod x.cls owner x.name x.desc ∈ lw_all) (h3 : Cond.selects C x y ∈ lw_all) (h4 : Cond.instanceMethod y ∈ lw_all) (h5 : Cond.initialized y.cls ∈ lw_all) (h6 : Cond.code y b L r ∈ lw_all) : GoodIn lw_all (va_wsU own idx C owner x y (ws_ y b L r)) := by
  refine lw_app ?_ (lw_meth h6)
  intro w hw
  simp only [List.mem_cons, List.not_mem_nil, or_false] at hw
  rcases hw with e | e | e | e | e
  · rw [e]; exact h1
  · rw [e]; exact h2
  · rw [e]; exact h3
  · rw [e]; exact h4
  · rw [e]; exact h5
section CLS
variable {p : Program} {l : Launch} {e : Env} {R : Room} {s : State} {m : MethodId} {args : Array Value} {below : List Frame} {meth : Method} {c : Code} {H : Heap} {locs : List Loc} {cells slots mc ms n : Nat} {Q : State → Prop}
theorem va_Run.wd {mc' ms' : Nat} {g : JFrame} {rest : List Value} {Qa : State → Outcome → State → Prop} {free : Addr → Prop} (h : va_Run p l e R s m args below meth c H locs cells slots mc ms g rest Qa free) (h1 : mc ≤ mc') (h2 : ms ≤ ms') : va_Run p l e R s m args below meth c H locs cells slots mc' ms' g rest Qa free := by
  intro T hT X
  obtain ⟨v, st₀, t, T', L, h0, X', hL, e1, e2, hq, st⟩ := h T hT X
  exact ⟨v, st₀, t, T', L, h0, stand_widen X' (Nat.add_le_add_left h1 _) (Nat.add_le_add_left h2 _), hL, e1, e2, hq, st⟩
theorem cl_runSU {x y : MethodName} {bytes cc : ByteArray} {maxL nL index : Nat} {ret : Option FieldType} {rm : Room} {Pc : Array Value → State → Prop} {Qc : Array Value → State → Outcome → State → Prop} {free : Addr → Prop} {own C : String} {cC : ClassId} {b : Addr} {As rest : List Value} {g : JFrame}
    (hat : ClassAt s C cC) (S : CallFix p m c cc nL s args lw_all own) (hM : Met l y (ws_ y bytes maxL ret) rm Pc Qc mc ms free) (hrc : rm.cells = mc) (hrs : rm.slots = ms) (h1 : Cond.methodLink own index x ∈ lw_all) (h2 : Cond.sameMethod x.cls y.cls x.name x.desc ∈ lw_all) (h3 : Cond.superclass own x.cls ∈ lw_all) (h4 : y.cls = x.cls ∨ Cond.superclass x.cls y.cls ∈ lw_all) (h5 : Cond.instanceMethod y ∈ lw_all) (h6 : Cond.initialized y.cls ∈ lw_all) (h7 : Cond.code y bytes maxL ret ∈ lw_all)
    (hyx : y = ⟨y.cls, x.name, x.desc⟩) (hd : x.name ≠ "<init>" ∧ (parseMethodDescriptor y.desc).map (fun d => d.parameters.length) = some n) (hR : rm.frames + 1 ≤ R.frames ∧ 8 + (maxL + 11) + rm.locals ≤ R.locals) (hp : PreV s H C b Pc As)
    (hg : g.method = m) (hn : As.length = n) (hsize : g.locals.size = nL) (hstack : g.stack = As.reverse ++ .ref b :: rest) (hW : 2 * g.monitorRoom + (rest.map fun v => v.category).sum ≤ 8) (hdg : decode cc g.pc = .ok (.invokespecial index, 3)) (hf : cells + mc ≤ R.cells ∧ slots + ms ≤ R.slots) :
    va_Run p l e R s m args below meth c H locs cells slots mc ms g rest (Qc (Value.ref b :: As).toArray) (free) := by
  obtain ⟨hx, hb, hml, ho, ht⟩ := S
  have hini := ht _ h6
  have hK : Back l R p e below s args y 3 8 (PreOf R mc ms Pc) (PostOf Qc mc ms free) := back_of (bytes := bytes) (maxL := maxL) (ret := ret) hM hp.1 hrc hrs hR.1 hR.2 (pay_in ht (lw_meth h7)) List.mem_cons_self (fun a' U hW => word_at hW (Or.inl (by first | rfl | simp [Cond.onTables, Cond.keeps, Cond.steady])) hini)
  obtain ⟨-, ⟨cellB, hcB, hoB, hclB⟩, hPc⟩ := hp
  obtain ⟨hfc, kB, hkB, -⟩ := hat
  cases hfc.symm.trans hclB
  intro T hT X
  obtain ⟨mk, methM, hnamed, hmethM, hstM, habM⟩ := Cond.instanceMethod_spec (ht _ h5)
  obtain ⟨methM', cM, hmethM', -, -, -, -, -, -, hsigM⟩ := Cond.code_spec hnamed (ht _ h7)
  cases hmethM.symm.trans hmethM'
  obtain ⟨ps, dk, kp, hps, hdk, hkp, hsuper, -, -, hnid⟩ := Cond.superclass_spec ho (ht _ h3)
  have hn' : s.methodNamed? ⟨y.cls, x.name, x.desc⟩ = some mk := by rw [← hyx]; exact hnamed
  have hmc : s.vm.findClass y.cls = some mk.cls := findClass_of_methodNamed hnamed
  have hsub : s.vm.isSubclass ps mk.cls = true := by
    rcases h4 with h4 | h4
    · rw [h4] at hmc
      have hpm : ps = mk.cls := Option.some.inj (hps.symm.trans hmc)
      rw [hpm]
      simp [Vm.isSubclass, Vm.isSubclassAux]
    · obtain ⟨p2, k2, kp2, g1, g2, g3, g4, -, -, -⟩ := Cond.superclass_spec hps (ht _ h4)
      have hpm : p2 = mk.cls := Option.some.inj (g1.symm.trans hmc)
      subst hpm
      have hsz : 0 < s.vm.classes.size := Nat.lt_of_le_of_lt (Nat.zero_le _) (Array.getElem?_eq_some_iff.mp g2).1
      obtain ⟨z, hz⟩ : ∃ z, s.vm.classes.size = z + 1 := ⟨s.vm.classes.size - 1, by omega⟩
      by_cases hpe : ps = mk.cls
      · rw [hpe]
        simp [Vm.isSubclass, Vm.isSubclassAux]
      · simp [Vm.isSubclass, Vm.isSubclassAux, hz, g2, g4, hpe]
  have hlen2 : ∀ sig, parseMethodDescriptor y.desc = some sig → As.length = sig.parameters.length := fun sig h => by
    have h2 := hd.2
    rw [h] at h2
    rw [hn]
    exact (Option.some.inj h2).symm
  obtain ⟨vm₁, X₁, hstep₁⟩ := X.invokespecialUp hx ho (ht _ h1) (ht _ h2) hn' hmethM hstM habM hd.1 hdk hnid hps hsuper hsub (a := b) (cell := cellB) (by rw [hT]; exact hcB)
    (fun z h => by rw [h] at hoB; cases hoB) hkB (g := g) hg (argsL := As) (rest := rest) (hlen2 _ hsigM) hstack (by rw [hb]; exact hdg)
  obtain ⟨v, ⟨U', l2, c2, s2⟩, X', ⟨g', mk', t, L, e1, e2, hq, h1', hL, h2', h3'⟩, hsteps⟩ := hK m meth c ⟨T.setVm vm₁, locs, cells, slots⟩ { g with stack := rest } (.invokespecial index) mk (Value.ref b :: As).toArray X₁ hg (hsize.trans hml.symm) (by rw [hb]; exact hdg) hW (X₁.named hnamed) ⟨hf.1, hf.2, hPc (T.setVm vm₁) hT X₁.warmed⟩
  dsimp only [Pt.U, Pt.locs, Pt.cells, Pt.slots] at X' e1 e2 h1' h2' h3'
  subst h1'; subst h2'; subst h3'
  exact ⟨v, (T.setVm vm₁).calling g' mk' (Value.ref b :: As).toArray, t, U', L, hT, X', hL, e1, e2, hq, fun target h => hstep₁ _ (by rw [doInvoke_state]; exact hsteps.trans h)⟩
end CLS
