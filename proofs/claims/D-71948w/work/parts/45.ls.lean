/-! the start: what the tables and the narrowing say there -/
theorem ls_D {s : State} (cl : List vw_C) (h : ∀ q ∈ cl, ∃ (cC : ClassId) (iS : Nat → Nat), u_Kn s q.1 q.2.1 q.2.2 cC iS) : ∃ D : va_G, ∀ (c : Nat) (q : vw_C), cl[c]? = some q → u_Kn s q.1 q.2.1 q.2.2 (D.1 c) (D.2 c) := by
  have h0 : ∀ c : Nat, ∃ p : ClassId × (Nat → Nat), ∀ q : vw_C, cl[c]? = some q → u_Kn s q.1 q.2.1 q.2.2 p.1 p.2 := by
    intro c
    by_cases hc : ∃ q, cl[c]? = some q
    · obtain ⟨q, hq⟩ := hc
      obtain ⟨cC, iS, hk⟩ := h q (List.mem_of_getElem? hq)
      refine ⟨(cC, iS), fun q' hq' => ?_⟩
      cases hq.symm.trans hq'
      exact hk
    · exact ⟨(0, fun _ => 0), fun q hq => absurd ⟨q, hq⟩ hc⟩
  obtain ⟨f, hf⟩ := Classical.axiomOfChoice h0
  exact ⟨(fun c => (f c).1, fun c => (f c).2), fun c q hq => hf c q hq⟩
theorem ls_cls {s : State} {A : Array Value} (hts : ∀ w ∈ lw_tbl, w.before A s = true) : ∀ q ∈ vwCl, ∃ (cC : ClassId) (iS : Nat → Nat), u_Kn s q.1 q.2.1 q.2.2 cC iS := by
  have ha : ∀ w ∈ lw_all, w.before A s = true := fun w h => hts w (lw_all_tbl h)
  exact List.forall_mem_cons.mpr ⟨u_known ha in_X0 (ha _ q118), List.forall_mem_cons.mpr ⟨u_known ha in_X1 (ha _ q130), List.forall_mem_cons.mpr ⟨u_known ha in_X2 (ha _ q141), List.forall_mem_cons.mpr ⟨u_known ha in_X3 (ha _ q209), List.forall_mem_cons.mpr ⟨u_known ha in_X4 (ha _ q220), List.forall_mem_cons.mpr ⟨u_known ha in_X5 (ha _ q254), List.forall_mem_cons.mpr ⟨u_known ha in_X6 (ha _ q1609), List.forall_mem_cons.mpr ⟨u_known ha in_X7 (ha _ q521), List.forall_mem_cons.mpr ⟨u_known ha in_X8 (ha _ q578), List.forall_mem_cons.mpr ⟨u_known ha in_X11 (ha _ q929), List.forall_mem_cons.mpr ⟨u_known ha in_X12 (ha _ q942), List.forall_mem_cons.mpr ⟨u_known ha in_X13 (ha _ q950), List.forall_mem_cons.mpr ⟨u_known ha in_X14 (ha _ q958), List.forall_mem_cons.mpr ⟨u_known ha in_X15 (ha _ q966), List.forall_mem_cons.mpr ⟨u_known ha in_X16 (ha _ q987), List.forall_mem_cons.mpr ⟨u_known ha in_X18 (ha _ q1484), List.forall_mem_cons.mpr ⟨u_known ha in_J4 (ha _ q393), List.forall_mem_cons.mpr ⟨u_known ha in_J10 (ha _ q618), fun _ h => absurd h List.not_mem_nil⟩⟩⟩⟩⟩⟩⟩⟩⟩⟩⟩⟩⟩⟩⟩⟩⟩⟩
theorem ls_ai {s : State} {A : Array Value} (h : (Cond.arrayClass .int).before A s = true) : ∃ cA : ClassId, ArrOfT s cA .int ∧ va_RA s cA .int := by
  obtain ⟨c, k, comp, h1, h2, h3⟩ := Cond.arrayClass_spec h
  exact ⟨c, fun n z => ⟨(fun k h => by cases h), k, h2, comp, h3⟩, h1⟩
theorem ls_ab {s : State} {A : Array Value} (h : (Cond.arrayClass .byte).before A s = true) : ∃ cA : ClassId, ArrOfT s cA .byte ∧ va_RA s cA .byte := by
  obtain ⟨c, k, comp, h1, h2, h3⟩ := Cond.arrayClass_spec h
  exact ⟨c, fun n z => ⟨(fun k h => by cases h), k, h2, comp, h3⟩, h1⟩
theorem ls_as {s : State} {A : Array Value} (h : (Cond.arrayClass .short).before A s = true) : ∃ cA : ClassId, ArrOfT s cA .short ∧ va_RA s cA .short := by
  obtain ⟨c, k, comp, h1, h2, h3⟩ := Cond.arrayClass_spec h
  exact ⟨c, fun n z => ⟨(fun k h => by cases h), k, h2, comp, h3⟩, h1⟩
theorem ls_az {s : State} {A : Array Value} (h : (Cond.arrayClass .boolean).before A s = true) : ∃ cA : ClassId, ArrOfT s cA .boolean ∧ va_RA s cA .boolean := by
  obtain ⟨c, k, comp, h1, h2, h3⟩ := Cond.arrayClass_spec h
  exact ⟨c, fun n z => ⟨(fun k h => by cases h), k, h2, comp, h3⟩, h1⟩
theorem ls_ao {C : String} {s : State} {A : Array Value} (h : (Cond.arrayOver (.object C)).before A s = true) : ∃ cA : ClassId, ArrOfT s cA (.object C) ∧ va_RA s cA (.object C) := by
  obtain ⟨comp, cA, kA, hcomp, hidx, hkA, hkindA, hnameA⟩ := Cond.arrayOver_spec h
  exact ⟨cA, fun N z => ⟨(fun k h => by cases h), kA, hkA, comp, hkindA⟩, kA, comp, hkA, hkindA, hcomp, hnameA⟩
theorem ls_K {s : State} {A : Array Value} (hts : ∀ w ∈ lw_tbl, w.before A s = true) : ∃ (D : va_G) (dA : Nat → ClassId) (di dz : ClassId), va_K D vwCl (cl_ty dA) s ∧ va_K D vwCl (mo_ty di dz) s := by
  have ha : ∀ w ∈ lw_all, w.before A s = true := fun w h => hts w (lw_all_tbl h)
  obtain ⟨D, hD⟩ := ls_D vwCl (ls_cls hts)
  obtain ⟨a20, h20⟩ := ls_ai (ha _ q207)
  obtain ⟨a21, h21⟩ := ls_ab (ha _ q206)
  obtain ⟨a22, h22⟩ := ls_as (ha _ q419)
  obtain ⟨az, hz⟩ := ls_az (ha _ q1703)
  obtain ⟨a24, h24⟩ := ls_ao (C := RX1) (hts _ q129)
  obtain ⟨a25, h25⟩ := ls_ao (C := RX10) (hts _ q147)
  obtain ⟨a26, h26⟩ := ls_ao (C := RX17) (hts _ q149)
  obtain ⟨a27, h27⟩ := ls_ao (C := RX2) (hts _ q252)
  refine ⟨D, fun k => if k = 20 then a20 else if k = 21 then a21 else if k = 22 then a22 else if k = 24 then a24 else if k = 25 then a25 else if k = 26 then a26 else a27, a20, az, ⟨hD, ?_⟩, ⟨hD, ?_⟩⟩
  · intro k q hk
    have hm := List.mem_of_getElem? hk
    simp only [cl_ty, List.mem_cons, List.not_mem_nil, or_false] at hm
    rcases hm with e | e | e | e | e | e | e
    · rw [e]; exact h20
    · rw [e]; exact h21
    · rw [e]; exact h22
    · rw [e]; exact h24
    · rw [e]; exact h25
    · rw [e]; exact h26
    · rw [e]; exact h27
  · intro k q hk
    have hm := List.mem_of_getElem? hk
    simp only [mo_ty, List.mem_cons, List.not_mem_nil, or_false] at hm
    rcases hm with e | e
    · rw [e]; exact h20
    · rw [e]; exact hz
/-! super.size, super.mark: the look of invokespecial -/
theorem ls_pig : ∀ (n : Nat) (g : Nat → Nat), (∀ i, i ≤ n → g i < n) → ∃ i j, i < j ∧ j ≤ n ∧ g i = g j := by
  intro n
  induction n with
  | zero => intro g h; exact absurd (h 0 (Nat.le_refl 0)) (Nat.not_lt_zero _)
  | succ n ih =>
    intro g h
    by_cases hx : ∃ i, i ≤ n ∧ g i = g (n + 1)
    · obtain ⟨i, hi, he⟩ := hx
      exact ⟨i, n + 1, by omega, Nat.le_refl _, he⟩
    · have hne : ∀ i, i ≤ n → g i ≠ g (n + 1) := fun i hi he => hx ⟨i, hi, he⟩
      have key := ih (fun i => if g i = n then g (n + 1) else g i) (fun i hi => by
        have h1 := h i (by omega)
        have h2 := h (n + 1) (Nat.le_refl _)
        have h3 := hne i hi
        show (if g i = n then g (n + 1) else g i) < n
        split <;> omega)
      obtain ⟨i, j, hij, hj, he⟩ := key
      refine ⟨i, j, hij, by omega, ?_⟩
      have h3 := hne i (by omega)
      have h4 := hne j hj
      replace he : (if g i = n then g (n + 1) else g i) = (if g j = n then g (n + 1) else g j) := he
      split at he <;> split at he <;> omega
def ls_su (vm : Vm) (x : ClassId) : Option ClassId := vm.classes[x]?.bind (·.super)
def ls_up (vm : Vm) (c : ClassId) : Nat → Option ClassId
  | 0 => some c
  | i + 1 => (ls_up vm c i).bind (ls_su vm)
theorem ls_up_s {vm : Vm} {c p : ClassId} (h : ls_su vm c = some p) : ∀ i, ls_up vm c (i + 1) = ls_up vm p i := by
  intro i
  induction i with
  | zero => simp [ls_up, h]
  | succ i ih =>
    show (ls_up vm c (i + 1)).bind (ls_su vm) = (ls_up vm p i).bind (ls_su vm)
    rw [ih]
theorem ls_up_n {vm : Vm} {c : ClassId} (h : ls_su vm c = none) : ∀ i, ls_up vm c (i + 1) = none := by
  intro i
  induction i with
  | zero => simp [ls_up, h]
  | succ i ih =>
    show (ls_up vm c (i + 1)).bind (ls_su vm) = none
    rw [ih]
    rfl
theorem ls_up_per {vm : Vm} {c : ClassId} {i j : Nat} (h : ls_up vm c i = ls_up vm c j) : ∀ k, ls_up vm c (i + k) = ls_up vm c (j + k) := by
  intro k
  induction k with
  | zero => exact h
  | succ k ih =>
    show (ls_up vm c (i + k)).bind (ls_su vm) = (ls_up vm c (j + k)).bind (ls_su vm)
    rw [ih]
theorem ls_up_le {vm : Vm} {c x : ClassId} : ∀ (d i : Nat), ls_up vm c (i + d) = some x → ∃ y, ls_up vm c i = some y := by
  intro d
  induction d generalizing x with
  | zero => intro i h; exact ⟨x, h⟩
  | succ d ih =>
    intro i h
    have h2 : (ls_up vm c (i + d)).bind (ls_su vm) = some x := h
    obtain ⟨y, hy, -⟩ := Option.bind_eq_some_iff.mp h2
    exact ih i hy
def ls_g (vm : Vm) (name desc : String) (p : ClassId) : Option MethodId := (vm.classes[p]?.bind (·.findMethod name desc)).map fun i => ⟨p, i⟩
theorem ls_sup_mem {vm : Vm} : ∀ (F : Nat) (c x : ClassId), x ∈ vm.superclassesAux F c → ∃ i, i < F ∧ ls_up vm c (i + 1) = some x := by
  intro F
  induction F with
  | zero => intro c x h; simp [Vm.superclassesAux] at h
  | succ F ih =>
    intro c x h
    rw [Vm.superclassesAux] at h
    cases hs : vm.classes[c]?.bind (·.super) with
    | none => rw [hs] at h; simp at h
    | some p =>
      rw [hs] at h
      have hs2 : ls_su vm c = some p := hs
      rcases List.mem_cons.mp h with e | e
      · refine ⟨0, by omega, ?_⟩
        rw [ls_up_s hs2, e]
        rfl
      · obtain ⟨i, hi, hu⟩ := ih p x e
        refine ⟨i + 1, by omega, ?_⟩
        rw [ls_up_s hs2]
        exact hu
theorem ls_look_n {vm : Vm} {name desc : String} : ∀ (F : Nat) (c : ClassId), lookupInSuperclasses vm name desc F c = none → ∀ i, i < F → ∀ x, ls_up vm c i = some x → ls_g vm name desc x = none := by
  intro F
  induction F with
  | zero => intro c _ i hi; exact absurd hi (Nat.not_lt_zero _)
  | succ F ih =>
    intro c h i hi x hx
    rw [lookupInSuperclasses] at h
    cases hk : vm.classes[c]? with
    | none =>
      cases i with
      | zero =>
        cases hx
        simp [ls_g, hk]
      | succ i =>
        rw [ls_up_n (by simp [ls_su, hk])] at hx
        cases hx
    | some k =>
      rw [hk] at h
      simp only [Option.bind_eq_bind, Option.bind_some] at h
      cases hf : k.findMethod name desc with
      | some j => rw [hf] at h; simp at h
      | none =>
        rw [hf] at h
        cases i with
        | zero =>
          cases hx
          simp [ls_g, hk, hf]
        | succ i =>
          cases hs : k.super with
          | none =>
            rw [ls_up_n (by simp [ls_su, hk, hs])] at hx
            cases hx
          | some p =>
            rw [hs] at h
            rw [ls_up_s (p := p) (by simp [ls_su, hk, hs])] at hx
            exact ih p h i (by omega) x hx
theorem ls_look_s {vm : Vm} {name desc : String} {m : MethodId} : ∀ (fu : Nat) (c : ClassId), lookupInSuperclasses vm name desc fu c = some m → ∀ F, fu ≤ F + 1 → ∃ L, (ls_g vm name desc c).toList ++ (vm.superclassesAux F c).filterMap (ls_g vm name desc) = m :: L := by
  intro fu
  induction fu with
  | zero => intro c h; simp [lookupInSuperclasses] at h
  | succ fu ih =>
    intro c h F hF
    rw [lookupInSuperclasses] at h
    cases hk : vm.classes[c]? with
    | none => rw [hk] at h; simp at h
    | some k =>
      rw [hk] at h
      simp only [Option.bind_eq_bind, Option.bind_some] at h
      cases hf : k.findMethod name desc with
      | some j =>
        rw [hf] at h
        simp at h
        subst h
        exact ⟨(vm.superclassesAux F c).filterMap (ls_g vm name desc), by simp [ls_g, hk, hf]⟩
      | none =>
        rw [hf] at h
        cases hs : k.super with
        | none => rw [hs] at h; simp at h
        | some p =>
          rw [hs] at h
          have h2 : lookupInSuperclasses vm name desc fu p = some m := h
          have h0 : ls_g vm name desc c = none := by simp [ls_g, hk, hf]
          cases F with
          | zero =>
            have : fu = 0 := by omega
            subst this
            simp [lookupInSuperclasses] at h2
          | succ F =>
            obtain ⟨L, hL⟩ := ih p h2 F (by omega)
            refine ⟨L, ?_⟩
            rw [h0, Vm.superclassesAux]
            have hsu : vm.classes[c]?.bind (·.super) = some p := by simp [hk, hs]
            rw [hsu, ← hL]
            cases hg : ls_g vm name desc p <;> simp [List.filterMap_cons, hg]
theorem ls_sup_n {vm : Vm} {name desc : String} {c : ClassId} (h : lookupInSuperclasses vm name desc (vm.classes.size + 1) c = none) : superclassMethods vm c name desc = [] := by
  have h0 := ls_look_n _ c h
  show (vm.superclasses c).filterMap (ls_g vm name desc) = []
  rw [List.filterMap_eq_nil_iff]
  intro x hx
  obtain ⟨i, hi, hu⟩ := ls_sup_mem _ c x hx
  by_cases hlt : i + 1 < vm.classes.size + 1
  · exact h0 (i + 1) hlt x hu
  · have hi2 : i = vm.classes.size := by omega
    subst hi2
    have hg : ∀ k, k ≤ vm.classes.size → (ls_up vm c k).getD 0 < vm.classes.size := by
      intro k hk
      obtain ⟨d, hd⟩ : ∃ d, vm.classes.size + 1 = (k + 1) + d := ⟨vm.classes.size - k, by omega⟩
      rw [hd] at hu
      obtain ⟨y, hy⟩ := ls_up_le d (k + 1) hu
      have hy2 : (ls_up vm c k).bind (ls_su vm) = some y := hy
      obtain ⟨z, hz, hz2⟩ := Option.bind_eq_some_iff.mp hy2
      rw [hz]
      obtain ⟨kk, hkk, -⟩ := Option.bind_eq_some_iff.mp hz2
      exact (Array.getElem?_eq_some_iff.mp hkk).1
    obtain ⟨a, b, hab, hb, he⟩ := ls_pig vm.classes.size (fun k => (ls_up vm c k).getD 0) hg
    have hsome : ∀ k, k ≤ vm.classes.size → ls_up vm c k = some ((ls_up vm c k).getD 0) := by
      intro k hk
      obtain ⟨d, hd⟩ : ∃ d, vm.classes.size + 1 = k + d := ⟨vm.classes.size + 1 - k, by omega⟩
      rw [hd] at hu
      obtain ⟨y, hy⟩ := ls_up_le d k hu
      rw [hy]
      rfl
    have heq : ls_up vm c a = ls_up vm c b := by
      rw [hsome a (by omega), hsome b hb]
      exact congrArg some he
    have hper := ls_up_per heq (vm.classes.size + 1 - b)
    rw [show b + (vm.classes.size + 1 - b) = vm.classes.size + 1 by omega, hu] at hper
    exact h0 (a + (vm.classes.size + 1 - b)) (by omega) x hper
theorem ls_sel_n {vm : Vm} {name desc : String} {r : MethodId} : ∀ (F : Nat) (c : ClassId), (∀ i, i < F → ∀ x, ls_up vm c i = some x → ls_g vm name desc x = none) → selectInSuperclasses vm r name desc F c = none := by
  intro F
  induction F with
  | zero => intro c _; rfl
  | succ F ih =>
    intro c h
    rw [selectInSuperclasses]
    cases hk : vm.classes[c]? with
    | none => rfl
    | some k =>
      have h0 := h 0 (by omega) c rfl
      have hf : k.findMethod name desc = none := by
        simp [ls_g, hk] at h0
        exact h0
      simp only [Option.bind_eq_bind, Option.bind_some, hf, Option.bind_none]
      cases hs : k.super with
      | none => rfl
      | some p =>
        have := ih p (fun i hi x hx => h (i + 1) (by omega) x (by rw [ls_up_s (p := p) (by simp [ls_su, hk, hs])]; exact hx))
        simp [this]
theorem ls_lsp {s : State} {A : Array Value} {n d : String} (hsame : (Cond.sameMethod RX10 RX9 n d).before A s = true) (hinst : (Cond.instanceMethod ⟨RX9, n, d⟩).before A s = true) (hsel : (Cond.landsInDefault RX10 ⟨RX10, n, d⟩ ⟨RX9, n, d⟩).before A s = true) : cl_lsp n d s := by
  obtain ⟨c, ck, r, hc, hck, hni, hf, hn⟩ := Cond.sameMethod_found hsame
  obtain ⟨m2, meth, hn2, hm, hst, hab⟩ := Cond.instanceMethod_spec hinst
  cases hn.symm.trans hn2
  obtain ⟨ck2, hck2, hname⟩ := Vm.findClass_spec hc
  cases hck.symm.trans hck2
  have hpoly : ∀ y, signaturePolymorphic ck y = false := by
    intro y
    simp [signaturePolymorphic, hname, RX10]
  obtain ⟨hup, -⟩ := (State.methodFound?_class hc hck hni hpoly r).mp hf
  refine ⟨c, r, hc, hn, ?_⟩
  obtain ⟨e1, e2⟩ := name_of_methodNamed hn hm
  replace e1 : meth.name = n := e1
  replace e2 : meth.desc = d := e2
  have hfl : (superclassMethods s.vm c n d).filter (fun m => !(s.vm.classes[c]?).any (·.isInterface) || (s.vm.method? m).any fun x => hasFlag x.accessFlags Acc.public_) = superclassMethods s.vm c n d := by
    rw [List.filter_eq_self]
    intro a _
    simp [hck, hni]
  unfold lookupSpecial
  simp only [hfl]
  cases hl : lookupInSuperclasses s.vm n d (s.vm.classes.size + 1) c with
  | some m' =>
    have hr : m' = r := by
      simp [Vm.lookupUp, hl] at hup
      exact hup
    subst hr
    obtain ⟨L, hL⟩ := ls_look_s _ c hl (s.vm.classes.size + 1) (by omega)
    replace hL : ((s.vm.classes[c]?.bind (·.findMethod n d)).map fun i => (⟨c, i⟩ : MethodId)).toList ++ superclassMethods s.vm c n d = m' :: L := hL
    rw [hL, List.find?_cons]
    simp [hm, hst]
  | none =>
    have h0 := ls_look_n _ c hl
    have hs0 := ls_sup_n hl
    have ho : ((s.vm.classes[c]?.bind (·.findMethod n d)).map fun i => (⟨c, i⟩ : MethodId)) = none := h0 0 (by omega) c rfl
    rw [hs0, ho]
    simp only [Option.toList_none, List.append_nil, List.find?_nil]
    have hsn : selectInSuperclasses s.vm r n d (s.vm.classes.size + 1) c = none := ls_sel_n _ c h0
    have hro : refusedOverriding {} s.vm c n d = false := by
      unfold refusedOverriding
      simp only [hs0, ho]
      rfl
    simp only [Cond.before, Cond.holds, Cond.value, hc, hf, hn, hm, Option.map_some, beq_iff_eq, Option.some.injEq] at hsel
    have hsm : selectMethod {} s.vm c r = (match (maximallySpecific s.vm c n d).filter fun m => (s.vm.method? m).any (!·.isAbstract) with
        | [m] => .method m
        | [] => .none
        | _ => .several) ∨ meth.isPrivate = true := by
      cases hp : meth.isPrivate with
      | true => exact Or.inr rfl
      | false =>
        left
        unfold selectMethod
        simp only [hm, hp, e1, e2, hro, hsn]
        rfl
    split at hsel
    · rename_i m' hq
      simp only [Bool.and_eq_true, decide_eq_true_eq, Bool.not_eq_true'] at hsel
      obtain ⟨⟨⟨⟨h1, -⟩, h2⟩, -⟩, -⟩ := hsel
      subst h1
      rcases hsm with h3 | h3
      · exact h3.symm.trans hq
      · rw [h2] at h3
        cases h3
    · cases hsel
theorem ls_sel {s : State} {A : Array Value} {C : String} {y : MethodName} (hy : y.cls ≠ "java/lang/invoke/MethodHandle" ∧ y.cls ≠ "java/lang/invoke/VarHandle") (hsel : (Cond.landsInDefault C y y).before A s = true) : cl_sel C y y s := by
  simp only [Cond.before, Cond.holds, Cond.value] at hsel
  cases hc : s.vm.findClass C with
  | none => simp [hc] at hsel
  | some c =>
  cases hm : s.methodNamed? y with
  | none => cases hr : s.methodFound? y.cls y.name y.desc <;> simp [hc, hr, hm] at hsel
  | some m =>
  have hr := State.methodFound?_of_named hm hy
  cases hrm : s.vm.method? m with
  | none => simp [hc, hr, hm, hrm] at hsel
  | some rm =>
  simp only [hc, hr, hm, hrm, Option.map_some, beq_iff_eq, Option.some.injEq] at hsel
  split at hsel
  · rename_i m' hq
    simp only [Bool.and_eq_true, decide_eq_true_eq] at hsel
    obtain ⟨⟨⟨⟨h1, -⟩, -⟩, -⟩, -⟩ := hsel
    subst h1
    exact ⟨c, m', m', hc, hm, hm, hq⟩
  · cases hsel
theorem ls_priv {s : State} {A : Array Value} {C : String} {y : MethodName} {n : Nat} (hy : y.cls ≠ "java/lang/invoke/MethodHandle" ∧ y.cls ≠ "java/lang/invoke/VarHandle") (hins : (Cond.instantiable C n).before A s = true) (hpriv : (Cond.privateMethod y).before A s = true) (hinst : (Cond.instanceMethod y).before A s = true) (hsame : (Cond.sameMethod y.cls y.cls y.name y.desc).before A s = true) : (Cond.selects C y y).before A s = true := by
  obtain ⟨c, k, hc, hk, -, -, -, -⟩ := Cond.instantiable_spec hins
  obtain ⟨mk, methM, hnamed, hmethM, -, -⟩ := Cond.instanceMethod_spec hinst
  have hfound : s.methodFound? y.cls y.name y.desc = some mk := State.methodFound?_of_named hnamed hy
  obtain ⟨c2, ck, r, hc2, hck, hni, -, -⟩ := Cond.sameMethod_found hsame
  have hcls : mk.cls = c2 := Option.some.inj ((findClass_of_methodNamed hnamed).symm.trans hc2)
  have hsel : selectMethod {} s.vm c mk = .method mk := selectMethod_private hmethM (Cond.privateMethod_at hpriv mk methM hnamed hmethM)
  simp only [Cond.before, Cond.holds, Cond.value, hc, hfound, hnamed, hsel, hcls, hck]
  simp
  exact hni
