/-! a checkcast that fails -/
theorem cx_len_app (a b : String) : (a ++ b).toList.length = a.toList.length + b.toList.length := by rw [String.toList_append, List.length_append]
theorem cx_fc {vm : Vm} {name : String} {c : ClassId} (h : vm.findClass name = some c) : ∃ k, vm.classes[c]? = some k ∧ k.name = name ∧ k.hidden = none ∧ k.loader = none ∧ (∀ t, k.kind ≠ .primitive t) := by
  obtain ⟨hlt, hp, _⟩ := Array.findIdx?_eq_some_iff_getElem.mp h
  refine ⟨vm.classes[c], by simp [hlt], ?_⟩
  simp only [Bool.and_eq_true, beq_iff_eq, Option.isNone_iff_eq_none] at hp
  refine ⟨hp.1.1.1, hp.1.1.2, hp.2, fun t ht => ?_⟩
  have h2 := hp.1.2
  rw [ht] at h2
  cases h2
/-- a text that begins so is modelled -/
theorem cx_mod {t u : String} (h : t = "class " ++ u) : (t == notModelled) = false := by
  rw [beq_eq_false_iff_ne]
  intro h2
  rw [h] at h2
  have h3 := congrArg String.toList h2
  rw [String.toList_append] at h3
  have h4 : notModelled.toList = '\u0000' :: " a message that is not modelled".toList := by decide
  have h5 : "class ".toList = 'c' :: "lass ".toList := by decide
  rw [h4, h5] at h3
  simp at h3
section CXC
variable {p : Program} {l : Launch} {e : Env} {R : Room} {s : State} {m : MethodId} {args : Array Value} {below : List Frame} {meth : Method} {c : Code} {H : Heap} {locs : List Loc} {cells slots : Nat} {Q : State → Prop}
variable {cc : ByteArray} {nL pc : Nat} {ls : Array Slot} {rest : List Value} {D : va_G} {dA : Nat → ClassId} {B : (Nat → Nat) × Nat} {ad : Nat → Nat} {A : Nat → Prop} {η : cl_S} {own : String} {a o : Nat}
theorem cx_castofNo {T : State} (X : Stand p l e R s m args below meth c T locs cells slots) (hexec : p.tables.exec = Jvm.exec)
    {own name : String} {index : Nat} (hown : s.vm.findClass own = some m.cls) (hlink : (Cond.classLink own index name).before args s = true)
    {a : Addr} {cell : Cell} {cT : ClassId} {ks : Class} (hcell : T.heap[a]? = some cell) (hobj : cell.vm.isStatics = false) (hks : s.vm.classes[cell.cls]? = some ks) (hcT : s.vm.findClass name = some cT) (hasg : s.vm.assignable cell.cls cT = false)
    {g : JFrame} (hg : g.method = m) {rest : List Value} (hstack : g.stack = .ref a :: rest) (hdg : decode c.code g.pc = .ok (.checkcast index, 3)) :
    ∃ (vm' : Vm) (ks' kt' : Class), s.WarmedH vm' ∧ vm'.classes[cell.cls]? = some ks' ∧ vm'.classes[cT]? = some kt' ∧ Stand p l e R s m args below meth c (T.setVm vm') locs cells slots ∧
      ∀ target, Steps p.tables e below (((T.setVm vm').setTop g).pushFrame (.throwNew "java/lang/ClassCastException" (some (checkcast.message vm' ks' kt')) none)) target → Steps p.tables e below (T.setTop g) target := by
  have hpl : e.platform.magicAccessors = ({} : Platform).magicAccessors := by rw [X.admits.platform]
  obtain ⟨c', hc', hcl⟩ := Cond.classLink_spec hown hlink e.platform hpl
  cases hcT.symm.trans hc'
  obtain ⟨dk, _, _, kt, hd, _, _, _, _, hkt, _, hopen⟩ := hcl.here
  have hcl₀ := X.warmed.classLinks hcl
  have hW' : s.WarmedH (T.vm.noted m.cls index (.cls cT)) := X.warmed.noted hd hopen (State.rightAt_cls hcl)
  obtain ⟨ks', hks', -⟩ := hW'.alike.2.2 _ _ hks
  obtain ⟨kt', hkt', -⟩ := hW'.alike.2.2 _ _ hkt
  refine ⟨_, ks', kt', hW', hks', hkt', X.noted hW', fun target hrest => ?_⟩
  subst hg
  jvm_step X.here [hexec, hdg, checkcast.wp_cold (e := e) (s := T) (f := g) X.here.top hstack (resolveClass_links e.toSetting hcl₀) hcl₀.ready,
    checkcast.wp_ready (e := e) (s := T.setVm (T.vm.noted g.method.cls index (.cls cT))) (f := g) X.here.top hcl₀.ready hstack]
  refine ⟨cell, hcell, VmData.noStatics_of hobj, ks', hks', kt', hkt', ?_⟩
  have h1 : ¬ (T.vm.noted g.method.cls index (Resolved.cls cT)).assignable cell.cls cT = true := by rw [hW'.alike.assignable, hasg]; decide
  rw [if_neg h1]
  exact hrest
/-- the message's length -/
theorem cx_msg {vm : Vm} {ks kt : Class} {C nm : String} (hm : (vm.modules.all fun m => m.loader.isSome || m.name == "java.base" || !(castPackages_1.any fun p => m.packages.contains p)) = true) (h1 : ks.name = C ∧ ks.hidden = none ∧ ks.loader = none) (h2 : kt.name = nm ∧ kt.hidden = none ∧ kt.loader = none) (k1 : ks.ofPrimitives = false) (k2 : kt.ofPrimitives = false) (p1 : packageOf C = "") (p2 : packageOf nm = "") (l1 : (dotted C).toList.length ≤ 20) (l2 : (dotted nm).toList.length ≤ 20) :
    (checkcast.message vm ks kt == notModelled) = false ∧ (stringBytes (stringToUtf16 (checkcast.message vm ks kt))).size ≤ 900 := by
  have s1 : ks.shown = dotted C := by unfold Class.shown; rw [h1.2.1, h1.1]
  have s2 : kt.shown = dotted nm := by unfold Class.shown; rw [h2.2.1, h2.1]
  have home : ∀ k : Class, k.loader = none → k.ofPrimitives = false → packageOf k.name = "" → (vm.home k).toList.length ≤ 40 := by
    intro k hk hp hq
    have e1 : (" of loader " : String).toList.length = 11 := by decide
    have e2 : ("'bootstrap'" : String).toList.length = 11 := by decide
    unfold Vm.home
    rw [hk]
    show ((match vm.moduleOf k with | some m => "module " ++ m.name | none => "unnamed module") ++ " of loader " ++ "'bootstrap'").toList.length ≤ 40
    rw [cx_len_app, cx_len_app, e1, e2]
    cases hmo : vm.moduleOf k with
    | none =>
      have e3 : ("unnamed module" : String).toList.length = 14 := by decide
      show ("unnamed module" : String).toList.length + 11 + 11 ≤ 40
      omega
    | some mi =>
      have hb : mi.name = "java.base" := by
        unfold Vm.moduleOf at hmo
        rw [hp] at hmo
        have hmem := List.mem_of_find?_eq_some hmo
        have hpr := List.find?_some hmo
        have hall := List.all_eq_true.mp hm mi hmem
        simp only [Bool.and_eq_true, beq_iff_eq] at hpr
        rw [hk] at hpr
        rw [hpr.1] at hall
        have hc : (castPackages_1.any fun p => mi.packages.contains p) = true := by
          refine List.any_eq_true.mpr ⟨"", by decide, ?_⟩
          rw [← hq]; exact hpr.2
        rw [hc] at hall
        simpa using hall
      show ("module " ++ mi.name).toList.length + 11 + 11 ≤ 40
      rw [hb]
      decide
  have g1 := home ks h1.2.2 k1 (by rw [h1.1]; exact p1)
  have g2 := home kt h2.2.2 k2 (by rw [h2.1]; exact p2)
  have hh : (vm.homes ks kt).toList.length ≤ 140 := by
    unfold Vm.homes
    rw [s1, s2]
    split
    · show (toString (dotted C) ++ toString " and " ++ toString (dotted nm) ++ toString " are in " ++ toString (vm.home ks)).toList.length ≤ 140
      rw [cx_len_app, cx_len_app, cx_len_app, cx_len_app]
      have e1 : (toString " and " : String).toList.length = 5 := by decide
      have e2 : (toString " are in " : String).toList.length = 8 := by decide
      show (dotted C).toList.length + _ + (dotted nm).toList.length + _ + (vm.home ks).toList.length ≤ 140
      omega
    · show (toString (dotted C) ++ toString " is in " ++ toString (vm.home ks) ++ toString "; " ++ toString (dotted nm) ++ toString " is in " ++ toString (vm.home kt)).toList.length ≤ 140
      rw [cx_len_app, cx_len_app, cx_len_app, cx_len_app, cx_len_app, cx_len_app]
      have e1 : (toString " is in " : String).toList.length = 7 := by decide
      have e2 : (toString "; " : String).toList.length = 2 := by decide
      show (dotted C).toList.length + _ + (vm.home ks).toList.length + _ + (dotted nm).toList.length + _ + (vm.home kt).toList.length ≤ 140
      omega
  have hmsg : checkcast.message vm ks kt = "class " ++ (dotted C ++ " cannot be cast to class " ++ dotted nm ++ " (" ++ vm.homes ks kt ++ ")") := by
    show toString "class " ++ toString ks.shown ++ toString " cannot be cast to class " ++ toString kt.shown ++ toString " (" ++ toString (vm.homes ks kt) ++ toString ")" = _
    rw [s1, s2]
    show "class " ++ dotted C ++ " cannot be cast to class " ++ dotted nm ++ " (" ++ vm.homes ks kt ++ ")" = _
    simp only [String.append_assoc]
  refine ⟨cx_mod hmsg, ?_⟩
  have b1 := stringBytes_size_le (stringToUtf16 (checkcast.message vm ks kt))
  have b2 := utf16_size_le (checkcast.message vm ks kt)
  have b3 : (checkcast.message vm ks kt).toList.length ≤ 225 := by
    rw [hmsg, cx_len_app, cx_len_app, cx_len_app, cx_len_app, cx_len_app, cx_len_app]
    have e1 : ("class " : String).toList.length = 6 := by decide
    have e2 : (" cannot be cast to class " : String).toList.length = 25 := by decide
    have e3 : (" (" : String).toList.length = 2 := by decide
    have e4 : (")" : String).toList.length = 1 := by decide
    omega
  omega
/-- (C, nm): the object's class, the class that it is cast to -/
theorem cx_ccast {C nm : String} {T : u_T} {N ci index : Nat} (S : CallFix p m c cc nL s args lw_all own) (V : cl_V D dA B ad A s.heap η s H locs) (hlt : l.stackTraces = false) (hlocks : meth.locks = false) (hls : ls.size = nL) (hr : (rest.map fun v => v.category).sum ≤ 7) (hR : 9 ≤ R.frames ∧ 10248 ≤ R.locals) (hf : cells + 3 ≤ R.cells ∧ slots + 910 ≤ R.slots) (ha : cl_at ad η a o) (hk : cl_k η o = ci) (hc : vwCl[ci]? = some (C, T, N)) (h20 : ci < 20) (hlink : Cond.classLink own index nm ∈ lw_all) (hnc : va_Nc C nm s) (ho1 : Cond.instantiable C N ∈ lw_all) (ho2 : ∃ N2, Cond.instantiable nm N2 ∈ lw_all) (p1 : packageOf C = "") (p2 : packageOf nm = "") (l1 : (dotted C).toList.length ≤ 20) (l2 : (dotted nm).toList.length ≤ 20) (hdg : decode cc pc = .ok (.checkcast index, 3))
    (k : cx_K p l e R s m args below meth c locs cells slots Q pc ls (.ref a :: rest) D dA B ad A η 3 3 910) : W p l e R s m args below meth c H locs cells slots Q (F0 m pc ls (.ref a :: rest)) := by
  obtain ⟨cell, q1, q2, q3⟩ := cl_recv V ha hk hc h20
  obtain ⟨c0, t0, f1, f2, f3⟩ := hnc
  cases q3.symm.trans f1
  intro T1 hT X
  obtain ⟨ks, hks, n1, n2, n3, -⟩ := cx_fc q3
  obtain ⟨kt, hkt, m1, m2, m3, -⟩ := cx_fc f2
  obtain ⟨cx, kx, hcx, hkx, ordx, -⟩ := Cond.instantiable_spec (S.2.2.2.2 _ ho1)
  cases q3.symm.trans hcx
  cases hks.symm.trans hkx
  obtain ⟨N2, ho2⟩ := ho2
  obtain ⟨cy, ky, hcy, hky, ordy, -⟩ := Cond.instantiable_spec (S.2.2.2.2 _ ho2)
  cases f2.symm.trans hcy
  cases hkt.symm.trans hky
  obtain ⟨vm', ks', kt', hW, hks', hkt', X', st⟩ := cx_castofNo X S.1 S.2.2.2.1 (S.2.2.2.2 _ hlink) (by rw [hT]; exact q1) q2 hks f2 f3 (g := F0 m pc ls (.ref a :: rest)) rfl rfl (by rw [S.2.1]; exact hdg)
  obtain ⟨ks2, hks2, e1⟩ := hW.alike.2.2 _ _ hks
  cases hks'.symm.trans hks2
  obtain ⟨kt2, hkt2, e2⟩ := hW.alike.2.2 _ _ hkt
  cases hkt'.symm.trans hkt2
  have hmod : vm'.modules = s.vm.modules := by rw [hW.1]
  have hM := cx_msg (vm := vm') (ks := ks') (kt := kt') (C := C) (nm := nm) (by rw [hmod]; exact V.1.2.2.2.2.2.2.1.2.2.2.1) (by rw [e1]; exact ⟨n1, n2, n3⟩) (by rw [e2]; exact ⟨m1, m2, m3⟩) (by unfold Class.ofPrimitives; rw [e1]; show (match ks.kind with | .primitive _ => true | .array .. => _ | .ordinary => false) = false; rw [ordx]) (by unfold Class.ofPrimitives; rw [e2]; show (match kt.kind with | .primitive _ => true | .array .. => _ | .ordinary => false) = false; rw [ordy]) p1 p2 l1 l2
  have hN : vx_Note p l e R s m args below meth c H locs cells slots Q (F0 m pc ls (.ref a :: rest)) "java/lang/ClassCastException" (checkcast.message vm' ks' kt') :=
    cx_vm (nb := 900) (names := ["java/lang/RuntimeException", "java/lang/Exception"]) S V hlt hlocks hls (by show 1 + (rest.map fun v => v.category).sum ≤ 8; omega) hR hf (by decide +kernel) (by decide +kernel) (by decide +kernel) (by decide +kernel) cx_wC cx_oC cx_gC (by decide) rfl hM.1 hM.2 (by decide) k
  obtain ⟨t, a1, b1⟩ := hN (T1.setVm vm') hT X'
  exact ⟨t, st t a1, b1⟩
end CXC
