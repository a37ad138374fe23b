/-! System.arraycopy that throws, over the abstract heap -/
section CCP
variable {p : Program} {l : Launch} {e : Env} {R : Room} {s : State} {m : MethodId} {args : Array Value} {below : List Frame} {meth : Method} {c : Code} {H : Heap} {locs : List Loc} {cells slots : Nat} {Q : State → Prop}
variable {cc : ByteArray} {nL pc : Nat} {ls : Array Slot} {rest : List Value}
theorem cn_desc : parseMethodDescriptor "(Ljava/lang/Object;ILjava/lang/Object;II)V" = some { parameters := [.object "java/lang/Object", .int, .object "java/lang/Object", .int, .int], returnType := none } := by decide +kernel
abbrev cn_a5 (v1 v3 : Value) (sp dp n : Int32) : Array Value := #[v1, .int sp, v3, .int dp, .int n]
def cn_rv (v : Value) : Prop := v = .null ∨ ∃ a, v = .ref a
theorem cn_seen {x : Method} {v1 v3 : Value} {sp dp n : Int32} (h1 : cn_rv v1) (h3 : cn_rv v3) (hst : x.isStatic = true) (hps : x.sig.parameters = [.object "java/lang/Object", .int, .object "java/lang/Object", .int, .int]) : operandWords (cn_a5 v1 v3 sp dp n).toList = 5 ∧ seenByNative x (cn_a5 v1 v3 sp dp n) = cn_a5 v1 v3 sp dp n := by
  rcases h1 with rfl | ⟨a, rfl⟩ <;> rcases h3 with rfl | ⟨b, rfl⟩ <;> exact ⟨rfl, by simp [seenByNative, hst, hps, narrow]⟩
/-- what arraycopy finds wrong: its class, its text -/
def cn_F (e : Env) (s : State) (H : Heap) (a : Array Value) (cls : String) (msg : Option String) : Prop :=
  ∀ U : State, U.heap = H → s.WarmedH U.vm → ∀ (fs : List Frame) (E : CtlPost), (∀ acts', E (.throwNew cls msg) acts' (U.setFrames fs)) → wp (Native.java_lang_System.arraycopy.sem a) (fun _ _ _ _ => False) E e false [] (U.setFrames fs)
theorem cn_copyX (hexec : p.tables.exec = Jvm.exec) (hb : c.code = cc) {own : String} {index : Nat} (hown : s.vm.findClass own = some m.cls) (hlink : (Cond.methodLink own index arraycopyName).before args s = true) (hnat : (Cond.native arraycopyName).before args s = true) (hstat : (Cond.static arraycopyName).before args s = true) (hini : (Cond.initialized "java/lang/System").before args s = true)
    {cls : String} {msg : Option String} {A : Nat → Prop} {dc ds : Nat} (hS : va_S A s.heap H locs) (hsize : ls.size = c.maxLocals)
    (hRframes : 1 ≤ R.frames) (hRlocals : (rest.map fun v => v.category).sum + 18 ≤ R.locals)
    {v1 v3 : Value} {sp dp n : Int32} (h1 : cn_rv v1) (h3 : cn_rv v3) (hsem : cn_F e s H (cn_a5 v1 v3 sp dp n) cls msg) (hdg : decode cc pc = .ok (.invokestatic index, 3))
    (hthrow : ∀ (U : State) (g : JFrame) (nf : NFrame), U.heap = H → Stand p l e R s m args below meth c U locs cells slots → g.method = m → g.locals.size = c.maxLocals → 2 * g.monitorRoom + (g.stack.map fun v => v.category).sum ≤ (rest.map fun v => v.category).sum → nf.words = 0 →
      ∃ (S : State) (q : Addr) (ce : Cell), Steps p.tables e below (U.setFrames (.throwNew cls msg none :: .native nf :: .java g :: below)) (S.setFrames (.throwing q :: .native nf :: .java g :: below)) ∧
        Stand p l e R s m args below meth c S locs (cells + dc) (slots + ds) ∧ S.heap[q]? = some ce ∧ s.vm.findClass cls = some ce.cls ∧ ce.vm = .none ∧ H.size ≤ S.heap.size ∧ (∀ a0, a0 < H.size → S.heap[a0]? = H[a0]?))
    (k : ∀ (H1 : Heap) (q9 : Addr) (ce : Cell), H.size ≤ H1.size → (∀ q : Nat, q < H.size → H1[q]? = H[q]?) → va_S A s.heap H1 locs → H1[q9]? = some ce → ce.vm = .none → s.vm.findClass cls = some ce.cls → vx_W p l e R s m args below meth c H1 locs (cells + dc) (slots + ds) Q (F0 m pc ls rest) q9) :
    W p l e R s m args below meth c H locs cells slots Q (F0 m pc ls (.int n :: .int dp :: v3 :: .int sp :: v1 :: rest)) := by
  intro T hT X
  have hN := nativeStatic (y := arraycopyName) hnat hstat cn_desc
  obtain ⟨r, kk, x, hnamed, N⟩ := hN
  have hmeth : s.vm.method? r = some x := by simp [Vm.method?, N.cls, N.meth]
  have hK : BackT l R p e below s args arraycopyName 3 (rest.map fun v => v.category).sum
      (fun A9 a => (A9.U.heap = H ∧ A9.locs = locs ∧ A9.cells = cells ∧ A9.slots = slots) ∧ a = cn_a5 v1 v3 sp dp n)
      (fun _ _ q B => B.locs = locs ∧ B.cells = cells + dc ∧ B.slots = slots + ds ∧ H.size ≤ B.U.heap.size ∧ (∀ a0, a0 < H.size → B.U.heap[a0]? = H[a0]?) ∧ ∃ ce, B.U.heap[q]? = some ce ∧ ce.vm = .none ∧ s.vm.findClass cls = some ce.cls) := by
    refine BackT.of_native (row := arraycopyRow) (words := 5) (arraycopy_row p) ⟨r, kk, x, hnamed, N⟩ hRframes (by rw [show nativeFrameWords arraycopyName.cls arraycopyName.name 5 = 7 from rfl]; omega) (fun m9 meth9 c9 A9 a x9 g mk X9 hg hsz hW hn hst hps hask => ?_)
    obtain ⟨⟨q1, q2, q3, q4⟩, rfl⟩ := hask
    obtain ⟨w1, w2⟩ := cn_seen (sp := sp) (dp := dp) (n := n) h1 h3 hst hps
    obtain ⟨U, L9, c9', s9'⟩ := A9
    replace q1 : U.heap = H := q1; replace q2 : L9 = locs := q2; replace q3 : c9' = cells := q3; replace q4 : s9' = slots := q4
    subst q2; subst q3; subst q4
    have e1 : m9 = m := by
      have h9 := X9.frames.symm.trans X.frames
      injection h9 with h9 _
      injection h9
    subst e1
    have e2 : meth9 = meth := Option.some.inj (X9.method.symm.trans X.method)
    subst e2
    have e3 : c9 = c := Option.some.inj (X9.code.symm.trans X.code)
    subst e3
    obtain ⟨S, q, ce, st, Z, hce, hcl, hv, f1, f2⟩ := hthrow U g { method := mk, args := cn_a5 v1 v3 sp dp n, locked := none } q1 X9 hg hsz hW rfl
    exact ⟨w1, w2, cls, msg, fun u => u, fun _ => rfl, rfl, fun fs E hE => by rw [arraycopyRow_sem]; exact hsem U q1 X9.warmed fs E hE, q, ⟨S, _, _, _⟩, Z, ⟨rfl, rfl, rfl, f1, f2, ce, hce, hv, hcl⟩, st⟩
  obtain ⟨r', x', hnamed', hmeth', -, -, -, hsig'⟩ := Cond.native_spec hnat
  obtain ⟨v, vm₁, ⟨U, L, c2, s2⟩, hW1, XB, ⟨b1, b2, b3, f1, f2, ce, hce, hcv, hcl⟩, st⟩ := X.staticThrows hexec hown hlink hstat hini hnamed' hmeth' hsig' (by decide) hK (g := F0 m pc ls (.int n :: .int dp :: v3 :: .int sp :: v1 :: rest)) rfl hsize (Steps.refl _) (argsL := [v1, .int sp, v3, .int dp, .int n]) (rest := rest)
    (fun sig h => by rw [show arraycopyName.desc = "(Ljava/lang/Object;ILjava/lang/Object;II)V" from rfl, cn_desc] at h; rw [← Option.some.inj h]; rfl) rfl (by show 2 * 0 + _ ≤ _; omega) (by rw [hb]; exact hdg) (fun vm₁ _ => ⟨⟨hT, rfl, rfl, rfl⟩, rfl⟩)
  dsimp only at XB b1 b2 b3 f1 f2 hce st
  subst b1; subst b2; subst b3
  obtain ⟨t, a1, a2⟩ := k U.heap v ce f1 f2 ⟨Nat.le_trans hS.1 f1, fun q h1 h2 => (f2 q (Nat.lt_of_lt_of_le h1 hS.1)).trans (hS.2.1 q h1 h2), hS.2.2⟩ hce hcv hcl U rfl XB
  exact ⟨t, st.trans a1, a2⟩
theorem cn_copyM (hexec : p.tables.exec = Jvm.exec) (hb : c.code = cc) (hl : l.stackTraces = false) {own : String} {index : Nat} (hown : s.vm.findClass own = some m.cls) (hlink : (Cond.methodLink own index arraycopyName).before args s = true) (hnat : (Cond.native arraycopyName).before args s = true) (hstat : (Cond.static arraycopyName).before args s = true) (hini : (Cond.initialized "java/lang/System").before args s = true)
    {cls text : String} {names : List String} {nb : Nat} {A : Nat → Prop}
    (hcls : Bundle.fit cls = true) (hnames : ∀ n ∈ names, Bundle.fit n = true) (hsoe : (cls == "java/lang/StackOverflowError") = false) (hoom : (cls == "java/lang/OutOfMemoryError") = false)
    (hat : ∀ w ∈ vx_atM cls names, w.before args s = true) (hgood : ∀ w ∈ vx_atM cls names, vx_ot w = true)
    (hU : vx_Zq Bundle.tN "UNASSIGNED_STACK" Bundle.steD A s s.heap) (hN : vx_Zq Bundle.tN "SUPPRESSED_SENTINEL" Bundle.listD A s s.heap) (hS : va_S A s.heap H locs) (hsize : ls.size = c.maxLocals)
    (htext : (text == notModelled) = false) (hnb : (stringBytes (stringToUtf16 text)).size ≤ nb) (hnb1 : nb ≤ 1000)
    (hRframes : names.length + 5 < R.frames) (hRlocals : (rest.map fun v => v.category).sum + 10240 ≤ R.locals) (hshort : 13 * names.length + 55 ≤ 10240) (hRcells : cells + 3 ≤ R.cells) (hRslots : slots + (nb + 10) ≤ R.slots) (hlocks : meth.locks = false)
    {v1 v3 : Value} {sp dp n : Int32} (h1 : cn_rv v1) (h3 : cn_rv v3) (hsem : cn_F e s H (cn_a5 v1 v3 sp dp n) cls (some text)) (hdg : decode cc pc = .ok (.invokestatic index, 3))
    (k : ∀ (H1 : Heap) (q9 : Addr) (ce : Cell), H.size ≤ H1.size → (∀ q : Nat, q < H.size → H1[q]? = H[q]?) → va_S A s.heap H1 locs → H1[q9]? = some ce → ce.vm = .none → s.vm.findClass cls = some ce.cls → vx_W p l e R s m args below meth c H1 locs (cells + 3) (slots + (nb + 10)) Q (F0 m pc ls rest) q9) :
    W p l e R s m args below meth c H locs cells slots Q (F0 m pc ls (.int n :: .int dp :: v3 :: .int sp :: v1 :: rest)) := by
  refine cn_copyX (dc := 3) (ds := nb + 10) hexec hb hown hlink hnat hstat hini hS hsize (by omega) (by omega) h1 h3 hsem hdg (fun T g nf hT X hg hsz hW hnf => ?_) k
  have htr : e.platform.stackTraces = false := (show e.platform.stackTraces = l.stackTraces by rw [X.admits.platform]).trans hl
  have Y := vx_rebase X (R' := { frames := R.frames, locals := R.locals, cells := 3, slots := nb + 10 }) (Nat.le_refl _) (Nat.le_refl _) hRcells hRslots
  have hhp : ((T.setVm s.vm).setFrames (.invoking m args :: below)).heap = H := hT
  have hW0 : s.WarmedH ((T.setVm s.vm).setFrames (.invoking m args :: below)).vm := State.WarmedH.refl s
  have hat' : ∀ w ∈ vx_atM cls names, w.before args ((T.setVm s.vm).setFrames (.invoking m args :: below)) = true := fun w hw => vx_ot_at hW0 rfl (hgood w hw) (hat w hw)
  have hU' : vx_Zq Bundle.tN "UNASSIGNED_STACK" Bundle.steD A ((T.setVm s.vm).setFrames (.invoking m args :: below)) ((T.setVm s.vm).setFrames (.invoking m args :: below)).heap := by rw [hhp]; exact vx_Zq.moved hW0.alike (hU.kept hS.2.1)
  have hN' : vx_Zq Bundle.tN "SUPPRESSED_SENTINEL" Bundle.listD A ((T.setVm s.vm).setFrames (.invoking m args :: below)) ((T.setVm s.vm).setFrames (.invoking m args :: below)).heap := by rw [hhp]; exact vx_Zq.moved hW0.alike (hN.kept hS.2.1)
  obtain ⟨S, q, ce, st, Z, hce, hcl', hv, hkeep⟩ := cn_vmAt Y hexec htr (cls := cls) (names := names) (text := text) hcls hnames hsoe hoom (vx_own hat' (vx_isRefq hU'.1) (vx_isRefq hN'.1) hU'.2.word hN'.2.word) (fun x hx => nomatch hx) htext
    (by rw [Launch.admits_arrayLengthLimit X.admits]; omega) (by rw [Launch.admits_maxHeapBytes X.admits]; simp only [componentBytes]; omega)
    (g := g) hg hsz (nf := nf) hnf hRframes (by show _ ≤ R.locals; omega) hshort (by show 0 + 3 ≤ 3; omega) (by show 0 + (_ + 4 + 6) ≤ nb + 10; omega) hlocks
  obtain ⟨f1, f2⟩ := vx_frame Z.same
  have f1' : H.size ≤ S.heap.size := by rw [← hT]; exact f1
  have f2' : ∀ q : Nat, q < H.size → S.heap[q]? = H[q]? := fun q hq => by
    rw [← hT]
    exact f2 q (by rw [← hT] at hq; exact hq) (fun z hz => nomatch hz)
  have X5 := vx_back9 X Y Z
  have X6 : Stand p l e R s m args below meth c S locs (cells + 3) (slots + (nb + 10)) := { X5 with same := X5.same.mono (by omega) (by omega) }
  exact ⟨S, q, ce, st, X6, hce, hcl', hv, f1', f2'⟩
theorem cn_copyN (hexec : p.tables.exec = Jvm.exec) (hb : c.code = cc) (hl : l.stackTraces = false) {own : String} {index : Nat} (hown : s.vm.findClass own = some m.cls) (hlink : (Cond.methodLink own index arraycopyName).before args s = true) (hnat : (Cond.native arraycopyName).before args s = true) (hstat : (Cond.static arraycopyName).before args s = true) (hini : (Cond.initialized "java/lang/System").before args s = true)
    {nb : Nat} {A : Nat → Prop} (hat : ∀ w ∈ vx_atN nb, w.before args s = true) (hgood : ∀ w ∈ vx_atN nb, vx_ot w = true)
    (hU : vx_Zq Bundle.tN "UNASSIGNED_STACK" Bundle.steD A s s.heap) (hN : vx_Zq Bundle.tN "SUPPRESSED_SENTINEL" Bundle.listD A s s.heap) (hS : va_S A s.heap H locs) (hsize : ls.size = c.maxLocals)
    (hRframes : 8 < R.frames) (hRlocals : (rest.map fun v => v.category).sum + 10240 ≤ R.locals) (hRcells : cells + 1 ≤ R.cells) (hRslots : slots + nb ≤ R.slots) (hlocks : meth.locks = false)
    {v1 v3 : Value} {sp dp n : Int32} (h1 : cn_rv v1) (h3 : cn_rv v3) (hsem : cn_F e s H (cn_a5 v1 v3 sp dp n) "java/lang/NullPointerException" none) (hdg : decode cc pc = .ok (.invokestatic index, 3))
    (k : ∀ (H1 : Heap) (q9 : Addr) (ce : Cell), H.size ≤ H1.size → (∀ q : Nat, q < H.size → H1[q]? = H[q]?) → va_S A s.heap H1 locs → H1[q9]? = some ce → ce.vm = .none → s.vm.findClass "java/lang/NullPointerException" = some ce.cls → vx_W p l e R s m args below meth c H1 locs (cells + 1) (slots + nb) Q (F0 m pc ls rest) q9) :
    W p l e R s m args below meth c H locs cells slots Q (F0 m pc ls (.int n :: .int dp :: v3 :: .int sp :: v1 :: rest)) := by
  refine cn_copyX (dc := 1) (ds := nb) hexec hb hown hlink hnat hstat hini hS hsize (by omega) (by omega) h1 h3 hsem hdg (fun T g nf hT X hg hsz hW hnf => ?_) k
  have htr : e.platform.stackTraces = false := (show e.platform.stackTraces = l.stackTraces by rw [X.admits.platform]).trans hl
  have Y := vx_rebase X (R' := { frames := R.frames, locals := R.locals, cells := 1, slots := nb }) (Nat.le_refl _) (Nat.le_refl _) hRcells hRslots
  have hhp : ((T.setVm s.vm).setFrames (.invoking m args :: below)).heap = H := hT
  have hW0 : s.WarmedH ((T.setVm s.vm).setFrames (.invoking m args :: below)).vm := State.WarmedH.refl s
  have hat' : ∀ w ∈ vx_atN nb, w.before args ((T.setVm s.vm).setFrames (.invoking m args :: below)) = true := fun w hw => vx_ot_at hW0 rfl (hgood w hw) (hat w hw)
  have hU' : vx_Zq Bundle.tN "UNASSIGNED_STACK" Bundle.steD A ((T.setVm s.vm).setFrames (.invoking m args :: below)) ((T.setVm s.vm).setFrames (.invoking m args :: below)).heap := by rw [hhp]; exact vx_Zq.moved hW0.alike (hU.kept hS.2.1)
  have hN' : vx_Zq Bundle.tN "SUPPRESSED_SENTINEL" Bundle.listD A ((T.setVm s.vm).setFrames (.invoking m args :: below)) ((T.setVm s.vm).setFrames (.invoking m args :: below)).heap := by rw [hhp]; exact vx_Zq.moved hW0.alike (hN.kept hS.2.1)
  obtain ⟨S, q, ce, st, Z, hce, hcl', hv, hkeep⟩ := cn_npeAt Y hexec htr (n := nb) (vx_own hat' (vx_isRefq hU'.1) (vx_isRefq hN'.1) hU'.2.word hN'.2.word) (fun x hx => nomatch hx)
    (g := g) hg hsz (nf := nf) hnf hRframes (by show _ ≤ R.locals; omega) (by show 0 + 1 ≤ 1; omega) (by show 0 + nb ≤ nb; omega) hlocks
  obtain ⟨f1, f2⟩ := vx_frame Z.same
  have f1' : H.size ≤ S.heap.size := by rw [← hT]; exact f1
  have f2' : ∀ q : Nat, q < H.size → S.heap[q]? = H[q]? := fun q hq => by
    rw [← hT]
    exact f2 q (by rw [← hT] at hq; exact hq) (fun z hz => nomatch hz)
  have X5 := vx_back9 X Y Z
  have X6 : Stand p l e R s m args below meth c S locs (cells + 1) (slots + nb) := { X5 with same := X5.same.mono (by omega) (by omega) }
  exact ⟨S, q, ce, st, X6, hce, hcl', hv, f1', f2'⟩
variable {D : va_G} {dA : Nat → ClassId} {B : (Nat → Nat) × Nat} {ad : Nat → Nat} {A : Nat → Prop} {η : cl_S} {own : String} {a b o o2 index : Nat}
theorem cx_cpN {v1 v3 : Value} {sp dp n : Int32} (hv : (v1 = .null ∧ cn_rv v3) ∨ (v3 = .null ∧ ∃ a, v1 = .ref a)) (S : CallFix p m c cc nL s args lw_all own) (V : cl_V D dA B ad A s.heap η s H locs) (hlt : l.stackTraces = false) (hlocks : meth.locks = false) (hls : ls.size = nL) (hr : (rest.map fun v => v.category).sum ≤ 8) (hR : 9 ≤ R.frames ∧ 10248 ≤ R.locals) (hf : cells + 1 ≤ R.cells ∧ slots + 8 ≤ R.slots)
    (hlink : Cond.methodLink own index arraycopyName ∈ lw_all) (hnat : Cond.native arraycopyName ∈ lw_all) (hstat : Cond.static arraycopyName ∈ lw_all) (hini : Cond.initialized "java/lang/System" ∈ lw_all) (hdg : decode cc pc = .ok (.invokestatic index, 3))
    (k : cx_K p l e R s m args below meth c locs cells slots Q pc ls rest D dA B ad A η 1 1 8) : W p l e R s m args below meth c H locs cells slots Q (F0 m pc ls (.int n :: .int dp :: v3 :: .int sp :: v1 :: rest)) := by
  refine cn_copyN (nb := 8) (A := A) S.1 S.2.1 hlt S.2.2.2.1 (S.2.2.2.2 _ hlink) (S.2.2.2.2 _ hnat) (S.2.2.2.2 _ hstat) (S.2.2.2.2 _ hini) (cx_hat cx_wN cx_oN S.2.2.2.2 V.1.1) cx_gN V.1.x.2.2.1.2.2.2.1 V.1.x.2.2.1.2.2.2.2.1 V.2.2.2.2.1 (hls.trans S.2.2.1.symm) (by omega) (by omega) hf.1 hf.2 hlocks ?_ ?_ ?_ hdg (fun H1 q9 ce h1 h2 hS hce hcv hcl => k H1 q9 ce (cl_V_grow V h2 hS) hce hcv hcl)
  · rcases hv with ⟨h, _⟩ | ⟨_, a, h⟩
    · exact Or.inl h
    · exact Or.inr ⟨a, h⟩
  · rcases hv with ⟨_, h⟩ | ⟨h, _⟩
    · exact h
    · exact Or.inl h
  · intro U _ _ fs E hE
    rcases hv with ⟨rfl, _⟩ | ⟨rfl, a, rfl⟩
    · exact W.arraycopy_null1 _ _ _ _ (hE _)
    · exact W.arraycopy_null2 _ _ _ _ (hE _)
theorem cx_arr (V : cl_V D dA B ad A s.heap η s H locs) (ha : cl_at ad η a o) (hk : cx_num (cl_k η o)) : ∃ (cell : Cell) (kl : Class) (cm : ClassId), H[a]? = some cell ∧ cell.vm = .none ∧ cell.slots.size = cl_l η o ∧ s.vm.classes[cell.cls]? = some kl ∧ kl.kind = .array cm (cx_ty (cl_k η o)) := by
  obtain ⟨rfl, h1, h2⟩ := ha
  have main : ∀ t0 ct : Nat, cl_k η o = ct → ¬ ct < 20 → ct < 24 → cl_ck ct = false → (cl_ty dA)[t0]? = some (dA ct, cx_ty ct) → ∃ (cell : Cell) (kl : Class) (cm : ClassId), H[ad o]? = some cell ∧ cell.vm = .none ∧ cell.slots.size = cl_l η o ∧ s.vm.classes[cell.cls]? = some kl ∧ kl.kind = .array cm (cx_ty (cl_k η o)) := by
    intro t0 ct hk g1 g2 hck ht
    have h1' := cl_Kk V.2.2.2.2.2.2.1 h1 hk hck
    have h3 : va_at D vwCl (ad o, .inl (dA ct, cl_l η o, .inl (cl_i η o))) H := V.2.2.1 (o - 1 - cl_K) _ (by rw [cl_ws_at h1' h2, cl_ce_ia hk g1 g2])
    obtain ⟨-, k0, hk0, cm0, hkk0⟩ := (V.2.1.2 t0 _ ht).1 (cl_l η o) (fun j => .int (cl_i η o j))
    exact ⟨_, k0, cm0, h3, rfl, arrV_size _ _ _, hk0, by rw [hk]; exact hkk0⟩
  rcases hk with hk | hk | hk
  · exact main 0 20 hk (by decide) (by decide) (by decide) rfl
  · exact main 1 21 hk (by decide) (by decide) (by decide) rfl
  · exact main 2 22 hk (by decide) (by decide) (by decide) rfl
theorem cx_tyr {k : Nat} : refKind (cx_ty k) = false := by
  unfold cx_ty
  split
  · rfl
  · split <;> rfl
theorem cx_tyne {k j : Nat} (hk : cx_num k) (hj : cx_num j) (h : ¬ k = j) : (cx_ty k != cx_ty j) = true := by
  rcases hk with rfl | rfl | rfl <;> rcases hj with rfl | rfl | rfl <;> first | exact absurd rfl h | decide
theorem cx_kn (k : Nat) : (Native.java_lang_System.arraycopy.kindName (cx_ty k)).toList.length ≤ 5 := by
  unfold cx_ty
  split
  · decide
  · split <;> decide
theorem cx_len {t : String} {n : Nat} (h : t.toList.length ≤ n) : (stringBytes (stringToUtf16 t)).size ≤ 4 * n := by
  have b1 := stringBytes_size_le (stringToUtf16 t)
  have b2 := utf16_size_le t
  omega
theorem cn_mod {t : String} (r : List Char) (h : t.toList = 'a' :: r) : (t == notModelled) = false := by
  rw [beq_eq_false_iff_ne]
  intro h1
  have h2 := congrArg String.toList h1
  rw [h] at h2
  have h4 : notModelled.toList = '\u0000' :: " a message that is not modelled".toList := by decide
  rw [h4] at h2
  simp at h2
theorem cx_cpT {sp dp n : Int32} (S : CallFix p m c cc nL s args lw_all own) (V : cl_V D dA B ad A s.heap η s H locs) (hlt : l.stackTraces = false) (hlocks : meth.locks = false) (hls : ls.size = nL) (hr : (rest.map fun v => v.category).sum ≤ 8) (hR : 9 ≤ R.frames ∧ 10248 ≤ R.locals) (hf : cells + 3 ≤ R.cells ∧ slots + 410 ≤ R.slots)
    (hlink : Cond.methodLink own index arraycopyName ∈ lw_all) (hnat : Cond.native arraycopyName ∈ lw_all) (hstat : Cond.static arraycopyName ∈ lw_all) (hini : Cond.initialized "java/lang/System" ∈ lw_all) (ha : cl_at ad η a o) (hk : cx_num (cl_k η o)) (hb : cl_at ad η b o2) (hk2 : cx_num (cl_k η o2)) (hne : ¬ cl_k η o = cl_k η o2) (hdg : decode cc pc = .ok (.invokestatic index, 3))
    (k : cx_K p l e R s m args below meth c locs cells slots Q pc ls rest D dA B ad A η 5 3 410) : W p l e R s m args below meth c H locs cells slots Q (F0 m pc ls (.int n :: .int dp :: .ref b :: .int sp :: .ref a :: rest)) := by
  obtain ⟨c1, k1, m1, e1, v1, z1, q1, t1⟩ := cx_arr V ha hk
  obtain ⟨c2, k2, m2, e2, v2, z2, q2, t2⟩ := cx_arr V hb hk2
  have hlen : (toString "arraycopy: type mismatch: can not copy " ++ toString (Native.java_lang_System.arraycopy.kindName (cx_ty (cl_k η o))) ++ toString "[] into " ++ toString (Native.java_lang_System.arraycopy.kindName (cx_ty (cl_k η o2))) ++ toString "[]" : String).toList.length ≤ 100 := by
    show (toString "arraycopy: type mismatch: can not copy " ++ toString (Native.java_lang_System.arraycopy.kindName (cx_ty (cl_k η o))) ++ toString "[] into " ++ toString (Native.java_lang_System.arraycopy.kindName (cx_ty (cl_k η o2))) ++ toString "[]").toList.length ≤ 100
    simp only [String.toList_append, List.length_append]
    have b1 : (toString "arraycopy: type mismatch: can not copy ").toList.length = 39 := by decide
    have b2 : (toString "[] into ").toList.length = 8 := by decide
    have b3 : (toString "[]").toList.length = 2 := by decide
    have b4 : (toString (Native.java_lang_System.arraycopy.kindName (cx_ty (cl_k η o)))).toList.length ≤ 5 := cx_kn _
    have b5 : (toString (Native.java_lang_System.arraycopy.kindName (cx_ty (cl_k η o2)))).toList.length ≤ 5 := cx_kn _
    omega
  refine cn_copyM (nb := 400) (names := ["java/lang/RuntimeException", "java/lang/Exception"]) (A := A) S.1 S.2.1 hlt S.2.2.2.1 (S.2.2.2.2 _ hlink) (S.2.2.2.2 _ hnat) (S.2.2.2.2 _ hstat) (S.2.2.2.2 _ hini) (by decide +kernel) (by decide +kernel) (by decide +kernel) (by decide +kernel) (cx_hat cx_wA cx_oA S.2.2.2.2 V.1.1) cx_gA V.1.x.2.2.1.2.2.2.1 V.1.x.2.2.1.2.2.2.2.1 V.2.2.2.2.1 (hls.trans S.2.2.1.symm) (cn_mod ("rraycopy: type mismatch: can not copy ".toList ++ (toString (Native.java_lang_System.arraycopy.kindName (cx_ty (cl_k η o)))).toList ++ (toString "[] into ").toList ++ (toString (Native.java_lang_System.arraycopy.kindName (cx_ty (cl_k η o2)))).toList ++ (toString "[]").toList) ?_) (cx_len hlen) (by decide) (by simp; omega) (by omega) (by decide) hf.1 hf.2 hlocks (Or.inr ⟨a, rfl⟩) (Or.inr ⟨b, rfl⟩) ?_ hdg (fun H1 q9 ce h1 h2 hS hce hcv hcl => k H1 q9 ce (cl_V_grow V h2 hS) hce hcv hcl)
  · show (toString "arraycopy: type mismatch: can not copy " ++ toString (Native.java_lang_System.arraycopy.kindName (cx_ty (cl_k η o))) ++ toString "[] into " ++ toString (Native.java_lang_System.arraycopy.kindName (cx_ty (cl_k η o2))) ++ toString "[]").toList = _
    simp only [String.toList_append]
    rfl
  · intro U hU hW fs E hE
    obtain ⟨k1', hk1, e1'⟩ := hW.alike.2.2 _ _ q1
    obtain ⟨k2', hk2', e2'⟩ := hW.alike.2.2 _ _ q2
    refine W.arraycopy_types (s := U.setFrames fs) (cs := c1) (cd := c2) (ks := k1') (kd := k2') (sType := cx_ty (cl_k η o)) (dType := cx_ty (cl_k η o2)) (sComp := m1) (dComp := m2) (by show U.heap[a]? = _; rw [hU]; exact e1) (by show U.heap[b]? = _; rw [hU]; exact e2) (fun _ h => by rw [v1] at h; cases h) (fun _ h => by rw [v2] at h; cases h) hk1 hk2' (by rw [e1']; exact t1) (by rw [e2']; exact t2) ?_ (hE _)
    rw [cx_tyr, cx_tyr, cx_tyne hk hk2 hne]
    rfl
theorem cx_cfl (ty : FieldType) (hkn : (Native.java_lang_System.arraycopy.kindName ty).toList.length ≤ 5) {n0 n1 : Nat} (hn0 : n0 ≤ 1000) (hn1 : n1 ≤ 1000) {sp dp n : Int32} (h : ¬ (¬ sp < 0 ∧ ¬ dp < 0 ∧ ¬ n < 0 ∧ sp.toNatClampNeg + n.toNatClampNeg ≤ n0 ∧ dp.toNatClampNeg + n.toNatClampNeg ≤ n1)) : ∃ what, copyFault ty ty n0 n1 sp dp n = some what ∧ what.toList.length ≤ 89 := by
  have nn : ∀ z : Int32, ¬ z < 0 → z.toInt = (z.toNatClampNeg : Int) := by
    intro z hz
    have hz0 : (0 : Int) ≤ z.toInt := by
      have := Int32.not_lt.mp hz
      simpa using Int32.le_iff_toInt_le.mp this
    show z.toInt = ((z.toInt.toNat : Nat) : Int)
    omega
  have hp : ∀ z : Int, 0 ≤ z → z < 2 ^ 32 → (toString z).toList.length ≤ 10 := by
    intro z h0 h1
    obtain ⟨y, rfl⟩ := Int.eq_ofNat_of_zero_le h0
    show (toString y).toList.length ≤ 10
    exact nat_print (by omega)
  have bk : (toString (Native.java_lang_System.arraycopy.kindName ty)).toList.length ≤ 5 := hkn
  have bn0 : (toString n0).toList.length ≤ 10 := nat_print (by omega)
  have bn1 : (toString n1).toList.length ≤ 10 := nat_print (by omega)
  have bs := int32_print sp
  have bd := int32_print dp
  have bn := int32_print n
  have lb : (toString "[").toList.length = 1 := by decide
  have rb : (toString "]").toList.length = 1 := by decide
  have e0 : (toString "").toList.length = 0 := by decide
  have ob : (toString " out of bounds for ").toList.length = 19 := by decide
  have a1 : (toString "source index ").toList.length = 13 := by decide
  have a2 : (toString "destination index ").toList.length = 18 := by decide
  have a3 : (toString "length ").toList.length = 7 := by decide
  have a4 : (toString " is negative").toList.length = 12 := by decide
  have a5 : (toString "last source index ").toList.length = 18 := by decide
  have a6 : (toString "last destination index ").toList.length = 23 := by decide
  have hs1 := Int32.toInt_lt sp
  have hd1 := Int32.toInt_lt dp
  have hn3 := Int32.toInt_lt n
  have ts : ∀ x : String, toString x = x := fun _ => rfl
  unfold copyFault
  by_cases g1 : sp < 0
  · refine ⟨_, if_pos g1, ?_⟩
    simp only [ts, String.toList_append, List.length_append] at *
    omega
  rw [if_neg g1]
  by_cases g2 : dp < 0
  · refine ⟨_, if_pos g2, ?_⟩
    simp only [ts, String.toList_append, List.length_append] at *
    omega
  rw [if_neg g2]
  by_cases g3 : n < 0
  · refine ⟨_, if_pos g3, ?_⟩
    simp only [ts, String.toList_append, List.length_append] at *
    omega
  rw [if_neg g3]
  have s1 := nn _ g1
  have s2 := nn _ g2
  have s3 := nn _ g3
  have p1 := hp (sp.toInt + n.toInt) (by omega) (by omega)
  have p2 := hp (dp.toInt + n.toInt) (by omega) (by omega)
  by_cases g4 : sp.toInt + n.toInt > n0
  · refine ⟨_, if_pos g4, ?_⟩
    simp only [ts, String.toList_append, List.length_append] at *
    omega
  rw [if_neg g4]
  by_cases g5 : dp.toInt + n.toInt > n1
  · refine ⟨_, if_pos g5, ?_⟩
    simp only [ts, String.toList_append, List.length_append] at *
    omega
  exact absurd ⟨g1, g2, g3, by omega, by omega⟩ h
theorem cx_cpB {sp dp n : Int32} (S : CallFix p m c cc nL s args lw_all own) (V : cl_V D dA B ad A s.heap η s H locs) (hlt : l.stackTraces = false) (hlocks : meth.locks = false) (hls : ls.size = nL) (hr : (rest.map fun v => v.category).sum ≤ 8) (hR : 9 ≤ R.frames ∧ 10248 ≤ R.locals) (hf : cells + 3 ≤ R.cells ∧ slots + 410 ≤ R.slots)
    (hlink : Cond.methodLink own index arraycopyName ∈ lw_all) (hnat : Cond.native arraycopyName ∈ lw_all) (hstat : Cond.static arraycopyName ∈ lw_all) (hini : Cond.initialized "java/lang/System" ∈ lw_all) (ha : cl_at ad η a o) (hk : cx_num (cl_k η o)) (hb : cl_at ad η b o2) (heq : cl_k η o = cl_k η o2) (hl1 : cl_l η o ≤ 1000) (hl2 : cl_l η o2 ≤ 1000) (hg : cl_cg η o o2 sp dp n = false) (hdg : decode cc pc = .ok (.invokestatic index, 3))
    (k : cx_K p l e R s m args below meth c locs cells slots Q pc ls rest D dA B ad A η 2 3 410) : W p l e R s m args below meth c H locs cells slots Q (F0 m pc ls (.int n :: .int dp :: .ref b :: .int sp :: .ref a :: rest)) := by
  obtain ⟨c1, k1, m1, e1, v1, z1, q1, t1⟩ := cx_arr V ha hk
  obtain ⟨c2, k2, m2, e2, v2, z2, q2, t2⟩ := cx_arr V hb (heq ▸ hk)
  obtain ⟨what, hw, hwl⟩ := cx_cfl (cx_ty (cl_k η o)) (cx_kn _) hl1 hl2 (of_decide_eq_false hg)
  have hlen : ("arraycopy: " ++ what).toList.length ≤ 100 := by
    rw [String.toList_append, List.length_append]
    have b1 : ("arraycopy: ").toList.length = 11 := by decide
    omega
  refine cn_copyM (nb := 400) (names := ["java/lang/IndexOutOfBoundsException", "java/lang/RuntimeException", "java/lang/Exception"]) (A := A) S.1 S.2.1 hlt S.2.2.2.1 (S.2.2.2.2 _ hlink) (S.2.2.2.2 _ hnat) (S.2.2.2.2 _ hstat) (S.2.2.2.2 _ hini) (by decide +kernel) (by decide +kernel) (by decide +kernel) (by decide +kernel) (cx_hat cx_wI cx_oI S.2.2.2.2 V.1.1) cx_gI V.1.x.2.2.1.2.2.2.1 V.1.x.2.2.1.2.2.2.2.1 V.2.2.2.2.1 (hls.trans S.2.2.1.symm) (cn_mod ("rraycopy: ".toList ++ what.toList) (by rw [String.toList_append]; rfl)) (cx_len hlen) (by decide) (by simp; omega) (by omega) (by decide) hf.1 hf.2 hlocks (Or.inr ⟨a, rfl⟩) (Or.inr ⟨b, rfl⟩) ?_ hdg (fun H1 q9 ce h1 h2 hS hce hcv hcl => k H1 q9 ce (cl_V_grow V h2 hS) hce hcv hcl)
  intro U hU hW fs E hE
  obtain ⟨k1', hk1, e1'⟩ := hW.alike.2.2 _ _ q1
  obtain ⟨k2', hk2', e2'⟩ := hW.alike.2.2 _ _ q2
  refine W.arraycopy_bounds (s := U.setFrames fs) (cs := c1) (cd := c2) (ks := k1') (kd := k2') (sType := cx_ty (cl_k η o)) (dType := cx_ty (cl_k η o)) (sComp := m1) (dComp := m2) (by show U.heap[a]? = _; rw [hU]; exact e1) (by show U.heap[b]? = _; rw [hU]; exact e2) (fun _ h => by rw [v1] at h; cases h) (fun _ h => by rw [v2] at h; cases h) hk1 hk2' (by rw [e1']; exact t1) (by rw [e2', t2, heq]) ?_ (by rw [z1, z2]; exact hw) (hE _)
  rw [cx_tyr]
  simp
/-- what it copies, by the class of both -/
theorem cx_cpO {sp dp n : Int32} (S : CallFix p m c cc nL s args lw_all own) (V : cl_V D dA B ad A s.heap η s H locs) (ha : cl_at ad η a o) (hk : cx_num (cl_k η o)) (hb : cl_at ad η b o2) (heq : cl_k η o = cl_k η o2) (hl : ls.size = nL) (hlink : Cond.methodLink own index arraycopyName ∈ lw_all) (hnat : Cond.native arraycopyName ∈ lw_all) (hstat : Cond.static arraycopyName ∈ lw_all) (hini : Cond.initialized "java/lang/System" ∈ lw_all)
    (hg : cl_cg η o o2 sp dp n = true) (hfit : cl_cf (cx_ty (cl_k η o)) (cl_i η o) sp.toNatClampNeg n.toNatClampNeg = true) (hframes : 1 ≤ R.frames) (hlocals : (rest.map fun v => v.category).sum + (nativeFrameWords "java/lang/System" "arraycopy" 5 + 11) ≤ R.locals) (hdg : decode cc pc = .ok (.invokestatic index, 3))
    (kk : ∀ (H1 : Heap) (locs1 : List Loc), cl_V D dA B ad A s.heap (cl_cp η o o2 sp dp n) s H1 locs1 → W p l e R s m args below meth c H1 locs1 cells slots Q (F0 m (pc + 3) ls rest)) : W p l e R s m args below meth c H locs cells slots Q (F0 m pc ls (.int n :: .int dp :: .ref b :: .int sp :: .ref a :: rest)) := by
  rcases hk with hk | hk | hk
  · rw [hk] at hfit heq
    exact cl_cpn 0 20 S V ha hk hb heq.symm (by decide) (by decide) (by decide) rfl (Or.inl rfl) hl hlink hnat hstat hini hg hfit hframes hlocals hdg kk
  · rw [hk] at hfit heq
    exact cl_cpn 1 21 S V ha hk hb heq.symm (by decide) (by decide) (by decide) rfl (Or.inr (Or.inl rfl)) hl hlink hnat hstat hini hg hfit hframes hlocals hdg kk
  · rw [hk] at hfit heq
    exact cl_cpn 2 22 S V ha hk hb heq.symm (by decide) (by decide) (by decide) rfl (Or.inr (Or.inr rfl)) hl hlink hnat hstat hini hg hfit hframes hlocals hdg kk
end CCP
