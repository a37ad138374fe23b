/-! the law: its two worlds in one heap -/
def R_law : String := "DatedContactsLaw"
def lw_P (b : Addr) (xs : List Int32) (args : Array Value) (s : State) : Prop := args = #[.ref b] ∧ s.IntsAt b xs ∧ xs.length ≤ 384 ∧ (Jvm.Cond.and given_1 narrow_1).before args s = true ∧ modulesRight_1 s = true
def lw_Q (_ : Array Value) (s : State) (o : Outcome) (t : State) : Prop := o = .returned (some (.int 1)) ∧ Framed s o t [] 603072 7262314
def lw_Z (below : List Frame) (a : Array Value) (s : State) : State → Prop := fun t => ∃ o, t.status = .running ∧ Ended t below o ∧ lw_Q a s o t
/-- the law's own end, with 1 on the stack, nothing written that was there before, its room as the claim has it -/
theorem lw_ret {p : Program} {l : Launch} {e : Env} {s : State} {m : MethodId} {below : List Frame} {meth : Method} {c : Code} {b : Nat} (hx : p.tables.exec = Jvm.exec) (hb : c.code = code) (hr : meth.sig.returnType = ret) (hlocks : meth.locks = false) {pc : Nat} {H : Heap} {ls : Array Slot} (hdg : decode code pc = .ok (.ireturn, 1)) : W p l e room_1 s m #[Value.ref b] below meth c H [] 603072 7262314 (lw_Z below #[Value.ref b] s) (F0 m pc ls [.int 1]) := by
  intro T hT X
  obtain ⟨fs, hret, hrun, hended, hW, hframe⟩ := X.leave (v := some (.int 1)) (hlocks := hlocks) (fun h => by rw [hr] at h; cases h)
  have hmeth' : T.vm.method? m = some meth := X.method'
  refine ⟨T.setFrames fs, ?_, .returned (some (.int 1)), hrun, hended, rfl, ⟨_, rfl⟩, hW, hframe⟩
  jvm_step X.here [X.here.top, hx, hb, hdg, hmeth', hr, ret, narrow_b1]
  (try refine ⟨rfl, ?_⟩); (try refine ⟨rfl, ?_⟩)
  first | (intro acts; rw [hret _ acts rfl rfl rfl]) | rw [hret _ _ rfl rfl rfl]
  exact Steps.refl _
/-- what holds at the law's entry -/
def lw_At (p : Program) (s : State) (m : MethodId) (meth : Method) (c : Code) (b L : Nat) (xs : Nat → Int32) : Prop :=
  p.tables.exec = Jvm.exec ∧ c.code = code ∧ meth.sig.returnType = ret ∧ c.maxLocals = 4 ∧ s.vm.findClass R_law = some m.cls ∧ (∀ w ∈ lw_tbl, w.before #[Value.ref b] s = true) ∧ va_X b L xs s s.heap ∧ b < s.heap.size ∧ meth.locks = false ∧ (Jvm.Cond.and given_1 narrow_1).before #[Value.ref b] s = true ∧ modulesRight_1 s = true
/-- the Model's cells; the class's -/
def lj_m (h : Nat) (adm : Nat → Nat) (q : Nat) : Prop := q = h ∨ ∃ k, k < 17 ∧ q = adm k
def lj_c (s : State) (h : Nat) (adm : Nat → Nat) (q : Nat) : Prop := s.heap.size ≤ q ∧ ¬ lj_m h adm q
/-- what stays all through -/
def lj_F (D : va_G) (dA : Nat → ClassId) (di dz : ClassId) (b1 : Nat → Nat) (s : State) (h : Nat) (adm : Nat → Nat) : Prop := (∀ A : Nat → Prop, (∀ q, A q → s.heap.size ≤ q) → cl_N (b1, cl_K) A s.heap s) ∧ va_K D vwCl (cl_ty dA) s ∧ va_K D vwCl (mo_ty di dz) s ∧ (∀ μ, va_D (lj_m h adm) (mo_cs h adm di dz μ)) ∧ ∀ q, lj_m h adm q → s.heap.size ≤ q
/-- the two worlds -/
def lj_J (D : va_G) (dA : Nat → ClassId) (di dz : ClassId) (b1 : Nat → Nat) (s : State) (h : Nat) (adm ad : Nat → Nat) (σ : cl_S) (μ : mo_S) (H : Heap) (locs : List Loc) : Prop := (va_P D vwCl (cl_ws dA ad σ) H ∧ va_D (lj_c s h adm) (cl_ws dA ad σ) ∧ cl_Z σ ∧ (∀ o, o ≤ cl_K → ad o = b1 o) ∧ cl_K ≤ cl_n σ) ∧ (va_P D vwCl (mo_cs h adm di dz μ) H ∧ ∀ q, lj_m h adm q → q < H.size) ∧ va_S (fun q : Nat => s.heap.size ≤ q) s.heap H locs
section LJ
variable {p : Program} {l : Launch} {e : Env} {R : Room} {s : State} {m : MethodId} {args : Array Value} {below : List Frame} {meth : Method} {c : Code} {H : Heap} {locs : List Loc} {cells slots mc ms : Nat} {Q : State → Prop}
variable {pc : Nat} {ls : Array Slot} {rest st : List Value} {D : va_G} {dA : Nat → ClassId} {di dz : ClassId} {b1 : Nat → Nat} {h : Nat} {adm ad : Nat → Nat} {σ σ' : cl_S} {μ μ' : mo_S} {av : Array Value}
theorem lj_cl (F : lj_F D dA di dz b1 s h adm) (J : lj_J D dA di dz b1 s h adm ad σ μ H locs) {ad2 : Nat → Nat} {t : State} {H1 : Heap} {locs1 : List Loc} (ht : t.heap = H1) (hB : cl_Bw D dA ad (lj_c s h adm) σ σ' ad2 t) (hz : H.size ≤ H1.size) (hk : ∀ q : Nat, q < H.size → ¬ lj_c s h adm q → H1[q]? = H[q]?) (hS : va_S (fun q : Nat => s.heap.size ≤ q) s.heap H1 locs1) : lj_J D dA di dz b1 s h adm ad2 σ' μ H1 locs1 := by
  obtain ⟨⟨j1, j2, j3, j4, j5⟩, ⟨j6, j7⟩, j8⟩ := J
  obtain ⟨hP, hD, hZ, hag, hle⟩ := hB
  rw [ht] at hP
  refine ⟨⟨hP, hD, hZ, fun o ho => by rw [hag o (Nat.le_trans ho j5)]; exact j4 o ho, Nat.le_trans j5 hle⟩, ⟨j6.kept (fun k q hq => ?_), fun q hq => Nat.lt_of_lt_of_le (j7 q hq) hz⟩, hS⟩
  have hm := (F.2.2.2.1 μ).2 k q hq
  exact hk q.1 (j7 _ hm) (fun hc => hc.2 hm)
theorem lj_mo (J : lj_J D dA di dz b1 s h adm ad σ μ H locs) {t : State} {H1 : Heap} {locs1 : List Loc} (ht : t.heap = H1) (hB : va_P D vwCl (mo_cs h adm di dz μ') t.heap) (hz : H.size ≤ H1.size) (hk : ∀ q : Nat, q < H.size → ¬ lj_m h adm q → H1[q]? = H[q]?) (hS : va_S (fun q : Nat => s.heap.size ≤ q) s.heap H1 locs1) : lj_J D dA di dz b1 s h adm ad σ μ' H1 locs1 := by
  obtain ⟨⟨j1, j2, j3, j4, j5⟩, ⟨j6, j7⟩, j8⟩ := J
  rw [ht] at hB
  exact ⟨⟨j1.kept (fun k q hq => hk q.1 ((j1 k q hq).lt) (j2.2 k q hq).2), j2, j3, j4, j5⟩, ⟨hB, fun q hq => Nat.lt_of_lt_of_le (j7 q hq) hz⟩, hS⟩
theorem lj_ci {r : Int32} (hr : va_Run p l e R s m args below meth c H locs cells slots mc ms (F0 m pc ls st) rest (cl_Qi D dA ad (lj_c s h adm) σ σ' r av) (lj_c s h adm)) (F : lj_F D dA di dz b1 s h adm) (J : lj_J D dA di dz b1 s h adm ad σ μ H locs)
    (kk : ∀ (ad2 : Nat → Nat) (H1 : Heap) (locs1 : List Loc), (∀ x, x ≤ cl_n σ → ad2 x = ad x) → lj_J D dA di dz b1 s h adm ad2 σ' μ H1 locs1 → W p l e R s m args below meth c H1 locs1 (cells + mc) (slots + ms) Q (F0 m (pc + 3) ls (.int r :: rest))) : W p l e R s m args below meth c H locs cells slots Q (F0 m pc ls st) := by
  refine va_calli hr J.2.2 (fun q _ h => h.1) (fun q h => h.1) (fun r1 ad2 t H1 locs1 ht hvm hw hB hz hk hS => ?_)
  subst hw
  exact kk ad2 H1 locs1 hB.2.2.2.1 (lj_cl F J ht hB hz hk hS)
theorem lj_cll {r : Int64} (hr : va_Run p l e R s m args below meth c H locs cells slots mc ms (F0 m pc ls st) rest (cl_Ql D dA ad (lj_c s h adm) σ σ' r av) (lj_c s h adm)) (F : lj_F D dA di dz b1 s h adm) (J : lj_J D dA di dz b1 s h adm ad σ μ H locs)
    (kk : ∀ (ad2 : Nat → Nat) (H1 : Heap) (locs1 : List Loc), (∀ x, x ≤ cl_n σ → ad2 x = ad x) → lj_J D dA di dz b1 s h adm ad2 σ' μ H1 locs1 → W p l e R s m args below meth c H1 locs1 (cells + mc) (slots + ms) Q (F0 m (pc + 3) ls (.long r :: rest))) : W p l e R s m args below meth c H locs cells slots Q (F0 m pc ls st) := by
  refine va_calll hr J.2.2 (fun q _ h => h.1) (fun q h => h.1) (fun r1 ad2 t H1 locs1 ht hvm hw hB hz hk hS => ?_)
  subst hw
  exact kk ad2 H1 locs1 hB.2.2.2.1 (lj_cl F J ht hB hz hk hS)
theorem lj_mi {r : Int32} (hr : va_Run p l e R s m args below meth c H locs cells slots mc ms (F0 m pc ls st) rest (mo_Qi D di dz h adm (lj_m h adm) r μ' av) (lj_m h adm)) (F : lj_F D dA di dz b1 s h adm) (J : lj_J D dA di dz b1 s h adm ad σ μ H locs)
    (kk : ∀ (H1 : Heap) (locs1 : List Loc), lj_J D dA di dz b1 s h adm ad σ μ' H1 locs1 → W p l e R s m args below meth c H1 locs1 (cells + mc) (slots + ms) Q (F0 m (pc + 3) ls (.int r :: rest))) : W p l e R s m args below meth c H locs cells slots Q (F0 m pc ls st) := by
  refine va_calli hr J.2.2 (fun q _ h => F.2.2.2.2 q h) (fun q h => F.2.2.2.2 q h) (fun r1 u t H1 locs1 ht hvm hw hB hz hk hS => ?_)
  subst hw
  exact kk H1 locs1 (lj_mo J ht hB hz hk hS)
theorem lj_ml {r : Int64} (hr : va_Run p l e R s m args below meth c H locs cells slots mc ms (F0 m pc ls st) rest (mo_Ql D di dz h adm (lj_m h adm) r μ' av) (lj_m h adm)) (F : lj_F D dA di dz b1 s h adm) (J : lj_J D dA di dz b1 s h adm ad σ μ H locs)
    (kk : ∀ (H1 : Heap) (locs1 : List Loc), lj_J D dA di dz b1 s h adm ad σ μ' H1 locs1 → W p l e R s m args below meth c H1 locs1 (cells + mc) (slots + ms) Q (F0 m (pc + 3) ls (.long r :: rest))) : W p l e R s m args below meth c H locs cells slots Q (F0 m pc ls st) := by
  refine va_calll hr J.2.2 (fun q _ h => F.2.2.2.2 q h) (fun q h => F.2.2.2.2 q h) (fun r1 u t H1 locs1 ht hvm hw hB hz hk hS => ?_)
  subst hw
  exact kk H1 locs1 (lj_mo J ht hB hz hk hS)
theorem lj_pre (F : lj_F D dA di dz b1 s h adm) (J : lj_J D dA di dz b1 s h adm ad σ μ H locs) (As : List Value) : ∀ U : State, U.heap = H → s.WarmedH U.vm → cl_Pre D dA ad (lj_c s h adm) As σ As.toArray U := by
  obtain ⟨⟨j1, j2, j3, j4, j5⟩, ⟨j6, j7⟩, j8⟩ := J
  intro U hU hW
  refine ⟨rfl, ?_, va_K.moved hW.alike F.2.1, by rw [hU]; exact j1, j2, ?_, j3⟩
  · rw [hU]
    exact (F.1 (lj_c s h adm) (fun q hq => hq.1)).call hW j5 j4 (fun a ha _ => j8.2.1 a ha (fun hh => Nat.lt_irrefl _ (Nat.lt_of_lt_of_le ha hh)))
  · intro q hq
    rw [hU] at hq
    exact ⟨Nat.le_trans j8.1 hq, fun hm => Nat.lt_irrefl _ (Nat.lt_of_lt_of_le (j7 q hm) hq)⟩
theorem lj_pc (F : lj_F D dA di dz b1 s h adm) (J : lj_J D dA di dz b1 s h adm ad σ μ H locs) (As : List Value) (hk : cl_k σ 19 = 0) (h19 : 19 ≤ cl_n σ) : PreV s H RX0 (ad 19) (cl_Pre D dA ad (lj_c s h adm) (.ref (ad 19) :: As) σ) As :=
  ⟨cl_blind, va_recv F.2.1 J.1.1 (ci := 0) (q0 := 19 - 1 - cl_K) rfl (by rw [cl_ws_at (by decide) h19, cl_ce_ob hk (by decide)]), lj_pre F J (.ref (ad 19) :: As)⟩
theorem lj_pm (F : lj_F D dA di dz b1 s h adm) (J : lj_J D dA di dz b1 s h adm ad σ μ H locs) (As : List Value) : PreV s H RX6 h (mo_Pre D di dz h adm (lj_m h adm) (.ref h :: As) μ) As :=
  ⟨fun a U g mk q => by
    obtain ⟨q0, qK, qP, qD⟩ := q
    exact ⟨q0, va_K.moved (u := U) (U := U.calling g mk a) (Vm.Alike.refl U.vm) qK, qP, qD⟩, va_recv F.2.2.1 J.2.1.1 (ci := 6) (q0 := 0) rfl rfl, fun U hU hW => ⟨rfl, va_K.moved hW.alike F.2.2.1, by rw [hU]; exact J.2.1.1, F.2.2.2.1 μ⟩⟩
end LJ
/-- the law from a place on, its counter x3 -/
def lj_G (p : Program) (l : Launch) (e : Env) (s : State) (m : MethodId) (below : List Frame) (meth : Method) (c : Code) (D : va_G) (dA : Nat → ClassId) (di dz : ClassId) (b1 : Nat → Nat) (h : Nat) (adm : Nat → Nat) (b a : Nat) (x3 : Int32) (cells slots pc : Nat) : Prop :=
  ∀ (ad : Nat → Nat) (σ : cl_S) (μ : mo_S) (S : pa_S) (H : Heap) (locs : List Loc) (ls : Array Slot), lj_J D dA di dz b1 s h adm ad σ μ H locs → pc_R σ S → pm_R μ S → ad 19 = a → lv_has ls 4 [(3, .int x3), (0, .ref b), (1, .ref a), (2, .ref h)] → W p l e room_1 s m #[Value.ref b] below meth c H locs cells slots (lw_Z below #[Value.ref b] s) (F0 m pc ls [])
