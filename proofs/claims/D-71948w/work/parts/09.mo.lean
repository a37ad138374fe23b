/-! DatedContactsModel: its world (one object, 17 arrays), its state (12 ints; the arrays' contents), a row for each kind of instruction that touches it -/
def mo_fs (ad : Nat → Nat) (σ : mo_S) : List Value := [.ref (ad 0), .ref (ad 1), .ref (ad 2), .ref (ad 3), .int (σ.1 0), .ref (ad 4), .int (σ.1 1), .int (σ.1 2), .int (σ.1 3), .int (σ.1 4), .int (σ.1 5), .int (σ.1 6), .int (σ.1 7), .ref (ad 5), .ref (ad 6), .ref (ad 7), .ref (ad 8), .int (σ.1 8), .ref (ad 9), .ref (ad 10), .ref (ad 11), .ref (ad 12), .ref (ad 13), .ref (ad 14), .int (σ.1 9), .ref (ad 15), .int (σ.1 10), .ref (ad 16), .int (σ.1 11)]
def mo_cs (h : Nat) (ad : Nat → Nat) (di dz : ClassId) (σ : mo_S) : va_W := (h, .inr (6, mo_fs ad σ)) :: (List.range 17).map (fun k => (ad k, .inl (mo_cl di dz k, mo_len k, .inl (σ.2 k))))
theorem mo_cs_k {h : Nat} {ad : Nat → Nat} {di dz : ClassId} {σ : mo_S} {k : Nat} (hk : k < 17) : (mo_cs h ad di dz σ)[k + 1]? = some (ad k, .inl (mo_cl di dz k, mo_len k, .inl (σ.2 k))) := by
  simp [mo_cs, hk]
theorem mo_cs_set {h : Nat} {ad : Nat → Nat} {di dz : ClassId} {σ : mo_S} {k : Nat} (hk : k < 17) (f : Nat → Int32) : (mo_cs h ad di dz σ).set (k + 1) (ad k, .inl (mo_cl di dz k, mo_len k, .inl f)) = mo_cs h ad di dz (σ.1, va_up σ.2 k f) := by
  show _ :: ((List.range 17).map _).set k _ = _ :: (List.range 17).map _
  congr 1
  apply List.ext_getElem?
  intro j
  by_cases hj : j = k
  · subst hj
    rw [List.getElem?_set_self (by simpa using hk)]
    simp [hk, va_up_self]
  · rw [List.getElem?_set_ne (Ne.symm hj)]
    by_cases h2 : j < 17
    · simp [h2, va_up_ne _ _ hj]
    · simp [h2]
theorem mo_cs_D {A : Nat → Prop} {h : Nat} {ad : Nat → Nat} {di dz : ClassId} {σ : mo_S} (σ' : mo_S) (hD : va_D A (mo_cs h ad di dz σ)) : va_D A (mo_cs h ad di dz σ') := by
  refine dx_D_addr ?_ hD
  simp [mo_cs]
def mo_V (D : va_G) (di dz : ClassId) (h : Nat) (ad : Nat → Nat) (A : Nat → Prop) (H0 : Heap) (σ : mo_S) (s : State) (H : Heap) (locs : List Loc) : Prop := va_K D vwCl (mo_ty di dz) s ∧ va_P D vwCl (mo_cs h ad di dz σ) H ∧ va_D A (mo_cs h ad di dz σ) ∧ va_S A H0 H locs
/-- a contract's start: arguments, world -/
abbrev mo_Pre (D : va_G) (di dz : ClassId) (h : Nat) (ad : Nat → Nat) (A : Nat → Prop) (av : List Value) (σ : mo_S) : Array Value → State → Prop := va_Pc av (fun U => va_K D vwCl (mo_ty di dz) U ∧ va_P D vwCl (mo_cs h ad di dz σ) U.heap ∧ va_D A (mo_cs h ad di dz σ))
abbrev mo_Qi (D : va_G) (di dz : ClassId) (h : Nat) (ad : Nat → Nat) (A : Nat → Prop) (r : Int32) (σ' : mo_S) : Array Value → State → Outcome → State → Prop := va_Qi (fun (r2 : Int32) (_ : Unit) => r2 = r) (fun _ t => va_P D vwCl (mo_cs h ad di dz σ') t.heap) A
abbrev mo_Ql (D : va_G) (di dz : ClassId) (h : Nat) (ad : Nat → Nat) (A : Nat → Prop) (r : Int64) (σ' : mo_S) : Array Value → State → Outcome → State → Prop := va_Ql (fun (r2 : Int64) (_ : Unit) => r2 = r) (fun _ t => va_P D vwCl (mo_cs h ad di dz σ') t.heap) A
abbrev mo_Qv (D : va_G) (di dz : ClassId) (h : Nat) (ad : Nat → Nat) (A : Nat → Prop) (σ' : mo_S) : Array Value → State → Outcome → State → Prop := va_Qv (fun (_ : Unit) => True) (fun _ t => va_P D vwCl (mo_cs h ad di dz σ') t.heap) A
def mo_Ci (l : Launch) (y : MethodName) (cc : ByteArray) (nL : Nat) (rt : FieldType) (rm : Room) (D : va_G) (di dz : ClassId) (h : Nat) (ad : Nat → Nat) (A : Nat → Prop) (av : List Value) (σ : mo_S) (r : Int32) (σ' : mo_S) : Prop := Met l y (ws_ y cc nL (some rt)) rm (mo_Pre D di dz h ad A av σ) (mo_Qi D di dz h ad A r σ') 0 0 A
def mo_Cl (l : Launch) (y : MethodName) (cc : ByteArray) (nL : Nat) (rm : Room) (D : va_G) (di dz : ClassId) (h : Nat) (ad : Nat → Nat) (A : Nat → Prop) (av : List Value) (σ : mo_S) (r : Int64) (σ' : mo_S) : Prop := Met l y (ws_ y cc nL (some .long)) rm (mo_Pre D di dz h ad A av σ) (mo_Ql D di dz h ad A r σ') 0 0 A
def mo_Cv (l : Launch) (y : MethodName) (cc : ByteArray) (nL : Nat) (rm : Room) (D : va_G) (di dz : ClassId) (h : Nat) (ad : Nat → Nat) (A : Nat → Prop) (av : List Value) (σ : mo_S) (σ' : mo_S) : Prop := Met l y (ws_ y cc nL none) rm (mo_Pre D di dz h ad A av σ) (mo_Qv D di dz h ad A σ') 0 0 A
/-- a method that touches no cell -/
def dx_Pi (l : Launch) (y : MethodName) (cc : ByteArray) (nL : Nat) (rt : FieldType) (rm : Room) (av : List Value) (r : Int32) : Prop := Met l y (ws_ y cc nL (some rt)) rm (va_Pc av (fun _ => True)) (vp_Si (fun r2 => r2 = r)) 0 0 (fun _ => False)
def dx_Pl (l : Launch) (y : MethodName) (cc : ByteArray) (nL : Nat) (rm : Room) (av : List Value) (r : Int64) : Prop := Met l y (ws_ y cc nL (some .long)) rm (va_Pc av (fun _ => True)) (vp_Sl (fun r2 => r2 = r)) 0 0 (fun _ => False)
section MOR
variable {p : Program} {l : Launch} {e : Env} {R : Room} {s : State} {m : MethodId} {args : Array Value} {below : List Frame} {meth : Method} {c : Code} {H : Heap} {locs : List Loc} {cells slots : Nat} {Q : State → Prop}
variable {cc : ByteArray} {nL pc : Nat} {ls : Array Slot} {rest : List Value} {D : va_G} {di dz : ClassId} {h : Nat} {ad : Nat → Nat} {A : Nat → Prop} {H0 : Heap} {σ : mo_S}
theorem mo_get (S : CallFix p m c cc nL s args lw_all RX6) (V : mo_V D di dz h ad A H0 σ s H locs) (k : Nat) {index : Nat} {v : Value} (hk : k < 29) (hv : (mo_fs ad σ)[k]? = some v) (hlink : Cond.fieldLink RX6 index RX6 (TX6 k).2.1 (TX6 k).2.2.1 ∈ lw_all) (hsame : (TX6 k).1 = RX6) (hdg : decode cc pc = .ok (.getfield index, 3))
    (kk : W p l e R s m args below meth c H locs cells slots Q (F0 m (pc + 3) ls (v :: rest))) : W p l e R s m args below meth c H locs cells slots Q (F0 m pc ls (.ref h :: rest)) :=
  va_get (D := D) (ci := 6) (C := RX6) (T := TX6) (N := 29) S.1 S.2.1 S.2.2.2.2 in_X6 S.2.2.2.1 V.1 V.2.1 0 rfl rfl k hk (S.2.2.2.2 _ hlink) (fun _ h9 => by rw [hsame] at h9; exact h9) hv hdg kk
theorem mo_put (S : CallFix p m c cc nL s args lw_all RX6) (V : mo_V D di dz h ad A H0 σ s H locs) (k j : Nat) {index : Nat} {v : Int32} (hk : k < 29) (hset : (mo_fs ad σ).set k (.int v) = mo_fs ad (mo_I σ j v)) (hlink : Cond.fieldLink RX6 index RX6 (TX6 k).2.1 (TX6 k).2.2.1 ∈ lw_all) (hsame : (TX6 k).1 = RX6) (hfin : (TX6 k).2.2.2 = false) (hty : (TX6 k).2.2.1 = "I") (hdg : decode cc pc = .ok (.putfield index, 3))
    (kk : ∀ (H1 : Heap) (locs1 : List Loc), mo_V D di dz h ad A H0 (mo_I σ j v) s H1 locs1 → W p l e R s m args below meth c H1 locs1 cells slots Q (F0 m (pc + 3) ls rest)) : W p l e R s m args below meth c H locs cells slots Q (F0 m pc ls (.int v :: .ref h :: rest)) := by
  refine va_put (D := D) (ci := 6) (v := .int v) (ty := .int) (C := RX6) (T := TX6) (N := 29) S.1 S.2.1 S.2.2.2.2 in_X6 tyX6 tyX6_ok nmX6 S.2.2.2.1 V.1 V.2.1 V.2.2.1 V.2.2.2 0 rfl rfl k hk (S.2.2.2.2 _ hlink) (fun _ h9 => by rw [hsame] at h9; exact h9) hfin (by rw [hty]; decide +kernel) rfl rfl hk hdg (fun H1 locs1 hP hD hS => kk H1 locs1 ?_)
  rw [hset] at hP
  exact ⟨V.1, hP, mo_cs_D _ V.2.2.1, hS⟩
theorem mo_ld (S : CallFix p m c cc nL s args lw_all RX6) (V : mo_V D di dz h ad A H0 σ s H locs) (k : Nat) (hk : k < 17 ∧ ¬ k = 10) {i : Int32} (hin : vp_in i (mo_len k)) (hdg : decode cc pc = .ok (.iaload, 1))
    (kk : W p l e R s m args below meth c H locs cells slots Q (F0 m (pc + 1) ls (.int (σ.2 k i.toNatClampNeg) :: rest))) : W p l e R s m args below meth c H locs cells slots Q (F0 m pc ls (.int i :: .ref (ad k) :: rest)) :=
  va_iald S.1 S.2.1 V.1 V.2.1 (k + 1) 0 (mo_cs_k hk.1) (by show some (di, _) = some (mo_cl di dz k, _); rw [mo_cl, if_neg hk.2]) hin hdg kk
theorem mo_ldz (S : CallFix p m c cc nL s args lw_all RX6) (V : mo_V D di dz h ad A H0 σ s H locs) {i : Int32} (hin : vp_in i 2) (hdg : decode cc pc = .ok (.baload, 1))
    (kk : W p l e R s m args below meth c H locs cells slots Q (F0 m (pc + 1) ls (.int (σ.2 10 i.toNatClampNeg) :: rest))) : W p l e R s m args below meth c H locs cells slots Q (F0 m pc ls (.int i :: .ref (ad 10) :: rest)) :=
  va_zald S.1 S.2.1 V.1 V.2.1 11 1 (mo_cs_k (by decide)) rfl hin hdg kk
theorem mo_st (S : CallFix p m c cc nL s args lw_all RX6) (V : mo_V D di dz h ad A H0 σ s H locs) (k : Nat) (hk : k < 17 ∧ ¬ k = 10) {i v : Int32} (hin : vp_in i (mo_len k)) (hdg : decode cc pc = .ok (.iastore, 1))
    (kk : ∀ (H1 : Heap) (locs1 : List Loc), mo_V D di dz h ad A H0 (mo_A σ k i.toNatClampNeg v) s H1 locs1 → W p l e R s m args below meth c H1 locs1 cells slots Q (F0 m (pc + 1) ls rest)) : W p l e R s m args below meth c H locs cells slots Q (F0 m pc ls (.int v :: .int i :: .ref (ad k) :: rest)) := by
  refine va_iast S.1 S.2.1 V.1 V.2.1 V.2.2.1 V.2.2.2 (k + 1) 0 (mo_cs_k hk.1) (by show some (di, _) = some (mo_cl di dz k, _); rw [mo_cl, if_neg hk.2]) hin hdg (fun H1 locs1 hP hD hS => kk H1 locs1 ?_)
  rw [mo_cs_set hk.1] at hP
  exact ⟨V.1, hP, mo_cs_D _ V.2.2.1, hS⟩
theorem mo_stz (S : CallFix p m c cc nL s args lw_all RX6) (V : mo_V D di dz h ad A H0 σ s H locs) {i v : Int32} (hv : vp_nar .boolean v = v) (hin : vp_in i 2) (hdg : decode cc pc = .ok (.bastore, 1))
    (kk : ∀ (H1 : Heap) (locs1 : List Loc), mo_V D di dz h ad A H0 (mo_A σ 10 i.toNatClampNeg v) s H1 locs1 → W p l e R s m args below meth c H1 locs1 cells slots Q (F0 m (pc + 1) ls rest)) : W p l e R s m args below meth c H locs cells slots Q (F0 m pc ls (.int v :: .int i :: .ref (ad 10) :: rest)) := by
  refine va_zast S.1 S.2.1 V.1 V.2.1 V.2.2.1 V.2.2.2 11 1 (mo_cs_k (by decide)) rfl hin hdg (fun H1 locs1 hP hD hS => kk H1 locs1 ?_)
  rw [hv, mo_cs_set (k := 10) (by decide)] at hP
  exact ⟨V.1, hP, mo_cs_D _ V.2.2.1, hS⟩
theorem mo_recv (V : mo_V D di dz h ad A H0 σ s H locs) : ∃ cellB : Cell, H[h]? = some cellB ∧ cellB.vm.isStatics = false ∧ s.vm.findClass RX6 = some cellB.cls :=
  va_recv V.1 V.2.1 (ci := 6) (q0 := 0) rfl rfl
theorem mo_blind {av : List Value} : FrameBlind (mo_Pre D di dz h ad A av σ) := fun a U g mk q => by
  obtain ⟨q0, qK, qP, qD⟩ := q
  exact ⟨q0, va_K.moved (u := U) (U := U.calling g mk a) (Vm.Alike.refl U.vm) qK, qP, qD⟩
theorem mo_preV (V : mo_V D di dz h ad A H0 σ s H locs) (As : List Value) : PreV s H RX6 h (mo_Pre D di dz h ad A (.ref h :: As) σ) As :=
  ⟨mo_blind, mo_recv V, fun U hU hW => ⟨rfl, va_K.moved hW.alike V.1, by rw [hU]; exact V.2.1, V.2.2.1⟩⟩
theorem mo_preS (V : mo_V D di dz h ad A H0 σ s H locs) (As : List Value) : PreS s H (mo_Pre D di dz h ad A As σ) As :=
  ⟨mo_blind, fun U hU hW => ⟨rfl, va_K.moved hW.alike V.1, by rw [hU]; exact V.2.1, V.2.2.1⟩⟩
variable {y : MethodName} {bytes : ByteArray} {maxL n index : Nat} {rt : FieldType} {rm : Room} {As st : List Value} {σ' : mo_S}
theorem mo_cVi (S : CallFix p m c cc nL s args lw_all RX6) (V : mo_V D di dz h ad A H0 σ s H locs) (As : List Value) {r : Int32} (hM : mo_Ci l y bytes maxL rt rm D di dz h ad A (.ref h :: As) σ r σ') (cw : CallW R s args RX6 RX6 index y bytes maxL (some rt) (ws_ y bytes maxL (some rt)) rm 0 0 n) (hst : st = As.reverse ++ .ref h :: rest) (hn : As.length = n) (hsize : ls.size = nL) (hW : (rest.map fun v => v.category).sum ≤ 8) (hdg : decode cc pc = .ok (.invokevirtual index, 3))
    (kk : ∀ (H1 : Heap) (locs1 : List Loc), mo_V D di dz h ad A H0 σ' s H1 locs1 → W p l e R s m args below meth c H1 locs1 0 0 Q (F0 m (pc + 3) ls (.int r :: rest))) : W p l e R s m args below meth c H locs 0 0 Q (F0 m pc ls st) := by
  subst hst
  refine va_calli (va_runV (As := As) (rest := rest) S hM cw (mo_preV V As) rfl hn hsize rfl (lv_room hW) hdg ⟨Nat.zero_le _, Nat.zero_le _⟩) V.2.2.2 (fun q _ h => h) (fun q h => h) (fun r1 u t H1 locs1 ht hvm hw1 hB hz1 hk1 hS => ?_)
  subst hw1
  rw [ht] at hB
  exact kk H1 locs1 ⟨V.1, hB, mo_cs_D _ V.2.2.1, hS⟩
theorem mo_cVl (S : CallFix p m c cc nL s args lw_all RX6) (V : mo_V D di dz h ad A H0 σ s H locs) (As : List Value) {r : Int64} (hM : mo_Cl l y bytes maxL rm D di dz h ad A (.ref h :: As) σ r σ') (cw : CallW R s args RX6 RX6 index y bytes maxL (some .long) (ws_ y bytes maxL (some .long)) rm 0 0 n) (hst : st = As.reverse ++ .ref h :: rest) (hn : As.length = n) (hsize : ls.size = nL) (hW : (rest.map fun v => v.category).sum ≤ 8) (hdg : decode cc pc = .ok (.invokevirtual index, 3))
    (kk : ∀ (H1 : Heap) (locs1 : List Loc), mo_V D di dz h ad A H0 σ' s H1 locs1 → W p l e R s m args below meth c H1 locs1 0 0 Q (F0 m (pc + 3) ls (.long r :: rest))) : W p l e R s m args below meth c H locs 0 0 Q (F0 m pc ls st) := by
  subst hst
  refine va_calll (va_runV (As := As) (rest := rest) S hM cw (mo_preV V As) rfl hn hsize rfl (lv_room hW) hdg ⟨Nat.zero_le _, Nat.zero_le _⟩) V.2.2.2 (fun q _ h => h) (fun q h => h) (fun r1 u t H1 locs1 ht hvm hw1 hB hz1 hk1 hS => ?_)
  subst hw1
  rw [ht] at hB
  exact kk H1 locs1 ⟨V.1, hB, mo_cs_D _ V.2.2.1, hS⟩
theorem mo_cVv (S : CallFix p m c cc nL s args lw_all RX6) (V : mo_V D di dz h ad A H0 σ s H locs) (As : List Value) (hM : mo_Cv l y bytes maxL rm D di dz h ad A (.ref h :: As) σ σ') (cw : CallW R s args RX6 RX6 index y bytes maxL none (ws_ y bytes maxL none) rm 0 0 n) (hst : st = As.reverse ++ .ref h :: rest) (hn : As.length = n) (hsize : ls.size = nL) (hW : (rest.map fun v => v.category).sum ≤ 8) (hdg : decode cc pc = .ok (.invokevirtual index, 3))
    (kk : ∀ (H1 : Heap) (locs1 : List Loc), mo_V D di dz h ad A H0 σ' s H1 locs1 → W p l e R s m args below meth c H1 locs1 0 0 Q (F0 m (pc + 3) ls rest)) : W p l e R s m args below meth c H locs 0 0 Q (F0 m pc ls st) := by
  subst hst
  refine va_callv (va_runV (As := As) (rest := rest) S hM cw (mo_preV V As) rfl hn hsize rfl (lv_room hW) hdg ⟨Nat.zero_le _, Nat.zero_le _⟩) V.2.2.2 (fun q _ h => h) (fun q h => h) (fun u t H1 locs1 ht hvm hw1 hB hz1 hk1 hS => ?_)
  rw [ht] at hB
  exact kk H1 locs1 ⟨V.1, hB, mo_cs_D _ V.2.2.1, hS⟩
theorem mo_cSi (S : CallFix p m c cc nL s args lw_all RX6) (V : mo_V D di dz h ad A H0 σ s H locs) (As : List Value) {r : Int32} (hM : mo_Ci l y bytes maxL rt rm D di dz h ad A As σ r σ') (cw : CallB R s args RX6 index y bytes maxL (some rt) (ws_ y bytes maxL (some rt)) rm 0 0 n ∧ (Cond.static y).before args s = true) (hst : st = As.reverse ++ rest) (hn : As.length = n) (hsize : ls.size = nL) (hW : (rest.map fun v => v.category).sum ≤ 8) (hdg : decode cc pc = .ok (.invokestatic index, 3))
    (kk : ∀ (H1 : Heap) (locs1 : List Loc), mo_V D di dz h ad A H0 σ' s H1 locs1 → W p l e R s m args below meth c H1 locs1 0 0 Q (F0 m (pc + 3) ls (.int r :: rest))) : W p l e R s m args below meth c H locs 0 0 Q (F0 m pc ls st) := by
  subst hst
  refine va_calli (va_runS (As := As) (rest := rest) S hM cw (mo_preS V As) rfl hn hsize rfl (lv_room hW) hdg ⟨Nat.zero_le _, Nat.zero_le _⟩) V.2.2.2 (fun q _ h => h) (fun q h => h) (fun r1 u t H1 locs1 ht hvm hw1 hB hz1 hk1 hS => ?_)
  subst hw1
  rw [ht] at hB
  exact kk H1 locs1 ⟨V.1, hB, mo_cs_D _ V.2.2.1, hS⟩
theorem mo_cSv (S : CallFix p m c cc nL s args lw_all RX6) (V : mo_V D di dz h ad A H0 σ s H locs) (As : List Value) (hM : mo_Cv l y bytes maxL rm D di dz h ad A As σ σ') (cw : CallB R s args RX6 index y bytes maxL none (ws_ y bytes maxL none) rm 0 0 n ∧ (Cond.static y).before args s = true) (hst : st = As.reverse ++ rest) (hn : As.length = n) (hsize : ls.size = nL) (hW : (rest.map fun v => v.category).sum ≤ 8) (hdg : decode cc pc = .ok (.invokestatic index, 3))
    (kk : ∀ (H1 : Heap) (locs1 : List Loc), mo_V D di dz h ad A H0 σ' s H1 locs1 → W p l e R s m args below meth c H1 locs1 0 0 Q (F0 m (pc + 3) ls rest)) : W p l e R s m args below meth c H locs 0 0 Q (F0 m pc ls st) := by
  subst hst
  refine va_callv (va_runS (As := As) (rest := rest) S hM cw (mo_preS V As) rfl hn hsize rfl (lv_room hW) hdg ⟨Nat.zero_le _, Nat.zero_le _⟩) V.2.2.2 (fun q _ h => h) (fun q h => h) (fun u t H1 locs1 ht hvm hw1 hB hz1 hk1 hS => ?_)
  rw [ht] at hB
  exact kk H1 locs1 ⟨V.1, hB, mo_cs_D _ V.2.2.1, hS⟩
/-- a call that touches no cell -/
theorem dx_cPi {own : String} (S : CallFix p m c cc nL s args lw_all own) (As : List Value) {r : Int32} (hM : dx_Pi l y bytes maxL rt rm As r) (cw : CallB R s args own index y bytes maxL (some rt) (ws_ y bytes maxL (some rt)) rm 0 0 n ∧ (Cond.static y).before args s = true) (hst : st = As.reverse ++ rest) (hn : As.length = n) (hsize : ls.size = nL) (hW : (rest.map fun v => v.category).sum ≤ 8) (hdg : decode cc pc = .ok (.invokestatic index, 3)) (hroom : cells ≤ R.cells ∧ slots ≤ R.slots)
    (kk : W p l e R s m args below meth c H locs cells slots Q (F0 m (pc + 3) ls (.int r :: rest))) : W p l e R s m args below meth c H locs cells slots Q (F0 m pc ls st) := by
  subst hst
  intro T hT X
  obtain ⟨v, st₀, t, T', L, h0, X', hL, e1, ⟨r1, hv, hp, hh⟩, stp⟩ := W.runS (As := As) (rest := rest) (g := F0 m pc ls (As.reverse ++ rest)) S hM cw ⟨fun _ _ _ _ q => q, fun _ _ _ => ⟨rfl, trivial⟩⟩ rfl hn hsize rfl (lv_room hW) hdg hroom T hT X
  cases hv
  subst hp
  obtain ⟨t2, a1, b1⟩ := kk T' (by rw [e1, hh, h0]) (Stand.forget X' (fun q h => (hL q h).elim))
  exact ⟨t2, stp t2 a1, b1⟩
theorem dx_cPl {own : String} (S : CallFix p m c cc nL s args lw_all own) (As : List Value) {r : Int64} (hM : dx_Pl l y bytes maxL rm As r) (cw : CallB R s args own index y bytes maxL (some .long) (ws_ y bytes maxL (some .long)) rm 0 0 n ∧ (Cond.static y).before args s = true) (hst : st = As.reverse ++ rest) (hn : As.length = n) (hsize : ls.size = nL) (hW : (rest.map fun v => v.category).sum ≤ 8) (hdg : decode cc pc = .ok (.invokestatic index, 3)) (hroom : cells ≤ R.cells ∧ slots ≤ R.slots)
    (kk : W p l e R s m args below meth c H locs cells slots Q (F0 m (pc + 3) ls (.long r :: rest))) : W p l e R s m args below meth c H locs cells slots Q (F0 m pc ls st) := by
  subst hst
  intro T hT X
  obtain ⟨v, st₀, t, T', L, h0, X', hL, e1, ⟨r1, hv, hp, hh⟩, stp⟩ := W.runS (As := As) (rest := rest) (g := F0 m pc ls (As.reverse ++ rest)) S hM cw ⟨fun _ _ _ _ q => q, fun _ _ _ => ⟨rfl, trivial⟩⟩ rfl hn hsize rfl (lv_room hW) hdg hroom T hT X
  cases hv
  subst hp
  obtain ⟨t2, a1, b1⟩ := kk T' (by rw [e1, hh, h0]) (Stand.forget X' (fun q h => (hL q h).elim))
  exact ⟨t2, stp t2 a1, b1⟩
/-- ends -/
theorem mo_ri (S : CallFix p m c cc nL s args lw_all RX6) (V : mo_V D di dz h ad A s.heap σ s H locs) (hr : meth.sig.returnType = some rt) (hlocks : meth.locks = false) {v : Int32} (hn : narrow rt (.int v) = .int v) (hdg : decode cc pc = .ok (.ireturn, 1)) : W p l e R s m args below meth c H locs 0 0 (MQ below (mo_Qi D di dz h ad A v σ) args s 0 0 A) (F0 m pc ls [.int v]) :=
  W.zret (v := v) S.1 S.2.1 hr hn (fun t ht hW => ⟨⟨v, (), rfl, rfl, by show va_P D vwCl (mo_cs h ad di dz σ) t.heap; rw [ht]; exact V.2.1⟩, V.2.2.2.F ht⟩) V.2.2.2.2.2 hdg hlocks
theorem mo_rl (S : CallFix p m c cc nL s args lw_all RX6) (V : mo_V D di dz h ad A s.heap σ s H locs) (hr : meth.sig.returnType = some .long) (hlocks : meth.locks = false) {v : Int64} (hdg : decode cc pc = .ok (.lreturn, 1)) : W p l e R s m args below meth c H locs 0 0 (MQ below (mo_Ql D di dz h ad A v σ) args s 0 0 A) (F0 m pc ls [.long v]) :=
  W.lret (v := v) S.1 S.2.1 hr (fun t ht hW => ⟨⟨v, (), rfl, rfl, by show va_P D vwCl (mo_cs h ad di dz σ) t.heap; rw [ht]; exact V.2.1⟩, V.2.2.2.F ht⟩) V.2.2.2.2.2 hdg hlocks
theorem mo_rv (S : CallFix p m c cc nL s args lw_all RX6) (V : mo_V D di dz h ad A s.heap σ s H locs) (hr : meth.sig.returnType = none) (hlocks : meth.locks = false) (hdg : decode cc pc = .ok (.return_, 1)) : W p l e R s m args below meth c H locs 0 0 (MQ below (mo_Qv D di dz h ad A σ) args s 0 0 A) (F0 m pc ls []) :=
  W.vret S.1 S.2.1 hr (fun t ht hW => ⟨⟨(), rfl, trivial, by show va_P D vwCl (mo_cs h ad di dz σ) t.heap; rw [ht]; exact V.2.1⟩, V.2.2.2.F ht⟩) V.2.2.2.2.2 hdg hlocks
theorem dx_rPi {own : String} (S : CallFix p m c cc nL s args lw_all own) (hr : meth.sig.returnType = some rt) (hlocks : meth.locks = false) {v : Int32} (hn : narrow rt (.int v) = .int v) (hdg : decode cc pc = .ok (.ireturn, 1)) : W p l e R s m args below meth c s.heap [] 0 0 (MQ below (vp_Si (fun r2 => r2 = v)) args s 0 0 (fun _ => False)) (F0 m pc ls [.int v]) :=
  W.zret (v := v) S.1 S.2.1 hr hn (fun t ht hW => ⟨v, rfl, rfl, ht⟩) (fun _ h => by cases h) hdg hlocks
theorem dx_rPl {own : String} (S : CallFix p m c cc nL s args lw_all own) (hr : meth.sig.returnType = some .long) (hlocks : meth.locks = false) {v : Int64} (hdg : decode cc pc = .ok (.lreturn, 1)) : W p l e R s m args below meth c s.heap [] 0 0 (MQ below (vp_Sl (fun r2 => r2 = v)) args s 0 0 (fun _ => False)) (F0 m pc ls [.long v]) :=
  W.lret (v := v) S.1 S.2.1 hr (fun t ht hW => ⟨v, rfl, rfl, ht⟩) (fun _ h => by cases h) hdg hlocks
end MOR
/-- beginnings -/
theorem dx_in {l : Launch} {y : MethodName} {cc : ByteArray} {nL : Nat} {ret : Option FieldType} {rm : Room} {Pc : State → Prop} {Qc : Array Value → State → Outcome → State → Prop} {mc ms : Nat} {free : Addr → Prop} {av : List Value} (own : String) (hown : y.cls = own) (hy : plainName y.cls = true) (hs : (lg_sl av).length ≤ nL)
    (body : ∀ (p : Program) (e : Env) (s : State) (m : MethodId) (below : List Frame) (meth : Method) (c : Code) (ls : Array Slot), CallFix p m c cc nL s av.toArray lw_all own → meth.sig.returnType = ret → meth.locks = false → Pc s → lv_has ls nL (lv_args 0 av) → W p l e rm s m av.toArray below meth c s.heap [] 0 0 (MQ below Qc av.toArray s mc ms free) (F0 m 0 ls [])) : Met l y (ws_ y cc nL ret) rm (va_Pc av Pc) Qc mc ms free := by
  subst hown
  refine Met.ofW (cc := cc) (maxL := nL) (ret := ret) hy rfl ?_
  intro p e s m args below meth c s₁ B hml hv
  obtain ⟨rfl, hv⟩ := hv
  have hts := atoms_spec (ws := ws_ y cc nL ret) B.pre
  rw [lg_entry_eq]
  exact body p e s m below meth c _ ⟨B.exec, B.bytes, hml, findClass_of_methodNamed B.named, fun w h => hts w (List.mem_cons_of_mem _ h)⟩ B.returns B.notSynchronized hv (lv_entry av hs)
