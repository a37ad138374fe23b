/-! DatedContactsModel's constructor -/
def mi_v (ad : Nat → Nat) (k j : Nat) : Value := if j < k then .ref (ad j) else .null
def mi_fs (ad : Nat → Nat) (k : Nat) : List Value := [mi_v ad k 0, mi_v ad k 1, mi_v ad k 2, mi_v ad k 3, .int 0, mi_v ad k 4, .int 0, .int 0, .int 0, .int 0, .int 0, .int 0, .int 0, mi_v ad k 5, mi_v ad k 6, mi_v ad k 7, mi_v ad k 8, .int 0, mi_v ad k 9, mi_v ad k 10, mi_v ad k 11, mi_v ad k 12, mi_v ad k 13, mi_v ad k 14, .int 0, mi_v ad k 15, .int 0, mi_v ad k 16, .int 0]
def mi_ws (h : Nat) (ad : Nat → Nat) (di dz : ClassId) (k n : Nat) : va_W := (h, .inr (6, mi_fs ad k)) :: (List.range n).map (fun j => (ad j, .inl (mo_cl di dz j, mo_len j, .inl (fun _ => 0))))
def mi_V (D : va_G) (di dz : ClassId) (h : Nat) (ad : Nat → Nat) (k n : Nat) (A : Nat → Prop) (H0 : Heap) (s : State) (H : Heap) (locs : List Loc) : Prop := va_K D vwCl (mo_ty di dz) s ∧ va_P D vwCl (mi_ws h ad di dz k n) H ∧ va_D A (mi_ws h ad di dz k n) ∧ va_S A H0 H locs ∧ (∀ q, H0.size ≤ q → A q)
def mi_s (i : Nat) : mo_S := (fun _ => 0, fun k j => if k = 0 ∧ j < i then -1000000 else 0)
theorem mi_fs_c {ad ad' : Nat → Nat} {k : Nat} (h : ∀ j, j < k → ad' j = ad j) : mi_fs ad' k = mi_fs ad k := by
  have e : ∀ j, mi_v ad' k j = mi_v ad k j := by
    intro j
    unfold mi_v
    split
    · rename_i hj
      rw [h j hj]
    · rfl
  unfold mi_fs
  simp only [e]
theorem mi_ws_nw {h : Nat} {ad : Nat → Nat} {di dz : ClassId} {k n q : Nat} (hkn : k ≤ n) : mi_ws h ad di dz k n ++ [(q, .inl (mo_cl di dz n, mo_len n, .inl (fun _ => 0)))] = mi_ws h (va_up ad n q) di dz k (n + 1) := by
  unfold mi_ws
  rw [mi_fs_c (ad := ad) (ad' := va_up ad n q) (fun j hj => va_up_ne _ _ (by omega)), List.range_succ, List.map_append, List.cons_append]
  congr 2
  · apply List.map_congr_left
    intro j hj
    have := List.mem_range.mp hj
    rw [va_up_ne _ _ (by omega)]
  · simp [va_up_self]
theorem mi_mo {h : Nat} {ad : Nat → Nat} {di dz : ClassId} : mi_ws h ad di dz 17 17 = mo_cs h ad di dz (mi_s 0) := by
  have e : ∀ k, (mi_s 0).2 k = fun _ => 0 := by
    intro k
    funext j
    show (if k = 0 ∧ j < 0 then (-1000000 : Int32) else 0) = 0
    rw [if_neg (by omega)]
  unfold mi_ws mo_cs
  simp only [e]
  rfl
theorem mi_A {i : Nat} : mo_A (mi_s i) 0 i (-1000000) = mi_s (i + 1) := by
  refine Prod.ext rfl ?_
  funext k j
  show va_up (mi_s i).2 0 (upd ((mi_s i).2 0) i (-1000000)) k j = if k = 0 ∧ j < i + 1 then (-1000000 : Int32) else 0
  by_cases hk : k = 0
  · subst hk
    rw [va_up_self]
    unfold upd
    show (if j = i then (-1000000 : Int32) else (if (0 : Nat) = 0 ∧ j < i then (-1000000 : Int32) else 0)) = _
    by_cases hj : j = i
    · rw [if_pos hj, if_pos ⟨rfl, by omega⟩]
    · rw [if_neg hj]
      by_cases hlt : j < i
      · rw [if_pos ⟨rfl, hlt⟩, if_pos ⟨rfl, by omega⟩]
      · rw [if_neg (fun h => hlt h.2), if_neg (fun h => by have := h.2; omega)]
  · rw [va_up_ne _ _ hk]
    show (if k = 0 ∧ j < i then (-1000000 : Int32) else 0) = _
    rw [if_neg (fun h => hk h.1), if_neg (fun h => hk h.1)]
section MI
variable {p : Program} {l : Launch} {e : Env} {R : Room} {s : State} {m : MethodId} {args : Array Value} {below : List Frame} {meth : Method} {c : Code} {H : Heap} {locs : List Loc} {cells slots : Nat} {Q : State → Prop}
variable {cc : ByteArray} {nL pc : Nat} {ls : Array Slot} {rest : List Value} {D : va_G} {di dz : ClassId} {h : Nat} {ad : Nat → Nat} {A : Nat → Prop} {H0 : Heap}
theorem mi_na {k n : Nat} (t0 : Nat) (S : CallFix p m c cc nL s args lw_all RX6) (V : mi_V D di dz h ad k n A H0 s H locs) (hkn : k ≤ n) {atype : ArrayType} {ty : FieldType} (ht : (mo_ty di dz)[t0]? = some (mo_cl di dz n, ty)) (hty : newarray.typeOf atype = ty) (hprim : ∀ (u : State) (x : ClassId), va_RA u x ty → u.vm.findClass ("[" ++ ty.toString) = some x) (harr : Cond.arrayClass ty ∈ lw_all) (hdv : defaultValue ty = .int 0) {v : Int32} (hn : ¬ v < 0) (hN : v.toNatClampNeg = mo_len n) (hbytes : mo_len n * componentBytes ty ≤ 536870912) (hcells : cells + 1 ≤ R.cells) (hslots : slots + mo_len n ≤ R.slots) (hdg : decode cc pc = .ok (.newarray atype, 2))
    (kk : ∀ (ad' : Nat → Nat) (H1 : Heap), mi_V D di dz h ad' k (n + 1) A H0 s H1 locs → W p l e R s m args below meth c H1 locs (cells + 1) (slots + mo_len n) Q (F0 m (pc + 2) ls (.ref (ad' n) :: rest))) : W p l e R s m args below meth c H locs cells slots Q (F0 m pc ls (.int v :: rest)) := by
  refine va_newa (ty := ty) (a0 := (mo_len n, .inl (fun _ => 0))) S.1 S.2.1 (by rw [hty]; exact S.2.2.2.2 _ harr) hty V.1 V.2.1 V.2.2.1 V.2.2.2.1 V.2.2.2.2 (fun cA => by rw [vp_cell_i, hdv]) hn hN hbytes hcells hslots hdg (fun q cA H1 hK hP hD hS => ?_)
  have hx : cA = mo_cl di dz n := by
    have h1 := hprim s cA (hK.2 2 (cA, ty) rfl).2
    have h2 := hprim s (mo_cl di dz n) (V.1.2 t0 _ ht).2
    exact Option.some.inj (h1.symm.trans h2)
  subst hx
  rw [mi_ws_nw hkn] at hP hD
  have := kk (va_up ad n q) H1 ⟨V.1, hP, hD, hS, V.2.2.2.2⟩
  rw [va_up_self] at this
  exact this
theorem mi_pr {k n : Nat} (S : CallFix p m c cc nL s args lw_all RX6) (V : mi_V D di dz h ad k n A H0 s H locs) (fi : Nat) (hfi : fi < 29) (hset : (mi_fs ad k).set fi (.ref (ad k)) = mi_fs ad (k + 1)) {index : Nat} (hlink : Cond.fieldLink RX6 index RX6 (TX6 fi).2.1 (TX6 fi).2.2.1 ∈ lw_all) (hsame : (TX6 fi).1 = RX6) (hfin : (TX6 fi).2.2.2 = true) (hini : meth.name = "<init>") (hn : narrow (tyX6 fi) (.ref (ad k)) = .ref (ad k)) (hfit : fits (tyX6 fi) (.ref (ad k)) = true) (hdg : decode cc pc = .ok (.putfield index, 3))
    (kk : ∀ (H1 : Heap) (locs1 : List Loc), mi_V D di dz h ad (k + 1) n A H0 s H1 locs1 → W p l e R s m args below meth c H1 locs1 cells slots Q (F0 m (pc + 3) ls rest)) : W p l e R s m args below meth c H locs cells slots Q (F0 m pc ls (.ref (ad k) :: .ref h :: rest)) := by
  refine va_putF (D := D) (ci := 6) (v := .ref (ad k)) (ty := tyX6 fi) (C := RX6) (T := TX6) (N := 29) S.1 S.2.1 S.2.2.2.2 in_X6 tyX6 tyX6_ok nmX6 S.2.2.2.1 V.1 V.2.1 V.2.2.1 V.2.2.2.1 0 rfl rfl fi hfi (S.2.2.2.2 _ hlink) (fun x h9 => by rw [hsame] at h9; exact h9) hfin hini hsame (tyX6_ok fi hfi) hn hfit hfi hdg (fun H1 locs1 hP hD hS => kk H1 locs1 ?_)
  have e : (mi_ws h ad di dz k n).set 0 (h, .inr (6, (mi_fs ad k).set fi (.ref (ad k)))) = mi_ws h ad di dz (k + 1) n := by
    rw [hset]
    rfl
  rw [e] at hP hD
  exact ⟨V.1, hP, hD, hS, V.2.2.2.2⟩
end MI
theorem mi_d : yX6_init.cls = RX6 ∧ yX6_init.cls ≠ "java/lang/invoke/MethodHandle" ∧ yX6_init.cls ≠ "java/lang/invoke/VarHandle" ∧ (parseMethodDescriptor yX6_init.desc).map (fun d => d.parameters.length) = some 0 := by decide +kernel
/-- the constructor's contract: from a new object, the Model's first state -/
abbrev mi_Pre (D : va_G) (di dz : ClassId) (h : Nat) (ad : Nat → Nat) (A : Nat → Prop) : Array Value → State → Prop := va_Pc [.ref h] (fun U => va_K D vwCl (mo_ty di dz) U ∧ va_P D vwCl (mi_ws h ad di dz 0 0) U.heap ∧ va_D A (mi_ws h ad di dz 0 0) ∧ (∀ q, U.heap.size ≤ q → A q))
abbrev mi_Q (D : va_G) (di dz : ClassId) (h : Nat) (A : Nat → Prop) : Array Value → State → Outcome → State → Prop := va_Qv (fun (_ : Nat → Nat) => True) (fun ad t => va_P D vwCl (mo_cs h ad di dz (mi_s 8)) t.heap ∧ va_D A (mo_cs h ad di dz (mi_s 8))) A
set_option maxHeartbeats 8000000 in
set_option maxRecDepth 100000 in
theorem mi_init (l : Launch) (D : va_G) (di dz : ClassId) (h : Nat) (ad : Nat → Nat) (A : Nat → Prop) : Met l yX6_init (ws_ yX6_init cX6_init 2 none) ({ frames := 1, cells := 17, slots := 1784, locals := 20 } : Room) (mi_Pre D di dz h ad A) (mi_Q D di dz h A) 17 1784 A := by
  refine cl_in RX6 rfl (by decide) (Nat.le_of_ble_eq_true rfl) ?_
  intro p e s m below meth c ls S hr hlocks hini hv hl
  have hx := S.1
  have hb := S.2.1
  have hown := S.2.2.2.1
  have hts := S.2.2.2.2
  obtain ⟨hK, hP, hD, hA⟩ := hv
  have V : mi_V D di dz h ad 0 0 A s.heap s s.heap [] := ⟨hK, hP, hD, va_S.rf, hA⟩
  replace hl : lv_has ls 2 [(0, .ref h)] := hl
  refine lv_aload_n hx hb dX6_init_0 rfl (lv_at hl 0 rfl) ?_
  refine W.objInit hx hb hown (hts _ q1613) (hts _ q123) (hts _ q124) rfl (by rw [S.2.2.1]; exact hl.1) rfl dX6_init_1 (Nat.le_of_ble_eq_true rfl) (Nat.le_of_ble_eq_true rfl) ?_
  refine lv_aload_n hx hb dX6_init_4 rfl (lv_at hl 0 rfl) ?_
  refine lv_bipush (v := 8) hx hb dX6_init_5 (by decide) ?_
  refine mi_na 0 (atype := .int) (ty := .int) S V (by decide) rfl rfl (fun _ _ h => h) q207 rfl (by decide) (by decide) (Nat.le_of_ble_eq_true rfl) (Nat.le_of_ble_eq_true rfl) (Nat.le_of_ble_eq_true rfl) dX6_init_7 (fun ad _ V => ?_)
  refine mi_pr S V 0 (by decide) rfl q1615 rfl rfl hini rfl rfl dX6_init_9 (fun _ _ V => ?_)
  refine lv_aload_n hx hb dX6_init_12 rfl (lv_at hl 0 rfl) ?_
  refine lv_bipush (v := 8) hx hb dX6_init_13 (by decide) ?_
  refine mi_na 0 (atype := .int) (ty := .int) S V (by decide) rfl rfl (fun _ _ h => h) q207 rfl (by decide) (by decide) (Nat.le_of_ble_eq_true rfl) (Nat.le_of_ble_eq_true rfl) (Nat.le_of_ble_eq_true rfl) dX6_init_15 (fun ad _ V => ?_)
  refine mi_pr S V 1 (by decide) rfl q1616 rfl rfl hini rfl rfl dX6_init_17 (fun _ _ V => ?_)
  refine lv_aload_n hx hb dX6_init_20 rfl (lv_at hl 0 rfl) ?_
  refine lv_sipush (v := 320) hx hb dX6_init_21 (by decide) ?_
  refine mi_na 0 (atype := .int) (ty := .int) S V (by decide) rfl rfl (fun _ _ h => h) q207 rfl (by decide) (by decide) (Nat.le_of_ble_eq_true rfl) (Nat.le_of_ble_eq_true rfl) (Nat.le_of_ble_eq_true rfl) dX6_init_24 (fun ad _ V => ?_)
  refine mi_pr S V 2 (by decide) rfl q1617 rfl rfl hini rfl rfl dX6_init_26 (fun _ _ V => ?_)
  refine lv_aload_n hx hb dX6_init_29 rfl (lv_at hl 0 rfl) ?_
  refine lv_bipush (v := 40) hx hb dX6_init_30 (by decide) ?_
  refine mi_na 0 (atype := .int) (ty := .int) S V (by decide) rfl rfl (fun _ _ h => h) q207 rfl (by decide) (by decide) (Nat.le_of_ble_eq_true rfl) (Nat.le_of_ble_eq_true rfl) (Nat.le_of_ble_eq_true rfl) dX6_init_32 (fun ad _ V => ?_)
  refine mi_pr S V 3 (by decide) rfl q1618 rfl rfl hini rfl rfl dX6_init_34 (fun _ _ V => ?_)
  refine lv_aload_n hx hb dX6_init_37 rfl (lv_at hl 0 rfl) ?_
  refine lv_sipush (v := 130) hx hb dX6_init_38 (by decide) ?_
  refine mi_na 0 (atype := .int) (ty := .int) S V (by decide) rfl rfl (fun _ _ h => h) q207 rfl (by decide) (by decide) (Nat.le_of_ble_eq_true rfl) (Nat.le_of_ble_eq_true rfl) (Nat.le_of_ble_eq_true rfl) dX6_init_41 (fun ad _ V => ?_)
  refine mi_pr S V 5 (by decide) rfl q1620 rfl rfl hini rfl rfl dX6_init_43 (fun _ _ V => ?_)
  refine lv_aload_n hx hb dX6_init_46 rfl (lv_at hl 0 rfl) ?_
  refine lv_bipush (v := 52) hx hb dX6_init_47 (by decide) ?_
  refine mi_na 0 (atype := .int) (ty := .int) S V (by decide) rfl rfl (fun _ _ h => h) q207 rfl (by decide) (by decide) (Nat.le_of_ble_eq_true rfl) (Nat.le_of_ble_eq_true rfl) (Nat.le_of_ble_eq_true rfl) dX6_init_49 (fun ad _ V => ?_)
  refine mi_pr S V 13 (by decide) rfl q1628 rfl rfl hini rfl rfl dX6_init_51 (fun _ _ V => ?_)
  refine lv_aload_n hx hb dX6_init_54 rfl (lv_at hl 0 rfl) ?_
  refine lv_bipush (v := 52) hx hb dX6_init_55 (by decide) ?_
  refine mi_na 0 (atype := .int) (ty := .int) S V (by decide) rfl rfl (fun _ _ h => h) q207 rfl (by decide) (by decide) (Nat.le_of_ble_eq_true rfl) (Nat.le_of_ble_eq_true rfl) (Nat.le_of_ble_eq_true rfl) dX6_init_57 (fun ad _ V => ?_)
  refine mi_pr S V 14 (by decide) rfl q1629 rfl rfl hini rfl rfl dX6_init_59 (fun _ _ V => ?_)
  refine lv_aload_n hx hb dX6_init_62 rfl (lv_at hl 0 rfl) ?_
  refine lv_bipush (v := 52) hx hb dX6_init_63 (by decide) ?_
  refine mi_na 0 (atype := .int) (ty := .int) S V (by decide) rfl rfl (fun _ _ h => h) q207 rfl (by decide) (by decide) (Nat.le_of_ble_eq_true rfl) (Nat.le_of_ble_eq_true rfl) (Nat.le_of_ble_eq_true rfl) dX6_init_65 (fun ad _ V => ?_)
  refine mi_pr S V 15 (by decide) rfl q1630 rfl rfl hini rfl rfl dX6_init_67 (fun _ _ V => ?_)
  refine lv_aload_n hx hb dX6_init_70 rfl (lv_at hl 0 rfl) ?_
  refine lv_sipush (v := 832) hx hb dX6_init_71 (by decide) ?_
  refine mi_na 0 (atype := .int) (ty := .int) S V (by decide) rfl rfl (fun _ _ h => h) q207 rfl (by decide) (by decide) (Nat.le_of_ble_eq_true rfl) (Nat.le_of_ble_eq_true rfl) (Nat.le_of_ble_eq_true rfl) dX6_init_74 (fun ad _ V => ?_)
  refine mi_pr S V 16 (by decide) rfl q1631 rfl rfl hini rfl rfl dX6_init_76 (fun _ _ V => ?_)
  refine lv_aload_n hx hb dX6_init_79 rfl (lv_at hl 0 rfl) ?_
  refine lv_bipush (v := 104) hx hb dX6_init_80 (by decide) ?_
  refine mi_na 0 (atype := .int) (ty := .int) S V (by decide) rfl rfl (fun _ _ h => h) q207 rfl (by decide) (by decide) (Nat.le_of_ble_eq_true rfl) (Nat.le_of_ble_eq_true rfl) (Nat.le_of_ble_eq_true rfl) dX6_init_82 (fun ad _ V => ?_)
  refine mi_pr S V 18 (by decide) rfl q1633 rfl rfl hini rfl rfl dX6_init_84 (fun _ _ V => ?_)
  refine lv_aload_n hx hb dX6_init_87 rfl (lv_at hl 0 rfl) ?_
  refine lv_iconst (v := 2) hx hb dX6_init_88 (by decide) ?_
  refine mi_na 1 (atype := .boolean) (ty := .boolean) S V (by decide) rfl rfl (fun _ _ h => h) q1703 rfl (by decide) (by decide) (Nat.le_of_ble_eq_true rfl) (Nat.le_of_ble_eq_true rfl) (Nat.le_of_ble_eq_true rfl) dX6_init_89 (fun ad _ V => ?_)
  refine mi_pr S V 19 (by decide) rfl q1634 rfl rfl hini rfl rfl dX6_init_91 (fun _ _ V => ?_)
  refine lv_aload_n hx hb dX6_init_94 rfl (lv_at hl 0 rfl) ?_
  refine lv_bipush (v := 9) hx hb dX6_init_95 (by decide) ?_
  refine mi_na 0 (atype := .int) (ty := .int) S V (by decide) rfl rfl (fun _ _ h => h) q207 rfl (by decide) (by decide) (Nat.le_of_ble_eq_true rfl) (Nat.le_of_ble_eq_true rfl) (Nat.le_of_ble_eq_true rfl) dX6_init_97 (fun ad _ V => ?_)
  refine mi_pr S V 20 (by decide) rfl q1635 rfl rfl hini rfl rfl dX6_init_99 (fun _ _ V => ?_)
  refine lv_aload_n hx hb dX6_init_102 rfl (lv_at hl 0 rfl) ?_
  refine lv_bipush (v := 9) hx hb dX6_init_103 (by decide) ?_
  refine mi_na 0 (atype := .int) (ty := .int) S V (by decide) rfl rfl (fun _ _ h => h) q207 rfl (by decide) (by decide) (Nat.le_of_ble_eq_true rfl) (Nat.le_of_ble_eq_true rfl) (Nat.le_of_ble_eq_true rfl) dX6_init_105 (fun ad _ V => ?_)
  refine mi_pr S V 21 (by decide) rfl q1636 rfl rfl hini rfl rfl dX6_init_107 (fun _ _ V => ?_)
  refine lv_aload_n hx hb dX6_init_110 rfl (lv_at hl 0 rfl) ?_
  refine lv_bipush (v := 20) hx hb dX6_init_111 (by decide) ?_
  refine mi_na 0 (atype := .int) (ty := .int) S V (by decide) rfl rfl (fun _ _ h => h) q207 rfl (by decide) (by decide) (Nat.le_of_ble_eq_true rfl) (Nat.le_of_ble_eq_true rfl) (Nat.le_of_ble_eq_true rfl) dX6_init_113 (fun ad _ V => ?_)
  refine mi_pr S V 22 (by decide) rfl q1637 rfl rfl hini rfl rfl dX6_init_115 (fun _ _ V => ?_)
  refine lv_aload_n hx hb dX6_init_118 rfl (lv_at hl 0 rfl) ?_
  refine lv_bipush (v := 10) hx hb dX6_init_119 (by decide) ?_
  refine mi_na 0 (atype := .int) (ty := .int) S V (by decide) rfl rfl (fun _ _ h => h) q207 rfl (by decide) (by decide) (Nat.le_of_ble_eq_true rfl) (Nat.le_of_ble_eq_true rfl) (Nat.le_of_ble_eq_true rfl) dX6_init_121 (fun ad _ V => ?_)
  refine mi_pr S V 23 (by decide) rfl q1638 rfl rfl hini rfl rfl dX6_init_123 (fun _ _ V => ?_)
  refine lv_aload_n hx hb dX6_init_126 rfl (lv_at hl 0 rfl) ?_
  refine lv_bipush (v := 120) hx hb dX6_init_127 (by decide) ?_
  refine mi_na 0 (atype := .int) (ty := .int) S V (by decide) rfl rfl (fun _ _ h => h) q207 rfl (by decide) (by decide) (Nat.le_of_ble_eq_true rfl) (Nat.le_of_ble_eq_true rfl) (Nat.le_of_ble_eq_true rfl) dX6_init_129 (fun ad _ V => ?_)
  refine mi_pr S V 25 (by decide) rfl q1640 rfl rfl hini rfl rfl dX6_init_131 (fun _ _ V => ?_)
  refine lv_aload_n hx hb dX6_init_134 rfl (lv_at hl 0 rfl) ?_
  refine lv_bipush (v := 16) hx hb dX6_init_135 (by decide) ?_
  refine mi_na 0 (atype := .int) (ty := .int) S V (by decide) rfl rfl (fun _ _ h => h) q207 rfl (by decide) (by decide) (Nat.le_of_ble_eq_true rfl) (Nat.le_of_ble_eq_true rfl) (Nat.le_of_ble_eq_true rfl) dX6_init_137 (fun ad _ V => ?_)
  refine mi_pr S V 27 (by decide) rfl q1642 rfl rfl hini rfl rfl dX6_init_139 (fun _ _ V => ?_)
  have hloop : ∀ (n i : Nat) (H : Heap) (locs : List Loc) (ls : Array Slot), n + i = 8 → mo_V D di dz h ad A s.heap (mi_s i) s H locs → lv_has ls 2 [(0, .ref h), (1, .int (nI i))] → W p l e ({ frames := 1, cells := 17, slots := 1784, locals := 20 } : Room) s m ([Value.ref h] : List Value).toArray below meth c H locs 17 1784 (MQ below (mi_Q D di dz h A) ([Value.ref h] : List Value).toArray s 17 1784 A) (F0 m 144 ls []) := by
    intro n
    induction n with
    | zero =>
      intro i H locs ls hi V hl
      have hi8 : i = 8 := by omega
      subst hi8
      refine lv_iload_n hx hb dX6_init_144 rfl (lv_at hl 1 rfl) ?_
      refine lv_bipush (v := 8) hx hb dX6_init_145 (by decide) ?_
      refine lv_icmp_ge (tgt := 164) hx hb dX6_init_147 (by decide) (fun hc => ?_) (fun hc => ?_)
      · exact W.vret S.1 S.2.1 hr (fun t ht hW => ⟨⟨ad, rfl, trivial, by rw [ht]; exact V.2.1, V.2.2.1⟩, V.2.2.2.F ht⟩) V.2.2.2.2.2 dX6_init_164 hlocks
      · exact absurd (by decide) hc
    | succ n ih =>
      intro i H locs ls hi V hl
      refine lv_iload_n hx hb dX6_init_144 rfl (lv_at hl 1 rfl) ?_
      refine lv_bipush (v := 8) hx hb dX6_init_145 (by decide) ?_
      refine lv_icmp_ge (tgt := 164) hx hb dX6_init_147 (by decide) (fun hc => ?_) (fun hc => ?_)
      · exact absurd ((pb_le (a := 8) (by omega) (by omega)).mp hc) (by omega)
      · refine lv_aload_n hx hb dX6_init_150 rfl (lv_at hl 0 rfl) ?_
        refine mo_get S V 0 (by decide) rfl q1615 rfl dX6_init_151 ?_
        refine lv_iload_n hx hb dX6_init_154 rfl (lv_at hl 1 rfl) ?_
        refine lv_ldc hx hb hown (hts _ q1614) dX6_init_155 ?_
        refine mo_st S V 0 (by decide) (dx_inb_in (n := 8) (by rw [pb_inb (by omega), decide_eq_true (by omega)])) dX6_init_157 (fun _ _ V => ?_)
        rw [nI_clamp (by omega), mi_A] at V
        refine lv_iinc (v := nI i + (1 : Int32)) (lv' := [(1, .int (nI i + (1 : Int32))), (0, .ref h)]) hx hb dX6_init_158 hl (k := 1) rfl rfl (by decide) rfl (fun ls hl => ?_)
        refine lv_goto (tgt := 144) hx hb dX6_init_161 (by decide) ?_
        rw [← nI_succ] at hl
        exact ih (i + 1) _ _ _ (by omega) V (lv_sub hl [1, 0] rfl)
  have V0 : mo_V D di dz h ad A s.heap (mi_s 0) s _ _ := ⟨V.1, by rw [← mi_mo]; exact V.2.1, by rw [← mi_mo]; exact V.2.2.1, V.2.2.2.1⟩
  refine lv_iconst (v := 0) hx hb dX6_init_142 (by decide) ?_
  refine lv_istore_n (lv' := [(1, .int (0 : Int32)), (0, .ref h)]) hx hb dX6_init_143 rfl hl (by decide) rfl (fun ls hl => ?_)
  rw [← nI_0] at hl
  exact hloop 8 0 _ _ _ rfl V0 (lv_sub hl [1, 0] rfl)
