/-! the law: its loop, its start, the claim -/
set_option maxRecDepth 100000
theorem lj_nI (k j : Nat) : nI k + nI j = nI (k + j) := pb_add k j
set_option maxHeartbeats 8000000 in
theorem lw_loop {p : Program} {e : Env} {s : State} {m : MethodId} {below : List Frame} {meth : Method} {c : Code} {D : va_G} {dA : Nat → ClassId} {di dz : ClassId} {b1 : Nat → Nat} {h : Nat} {adm : Nat → Nat} {b a L : Nat} {xs : Nat → Int32} (l : Launch) (hlt : l.stackTraces = false) (hL : L ≤ 384) (C0 : lw_At p s m meth c b L xs) (F : lj_F D dA di dz b1 s h adm) :
    ∀ (n k : Nat), 6 * k ≤ L → L + 1 ≤ 6 * k + 6 * n → lj_G p l e s m below meth c D dA di dz b1 h adm b a (nI (6 * k)) (57 + 611 * k) (3569 + 13324 * k) 18 := by
  obtain ⟨hx, hb, hr, hml, hown, hts, hX, hbl, hlocks, -⟩ := id C0
  have hbA : ¬ (fun q : Nat => s.heap.size ≤ q) b := Nat.not_le.mpr hbl
  intro n
  induction n with
  | zero =>
    intro k h1 h2
    exact absurd h2 (by omega)
  | succ n ih =>
    intro k hk6 hn ad σ μ S H locs ls J hR hM ha hl
    refine lv_iload_n hx hb dL_law_18 rfl (lv_at hl 0 rfl) ?_
    refine lv_aload_n hx hb dL_law_19 rfl (lv_at hl 1 rfl) ?_
    refine va_slen hx hb hX hbl hbA J.2.2 dL_law_20 ?_
    refine lv_bipush (v := 6) hx hb dL_law_21 (by decide) ?_
    refine lv_isub hx hb dL_law_23 ?_
    refine lv_icmp_gt (tgt := 1407) hx hb dL_law_24 (by decide) (fun hc => ?_) (fun hc => ?_)
    · refine lv_iconst (v := 1) hx hb dL_law_1407 (by decide) ?_
      refine va_forget (fun q hq => J.2.2.2.2 q hq) ?_
      refine W.widen (k := 603072) (n := 7262314) (by omega) (by omega) ?_
      exact lw_ret hx hb hr hlocks dL_law_1408
    · have h6 : 6 * k + 6 ≤ L := by
        have e1 : (Int32.ofNat L - 6).toInt = (L : Int) - (6 : Nat) := pk_sub_toInt (a := L) (b := 6) (by omega) (by omega)
        have e2 : (nI (6 * k)).toInt = ((6 * k : Nat) : Int) := nI_toInt (by omega)
        rw [Int32.lt_iff_toInt_lt, e1, e2] at hc
        omega
      have v0 : vp_in (nI (6 * k)) L := vp_in_nI (by omega) (by omega)
      have v1 : vp_in (nI (6 * k) + 1) L := by rw [show nI (6 * k) + 1 = nI (6 * k + 1) from lj_nI _ 1]; exact vp_in_nI (by omega) (by omega)
      have v2 : vp_in (nI (6 * k) + 2) L := by rw [show nI (6 * k) + 2 = nI (6 * k + 2) from lj_nI _ 2]; exact vp_in_nI (by omega) (by omega)
      have v3 : vp_in (nI (6 * k) + 3) L := by rw [show nI (6 * k) + 3 = nI (6 * k + 3) from lj_nI _ 3]; exact vp_in_nI (by omega) (by omega)
      have v4 : vp_in (nI (6 * k) + 4) L := by rw [show nI (6 * k) + 4 = nI (6 * k + 4) from lj_nI _ 4]; exact vp_in_nI (by omega) (by omega)
      have v5 : vp_in (nI (6 * k) + 5) L := by rw [show nI (6 * k) + 5 = nI (6 * k + 5) from lj_nI _ 5]; exact vp_in_nI (by omega) (by omega)
      have hin := And.intro v1 (And.intro v2 (And.intro v3 (And.intro v4 v5)))
      have hcs : 57 + 611 * k + 611 ≤ 603072 ∧ 3569 + 13324 * k + 13324 ≤ 7262314 := ⟨by omega, by omega⟩
      have kk : lj_G p l e s m below meth c D dA di dz b1 h adm b a (nI (6 * k)) (57 + 611 * k + 611) (3569 + 13324 * k + 13324) 1401 := by
        intro ad σ μ S H locs ls J hR hM ha hl
        refine lv_iinc (v := nI (6 * (k + 1))) (lv' := [(3, .int (nI (6 * (k + 1)))), (0, .ref b), (1, .ref a), (2, .ref h)]) hx hb dL_law_1401 hl (k := 0) rfl (by rw [show 6 * (k + 1) = 6 * k + 6 by omega]; exact lj_nI (6 * k) 6) (by decide) rfl (fun ls hl => ?_)
        refine lv_goto (tgt := 18) hx hb dL_law_1404 (by decide) ?_
        rw [show 57 + 611 * k + 611 = 57 + 611 * (k + 1) by omega, show 3569 + 13324 * k + 13324 = 3569 + 13324 * (k + 1) by omega]
        exact ih (k + 1) (by omega) (by omega) ad σ μ S H locs ls J hR hM ha hl
      refine lv_aload_n hx hb dL_law_27 rfl (lv_at hl 1 rfl) ?_
      refine lv_iload_n hx hb dL_law_28 rfl (lv_at hl 0 rfl) ?_
      refine va_sld hx hb hX hbl hbA J.2.2 v0 dL_law_29 ?_
      refine lv_bipush (v := 63) hx hb dL_law_30 (by decide) ?_
      refine lv_iand hx hb dL_law_32 ?_
      generalize xs (nI (6 * k)).toNatClampNeg &&& 63 = y
      by_cases ho : y.toInt < 0 ∨ 35 < y.toInt
      · refine lv_tableOut (tgt := 1401) hx hb dL_law_33 ho (by decide) ?_
        refine W.widen (k := 57 + 611 * k + 611) (n := 3569 + 13324 * k + 13324) (by omega) (by omega) ?_
        exact kk ad σ μ S H locs ls J hR hM ha hl
      · have o1 : ¬ y.toInt < 0 := fun h => ho (Or.inl h)
        have o2 : ¬ 35 < y.toInt := fun h => ho (Or.inr h)
        have hj : y.toInt = 0 ∨ y.toInt = 1 ∨ y.toInt = 2 ∨ y.toInt = 3 ∨ y.toInt = 4 ∨ y.toInt = 5 ∨ y.toInt = 6 ∨ y.toInt = 7 ∨ y.toInt = 8 ∨ y.toInt = 9 ∨ y.toInt = 10 ∨ y.toInt = 11 ∨ y.toInt = 12 ∨ y.toInt = 13 ∨ y.toInt = 14 ∨ y.toInt = 15 ∨ y.toInt = 16 ∨ y.toInt = 17 ∨ y.toInt = 18 ∨ y.toInt = 19 ∨ y.toInt = 20 ∨ y.toInt = 21 ∨ y.toInt = 22 ∨ y.toInt = 23 ∨ y.toInt = 24 ∨ y.toInt = 25 ∨ y.toInt = 26 ∨ y.toInt = 27 ∨ y.toInt = 28 ∨ y.toInt = 29 ∨ y.toInt = 30 ∨ y.toInt = 31 ∨ y.toInt = 32 ∨ y.toInt = 33 ∨ y.toInt = 34 ∨ y.toInt = 35 := by omega
        rcases hj with hj | hj | hj | hj | hj | hj | hj | hj | hj | hj | hj | hj | hj | hj | hj | hj | hj | hj | hj | hj | hj | hj | hj | hj | hj | hj | hj | hj | hj | hj | hj | hj | hj | hj | hj | hj
        · refine lv_tableIn (off := 159) (tgt := 192) hx hb dL_law_33 o1 o2 (by rw [hj]; rfl) (by decide) ?_
          exact lc_0 l hlt C0 F hin hcs kk ad σ μ S H locs ls J hR hM ha hl
        · refine lv_tableIn (off := 202) (tgt := 235) hx hb dL_law_33 o1 o2 (by rw [hj]; rfl) (by decide) ?_
          exact lc_1 l hlt C0 F hin hcs kk ad σ μ S H locs ls J hR hM ha hl
        · refine lv_tableIn (off := 245) (tgt := 278) hx hb dL_law_33 o1 o2 (by rw [hj]; rfl) (by decide) ?_
          exact lc_2 l hlt C0 F hin hcs kk ad σ μ S H locs ls J hR hM ha hl
        · refine lv_tableIn (off := 308) (tgt := 341) hx hb dL_law_33 o1 o2 (by rw [hj]; rfl) (by decide) ?_
          exact lc_3 l hlt C0 F hin hcs kk ad σ μ S H locs ls J hR hM ha hl
        · refine lv_tableIn (off := 331) (tgt := 364) hx hb dL_law_33 o1 o2 (by rw [hj]; rfl) (by decide) ?_
          exact lc_4 l hlt C0 F hin hcs kk ad σ μ S H locs ls J hR hM ha hl
        · refine lv_tableIn (off := 354) (tgt := 387) hx hb dL_law_33 o1 o2 (by rw [hj]; rfl) (by decide) ?_
          exact lc_5 l hlt C0 F hin hcs kk ad σ μ S H locs ls J hR hM ha hl
        · refine lv_tableIn (off := 367) (tgt := 400) hx hb dL_law_33 o1 o2 (by rw [hj]; rfl) (by decide) ?_
          exact lc_6 l hlt C0 F hin hcs kk ad σ μ S H locs ls J hR hM ha hl
        · refine lv_tableIn (off := 380) (tgt := 413) hx hb dL_law_33 o1 o2 (by rw [hj]; rfl) (by decide) ?_
          exact lc_7 l hlt C0 F hin hcs kk ad σ μ S H locs ls J hR hM ha hl
        · refine lv_tableIn (off := 423) (tgt := 456) hx hb dL_law_33 o1 o2 (by rw [hj]; rfl) (by decide) ?_
          exact lc_8 l hlt C0 F hin hcs kk ad σ μ S H locs ls J hR hM ha hl
        · refine lv_tableIn (off := 446) (tgt := 479) hx hb dL_law_33 o1 o2 (by rw [hj]; rfl) (by decide) ?_
          exact lc_9 l hlt C0 F hin hcs kk ad σ μ S H locs ls J hR hM ha hl
        · refine lv_tableIn (off := 479) (tgt := 512) hx hb dL_law_33 o1 o2 (by rw [hj]; rfl) (by decide) ?_
          exact lc_10 l hlt C0 F hin hcs kk ad σ μ S H locs ls J hR hM ha hl
        · refine lv_tableIn (off := 512) (tgt := 545) hx hb dL_law_33 o1 o2 (by rw [hj]; rfl) (by decide) ?_
          exact lc_11 l hlt C0 F hin hcs kk ad σ μ S H locs ls J hR hM ha hl
        · refine lv_tableIn (off := 545) (tgt := 578) hx hb dL_law_33 o1 o2 (by rw [hj]; rfl) (by decide) ?_
          exact lc_12 l hlt C0 F hin hcs kk ad σ μ S H locs ls J hR hM ha hl
        · refine lv_tableIn (off := 578) (tgt := 611) hx hb dL_law_33 o1 o2 (by rw [hj]; rfl) (by decide) ?_
          exact lc_13 l hlt C0 F hin hcs kk ad σ μ S H locs ls J hR hM ha hl
        · refine lv_tableIn (off := 591) (tgt := 624) hx hb dL_law_33 o1 o2 (by rw [hj]; rfl) (by decide) ?_
          exact lc_14 l hlt C0 F hin hcs kk ad σ μ S H locs ls J hR hM ha hl
        · refine lv_tableIn (off := 624) (tgt := 657) hx hb dL_law_33 o1 o2 (by rw [hj]; rfl) (by decide) ?_
          exact lc_15 l hlt C0 F hin hcs kk ad σ μ S H locs ls J hR hM ha hl
        · refine lv_tableIn (off := 657) (tgt := 690) hx hb dL_law_33 o1 o2 (by rw [hj]; rfl) (by decide) ?_
          exact lc_16 l hlt C0 F hin hcs kk ad σ μ S H locs ls J hR hM ha hl
        · refine lv_tableIn (off := 700) (tgt := 733) hx hb dL_law_33 o1 o2 (by rw [hj]; rfl) (by decide) ?_
          exact lc_17 l hlt C0 F hin hcs kk ad σ μ S H locs ls J hR hM ha hl
        · refine lv_tableIn (off := 743) (tgt := 776) hx hb dL_law_33 o1 o2 (by rw [hj]; rfl) (by decide) ?_
          exact lc_18 l hlt C0 F hin hcs kk ad σ μ S H locs ls J hR hM ha hl
        · refine lv_tableIn (off := 796) (tgt := 829) hx hb dL_law_33 o1 o2 (by rw [hj]; rfl) (by decide) ?_
          exact lc_19 l hlt C0 F hin hcs kk ad σ μ S H locs ls J hR hM ha hl
        · refine lv_tableIn (off := 849) (tgt := 882) hx hb dL_law_33 o1 o2 (by rw [hj]; rfl) (by decide) ?_
          exact lc_20 l hlt C0 F hin hcs kk ad σ μ S H locs ls J hR hM ha hl
        · refine lv_tableIn (off := 872) (tgt := 905) hx hb dL_law_33 o1 o2 (by rw [hj]; rfl) (by decide) ?_
          exact lc_21 l hlt C0 F hin hcs kk ad σ μ S H locs ls J hR hM ha hl
        · refine lv_tableIn (off := 885) (tgt := 918) hx hb dL_law_33 o1 o2 (by rw [hj]; rfl) (by decide) ?_
          exact lc_22 l hlt C0 F hin hcs kk ad σ μ S H locs ls J hR hM ha hl
        · refine lv_tableIn (off := 928) (tgt := 961) hx hb dL_law_33 o1 o2 (by rw [hj]; rfl) (by decide) ?_
          exact lc_23 l hlt C0 F hin hcs kk ad σ μ S H locs ls J hR hM ha hl
        · refine lv_tableIn (off := 971) (tgt := 1004) hx hb dL_law_33 o1 o2 (by rw [hj]; rfl) (by decide) ?_
          exact lc_24 l hlt C0 F hin hcs kk ad σ μ S H locs ls J hR hM ha hl
        · refine lv_tableIn (off := 1025) (tgt := 1058) hx hb dL_law_33 o1 o2 (by rw [hj]; rfl) (by decide) ?_
          exact lc_25 l hlt C0 F hin hcs kk ad σ μ S H locs ls J hR hM ha hl
        · refine lv_tableIn (off := 1088) (tgt := 1121) hx hb dL_law_33 o1 o2 (by rw [hj]; rfl) (by decide) ?_
          exact lc_26 l hlt C0 F hin hcs kk ad σ μ S H locs ls J hR hM ha hl
        · refine lv_tableIn (off := 1131) (tgt := 1164) hx hb dL_law_33 o1 o2 (by rw [hj]; rfl) (by decide) ?_
          exact lc_27 l hlt C0 F hin hcs kk ad σ μ S H locs ls J hR hM ha hl
        · refine lv_tableIn (off := 1174) (tgt := 1207) hx hb dL_law_33 o1 o2 (by rw [hj]; rfl) (by decide) ?_
          exact lc_28 l hlt C0 F hin hcs kk ad σ μ S H locs ls J hR hM ha hl
        · refine lv_tableIn (off := 1197) (tgt := 1230) hx hb dL_law_33 o1 o2 (by rw [hj]; rfl) (by decide) ?_
          exact lc_29 l hlt C0 F hin hcs kk ad σ μ S H locs ls J hR hM ha hl
        · refine lv_tableIn (off := 1220) (tgt := 1253) hx hb dL_law_33 o1 o2 (by rw [hj]; rfl) (by decide) ?_
          exact lc_30 l hlt C0 F hin hcs kk ad σ μ S H locs ls J hR hM ha hl
        · refine lv_tableIn (off := 1243) (tgt := 1276) hx hb dL_law_33 o1 o2 (by rw [hj]; rfl) (by decide) ?_
          exact lc_31 l hlt C0 F hin hcs kk ad σ μ S H locs ls J hR hM ha hl
        · refine lv_tableIn (off := 1276) (tgt := 1309) hx hb dL_law_33 o1 o2 (by rw [hj]; rfl) (by decide) ?_
          exact lc_32 l hlt C0 F hin hcs kk ad σ μ S H locs ls J hR hM ha hl
        · refine lv_tableIn (off := 1309) (tgt := 1342) hx hb dL_law_33 o1 o2 (by rw [hj]; rfl) (by decide) ?_
          exact lc_33 l hlt C0 F hin hcs kk ad σ μ S H locs ls J hR hM ha hl
        · refine lv_tableIn (off := 1332) (tgt := 1365) hx hb dL_law_33 o1 o2 (by rw [hj]; rfl) (by decide) ?_
          exact lc_34 l hlt C0 F hin hcs kk ad σ μ S H locs ls J hR hM ha hl
        · refine lv_tableIn (off := 1355) (tgt := 1388) hx hb dL_law_33 o1 o2 (by rw [hj]; rfl) (by decide) ?_
          exact lc_35 l hlt C0 F hin hcs kk ad σ μ S H locs ls J hR hM ha hl
theorem lj_dfX6 : ∀ j, j < 29 → defaultValue (tyX6 j) = vp_V (mi_fs (fun _ => 0) 0) j := by decide +kernel
theorem lj_pm0 : pm_R (mi_s 8) zi_S := by
  refine ⟨⟨rfl, rfl, rfl, rfl, fun p h => absurd h (Nat.not_lt_zero p), fun c h => absurd h (Nat.not_lt_zero c)⟩, ⟨rfl, fun k h => absurd h (Nat.not_lt_zero k)⟩, fun j hj => Or.inl ⟨rfl, rfl⟩, fun j hj => Or.inl ⟨rfl, ?_⟩, ⟨rfl, fun j h => absurd h (Nat.not_lt_zero j)⟩, ⟨rfl, rfl⟩, ⟨rfl, fun i h => absurd h (Nat.not_lt_zero i)⟩⟩
  show (if 0 = 0 ∧ j < 8 then (-1000000 : Int32) else 0) = -1000000
  rw [if_pos ⟨rfl, hj⟩]
theorem lj_in {h : Nat} {adm : Nat → Nat} {di dz : ClassId} {μ : mo_S} {k : Nat} {q : Nat × va_E} (hq : (mo_cs h adm di dz μ)[k]? = some q) : lj_m h adm q.1 := by
  cases k with
  | zero =>
    cases hq
    exact Or.inl rfl
  | succ k =>
    by_cases hk : k < 17
    · rw [mo_cs_k hk] at hq
      cases hq
      exact Or.inr ⟨k, hk, rfl⟩
    · have : (mo_cs h adm di dz μ)[k + 1]? = none := by
        rw [List.getElem?_eq_none]
        simp [mo_cs]
        omega
      rw [this] at hq
      cases hq
set_option maxHeartbeats 8000000 in
/-- THE LAW, from its entry -/
theorem whole_start {p : Program} {e : Env} {s : State} {m : MethodId} {below : List Frame} {meth : Method} {c : Code} (l : Launch) (hflags : l.flags = flags0) {b L : Nat} {xs : Nat → Int32} (hL : L ≤ 384) (C0 : lw_At p s m meth c b L xs) : W p l e room_1 s m #[Value.ref b] below meth c s.heap [] 0 0 (lw_Z below #[Value.ref b] s) (entryFrame m ([Value.ref b] : List Value).toArray 4) := by
  obtain ⟨hx, hb, hr, hml, hown, hts, hX, hbl, hlocks, hgv, hmod⟩ := id C0
  have hlt : l.stackTraces = false := by
    unfold Launch.stackTraces
    rw [hflags]
    decide +kernel
  have hta : ∀ w ∈ lw_all, w.before #[Value.ref b] s = true := fun w hw => hts w (lw_all_tbl hw)
  have CF : CallFix p m c cL_law 4 s #[Value.ref b] lw_all R_law := ⟨hx, hb, hml, hown, hta⟩
  obtain ⟨D, dA, di, dz, K1, K2⟩ := ls_K hts
  obtain ⟨b1, hN⟩ := ls_N hts (flat_of_before _ hgv) hmod
  obtain ⟨σ1, hF, hR0⟩ := zi_start
  have hl := lv_entry ([.ref b]) (n := 4) (Nat.le_of_ble_eq_true rfl)
  rw [lg_entry_eq]
  generalize (lg_sl ([.ref b]) ++ List.replicate (4 - (lg_sl ([.ref b])).length) Slot.unset).toArray = ls at hl ⊢
  have hl : lv_has ls 4 [(0, .ref b)] := hl
  have e0 : cl_ws dA b1 zi_0 = [] := rfl
  have Pe : va_P D vwCl (cl_ws dA b1 zi_0) s.heap := by
    rw [e0]
    intro k q hq
    simp at hq
  have De : va_D (fun q : Nat => s.heap.size ≤ q) (cl_ws dA b1 zi_0) := by
    rw [e0]
    refine ⟨?_, ?_⟩
    · intro i j p q hq
      simp at hq
    · intro k q hq
      simp at hq
  have V : cl_V D dA (b1, cl_K) b1 (fun q : Nat => s.heap.size ≤ q) s.heap zi_0 s s.heap [] := ⟨hN _ (fun q hq => hq), K1, Pe, De, va_S.rf, fun q hq => hq, zi_0_Z, fun o ho => rfl, Nat.le_refl _⟩
  refine cl_new CF V rfl (by decide) in_X0 tyX0 tyX0_ok cl_dfX0 q117 q118 q77 (Nat.le_of_ble_eq_true rfl) (Nat.le_of_ble_eq_true rfl) dL_law_0 (fun a ad H hag ha V => ?_)
  refine lv_dup hx hb dL_law_3 rfl ?_
  refine cl_cv (va_runI (As := []) (rest := [.ref a]) CF (cm_X0_init l D dA ad (fun q : Nat => s.heap.size ≤ q) a 19 (cl_nw zi_0 0 0) σ1 ha hF) (cwI 0 hta (lw_meth q121) rfl rfl rfl (hta _ q77) (hta _ q119) (hta _ q120) rfl cd_X0_init ⟨Nat.le_of_ble_eq_true rfl, Nat.le_of_ble_eq_true rfl⟩) (cl_preS V [.ref a]) rfl rfl hl.1 rfl (lv_room (Nat.le_of_ble_eq_true rfl)) dL_law_4 ⟨Nat.le_of_ble_eq_true rfl, Nat.le_of_ble_eq_true rfl⟩) V (fun ad2 H locs hag2 hle V => ?_)
  refine lv_astore_n (lv' := [(1, .ref a), (0, .ref b)]) hx hb dL_law_7 rfl hl (by decide) rfl (fun ls hl => ?_)
  have ha2 : ad2 19 = a := by
    rw [hag2 19 ha.2.2]
    exact ha.1.symm
  obtain ⟨-, -, P1, D1, S1, A1, Z1, B1, N1⟩ := V
  refine va_new (ci := 6) (fs := mi_fs (fun _ => 0) 0) (C := RX6) (T := TX6) (N := 29) hx hb hta in_X6 tyX6 tyX6_ok hown (hta _ q1608) (hta _ q1609) (hta _ q83) K1 P1 D1 S1 A1 rfl lj_dfX6 (Nat.le_of_ble_eq_true rfl) (Nat.le_of_ble_eq_true rfl) dL_law_8 (fun h H2 P2 D2 S2 => ?_)
  refine lv_dup hx hb dL_law_11 rfl ?_
  have Pc : va_P D vwCl (cl_ws dA ad2 σ1) H2 := fun k q hq => P2 k q (by rw [List.getElem?_append_left (List.getElem?_eq_some_iff.mp hq).1]; exact hq)
  have hlast : (cl_ws dA ad2 σ1 ++ [(h, .inr (6, mi_fs (fun _ => 0) 0))])[(cl_ws dA ad2 σ1).length]? = some (h, .inr (6, mi_fs (fun _ => 0) 0)) := by simp
  have Ph : va_P D vwCl (mi_ws h (fun _ => 0) di dz 0 0) H2 := by
    intro k q hq
    cases k with
    | zero =>
      cases hq
      exact P2 _ _ hlast
    | succ k => cases hq
  have hhA : s.heap.size ≤ h := D2.2 _ _ hlast
  have hne : ∀ (k : Nat) (q : Nat × va_E), (cl_ws dA ad2 σ1)[k]? = some q → q.1 ≠ h := by
    intro k q hq he
    have hk := (List.getElem?_eq_some_iff.mp hq).1
    have := D2.1 k (cl_ws dA ad2 σ1).length q _ (by rw [List.getElem?_append_left hk]; exact hq) hlast he
    omega
  have Dh : va_D (fun q : Nat => q = h ∨ H2.size ≤ q) (mi_ws h (fun _ => 0) di dz 0 0) := by
    refine ⟨?_, ?_⟩
    · intro i j p q hp hq _
      have h1 := (List.getElem?_eq_some_iff.mp hp).1
      have h2 := (List.getElem?_eq_some_iff.mp hq).1
      have h3 : (mi_ws h (fun _ => 0) di dz 0 0).length = 1 := rfl
      omega
    · intro k q hq
      have h1 := (List.getElem?_eq_some_iff.mp hq).1
      have h3 : (mi_ws h (fun _ => 0) di dz 0 0).length = 1 := rfl
      have h4 : k = 0 := by omega
      subst h4
      cases hq
      exact Or.inl rfl
  refine va_callv (A1 := fun q : Nat => q = h ∨ H2.size ≤ q) (va_runI (As := []) (rest := [.ref h]) CF (mi_init l D di dz h (fun _ => 0) (fun q : Nat => q = h ∨ H2.size ≤ q)) (cwI 0 hta (lw_meth q1612) rfl rfl rfl (hta _ q83) (hta _ q1610) (hta _ q1611) rfl mi_d.2 ⟨Nat.le_of_ble_eq_true rfl, Nat.le_of_ble_eq_true rfl⟩)
    ⟨fun a U g mk q => by
      obtain ⟨q0, qK, qP, qD, qA⟩ := q
      exact ⟨q0, va_K.moved (u := U) (U := U.calling g mk a) (Vm.Alike.refl U.vm) qK, qP, qD, qA⟩, fun U hU hW => ⟨rfl, va_K.moved hW.alike K2, by rw [hU]; exact Ph, Dh, fun q hq => Or.inr (by rw [hU] at hq; exact hq)⟩⟩ rfl rfl hl.1 rfl (lv_room (Nat.le_of_ble_eq_true rfl)) dL_law_12 ⟨Nat.le_of_ble_eq_true rfl, Nat.le_of_ble_eq_true rfl⟩) S2
    (fun q _ hq => by
      rcases hq with hq | hq
      · rw [hq]; exact hhA
      · exact Nat.le_trans S2.1 hq) (fun q hq => by
      rcases hq with hq | hq
      · rw [hq]; exact hhA
      · exact Nat.le_trans S2.1 hq) (fun adm t H3 locs3 ht hvm hw hB hz hk hS3 => ?_)
  obtain ⟨PM, DM⟩ := hB
  rw [ht] at PM
  refine lv_astore_n (lv' := [(2, .ref h), (1, .ref a), (0, .ref b)]) hx hb dL_law_15 rfl hl (by decide) rfl (fun ls hl => ?_)
  refine lv_iconst (v := 0) hx hb dL_law_16 (by decide) ?_
  refine lv_istore_n (lv' := [(3, .int 0), (2, .ref h), (1, .ref a), (0, .ref b)]) hx hb dL_law_17 rfl hl (by decide) rfl (fun ls hl => ?_)
  have hadm : ∀ q, lj_m h adm q → q = h ∨ H2.size ≤ q := by
    intro q hq
    rcases hq with hq | ⟨k, hk17, hq⟩
    · exact Or.inl hq
    · rw [hq]
      exact DM.2 (k + 1) _ (mo_cs_k hk17)
  have hadl : ∀ q, lj_m h adm q → q < H3.size := by
    intro q hq
    rcases hq with hq | ⟨k, hk17, hq⟩
    · rw [hq]
      exact (PM 0 _ rfl).lt
    · rw [hq]
      exact (PM (k + 1) _ (mo_cs_k hk17)).lt
  have hcl : ∀ (k : Nat) (q : Nat × va_E), (cl_ws dA ad2 σ1)[k]? = some q → ¬ lj_m h adm q.1 := by
    intro k q hq hm
    rcases hadm _ hm with h1 | h1
    · exact hne k q hq h1
    · exact Nat.lt_irrefl _ (Nat.lt_of_lt_of_le (Pc k q hq).lt h1)
  have F : lj_F D dA di dz b1 s h adm := ⟨hN, K1, K2, fun μ => ⟨(mo_cs_D μ DM).1, fun k q hq => lj_in hq⟩, fun q hq => by
    rcases hadm q hq with h1 | h1
    · rw [h1]; exact hhA
    · exact Nat.le_trans S2.1 h1⟩
  have J : lj_J D dA di dz b1 s h adm ad2 σ1 (mi_s 8) H3 locs3 := ⟨⟨Pc.kept (fun k q hq => hk q.1 ((Pc k q hq).lt) (fun hm => by
    rcases hm with h1 | h1
    · exact hne k q hq h1
    · exact Nat.lt_irrefl _ (Nat.lt_of_lt_of_le (Pc k q hq).lt h1))), ⟨D1.1, fun k q hq => ⟨D1.2 k q hq, hcl k q hq⟩⟩, Z1, B1, N1⟩, ⟨PM, hadl⟩, hS3⟩
  refine W.widen (k := 57 + 611 * 0) (n := 3569 + 13324 * 0) (Nat.le_of_ble_eq_true rfl) (Nat.le_of_ble_eq_true rfl) ?_
  exact lw_loop l hlt hL C0 F 65 0 (Nat.zero_le _) (by omega) ad2 σ1 (mi_s 8) zi_S H3 locs3 ls J (hR0 Z1) lj_pm0 ha2 (lv_sub hl [0, 3, 2, 1] rfl)
