/-! reading: the next token -/
section RB
variable {θ : cl_S} {ν : mo_S} {r tp : Nat} {f : Nat → Nat}
theorem rd_isIn (v : Int32) (lo hi : Int32) : cl_X0_isIn v.toInt64 lo.toInt64 hi.toInt64 = some (pq_in v lo hi) := pq_c v lo hi
/-- **Reader.next, advances** -/
theorem rd_next (h : rd_H θ r tp f) {a : Nat} (ha : a ≤ tp) {g : Nat → Int32} (g1 : g 1 = nI tp) (g2 : g 2 = nI a) (m1 : ν.1 1 = nI tp) (mt : ∀ j, j < tp → ν.2 4 j = nI (f j)) (m4 : ν.1 4 = nI a) : ∃ T g' ν', cl_X7_next r (cl_si θ r g) = some (cl_si θ r g') ∧ rd_g g' tp T ∧ mo_advances ν = some ν' ∧ ν'.2 = ν.2 ∧ (∀ k, (k < 4 ∨ 7 < k) → ν'.1 k = ν.1 k) ∧ rd_J ν' T ∧ rd_K tp T ∧ T.1 = a := by
  have htp := h.2.2.1
  have hf : ∀ j, j < tp → f j < 256 := fun j hj => (h.2.2.2 j hj).1
  have kk : ∀ g, cl_k (cl_si θ r g) r = 7 := fun _ => h.1.1
  obtain ⟨ga, hga⟩ : ∃ ga, ga = upd g 4 (nI a) := ⟨_, rfl⟩
  have a1 : ga 1 = nI tp := by rw [hga]; exact g1
  have a2 : ga 2 = nI a := by rw [hga]; exact g2
  have hl := rd_look h a1 a2 ha
  -- the class's side: what is left to do once the sign is known
  have cls : ∀ (tk : Int32) (c : Int32) (b : Bool) (w : cl_S), cl_X7_look r (cl_si θ r ga) = some c → (c = (-1000000 : Int32) ↔ b = false) → cl_X7_next_J34 r (cl_si θ r (upd ga 5 c)) c (nI a) b = some w → cl_X7_next r (cl_si θ r g) = some w := by
    intro tk c b w hc hb hw
    unfold cl_X7_next
    rw [pb_gdD _ (kk g), pc_i_si_s, g2, rd_wi, ← hga, hc, pb_b1, rd_wi, pb_let, pc_i_si_s]
    have e2 : upd ga 5 c 2 = nI a := a2
    rw [e2]
    by_cases hh : c = (-1000000 : Int32)
    · rw [if_pos hh]
      have := hb.mp hh
      subst this
      exact hw
    · rw [if_neg hh]
      have : b = true := by
        cases b with
        | true => rfl
        | false => exact absurd (hb.mpr rfl) hh
      subst this
      exact hw
  -- the Model's side
  obtain ⟨νa, hνa⟩ : ∃ νa, νa = mo_I (mo_I ν 5 (nI a)) 7 (rd_bt f tp a) := ⟨_, rfl⟩
  have b2 : νa.2 = ν.2 := by rw [hνa]; rfl
  have b1 : ∀ k, (k < 4 ∨ 7 < k) → νa.1 k = ν.1 k := by
    intro k hk
    rw [hνa]
    show upd (upd ν.1 5 _) 7 _ k = _
    unfold upd
    rw [if_neg (by omega), if_neg (by omega)]
  have b4 : νa.1 4 = nI a := by rw [hνa]; exact m4
  have b5 : νa.1 5 = nI a := by rw [hνa]; rfl
  have b7 : νa.1 7 = rd_bt f tp a := by rw [hνa]; rfl
  have hby := rd_byte (ν := mo_I ν 5 (nI a)) (f := f) htp m1 mt ha
  have J180 : ∀ (tk : Nat) (bt : Bool), tk < 10 → (tk = 0 ↔ bt = false) → ∃ ν', mo_advances_J180 νa (nI tk) = some ν' ∧ ν'.2 = ν.2 ∧ (∀ k, (k < 4 ∨ 7 < k) → ν'.1 k = ν.1 k) ∧ ν'.1 4 = nI (if bt = true then a + 1 else a) ∧ ν'.1 5 = nI a ∧ ν'.1 6 = nI tk ∧ ν'.1 7 = rd_bt f tp a := by
    intro tk bt htk hbt
    refine ⟨mo_I (mo_I νa 6 (nI tk)) 4 (nI (if bt = true then a + 1 else a)), ?_, b2, fun k hk => ?_, rfl, b5, rfl, b7⟩
    · unfold mo_advances_J180 mo_advances_J200
      have e6 : (mo_I νa 6 (nI tk)).1 6 = nI tk := rfl
      have e4 : (mo_I νa 6 (nI tk)).1 4 = nI a := b4
      rw [e6, e4]
      by_cases h0 : tk = 0
      · have := hbt.mp h0
        subst this
        rw [if_pos (by rw [h0, nI_0])]
        have ez : nI a + dx_bI false = nI a := Int32.add_zero _
        rw [ez]
        rfl
      · have : bt = true := by
          cases bt with
          | true => rfl
          | false => exact absurd (hbt.mpr rfl) h0
        subst this
        rw [if_neg (by rw [← nI_0]; exact fun h => h0 ((pb_inj (by omega) (by omega)).mp h))]
        have ez : nI a + dx_bI true = nI (a + 1) := (nI_succ a).symm
        rw [ez]
        rfl
    · show upd (upd νa.1 6 _) 4 _ k = _
      unfold upd
      rw [if_neg (by omega), if_neg (by omega)]
      exact b1 k hk
  have adv : ∀ {w : Option mo_S}, (dx_ib (pq_in (rd_bt f tp a) (48 : Int32) (57 : Int32)) (dx_lp (fun x => mo_advances_L38 x) dx_fu (mo_I νa 7 (0 : Int32))) (if 0 ≤ rd_bt f tp a then (dx_b1 (mo_in (rd_bt f tp a) (97 : Int32) (122 : Int32)) fun r3 => (dx_ib r3 (mo_advances_J180 νa (1 : Int32)) (if rd_bt f tp a = (44 : Int32) then (mo_advances_J180 νa (3 : Int32)) else (if rd_bt f tp a = (59 : Int32) then (mo_advances_J180 νa (4 : Int32)) else (mo_advances_J180 νa (5 : Int32)))))) else (mo_advances_J180 νa (0 : Int32)))) = w → mo_advances ν = w := by
    intro w hw
    unfold mo_advances
    have e4 : (mo_I ν 5 (ν.1 4)).1 4 = ν.1 4 := rfl
    rw [e4, m4, hby, pb_b1, ← hνa, pq_m, pb_b1]
    exact hw
  have J102 : ∀ (tk : Int32) (c : Int32), tk ≠ 2 → cl_X7_next_J102 r (cl_si θ r (upd (upd ga 5 c) 2 (nI (a + 1)))) c tk = some (cl_si θ r (upd (upd (upd ga 5 c) 2 (nI (a + 1))) 3 tk)) := by
    intro tk c htk
    unfold cl_X7_next_J102
    rw [pb_gdD _ (kk _), rd_wi, pc_i_si_s, if_neg (by exact htk)]
  by_cases hend : a < tp
  · -- there is a sign
    have hc256 := hf a hend
    have ec : rd_ch f tp a = nI (f a) := if_pos hend
    have eb : rd_bt f tp a = nI (f a) := if_pos hend
    rw [ec] at hl
    rw [eb] at J180 adv b7
    have cin : ∀ lo hi : Nat, lo < 1000 → hi < 1000 → pq_in (nI (f a)) (nI lo) (nI hi) = decide (lo ≤ f a ∧ f a ≤ hi) := fun lo hi h1 h2 => rd_in (by omega) (by omega) (by omega)
    have hne : ¬ nI (f a) = (-1000000 : Int32) := pr_nN (by omega)
    have hnb : nI (f a) = (-1000000 : Int32) ↔ true = false := ⟨fun h => absurd h hne, fun h => by cases h⟩
    have hge : (0 : Int32) ≤ nI (f a) := Int32.not_lt.mp (pb_neg (by omega))
    have ebt : nI a + dx_bI true = nI (a + 1) := (nI_succ a).symm
    have i97 : cl_X0_isIn (nI (f a)).toInt64 (97 : Int64) (122 : Int64) = some (decide (97 ≤ f a ∧ f a ≤ 122)) := by
      rw [← cin 97 122 (by omega) (by omega)]
      exact rd_isIn (nI (f a)) 97 122
    have i48 : cl_X0_isIn (nI (f a)).toInt64 (48 : Int64) (57 : Int64) = some (decide (48 ≤ f a ∧ f a ≤ 57)) := by
      rw [← cin 48 57 (by omega) (by omega)]
      exact rd_isIn (nI (f a)) 48 57
    have q48 : pq_in (nI (f a)) (48 : Int32) (57 : Int32) = decide (48 ≤ f a ∧ f a ≤ 57) := cin 48 57 (by omega) (by omega)
    have q97 : mo_in (nI (f a)) (97 : Int32) (122 : Int32) = some (decide (97 ≤ f a ∧ f a ≤ 122)) := by
      rw [pq_m]
      exact congrArg some (cin 97 122 (by omega) (by omega))
    rw [q48, if_pos hge, q97] at adv
    have e44 : nI (f a) = (44 : Int32) ↔ f a = 44 := pb_inj (b := 44) (by omega) (by omega)
    have e59 : nI (f a) = (59 : Int32) ↔ f a = 59 := pb_inj (b := 59) (by omega) (by omega)
    have J34 : cl_X7_next_J34 r (cl_si θ r (upd ga 5 (nI (f a)))) (nI (f a)) (nI a) true = dx_ib (decide (97 ≤ f a ∧ f a ≤ 122)) (cl_X7_next_J102 r (cl_si θ r (upd (upd ga 5 (nI (f a))) 2 (nI (a + 1)))) (nI (f a)) (1 : Int32)) (dx_ib (decide (48 ≤ f a ∧ f a ≤ 57)) (cl_X7_next_J102 r (cl_si θ r (upd (upd ga 5 (nI (f a))) 2 (nI (a + 1)))) (nI (f a)) (2 : Int32)) (if f a = 44 then (cl_X7_next_J102 r (cl_si θ r (upd (upd ga 5 (nI (f a))) 2 (nI (a + 1)))) (nI (f a)) (3 : Int32)) else (if f a = 59 then (cl_X7_next_J102 r (cl_si θ r (upd (upd ga 5 (nI (f a))) 2 (nI (a + 1)))) (nI (f a)) (3 : Int32)) else (cl_X7_next_J102 r (cl_si θ r (upd (upd ga 5 (nI (f a))) 2 (nI (a + 1)))) (nI (f a)) (4 : Int32))))) := by
      unfold cl_X7_next_J34
      rw [pb_gdD _ (kk _), if_neg hne, i97, pb_b1, i48, pb_b1, rd_wi, ebt]
      simp only [e44, e59]
    have plain : ∀ (tk : Nat) (tc : Int32), tk ≤ 5 → tk ≠ 0 → tk ≠ 2 → tc ≠ 2 → tc = rd_k tk → nI (f a) = rd_v tk (nI (f a)) → (tk = 1 → 97 ≤ f a ∧ f a ≤ 122) → cl_X7_next_J34 r (cl_si θ r (upd ga 5 (nI (f a)))) (nI (f a)) (nI a) true = cl_X7_next_J102 r (cl_si θ r (upd (upd ga 5 (nI (f a))) 2 (nI (a + 1)))) (nI (f a)) tc → mo_advances ν = mo_advances_J180 νa (nI tk) → ∃ T g' ν', cl_X7_next r (cl_si θ r g) = some (cl_si θ r g') ∧ rd_g g' tp T ∧ mo_advances ν = some ν' ∧ ν'.2 = ν.2 ∧ (∀ k, (k < 4 ∨ 7 < k) → ν'.1 k = ν.1 k) ∧ rd_J ν' T ∧ rd_K tp T ∧ T.1 = a := by
      intro tk tc t1 t2 t3 t4 t5 t6 t7 hc hm
      obtain ⟨ν', n1, n2, n3, n4, n5, n6, n7⟩ := J180 tk true (by omega) ⟨fun h => absurd h t2, fun h => by cases h⟩
      rw [if_pos rfl] at n4
      refine ⟨(a, a + 1, tk, nI (f a)), upd (upd (upd ga 5 (nI (f a))) 2 (nI (a + 1))) 3 tc, ν', cls 0 _ true _ hl hnb (by rw [hc, J102 tc _ t4]), ⟨a1, rfl, t5, ?_, t6⟩, by rw [hm]; exact n1, n2, n3, ⟨n4, n5, n6, fun _ => n7⟩, ⟨by show a ≤ a + 1; omega, by show a + 1 ≤ tp; omega, t1, fun _ => by show a < a + 1; omega, fun h => ⟨f a, (t7 h).1, (t7 h).2, rfl⟩, fun h => absurd h t3⟩, rfl⟩
      show ga 4 = nI a
      rw [hga]
      rfl
    by_cases hlet : 97 ≤ f a ∧ f a ≤ 122
    · have hnd : ¬ (48 ≤ f a ∧ f a ≤ 57) := by omega
      refine plain 1 1 (by omega) (by omega) (by omega) (by decide) rfl rfl (fun _ => hlet) ?_ ?_
      · rw [J34, decide_eq_true hlet, pb_ibT]
      · refine adv ?_
        rw [decide_eq_false hnd, pb_ibF, pb_b1, decide_eq_true hlet, pb_ibT]
        rfl
    · by_cases hdig : 48 ≤ f a ∧ f a ≤ 57
      · -- digits
        obtain ⟨n, d1, d2⟩ := rd_ex f tp _ a rfl
        have hn : 0 < n := by
          refine Nat.pos_of_ne_zero fun h0 => ?_
          rw [h0] at d2
          exact d2 ⟨hend, hdig⟩
        have hlast := d1 (n - 1) (by omega)
        have hlt := (rd_n_lt (f := f) (a := a) (n := n) (fun i hi => (d1 i hi).2.2) n (Nat.le_refl _)).1
        have v1 : nI (f a) - (48 : Int32) = nI (rd_n f a 1) := by
          have c48 : (48 : Int32) = nI 48 := rfl
          rw [c48, pb_sub hdig.1, rd_n_s, if_pos (by omega)]
          have e0 : rd_n f a 0 = 0 := rfl
          rw [e0]
          congr 1
          show f a - 48 = 10 * 0 + (f (a + 0) - 48)
          rw [Nat.add_zero]
          omega
        obtain ⟨g', c1, c2, c3, c4, c5, c6⟩ := rd_cd h hn d1 d2 (g := upd (upd (upd (upd ga 5 (nI (f a))) 2 (nI (a + 1))) 3 2) 5 (nI (rd_n f a 1))) a1 rfl rfl (by show ga 4 = nI a; rw [hga]; rfl) rfl
        obtain ⟨ν', n1, n2, n3, n4, n5, n6, n7⟩ := rd_md (ν := mo_I νa 7 (0 : Int32)) htp hf hn d1 d2 (by show νa.1 1 = _; rw [b1 1 (by omega)]; exact m1) (fun j hj => by show νa.2 4 j = _; rw [b2]; exact mt j hj) b4 b5 rfl
        have hcls : cl_X7_next r (cl_si θ r g) = some (cl_si θ r g') := by
          refine cls 0 _ true _ hl hnb ?_
          rw [J34, decide_eq_false hlet, pb_ibF, decide_eq_true hdig, pb_ibT]
          have e3 : upd (upd (upd ga 5 (nI (f a))) 2 (nI (a + 1))) 3 (2 : Int32) 3 = (2 : Int32) := rfl
          unfold cl_X7_next_J102
          rw [pb_gdD _ (kk _), rd_wi, pc_i_si_s, if_pos e3, pb_let, rd_wi, v1]
          exact c1
        have hmod : mo_advances ν = some ν' := by
          refine adv ?_
          rw [decide_eq_true hdig, pb_ibT]
          exact n1
        have n3' : ∀ k, (k < 4 ∨ 7 < k) → ν'.1 k = ν.1 k := by
          intro k hk
          rw [n3 k hk]
          show upd νa.1 7 (0 : Int32) k = _
          unfold upd
          rw [if_neg (by omega)]
          exact b1 k hk
        have n2' : ν'.2 = ν.2 := n2.trans b2
        by_cases h3 : n < 3
        · rw [if_pos h3] at c4 n6
          refine ⟨(a, a + n, 2, nI (rd_n f a n)), g', ν', hcls, ⟨c2, c3, c4, c5, c6⟩, hmod, n2', n3', ⟨n4, n5, n6, fun _ => n7⟩, ⟨by show a ≤ a + n; omega, by show a + n ≤ tp; omega, by show 2 ≤ 5; omega, fun _ => by show a < a + n; omega, fun h => absurd h (by show ¬ 2 = 1; omega), fun _ => ⟨_, hlt, rfl⟩⟩, rfl⟩
        · rw [if_neg h3] at c4 n6
          refine ⟨(a, a + n, 5, nI (rd_n f a n)), g', ν', hcls, ⟨c2, c3, c4, c5, c6⟩, hmod, n2', n3', ⟨n4, n5, n6, fun _ => n7⟩, ⟨by show a ≤ a + n; omega, by show a + n ≤ tp; omega, by show 5 ≤ 5; omega, fun _ => by show a < a + n; omega, fun h => absurd h (by show ¬ 5 = 1; omega), fun h => absurd h (by show ¬ 5 = 2; omega)⟩, rfl⟩
      · by_cases h44 : f a = 44
        · refine plain 3 3 (by omega) (by omega) (by omega) (by decide) rfl (by rw [h44]; rfl) (fun h => by omega) ?_ ?_
          · rw [J34, decide_eq_false hlet, pb_ibF, decide_eq_false hdig, pb_ibF, if_pos h44]
          · refine adv ?_
            rw [decide_eq_false hdig, pb_ibF, pb_b1, decide_eq_false hlet, pb_ibF, if_pos (e44.mpr h44)]
            rfl
        · by_cases h59 : f a = 59
          · refine plain 4 3 (by omega) (by omega) (by omega) (by decide) rfl (by rw [h59]; rfl) (fun h => by omega) ?_ ?_
            · rw [J34, decide_eq_false hlet, pb_ibF, decide_eq_false hdig, pb_ibF, if_neg h44, if_pos h59]
            · refine adv ?_
              rw [decide_eq_false hdig, pb_ibF, pb_b1, decide_eq_false hlet, pb_ibF, if_neg (fun h => h44 (e44.mp h)), if_pos (e59.mpr h59)]
              rfl
          · refine plain 5 4 (by omega) (by omega) (by omega) (by decide) rfl rfl (fun h => by omega) ?_ ?_
            · rw [J34, decide_eq_false hlet, pb_ibF, decide_eq_false hdig, pb_ibF, if_neg h44, if_neg h59]
            · refine adv ?_
              rw [decide_eq_false hdig, pb_ibF, pb_b1, decide_eq_false hlet, pb_ibF, if_neg (fun h => h44 (e44.mp h)), if_neg (fun h => h59 (e59.mp h))]
              rfl
  · -- the end
    have ec : rd_ch f tp a = (-1000000 : Int32) := if_neg hend
    have eb : rd_bt f tp a = (-1 : Int32) := if_neg hend
    rw [ec] at hl
    rw [eb] at adv J180
    obtain ⟨ν', n1, n2, n3, n4, n5, n6, n7⟩ := J180 0 false (by omega) ⟨fun _ => rfl, fun _ => rfl⟩
    rw [if_neg (by decide)] at n4
    have ez : nI a + dx_bI false = nI a := Int32.add_zero _
    refine ⟨(a, a, 0, 0), upd (upd (upd ga 5 (-1000000)) 2 (nI a)) 3 0, ν', ?_, ⟨a1, rfl, rfl, ?_, rfl⟩, ?_, n2, n3, ⟨n4, n5, n6, fun h => absurd rfl h⟩, ⟨Nat.le_refl _, ha, Nat.zero_le _, fun h => absurd rfl h, fun h => absurd h (by show ¬ 0 = 1; omega), fun h => absurd h (by show ¬ 0 = 2; omega)⟩, rfl⟩
    · refine cls 0 _ false _ hl ⟨fun _ => rfl, fun _ => rfl⟩ ?_
      unfold cl_X7_next_J34 cl_X7_next_J102
      rw [pb_gdD _ (kk _), if_pos rfl, rd_wi, ez, pb_gdD _ (kk _), rd_wi, pc_i_si_s, if_neg (by show ¬ (0 : Int32) = 2; decide)]
    · show ga 4 = nI a
      rw [hga]
      rfl
    · refine adv ?_
      have q48 : pq_in (-1 : Int32) (48 : Int32) (57 : Int32) = false := by decide
      rw [q48, pb_ibF, if_neg (by decide)]
      exact n1
end RB
