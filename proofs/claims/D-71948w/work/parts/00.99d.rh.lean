/-! reading: the loops -/
theorem rh_in {X ρ : Type} {b : X → Option (X ⊕ ρ)} {x y : X} (h : b x = some (.inl y)) (F : Nat) : dx_lp b (F + 1) x = dx_lp b F y := by
  show (match b x with | none => none | some (.inl y) => dx_lp b F y | some (.inr r) => some r) = _
  rw [h]
theorem rh_out {X ρ : Type} {b : X → Option (X ⊕ ρ)} {x : X} {r : ρ} (h : b x = some (.inr r)) (F : Nat) : dx_lp b (F + 1) x = some r := by
  show (match b x with | none => none | some (.inl y) => dx_lp b F y | some (.inr r) => some r) = _
  rw [h]
/-- how reading ends, on both sides -/
def rh_F (σ : cl_S) (μ : mo_S) (o : Option ((Unit ⊕ Nat) × cl_S)) (q : Option (Int32 × mo_S)) : Prop := (∃ θ' ν' N, o = some (.inl (), θ') ∧ rc_G σ θ' N ∧ 0 < pn_P N ∧ re_M μ ν' N ∧ q = dx_b1 (mo_copies 6 5 (mo_I ν' 1 (0 : Int32)) (0 : Int32) (0 : Int32)) fun σ12 => (some (((mo_I σ12 8 (0 : Int32)).2 5 (0 : Int32).toNatClampNeg), (mo_I σ12 8 (0 : Int32))))) ∨ (∃ kd fr x θ' ν', o = some (.inr x, θ') ∧ re_X σ θ' x kd fr ∧ re_Y μ ν' kd fr ∧ q = some ((-1000100 : Int32) - nI fr, mo_I ν' 1 (0 : Int32)))
section RH
variable {σ θ : cl_S} {μ ν : mo_S} {S : pa_S} {N : pn_N} {T : rd_T}
theorem rh_I1w (h : re_M μ ν N) : mo_isWell (mo_I ν 1 (0 : Int32)) = some true := re_well (ν := ν) h
theorem rh_I1i {kd : Int32} {fr : Nat} (h : re_Y μ ν kd fr) : mo_isWell (mo_I ν 1 (0 : Int32)) = some false := re_ill (ν := ν) h
theorem rh_Y209 {kd : Int32} {fr : Nat} (h : re_Y μ ν kd fr) (b : Bool) : mo_net_J209 ν b = some ((-1000100 : Int32) - nI fr, mo_I ν 1 (0 : Int32)) := by
  have e3 : (mo_I ν 1 (0 : Int32)).1 3 = nI fr := h.2.2.2.1
  unfold mo_net_J209
  rw [re_Ym h, pb_b1, rh_I1i h, pb_b1, pb_ibF, e3]
theorem rh_Yl {kd : Int32} {fr : Nat} (h : re_Y μ ν kd fr) (c : Int32) : mo_isLetter ν c = some false := by
  unfold mo_isLetter
  rw [re_ill h, pb_b1, pb_ibF]
theorem rh_Y180 {kd : Int32} {fr : Nat} (h : re_Y μ ν kd fr) (F : Nat) : dx_lp (fun x => mo_net_L180 x) (F + 1) ν = some ((-1000100 : Int32) - nI fr, mo_I ν 1 (0 : Int32)) := by
  refine rh_out ?_ F
  unfold mo_net_L180
  rw [rh_Yl h, pb_b1, pb_ibF, rh_Y209 h, rh_Y209 h]
  split <;> rfl
theorem rh_fu : dx_fu = 999999 + 1 := rfl
theorem rh_Y164 {kd : Int32} {fr : Nat} (h : re_Y μ ν kd fr) (F : Nat) : dx_lp (fun x => mo_net_L164 x) (F + 1) ν = some ((-1000100 : Int32) - nI fr, mo_I ν 1 (0 : Int32)) := by
  refine rh_out ?_ F
  unfold mo_net_L164
  rw [rh_Yl h, pb_b1, pb_ibF, rh_fu, rh_Y180 h]
  rfl
theorem rh_Y160 {kd : Int32} {fr : Nat} (h : re_Y μ ν kd fr) (b : Bool) : mo_net_J160 ν b = some ((-1000100 : Int32) - nI fr, mo_I ν 1 (0 : Int32)) := by
  unfold mo_net_J160
  rw [re_Ym h, pb_b1, rh_fu, rh_Y164 h]
theorem rh_Y113 {kd : Int32} {fr : Nat} (h : re_Y μ ν kd fr) (F : Nat) : dx_lp (fun x => mo_net_L113 x) (F + 1) ν = some ((-1000100 : Int32) - nI fr, mo_I ν 1 (0 : Int32)) := by
  refine rh_out ?_ F
  unfold mo_net_L113 mo_net_J145
  rw [re_ill h, pb_b1, pb_ibF, rh_Y160 h, rh_Y160 h]
  split <;> rfl
theorem rh_YA {kd : Int32} {fr : Nat} (h : re_Y μ ν kd fr) (i : Nat) (v : Int32) : re_Y μ (mo_A ν 6 i v) kd fr := by
  obtain ⟨h1, h2, h3, h4, h5⟩ := h
  refine ⟨h1, fun k hk => ?_, h3, h4, h5⟩
  show va_up ν.2 6 _ k = _
  rw [va_up_ne _ _ hk]
  exact h2 k hk
/-- a letter -/
theorem rh_is (W : re_W σ θ μ ν (pa_tp S) N T) (c : Int32) : cl_X7_is (cl_n σ + 1) θ (1 : Int32) c = some (decide (T.2.2.1 = 1 ∧ T.2.2.2 = c)) ∧ mo_isLetter ν c = some (decide (T.2.2.1 = 1 ∧ T.2.2.2 = c)) := by
  obtain ⟨hG, ⟨-, -, gk, -, gv⟩, hM, ⟨-, -, jk, jv⟩, ⟨-, -, k5, -⟩⟩ := W
  have kr := hG.2.2.1.1
  have hck : rd_k T.2.2.1 = (1 : Int32) ↔ T.2.2.1 = 1 := by
    have h6 : T.2.2.1 = 0 ∨ T.2.2.1 = 1 ∨ T.2.2.1 = 2 ∨ T.2.2.1 = 3 ∨ T.2.2.1 = 4 ∨ T.2.2.1 = 5 := by omega
    rcases h6 with e | e | e | e | e | e <;> rw [e] <;> decide
  have hmk : nI T.2.2.1 = (1 : Int32) ↔ T.2.2.1 = 1 := pb_inj (b := 1) (by omega) (by omega)
  unfold cl_X7_is mo_isLetter
  rw [pb_gdD _ kr, gk, gv, re_well hM, pb_b1, pb_ibT, jk]
  by_cases h1 : T.2.2.1 = 1
  · have hv : rd_v T.2.2.1 T.2.2.2 = T.2.2.2 := by rw [h1]; rfl
    rw [if_pos (hck.mpr h1), if_pos (hmk.mpr h1), hv, jv (by omega)]
    by_cases h2 : T.2.2.2 = c
    · rw [if_pos h2, decide_eq_true ⟨h1, h2⟩]
      exact ⟨rfl, rfl⟩
    · rw [if_neg h2, decide_eq_false (fun h => h2 h.2)]
      exact ⟨rfl, rfl⟩
  · rw [if_neg (fun h => h1 (hck.mp h)), if_neg (fun h => h1 (hmk.mp h)), decide_eq_false (fun h => h1 h.1)]
    exact ⟨rfl, rfl⟩
/-- the last of it -/
theorem rh_end (h : pc_R σ S) (W : re_W σ θ μ ν (pa_tp S) N T) (hP : 0 < pn_P N) : rh_F σ μ (if cl_i θ (cl_n σ + 1) 3 = 0 then cl_X7_all_J148 (cl_n σ + 1) θ true else cl_X7_all_J148 (cl_n σ + 1) θ false) (if ν.1 6 = 0 then mo_net_J209 ν true else mo_net_J209 ν false) := by
  have W0 := W
  obtain ⟨hG, ⟨-, -, gk, -, gv⟩, hM, ⟨-, -, jk, jv⟩, ⟨-, -, k5, -⟩⟩ := W
  have kr := hG.2.2.1.1
  have hck : rd_k T.2.2.1 = (0 : Int32) ↔ T.2.2.1 = 0 := by
    have h6 : T.2.2.1 = 0 ∨ T.2.2.1 = 1 ∨ T.2.2.1 = 2 ∨ T.2.2.1 = 3 ∨ T.2.2.1 = 4 ∨ T.2.2.1 = 5 := by omega
    rcases h6 with e | e | e | e | e | e <;> rw [e] <;> decide
  have hmk : nI T.2.2.1 = (0 : Int32) ↔ T.2.2.1 = 0 := by rw [← nI_0]; exact pb_inj (by omega) (by omega)
  rw [gk, jk]
  unfold cl_X7_all_J148 mo_net_J209
  by_cases h0 : T.2.2.1 = 0
  · left
    refine ⟨θ, ν, N, ?_, hG, hP, hM, ?_⟩
    · have mt : cl_X7_must (cl_n σ + 1) θ true 1 = some (.inl (), θ) := rfl
      rw [if_pos (hck.mpr h0), pb_gdD _ kr, mt, re_bxl]
    · have hmust : mo_must ν true (1 : Int32) = some ν := by
        unfold mo_must
        rw [re_well hM, pb_b1, pb_ibT, pb_ibT]
      rw [if_pos (hmk.mpr h0), hmust, pb_b1, rh_I1w hM, pb_b1, pb_ibT]
  · right
    obtain ⟨x, θ', e1, hX⟩ := re_mf W0 1
    obtain ⟨ν', e2, hY⟩ := re_tf W0 h 1
    refine ⟨1, T.1, x, θ', ν', ?_, hX, hY, ?_⟩
    · rw [if_neg (fun h => h0 (hck.mp h)), pb_gdD _ kr, e1, re_bxr]
    · have hmust : mo_must ν false (1 : Int32) = some ν' := by
        unfold mo_must
        rw [re_well hM, pb_b1, pb_ibT, pb_ibF, e2, pb_b2]
      have e3 : (mo_I ν' 1 (0 : Int32)).1 3 = nI T.1 := hY.2.2.2.1
      rw [if_neg (fun h => h0 (hmk.mp h)), hmust, pb_b1, rh_I1i hY, pb_b1, pb_ibF, e3]
/-- ill days -/
theorem rh_118 (h : pc_R σ S) (hm : pm_R μ S) : ∀ (F k : Nat) (θ : cl_S) (ν : mo_S) (N : pn_N) (T : rd_T), re_W σ θ μ ν (pa_tp S) N T → 0 < pn_P N → pa_tp S < T.1 + 5 * F → rh_F σ μ (dx_lp (fun x => cl_X7_all_L118 (cl_n σ + 1) x) F θ) (dx_lp (fun x => mo_net_L180 x) (F + (k + 1)) ν) := by
  intro F
  induction F with
  | zero =>
    intro k θ ν N T W _ hF
    have := W.2.2.2.2.1
    have := W.2.2.2.2.2.1
    omega
  | succ F ih =>
    intro k θ ν N T W hP hF
    obtain ⟨i1, i2⟩ := rh_is W (105 : Int32)
    have kr := W.1.2.2.1.1
    rw [show F + 1 + (k + 1) = F + (k + 1) + 1 by omega]
    by_cases hB : T.2.2.1 = 1 ∧ T.2.2.2 = (105 : Int32)
    · rw [decide_eq_true hB] at i1 i2
      rcases rg_ill h hm W (by omega) with ⟨θ', ν', N', T', e1, e2, W', q1, q2, q3⟩ | ⟨kd, fr, x, θ', ν', e1, e2, hX, hY⟩
      · have b1 : cl_X7_all_L118 (cl_n σ + 1) θ = some (.inl θ') := by
          unfold cl_X7_all_L118
          rw [pb_gdD _ kr, i1, pb_b1, pb_ibT, e1, re_bxl]
        have b2 : mo_net_L180 ν = some (.inl ν') := by
          unfold mo_net_L180
          rw [i2, pb_b1, pb_ibT, e2, pb_b1]
        rw [rh_in (b := fun x => cl_X7_all_L118 (cl_n σ + 1) x) b1, rh_in (b := fun x => mo_net_L180 x) b2]
        exact ih k θ' ν' N' T' W' (by omega) (by omega)
      · right
        have b1 : cl_X7_all_L118 (cl_n σ + 1) θ = some (.inr (.inr x, θ')) := by
          unfold cl_X7_all_L118
          rw [pb_gdD _ kr, i1, pb_b1, pb_ibT, e1, re_bxr]
          rfl
        have b2 : mo_net_L180 ν = some (.inl ν') := by
          unfold mo_net_L180
          rw [i2, pb_b1, pb_ibT, e2, pb_b1]
        refine ⟨kd, fr, x, θ', ν', rh_out b1 _, hX, hY, ?_⟩
        rw [rh_in (b := fun x => mo_net_L180 x) b2, show F + (k + 1) = F + k + 1 by omega]
        exact rh_Y180 hY _
    · rw [decide_eq_false hB] at i1 i2
      have he := rh_end h W hP
      obtain ⟨o, ho⟩ : ∃ o, o = (if cl_i θ (cl_n σ + 1) 3 = 0 then cl_X7_all_J148 (cl_n σ + 1) θ true else cl_X7_all_J148 (cl_n σ + 1) θ false) := ⟨_, rfl⟩
      obtain ⟨q, hq⟩ : ∃ q, q = (if ν.1 6 = 0 then mo_net_J209 ν true else mo_net_J209 ν false) := ⟨_, rfl⟩
      rw [← ho, ← hq] at he
      have b1 : cl_X7_all_L118 (cl_n σ + 1) θ = dx_ex o := by
        unfold cl_X7_all_L118
        rw [pb_gdD _ kr, i1, pb_b1, pb_ibF, ho]
      have b2 : mo_net_L180 ν = dx_ex q := by
        unfold mo_net_L180
        rw [i2, pb_b1, pb_ibF, hq]
      have l1 : dx_lp (fun x => cl_X7_all_L118 (cl_n σ + 1) x) (F + 1) θ = o := by
        cases ho' : o with
        | none =>
          rcases he with ⟨_, _, _, e, _⟩ | ⟨_, _, _, _, _, e, _⟩ <;> (rw [ho'] at e; cases e)
        | some r =>
          rw [ho'] at b1
          exact rh_out b1 _
      cases hq' : q with
      | none =>
        exfalso
        rw [hq'] at he
        rcases he with ⟨_, ν', _, _, _, _, _, e⟩ | ⟨_, _, _, _, _, _, _, _, e⟩
        · have hc := pj_copies (μ := mo_I ν' 1 (0 : Int32)) (k0 := 6) (k2 := 5) (by decide) (p1 := 0) (p3 := 0) (by decide) (by decide) (by decide)
          rw [nI_0] at hc
          rw [hc, pb_b1] at e
          cases e
        · cases e
      | some r =>
        rw [hq'] at b2
        rw [l1, rh_out (b := fun x => mo_net_L180 x) b2, ← hq']
        exact he
/-- contacts -/
theorem rh_101 (h : pc_R σ S) (hm : pm_R μ S) : ∀ (F k : Nat) (θ : cl_S) (ν : mo_S) (N : pn_N) (T : rd_T), re_W σ θ μ ν (pa_tp S) N T → 0 < pn_P N → 11 ≤ pn_C N + F → rh_F σ μ (dx_lp (fun x => cl_X7_all_L101 (cl_n σ + 1) x) F θ) (dx_lp (fun x => mo_net_L164 x) (F + (k + 1)) ν) := by
  intro F
  induction F with
  | zero =>
    intro k θ ν N T W _ hF
    have := W.1.2.2.2.2.1.2.1
    omega
  | succ F ih =>
    intro k θ ν N T W hP hF
    obtain ⟨i1, i2⟩ := rh_is W (99 : Int32)
    have kr := W.1.2.2.1.1
    rw [show F + 1 + (k + 1) = F + (k + 1) + 1 by omega]
    by_cases hB : T.2.2.1 = 1 ∧ T.2.2.2 = (99 : Int32)
    · rw [decide_eq_true hB] at i1 i2
      rcases rf_contact h hm W with ⟨θ', ν', N', T', e1, e2, W', q1, q2, -⟩ | ⟨kd, fr, x, θ', ν', e1, e2, hX, hY⟩
      · have b1 : cl_X7_all_L101 (cl_n σ + 1) θ = some (.inl θ') := by
          unfold cl_X7_all_L101
          rw [pb_gdD _ kr, i1, pb_b1, pb_ibT, e1, re_bxl]
        have b2 : mo_net_L164 ν = some (.inl ν') := by
          unfold mo_net_L164
          rw [i2, pb_b1, pb_ibT, e2, pb_b1]
        rw [rh_in (b := fun x => cl_X7_all_L101 (cl_n σ + 1) x) b1, rh_in (b := fun x => mo_net_L164 x) b2]
        exact ih k θ' ν' N' T' W' (by omega) (by omega)
      · right
        have b1 : cl_X7_all_L101 (cl_n σ + 1) θ = some (.inr (.inr x, θ')) := by
          unfold cl_X7_all_L101
          rw [pb_gdD _ kr, i1, pb_b1, pb_ibT, e1, re_bxr]
          rfl
        have b2 : mo_net_L164 ν = some (.inl ν') := by
          unfold mo_net_L164
          rw [i2, pb_b1, pb_ibT, e2, pb_b1]
        refine ⟨kd, fr, x, θ', ν', rh_out b1 _, hX, hY, ?_⟩
        rw [rh_in (b := fun x => mo_net_L164 x) b2, show F + (k + 1) = F + k + 1 by omega]
        exact rh_Y164 hY _
    · rw [decide_eq_false hB] at i1 i2
      have htp : pa_tp S ≤ 130 := h.2.2.2.2.2.2.1.1
      have he := rh_118 h hm 40 999959 θ ν N T W hP (by omega)
      have efu : dx_fu = 40 + (999959 + 1) := rfl
      rw [← efu] at he
      obtain ⟨o, ho⟩ : ∃ o, o = dx_lp (fun x => cl_X7_all_L118 (cl_n σ + 1) x) 40 θ := ⟨_, rfl⟩
      obtain ⟨q, hq⟩ : ∃ q, q = dx_lp (fun x => mo_net_L180 x) dx_fu ν := ⟨_, rfl⟩
      rw [← ho, ← hq] at he
      have b1 : cl_X7_all_L101 (cl_n σ + 1) θ = dx_ex o := by
        unfold cl_X7_all_L101
        rw [pb_gdD _ kr, i1, pb_b1, pb_ibF, ho]
      have b2 : mo_net_L164 ν = dx_ex q := by
        unfold mo_net_L164
        rw [i2, pb_b1, pb_ibF, hq]
      have l1 : dx_lp (fun x => cl_X7_all_L101 (cl_n σ + 1) x) (F + 1) θ = o := by
        cases ho' : o with
        | none =>
          rcases he with ⟨_, _, _, e, _⟩ | ⟨_, _, _, _, _, e, _⟩ <;> (rw [ho'] at e; cases e)
        | some r =>
          rw [ho'] at b1
          exact rh_out b1 _
      cases hq' : q with
      | none =>
        exfalso
        rw [hq'] at he
        rcases he with ⟨_, ν', _, _, _, _, _, e⟩ | ⟨_, _, _, _, _, _, _, _, e⟩
        · have hc := pj_copies (μ := mo_I ν' 1 (0 : Int32)) (k0 := 6) (k2 := 5) (by decide) (p1 := 0) (p3 := 0) (by decide) (by decide) (by decide)
          rw [nI_0] at hc
          rw [hc, pb_b1] at e
          cases e
        · cases e
      | some r =>
        rw [hq'] at b2
        rw [l1, rh_out (b := fun x => mo_net_L164 x) b2, ← hq']
        exact he
/-- persons -/
theorem rh_85 (h : pc_R σ S) (hm : pm_R μ S) : ∀ (F k : Nat) (θ : cl_S) (ν : mo_S) (N : pn_N) (T : rd_T), re_W σ θ μ ν (pa_tp S) N T → rc_lh N → pn_C N = 0 → (0 < pn_P N ∨ (T.2.2.1 = 1 ∧ ∃ c, T.2.2.2 = nI c ∧ c < 256 ∧ rs_kd c ≠ 0)) → 10 ≤ pn_P N + F → rh_F σ μ (dx_lp (fun x => cl_X7_all_L85 (cl_n σ + 1) x) F θ) (dx_lp (fun x => mo_net_L113 x) (F + (k + 1)) ν) := by
  intro F
  induction F with
  | zero =>
    intro k θ ν N T W _ _ _ hF
    have := W.1.2.2.2.2.1.1
    omega
  | succ F ih =>
    intro k θ ν N T W hl hC hP hF
    obtain ⟨r, θ1, e1, f1, hr⟩ := rs_sort h W
    have W1 := re_W_fr W f1
    have kr := W.1.2.2.1.1
    have kr1 := W1.1.2.2.1.1
    have hM := W.2.2.1
    have jk := W.2.2.2.1.2.2.1
    have jv := W.2.2.2.1.2.2.2
    have k5 := W.2.2.2.2.2.2.1
    have k61 := W.2.2.2.2.2.2.2.2.1
    have hmk : ν.1 6 = (1 : Int32) ↔ T.2.2.1 = 1 := by rw [jk]; exact pb_inj (b := 1) (by omega) (by omega)
    rw [show F + 1 + (k + 1) = F + (k + 1) + 1 by omega]
    rcases hr with ⟨t1, c, t2, t3, t4, t5⟩ | ⟨t1, t5⟩
    · have hkd5 := rs_kd_le c
      have hne : ¬ r = (-1000000 : Int32) := by rw [t5]; exact pr_nN (by omega)
      have hnle : ¬ nI (rs_kd c) ≤ (0 : Int32) := by
        rw [← nI_0]
        exact fun h => absurd ((pb_le (by omega) (by omega)).mp h) (by omega)
      have j7 : ν.1 7 = nI c := by rw [jv (by omega)]; exact t2
      rcases rg_person h hm W1 hl ⟨t1, t2, t3, t4⟩ with ⟨θ', ν', N', T', e2, e3, W', q1, q2, q3, q4⟩ | ⟨kd, fr, x, θ', ν', e2, e3, hX, hY⟩
      · have b1 : cl_X7_all_L85 (cl_n σ + 1) θ = some (.inl θ') := by
          unfold cl_X7_all_L85
          rw [pb_gdD _ kr, e1, pb_b2, if_neg hne, pb_gdD _ kr1, e2, re_bxl]
        have b2 : mo_net_L113 ν = some (.inl ν') := by
          unfold mo_net_L113
          rw [re_well hM, pb_b1, pb_ibT, if_pos (hmk.mpr t1), j7, rs_m t3, pb_b1, if_neg hnle, e3, pb_b1]
        rw [rh_in (b := fun x => cl_X7_all_L85 (cl_n σ + 1) x) b1, rh_in (b := fun x => mo_net_L113 x) b2]
        refine ih k θ' ν' N' T' W' ?_ (by omega) (Or.inl (by omega)) (by omega)
        unfold rc_lh at hl ⊢
        rw [q3, q4]
        exact hl
      · right
        have b1 : cl_X7_all_L85 (cl_n σ + 1) θ = some (.inr (.inr x, θ')) := by
          unfold cl_X7_all_L85
          rw [pb_gdD _ kr, e1, pb_b2, if_neg hne, pb_gdD _ kr1, e2, re_bxr]
          rfl
        have b2 : mo_net_L113 ν = some (.inl ν') := by
          unfold mo_net_L113
          rw [re_well hM, pb_b1, pb_ibT, if_pos (hmk.mpr t1), j7, rs_m t3, pb_b1, if_neg hnle, e3, pb_b1]
        refine ⟨kd, fr, x, θ', ν', rh_out b1 _, hX, hY, ?_⟩
        rw [rh_in (b := fun x => mo_net_L113 x) b2, show F + (k + 1) = F + k + 1 by omega]
        exact rh_Y113 hY _
    · have hP0 : 0 < pn_P N := by
        rcases hP with hP | hP
        · exact hP
        · exact absurd hP t1
      have hP9 := W.1.2.2.2.2.1.1
      have he := rh_101 h hm 12 999987 θ1 ν N T W1 hP0 (by omega)
      have efu : dx_fu = 12 + (999987 + 1) := rfl
      rw [← efu] at he
      obtain ⟨o, ho⟩ : ∃ o, o = dx_lp (fun x => cl_X7_all_L101 (cl_n σ + 1) x) 12 θ1 := ⟨_, rfl⟩
      obtain ⟨q, hq⟩ : ∃ q, q = dx_lp (fun x => mo_net_L164 x) dx_fu ν := ⟨_, rfl⟩
      rw [← ho, ← hq] at he
      have d0 := (rf_D W).1
      have c0 : (0 : Int32).toNatClampNeg = 0 := by decide
      have hnle : ¬ nI (pn_P N) ≤ (0 : Int32) := by
        rw [← nI_0]
        exact fun h => absurd ((pb_le (by omega) (by omega)).mp h) (by omega)
      have b1 : cl_X7_all_L85 (cl_n σ + 1) θ = dx_ex o := by
        unfold cl_X7_all_L85
        rw [pb_gdD _ kr, e1, pb_b2, if_pos t5, ho]
      have J145 : mo_net_J145 ν = q := by
        have hmust : mo_must ν true (1 : Int32) = some ν := by
          unfold mo_must
          rw [re_well hM, pb_b1, pb_ibT, pb_ibT]
        unfold mo_net_J145 mo_net_J160
        rw [c0, d0, if_neg hnle, hmust, pb_b1, hq]
      have b2 : mo_net_L113 ν = dx_ex q := by
        unfold mo_net_L113
        rw [re_well hM, pb_b1, pb_ibT, J145]
        by_cases h1 : T.2.2.1 = 1
        · obtain ⟨c, hc1, hc2, hv⟩ := k61 h1
          have hz : rs_kd c = 0 := by
            refine Classical.byContradiction fun hne => t1 ⟨h1, c, hv, by omega, hne⟩
          have j7 : ν.1 7 = nI c := by rw [jv (by omega)]; exact hv
          rw [if_pos (hmk.mpr h1), j7, rs_m (by omega), pb_b1, hz, if_pos (by decide)]
        · rw [if_neg (fun h => h1 (hmk.mp h))]
      have l1 : dx_lp (fun x => cl_X7_all_L85 (cl_n σ + 1) x) (F + 1) θ = o := by
        cases ho' : o with
        | none =>
          rcases he with ⟨_, _, _, e, _⟩ | ⟨_, _, _, _, _, e, _⟩ <;> (rw [ho'] at e; cases e)
        | some r =>
          rw [ho'] at b1
          exact rh_out b1 _
      cases hq' : q with
      | none =>
        exfalso
        rw [hq'] at he
        rcases he with ⟨_, ν', _, _, _, _, _, e⟩ | ⟨_, _, _, _, _, _, _, _, e⟩
        · have hc := pj_copies (μ := mo_I ν' 1 (0 : Int32)) (k0 := 6) (k2 := 5) (by decide) (p1 := 0) (p3 := 0) (by decide) (by decide) (by decide)
          rw [nI_0] at hc
          rw [hc, pb_b1] at e
          cases e
        · cases e
      | some r =>
        rw [hq'] at b2
        rw [l1, rh_out (b := fun x => mo_net_L113 x) b2, ← hq']
        exact he
end RH
