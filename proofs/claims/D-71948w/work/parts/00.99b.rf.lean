/-! reading: what the Model's draft shows; contacts -/
section RFM
variable {w : Nat → Int32} {N : pn_N}
theorem rf_mC (h : pn_m w N) (hN : pn_ok N) (a b d : Nat) : pn_m (upd (upd (upd (upd w (22 + 3 * pn_C N) (nI a)) (23 + 3 * pn_C N) (nI b)) (24 + 3 * pn_C N) (nI d)) 1 (nI (pn_C N + 1))) (rc_nC N a b d) := by
  obtain ⟨m0, m1, m2, m3, m4, m5⟩ := h
  have hP := hN.1
  have lo : ∀ i, i < 22 → i ≠ 1 → upd (upd (upd (upd w (22 + 3 * pn_C N) (nI a)) (23 + 3 * pn_C N) (nI b)) (24 + 3 * pn_C N) (nI d)) 1 (nI (pn_C N + 1)) i = w i := by
    intro i hi h1
    unfold upd
    rw [if_neg h1, if_neg (by omega), if_neg (by omega), if_neg (by omega)]
  refine ⟨(lo 0 (by omega) (by omega)).trans m0, rfl, (lo 2 (by omega) (by omega)).trans m2, (lo 3 (by omega) (by omega)).trans m3, fun p hp => ?_, fun c hc => ?_⟩
  · have hp' : p < pn_P N := hp
    exact ⟨(lo _ (by omega) (by omega)).trans (m4 p hp').1, (lo _ (by omega) (by omega)).trans (m4 p hp').2⟩
  · have hc' : c < pn_C N + 1 := hc
    show _ = nI (va_up (pn_a N) (pn_C N) a c) ∧ _ = nI (va_up (pn_b N) (pn_C N) b c) ∧ _ = nI (va_up (pn_d N) (pn_C N) d c)
    by_cases he : c = pn_C N
    · subst he
      rw [va_up_self, va_up_self, va_up_self]
      unfold upd
      refine ⟨?_, ?_, ?_⟩
      · rw [if_neg (by omega), if_neg (by omega), if_neg (by omega), if_pos rfl]
      · rw [if_neg (by omega), if_neg (by omega), if_pos rfl]
      · rw [if_neg (by omega), if_pos rfl]
    · rw [va_up_ne _ _ he, va_up_ne _ _ he, va_up_ne _ _ he]
      obtain ⟨q1, q2, q3⟩ := m5 c (by omega)
      unfold upd
      refine ⟨?_, ?_, ?_⟩
      · rw [if_neg (by omega), if_neg (by omega), if_neg (by omega), if_neg (by omega)]
        exact q1
      · rw [if_neg (by omega), if_neg (by omega), if_neg (by omega), if_neg (by omega)]
        exact q2
      · rw [if_neg (by omega), if_neg (by omega), if_neg (by omega), if_neg (by omega)]
        exact q3
theorem rf_mP (h : pn_m w N) (hP : pn_P N < 9) (k : Nat) : pn_m (upd (upd (upd w (4 + 2 * pn_P N) (nI k)) (5 + 2 * pn_P N) (-1)) 0 (nI (pn_P N + 1))) (rc_nP N k) := by
  obtain ⟨m0, m1, m2, m3, m4, m5⟩ := h
  have ot : ∀ i, i ≠ 0 → i ≠ 4 + 2 * pn_P N → i ≠ 5 + 2 * pn_P N → upd (upd (upd w (4 + 2 * pn_P N) (nI k)) (5 + 2 * pn_P N) (-1)) 0 (nI (pn_P N + 1)) i = w i := by
    intro i h0 h1 h2
    unfold upd
    rw [if_neg h0, if_neg h2, if_neg h1]
  refine ⟨rfl, (ot 1 (by omega) (by omega) (by omega)).trans m1, (ot 2 (by omega) (by omega) (by omega)).trans m2, (ot 3 (by omega) (by omega) (by omega)).trans m3, fun p hp => ?_, fun c hc => ?_⟩
  · have hp' : p < pn_P N + 1 := hp
    show _ = nI (va_up (pn_kd N) (pn_P N) k p) ∧ _ = upd (pn_il N) (pn_P N) (-1) p
    by_cases he : p = pn_P N
    · subst he
      rw [va_up_self]
      unfold upd
      refine ⟨?_, ?_⟩
      · rw [if_neg (by omega), if_neg (by omega), if_pos rfl]
      · rw [if_neg (by omega), if_pos rfl, if_pos rfl]
    · rw [va_up_ne _ _ he, ot _ (by omega) (by omega) (by omega), ot _ (by omega) (by omega) (by omega), (m4 p (by omega)).1, (m4 p (by omega)).2]
      unfold upd
      rw [if_neg he]
      exact ⟨rfl, rfl⟩
  · have hc' : c < pn_C N := hc
    rw [ot _ (by omega) (by omega) (by omega), ot _ (by omega) (by omega) (by omega), ot _ (by omega) (by omega) (by omega)]
    exact m5 c hc'
theorem rf_mI (h : pn_m w N) (hN : pn_ok N) {p : Nat} (hp : p < pn_P N) (d : Nat) : pn_m (upd w (5 + 2 * p) (nI d)) (rc_nI N p d) := by
  obtain ⟨m0, m1, m2, m3, m4, m5⟩ := h
  have hP := hN.1
  have ot : ∀ i, i ≠ 5 + 2 * p → upd w (5 + 2 * p) (nI d) i = w i := by
    intro i h0
    unfold upd
    rw [if_neg h0]
  refine ⟨(ot 0 (by omega)).trans m0, (ot 1 (by omega)).trans m1, (ot 2 (by omega)).trans m2, (ot 3 (by omega)).trans m3, fun q hq => ?_, fun c hc => ?_⟩
  · have hq' : q < pn_P N := hq
    rw [ot (4 + 2 * q) (by omega), (m4 q hq').1]
    refine ⟨rfl, ?_⟩
    show upd w (5 + 2 * p) (nI d) (5 + 2 * q) = upd (pn_il N) p (nI d) q
    by_cases he : q = p
    · subst he
      unfold upd
      rw [if_pos rfl, if_pos rfl]
    · rw [ot _ (by omega), (m4 q hq').2]
      unfold upd
      rw [if_neg he]
  · have hc' : c < pn_C N := hc
    rw [ot _ (by omega), ot _ (by omega), ot _ (by omega)]
    exact m5 c hc'
theorem rf_mL (h : pn_m w N) (l : Nat) : pn_m (upd w 2 (nI l)) (rc_nL N l) ∧ pn_m (upd w 3 (nI l)) (rc_nH N l) := by
  obtain ⟨m0, m1, m2, m3, m4, m5⟩ := h
  have ot : ∀ j i, j < 4 → i ≠ j → upd w j (nI l) i = w i := by
    intro j i hj h0
    unfold upd
    rw [if_neg h0]
  refine ⟨⟨(ot 2 0 (by omega) (by omega)).trans m0, (ot 2 1 (by omega) (by omega)).trans m1, rfl, (ot 2 3 (by omega) (by omega)).trans m3, fun q hq => ?_, fun c hc => ?_⟩, ⟨(ot 3 0 (by omega) (by omega)).trans m0, (ot 3 1 (by omega) (by omega)).trans m1, (ot 3 2 (by omega) (by omega)).trans m2, rfl, fun q hq => ?_, fun c hc => ?_⟩⟩
  · rw [ot 2 _ (by omega) (by omega), ot 2 _ (by omega) (by omega)]
    exact m4 q hq
  · rw [ot 2 _ (by omega) (by omega), ot 2 _ (by omega) (by omega), ot 2 _ (by omega) (by omega)]
    exact m5 c hc
  · rw [ot 3 _ (by omega) (by omega), ot 3 _ (by omega) (by omega)]
    exact m4 q hq
  · rw [ot 3 _ (by omega) (by omega), ot 3 _ (by omega) (by omega), ot 3 _ (by omega) (by omega)]
    exact m5 c hc
end RFM
section RF
variable {σ θ : cl_S} {μ ν : mo_S} {S : pa_S} {N : pn_N} {T : rd_T}
/-- what comes of one that is read, on both sides -/
def rf_O (σ : cl_S) (μ : mo_S) (tp : Nat) (o : Option ((Unit ⊕ Nat) × cl_S)) (q : Option mo_S) (P : pn_N → rd_T → Prop) : Prop := (∃ θ' ν' N' T', o = some (.inl (), θ') ∧ q = some ν' ∧ re_W σ θ' μ ν' tp N' T' ∧ P N' T') ∨ (∃ kd fr x θ' ν', o = some (.inr x, θ') ∧ q = some ν' ∧ re_X σ θ' x kd fr ∧ re_Y μ ν' kd fr)
theorem rf_Y117 {kd : Int32} {fr : Nat} (h : re_Y μ ν kd fr) (v1 v2 v3 : Int32) (b : Bool) : mo_readsContact_J117 ν v1 v2 v3 b = some ν := by
  unfold mo_readsContact_J117
  rw [re_Yt h, pb_b2, re_ill h, pb_b1, pb_ibF]
theorem rf_Y77 {kd : Int32} {fr : Nat} (h : re_Y μ ν kd fr) (v1 : Int32) (b : Bool) : mo_readsContact_J77 ν v1 b = some ν := by
  unfold mo_readsContact_J77
  rw [re_Ym h, pb_b1, re_Yf h, pb_b2, re_Yb h, pb_b2, rf_Y117 h, rf_Y117 h]
  split <;> rfl
theorem rf_Y50 {kd : Int32} {fr : Nat} (h : re_Y μ ν kd fr) (v1 : Int32) (b : Bool) : mo_readsContact_J50 ν v1 b = some ν := by
  unfold mo_readsContact_J50
  rw [re_Yt h, pb_b2, rf_Y77 h, rf_Y77 h]
  split
  · split <;> rfl
  · rfl
theorem rf_Y92 {kd : Int32} {fr : Nat} (h : re_Y μ ν kd fr) (v1 v2 : Int32) (b : Bool) : mo_readsIll_J92 ν v1 v2 b = some ν := by
  unfold mo_readsIll_J92
  rw [re_Yt h, pb_b2, re_ill h, pb_b1, pb_ibF]
theorem rf_Y44 {kd : Int32} {fr : Nat} (h : re_Y μ ν kd fr) (v1 : Int32) (b : Bool) : mo_readsPerson_J44 ν v1 b = some ν := by
  unfold mo_readsPerson_J44
  rw [re_Yt h, pb_b2, re_ill h, pb_b1, pb_ibF]
/-- where the net's parts lie -/
theorem rf_A (W : re_W σ θ μ ν (pa_tp S) N T) : (cl_k θ (cl_n σ + 1) = 7 ∧ cl_r θ (cl_n σ + 1) 6 = cl_n σ + 2 ∧ cl_k θ (cl_n σ + 2) = 2) ∧ (cl_i θ (cl_n σ + 2) 0 = nI (pn_P N) ∧ cl_i θ (cl_n σ + 2) 1 = nI (pn_C N) ∧ cl_i θ (cl_n σ + 2) 2 = nI (pn_lo N)) ∧ (cl_r θ (cl_n σ + 2) 4 = cl_n σ + 3 ∧ cl_k θ (cl_n σ + 3) = 25 ∧ cl_l θ (cl_n σ + 3) = 9) ∧ (cl_r θ (cl_n σ + 2) 5 = cl_n σ + 4 ∧ cl_k θ (cl_n σ + 4) = 20 ∧ cl_l θ (cl_n σ + 4) = 9) ∧ (cl_r θ (cl_n σ + 2) 6 = cl_n σ + 5 ∧ cl_k θ (cl_n σ + 5) = 20 ∧ cl_l θ (cl_n σ + 5) = 10) ∧ (cl_r θ (cl_n σ + 2) 7 = cl_n σ + 6 ∧ cl_k θ (cl_n σ + 6) = 20 ∧ cl_l θ (cl_n σ + 6) = 10) ∧ (cl_r θ (cl_n σ + 2) 8 = cl_n σ + 7 ∧ cl_k θ (cl_n σ + 7) = 20 ∧ cl_l θ (cl_n σ + 7) = 10) := by
  obtain ⟨⟨-, -, ⟨h3, -, h5⟩, ⟨⟨-, k0, ⟨k1, l1, r1⟩, ⟨k2, l2, r2⟩, ⟨k3, l3, r3⟩, ⟨k4, l4, r4⟩, ⟨k5, l5, r5⟩, -⟩, ⟨e0, e1, e2, e3⟩, -⟩, -, -⟩, -⟩ := W
  exact ⟨⟨h3, h5, k0⟩, ⟨e0, e1, e2⟩, ⟨r1, k1, l1⟩, ⟨r2, k2, l2⟩, ⟨r3, k3, l3⟩, ⟨r4, k4, l4⟩, ⟨r5, k5, l5⟩⟩
theorem rf_D (W : re_W σ θ μ ν (pa_tp S) N T) : ν.2 6 0 = nI (pn_P N) ∧ ν.2 6 1 = nI (pn_C N) ∧ ν.2 6 2 = nI (pn_lo N) := by
  obtain ⟨-, -, ⟨-, -, -, ⟨m0, m1, m2, -⟩⟩, -⟩ := W
  exact ⟨m0, m1, m2⟩
/-- a write to the net's arrays behind the last contact -/
theorem rf_wc (W : re_W σ θ μ ν (pa_tp S) N T) (j : Nat) (hj : j = 5 ∨ j = 6 ∨ j = 7) (v : Int32) : re_W σ (cl_wi θ (cl_n σ + j) (pn_C N) v) μ ν (pa_tp S) N T := by
  obtain ⟨hG, hg, h3⟩ := W
  have := rc_G_c hG (j - 2) (by omega) v
  rw [show cl_n σ + 2 + (j - 2) = cl_n σ + j by omega] at this
  refine ⟨this, ?_, h3⟩
  rw [pc_wi, pc_i_si_n _ _ _ _ (by omega)]
  exact hg
set_option maxHeartbeats 8000000 in
/-- **Reader.contact, readsContact** -/
theorem rf_contact (h : pc_R σ S) (hm : pm_R μ S) (W : re_W σ θ μ ν (pa_tp S) N T) : rf_O σ μ (pa_tp S) (cl_X7_contact (cl_n σ + 1) θ) (mo_readsContact ν) (fun N' _ => pn_C N' = pn_C N + 1 ∧ pn_P N' = pn_P N ∧ pn_lo N' = pn_lo N ∧ pn_hi N' = pn_hi N) := by
  have hN : pn_ok N := W.1.2.2.2.2.1
  have hP9 := hN.1
  have hC10 := hN.2.1
  obtain ⟨⟨a1, a2, a3⟩, ⟨p0, p1, p2⟩, -, -, ⟨x3, y3, z3⟩, ⟨x4, y4, z4⟩, ⟨x5, y5, z5⟩⟩ := rf_A W
  obtain ⟨d0, d1, -⟩ := rf_D W
  have c0 : (0 : Int32).toNatClampNeg = 0 := by decide
  have c1 : (1 : Int32).toNatClampNeg = 1 := by decide
  have nz2 : cl_n σ + 2 ≠ 0 := by omega
  have nz5 : cl_n σ + 5 ≠ 0 := by omega
  have nz6 : cl_n σ + 6 ≠ 0 := by omega
  have nz7 : cl_n σ + 7 ≠ 0 := by omega
  have n51 : cl_n σ + 5 ≠ cl_n σ + 1 := by omega
  have n61 : cl_n σ + 6 ≠ cl_n σ + 1 := by omega
  have n71 : cl_n σ + 7 ≠ cl_n σ + 1 := by omega
  have n56 : cl_n σ + 5 ≠ cl_n σ + 6 := by omega
  have n57 : cl_n σ + 5 ≠ cl_n σ + 7 := by omega
  have n67 : cl_n σ + 6 ≠ cl_n σ + 7 := by omega
  have n12 : cl_n σ + 1 ≠ cl_n σ + 2 := by omega
  have h10 : (10 : Int32) ≤ nI (pn_C N) ↔ 10 ≤ pn_C N := pb_le (a := 10) (by omega) (by omega)
  unfold cl_X7_contact mo_readsContact cl_X7_contact_J20 mo_readsContact_J17
  rw [pb_gdD _ a1, a2, pb_gdD _ nz2, pb_gdD _ a3, p1, c1, d1]
  by_cases hC : 10 ≤ pn_C N
  · right
    rw [if_pos (h10.mpr hC), if_pos (h10.mpr hC)]
    obtain ⟨x, θ', e1, hX⟩ := re_mf W 3
    obtain ⟨ν', e2, hY⟩ := re_tf W h 3
    refine ⟨3, T.1, x, θ', ν', ?_, ?_, hX, hY⟩
    · rw [pb_gdD _ a1, e1, re_bxr]
    · rw [e2, pb_b2, re_Yf hY, pb_b2, rf_Y50 hY, rf_Y50 hY]
      split <;> rfl
  · rw [if_neg (fun h => hC (h10.mp h)), if_neg (fun h => hC (h10.mp h))]
    have iC : dx_inb (nI (pn_C N)) 10 = true := by rw [pb_inb (by omega), decide_eq_true (by omega)]
    have cC : (nI (pn_C N)).toNatClampNeg = pn_C N := nI_clamp (by omega)
    have mt : ∀ (θ : cl_S) (k : Int32), cl_X7_must (cl_n σ + 1) θ true k = some (.inl (), θ) := fun _ _ => rfl
    obtain ⟨T1, g1, ν1, e1, e1m, W1, -⟩ := re_next h hm W
    rw [pb_gdD _ a1, mt, re_bxl, pb_gdD _ a1, e1, pb_b1, re_tt W e1m, pb_b2]
    obtain ⟨θ1, hθ1⟩ : ∃ θ1, θ1 = cl_si θ (cl_n σ + 1) g1 := ⟨_, rfl⟩
    rw [← hθ1] at W1 ⊢
    obtain ⟨⟨b1, b2, b3⟩, ⟨q0, -, -⟩, -, -, ⟨x3', y3', z3'⟩, -, -⟩ := rf_A W1
    obtain ⟨d0', -, -⟩ := rf_D W1
    rw [pb_gdD _ b1, b2, pb_gdD _ nz2, pb_gdD _ b3, x3', pb_gdD _ nz5, pb_gdD _ nz2, q0, c0, d0']
    rcases re_fig h hm W1 (0 : Int32) (nI (pn_P N) - 1) with ⟨t1, in1, T2, g2, ν2, e2, e2m, W2, -⟩ | ⟨kd, y, θ', ν', e2, e2m, hX, hY⟩
    rotate_left
    · right
      refine ⟨kd, T1.1, y, θ', ν', ?_, ?_, hX, hY⟩
      · rw [e2, re_bxr]
      · rw [e2m, pb_b2, rf_Y50 hY, rf_Y50 hY]
        split <;> rfl
    obtain ⟨a, ha, hva⟩ := (pq_lt (by omega)).mp in1
    rw [hva] at e2 e2m
    rw [e2, re_bxl, e2m, pb_b2]
    obtain ⟨θ2, hθ2⟩ : ∃ θ2, θ2 = cl_si θ1 (cl_n σ + 1) g2 := ⟨_, rfl⟩
    rw [← hθ2] at W2 ⊢
    have W3 := rf_wc W2 5 (Or.inl rfl) (nI a)
    obtain ⟨⟨b1, b2, b3⟩, -, -, -, ⟨x3'', y3'', z3''⟩, -, -⟩ := rf_A W2
    rw [pb_gdD _ y3'', z3'', iC, pb_gdT, pb_let, cC]
    obtain ⟨θ3, hθ3⟩ : ∃ θ3, θ3 = cl_wi θ2 (cl_n σ + 5) (pn_C N) (nI a) := ⟨_, rfl⟩
    rw [← hθ3] at W3 ⊢
    have i3 : cl_i θ3 (cl_n σ + 5) (pn_C N) = nI a := by rw [hθ3, pc_wi, pc_i_si_s]; unfold upd; rw [if_pos rfl]
    obtain ⟨⟨b1, b2, b3⟩, -⟩ := rf_A W3
    rw [pb_gdD _ b1]
    have c44 : (44 : Int32) = nI 44 := rfl
    have c59 : (59 : Int32) = nI 59 := rfl
    have m3 : ν2.1 6 = (3 : Int32) ↔ T2.2.2.1 = 3 := by rw [W3.2.2.2.1.2.2.1]; exact pb_inj (b := 3) (by have := W3.2.2.2.2.2.2.1; omega) (by omega)
    rcases re_sign h hm W3 (c := 44) (x := 3) (Or.inl ⟨rfl, rfl⟩) with ⟨t3, T4, g4, ν4, v4, e4, e4m, W4, -⟩ | ⟨t3, y, θ', ν', e4, e4m, hX, hY⟩
    rotate_left
    · right
      refine ⟨1, T2.1, y, θ', ν', ?_, ?_, hX, hY⟩
      · rw [c44, e4, re_bxr]
      · rw [if_neg (fun h => t3 (m3.mp h))]
        unfold mo_readsContact_J50
        rw [e4m, pb_b2, rf_Y77 hY, rf_Y77 hY]
        split
        · split <;> rfl
        · rfl
    rw [c44, e4, re_bxl, if_pos (m3.mpr t3)]
    unfold mo_readsContact_J50
    rw [e4m, pb_b2]
    obtain ⟨θ4, hθ4⟩ : ∃ θ4, θ4 = cl_si θ3 (cl_n σ + 1) g4 := ⟨_, rfl⟩
    rw [← hθ4] at W4 ⊢
    have i4 : cl_i θ4 (cl_n σ + 5) (pn_C N) = nI a := by rw [hθ4, pc_i_si_n _ _ _ _ n51]; exact i3
    obtain ⟨⟨b1, b2, b3⟩, -, -, -, ⟨x34, y34, z34⟩, -, -⟩ := rf_A W4
    have W40 := W4
    obtain ⟨-, ⟨-, -, gk4, -, gv4⟩, -, ⟨-, -, jk4, jv4⟩, ⟨-, -, k54, -, -, k74⟩⟩ := W4
    have hck : cl_i θ4 (cl_n σ + 1) 3 = (2 : Int32) ↔ T4.2.2.1 = 2 := by
      rw [gk4]
      have h6 : T4.2.2.1 = 0 ∨ T4.2.2.1 = 1 ∨ T4.2.2.1 = 2 ∨ T4.2.2.1 = 3 ∨ T4.2.2.1 = 4 ∨ T4.2.2.1 = 5 := by omega
      rcases h6 with e | e | e | e | e | e <;> rw [e] <;> decide
    have hmk : ν4.1 6 = (2 : Int32) ↔ T4.2.2.1 = 2 := by rw [jk4]; exact pb_inj (b := 2) (by omega) (by omega)
    have W4 := W40
    -- the two persons of it must differ
    have key : ∀ b : Bool, (b = false ↔ (T4.2.2.1 = 2 ∧ T4.2.2.2 = nI a)) → rf_O σ μ (pa_tp S) (cl_X7_contact_J87 (cl_n σ + 1) θ4 (nI (pn_C N)) b) (mo_readsContact_J77 ν4 (nI a) b) (fun N' _ => pn_C N' = pn_C N + 1 ∧ pn_P N' = pn_P N ∧ pn_lo N' = pn_lo N ∧ pn_hi N' = pn_hi N) := by
      intro b hb
      unfold cl_X7_contact_J87 mo_readsContact_J77
      rw [pb_gdD _ b1]
      cases b with
      | false =>
        right
        obtain ⟨x, θ', e5, hX⟩ := re_mf W4 2
        obtain ⟨ν', e5m, hY⟩ := re_tf W4 h 2
        refine ⟨2, T4.1, x, θ', ν', ?_, ?_, hX, hY⟩
        · rw [e5, re_bxr]
        · unfold mo_must
          rw [re_well W4.2.2.1, pb_b1, pb_ibT, pb_ibF, e5m, pb_b2, pb_b1, re_Yf hY, pb_b2, re_Yb hY, pb_b2, rf_Y117 hY, rf_Y117 hY]
          split <;> rfl
      | true =>
        have hmust : mo_must ν4 true (2 : Int32) = some ν4 := by
          unfold mo_must
          rw [re_well W4.2.2.1, pb_b1, pb_ibT, pb_ibT]
        obtain ⟨-, ⟨q0, -, -⟩, -, -, -, ⟨x4', y4', z4'⟩, -⟩ := rf_A W4
        obtain ⟨d0', -, -⟩ := rf_D W4
        rw [mt, re_bxl, pb_gdD _ b1, b2, pb_gdD _ nz2, pb_gdD _ b3, x4', pb_gdD _ nz6, pb_gdD _ nz2, q0, hmust, pb_b1, c0, d0']
        rcases re_fig h hm W4 (0 : Int32) (nI (pn_P N) - 1) with ⟨t5, in5, T5, g5, ν5, e5, e5m, W5, -⟩ | ⟨kd, y, θ', ν', e5, e5m, hX, hY⟩
        rotate_left
        · right
          refine ⟨kd, T4.1, y, θ', ν', ?_, ?_, hX, hY⟩
          · rw [e5, re_bxr]
          · rw [e5m, pb_b2, re_Yb hY, pb_b2, rf_Y117 hY, rf_Y117 hY]
            split <;> rfl
        obtain ⟨bb, hbb, hvb⟩ := (pq_lt (by omega)).mp in5
        have hab : a ≠ bb := by
          intro hab
          have : (true : Bool) = false := hb.mpr ⟨t5, by rw [hvb, hab]⟩
          cases this
        rw [hvb] at e5 e5m
        rw [e5, re_bxl, e5m, pb_b2]
        obtain ⟨θ5, hθ5⟩ : ∃ θ5, θ5 = cl_si θ4 (cl_n σ + 1) g5 := ⟨_, rfl⟩
        rw [← hθ5] at W5 ⊢
        have i35 : cl_i θ5 (cl_n σ + 5) (pn_C N) = nI a := by rw [hθ5, pc_i_si_n _ _ _ _ n51]; exact i4
        have W6 := rf_wc W5 6 (Or.inr (Or.inl rfl)) (nI bb)
        obtain ⟨⟨b1', b2', b3'⟩, -, -, -, -, ⟨x4'', y4'', z4''⟩, -⟩ := rf_A W5
        rw [pb_gdD _ y4'', z4'', iC, pb_gdT, pb_let, cC]
        obtain ⟨θ6, hθ6⟩ : ∃ θ6, θ6 = cl_wi θ5 (cl_n σ + 6) (pn_C N) (nI bb) := ⟨_, rfl⟩
        rw [← hθ6] at W6 ⊢
        have i36 : cl_i θ6 (cl_n σ + 5) (pn_C N) = nI a := by rw [hθ6, pc_wi, pc_i_si_n _ _ _ _ n56]; exact i35
        have i46 : cl_i θ6 (cl_n σ + 6) (pn_C N) = nI bb := by rw [hθ6, pc_wi, pc_i_si_s]; unfold upd; rw [if_pos rfl]
        obtain ⟨⟨b1', b2', b3'⟩, -⟩ := rf_A W6
        rw [pb_gdD _ b1']
        have m5 : ν5.1 6 = (3 : Int32) ↔ T5.2.2.1 = 3 := by rw [W6.2.2.2.1.2.2.1]; exact pb_inj (b := 3) (by have := W6.2.2.2.2.2.2.1; omega) (by omega)
        unfold mo_behind
        rcases re_sign h hm W6 (c := 44) (x := 3) (Or.inl ⟨rfl, rfl⟩) with ⟨t6, T7, g7, ν7, v7, e7, e7m, W7, -⟩ | ⟨t6, y, θ', ν', e7, e7m, hX, hY⟩
        rotate_left
        · right
          refine ⟨1, T5.1, y, θ', ν', ?_, ?_, hX, hY⟩
          · rw [c44, e7, re_bxr]
          · rw [if_neg (fun h => t6 (m5.mp h))]
            unfold mo_behind_J14
            rw [e7m, pb_b2, re_Yf hY, pb_b2, pb_b2, rf_Y117 hY, rf_Y117 hY]
            split <;> rfl
        rw [c44, e7, re_bxl, if_pos (m5.mpr t6)]
        unfold mo_behind_J14
        rw [e7m, pb_b2]
        obtain ⟨θ7, hθ7⟩ : ∃ θ7, θ7 = cl_si θ6 (cl_n σ + 1) g7 := ⟨_, rfl⟩
        rw [← hθ7] at W7 ⊢
        have i37 : cl_i θ7 (cl_n σ + 5) (pn_C N) = nI a := by rw [hθ7, pc_i_si_n _ _ _ _ n51]; exact i36
        have i47 : cl_i θ7 (cl_n σ + 6) (pn_C N) = nI bb := by rw [hθ7, pc_i_si_n _ _ _ _ n61]; exact i46
        obtain ⟨⟨b1', b2', b3'⟩, -, -, -, -, -, ⟨x5', y5', z5'⟩⟩ := rf_A W7
        rw [pb_gdD _ b1', b2', pb_gdD _ nz2, pb_gdD _ b3', x5', pb_gdD _ nz7]
        rcases re_fig h hm W7 (0 : Int32) (30 : Int32) with ⟨t8, in8, T8, g8, ν8, e8, e8m, W8, -⟩ | ⟨kd, y, θ', ν', e8, e8m, hX, hY⟩
        rotate_left
        · right
          refine ⟨kd, T7.1, y, θ', ν', ?_, ?_, hX, hY⟩
          · rw [e8, re_bxr]
          · rw [e8m, pb_b2, pb_b2, rf_Y117 hY, rf_Y117 hY]
            split <;> rfl
        obtain ⟨d, hd30, hvd⟩ := (pq_le (n := 30) (by omega)).mp in8
        rw [hvd] at e8 e8m
        rw [e8, re_bxl, e8m, pb_b2, pb_b2]
        obtain ⟨θ8, hθ8⟩ : ∃ θ8, θ8 = cl_si θ7 (cl_n σ + 1) g8 := ⟨_, rfl⟩
        rw [← hθ8] at W8 ⊢
        have i38 : cl_i θ8 (cl_n σ + 5) (pn_C N) = nI a := by rw [hθ8, pc_i_si_n _ _ _ _ n51]; exact i37
        have i48 : cl_i θ8 (cl_n σ + 6) (pn_C N) = nI bb := by rw [hθ8, pc_i_si_n _ _ _ _ n61]; exact i47
        have W9 := rf_wc W8 7 (Or.inr (Or.inr rfl)) (nI d)
        obtain ⟨-, -, -, -, -, -, ⟨x5'', y5'', z5''⟩⟩ := rf_A W8
        rw [pb_gdD _ y5'', z5'', iC, pb_gdT, pb_let]
        obtain ⟨θ9, hθ9⟩ : ∃ θ9, θ9 = cl_wi θ8 (cl_n σ + 7) (pn_C N) (nI d) := ⟨_, rfl⟩
        rw [← hθ9] at W9 ⊢
        have i39 : cl_i θ9 (cl_n σ + 5) (pn_C N) = nI a := by rw [hθ9, pc_wi, pc_i_si_n _ _ _ _ n57]; exact i38
        have i49 : cl_i θ9 (cl_n σ + 6) (pn_C N) = nI bb := by rw [hθ9, pc_wi, pc_i_si_n _ _ _ _ n67]; exact i48
        have i59 : cl_i θ9 (cl_n σ + 7) (pn_C N) = nI d := by rw [hθ9, pc_wi, pc_i_si_s]; unfold upd; rw [if_pos rfl]
        obtain ⟨⟨b1', b2', b3'⟩, -⟩ := rf_A W9
        rw [pb_gdD _ b1']
        have m8 : ν8.1 6 = (4 : Int32) ↔ T8.2.2.1 = 4 := by rw [W9.2.2.2.1.2.2.1]; exact pb_inj (b := 4) (by have := W9.2.2.2.2.2.2.1; omega) (by omega)
        rcases re_sign h hm W9 (c := 59) (x := 4) (Or.inr ⟨rfl, rfl⟩) with ⟨t9, TA, gA, νA, vA, eA, eAm, WA, -⟩ | ⟨t9, y, θ', ν', eA, eAm, hX, hY⟩
        rotate_left
        · right
          refine ⟨1, T8.1, y, θ', ν', ?_, ?_, hX, hY⟩
          · rw [c59, eA, re_bxr]
          · rw [if_neg (fun h => t9 (m8.mp h))]
            unfold mo_readsContact_J117
            rw [eAm, pb_b2, re_ill hY, pb_b1, pb_ibF]
        left
        rw [c59, eA, re_bxl, if_pos (m8.mpr t9)]
        obtain ⟨θA, hθA⟩ : ∃ θA, θA = cl_si θ9 (cl_n σ + 1) gA := ⟨_, rfl⟩
        rw [← hθA] at WA ⊢
        have i3A : cl_i θA (cl_n σ + 5) (pn_C N) = nI a := by rw [hθA, pc_i_si_n _ _ _ _ n51]; exact i39
        have i4A : cl_i θA (cl_n σ + 6) (pn_C N) = nI bb := by rw [hθA, pc_i_si_n _ _ _ _ n61]; exact i49
        have i5A : cl_i θA (cl_n σ + 7) (pn_C N) = nI d := by rw [hθA, pc_i_si_n _ _ _ _ n71]; exact i59
        obtain ⟨⟨b1', b2', b3'⟩, ⟨-, q1, -⟩, -⟩ := rf_A WA
        obtain ⟨-, d1', -⟩ := rf_D WA
        obtain ⟨GA, gA', MA, JA, KA⟩ := WA
        have hG' := rc_G_nC GA i3A i4A i5A (by omega) ha hbb hab hd30
        refine ⟨_, mo_A (mo_A (mo_A (mo_A νA 6 (22 + 3 * pn_C N) (nI a)) 6 (23 + 3 * pn_C N) (nI bb)) 6 (24 + 3 * pn_C N) (nI d)) 6 1 (nI (pn_C N + 1)), rc_nC N a bb d, TA, ?_, ?_, ⟨hG', ?_, ?_, JA, KA⟩, rfl, rfl, rfl, rfl⟩
        · rw [pb_gdD _ b1', b2', pb_gdD _ nz2, pb_gdD _ b3', q1, ← nI_succ, pb_let]
        · unfold mo_readsContact_J117
          have eC1 : (mo_A (mo_A (mo_A νA 6 (22 + 3 * pn_C N) (nI a)) 6 (23 + 3 * pn_C N) (nI bb)) 6 (24 + 3 * pn_C N) (nI d)).2 6 1 = nI (pn_C N) := by
            rw [pe_mA]
            unfold upd
            rw [if_neg (by omega), pe_mA]
            unfold upd
            rw [if_neg (by omega), pe_mA]
            unfold upd
            rw [if_neg (by omega)]
            exact d1'
          rw [eAm, pb_b2, re_well MA, pb_b1, pb_ibT, c1, d1', pn_i22, pn_i23, pn_i24, pn_gdi _ (by omega) (by omega), pn_gdi _ (by omega) (by omega), pn_gdi _ (by omega) (by omega), nI_clamp (by omega), nI_clamp (by omega), nI_clamp (by omega), eC1, ← nI_succ]
        · rw [pc_wi, pc_i_si_n _ _ _ _ n12]
          exact gA'
        · obtain ⟨m1, m2, m3', m4⟩ := MA
          refine ⟨m1, fun k hk => ?_, m3', ?_⟩
          · show va_up (va_up (va_up (va_up νA.2 6 _) 6 _) 6 _) 6 _ k = _
            rw [va_up_ne _ _ hk, va_up_ne _ _ hk, va_up_ne _ _ hk, va_up_ne _ _ hk]
            exact m2 k hk
          · rw [pe_mA, pe_mA, pe_mA, pe_mA]
            exact rf_mC m4 hN a bb d
    by_cases h2 : T4.2.2.1 = 2
    · have hv2 : rd_v T4.2.2.1 T4.2.2.2 = T4.2.2.2 := by rw [h2]; rfl
      rw [pb_gdD _ b1, if_pos (hck.mpr h2), b2, pb_gdD _ nz2, pb_gdD _ b3, x34, pb_gdD _ nz5, pb_gdD _ y34, z34, iC, pb_gdT, i4, gv4, hv2, if_pos (hmk.mpr h2), jv4 (by omega)]
      by_cases hv : T4.2.2.2 = nI a
      · rw [if_pos hv, if_pos hv]
        exact key false ⟨fun _ => ⟨h2, hv⟩, fun _ => rfl⟩
      · rw [if_neg hv, if_neg hv]
        exact key true ⟨fun h => Bool.noConfusion h, fun h => absurd h.2 hv⟩
    · rw [pb_gdD _ b1, if_neg (fun h => h2 (hck.mp h)), if_neg (fun h => h2 (hmk.mp h))]
      exact key true ⟨fun h => Bool.noConfusion h, fun h => absurd h.1 h2⟩
end RF
