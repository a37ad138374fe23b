/-! tell -/
theorem rx_two (S : pa_S) (j : Nat) (r r' : Option (Nat × Nat × (Nat → Int32))) : pa_srow (pa_srow S j r) j r' = pa_srow S j r' := by
  unfold pa_srow
  refine Prod.ext rfl (Prod.ext rfl (Prod.ext ?_ rfl))
  funext i
  show va_up (va_up S.2.2.1 j r) j r' i = va_up S.2.2.1 j r' i
  unfold va_up
  split <;> rfl
theorem rx_self (S : pa_S) (j : Nat) : pa_srow S j (pa_row S j) = S := by
  unfold pa_srow
  refine Prod.ext rfl (Prod.ext rfl (Prod.ext ?_ rfl))
  funext i
  show va_up S.2.2.1 j (S.2.2.1 j) i = S.2.2.1 i
  unfold va_up
  split
  · rename_i e; rw [e]
  · rfl
theorem rx_at (S : pa_S) (j : Nat) (r : Option (Nat × Nat × (Nat → Int32))) : pa_row (pa_srow S j r) j = r := va_up_self _ _ _
theorem rx_lw : ∀ lane : Fin 3, ∀ t : Fin 31, rt_lw lane.val (nI t.val) = nI t.val := by decide +kernel
theorem rx_lw1 : ∀ lane : Fin 3, rt_lw lane.val (-1) = -1 := by decide +kernel
theorem rx_fl {lane : Nat} (hl : lane ≤ 2) {x r : Int32} (h : rw_first x r) : rt_lw lane r = r := by
  rcases h with ⟨-, rfl⟩ | ⟨t, ht, -, -, rfl⟩
  · exact rx_lw1 ⟨lane, by omega⟩
  · exact rx_lw ⟨lane, by omega⟩ ⟨t, ht⟩
def rx_F (D : Nat → Int32) (p : Nat) : Int32 := (mo_firstOf (D p)).getD 0
theorem rx_Fs {D : Nat → Int32} {p : Nat} (h : ∀ e, 31 ≤ e → pb_bt (D p) e = false) : rw_first (D p) (rx_F D p) := by
  obtain ⟨r, hr⟩ := rw_ex h
  unfold rx_F
  rw [rw_m hr]
  exact hr
def rx_G (D f : Nat → Int32) (i : Nat) : Nat → Int32 := fun x => if x < i then rx_F D x else f x
section RX
variable {σ : cl_S} {μ : mo_S} {S : pa_S}
theorem rx_tell (h : pc_R σ S) (hm : pm_R μ S) (v d w : Int32) : pq_any (cl_X0_tell 19 σ v d w) (mo_tell μ v d w) := by
  obtain ⟨x0, x3, x5, k0, w1, w2, w3, w4⟩ := pt_cx h
  have hN := h.2.2.1.2
  have hP9 := hN.1
  have e0 : (0 : Int32).toNatClampNeg = 0 := by decide
  have bad : pq_any (some ((-1000001 : Int32), σ)) (some ((-1000001 : Int32), μ)) := ⟨S, _, _, _, rfl, rfl, h, hm⟩
  unfold cl_X0_tell mo_tell
  rw [pb_gdD _ x0, pq_cP h, pq_cD, rt_cR, pt_mF hm, rt_mR]
  simp only [pb_b1]
  cases hv : pq_in v 0 (nI (pn_P (pa_net S)) - 1) with
  | false => exact bad
  | true =>
    simp only [pb_ibT]
    cases hd : pq_in d 0 (nI 30) with
    | false => exact bad
    | true =>
      simp only [pb_ibT, Bool.and_self]
      cases hw : pq_in w 0 (nI 7) with
      | false => exact bad
      | true =>
        simp only [pb_ibT]
        obtain ⟨s, hs, rfl⟩ := (pq_lt (by omega)).mp hv
        obtain ⟨e, he, rfl⟩ := (pq_le (by omega)).mp hd
        obtain ⟨j, hj7, rfl⟩ := (pq_le (by omega)).mp hw
        have hj : j < 8 := by omega
        obtain ⟨σ1, g1, g2, g3⟩ := pt_go h hs (by omega : e < 31) 0
        obtain ⟨μ1, g4, g5, g6⟩ := pt_mw hm hN hs (by omega : e < 31) 0
        obtain ⟨D, hD⟩ : ∃ D, D = pn_wk (pa_net S) s e 0 := ⟨_, rfl⟩
        rw [← hD] at g3 g6
        have h31 : ∀ p, p < 9 → ∀ e', 31 ≤ e' → pb_bt (D p) e' = false := fun p hp e' he' => by rw [hD]; exact pn_wk_31 (by omega) 0 hp he'
        have i8 : dx_inb (nI j) 8 = true := by rw [pb_inb (by omega), decide_eq_true (by omega)]
        have cc : (nI j).toNatClampNeg = j := nI_clamp (by omega)
        obtain ⟨y0, y1, k20, l20, r20⟩ := rs_20 g2
        obtain ⟨r1, k1⟩ := r20 j hj
        obtain ⟨-, z3, -, zk, -⟩ := pt_cx g2
        rw [rt_miss hm h hj, pb_b1, x5, pb_gdD _ (by decide), x3, pb_gdD _ (by decide), pb_gdD _ w1, g1, pb_b2, pb_gdD _ (by decide), pb_gdD _ y0, y1, pb_gdD _ (by decide), pb_gdD _ k20, l20, i8, pb_gdT, cc, r1, pb_gdD _ (by omega), pb_gdD _ k1, g4, pb_b1]
        rcases h.2.2.2.2.2.1 j hj with ⟨q1, q2⟩ | ⟨lane, len, f, q1, q2, q3, q4, q5, q6, q7⟩
        · have hz : cl_r σ1 (21 + j) 0 = 0 := by
            rcases g2.2.2.2.2.2.1 j hj with ⟨-, g⟩ | ⟨_, _, _, g, -⟩
            · exact g
            · rw [q1] at g; cases g
          have hm1 : cl_X1_many (21 + j) σ1 = some (.inr 1, σ1) := by
            unfold cl_X1_many
            rw [pb_gdD _ k1, if_pos hz]
          rw [hm1, rt_bxr, if_pos rfl, pb_gdD _ y0, decide_eq_true q2, pb_ibT]
          exact rs_found g2 hm 1
        · rcases g2.2.2.2.2.2.1 j hj with ⟨g, -⟩ | ⟨_, _, _, g, -, -, s4, s5, s6, s7⟩
          · rw [q1] at g; cases g
          rw [q1] at g
          cases g
          have hm1 : cl_X1_many (21 + j) σ1 = some (.inl (nI len), σ1) := by
            unfold cl_X1_many
            rw [pb_gdD _ k1, if_neg s4, s5, s6]
            have hl3 : lane = 0 ∨ lane = 1 ∨ lane = 2 := by omega
            rcases hl3 with rfl | rfl | rfl <;> rfl
          rw [hm1, rt_bx, pb_gdD _ y0, z3, pb_gdD _ (by decide), pb_gdD _ zk, g2.2.2.1.1.2.1.1, pb_let, decide_eq_false q4, pb_ibF]
          obtain ⟨n, hn⟩ : ∃ n, n = min (pn_P (pa_net S)) len := ⟨_, rfl⟩
          have emin : (if nI (pn_P (pa_net S)) < nI len then nI (pn_P (pa_net S)) else nI len) = nI n := by
            by_cases hlt : pn_P (pa_net S) < len
            · rw [if_pos ((pb_lt (by omega) (by omega)).mpr hlt), hn, Nat.min_eq_left (by omega)]
            · rw [if_neg (fun h => hlt ((pb_lt (by omega) (by omega)).mp h)), hn, Nat.min_eq_right (by omega)]
          rw [emin]
          have hn1 : n ≤ pn_P (pa_net S) := by omega
          have hn2 : n ≤ len := by omega
          obtain ⟨T, hT⟩ : ∃ T : Nat → pa_S, T = fun i => pa_srow S j (some (lane, len, rx_G D f i)) := ⟨_, rfl⟩
          have T0 : T 0 = S := by
            rw [hT]
            show pa_srow S j (some (lane, len, f)) = S
            rw [← q1]
            exact rx_self S j
          have keyA := pb_cnti (b := fun x : Int32 × cl_S => cl_X0_tell_L64 19 x.2 (nI j) (nI n) x.1) (fun i τ => (nI i, τ)) (fun i τ => pc_R τ (T i) ∧ ∀ p, p < 9 → cl_i τ 45 p = D p) n (fun z => z.1 = nI n ∧ pc_R z.2 (pa_sst (T n) 0)) (fun i hi τ hτ => ?_) (fun τ hτ => ?_) 10 (by omega) σ1 ⟨by rw [T0]; exact g2, g3⟩
          · obtain ⟨z, h1, h2, h3⟩ := keyA
            have keyB := pb_cnti (b := fun x : Int32 × mo_S => mo_tell_L47 x.2 (nI j) x.1) (fun i τ => (nI i, τ)) (fun i τ => pm_R τ (T i) ∧ ∀ p, p < 9 → τ.2 11 p = D p) n (fun z => z.1 = nI n ∧ pm_R z.2 (pa_sst (T n) 0)) (fun i hi τ hτ => ?_) (fun τ hτ => ?_) dx_fu (by unfold dx_fu; omega) μ1 ⟨by rw [T0]; exact g5, fun p hp => (g6 p hp).1⟩
            · obtain ⟨y, j1, j2, j3⟩ := keyB
              rw [nI_0] at h1 j1
              exact ⟨pa_sst (T n) 0, z.1, z.2, y.2, h1, by rw [j1, h2, ← j2], h3, j3⟩
            · obtain ⟨hτ1, hτ2⟩ := hτ
              have hnet : pa_net (T i) = pa_net S := by rw [hT]; rfl
              have hrow : pa_row (T i) j = some (lane, len, rx_G D f i) := by rw [hT]; exact rx_at _ _ _
              have m0 : τ.2 5 0 = nI (pn_P (pa_net S)) := by rw [hτ1.1.1, hnet]
              rcases hτ1.2.2.2.1 j hj with ⟨g, -⟩ | ⟨_, _, _, g, u1, u2, u3⟩
              · rw [hrow] at g; cases g
              rw [hrow] at g
              cases g
              have hle1 : ¬ nI (pn_P (pa_net S)) ≤ nI i := fun h => absurd ((pb_le (by omega) (by omega)).mp h) (by omega)
              have hle2 : ¬ nI len ≤ nI i := fun h => absurd ((pb_le (by omega) (by omega)).mp h) (by omega)
              have e40 : (40 : Int32) * nI j + nI i = nI (40 * j + i) := by
                rw [show (40 : Int32) = nI 40 from rfl, pb_mul, pb_add]
              have hF := rx_Fs (h31 i (by omega))
              have hrun : mo_tell_L47 τ (nI j) (nI i) = some (.inl (nI (i + 1), mo_A τ 2 (40 * j + i) (rx_F D i))) := by
                unfold mo_tell_L47
                rw [e0, m0, if_neg hle1, i8, pb_gdT, cc, u2, if_neg hle2, pn_gdi _ (by omega) (by omega), nI_clamp (by omega), hτ2 i (by omega), rw_m hF, pb_b1, e40, pn_gdi _ (by omega) (by omega), nI_clamp (by omega), ← nI_succ]
              refine ⟨mo_A τ 2 (40 * j + i) (rx_F D i), ⟨?_, fun p hp => ?_⟩, hrun⟩
              · have eT : T (i + 1) = pa_srow (T i) j (some (lane, len, rx_G D f (i + 1))) := by rw [hT, rx_two]
                rw [eT]
                refine rt_mrow (ν := mo_A τ 2 (40 * j + i) (rx_F D i)) hτ1 rfl (fun k hk => ?_) hj (Or.inr ⟨lane, len, _, rfl, ?_, ?_, fun i' hi' => ?_⟩) (fun m hm8 hmj => ?_)
                · show va_up τ.2 2 (upd (τ.2 2) (40 * j + i) (rx_F D i)) k = _
                  rw [va_up_ne _ _ (by omega)]
                · show va_up τ.2 2 (upd (τ.2 2) (40 * j + i) (rx_F D i)) 0 j = _
                  rw [va_up_ne _ _ (by decide)]
                  exact u1
                · show va_up τ.2 2 (upd (τ.2 2) (40 * j + i) (rx_F D i)) 1 j = _
                  rw [va_up_ne _ _ (by decide)]
                  exact u2
                · rw [pe_mA]
                  unfold upd rx_G
                  by_cases hii : i' = i
                  · rw [if_pos (by omega), if_pos (by omega), hii]
                  · rw [if_neg (by omega), u3 i' hi']
                    unfold rx_G
                    by_cases h9 : i' < i
                    · rw [if_pos h9, if_pos (by omega)]
                    · rw [if_neg h9, if_neg (by omega)]
                · have hq := hτ1.2.2.2.1 m hm8
                  unfold pm_row at hq ⊢
                  have e00 : (mo_A τ 2 (40 * j + i) (rx_F D i)).2 0 = τ.2 0 := by
                    show va_up τ.2 2 (upd (τ.2 2) (40 * j + i) (rx_F D i)) 0 = _
                    rw [va_up_ne _ _ (by decide)]
                  have e11 : (mo_A τ 2 (40 * j + i) (rx_F D i)).2 1 = τ.2 1 := by
                    show va_up τ.2 2 (upd (τ.2 2) (40 * j + i) (rx_F D i)) 1 = _
                    rw [va_up_ne _ _ (by decide)]
                  rw [e00, e11]
                  rcases hq with hq | ⟨lane', len', f', z1, z2, z3, z4⟩
                  · exact Or.inl hq
                  · refine Or.inr ⟨lane', len', f', z1, z2, z3, fun k hk => ?_⟩
                    have hl' : len' ≤ 40 := by
                      have hrm : pa_row S m = some (lane', len', f') := by
                        rw [← z1, hT]
                        exact (va_up_ne _ _ hmj).symm
                      rcases h.2.2.2.2.2.1 m hm8 with ⟨g, -⟩ | ⟨_, _, _, g, -, g3, -⟩
                      · rw [hrm] at g; cases g
                      · rw [hrm] at g; cases g; exact g3
                    rw [pe_mA]
                    unfold upd
                    rw [if_neg (by omega)]
                    exact z4 k hk
              · show va_up τ.2 2 (upd (τ.2 2) (40 * j + i) (rx_F D i)) 11 p = _
                rw [va_up_ne _ _ (by decide)]
                exact hτ2 p hp
            · obtain ⟨hτ1, hτ2⟩ := hτ
              have hnet : pa_net (T n) = pa_net S := by rw [hT]; rfl
              have hrow : pa_row (T n) j = some (lane, len, rx_G D f n) := by rw [hT]; exact rx_at _ _ _
              have m0 : τ.2 5 0 = nI (pn_P (pa_net S)) := by rw [hτ1.1.1, hnet]
              rcases hτ1.2.2.2.1 j hj with ⟨g, -⟩ | ⟨_, _, _, g, u1, u2, u3⟩
              · rw [hrow] at g; cases g
              rw [hrow] at g
              cases g
              refine ⟨(nI n, mo_I τ 0 0), ?_, rfl, rs_mst hτ1 0⟩
              show mo_tell_L47 τ (nI j) (nI n) = _
              unfold mo_tell_L47 mo_tell_J97
              rw [e0, m0, i8, pb_gdT, cc, u2]
              by_cases hc : pn_P (pa_net S) ≤ n
              · rw [if_pos ((pb_le (by omega) (by omega)).mpr hc)]
                rfl
              · rw [if_neg (fun h => hc ((pb_le (by omega) (by omega)).mp h)), if_pos ((pb_le (by omega) (by omega)).mpr (by omega))]
                rfl
          · obtain ⟨hτ1, hτ2⟩ := hτ
            have hrow : pa_row (T i) j = some (lane, len, rx_G D f i) := by rw [hT]; exact rx_at _ _ _
            obtain ⟨y0, y1, k20, l20, r20⟩ := rs_20 hτ1
            obtain ⟨r1, k1⟩ := r20 j hj
            obtain ⟨-, -, z5, -, zw1, zw2, zw3, zw4⟩ := pt_cx hτ1
            have hF := rx_Fs (h31 i (by omega))
            have hfirst : cl_X3_first 44 τ (nI i) = some (rx_F D i) := rw_c ⟨zw1, zw2, zw3, zw4⟩ (by omega) (by rw [hτ2 i (by omega)]; exact hF)
            have hle : ¬ nI n ≤ nI i := fun h => absurd ((pb_le (by omega) (by omega)).mp h) (by omega)
            rcases hτ1.2.2.2.2.2.1 j hj with ⟨g, -⟩ | ⟨_, _, _, g, b1, b2, b3, b4, b5, b6⟩
            · rw [hrow] at g; cases g
            rw [hrow] at g
            cases g
            rcases rt_put hτ1 hj (nI i) (rx_F D i) with ⟨c1, -⟩ | ⟨lane', len', f', c1, c2⟩
            · rw [hrow] at c1; cases c1
            rw [hrow] at c1
            cases c1
            rcases c2 with ⟨c2, -⟩ | ⟨i', hi', ei, c3⟩
            · rw [(pq_lt (by omega)).mpr ⟨i, by omega, rfl⟩] at c2; cases c2
            have eii : i = i' := (pb_inj (by omega) (by omega)).mp ei
            subst eii
            rw [rx_fl q2 hF] at c3
            refine ⟨cl_si τ (cl_r τ (21 + j) 0) (upd (cl_i τ (cl_r τ (21 + j) 0)) i (rx_F D i)), ⟨?_, fun p hp => ?_⟩, ?_⟩
            · have eT : T (i + 1) = pa_srow (T i) j (some (lane, len, rx_G D f (i + 1))) := by rw [hT, rx_two]
              rw [eT]
              refine rs_int2 hτ1 hj hrow (fun k hk => ⟨?_, ?_⟩)
              · unfold upd
                by_cases hki : k = i
                · rw [if_pos hki, hki]
                  unfold rx_G
                  rw [if_pos (by omega)]
                · rw [if_neg hki, (b6 k hk).1]
                  unfold rx_G
                  by_cases h9 : k < i
                  · rw [if_pos h9, if_pos (by omega)]
                  · rw [if_neg h9, if_neg (by omega)]
              · by_cases hki : k < i + 1
                · unfold rx_G
                  rw [if_pos hki]
                  have := rt_fits q2 (rx_F D k)
                  rw [rx_fl q2 (rx_Fs (h31 k (by omega)))] at this
                  exact this
                · have := (b6 k hk).2
                  unfold rx_G at this ⊢
                  rw [if_neg (by omega)] at this ⊢
                  exact this
            · have h54 := pm_lo hτ1.2.1 (by omega : 18 + j < 27) (by rw [pd_h hj]; exact b3)
              rw [pd_h hj] at h54
              rw [pc_i_si_n _ _ _ _ (by omega)]
              exact hτ2 p hp
            · show cl_X0_tell_L64 19 τ (nI j) (nI n) (nI i) = _
              unfold cl_X0_tell_L64
              rw [if_neg hle, pb_gdD _ y0, y1, pb_gdD _ (by decide), pb_gdD _ k20, l20, i8, pb_gdT, cc, r1, pb_gdD _ (by omega), z5, pb_gdD _ (by decide), pb_gdD _ zw1, hfirst, pb_b1, pb_gdD _ k1, c3, rt_bx, ← nI_succ]
          · obtain ⟨hτ1, hτ2⟩ := hτ
            refine ⟨(nI n, cl_wi τ 19 12 0), ?_, rfl, rs_st hτ1 0⟩
            show cl_X0_tell_L64 19 τ (nI j) (nI n) (nI n) = _
            unfold cl_X0_tell_L64
            rw [if_pos ((pb_le (by omega) (by omega)).mpr (Nat.le_refl _)), pb_gdD _ hτ1.1.2.1.1, rs_cw hτ1]
            rfl
end RX
