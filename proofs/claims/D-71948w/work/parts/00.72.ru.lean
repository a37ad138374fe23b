/-! row, feed -/
theorem ru_byte : ∀ n : Fin 256, (nI n.val).toInt8.toInt32.toInt8.toInt32 &&& 255 = nI n.val := by decide +kernel
def ru_z (f : Nat → Int32) (b : Nat) : Nat → Nat → Int32
  | 0 => f
  | i + 1 => upd (ru_z f b i) (b + i) 0
theorem ru_z_at (f : Nat → Int32) (b : Nat) : ∀ n k, ru_z f b n k = if b ≤ k ∧ k < b + n then 0 else f k := by
  intro n
  induction n with
  | zero => intro k; rw [if_neg (by omega)]; rfl
  | succ n ih =>
    intro k
    show upd (ru_z f b n) (b + n) 0 k = _
    unfold upd
    by_cases hk : k = b + n
    · rw [if_pos hk, if_pos (by omega)]
    · rw [if_neg hk, ih k]
      by_cases h2 : b ≤ k ∧ k < b + n
      · rw [if_pos h2, if_pos (by omega)]
      · rw [if_neg h2, if_neg (by omega)]
section RU
variable {σ : cl_S} {μ : mo_S} {S : pa_S}
theorem ru_lane (σ : cl_S) {lane n : Nat} (hl : lane ≤ 2) (hn : n ≤ 40) : cl_X0_newLane σ (nI lane) (nI n) = some (.inl (cl_n σ + 1), cl_nw σ (pr_lk lane) n) := by
  have h3 : lane = 0 ∨ lane = 1 ∨ lane = 2 := by omega
  have hp : ¬ nI n < 0 := nI_pos (by omega)
  have cc : (nI n).toNatClampNeg = n := nI_clamp (by omega)
  unfold cl_X0_newLane
  rw [if_neg hp, cc, pb_gdD _ ⟨hp, hn⟩, pb_gdD _ ⟨hp, hn⟩, pb_gdD _ ⟨hp, hn⟩]
  rcases h3 with rfl | rfl | rfl
  · rw [if_pos (by decide)]; rfl
  · rw [if_neg (by decide), if_pos (by decide), if_neg hp]; rfl
  · rw [if_neg (by decide), if_neg (by decide), if_neg hp]; rfl
theorem ru_laneN (σ : cl_S) {lane : Nat} {v : Int32} (hv : v < 0) : cl_X0_newLane σ (nI lane) v = some (.inr 4, σ) := by
  unfold cl_X0_newLane
  rw [if_pos hv]
  split
  · rfl
  · split <;> rfl
theorem ru_row (h : pc_R σ S) (hm : pm_R μ S) (v w x : Int32) : pq_any (cl_X0_row 19 σ v w x) (mo_row μ v w x) := by
  have bad : pq_any (some ((-1000001 : Int32), σ)) (some ((-1000001 : Int32), μ)) := ⟨S, _, _, _, rfl, rfl, h, hm⟩
  have i2 : cl_X0_isIn w.toInt64 (0 : Int64) (2 : Int64) = some (pq_in w 0 (nI 2)) := pq_c w 0 2
  have j2 : mo_in w (0 : Int32) (2 : Int32) = some (pq_in w 0 (nI 2)) := pq_m w 0 2
  unfold cl_X0_row mo_row
  rw [rt_cR, rt_mR, i2, j2]
  simp only [pb_b1]
  cases hv : pq_in v 0 (nI 7) with
  | false => exact bad
  | true =>
    simp only [pb_ibT]
    cases hw : pq_in w 0 (nI 2) with
    | false => exact bad
    | true =>
      simp only [pb_ibT]
      by_cases h40 : x ≤ (40 : Int32)
      · rw [if_pos h40, if_pos h40]
        obtain ⟨j, hj7, rfl⟩ := (pq_le (by omega)).mp hv
        obtain ⟨lane, hl, rfl⟩ := (pq_le (by omega)).mp hw
        have hj : j < 8 := by omega
        obtain ⟨x0, x1, k20, l20, r20⟩ := rs_20 h
        obtain ⟨r1, k1⟩ := r20 j hj
        have i8 : dx_inb (nI j) 8 = true := by rw [pb_inb (by omega), decide_eq_true (by omega)]
        have cc : (nI j).toNatClampNeg = j := nI_clamp (by omega)
        rw [pb_gdD _ x0, x1, pb_gdD _ (by decide), pb_gdD _ k20, l20, i8, pb_gdT, cc, r1, pb_gdD _ (by omega)]
        by_cases hx : x < 0
        · have hx' : ¬ (0 : Int32) ≤ x := fun h9 => absurd hx (Int32.not_lt.mpr h9)
          rw [ru_laneN σ hx, rt_bxr, if_pos rfl, pb_gdD _ x0, if_neg hx']
          exact rs_found h hm 4
        · obtain ⟨n, hn31, rfl⟩ := pb_of hx
          have hn : n ≤ 40 := (pb_le (b := 40) hn31 (by omega)).mp h40
          rw [ru_lane σ hl hn, rt_bx, pb_gdD _ (by omega), if_pos (nI_pos' (by omega)), pb_gdT, pb_gdT]
          have hR := rs_new h hj hl hn
          have kk : cl_k (cl_nw σ (pr_lk lane) n) (21 + j) = 1 := by
            have := h.1.1
            rw [pc_k_nw, if_neg (by omega), k1]
          rw [pb_gdD _ kk, pb_let, pb_gdD _ hR.1.2.1.1, rs_cw hR, pb_b2]
          let ν : Nat → mo_S := fun i => ((mo_A (mo_A μ 0 j (nI lane)) 1 j (nI n)).1, va_up (mo_A (mo_A μ 0 j (nI lane)) 1 j (nI n)).2 2 (ru_z (μ.2 2) (40 * j) i))
          have v2 : (mo_A (mo_A μ 0 j (nI lane)) 1 j (nI n)).2 2 = μ.2 2 := by
            show va_up (va_up μ.2 0 (upd (μ.2 0) j (nI lane))) 1 (upd (va_up μ.2 0 (upd (μ.2 0) j (nI lane)) 1) j (nI n)) 2 = _
            rw [va_up_ne _ _ (by decide), va_up_ne _ _ (by decide)]
          have v0 : (mo_A (mo_A μ 0 j (nI lane)) 1 j (nI n)).2 0 = upd (μ.2 0) j (nI lane) := by
            show va_up (va_up μ.2 0 (upd (μ.2 0) j (nI lane))) 1 (upd (va_up μ.2 0 (upd (μ.2 0) j (nI lane)) 1) j (nI n)) 0 = _
            rw [va_up_ne _ _ (by decide), va_up_self]
          have v1 : (mo_A (mo_A μ 0 j (nI lane)) 1 j (nI n)).2 1 = upd (μ.2 1) j (nI n) := by
            rw [pe_mA]
            show upd (va_up μ.2 0 (upd (μ.2 0) j (nI lane)) 1) j (nI n) = _
            rw [va_up_ne _ _ (by decide)]
          have vk : ∀ k, 2 ≤ k → (mo_A (mo_A μ 0 j (nI lane)) 1 j (nI n)).2 k = μ.2 k := by
            intro k hk
            show va_up (va_up μ.2 0 (upd (μ.2 0) j (nI lane))) 1 (upd (va_up μ.2 0 (upd (μ.2 0) j (nI lane)) 1) j (nI n)) k = _
            rw [va_up_ne _ _ (by omega), va_up_ne _ _ (by omega)]
          have hloop : dx_lp (fun x : Int32 × mo_S => mo_row_L52 x.2 (nI j) (nI n) x.1) dx_fu ((0 : Int32), mo_A (mo_A μ 0 j (nI lane)) 1 j (nI n)) = some (nI n, mo_I (ν 40) 0 0) := by
            have e0 : ((0 : Int32), mo_A (mo_A μ 0 j (nI lane)) 1 j (nI n)) = (nI 0, ν 0) := by
              refine Prod.ext rfl (Prod.ext rfl ?_)
              funext k
              show (mo_A (mo_A μ 0 j (nI lane)) 1 j (nI n)).2 k = va_up (mo_A (mo_A μ 0 j (nI lane)) 1 j (nI n)).2 2 (μ.2 2) k
              unfold va_up
              split
              · rename_i e; rw [e]; exact v2
              · rfl
            rw [e0]
            refine pb_lp (b := fun x : Int32 × mo_S => mo_row_L52 x.2 (nI j) (nI n) x.1) 40 (fun i => (nI i, ν i)) (fun i hi => ?_) ?_ (by omega)
            · show mo_row_L52 (ν i) (nI j) (nI n) (nI i) = some (.inl (nI (i + 1), ν (i + 1)))
              have h40' : ¬ (40 : Int32) ≤ nI i := fun h => absurd ((pb_le (a := 40) (by omega) (by omega)).mp h) (by omega)
              have e40 : (40 : Int32) * nI j + nI i = nI (40 * j + i) := by
                rw [show (40 : Int32) = nI 40 from rfl, pb_mul, pb_add]
              unfold mo_row_L52
              rw [if_neg h40', e40, pn_gdi _ (by omega) (by omega), nI_clamp (by omega), ← nI_succ]
              congr 3
              refine Prod.ext rfl ?_
              funext k
              show va_up (va_up (mo_A (mo_A μ 0 j (nI lane)) 1 j (nI n)).2 2 (ru_z (μ.2 2) (40 * j) i)) 2 (upd (va_up (mo_A (mo_A μ 0 j (nI lane)) 1 j (nI n)).2 2 (ru_z (μ.2 2) (40 * j) i) 2) (40 * j + i) 0) k = va_up (mo_A (mo_A μ 0 j (nI lane)) 1 j (nI n)).2 2 (ru_z (μ.2 2) (40 * j) (i + 1)) k
              rw [va_up_self]
              unfold va_up
              split <;> rfl
            · show mo_row_L52 (ν 40) (nI j) (nI n) (nI 40) = _
              unfold mo_row_L52
              rw [if_pos (by decide)]
              rfl
          rw [hloop]
          refine ⟨_, nI n, _, mo_I (ν 40) 0 0, rfl, rfl, rs_st hR 0, ?_⟩
          refine rs_mst (S := pa_srow S j (some (lane, n, fun _ => 0))) ?_ 0
          have w2 : (ν 40).2 2 = ru_z (μ.2 2) (40 * j) 40 := by
            show va_up (mo_A (mo_A μ 0 j (nI lane)) 1 j (nI n)).2 2 (ru_z (μ.2 2) (40 * j) 40) 2 = _
            rw [va_up_self]
          have w0 : (ν 40).2 0 = upd (μ.2 0) j (nI lane) := by
            show va_up (mo_A (mo_A μ 0 j (nI lane)) 1 j (nI n)).2 2 (ru_z (μ.2 2) (40 * j) 40) 0 = _
            rw [va_up_ne _ _ (by decide), v0]
          have w1 : (ν 40).2 1 = upd (μ.2 1) j (nI n) := by
            show va_up (mo_A (mo_A μ 0 j (nI lane)) 1 j (nI n)).2 2 (ru_z (μ.2 2) (40 * j) 40) 1 = _
            rw [va_up_ne _ _ (by decide), v1]
          refine rt_mrow (ν := ν 40) hm rfl (fun k hk => ?_) hj (Or.inr ⟨lane, n, _, rfl, ?_, ?_, fun i hi => ?_⟩) (fun m hm8 hmj => ?_)
          · show va_up (mo_A (mo_A μ 0 j (nI lane)) 1 j (nI n)).2 2 (ru_z (μ.2 2) (40 * j) 40) k = _
            rw [va_up_ne _ _ (by omega), vk k (by omega)]
          · rw [w0]; unfold upd; rw [if_pos rfl]
          · rw [w1]; unfold upd; rw [if_pos rfl]
          · rw [w2, ru_z_at, if_pos (by omega)]
          · have hq := hm.2.2.2.1 m hm8
            unfold pm_row at hq ⊢
            have u0 : upd (μ.2 0) j (nI lane) m = μ.2 0 m := by unfold upd; rw [if_neg hmj]
            have u1 : upd (μ.2 1) j (nI n) m = μ.2 1 m := by unfold upd; rw [if_neg hmj]
            rw [w0, w1, w2, u0, u1]
            rcases hq with hq | ⟨lane', len', f', q1, q2, q3, q4⟩
            · exact Or.inl hq
            · refine Or.inr ⟨lane', len', f', q1, q2, q3, fun i hi => ?_⟩
              have hl' : len' ≤ 40 := by
                rcases h.2.2.2.2.2.1 m hm8 with ⟨g, -⟩ | ⟨_, _, _, g, -, g3, -⟩
                · rw [q1] at g; cases g
                · rw [q1] at g; cases g; exact g3
              rw [ru_z_at, if_neg (by omega)]
              exact q4 i hi
      · rw [if_neg h40, if_neg h40]
        exact bad
theorem ru_feed (h : pc_R σ S) (hm : pm_R μ S) (v : Int32) : pq_any (cl_X0_feed 19 σ v) (mo_feed μ v) := by
  have bad : pq_any (some ((-1000001 : Int32), σ)) (some ((-1000001 : Int32), μ)) := ⟨S, _, _, _, rfl, rfl, h, hm⟩
  have i2 : cl_X0_isIn v.toInt64 (0 : Int64) (255 : Int64) = some (pq_in v 0 (nI 255)) := pq_c v 0 255
  have j2 : mo_in v (0 : Int32) (255 : Int32) = some (pq_in v 0 (nI 255)) := pq_m v 0 255
  unfold cl_X0_feed mo_feed
  rw [i2, j2]
  simp only [pb_b1]
  cases hv : pq_in v 0 (nI 255) with
  | false => exact bad
  | true =>
    simp only [pb_ibT]
    obtain ⟨b, hb, rfl⟩ := (pq_le (by omega)).mp hv
    have h' := h
    obtain ⟨f, d, hN, pp, im, rw_, ⟨t1, t2, t3⟩, ⟨c1, c2, c3⟩, tr⟩ := h
    have f0 := f
    obtain ⟨hn54, ⟨x0, x1, x2, -⟩, -, -, ⟨⟨a1, a2⟩, -⟩, -⟩ := f
    obtain ⟨m1, m2, m3, m4, ⟨m5, m6⟩, m7, m8⟩ := hm
    have hm' : pm_R μ S := ⟨m1, m2, m3, m4, ⟨m5, m6⟩, m7, m8⟩
    rw [pb_gdD _ x0, t2, m5]
    by_cases h130 : nI (pa_tp S) = (130 : Int32)
    · rw [if_pos h130, if_pos h130]
      exact ⟨S, _, _, _, rfl, rfl, h', hm'⟩
    · rw [if_neg h130, if_neg h130]
      obtain ⟨n, hn⟩ : ∃ n, n = pa_tp S := ⟨_, rfl⟩
      rw [← hn] at t1 t2 t3 m5 m6 h130 ⊢
      have hlt : n < 130 := by
        rcases Nat.lt_or_ge n 130 with q | q
        · exact q
        · exact absurd (by rw [show n = 130 by omega]; rfl) h130
      obtain ⟨B, hB⟩ : ∃ B, B = (nI b).toInt8.toInt32.toInt8.toInt32 := ⟨_, rfl⟩
      have hBb : B &&& 255 = nI b := by rw [hB]; exact ru_byte ⟨b, by omega⟩
      have e9 : nI n + (1 : Int32) = nI (n + 1) := (nI_succ n).symm
      rw [x2, pb_gdD _ (by decide), e9, pb_let, pb_gdD _ (show cl_k (cl_wi σ 19 2 (nI (n + 1))) 29 = 21 from a1), show cl_l (cl_wi σ 19 2 (nI (n + 1))) 29 = 130 from a2, pn_gdi _ hlt (by omega), nI_clamp (by omega), pb_let, ← hB, pn_gdi _ hlt (by omega)]
      obtain ⟨τ, hτ⟩ : ∃ τ, τ = cl_wi (cl_wi σ 19 2 (nI (n + 1))) 29 n B := ⟨_, rfl⟩
      rw [← hτ]
      let S' : pa_S := (S.1, S.2.1, S.2.2.1, (va_up (pa_tape S) n b, n + 1), S.2.2.2.2)
      refine ⟨S', nI (n + 1), τ, mo_I (mo_A μ 4 n (nI b)) 1 (nI (n + 1)), ?_, ?_, ?_, ?_⟩
      · congr 2
        rw [hτ]
        rfl
      · have e : (mo_A μ 4 n (nI b)).1 1 + (1 : Int32) = nI (n + 1) := by
          show μ.1 1 + 1 = _
          rw [m5, e9]
        rw [e]
        rfl
      · obtain ⟨ρ, hρ⟩ : ∃ ρ, ρ = cl_wi σ 29 n B := ⟨_, rfl⟩
        have i29 : cl_i ρ 29 = upd (cl_i σ 29) n B := by rw [hρ, pc_wi, pc_i_si_s]
        have i19 : cl_i ρ 19 = cl_i σ 19 := by rw [hρ, pc_wi, pc_i_si_n _ _ _ _ (by decide)]
        have hfr := pc_fr_si σ 29 (upd (cl_i σ 29) n B) (Z := fun y => y = 29) (Y := pc_0) rfl
        have hτ2 : τ = cl_si ρ 19 (upd (cl_i ρ 19) 2 (nI (n + 1))) := by
          rw [hτ, hρ]
          refine Prod.ext rfl (Prod.ext rfl (Prod.ext rfl (Prod.ext ?_ rfl)))
          funext y
          show va_up (va_up σ.2.2.2.1 19 (upd (cl_i σ 19) 2 (nI (n + 1)))) 29 (upd (cl_i σ 29) n B) y = va_up (va_up σ.2.2.2.1 29 (upd (cl_i σ 29) n B)) 19 (upd (cl_i σ 19) 2 (nI (n + 1))) y
          unfold va_up
          by_cases q1 : y = 29
          · simp [q1]
          · by_cases q2 : y = 19
            · simp [q2]
            · simp [q1, q2]
        have R1 : pc_R ρ S := by
          have ap : ∀ o, 29 < o → pc_ap σ (fun y => y = 29) pc_0 o := fun o ho => ⟨fun y _ hy => by
            have : y = 29 := hy
            subst this
            exact ⟨by omega, pf_kd f0 (by omega) (by omega)⟩, fun _ _ h => h.elim⟩
          have lo : ∀ i, i < 27 → pd_lo σ i ≠ 0 → 54 < pd_lo σ i := fun i hi h0 => (pm_lo d hi h0).1
          rw [hρ]
          refine ⟨pf_fr hfr (fun y hz => by have : y = 29 := hz; omega) (fun y hy => hy.elim) f0, d, ⟨pc_N_fr hfr (ap 30 (by omega)) hN.2 hN.1, hN.2⟩, ⟨pp.1, pp.2.1, fun i hi => ?_⟩, fun i hi => ?_, fun i hi => ?_, ?_, ⟨c1, c2, c3⟩, ?_⟩
          · obtain ⟨q1, q2, q3⟩ := pp.2.2 i hi
            have hi16 : i < 16 := by have := pp.2.1; omega
            have := lo i (by omega) (by rw [pd_p hi16]; exact q1)
            rw [pd_p hi16] at this
            exact ⟨q1, pc_N_fr hfr (ap (cl_r σ 53 i) (by omega)) q3 q2, q3⟩
          · rcases im i hi with q | ⟨N', q1, q2, q3, q4⟩
            · exact Or.inl q
            · have := lo (16 + i) (by omega) (by rw [pd_i hi]; exact q2)
              rw [pd_i hi] at this
              exact Or.inr ⟨N', q1, q2, pc_N_fr hfr (ap (cl_r σ 54 i) (by omega)) q4 q3, q4⟩
          · show pr_row (cl_wi σ 29 n B) (cl_r σ (21 + i) 0) _
            by_cases h0 : cl_r σ (21 + i) 0 = 0
            · have q := rw_ i hi
              rw [h0] at q ⊢
              rcases q with q | ⟨_, _, _, _, _, _, q, _⟩
              · exact Or.inl q
              · exact absurd rfl q
            · have g := pm_lo d (by omega : 18 + i < 27) (by rw [pd_h hi]; exact h0)
              rw [pd_h hi] at g
              unfold pd_sz at g
              exact pr_row_fr hfr (by omega) (fun hz => by have : cl_r σ (21 + i) 0 = 29 := hz; omega) (rw_ i hi)
          · refine ⟨by omega, by rw [← hn]; exact t2, fun j hj => ?_⟩
            rw [← hn] at hj
            show _ ∧ upd (cl_i σ 29) n B j &&& 255 = _
            unfold upd
            rw [if_neg (by omega)]
            exact t3 j hj
          · obtain ⟨⟨u0, u1, u2, u3, u4⟩, u5, u6, u7⟩ := tr
            have := lo 26 (by omega) (by rw [pd_t]; exact u0)
            rw [pd_t] at this
            refine ⟨⟨u0, u1, u2, u3, u4⟩, u5, ?_, fun i hi => ?_⟩
            · show cl_i (cl_si σ 29 _) (cl_r σ 19 11) 1 = _
              rw [pc_i_si_n _ _ _ _ (by omega)]
              exact u6
            · show cl_i (cl_si σ 29 _) (cl_r σ 19 11 + 1) i = _
              rw [pc_i_si_n _ _ _ _ (by omega)]
              exact u7 i hi
        rw [hτ2]
        refine pc_R_x R1 S' rfl rfl rfl rfl R1.2.2.2.1 ⟨by show n + 1 ≤ 130; omega, rfl, fun j hj => ?_⟩ ⟨by rw [i19]; exact c1, by rw [i19]; exact c2, by rw [i19]; exact c3⟩
        have hj2 : j < n + 1 := hj
        show va_up (pa_tape S) n b j < 256 ∧ cl_i ρ 29 j &&& 255 = nI (va_up (pa_tape S) n b j)
        rw [i29]
        unfold va_up upd
        by_cases hjn : j = n
        · rw [if_pos hjn, if_pos hjn]
          exact ⟨by omega, hBb⟩
        · rw [if_neg hjn, if_neg hjn]
          exact t3 j (by omega)
      · refine ⟨m1, m2, m3, m4, ⟨rfl, fun j hj => ?_⟩, m7, m8⟩
        have hj2 : j < n + 1 := hj
        show va_up μ.2 4 (upd (μ.2 4) n (nI b)) 4 j = nI (va_up (pa_tape S) n b j)
        rw [va_up_self]
        unfold va_up upd
        by_cases hjn : j = n
        · rw [if_pos hjn, if_pos hjn]
        · rw [if_neg hjn, if_neg hjn]
          exact m6 j (by omega)
end RU
