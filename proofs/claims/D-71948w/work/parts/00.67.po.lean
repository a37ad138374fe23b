/-! undo, restore, image -/
/-- a net of none -/
def po_N0 : pn_N := ((0, 0, 0, 0), fun _ => 1, fun _ => -1, fun _ => 0, fun _ => 0, fun _ => 0)
theorem po_ok0 : pn_ok po_N0 := ⟨Nat.zero_le _, Nat.zero_le _, fun h => absurd h (by decide), fun p hp => absurd hp (Nat.not_lt_zero p), fun p hp => absurd hp (Nat.not_lt_zero p)⟩
section PO
variable {σ : cl_S} {μ : mo_S} {S : pa_S}
/-- what is true of the net after Net.become out of one that lies apart -/
theorem po_bec (h : pc_R σ S) {o : Nat} {N : pn_N} (ho : 54 < o) (hN : pc_N σ o N) (hok : pn_ok N) : ∃ τ, cl_X2_become 30 o σ = some (30, τ) ∧ pc_R τ ((N, pa_past S, pa_acts S), S.2) ∧ cl_i τ 19 = cl_i σ 19 ∧ cl_k τ 19 = 0 := by
  have s30 := h.2.2.1.1.1
  obtain ⟨τ, b1, b2, b3, b4⟩ := pk_become s30 hN hok (by omega)
  have hn := h.1.1
  refine ⟨τ, b1, pc_R_fr b2 (fun y _ hy => by unfold pk_Z at hy; omega) (fun y _ hy => by unfold pk_Y at hy; omega) h ⟨b3, hok⟩, (b2.2 19 (by omega)).2.2.1 (by unfold pk_Z; omega), ?_⟩
  rw [(b2.2 19 (by omega)).1]
  exact h.1.2.1.1
theorem po_mcp (hm : pm_R μ S) {k p : Nat} (hk : k = 8 ∨ k = 9) (hp : p + 52 ≤ mo_len k) {N : pn_N} (hok : pn_ok N) (hw : pn_m (fun i => μ.2 k (p + i)) N) : ∃ μ', mo_copies k 5 μ (nI p) (0 : Int32) = some μ' ∧ pm_R μ' ((N, pa_past S, pa_acts S), S.2) ∧ μ'.1 = μ.1 := by
  have hl : mo_len 5 = 52 := rfl
  have hb : p + 52 < 2 ^ 31 := by rcases hk with rfl | rfl <;> (simp only [mo_len] at hp; omega)
  have hc := pj_copies (μ := μ) (k0 := k) (k2 := 5) (by omega) (p1 := p) (p3 := 0) hp (by omega) ⟨hb, by omega⟩
  rw [nI_0] at hc
  refine ⟨_, hc, pm_R_net (μ' := (μ.1, va_up μ.2 5 (va_cpy (μ.2 k) (μ.2 5) p 0 52))) hm rfl (fun j hj => ?_) ?_, rfl⟩
  · show va_up μ.2 5 _ j = _
    rw [va_up_ne _ _ hj]
  · refine pn_m_c hok (fun i hi => ?_) hw
    have e : ((μ.1, va_up μ.2 5 (va_cpy (μ.2 k) (μ.2 5) p 0 52)) : mo_S).2 5 = va_cpy (μ.2 k) (μ.2 5) p 0 52 := by
      show va_up μ.2 5 (va_cpy (μ.2 k) (μ.2 5) p 0 52) 5 = _
      exact va_up_self _ _ _
    rw [e]
    unfold va_cpy
    rw [if_pos ⟨by omega, by omega⟩, Nat.sub_zero]
theorem po_undo (h : pc_R σ S) (hm : pm_R μ S) : pq_any (cl_X0_undo 19 σ) (mo_undo μ) := by
  obtain ⟨hN, hpast, ha⟩ := pe_ok h
  have h' := h
  obtain ⟨⟨hn54, ⟨x0, x1, x2, x3, x4, x5, x6, x7, x8⟩, -, -, ⟨-, ⟨a3, a4⟩, -⟩, -⟩, d, -, ⟨p1, p2, p3⟩, im, rw_, tp, ⟨c1, c2, c3⟩, tr⟩ := h
  have e8 : μ.1 8 = nI (pa_acts S) := hm.2.1.1
  unfold cl_X0_undo mo_undo
  rw [pb_gdD _ x0, c1, e8]
  by_cases h0 : pa_acts S = 0
  · have e0 : nI (pa_acts S) = 0 := by rw [h0]; rfl
    rw [if_pos e0, if_pos e0]
    exact ⟨S, _, _, _, rfl, rfl, h', hm⟩
  have e0 : ¬ nI (pa_acts S) = 0 := fun e => h0 ((pb_inj (b := 0) (by omega) (by omega)).mp e)
  rw [if_neg e0, if_neg e0]
  obtain ⟨a, hae⟩ : ∃ a, pa_acts S = a + 1 := ⟨pa_acts S - 1, by omega⟩
  have em : nI (pa_acts S) - (1 : Int32) = nI a := by rw [hae, pl_1, pb_sub (by omega)]; rfl
  rw [em, pb_let]
  have R1 : pc_R (cl_wi σ 19 9 (nI a)) ((pa_net S, pa_past S, a), S.2) := by
    refine pc_R_x h' _ rfl rfl rfl rfl ⟨p1, by show a ≤ 16; omega, fun i hi => p3 i (by have : i < a := hi; omega)⟩ ⟨tp.1, tp.2.1, tp.2.2⟩ ⟨rfl, c2, c3⟩
  obtain ⟨q1, q2, q3⟩ := p3 a (by omega)
  have R2 := R1
  obtain ⟨⟨-, ⟨y0, -, -, y3, -, -, -, y7, -⟩, -, -, ⟨-, ⟨b3, b4⟩, -⟩, -⟩, d1, -⟩ := R2
  have i9 : cl_i (cl_wi σ 19 9 (nI a)) 19 9 = nI a := by rw [pc_wi, pc_i_si_s]; rfl
  have ha16 : a < 16 := by omega
  have lo := (pm_lo d1 (by omega : a < 27) (by rw [pd_p ha16]; exact q1)).1
  rw [pd_p ha16] at lo
  have qN : pc_N (cl_wi σ 19 9 (nI a)) (cl_r (cl_wi σ 19 9 (nI a)) 53 a) (pa_past S a) := by
    refine pc_N_fr (pc_fr_si σ 19 _ (Z := fun y => y = 19) (Y := pc_0) rfl) ⟨fun y _ hy => ?_, fun _ _ h => h.elim⟩ q3 q2
    have hy' : y = 19 := hy
    subst hy'
    refine ⟨?_, pf_kd h'.1 (by omega) (by omega)⟩
    have lo' : 54 < cl_r σ 53 a := lo
    omega
  obtain ⟨τ, t1, t2, t3, t4⟩ := po_bec R1 lo qN q3
  have hmI : pm_R (mo_I μ 8 (nI a)) ((pa_net S, pa_past S, a), S.2) := pi_R (μ := μ) (μ' := mo_I μ 8 (nI a)) ⟨fun k hk => by show upd μ.1 8 _ k = _; unfold upd; rw [if_neg hk], fun _ _ => rfl⟩ hm _ _ rfl (fun k hk => hm.2.1.2 k (by omega))
  have l8 : mo_len 8 = 832 := rfl
  obtain ⟨μ', u1, u2, u3⟩ := po_mcp hmI (k := 8) (p := 52 * a) (Or.inl rfl) (by omega) q3 (hm.2.1.2 a (by omega))
  have e52 : (52 : Int32) * (mo_I μ 8 (nI a)).1 8 = nI (52 * a) := pb_mul 52 a
  refine ⟨_, nI a, τ, μ', ?_, ?_, t2, u2⟩
  · rw [y3, pb_gdD _ (by decide), y7, pb_gdD _ (by decide), pb_gdD _ b3, i9, b4, pn_gdi _ ha16 (by omega), nI_clamp (by omega), pb_gdD _ (show cl_r (cl_wi σ 19 9 (nI a)) 53 a ≠ 0 from q1), pb_gdD _ R1.2.2.1.1.1.2.1, t1, pb_b2, pb_gdD _ (by decide), pb_gdD _ t4, t3, i9]
  · rw [e52, u1, pb_b1, u3]
    rfl
theorem po_restore (h : pc_R σ S) (hm : pm_R μ S) (v : Int32) : pq_any (cl_X0_restore 19 σ v) (mo_restore μ v) := by
  have bad : pq_any (some ((-1000001 : Int32), σ)) (some ((-1000001 : Int32), μ)) := ⟨S, _, _, _, rfl, rfl, h, hm⟩
  have h' := h
  obtain ⟨⟨hn54, ⟨x0, x1, x2, x3, x4, x5, x6, x7, x8⟩, -, -, ⟨-, -, ⟨a3, a4⟩⟩, -⟩, d, hN30, ⟨p1, p2, p3⟩, im, rw_, tp, ⟨c1, c2, c3⟩, tr⟩ := h
  have i1 : cl_X0_isIn v.toInt64 (0 : Int64) (1 : Int64) = some (pq_in v 0 (nI 1)) := pq_c v 0 1
  have j1 : mo_in v (0 : Int32) (1 : Int32) = some (pq_in v 0 (nI 1)) := pq_m v 0 1
  unfold cl_X0_restore mo_restore
  rw [i1, j1]
  simp only [pb_b1]
  cases hv : pq_in v 0 (nI 1) with
  | false => exact bad
  | true =>
    obtain ⟨k, hk, rfl⟩ := (pq_le (by omega)).mp hv
    simp only [pb_ibT]
    have i2 : dx_inb (nI k) 2 = true := by rw [pb_inb (by omega), decide_eq_true (by omega)]
    rw [pb_gdD _ x0, x8, pb_gdD _ (by decide), pb_gdD _ a3, a4, nI_clamp (by omega)]
    simp only [i2, pb_gdT]
    rcases im k (by omega) with ⟨g1, g2⟩ | ⟨N, g1, g2, g3, g4⟩
    · rcases hm.2.2.1 k (by omega) with ⟨g5, g6⟩ | ⟨N, g5, -⟩
      · rw [if_pos g2, if_pos g6]
        exact ⟨S, _, _, _, rfl, rfl, h', hm⟩
      · rw [g1] at g5; cases g5
    · rcases hm.2.2.1 k (by omega) with ⟨g5, -⟩ | ⟨N2, g5, g6, g7⟩
      · rw [g1] at g5; cases g5
      · rw [g1] at g5
        cases g5
        rw [if_neg g2, if_neg (by rw [g6]; decide)]
        have lo := (pm_lo d (by omega : 16 + k < 27) (by rw [pd_i (by omega : k < 2)]; exact g2)).1
        rw [pd_i (by omega : k < 2)] at lo
        obtain ⟨τ, t1, t2, t3, t4⟩ := po_bec h' lo g3 g4
        have l9 : mo_len 9 = 104 := rfl
        obtain ⟨μ', u1, u2, u3⟩ := po_mcp hm (k := 9) (p := 52 * k) (Or.inr rfl) (by omega) g4 g7
        have e52 : (52 : Int32) * nI k = nI (52 * k) := pb_mul 52 k
        refine ⟨((N, pa_past S, 0), S.2), 1, cl_wi τ 19 9 0, mo_I μ' 8 0, ?_, ?_, ?_, ?_⟩
        · rw [x3, pb_gdD _ (by decide), pb_gdD _ (by decide), pb_gdD _ h'.2.2.1.1.1.2.1, t1, pb_b2, pb_gdD _ (by decide), pb_gdD _ t4]
        · rw [e52, u1, pb_b1]
        · have T := t2
          obtain ⟨-, -, -, ⟨w1, w2, w3⟩, -, -, wt, ⟨-, wc2, wc3⟩, -⟩ := T
          refine pc_R_x t2 _ rfl rfl rfl rfl ⟨w1, by show 0 ≤ 16; omega, fun i hi => by have : i < 0 := hi; omega⟩ ⟨wt.1, wt.2.1, wt.2.2⟩ ⟨rfl, wc2, wc3⟩
        · exact pi_R (μ := μ') (μ' := mo_I μ' 8 0) ⟨fun k hk => by show upd μ'.1 8 _ k = _; unfold upd; rw [if_neg hk], fun _ _ => rfl⟩ u2 _ 0 rfl (fun k hk => by omega)
/-- an image's place takes a net that lies apart -/
theorem po_img (h : pc_R σ S) {k : Nat} (hk : k < 2) (h0 : cl_r σ 54 k ≠ 0) (hs : pc_sh σ (cl_r σ 54 k)) : ∃ τ, cl_X2_become (cl_r σ 54 k) 30 σ = some (cl_r σ 54 k, τ) ∧ pc_R τ (S.1, va_up (pa_img S) k (some (pa_net S)), S.2.2) := by
  have h' := h
  obtain ⟨f, d, ⟨hN, hok⟩, ⟨p1, p2, p3⟩, im, rw_, tp, ⟨c1, c2, c3⟩, tr⟩ := h
  have hp := pd_i (σ := σ) hk
  obtain ⟨m1, m2⟩ := pm_lo d (by omega : 16 + k < 27) (by rw [hp]; exact h0)
  have hsz : pd_sz (16 + k) = 6 := by unfold pd_sz; rw [if_pos (by omega)]
  rw [hsz, hp] at m2
  rw [hp] at m1
  obtain ⟨τ, b1, b2, b3, b4⟩ := pk_become hs hN hok (by omega)
  refine ⟨τ, b1, ?_⟩
  have key := pm_rg b2 (i := 16 + k) (by omega) (by rw [hp]; exact h0) (fun y hy hz => ?_) (fun y hy hz => ?_) h'
  · obtain ⟨f', d', e, n30, pa, img, rows, ⟨i19, i29, r53, r54, r19, r21⟩, tr'⟩ := key
    refine ⟨f', d', ⟨n30, hok⟩, ⟨fun j hj => ?_, p2, fun j hj => ?_⟩, fun j hj => ?_, fun j hj => ?_, ⟨tp.1, by rw [i19]; exact tp.2.1, fun j hj => by rw [i29]; exact tp.2.2 j hj⟩, ⟨by rw [i19]; exact c1, by rw [i19]; exact c2, by rw [i19]; exact c3⟩, tr' (by omega)⟩
    · rw [r53]
      rcases p1 j hj with q | q
      · exact Or.inl q
      · exact Or.inr ((pa j hj (by omega) (by have := q.1.1; omega)).1 q)
    · rw [r53]
      obtain ⟨q1, q2, q3⟩ := p3 j hj
      have hp2 : pa_acts S ≤ 16 := p2
      have hj2 : j < pa_acts S := hj
      exact ⟨q1, (pa j (by omega) (by omega) q1).2 _ q3 q2, q3⟩
    · rw [r54]
      show (va_up (pa_img S) k (some (pa_net S)) j = none ∧ _) ∨ ∃ N, va_up (pa_img S) k (some (pa_net S)) j = some N ∧ _
      by_cases hjk : j = k
      · rw [hjk, va_up_self]
        exact Or.inr ⟨_, rfl, h0, b3, hok⟩
      · rw [va_up_ne _ _ hjk]
        rcases im j hj with q | ⟨N', q1, q2, q3, q4⟩
        · exact Or.inl q
        · exact Or.inr ⟨N', q1, q2, img j hj (by omega) q2 N' q4 q3, q4⟩
    · rw [r21 j hj]
      exact rows j hj (by omega)
  · right
    refine ⟨?_, ?_⟩
    · unfold pd_in
      rw [hsz, hp]
      unfold pk_Z at hz
      omega
    · unfold pk_Z at hz
      obtain ⟨-, k0, -, ⟨k2, -⟩, ⟨k3, -⟩, ⟨k4, -⟩, ⟨k5, -⟩, -⟩ := hs
      unfold pc_pw
      rcases hz with rfl | hz
      · rw [k0]; omega
      · have : y = cl_r σ 54 k + 2 ∨ y = cl_r σ 54 k + 3 ∨ y = cl_r σ 54 k + 4 ∨ y = cl_r σ 54 k + 5 := by omega
        rcases this with rfl | rfl | rfl | rfl
        · rw [k2]; omega
        · rw [k3]; omega
        · rw [k4]; omega
        · rw [k5]; omega
  · right
    unfold pd_in
    rw [hsz, hp]
    unfold pk_Y at hz
    omega
theorem po_new (h : pc_R σ S) {τ : cl_S} (hr : cl_X2_init (cl_n σ + 1) (cl_nw σ 2 0) = some τ) : pc_N τ (cl_n σ + 1) po_N0 := by
  have hK : cl_K ≤ cl_n σ := by have := h.1.1; unfold cl_K; omega
  obtain ⟨τ', b1, b2, b3, b4, b5, b6, b7, -⟩ := pl_init σ hK
  rw [hr] at b1
  cases b1
  refine ⟨b4, ⟨b5 0, b5 1, b5 2, b5 3⟩, fun p hp => absurd hp (Nat.not_lt_zero p), fun p hp => absurd hp (Nat.not_lt_zero p), fun j _ => ⟨Or.inl (b6 j).1, Or.inl (b6 j).2⟩⟩
theorem po_mimg (hm : pm_R μ S) (hN : pn_ok (pa_net S)) (hI : ∀ j N, j < 2 → pa_img S j = some N → pn_ok N) {k : Nat} (hk : k < 2) : ∃ μ', mo_copies 5 9 μ (0 : Int32) (nI (52 * k)) = some μ' ∧ pm_R (mo_A μ' 10 k 1) (S.1, va_up (pa_img S) k (some (pa_net S)), S.2.2) := by
  have l5 : mo_len 5 = 52 := rfl
  have l9 : mo_len 9 = 104 := rfl
  have hc := pj_copies (μ := μ) (k0 := 5) (k2 := 9) (by decide) (p1 := 0) (p3 := 52 * k) (by omega) (by omega) (by omega)
  rw [nI_0] at hc
  refine ⟨_, hc, ?_⟩
  obtain ⟨ν, hν⟩ : ∃ ν : mo_S, ν = mo_A (μ.1, va_up μ.2 9 (va_cpy (μ.2 5) (μ.2 9) 0 (52 * k) 52)) 10 k 1 := ⟨_, rfl⟩
  rw [← hν]
  have e1 : ν.1 = μ.1 := by rw [hν]; rfl
  have e2 : ∀ j, j ≠ 9 → j ≠ 10 → ν.2 j = μ.2 j := by
    intro j h1 h2
    rw [hν]
    show va_up (va_up μ.2 9 (va_cpy (μ.2 5) (μ.2 9) 0 (52 * k) 52)) 10 (upd (va_up μ.2 9 (va_cpy (μ.2 5) (μ.2 9) 0 (52 * k) 52) 10) k 1) j = _
    rw [va_up_ne _ _ h2, va_up_ne _ _ h1]
  have e9 : ν.2 9 = va_cpy (μ.2 5) (μ.2 9) 0 (52 * k) 52 := by
    rw [hν]
    show va_up (va_up μ.2 9 (va_cpy (μ.2 5) (μ.2 9) 0 (52 * k) 52)) 10 (upd (va_up μ.2 9 (va_cpy (μ.2 5) (μ.2 9) 0 (52 * k) 52) 10) k 1) 9 = _
    rw [va_up_ne _ _ (by decide), va_up_self]
  have e10 : ν.2 10 = upd (μ.2 10) k 1 := by
    rw [hν, pe_mA]
    show upd (va_up μ.2 9 (va_cpy (μ.2 5) (μ.2 9) 0 (52 * k) 52) 10) k 1 = _
    rw [va_up_ne _ _ (by decide)]
  obtain ⟨m1, m2, m3, m4, m5, m6, m7⟩ := hm
  refine ⟨by rw [e2 5 (by decide) (by decide)]; exact m1, by rw [e1, e2 8 (by decide) (by decide)]; exact m2, fun j hj => ?_, fun j hj => ?_, by rw [e1, e2 4 (by decide) (by decide)]; exact m5, by rw [e1]; exact m6, by rw [e1, e2 16 (by decide) (by decide)]; exact m7⟩
  · show pm_img ν j (va_up (pa_img S) k (some (pa_net S)) j)
    unfold pm_img
    rw [e9, e10]
    by_cases hjk : j = k
    · rw [hjk, va_up_self]
      refine Or.inr ⟨_, rfl, ?_, ?_⟩
      · unfold upd; rw [if_pos rfl]
      · refine pn_m_c hN (fun i hi => ?_) m1
        unfold va_cpy
        rw [if_pos ⟨by omega, by omega⟩, show 0 + (52 * k + i - 52 * k) = i by omega]
    · rw [va_up_ne _ _ hjk]
      have eu : upd (μ.2 10) k 1 j = μ.2 10 j := by unfold upd; rw [if_neg hjk]
      rw [eu]
      rcases m3 j hj with q | ⟨N', q1, q2, q3⟩
      · exact Or.inl q
      · refine Or.inr ⟨N', q1, q2, pn_m_c (hI j N' hj q1) (fun i hi => ?_) q3⟩
        unfold va_cpy
        rw [if_neg (by omega)]
  · unfold pm_row
    rw [e2 0 (by decide) (by decide), e2 1 (by decide) (by decide), e2 2 (by decide) (by decide)]
    exact m4 j hj
theorem po_image (h : pc_R σ S) (hm : pm_R μ S) (v : Int32) : pq_any (cl_X0_image 19 σ v) (mo_image μ v) := by
  have bad : pq_any (some ((-1000001 : Int32), σ)) (some ((-1000001 : Int32), μ)) := ⟨S, _, _, _, rfl, rfl, h, hm⟩
  have h' := h
  obtain ⟨f, d, ⟨hN30, hok⟩, ⟨p1, p2, p3⟩, im, rw_, tp, ⟨c1, c2, c3⟩, tr⟩ := h
  obtain ⟨hn54, ⟨x0, x1, x2, x3, x4, x5, x6, x7, x8⟩, -, -, ⟨-, -, ⟨a3, a4⟩⟩, -⟩ := f
  have hI : ∀ j N, j < 2 → pa_img S j = some N → pn_ok N := by
    intro j N hj hN
    rcases im j hj with ⟨q, -⟩ | ⟨N', q1, -, -, q4⟩
    · rw [q] at hN; cases hN
    · rw [q1] at hN; cases hN; exact q4
  have i1 : cl_X0_isIn v.toInt64 (0 : Int64) (1 : Int64) = some (pq_in v 0 (nI 1)) := pq_c v 0 1
  have j1 : mo_in v (0 : Int32) (1 : Int32) = some (pq_in v 0 (nI 1)) := pq_m v 0 1
  unfold cl_X0_image mo_image
  rw [i1, j1, pt_cT h', pt_mT hm hok]
  simp only [pb_b1]
  cases hv : pq_in v 0 (nI 1) with
  | false => exact bad
  | true =>
    simp only [pb_ibT]
    rw [pb_gdD _ x0]
    cases hT : decide (0 < pn_P (pa_net S)) with
    | false => exact ⟨S, _, _, _, rfl, rfl, h', hm⟩
    | true =>
      simp only [pb_ibT]
      obtain ⟨k, hk, rfl⟩ := (pq_le (by omega)).mp hv
      have i2 : dx_inb (nI k) 2 = true := by rw [pb_inb (by omega), decide_eq_true (by omega)]
      have cc : (nI k).toNatClampNeg = k := nI_clamp (by omega)
      have e52 : (52 : Int32) * nI k = nI (52 * k) := pb_mul 52 k
      obtain ⟨μ', u1, u2⟩ := po_mimg hm hok hI (k := k) (by omega)
      rw [e52, u1, pb_b1, i2, pb_gdT, cc, x8, pb_gdD _ (by decide), pb_gdD _ a3, a4, i2, pb_gdT]
      have main : ∀ τ, pc_R τ S → cl_r τ 54 k ≠ 0 → pc_sh τ (cl_r τ 54 k) → pq_any (cl_X0_image_J45 19 τ (nI k)) (some ((1 : Int32), mo_A μ' 10 k 1)) := by
        intro τ hτ h0 hs
        obtain ⟨τ2, t1, t2⟩ := po_img hτ (by omega : k < 2) h0 hs
        obtain ⟨⟨-, ⟨y0, -, -, y3, -, -, -, -, y8⟩, -, -, ⟨-, -, ⟨b3, b4⟩⟩, -⟩, -⟩ := hτ
        refine ⟨_, 1, τ2, mo_A μ' 10 k 1, ?_, rfl, t2, u2⟩
        unfold cl_X0_image_J45
        rw [pb_gdD _ y0, y8, pb_gdD _ (by decide), pb_gdD _ b3, b4, i2, pb_gdT, cc, pb_gdD _ h0, y3, pb_gdD _ (by decide), pb_gdD _ hs.2.1, t1, pb_b2, pb_gdD _ h0]
      by_cases h0 : cl_r σ 54 k = 0
      · rw [if_pos h0, pb_gdD _ (by decide)]
        obtain ⟨τ, b1, b2, b3, b4, b5⟩ := pj_new h'
        have k54 : cl_k τ 54 = 27 := by rw [(b2.2 54 (by omega)).1, a3]
        have l54 : cl_l τ 54 = 2 := by rw [(b2.2 54 (by omega)).2.1, a4]
        rw [b1, pb_b1, pb_gdD _ k54, l54, i2, pb_gdT, pb_gdD _ b4.2.1, pb_let]
        obtain ⟨f', d', hN', ⟨q1, q2, q3⟩, im', rw', tp', sc', tr'⟩ := b5
        have hk2 : k < 2 := by omega
        have hnone : pa_img S k = none := by
          rcases im k hk2 with ⟨q, -⟩ | ⟨N', -, q2, -⟩
          · exact q
          · exact absurd h0 q2
        have h := pc_fr_sr τ 54 (va_up (cl_r τ 54) k (cl_n σ + 1)) (Z := pc_0) (Y := fun y => y = 54) rfl
        have ap : ∀ o, 54 < o ∨ o + 6 < 54 → pc_ap τ pc_0 (fun y => y = 54) o := fun o ho => ⟨fun _ _ h => h.elim, fun y _ hy => by have : y = 54 := hy; omega⟩
        have fx : pf (cl_wr τ 54 k (cl_n σ + 1)) := pf_fr h (fun y hz => hz.elim) (fun y hy => by have : y = 54 := hy; omega) f'
        have elo : ∀ j, j < 27 → j ≠ 16 + k → pd_lo (cl_wr τ 54 k (cl_n σ + 1)) j = pd_lo σ j := by
          intro j hj hja
          have e2 := (pd_fr b2 (by omega) (fun y hy => hy.elim) d).2 j hj
          rw [← e2]
          unfold pd_lo
          rw [pc_wr]
          split
          · rw [pc_r_sr, if_neg (by decide)]
          · split
            · rw [pc_r_sr, if_pos rfl, va_up_ne _ _ (by omega)]
            · split
              · rw [pc_r_sr, if_neg (by omega)]
              · rw [pc_r_sr, if_neg (by decide)]
        have dx : pd (cl_wr τ 54 k (cl_n σ + 1)) := by
          refine pd_new d (i := 16 + k) (by omega) hn54 elo ?_ ?_
          · rw [pd_i hk2, pc_wr, pc_r_sr, if_pos rfl, va_up_self]
          · show _ ≤ cl_n τ
            rw [b3]
            unfold pd_sz
            rw [if_pos (by omega)]
            omega
        have r54 : cl_r (cl_wr τ 54 k (cl_n σ + 1)) 54 = va_up (cl_r τ 54) k (cl_n σ + 1) := by rw [pc_wr, pc_r_sr, if_pos rfl]
        have hsN : pc_sh (cl_wr τ 54 k (cl_n σ + 1)) (cl_n σ + 1) := pc_sh_fr h (fun hy => by have : cl_n σ + 1 = 54 := hy; omega) b4
        have hN0 : pc_N (cl_wr τ 54 k (cl_n σ + 1)) (cl_n σ + 1) po_N0 := pc_N_fr h (ap _ (by omega)) po_ok0 (po_new h' b1)
        have hR2 : pc_R (cl_wr τ 54 k (cl_n σ + 1)) (S.1, va_up (pa_img S) k (some po_N0), S.2.2) := by
          refine ⟨fx, dx, ⟨pc_N_fr h (ap 30 (by omega)) hN'.2 hN'.1, hN'.2⟩, ⟨fun j hj => ?_, q2, fun j hj => ?_⟩, fun j hj => ?_, fun j hj => ?_, tp', sc', ?_⟩
          · rw [pc_wr, pc_r_sr, if_neg (by decide)]
            rcases q1 j hj with q | q
            · exact Or.inl q
            · have : 54 < cl_r τ 53 j := by
                have := (pm_lo d' (by omega : j < 27) (by rw [pd_p hj]; have := q.1.1; omega)).1
                rw [pd_p hj] at this
                exact this
              exact Or.inr (pc_sh_fr h (fun hy => by have : cl_r τ 53 j = 54 := hy; omega) q)
          · rw [pc_wr, pc_r_sr, if_neg (by decide)]
            obtain ⟨g1, g2, g3⟩ := q3 j hj
            have hq2 : pa_acts S ≤ 16 := q2
            have hj2 : j < pa_acts S := hj
            have : 54 < cl_r τ 53 j := by
              have hj16 : j < 16 := by omega
              have := (pm_lo d' (by omega : j < 27) (by rw [pd_p hj16]; exact g1)).1
              rw [pd_p hj16] at this
              exact this
            exact ⟨g1, pc_N_fr h (ap _ (by omega)) g3 g2, g3⟩
          · rw [r54]
            show (va_up (pa_img S) k (some po_N0) j = none ∧ _) ∨ ∃ N, va_up (pa_img S) k (some po_N0) j = some N ∧ _
            by_cases hjk : j = k
            · rw [hjk, va_up_self, va_up_self]
              exact Or.inr ⟨_, rfl, by omega, hN0, po_ok0⟩
            · rw [va_up_ne _ _ hjk, va_up_ne _ _ hjk]
              rcases im' j hj with q | ⟨N', g1, g2, g3, g4⟩
              · exact Or.inl q
              · have : 54 < cl_r τ 54 j := by
                  have := (pm_lo d' (by omega : 16 + j < 27) (by rw [pd_i hj]; exact g2)).1
                  rw [pd_i hj] at this
                  exact this
                exact Or.inr ⟨N', g1, g2, pc_N_fr h (ap _ (by omega)) g4 g3, g4⟩
          · rw [pc_wr, pc_r_sr, if_neg (by omega)]
            exact rw' j hj
          · unfold pr_tr
            rw [pc_wr, pc_r_sr, if_neg (by decide)]
            obtain ⟨⟨u0, u1, u2, u3, u4⟩, u5, u6, u7⟩ := tr'
            have : 54 < cl_r τ 19 11 := by
              have := (pm_lo d' (by omega : 26 < 27) (by rw [pd_t]; exact u0)).1
              rw [pd_t] at this
              exact this
            refine ⟨⟨u0, u1, ?_, u3, u4⟩, u5, u6, u7⟩
            rw [pc_r_sr, if_neg (by omega)]
            exact u2
        have hr0 : cl_r (cl_wr τ 54 k (cl_n σ + 1)) 54 k = cl_n σ + 1 := by rw [r54, va_up_self]
        obtain ⟨τ2, t1, t2⟩ := po_img hR2 hk2 (by rw [hr0]; omega) (by rw [hr0]; exact hsN)
        have eS : va_up (va_up (pa_img S) k (some po_N0)) k (some (pa_net S)) = va_up (pa_img S) k (some (pa_net S)) := by
          funext j
          unfold va_up
          split <;> rfl
        have t3 : pc_R τ2 (S.1, va_up (pa_img S) k (some (pa_net S)), S.2.2) := by
          rw [← eS]
          exact t2
        obtain ⟨⟨-, ⟨y0, -, -, y3, -, -, -, -, y8⟩, -, -, ⟨-, -, ⟨b3', b4'⟩⟩, -⟩, -⟩ := hR2
        refine ⟨_, 1, τ2, mo_A μ' 10 k 1, ?_, rfl, t3, u2⟩
        unfold cl_X0_image_J45
        rw [pb_gdD _ y0, y8, pb_gdD _ (by decide), pb_gdD _ b3', b4', i2, pb_gdT, cc, pb_gdD _ (by rw [hr0]; omega), y3, pb_gdD _ (by decide), pb_gdD _ (by rw [hr0]; exact hsN.2.1), t1, pb_b2, pb_gdD _ (by rw [hr0]; omega)]
      · rw [if_neg h0]
        refine main σ h' h0 ?_
        rcases im k (by omega) with ⟨-, q⟩ | ⟨N', -, -, q3, -⟩
        · exact absurd q h0
        · exact q3.1
end PO
