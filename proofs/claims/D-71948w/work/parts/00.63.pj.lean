/-! keep, notes -/
def pj_sh (f : Nat → Nat) : Nat → Nat → Nat
  | 0 => f
  | i + 1 => va_up (pj_sh f i) i (pj_sh f i (i + 1))
theorem pj_sh_at (f : Nat → Nat) : ∀ i k, pj_sh f i k = if k < i then f (k + 1) else f k := by
  intro i
  induction i with
  | zero => intro k; rfl
  | succ i ih =>
    intro k
    show va_up (pj_sh f i) i (pj_sh f i (i + 1)) k = _
    unfold va_up
    by_cases hk : k = i
    · rw [if_pos hk, ih (i + 1), if_neg (by omega), if_pos (by omega), hk]
    · rw [if_neg hk, ih k]
      by_cases h2 : k < i
      · rw [if_pos h2, if_pos (by omega)]
      · rw [if_neg h2, if_neg (by omega)]
def pj_pi (j : Nat) : Nat := if j < 15 then j + 1 else if j = 15 then 0 else j
/-- what is kept ahead of an act -/
def pa_kp (S : pa_S) : pa_S := if pa_acts S = 16 then ((pa_net S, va_up (fun k => pa_past S (k + 1)) 15 (pa_net S), 16), S.2) else ((pa_net S, va_up (pa_past S) (pa_acts S) (pa_net S), pa_acts S + 1), S.2)
section PJ
variable {σ : cl_S} {μ : mo_S} {S : pa_S}
theorem pj_rot (hR : pc_R σ S) (h16 : pa_acts S = 16) : pc_R (cl_si (cl_sr σ 53 (va_up (pj_sh (cl_r σ 53) 15) 15 (cl_r σ 53 0))) 19 (upd (cl_i σ 19) 9 (nI 15))) ((pa_net S, fun k => pa_past S (k + 1), 15), S.2) := by
  obtain ⟨f, d, ⟨hN, hok⟩, ⟨p1, p2, p3⟩, im, rw_, tp, ⟨c1, c2, c3⟩, tr⟩ := hR
  have hn54 := f.1
  obtain ⟨g, hg⟩ : ∃ g, g = va_up (pj_sh (cl_r σ 53) 15) 15 (cl_r σ 53 0) := ⟨_, rfl⟩
  have eg : ∀ k, k < 16 → g k = cl_r σ 53 (pj_pi k) := by
    intro k hk
    rw [hg]
    unfold va_up pj_pi
    by_cases h15 : k = 15
    · rw [if_pos h15, if_neg (by omega), if_pos h15]
    · rw [if_neg h15, pj_sh_at, if_pos (by omega), if_pos (by omega)]
  have pib : ∀ k, k < 16 → pj_pi k < 16 := by intro k hk; unfold pj_pi; split <;> (try split) <;> omega
  have h := pc_fr_sr σ 53 g (Z := pc_0) (Y := fun y => y = 53) rfl
  have ap : ∀ o, 53 < o ∨ o + 6 < 53 → pc_ap σ pc_0 (fun y => y = 53) o := fun o ho => ⟨fun _ _ h => h.elim, fun y _ hy => by have : y = 53 := hy; omega⟩
  have r53 : cl_r (cl_sr σ 53 g) 53 = g := by rw [pc_r_sr, if_pos rfl]
  have elo : ∀ j, j < 27 → pd_lo (cl_sr σ 53 g) j = pd_lo σ (pj_pi j) ∧ pj_pi j < 27 ∧ pd_sz (pj_pi j) = pd_sz j := by
    intro j hj
    by_cases hj16 : j < 16
    · have := pib j hj16
      refine ⟨?_, by omega, ?_⟩
      · rw [pd_p hj16, r53, eg j hj16, pd_p this]
      · unfold pd_sz; rw [if_pos (by omega), if_pos (by omega)]
    · have e : pj_pi j = j := by unfold pj_pi; rw [if_neg (by omega), if_neg (by omega)]
      rw [e]
      refine ⟨?_, hj, rfl⟩
      unfold pd_lo
      rw [if_neg hj16, if_neg hj16]
      split
      · rw [pc_r_sr, if_neg (by decide)]
      · split
        · rw [pc_r_sr, if_neg (by omega)]
        · rw [pc_r_sr, if_neg (by decide)]
  have inj : ∀ i j, i < 27 → j < 27 → i ≠ j → pj_pi i ≠ pj_pi j := by
    intro i j hi hj hij
    unfold pj_pi
    split <;> split <;> (try split) <;> (try split) <;> omega
  have d' : pd (cl_sr σ 53 g) := by
    refine ⟨fun j hj => ?_, fun i j hi hj hij => ?_⟩
    · obtain ⟨e1, e2, e3⟩ := elo j hj
      rw [e1, ← e3]
      exact d.1 _ e2
    · obtain ⟨e1, e2, e3⟩ := elo i hi
      obtain ⟨g1, g2, g3⟩ := elo j hj
      rw [e1, g1, ← e3, ← g3]
      exact d.2 _ _ e2 g2 (inj i j hi hj hij)
  have lo : ∀ j, j < 16 → cl_r σ 53 j ≠ 0 → 54 < cl_r σ 53 j := by
    intro j hj h0
    have := (pm_lo d (by omega : j < 27) (by rw [pd_p hj]; exact h0)).1
    rw [pd_p hj] at this
    exact this
  have R1 : pc_R (cl_sr σ 53 g) ((pa_net S, fun k => pa_past S (pj_pi k), 16), S.2) := by
    refine ⟨pf_fr h (fun y hz => hz.elim) (fun y hy => by have : y = 53 := hy; omega) f, d', ⟨pc_N_fr h (ap 30 (by omega)) hok hN, hok⟩, ⟨fun j hj => ?_, Nat.le_refl _, fun j hj => ?_⟩, fun j hj => ?_, fun j hj => ?_, tp, ⟨by show cl_i σ 19 9 = nI 16; rw [c1, h16], c2, c3⟩, ?_⟩
    · rw [r53, eg j hj]
      rcases p1 _ (pib j hj) with q | q
      · exact Or.inl q
      · exact Or.inr (pc_sh_fr h (fun hy => by have : cl_r σ 53 (pj_pi j) = 53 := hy; have := lo _ (pib j hj) (by omega); omega) q)
    · have hj16 : j < 16 := hj
      show cl_r (cl_sr σ 53 g) 53 j ≠ 0 ∧ pc_N (cl_sr σ 53 g) (cl_r (cl_sr σ 53 g) 53 j) (pa_past S (pj_pi j)) ∧ pn_ok (pa_past S (pj_pi j))
      rw [r53, eg j hj16]
      obtain ⟨q1, q2, q3⟩ := p3 (pj_pi j) (by rw [h16]; exact pib j hj16)
      have := lo _ (pib j hj16) q1
      exact ⟨q1, pc_N_fr h (ap _ (by omega)) q3 q2, q3⟩
    · rw [pc_r_sr, if_neg (by decide)]
      rcases im j hj with q | ⟨N', g1, g2, g3, g4⟩
      · exact Or.inl q
      · have := (pm_lo d (by omega : 16 + j < 27) (by rw [pd_i hj]; exact g2)).1
        rw [pd_i hj] at this
        exact Or.inr ⟨N', g1, g2, pc_N_fr h (ap _ (by omega)) g4 g3, g4⟩
    · rw [pc_r_sr, if_neg (by omega)]
      exact rw_ j hj
    · unfold pr_tr
      rw [pc_r_sr, if_neg (by decide)]
      obtain ⟨⟨u0, u1, u2, u3, u4⟩, u5, u6, u7⟩ := tr
      have := (pm_lo d (by omega : 26 < 27) (by rw [pd_t]; exact u0)).1
      rw [pd_t] at this
      refine ⟨⟨u0, u1, ?_, u3, u4⟩, u5, u6, u7⟩
      rw [pc_r_sr, if_neg (by omega)]
      exact u2
  rw [← hg]
  refine pc_R_x R1 _ rfl rfl rfl rfl ⟨R1.2.2.2.1.1, by show 15 ≤ 16; omega, fun j hj => ?_⟩ ⟨tp.1, tp.2.1, tp.2.2⟩ ⟨rfl, c2, c3⟩
  have hj15 : j < 15 := hj
  have := R1.2.2.2.1.2.2 j (by show j < 16; omega)
  have e : pj_pi j = j + 1 := by unfold pj_pi; rw [if_pos hj15]
  have e2 : pa_past ((pa_net S, fun k => pa_past S (pj_pi k), 16), S.2) j = pa_past S (j + 1) := by
    show pa_past S (pj_pi j) = _
    rw [e]
  rw [e2] at this
  exact this
/-- **keep** -/
theorem pj_keep (hR : pc_R σ S) : ∃ σ', cl_X0_keep 19 σ = some σ' ∧ pc_R σ' (pa_kp S) := by
  have hR' := hR
  obtain ⟨f, d, ⟨hN, hok⟩, ⟨p1, p2, p3⟩, im, rw_, tp, ⟨c1, c2, c3⟩, tr⟩ := hR
  obtain ⟨hn54, ⟨x0, x1, x2, x3, x4, x5, x6, x7, x8⟩, -, -, ⟨-, ⟨a3, a4⟩, -⟩, -⟩ := f
  unfold cl_X0_keep pa_kp
  rw [pb_gdD _ x0, c1]
  by_cases h16 : pa_acts S = 16
  · have e16 : nI (pa_acts S) = (16 : Int32) := by rw [h16]; rfl
    have z0 : (0 : Int32).toNatClampNeg = 0 := by decide
    have nz : ∀ j, j < 16 → cl_r σ 53 j ≠ 0 := fun j hj => (p3 j (by omega)).1
    have k2 : ∀ j, j < 16 → cl_k σ (cl_r σ 53 j) = 2 := fun j hj => (p3 j (by omega)).2.1.1.2.1
    rw [if_pos e16, if_pos h16, x7, pb_gdD _ (by decide), pb_gdD _ a3, a4, z0, dx_gd_t _ (by decide), pb_gdD _ (nz 0 (by omega))]
    have hrot := pj_rot hR' h16
    obtain ⟨τ, b1, b2⟩ := pj_J62 hrot (a := 15) (by omega) rfl
    refine ⟨τ, ?_, b2⟩
    have e0 : ((1 : Int32), σ) = (nI (0 + 1), cl_sr σ 53 (pj_sh (cl_r σ 53) 0)) := by
      refine Prod.ext rfl ?_
      show σ = cl_sr σ 53 (cl_r σ 53)
      refine Prod.ext rfl (Prod.ext rfl (Prod.ext rfl (Prod.ext rfl ?_)))
      funext j
      show σ.2.2.2.2 j = va_up σ.2.2.2.2 53 (cl_r σ 53) j
      unfold va_up
      split
      · rename_i e; rw [e]; rfl
      · rfl
    rw [e0]
    refine pb_lp (b := fun x : Int32 × cl_S => cl_X0_keep_L18 19 x.2 (cl_r σ 53 0) x.1) 15 (fun i => (nI (i + 1), cl_sr σ 53 (pj_sh (cl_r σ 53) i))) (fun i hi => ?_) ?_ (by omega)
    · show cl_X0_keep_L18 19 (cl_sr σ 53 (pj_sh (cl_r σ 53) i)) (cl_r σ 53 0) (nI (i + 1)) = some (.inl (nI (i + 1 + 1), cl_sr σ 53 (pj_sh (cl_r σ 53) (i + 1))))
      have h16' : ¬ (16 : Int32) ≤ nI (i + 1) := fun h => absurd ((pb_le (a := 16) (by omega) (by omega)).mp h) (by omega)
      have e1 : nI (i + 1) - (1 : Int32) = nI i := by rw [pl_1, pb_sub (by omega)]; congr 1
      have r19 : cl_r (cl_sr σ 53 (pj_sh (cl_r σ 53) i)) 19 = cl_r σ 19 := by rw [pc_r_sr, if_neg (by decide)]
      have r53 : cl_r (cl_sr σ 53 (pj_sh (cl_r σ 53) i)) 53 = pj_sh (cl_r σ 53) i := by rw [pc_r_sr, if_pos rfl]
      have es : pj_sh (cl_r σ 53) i (i + 1) = cl_r σ 53 (i + 1) := by rw [pj_sh_at, if_neg (by omega)]
      unfold cl_X0_keep_L18
      rw [if_neg h16', pc_k_sr, pb_gdD _ x0, r19, x7, pb_gdD _ (by decide), pb_gdD _ (by decide), pc_k_sr, pb_gdD _ a3, pc_l_sr, a4, pn_gdi _ (by omega) (by omega), nI_clamp (by omega), r53, es, pb_gdD _ (nz (i + 1) (by omega)), e1, pn_gdi _ (by omega) (by omega), nI_clamp (by omega), pc_k_sr, pb_gdD _ (k2 (i + 1) (by omega)), pb_let, ← nI_succ, pc_wr, r53]
      congr 3
      refine Prod.ext rfl (Prod.ext rfl (Prod.ext rfl (Prod.ext rfl ?_)))
      funext j
      show va_up (va_up σ.2.2.2.2 53 _) 53 _ j = va_up σ.2.2.2.2 53 _ j
      unfold va_up
      split
      · show (fun j => if j = i then cl_r σ 53 (i + 1) else pj_sh (cl_r σ 53) i j) = va_up (pj_sh (cl_r σ 53) i) i (pj_sh (cl_r σ 53) i (i + 1))
        rw [es]
        rfl
      · rfl
    · show cl_X0_keep_L18 19 (cl_sr σ 53 (pj_sh (cl_r σ 53) 15)) (cl_r σ 53 0) (nI 16) = _
      have r19 : cl_r (cl_sr σ 53 (pj_sh (cl_r σ 53) 15)) 19 = cl_r σ 19 := by rw [pc_r_sr, if_neg (by decide)]
      have r53 : cl_r (cl_sr σ 53 (pj_sh (cl_r σ 53) 15)) 53 = pj_sh (cl_r σ 53) 15 := by rw [pc_r_sr, if_pos rfl]
      have z15 : (15 : Int32).toNatClampNeg = 15 := by decide
      unfold cl_X0_keep_L18
      rw [if_pos (by decide), pc_k_sr, pb_gdD _ x0, r19, x7, pb_gdD _ (by decide), pc_k_sr, pb_gdD _ a3, pc_l_sr, a4, dx_gd_t _ (by decide), pc_k_sr, pb_gdD _ (k2 0 (by omega)), pb_let, pb_let, z15]
      have eσ : cl_wi (cl_wr (cl_sr σ 53 (pj_sh (cl_r σ 53) 15)) 53 15 (cl_r σ 53 0)) 19 9 (cl_i (cl_wr (cl_sr σ 53 (pj_sh (cl_r σ 53) 15)) 53 15 (cl_r σ 53 0)) 19 9 - 1) = cl_si (cl_sr σ 53 (va_up (pj_sh (cl_r σ 53) 15) 15 (cl_r σ 53 0))) 19 (upd (cl_i σ 19) 9 (nI 15)) := by
        have ev : cl_i (cl_wr (cl_sr σ 53 (pj_sh (cl_r σ 53) 15)) 53 15 (cl_r σ 53 0)) 19 9 - 1 = nI 15 := by
          show cl_i σ 19 9 - 1 = _
          rw [c1, h16]
          rfl
        have es : cl_wr (cl_sr σ 53 (pj_sh (cl_r σ 53) 15)) 53 15 (cl_r σ 53 0) = cl_sr σ 53 (va_up (pj_sh (cl_r σ 53) 15) 15 (cl_r σ 53 0)) := by
          rw [pc_wr, r53]
          refine Prod.ext rfl (Prod.ext rfl (Prod.ext rfl (Prod.ext rfl ?_)))
          funext j
          show va_up (va_up σ.2.2.2.2 53 _) 53 _ j = va_up σ.2.2.2.2 53 _ j
          unfold va_up
          split <;> rfl
        rw [ev, es]
        rfl
      rw [eσ, b1]
      rfl
  · have e16 : ¬ nI (pa_acts S) = (16 : Int32) := fun h => h16 ((pb_inj (b := 16) (by omega) (by omega)).mp h)
    rw [if_neg e16, if_neg h16]
    exact pj_J62 hR' (by omega) rfl
/-- **copies** -/
theorem pj_copies {k0 k2 : Nat} (hk : k0 ≠ k2) {p1 p3 : Nat} (h1 : p1 + 52 ≤ mo_len k0) (h3 : p3 + 52 ≤ mo_len k2) (hb : p1 + 52 < 2 ^ 31 ∧ p3 + 52 < 2 ^ 31) : mo_copies k0 k2 μ (nI p1) (nI p3) = some (μ.1, va_up μ.2 k2 (va_cpy (μ.2 k0) (μ.2 k2) p1 p3 52)) := by
  unfold mo_copies
  have e0 : ((0 : Int32), μ) = (nI 0, ((μ.1, va_up μ.2 k2 (va_cpy (μ.2 k0) (μ.2 k2) p1 p3 0)) : mo_S)) := by
    refine Prod.ext rfl (Prod.ext rfl ?_)
    funext j
    show μ.2 j = va_up μ.2 k2 _ j
    unfold va_up
    split
    · rename_i e
      rw [e]
      funext i
      unfold va_cpy
      rw [if_neg (by omega)]
    · rfl
  rw [e0]
  refine pb_lp (b := fun x : Int32 × mo_S => mo_copies_L3 k0 k2 x.2 (nI p1) (nI p3) x.1) 52 (fun i => (nI i, ((μ.1, va_up μ.2 k2 (va_cpy (μ.2 k0) (μ.2 k2) p1 p3 i)) : mo_S))) (fun i hi => ?_) rfl (by omega)
  show mo_copies_L3 k0 k2 (μ.1, va_up μ.2 k2 (va_cpy (μ.2 k0) (μ.2 k2) p1 p3 i)) (nI p1) (nI p3) (nI i) = _
  have h52 : ¬ (52 : Int32) ≤ nI i := fun h => absurd ((pb_le (a := 52) (by omega) (by omega)).mp h) (by omega)
  unfold mo_copies_L3
  rw [if_neg h52, pb_add, pb_add, pn_gdi _ (by omega) (by omega), pn_gdi _ (by omega) (by omega), nI_clamp (by omega), nI_clamp (by omega), ← nI_succ]
  congr 3
  refine Prod.ext rfl ?_
  funext j
  show va_up (va_up μ.2 k2 _) k2 (upd _ (p3 + i) (va_up μ.2 k2 _ k0 (p1 + i))) j = va_up μ.2 k2 _ j
  rw [va_up_ne _ _ hk]
  unfold va_up
  split
  · funext m
    show upd ((if k2 = k2 then _ else _) : Nat → Int32) (p3 + i) (μ.2 k0 (p1 + i)) m = _
    rw [if_pos rfl]
    unfold upd va_cpy
    by_cases hm : m = p3 + i
    · rw [if_pos hm, if_pos (by omega), hm, show p3 + i - p3 = i by omega]
    · rw [if_neg hm]
      by_cases h2 : p3 ≤ m ∧ m < p3 + i
      · rw [if_pos h2, if_pos (by omega)]
      · rw [if_neg h2, if_neg (by omega)]
  · rfl
end PJ
