/-! cut -/
section PU
variable {σ : cl_S} {μ : mo_S} {S : pa_S}
theorem pu_cut (h : pc_R σ S) (hm : pm_R μ S) (v d w : Int32) : pq_res (cl_X0_cut 19 σ v d w) (mo_cut μ v d w) S := by
  obtain ⟨x0, x3, x5, k0, w1, w2, w3, w4⟩ := pt_cx h
  have hN := h.2.2.1.2
  have hP9 := hN.1
  have e1 : (1 : Int32).toNatClampNeg = 1 := by decide
  unfold cl_X0_cut mo_cut
  rw [pb_gdD _ x0, pt_cA h, pt_mF hm, pq_mP hm, x3, pb_gdD _ (by decide), pb_gdD _ k0]
  simp only [pb_b1]
  cases hv : pq_in v 0 (nI (pn_P (pa_net S)) - 1) with
  | false => exact ⟨_, _, _, rfl, rfl, h, hm⟩
  | true =>
    cases hd : pq_in d 0 (nI 30) with
    | false => exact ⟨_, _, _, rfl, rfl, h, hm⟩
    | true =>
      cases hw : pq_in w 0 (nI (pn_P (pa_net S)) - 1) with
      | false => exact ⟨_, _, _, rfl, rfl, h, hm⟩
      | true =>
        obtain ⟨s, hs, rfl⟩ := (pq_lt (by omega)).mp hv
        obtain ⟨e, he, rfl⟩ := (pq_le (by omega)).mp hd
        obtain ⟨p, hp, rfl⟩ := (pq_lt (by omega)).mp hw
        simp only [Bool.and_self, pb_ibT]
        by_cases hsp : nI s = nI p
        · rw [if_pos hsp, if_pos hsp]
          exact ⟨_, _, _, rfl, rfl, h, hm⟩
        rw [if_neg hsp, if_neg hsp]
        obtain ⟨c1, c2, c3, c4⟩ := pu_all hN.2.1
        have hall : ∀ τ, pc_R τ S → cl_X2_all 30 τ = some (nI (2 ^ pn_C (pa_net S) - 1)) := by
          intro τ hτ
          unfold cl_X2_all
          rw [pb_gdD _ (pt_cx hτ).2.2.2.1, hτ.2.2.1.1.2.1.2.1, c1]
        rw [hall σ h, pb_b1, e1, hm.1.2.1, c1]
        generalize hM : 2 ^ pn_C (pa_net S) - 1 = M at hall
        have hM1 : M < 1024 := by omega
        let K : Nat → Bool := fun m => decide (pn_wk (pa_net S) s e (nI m) p = 0)
        have hfu : ∀ i, i ≤ M → pb_fold (pu_gu K) M i ≤ M := by
          intro i
          induction i with
          | zero => intro _; exact Nat.le_refl _
          | succ i ih =>
            intro hi
            show pu_gu K i _ ≤ M
            unfold pu_gu
            split
            · omega
            · exact ih (by omega)
        have hfd : ∀ i, pb_fold (pu_gd K M) M i ≤ M := by
          intro i
          induction i with
          | zero => exact Nat.le_refl _
          | succ i ih =>
            show pu_gd K M i _ ≤ M
            unfold pu_gd
            split
            · omega
            · exact ih
        have keyA := pb_cntc (b := fun x : Int32 × Int32 × cl_S => cl_X0_cut_L33 19 x.2.2 (nI s) (nI e) (nI p) x.1 x.2.1) nI nI (fun σ => pc_R σ S) (pu_gu K) M M (fun z => z.1 = nI (pb_fold (pu_gu K) M M) ∧ pc_R z.2 S) (fun i hi σ hσ => ?_) (fun σ hσ => ?_) (by omega) σ h
        · obtain ⟨z, h1, h2, h3⟩ := keyA
          have keyB := pb_cntc (b := fun x : Int32 × Int32 × mo_S => mo_cut_L44 x.2.2 (nI s) (nI e) (nI p) x.1 x.2.1) nI (fun i => if i ≤ M then nI (M - i) else -1) (fun μ => pm_R μ S) (pu_gd K M) M (M + 1) (fun z => z.1 = nI (pb_fold (pu_gd K M) M (M + 1)) ∧ pm_R z.2 S) (fun i hi μ hμ => ?_) (fun μ hμ => ?_) (by omega) μ hm
          · obtain ⟨y, j1, j2, j3⟩ := keyB
            have hu := pu_least_u (pu_up K M) (pu_dn K M)
            rw [if_pos (Nat.zero_le _), Nat.sub_zero] at j1
            rw [nI_0] at h1
            exact ⟨z.1, z.2, y.2, h1, by rw [j1, h2, hu, ← j2], h3, j3⟩
          · obtain ⟨μ2, b1, b2, b3⟩ := pt_mw hμ hN hs (by omega : e < 31) (nI (M - i))
            have hb := hfd i
            have hc : (if i ≤ M then nI (M - i) else (-1 : Int32)) + (-1 : Int32) = (if i + 1 ≤ M then nI (M - (i + 1)) else (-1 : Int32)) := by
              rw [if_pos (by omega)]
              by_cases hi2 : i + 1 ≤ M
              · rw [if_pos hi2, show M - i = M - (i + 1) + 1 by omega, nI_succ, Int32.add_assoc]
                show nI (M - (i + 1)) + 0 = _
                simp
              · rw [if_neg hi2, show M - i = 0 by omega]
                rfl
            by_cases hle : pu_bc (M - i) ≤ pu_bc (pb_fold (pu_gd K M) M i)
            · refine ⟨μ2, b2, ?_⟩
              show mo_cut_L44 μ (nI s) (nI e) (nI p) (nI (pb_fold (pu_gd K M) M i)) (if i ≤ M then nI (M - i) else -1) = _
              unfold mo_cut_L44
              have hq1 := pu_b (m := M - i) (by omega)
              have hq2 := pu_b (m := pb_fold (pu_gd K M) M i) (by omega)
              have hlt : ¬ nI (pu_bc (pb_fold (pu_gd K M) M i)) < nI (pu_bc (M - i)) := fun h => absurd ((pb_lt (by omega) (by omega)).mp h) (by omega)
              rw [hc, if_pos (by omega : i ≤ M), if_neg (nI_pos (by omega)), pu_m (by omega), pb_b1, pu_m (by omega), pb_b1, if_neg hlt, b1, pb_b1, pn_gdi _ (by omega) (by omega), nI_clamp (by omega), (b3 p (by omega)).1]
              generalize pb_fold (pu_gd K M) M i = b at hle
              unfold pu_gd
              by_cases hz : pn_wk (pa_net S) s e (nI (M - i)) p = 0
              · rw [if_pos hz, if_pos (show pu_bc (M - i) ≤ pu_bc b ∧ K (M - i) = true from ⟨hle, decide_eq_true hz⟩)]
              · rw [if_neg hz, if_neg (show ¬ (pu_bc (M - i) ≤ pu_bc b ∧ K (M - i) = true) from fun h => hz (of_decide_eq_true h.2))]
            · refine ⟨μ, hμ, ?_⟩
              show mo_cut_L44 μ (nI s) (nI e) (nI p) (nI (pb_fold (pu_gd K M) M i)) (if i ≤ M then nI (M - i) else -1) = _
              unfold mo_cut_L44
              have hq1 := pu_b (m := M - i) (by omega)
              have hq2 := pu_b (m := pb_fold (pu_gd K M) M i) (by omega)
              have hlt : nI (pu_bc (pb_fold (pu_gd K M) M i)) < nI (pu_bc (M - i)) := (pb_lt (by omega) (by omega)).mpr (by omega)
              rw [hc, if_pos (by omega : i ≤ M), if_neg (nI_pos (by omega)), pu_m (by omega), pb_b1, pu_m (by omega), pb_b1, if_pos hlt]
              generalize pb_fold (pu_gd K M) M i = b at hle
              unfold pu_gd
              rw [if_neg (show ¬ (pu_bc (M - i) ≤ pu_bc b ∧ K (M - i) = true) from fun h => hle h.1)]
          · refine ⟨(_, μ), ?_, rfl, hμ⟩
            show mo_cut_L44 μ _ _ _ _ (if M + 1 ≤ M then nI (M - (M + 1)) else -1) = _
            unfold mo_cut_L44
            rw [if_neg (by omega : ¬ M + 1 ≤ M), if_pos (by decide)]
            rfl
        · obtain ⟨x0, x3, x5, k0, w1, w2, w3, w4⟩ := pt_cx hσ
          obtain ⟨σ2, b1, b2, b3⟩ := pt_go hσ hs (by omega : e < 31) (nI i)
          obtain ⟨-, -, -, -, y1, y2, y3, y4⟩ := pt_cx b2
          have hb := hfu i (by omega)
          have hq1 := pu_b (m := i) (by omega)
          have hq2 := pu_b (m := pb_fold (pu_gu K) M i) (by omega)
          have hle : ¬ nI M ≤ nI i := fun h => absurd ((pb_le (by omega) (by omega)).mp h) (by omega)
          have hJ : cl_X0_cut_J81 19 σ (nI s) (nI e) (nI p) (nI (pb_fold (pu_gu K) M i)) (nI i) = some (.inl (if pn_wk (pa_net S) s e (nI i) p = 0 then nI i else nI (pb_fold (pu_gu K) M i), nI (i + 1), σ2)) := by
            unfold cl_X0_cut_J81
            rw [pb_gdD _ x0, x5, pb_gdD _ (by decide), x3, pb_gdD _ (by decide), pb_gdD _ w1, b1, pb_b2, pb_gdD _ (by decide), pb_gdD _ y1, y2, pb_gdD _ (by decide), pb_gdD _ y3, y4, pn_gdi _ (by omega) (by omega), nI_clamp (by omega), b3 p (by omega), ← nI_succ]
            split <;> rfl
          have hu : cl_X0_cut_L33 19 σ (nI s) (nI e) (nI p) (nI (pb_fold (pu_gu K) M i)) (nI i) = (if pu_leb i (pb_fold (pu_gu K) M i) = true then cl_X0_cut_J81 19 σ (nI s) (nI e) (nI p) (nI (pb_fold (pu_gu K) M i)) (nI i) else some (.inl (nI (pb_fold (pu_gu K) M i), nI (i + 1), σ))) := by
            unfold cl_X0_cut_L33
            rw [pb_gdD _ x0, x3, pb_gdD _ (by decide), pb_gdD _ k0, hall σ hσ, pb_b1, if_neg hle, pu_c (by omega), pb_b1, pu_c (by omega), pb_b1, pb_b1, pb_b1, ← nI_succ]
            simp only [pb_lt (show pu_bc (pb_fold (pu_gu K) M i) < 2 ^ 31 by omega) (show pu_bc i < 2 ^ 31 by omega), pb_inj (show pu_bc i < 2 ^ 31 by omega) (show pu_bc (pb_fold (pu_gu K) M i) < 2 ^ 31 by omega), pb_le (show i < 2 ^ 31 by omega) (show pb_fold (pu_gu K) M i < 2 ^ 31 by omega)]
            have hlb := pu_leb_iff i (pb_fold (pu_gu K) M i)
            unfold pu_le at hlb
            by_cases g1 : pu_bc (pb_fold (pu_gu K) M i) < pu_bc i
            · rw [if_pos g1, if_neg (fun h => by have := hlb.mp h; omega)]
            · rw [if_neg g1]
              by_cases g2 : pu_bc i = pu_bc (pb_fold (pu_gu K) M i)
              · rw [if_pos g2]
                by_cases g3 : i ≤ pb_fold (pu_gu K) M i
                · rw [if_pos g3, if_pos (hlb.mpr (Or.inr ⟨g2, g3⟩))]
                · rw [if_neg g3, if_neg (fun h => by have := hlb.mp h; omega)]
              · rw [if_neg g2, if_pos (hlb.mpr (by omega))]
          by_cases hlb : pu_leb i (pb_fold (pu_gu K) M i) = true
          · refine ⟨σ2, b2, ?_⟩
            show cl_X0_cut_L33 19 σ (nI s) (nI e) (nI p) (nI (pb_fold (pu_gu K) M i)) (nI i) = _
            rw [hu, if_pos hlb, hJ]
            generalize pb_fold (pu_gu K) M i = b at hlb
            unfold pu_gu
            by_cases hz : pn_wk (pa_net S) s e (nI i) p = 0
            · rw [if_pos hz, if_pos (show pu_leb i b = true ∧ K i = true from ⟨hlb, decide_eq_true hz⟩)]
            · rw [if_neg hz, if_neg (show ¬ (pu_leb i b = true ∧ K i = true) from fun h => hz (of_decide_eq_true h.2))]
          · refine ⟨σ, hσ, ?_⟩
            show cl_X0_cut_L33 19 σ (nI s) (nI e) (nI p) (nI (pb_fold (pu_gu K) M i)) (nI i) = _
            rw [hu, if_neg hlb]
            generalize pb_fold (pu_gu K) M i = b at hlb
            unfold pu_gu
            rw [if_neg (show ¬ (pu_leb i b = true ∧ K i = true) from fun h => hlb h.1)]
        · obtain ⟨x0, x3, x5, k0, w1, w2, w3, w4⟩ := pt_cx hσ
          refine ⟨(_, σ), ?_, rfl, hσ⟩
          show cl_X0_cut_L33 19 σ _ _ _ _ (nI M) = _
          unfold cl_X0_cut_L33
          rw [pb_gdD _ x0, x3, pb_gdD _ (by decide), pb_gdD _ k0, hall σ hσ, pb_b1, if_pos ((pb_le (by omega) (by omega)).mpr (Nat.le_refl _))]
          rfl
end PU
