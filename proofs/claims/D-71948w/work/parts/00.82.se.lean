/-! ask: what a person's own methods answer -/
def se_J (t o h p k : Nat) (A B : Int32) (θ : cl_S) (S : pa_S) : Prop := pc_R θ S ∧ cl_r θ 19 11 = t ∧ (cl_k θ o = 8 + k ∧ cl_i θ o 0 = nI p) ∧ (cl_k θ h = 15 ∧ cl_i θ h 0 = A ∧ cl_i θ h 1 = B) ∧ (o ≠ t ∧ o ≠ t + 1 ∧ h ≠ t ∧ h ≠ t + 1)
def se_mk (k p : Nat) (B : Int32) : Int32 := if k = 2 then (2 : Int32) * (nI p + B) else if k = 3 then (nI p + B) - (1000 : Int32) else nI p + B
def se_mS (k : Nat) (S : pa_S) : pa_S := if k = 2 then sd_b (sd_b (sd_b S 24) 21) 20 else if k = 3 then sd_b (sd_b (sd_b S 22) 21) 20 else sd_b (sd_b S 21) 20
def se_wz (k : Nat) (A : Int32) : Int32 := if k = 5 then (2 : Int32) * (A - (100 : Int32)) else A - (100 : Int32)
def se_wS (k : Nat) (S : pa_S) : pa_S := if k = 5 then sd_b (sd_b (sd_b S 14) 13) 10 else sd_b (sd_b S 13) 10
def se_oz (k p : Nat) (A B : Int32) : Int32 := if k = 2 then -(A + se_mk k p B) else A + se_mk k p B
def se_oS (k : Nat) (S : pa_S) : pa_S := if k = 2 then se_mS k (sd_b (sd_b (sd_b S 12) 11) 10) else se_mS k (sd_b (sd_b S 11) 10)
section SE
variable {t o h p k : Nat} {A B : Int32} {θ : cl_S} {S : pa_S}
theorem se_t (H : se_J t o h p k A B θ S) : cl_k θ t = 5 := by
  have h1 := H.1.2.2.2.2.2.2.2.2.1.2.1
  rw [H.2.1] at h1
  exact h1
theorem se_g (H : se_J t o h p k A B θ S) (hk : 1 ≤ k ∧ k ≤ 5) : 9 ≤ cl_k θ o ∧ cl_k θ o ≤ 13 := by
  have := H.2.2.1.1
  omega
theorem se_b (H : se_J t o h p k A B θ S) (b : Int32) : ∃ τ, cl_X5_begins t θ b = some τ ∧ se_J t o h p k A B τ (sd_b S b) := by
  obtain ⟨R, ht, ⟨o1, o2⟩, ⟨h1, h2, h3⟩, ⟨n1, n2, n3, n4⟩⟩ := H
  obtain ⟨τ, e, R', rr, kk, ii⟩ := sd_cb R b
  rw [ht] at e ii
  refine ⟨τ, e, R', by rw [rr]; exact ht, ⟨by rw [kk]; exact o1, by rw [ii o n1 n2]; exact o2⟩, ⟨by rw [kk]; exact h1, by rw [ii h n3 n4]; exact h2, by rw [ii h n3 n4]; exact h3⟩, n1, n2, n3, n4⟩
theorem se_9s (H : se_J t o h p k A B θ S) : ∃ τ, cl_X9_size o t h θ = some (A, τ) ∧ se_J t o h p k A B τ (sd_b S 10) := by
  obtain ⟨τ, e, H'⟩ := se_b H 10
  refine ⟨τ, ?_, H'⟩
  unfold cl_X9_size cl_X18_contacts
  rw [pb_gdD _ (se_t H), e, pb_b1, pb_gdD _ H'.2.2.2.1.1, pb_gdD _ H'.2.2.2.1.1, pb_b1, H'.2.2.2.1.2.1]
theorem se_9m (H : se_J t o h p k A B θ S) (hk : 1 ≤ k ∧ k ≤ 5) : ∃ τ, cl_X9_mark o t h θ = some (nI p, τ) ∧ se_J t o h p k A B τ (sd_b S 20) := by
  obtain ⟨τ, e, H'⟩ := se_b H 20
  refine ⟨τ, ?_, H'⟩
  unfold cl_X9_mark cl_X10_number
  rw [pb_gdD _ (se_t H), e, pb_b1, pb_gdD _ (se_g H' hk), pb_gdD _ (se_g H' hk), pb_b1, H'.2.2.1.2]
theorem se_11m (H : se_J t o h p k A B θ S) (hk : 1 ≤ k ∧ k ≤ 5) : ∃ τ, cl_X11_mark o t h θ = some (nI p + B, τ) ∧ se_J t o h p k A B τ (sd_b (sd_b S 21) 20) := by
  obtain ⟨τ1, e1, H1⟩ := se_b H 21
  obtain ⟨τ2, e2, H2⟩ := se_9m H1 hk
  refine ⟨τ2, ?_, H2⟩
  unfold cl_X11_mark cl_X18_ill
  rw [pb_gdD _ (se_t H), e1, pb_b1, pb_gdD _ (se_g H1 hk), e2, pb_b2, pb_gdD _ H2.2.2.2.1.1, pb_gdD _ H2.2.2.2.1.1, pb_b1, H2.2.2.2.1.2.2]
theorem se_12m (H : se_J t o h p 2 A B θ S) : ∃ τ, cl_X12_mark o t h θ = some ((2 : Int32) * (nI p + B), τ) ∧ se_J t o h p 2 A B τ (sd_b (sd_b (sd_b S 24) 21) 20) := by
  obtain ⟨τ1, e1, H1⟩ := se_b H 24
  obtain ⟨τ2, e2, H2⟩ := se_11m H1 (by omega)
  refine ⟨τ2, ?_, H2⟩
  unfold cl_X12_mark
  rw [pb_gdD _ (se_t H), e1, pb_b1, pb_gdD _ H1.2.2.1.1, e2, pb_b2]
theorem se_13m (H : se_J t o h p 3 A B θ S) : ∃ τ, cl_X13_mark o t h θ = some ((nI p + B) - (1000 : Int32), τ) ∧ se_J t o h p 3 A B τ (sd_b (sd_b (sd_b S 22) 21) 20) := by
  obtain ⟨τ1, e1, H1⟩ := se_b H 22
  obtain ⟨τ2, e2, H2⟩ := se_11m H1 (by omega)
  refine ⟨τ2, ?_, H2⟩
  unfold cl_X13_mark
  rw [pb_gdD _ (se_t H), e1, pb_b1, pb_gdD _ H1.2.2.1.1, e2, pb_b2]
theorem se_om (H : se_J t o h p k A B θ S) (hk : 1 ≤ k ∧ k ≤ 3) : ∃ τ, cl_dO_mark o t h θ = some (se_mk k p B, τ) ∧ se_J t o h p k A B τ (se_mS k S) := by
  unfold cl_dO_mark se_mk se_mS
  rw [H.2.2.1.1]
  have h3 : k = 1 ∨ k = 2 ∨ k = 3 := by omega
  rcases h3 with rfl | rfl | rfl
  · rw [if_pos (by omega), if_neg (by omega), if_neg (by omega), if_neg (by omega), if_neg (by omega)]
    exact se_11m H (by omega)
  · rw [if_neg (by omega), if_pos (by omega), if_pos rfl, if_pos rfl]
    exact se_12m H
  · rw [if_neg (by omega), if_neg (by omega), if_pos (by omega), if_neg (by omega), if_pos rfl, if_neg (by omega), if_pos rfl]
    exact se_13m H
theorem se_11s (H : se_J t o h p k A B θ S) (hk : 1 ≤ k ∧ k ≤ 3) : ∃ τ, cl_X11_size o t h θ = some (A + se_mk k p B, τ) ∧ se_J t o h p k A B τ (se_mS k (sd_b (sd_b S 11) 10)) := by
  obtain ⟨τ1, e1, H1⟩ := se_b H 11
  obtain ⟨τ2, e2, H2⟩ := se_9s H1
  obtain ⟨τ3, e3, H3⟩ := se_om H2 hk
  refine ⟨τ3, ?_, H3⟩
  unfold cl_X11_size
  rw [pb_gdD _ (se_t H), e1, pb_b1, pb_gdD _ (se_g H1 (by omega)), e2, pb_b2, e3, pb_b2]
theorem se_12s (H : se_J t o h p 2 A B θ S) : ∃ τ, cl_X12_size o t h θ = some (-(A + se_mk 2 p B), τ) ∧ se_J t o h p 2 A B τ (se_mS 2 (sd_b (sd_b (sd_b S 12) 11) 10)) := by
  obtain ⟨τ1, e1, H1⟩ := se_b H 12
  obtain ⟨τ2, e2, H2⟩ := se_11s H1 (by omega)
  refine ⟨τ2, ?_, H2⟩
  unfold cl_X12_size
  rw [pb_gdD _ (se_t H), e1, pb_b1, pb_gdD _ H1.2.2.1.1, e2, pb_b2]
theorem se_14s (H : se_J t o h p k A B θ S) (hk : 1 ≤ k ∧ k ≤ 5) : ∃ τ, cl_X14_size o t h θ = some (A - (100 : Int32), τ) ∧ se_J t o h p k A B τ (sd_b (sd_b S 13) 10) := by
  obtain ⟨τ1, e1, H1⟩ := se_b H 13
  obtain ⟨τ2, e2, H2⟩ := se_9s H1
  refine ⟨τ2, ?_, H2⟩
  unfold cl_X14_size
  rw [pb_gdD _ (se_t H), e1, pb_b1, pb_gdD _ (se_g H1 hk), e2, pb_b2]
theorem se_15s (H : se_J t o h p 5 A B θ S) : ∃ τ, cl_X15_size o t h θ = some ((2 : Int32) * (A - (100 : Int32)), τ) ∧ se_J t o h p 5 A B τ (sd_b (sd_b (sd_b S 14) 13) 10) := by
  obtain ⟨τ1, e1, H1⟩ := se_b H 14
  obtain ⟨τ2, e2, H2⟩ := se_14s H1 (by omega)
  refine ⟨τ2, ?_, H2⟩
  unfold cl_X15_size
  rw [pb_gdD _ (se_t H), e1, pb_b1, pb_gdD _ H1.2.2.1.1, e2, pb_b2]
theorem se_ws (H : se_J t o h p k A B θ S) (hk : k = 4 ∨ k = 5) : ∃ τ, cl_dW_size o t h θ = some (se_wz k A, τ) ∧ se_J t o h p k A B τ (se_wS k S) := by
  unfold cl_dW_size se_wz se_wS
  rw [H.2.2.1.1]
  rcases hk with rfl | rfl
  · rw [if_pos (by omega), if_neg (by omega), if_neg (by omega)]
    exact se_14s H (by omega)
  · rw [if_neg (by omega), if_pos (by omega), if_pos rfl, if_pos rfl]
    exact se_15s H
theorem se_14m (H : se_J t o h p k A B θ S) (hk : k = 4 ∨ k = 5) : ∃ τ, cl_X14_mark o t h θ = some (nI p - se_wz k A, τ) ∧ se_J t o h p k A B τ (se_wS k (sd_b (sd_b S 23) 20)) := by
  obtain ⟨τ1, e1, H1⟩ := se_b H 23
  obtain ⟨τ2, e2, H2⟩ := se_9m H1 (by omega)
  obtain ⟨τ3, e3, H3⟩ := se_ws H2 hk
  refine ⟨τ3, ?_, H3⟩
  unfold cl_X14_mark
  rw [pb_gdD _ (se_t H), e1, pb_b1, pb_gdD _ (se_g H1 (by omega)), e2, pb_b2, e3, pb_b2]
theorem se_ps (H : se_J t o h p k A B θ S) (hk : 1 ≤ k ∧ k ≤ 5) : ∃ τ, cl_dP_size o t h θ = some (if k < 4 then se_oz k p A B else se_wz k A, τ) ∧ se_J t o h p k A B τ (if k < 4 then se_oS k S else se_wS k S) := by
  unfold cl_dP_size
  rw [H.2.2.1.1]
  by_cases hlt : k < 4
  · rw [if_pos hlt, if_pos hlt]
    by_cases h2 : k = 2
    · subst h2
      have e1 : se_oz 2 p A B = -(A + se_mk 2 p B) := if_pos rfl
      have e2 : se_oS 2 S = se_mS 2 (sd_b (sd_b (sd_b S 12) 11) 10) := if_pos rfl
      rw [e1, e2, if_neg (by omega), if_pos (by omega)]
      exact se_12s H
    · have e1 : se_oz k p A B = A + se_mk k p B := if_neg h2
      have e2 : se_oS k S = se_mS k (sd_b (sd_b S 11) 10) := if_neg h2
      rw [e1, e2]
      by_cases h1 : k = 1
      · rw [if_pos (by omega)]
        exact se_11s H (by omega)
      · rw [if_neg (by omega), if_neg (by omega), if_pos (by omega)]
        exact se_11s H (by omega)
  · rw [if_neg hlt, if_neg hlt, if_neg (by omega), if_neg (by omega), if_neg (by omega)]
    by_cases h5 : k = 5
    · subst h5
      have e1 : se_wz 5 A = (2 : Int32) * (A - (100 : Int32)) := if_pos rfl
      have e2 : se_wS 5 S = sd_b (sd_b (sd_b S 14) 13) 10 := if_pos rfl
      rw [e1, e2, if_neg (by omega), if_pos (by omega)]
      exact se_15s H
    · have e1 : se_wz k A = A - (100 : Int32) := if_neg h5
      have e2 : se_wS k S = sd_b (sd_b S 13) 10 := if_neg h5
      rw [e1, e2, if_pos (by omega)]
      exact se_14s H (by omega)
theorem se_pm (H : se_J t o h p k A B θ S) (hk : 1 ≤ k ∧ k ≤ 5) : ∃ τ, cl_dP_mark o t h θ = some (if k < 4 then se_mk k p B else nI p - se_wz k A, τ) ∧ se_J t o h p k A B τ (if k < 4 then se_mS k S else se_wS k (sd_b (sd_b S 23) 20)) := by
  by_cases hlt : k < 4
  · rw [if_pos hlt, if_pos hlt]
    obtain ⟨τ, e, H'⟩ := se_om H (by omega)
    refine ⟨τ, ?_, H'⟩
    rw [← e]
    unfold cl_dP_mark cl_dO_mark
    rw [H.2.2.1.1]
    have h3 : k = 1 ∨ k = 2 ∨ k = 3 := by omega
    rcases h3 with rfl | rfl | rfl
    · rw [if_pos (by omega), if_pos (by omega)]
    · rw [if_neg (by omega), if_pos (by omega), if_neg (by omega), if_pos (by omega)]
    · rw [if_neg (by omega), if_neg (by omega), if_pos (by omega), if_neg (by omega), if_neg (by omega), if_pos (by omega)]
  · rw [if_neg hlt, if_neg hlt]
    obtain ⟨τ, e, H'⟩ := se_14m H (by omega)
    refine ⟨τ, ?_, H'⟩
    rw [← e]
    unfold cl_dP_mark
    rw [H.2.2.1.1, if_neg (by omega), if_neg (by omega), if_neg (by omega)]
    by_cases h4 : k = 4
    · rw [if_pos (by omega)]
    · rw [if_neg (by omega), if_pos (by omega)]
end SE
/-- the Model's side -/
def se_M (N : pn_N) (μ : mo_S) (S : pa_S) : Prop := pm_R μ S ∧ pa_tn S ≤ 16 ∧ pa_net S = N
def se_il (N : pn_N) (p : Nat) : Int32 := if 0 ≤ pn_il N p then pn_il N p else 0
section SEM
variable {N : pn_N} {μ : mo_S} {S : pa_S} {p : Nat} {A : Int32}
theorem se_Mb (H : se_M N μ S) (b : Int32) : ∃ ν, mo_begins μ b = some ν ∧ se_M N ν (sd_b S b) := by
  obtain ⟨h1, h2, h3⟩ := H
  obtain ⟨ν, e, h4⟩ := sd_mb h1 h2 b
  refine ⟨ν, e, h4, ?_, ?_⟩
  · unfold sd_b
    split
    · show pa_tn S + 1 ≤ 16
      omega
    · exact h2
  · unfold sd_b
    split
    · exact h3
    · exact h3
theorem se_Mk (H : se_M N μ S) (hN : pn_ok N) (hp : p < pn_P N) : mo_kindIn μ (nI p) = some (nI (pn_kd N p)) := by
  have hP9 := hN.1
  have h1 := H.1.1
  rw [H.2.2] at h1
  unfold mo_kindIn
  rw [pn_i4, pn_gdi _ (by omega) (by omega), nI_clamp (by omega), (h1.2.2.2.2.1 p hp).1]
theorem se_Mi (H : se_M N μ S) (hN : pn_ok N) (hp : p < pn_P N) : mo_illOf μ (nI p) = some (se_il N p) := by
  have hP9 := hN.1
  have h1 := H.1.1
  rw [H.2.2] at h1
  unfold mo_illOf se_il
  rw [pn_i4, pn_i5, pn_gdi _ (by omega) (by omega), nI_clamp (by omega), (h1.2.2.2.2.1 p hp).2]
  split <;> rfl
theorem se_Mo (H : se_M N μ S) (hN : pn_ok N) (hp : p < pn_P N) : mo_contactsOf 5 μ (nI p) = some (pn_of N p) := by
  have hP9 := hN.1
  have h1 := H.1.1
  rw [H.2.2] at h1
  exact pn_m_of rfl h1 hN (by omega)
theorem se_M27 (H : se_M N μ S) (hN : pn_ok N) (hp : p < pn_P N) (hk : 1 ≤ pn_kd N p ∧ pn_kd N p ≤ 3) : ∃ ν, mo_openMark_J27 μ (nI p) (nI (pn_kd N p)) = some (se_mk (pn_kd N p) p (se_il N p), ν) ∧ se_M N ν (sd_b (sd_b S 21) 20) := by
  obtain ⟨ν1, e1, H1⟩ := se_Mb H 21
  obtain ⟨ν2, e2, H2⟩ := se_Mb H1 20
  refine ⟨ν2, ?_, H2⟩
  unfold mo_openMark_J27 se_mk
  rw [e1, pb_b1, e2, pb_b1, se_Mi H2 hN hp, pb_b1]
  have h3 : pn_kd N p = 1 ∨ pn_kd N p = 2 ∨ pn_kd N p = 3 := by omega
  rcases h3 with e | e | e <;> rw [e]
  · rw [if_neg (by decide), if_neg (by decide), if_neg (by omega), if_neg (by omega)]
  · rw [if_pos (by decide), if_pos rfl]
  · rw [if_neg (by decide), if_pos (by decide), if_neg (by omega), if_pos rfl]
theorem se_Mom (H : se_M N μ S) (hN : pn_ok N) (hp : p < pn_P N) (hk : 1 ≤ pn_kd N p ∧ pn_kd N p ≤ 3) : ∃ ν, mo_openMark μ (nI p) = some (se_mk (pn_kd N p) p (se_il N p), ν) ∧ se_M N ν (se_mS (pn_kd N p) S) := by
  have ek := se_Mk H hN hp
  have h3 : pn_kd N p = 1 ∨ pn_kd N p = 2 ∨ pn_kd N p = 3 := by omega
  unfold mo_openMark se_mS
  rw [ek, pb_b1]
  rcases h3 with e | e | e
  · obtain ⟨ν, e1, H1⟩ := se_M27 H hN hp hk
    rw [e] at e1 ⊢
    rw [if_pos (by decide), if_neg (by omega), if_neg (by omega)]
    exact ⟨ν, e1, H1⟩
  · obtain ⟨ν0, e0, H0⟩ := se_Mb H 24
    obtain ⟨ν, e1, H1⟩ := se_M27 H0 hN hp hk
    unfold mo_openMark_J24
    rw [e] at e1 ⊢
    rw [if_neg (by decide), if_pos (by decide), if_pos rfl, e0, pb_b1]
    exact ⟨ν, e1, H1⟩
  · obtain ⟨ν0, e0, H0⟩ := se_Mb H 22
    obtain ⟨ν, e1, H1⟩ := se_M27 H0 hN hp hk
    unfold mo_openMark_J24
    rw [e] at e1 ⊢
    rw [if_neg (by decide), if_neg (by decide), if_neg (by omega), if_pos rfl, e0, pb_b1]
    exact ⟨ν, e1, H1⟩
theorem se_Mos (H : se_M N μ S) (hN : pn_ok N) (hp : p < pn_P N) (hk : 1 ≤ pn_kd N p ∧ pn_kd N p ≤ 3) (hA : mo_ones (pn_of N p) = some A) : ∃ ν, mo_openSize μ (nI p) = some (se_oz (pn_kd N p) p A (se_il N p), ν) ∧ se_M N ν (se_oS (pn_kd N p) S) := by
  have ek := se_Mk H hN hp
  have key : ∀ {ψ : mo_S} {T : pa_S} (b : Bool), se_M N ψ T → ∃ ν, mo_openSize_J25 ψ (nI p) b = some (dx_ib b (-(A + se_mk (pn_kd N p) p (se_il N p))) (A + se_mk (pn_kd N p) p (se_il N p)), ν) ∧ se_M N ν (se_mS (pn_kd N p) (sd_b (sd_b T 11) 10)) := by
    intro ψ T b HT
    obtain ⟨ν1, e1, H1⟩ := se_Mb HT 11
    obtain ⟨ν2, e2, H2⟩ := se_Mb H1 10
    obtain ⟨ν3, e3, H3⟩ := se_Mom H2 hN hp hk
    refine ⟨ν3, ?_, H3⟩
    unfold mo_openSize_J25
    rw [e1, pb_b1, e2, pb_b1, se_Mo H2 hN hp, pb_b1, hA, pb_b1, e3, pb_b2]
    cases b <;> rfl
  unfold mo_openSize se_oz se_oS
  rw [ek, pb_b1]
  by_cases h2 : pn_kd N p = 2
  · rw [if_pos (by rw [h2]; decide), if_pos h2, if_pos h2]
    obtain ⟨ν0, e0, H0⟩ := se_Mb H 12
    obtain ⟨ν, e1, H1⟩ := key true H0
    unfold mo_openSize_J14
    rw [pb_ibT, e0, pb_b1]
    exact ⟨ν, e1, H1⟩
  · have n2 : ¬ nI (pn_kd N p) = (2 : Int32) := fun h => h2 ((pb_inj (b := 2) (by omega) (by omega)).mp h)
    rw [if_neg n2, if_neg h2, if_neg h2]
    obtain ⟨ν, e1, H1⟩ := key false H
    unfold mo_openSize_J14
    rw [pb_ibF]
    exact ⟨ν, e1, H1⟩
theorem se_Mws (H : se_M N μ S) (hN : pn_ok N) (hp : p < pn_P N) (hA : mo_ones (pn_of N p) = some A) : ∃ ν, mo_wardSize μ (nI p) = some (se_wz (pn_kd N p) A, ν) ∧ se_M N ν (se_wS (pn_kd N p) S) := by
  have ek := se_Mk H hN hp
  obtain ⟨-, -, -, -, -, hkd1, hkd2⟩ := pn_kdb hN hp
  have key : ∀ {ψ : mo_S} {T : pa_S} (b : Bool), se_M N ψ T → ∃ ν, mo_wardSize_J25 ψ (nI p) b = some (dx_ib b ((2 : Int32) * (A - (100 : Int32))) (A - (100 : Int32)), ν) ∧ se_M N ν (sd_b (sd_b T 13) 10) := by
    intro ψ T b HT
    obtain ⟨ν1, e1, H1⟩ := se_Mb HT 13
    obtain ⟨ν2, e2, H2⟩ := se_Mb H1 10
    refine ⟨ν2, ?_, H2⟩
    unfold mo_wardSize_J25
    rw [e1, pb_b1, e2, pb_b1, se_Mo H2 hN hp, pb_b1, hA, pb_b1]
    cases b <;> rfl
  unfold mo_wardSize se_wz se_wS
  rw [ek, pb_b1]
  by_cases h2 : pn_kd N p = 5
  · rw [if_pos (by rw [h2]; decide), if_pos h2, if_pos h2]
    obtain ⟨ν0, e0, H0⟩ := se_Mb H 14
    obtain ⟨ν, e1, H1⟩ := key true H0
    unfold mo_wardSize_J14
    rw [pb_ibT, e0, pb_b1]
    exact ⟨ν, e1, H1⟩
  · have n2 : ¬ nI (pn_kd N p) = (5 : Int32) := fun h => h2 ((pb_inj (b := 5) (by omega) (by omega)).mp h)
    rw [if_neg n2, if_neg h2, if_neg h2]
    obtain ⟨ν, e1, H1⟩ := key false H
    unfold mo_wardSize_J14
    rw [pb_ibF]
    exact ⟨ν, e1, H1⟩
theorem se_Mwm (H : se_M N μ S) (hN : pn_ok N) (hp : p < pn_P N) (hA : mo_ones (pn_of N p) = some A) : ∃ ν, mo_wardMark μ (nI p) = some (nI p - se_wz (pn_kd N p) A, ν) ∧ se_M N ν (se_wS (pn_kd N p) (sd_b (sd_b S 23) 20)) := by
  obtain ⟨ν1, e1, H1⟩ := se_Mb H 23
  obtain ⟨ν2, e2, H2⟩ := se_Mb H1 20
  obtain ⟨ν3, e3, H3⟩ := se_Mws H2 hN hp hA
  refine ⟨ν3, ?_, H3⟩
  unfold mo_wardMark
  rw [e1, pb_b1, e2, pb_b1, e3, pb_b2]
end SEM
/-- the contacts of one are fewer than 1024 as bits -/
theorem se_of {N : pn_N} (hN : pn_ok N) (p : Nat) : ∃ m, m < 1024 ∧ pn_of N p = nI m := by
  have hC := hN.2.1
  have key : ∀ i, i ≤ 10 → ∀ e, i ≤ e → pb_bt (pb_fold (pn_ofg N p) 0 i) e = false := by
    intro i
    induction i with
    | zero => intro _ e _; exact pb_bt0 e
    | succ i ih =>
      intro hi e he
      show pb_bt (pn_ofg N p i (pb_fold (pn_ofg N p) 0 i)) e = false
      have hx := ih (by omega) e (by omega)
      generalize pb_fold (pn_ofg N p) 0 i = x at hx ⊢
      unfold pn_ofg
      split
      · rw [pb_or, hx, pb_one' (by omega)]
        simp
        omega
      · rw [pb_or, hx, pb_bt0]
        rfl
  have h10 : ∀ e, 10 ≤ e → pb_bt (pn_of N p) e = false := fun e he => key (pn_C N) hC e (by omega)
  obtain ⟨x, hx⟩ : ∃ x, x = pn_of N p := ⟨_, rfl⟩
  rw [← hx] at h10 ⊢
  have hb : x.toBitVec.toNat < 2 ^ 10 := by
    refine Nat.lt_pow_two_of_testBit _ (fun j hj => ?_)
    rw [BitVec.testBit_toNat]
    exact h10 j hj
  refine ⟨x.toBitVec.toNat, by omega, ?_⟩
  apply Int32.toBitVec_inj.mp
  unfold nI
  apply BitVec.eq_of_toNat_eq
  rw [Int32.toBitVec_ofNat', BitVec.toNat_ofNat]
  omega
section SEA
variable {σ : cl_S} {μ : mo_S} {S : pa_S}
theorem se_B {v : Int32} (h : pn_okI v) : (if (0 : Int32) < v then v else (0 : Int32)) = (if 0 ≤ v then v else 0) := by
  rcases h with rfl | ⟨d, hd, rfl⟩
  · decide
  · have h0 : (0 : Int32) ≤ nI d := Int32.not_lt.mp (pb_neg (by omega))
    rw [if_pos h0]
    split
    · rfl
    · rename_i hn
      have : ¬ 0 < d := fun h => hn ((pb_lt (a := 0) (by omega) (by omega)).mpr h)
      have e : d = 0 := by omega
      rw [e]
      exact nI_0.symm
theorem se_ask (h : pc_R σ S) (hm : pm_R μ S) (v w : Int32) : pq_any (cl_X0_ask 19 σ v w) (mo_ask μ v w) := by
  obtain ⟨hN, hpast, ha⟩ := pe_ok h
  have hP9 := hN.1
  have bad : pq_any (some ((-1000001 : Int32), σ)) (some ((-1000001 : Int32), μ)) := ⟨S, _, _, _, rfl, rfl, h, hm⟩
  obtain ⟨x0, -⟩ := pe_30 h
  have i1 : cl_X0_isIn w.toInt64 (0 : Int64) (1 : Int64) = some (pq_in w 0 (nI 1)) := pq_c w 0 1
  have j1 : mo_in w (0 : Int32) (1 : Int32) = some (pq_in w 0 (nI 1)) := pq_m w 0 1
  unfold cl_X0_ask mo_ask
  rw [pb_gdD _ x0, pq_cP h, pq_mP hm, i1, j1]
  simp only [pb_b1]
  cases hv : pq_in v 0 (nI (pn_P (pa_net S)) - 1) with
  | false => exact bad
  | true =>
    simp only [pb_ibT]
    cases hw : pq_in w 0 (nI 1) with
    | false => exact bad
    | true =>
      simp only [pb_ibT]
      obtain ⟨p, hp, rfl⟩ := (pq_lt (by omega)).mp hv
      obtain ⟨k, hk1, rfl⟩ := (pq_le (by omega)).mp hw
      have hp0 := hp
      obtain ⟨τ, e5, hn, x5, hR0⟩ := sd_new h
      rw [e5, pb_b1]
      obtain ⟨θ0, hθ0⟩ : ∃ θ0, θ0 = cl_wr τ 19 11 (cl_n σ + 1) := ⟨_, rfl⟩
      rw [← hθ0] at hR0 ⊢
      obtain ⟨S0, hS0⟩ : ∃ S0, S0 = pa_str S 0 (fun _ => 0) := ⟨_, rfl⟩
      rw [← hS0] at hR0
      have hnet : pa_net S0 = pa_net S := by rw [hS0]; rfl
      have hn0 : cl_n θ0 = cl_n σ + 2 := by rw [hθ0]; exact hn
      have ht0 : cl_r θ0 19 11 = cl_n σ + 1 := by rw [hθ0, pc_wr, pc_r_sr, if_pos rfl, va_up_self]
      obtain ⟨ψ, hψ⟩ : ∃ ψ, ψ = cl_nw θ0 15 0 := ⟨_, rfl⟩
      rw [← hψ]
      have hRψ : pc_R ψ S0 := by rw [hψ]; exact pc_R_sc (pc_fr_nw θ0 15 0 (Z := pc_0) (Y := pc_0)) (fun _ _ h => h.elim) (fun _ _ h => h.elim) hR0
      obtain ⟨y0, y3, k0, ⟨k1, l1, r1⟩, -⟩ := pe_30 hR0
      obtain ⟨z0, z3, m0, ⟨-, -, -⟩, ⟨m2, l2, r2⟩, -⟩ := pe_30 hRψ
      have hN0 := hR0.2.2.1.1
      rw [hnet] at hN0
      have hNψ := hRψ.2.2.1.1
      rw [hnet] at hNψ
      obtain ⟨⟨⟨g1, g2⟩, g3, g4⟩, -, -⟩ := hN0.2.2.1 p hp
      obtain ⟨-, gi, -⟩ := hNψ.2.2.1 p hp
      replace g1 : cl_K < cl_r θ0 31 p := g1
      replace g2 : cl_r θ0 31 p ≤ cl_n θ0 := g2
      replace g3 : cl_k θ0 (cl_r θ0 31 p) = 8 + pn_kd (pa_net S) p := g3
      replace g4 : cl_i θ0 (cl_r θ0 31 p) 0 = nI p := g4
      replace gi : cl_i ψ 32 p = pn_il (pa_net S) p := gi
      have hK18 : cl_K = 18 := rfl
      have nr : cl_r θ0 31 p ≠ 0 := by omega
      have i9 : dx_inb (nI p) 9 = true := by rw [pb_inb (by omega), decide_eq_true (by omega)]
      have cc : (nI p).toNatClampNeg = p := nI_clamp (by omega)
      obtain ⟨m, hm1024, hof⟩ := se_of hN p
      have hcof := pn_c_of hNψ hN (p := p) (by omega)
      rw [hof] at hcof
      obtain ⟨-, -, -, -, -, hkd1, hkd2⟩ := pn_kdb hN hp
      have hok := (hN.2.2.2.1 p hp).2.2
      rw [pb_gdD _ x5, y3, pb_gdD _ (by decide), pb_gdD _ k0, r1, pb_gdD _ (by decide), pb_gdD _ k1, l1, i9, pb_gdT, cc, pb_gdD _ nr, pb_gdD _ z0, z3, pb_gdD _ (by decide), pb_gdD _ m0, hcof, pb_b1, pu_c hm1024, pb_b1, pb_gdD _ (by decide), r2, pb_gdD _ (by decide), pb_gdD _ m2, l2, i9, pb_gdT, gi, se_B hok]
      obtain ⟨A, hA⟩ : ∃ A, A = nI (pu_bc m) := ⟨_, rfl⟩
      obtain ⟨B, hB⟩ : ∃ B, B = se_il (pa_net S) p := ⟨_, rfl⟩
      have hB' : (if 0 ≤ pn_il (pa_net S) p then pn_il (pa_net S) p else 0) = B := hB.symm
      rw [hB', ← hA]
      obtain ⟨θ, hθ⟩ : ∃ θ, θ = cl_wi (cl_wi ψ (cl_n θ0 + 1) 0 A) (cl_n θ0 + 1) 1 B := ⟨_, rfl⟩
      have e18 : cl_X18_init (cl_n θ0 + 1) ψ A B = some θ := by
        unfold cl_X18_init
        rw [pb_gdD _ (by rw [hψ, pc_k_nw, if_pos rfl]), hθ]
      rw [e18, pb_b1]
      have hf : pc_fr θ0 θ pc_0 pc_0 := by
        rw [hθ, hψ]
        exact pc_fr_sin (pc_fr_sin (pc_fr_nw θ0 15 0) (by omega) _) (by omega) _
      have hRθ : pc_R θ S0 := pc_R_sc hf (fun _ _ h => h.elim) (fun _ _ h => h.elim) hR0
      have rθ : cl_r θ 19 11 = cl_n σ + 1 := by
        rw [(hf.2 19 (by omega)).2.2.2 (fun h => h)]
        exact ht0
      have hk5 := hR0.2.2.2.2.2.2.2.2.1
      rw [ht0] at hk5
      obtain ⟨-, q1, -, q2, -⟩ := hk5
      have H : se_J (cl_n σ + 1) (cl_r θ0 31 p) (cl_n θ0 + 1) p (pn_kd (pa_net S) p) A B θ S0 := by
        refine ⟨hRθ, rθ, ⟨?_, ?_⟩, ⟨?_, ?_, ?_⟩, ?_, ?_, by omega, by omega⟩
        · rw [(hf.2 _ g2).1]; exact g3
        · rw [(hf.2 _ g2).2.2.1 (fun h => h)]; exact g4
        · rw [hθ, hψ]
          show cl_k (cl_nw θ0 15 0) (cl_n θ0 + 1) = 15
          rw [pc_k_nw, if_pos rfl]
        · rw [hθ, pc_wi, pc_i_si_s, pc_wi, pc_i_si_s]
          rfl
        · rw [hθ, pc_wi, pc_i_si_s]
          rfl
        · intro e
          rw [e, q1] at g3
          omega
        · intro e
          rw [e, q2] at g3
          omega
      have HM : se_M (pa_net S) (mo_I μ 11 0) S0 := by
        refine ⟨?_, ?_, hnet⟩
        · obtain ⟨m1, m2, m3, m4, m5, m6, m7⟩ := hm
          rw [hS0]
          exact ⟨m1, m2, m3, m4, m5, m6, rfl, fun i hi => absurd hi (Nat.not_lt_zero i)⟩
        · rw [hS0]
          exact Nat.zero_le _
      have hAo : mo_ones (pn_of (pa_net S) p) = some A := by
        rw [hof, hA]
        exact pu_m hm1024
      rw [se_Mk HM hN hp, pb_b1]
      have nt : cl_n σ + 1 ≠ 0 := by omega
      have xθ : cl_k θ 19 = 0 := (pe_30 hRθ).1
      have h4 : (nI (pn_kd (pa_net S) p) < (4 : Int32)) ↔ pn_kd (pa_net S) p < 4 := pb_lt (b := 4) (by omega) (by omega)
      have h01 : k = 0 ∨ k = 1 := by omega
      unfold mo_ask_J39
      rcases h01 with rfl | rfl
      · rw [if_pos nI_0, if_pos nI_0, if_pos nI_0, pb_gdD _ xθ, rθ, pb_gdD _ nt]
        obtain ⟨τ', e', H'⟩ := se_ps H ⟨hkd1, hkd2⟩
        rw [e', pb_b2]
        by_cases hlt : pn_kd (pa_net S) p < 4
        · rw [if_pos (h4.mpr hlt), pb_ibF]
          rw [if_pos hlt] at H' ⊢
          obtain ⟨ν, eν, Hν⟩ := se_Mos HM hN hp ⟨hkd1, by omega⟩ hAo
          rw [eν, pb_b2, ← hB]
          exact ⟨_, _, _, _, rfl, rfl, H'.1, Hν.1⟩
        · rw [if_neg (fun h => hlt (h4.mp h)), pb_ibT]
          rw [if_neg hlt] at H' ⊢
          obtain ⟨ν, eν, Hν⟩ := se_Mws HM hN hp hAo
          rw [eν, pb_b2]
          exact ⟨_, _, _, _, rfl, rfl, H'.1, Hν.1⟩
      · have n10 : ¬ nI 1 = (0 : Int32) := by decide
        rw [if_neg n10, if_neg n10, if_neg n10, pb_gdD _ xθ, rθ, pb_gdD _ nt]
        obtain ⟨τ', e', H'⟩ := se_pm H ⟨hkd1, hkd2⟩
        rw [e', pb_b2]
        by_cases hlt : pn_kd (pa_net S) p < 4
        · rw [if_pos (h4.mpr hlt), pb_ibF]
          rw [if_pos hlt] at H' ⊢
          obtain ⟨ν, eν, Hν⟩ := se_Mom HM hN hp ⟨hkd1, by omega⟩
          rw [eν, pb_b2, ← hB]
          exact ⟨_, _, _, _, rfl, rfl, H'.1, Hν.1⟩
        · rw [if_neg (fun h => hlt (h4.mp h)), pb_ibT]
          rw [if_neg hlt] at H' ⊢
          obtain ⟨ν, eν, Hν⟩ := se_Mwm HM hN hp hAo
          rw [eν, pb_b2]
          exact ⟨_, _, _, _, rfl, rfl, H'.1, Hν.1⟩
end SEA
