/-! the other net: as it is now, changed, walked -/
section RY
variable {σ : cl_S} {μ : mo_S} {S : pa_S} {N : pn_N}
theorem ry_now (h : pc_R σ S) : ∃ τ, cl_X0_asNow 19 σ = some (37, τ) ∧ pc_R τ S ∧ pc_N τ 37 (pa_net S) := by
  have s37 := h.1.2.2.2.2.2.2.2.1
  have h' := h
  obtain ⟨τ, b1, b2, b3, b4⟩ := pk_become s37 h.2.2.1.1 h.2.2.1.2 (by omega)
  obtain ⟨⟨-, ⟨x0, -, -, x3, x4, -⟩, -⟩, -⟩ := h
  refine ⟨τ, ?_, pc_R_sc b2 (fun y _ hy => by unfold pk_Z at hy; omega) (fun y _ hy => by unfold pk_Y at hy; omega) h', b3⟩
  unfold cl_X0_asNow
  rw [pb_gdD _ x0, x4, pb_gdD _ (by decide), x3, pb_gdD _ (by decide), pb_gdD _ s37.2.1, b1, pb_b2, pb_gdD _ (by decide)]
theorem ry_go (h : pc_R σ S) (hN : pc_N σ 37 N) (hok : pn_ok N) {s d : Nat} (hs : s < pn_P N) (hd : d < 31) (but : Int32) : ∃ σ', cl_X3_go 44 37 σ (nI s) (nI d) but = some (44, σ') ∧ pc_R σ' S ∧ pc_N σ' 37 N ∧ ∀ p, p < 9 → cl_i σ' 45 p = pn_wk N s d but p := by
  have hw := h.1.2.2.2.2.2.2.2.2
  obtain ⟨f, h1, h2⟩ := pc_go hN hok hw (by omega) but hs hd
  refine ⟨_, h2, ?_, pc_N_w hN hok hw (by omega) f, fun p hp => ?_⟩
  · exact pc_R_sc (pc_fr_si σ 45 f (Z := fun y => y = 45) (Y := pc_0) rfl) (fun y _ hy => by have : y = 45 := hy; omega) (fun y _ hy => hy.elim) h
  · show cl_i (cl_si σ 45 f) 45 p = _
    rw [pc_i_si_s]
    exact h1 p hp
theorem ry_mw (hm : pm_R μ S) (hN : pn_m (μ.2 7) N) (hok : pn_ok N) {s d : Nat} (hs : s < pn_P N) (hd : d < 31) (but : Int32) : ∃ μ', mo_walks 7 μ (nI s) (nI d) but = some μ' ∧ pm_R μ' S ∧ pn_m (μ'.2 7) N ∧ ∀ p, p < 9 → μ'.2 11 p = pn_wk N s d but p := by
  refine ⟨_, pn_m_walks (k0 := 7) rfl hN hok but hs hd, pm_R_W _ hm, ?_, fun p hp => ?_⟩
  · rw [pn_mW_k (k0 := 7) _ rfl]
    exact hN
  · rw [pn_mW_D]
    exact (pn_wo_e9 hok _ s d but hp).1
theorem ry_mnow (hm : pm_R μ S) (hok : pn_ok (pa_net S)) : ∃ μ', mo_copies 5 7 μ (0 : Int32) (0 : Int32) = some μ' ∧ pm_R μ' S ∧ pn_m (μ'.2 7) (pa_net S) := by
  have hc := pj_copies (μ := μ) (k0 := 5) (k2 := 7) (by decide) (p1 := 0) (p3 := 0) (by decide) (by decide) (by decide)
  rw [nI_0] at hc
  refine ⟨_, hc, ?_, ?_⟩
  · refine pm_R_fr (μ := μ) (fun _ _ => rfl) (fun k hk => ?_) hm
    show va_up μ.2 7 (va_cpy (μ.2 5) (μ.2 7) 0 0 52) k = _
    rw [va_up_ne _ _ (by unfold pm_a at hk; omega)]
  · refine pn_m_c hok (fun i hi => ?_) hm.1
    show va_up μ.2 7 (va_cpy (μ.2 5) (μ.2 7) 0 0 52) 7 i = _
    rw [va_up_self, pk_cpy _ _ _ _ hi]
/-- a contact's other day -/
def ry_D (N : pn_N) (c e : Nat) : pn_N := (N.1, N.2.1, N.2.2.1, N.2.2.2.1, N.2.2.2.2.1, va_up (pn_d N) c e)
theorem ry_Dok (hok : pn_ok N) {c e : Nat} (he : e ≤ 30) : pn_ok (ry_D N c e) := by
  refine ⟨hok.1, hok.2.1, hok.2.2.1, hok.2.2.2.1, fun c' hc' => ?_⟩
  obtain ⟨q1, q2, q3, q4⟩ := hok.2.2.2.2 c' hc'
  refine ⟨q1, q2, q3, ?_⟩
  show va_up (pn_d N) c e c' ≤ 30
  unfold va_up
  split
  · exact he
  · exact q4
theorem ry_cD (h : pc_R σ S) (hN : pc_N σ 37 N) (hok : pn_ok N) (c e : Nat) : pc_R (cl_wi σ 42 c (nI e)) S ∧ pc_N (cl_wi σ 42 c (nI e)) 37 (ry_D N c e) := by
  have hf := pc_fr_si σ 42 (upd (cl_i σ 42) c (nI e)) (Z := pk_Z 37) (Y := pc_0) (by unfold pk_Z; omega)
  refine ⟨pc_R_sc hf (fun y _ hy => by unfold pk_Z at hy; omega) (fun y _ hy => hy.elim) h, pe_set (N' := ry_D N c e) hN hok hf ⟨rfl, rfl, rfl, rfl⟩ hN.2.1 (fun p hp => (hN.2.2.1 p hp).2.1) (fun c' hc' => ?_)⟩
  obtain ⟨q1, q2, q3⟩ := hN.2.2.2.1 c' hc'
  refine ⟨q1, q2, ?_⟩
  show upd (cl_i σ 42) c (nI e) c' = nI (va_up (pn_d N) c e c')
  unfold upd va_up
  split
  · rfl
  · exact q3
theorem ry_mD (hm : pm_R μ S) (hN : pn_m (μ.2 7) N) (hok : pn_ok N) (c e : Nat) : pm_R (mo_A μ 7 (24 + 3 * c) (nI e)) S ∧ pn_m ((mo_A μ 7 (24 + 3 * c) (nI e)).2 7) (ry_D N c e) := by
  have hP9 := hok.1
  refine ⟨pm_R_fr (μ := μ) (fun _ _ => rfl) (fun k hk => ?_) hm, ?_⟩
  · show va_up μ.2 7 (upd (μ.2 7) (24 + 3 * c) (nI e)) k = _
    rw [va_up_ne _ _ (by unfold pm_a at hk; omega)]
  · obtain ⟨a0, a1, a2, a3, a4, a5⟩ := hN
    rw [pe_mA]
    have W : ∀ j, upd (μ.2 7) (24 + 3 * c) (nI e) j = if j = 24 + 3 * c then nI e else μ.2 7 j := fun _ => rfl
    refine ⟨by rw [W, if_neg (by omega)]; exact a0, by rw [W, if_neg (by omega)]; exact a1, by rw [W, if_neg (by omega)]; exact a2, by rw [W, if_neg (by omega)]; exact a3, fun p hp => ?_, fun c' hc' => ?_⟩
    · have hp2 : p < pn_P N := hp
      rw [W (4 + 2 * p), if_neg (show ¬ 4 + 2 * p = 24 + 3 * c by omega), W (5 + 2 * p), if_neg (show ¬ 5 + 2 * p = 24 + 3 * c by omega)]
      exact a4 p hp2
    · obtain ⟨q1, q2, q3⟩ := a5 c' hc'
      rw [W (22 + 3 * c'), if_neg (show ¬ 22 + 3 * c' = 24 + 3 * c by omega), W (23 + 3 * c'), if_neg (show ¬ 23 + 3 * c' = 24 + 3 * c by omega), W (24 + 3 * c')]
      refine ⟨q1, q2, ?_⟩
      show _ = nI (va_up (pn_d N) c e c')
      unfold va_up
      by_cases hcc : c' = c
      · rw [if_pos (by omega), if_pos hcc]
      · rw [if_neg (by omega), if_neg hcc]
        exact q3
/-- none is ill beyond the persons -/
theorem ry_0 (hok : pn_ok N) {s d : Nat} (hs : s < pn_P N) (but : Int32) {p : Nat} (hp : pn_P N ≤ p) (hp9 : p < 9) : pn_wk N s d but p = 0 := by
  have gv : ∀ (W : pn_W) f t dd, t < pn_P N → (pn_gv N W f t dd).1 p = W.1 p := by
    intro W f t dd ht
    unfold pn_gv
    split
    · show upd W.1 t _ p = _
      unfold upd
      rw [if_neg (by omega)]
    · rfl
  have fc : ∀ (W : pn_W) dd c, c ≤ pn_C N → (pn_fc N but dd W c).1 p = W.1 p := by
    intro W dd c
    induction c with
    | zero => intro _; rfl
    | succ c ih =>
      intro hc
      obtain ⟨c1, c2, -⟩ := hok.2.2.2.2 c (by omega)
      unfold pn_fc pn_st
      split
      · rw [gv _ _ _ _ c1, gv _ _ _ _ c2]
        exact ih (by omega)
      · exact ih (by omega)
  have fd : ∀ (W : pn_W) n, (pn_fd N but W n).1 p = W.1 p := by
    intro W n
    induction n with
    | zero => rfl
    | succ n ih =>
      unfold pn_fd
      rw [fc _ _ _ (Nat.le_refl _)]
      exact ih
  unfold pn_wk pn_wo
  rw [fd, (pn_w0_at _ s d 9 p hp9).1, if_neg (by omega)]
end RY
