/-! Net.<init>, Net.stirred, personBy -/
section PL0
variable (η : cl_S) (c n x : Nat)
theorem pc_k_nw : cl_k (cl_nw η c n) x = if x = cl_n η + 1 then c else cl_k η x := rfl
theorem pc_l_nw : cl_l (cl_nw η c n) x = if x = cl_n η + 1 then n else cl_l η x := rfl
theorem pc_i_nw : cl_i (cl_nw η c n) x = if x = cl_n η + 1 then (fun _ => 0) else cl_i η x := rfl
theorem pc_r_nw : cl_r (cl_nw η c n) x = if x = cl_n η + 1 then (fun _ => 0) else cl_r η x := rfl
theorem pc_n_nw : cl_n (cl_nw η c n) = cl_n η + 1 := rfl
end PL0
theorem pc_fr_srn {σ τ : cl_S} {Z Y : Nat → Prop} (h : pc_fr σ τ Z Y) {x : Nat} (hx : cl_n σ < x) (g : Nat → Nat) : pc_fr σ (cl_sr τ x g) Z Y := by
  refine ⟨h.1, fun y hy => ?_⟩
  obtain ⟨a1, a2, a3, a4⟩ := h.2 y hy
  refine ⟨a1, a2, a3, fun hn => ?_⟩
  rw [pc_r_sr, if_neg (by omega)]
  exact a4 hn
theorem pc_fr_sin {σ τ : cl_S} {Z Y : Nat → Prop} (h : pc_fr σ τ Z Y) {x : Nat} (hx : cl_n σ < x) (g : Nat → Int32) : pc_fr σ (cl_si τ x g) Z Y := by
  refine ⟨h.1, fun y hy => ?_⟩
  obtain ⟨a1, a2, a3, a4⟩ := h.2 y hy
  refine ⟨a1, a2, fun hn => ?_, a4⟩
  rw [pc_i_si, if_neg (by omega)]
  exact a3 hn
theorem pc_fr_nwn {σ τ : cl_S} {Z Y : Nat → Prop} (h : pc_fr σ τ Z Y) (k n : Nat) : pc_fr σ (cl_nw τ k n) Z Y := pc_fr_tr h (pc_fr_nw τ k n)
def pl_il (f : Nat → Int32) : Nat → Nat → Int32
  | 0 => f
  | i + 1 => upd (pl_il f i) i (-1)
theorem pl_il_at (f : Nat → Int32) : ∀ n p, p < n → pl_il f n p = -1 := by
  intro n
  induction n with
  | zero => intro p h; omega
  | succ n ih =>
    intro p h
    show upd _ n _ p = _
    unfold upd
    split
    · rfl
    · exact ih p (by omega)
/-- **Net.<init>** -/
theorem pl_init (σ : cl_S) (hK : cl_K ≤ cl_n σ) : ∃ σ', cl_X2_init (cl_n σ + 1) (cl_nw σ 2 0) = some σ' ∧ pc_fr σ σ' pc_0 pc_0 ∧ cl_n σ' = cl_n σ + 7 ∧ pc_sh σ' (cl_n σ + 1) ∧ (∀ k, cl_i σ' (cl_n σ + 1) k = 0) ∧ (∀ k, cl_r σ' (cl_n σ + 2) k = 0 ∧ cl_r σ' (cl_n σ + 7) k = 0) ∧ (∀ p, p < 9 → cl_i σ' (cl_n σ + 3) p = -1) ∧ (∀ y, cl_n σ + 7 < y → cl_k σ' y = cl_k σ y) := by
  obtain ⟨m, hm⟩ : ∃ m, m = cl_n σ := ⟨_, rfl⟩
  obtain ⟨τ1, h1⟩ : ∃ τ, τ = cl_nw (cl_nw σ 2 0) 25 9 := ⟨_, rfl⟩
  obtain ⟨τ2, h2⟩ : ∃ τ, τ = cl_nw (cl_wr τ1 (m + 1) 4 (m + 2)) 20 9 := ⟨_, rfl⟩
  obtain ⟨τ3, h3⟩ : ∃ τ, τ = cl_nw (cl_wr τ2 (m + 1) 5 (m + 3)) 20 10 := ⟨_, rfl⟩
  obtain ⟨τ4, h4⟩ : ∃ τ, τ = cl_nw (cl_wr τ3 (m + 1) 6 (m + 4)) 20 10 := ⟨_, rfl⟩
  obtain ⟨τ5, h5⟩ : ∃ τ, τ = cl_nw (cl_wr τ4 (m + 1) 7 (m + 5)) 20 10 := ⟨_, rfl⟩
  obtain ⟨τ6, h6⟩ : ∃ τ, τ = cl_nw (cl_wr τ5 (m + 1) 8 (m + 6)) 26 9 := ⟨_, rfl⟩
  obtain ⟨τ7, h7⟩ : ∃ τ, τ = cl_wr τ6 (m + 1) 9 (m + 7) := ⟨_, rfl⟩
  have n1 : cl_n τ1 = m + 2 := by rw [h1, hm]; rfl
  have n2 : cl_n τ2 = m + 3 := by rw [h2]; show cl_n τ1 + 1 = _; rw [n1]
  have n3 : cl_n τ3 = m + 4 := by rw [h3]; show cl_n τ2 + 1 = _; rw [n2]
  have n4 : cl_n τ4 = m + 5 := by rw [h4]; show cl_n τ3 + 1 = _; rw [n3]
  have n5 : cl_n τ5 = m + 6 := by rw [h5]; show cl_n τ4 + 1 = _; rw [n4]
  have n6 : cl_n τ6 = m + 7 := by rw [h6]; show cl_n τ5 + 1 = _; rw [n5]
  have n7 : cl_n τ7 = m + 7 := by rw [h7]; exact n6
  have kk : ∀ y, cl_k τ7 y = if y = m + 7 then 26 else if y = m + 6 then 20 else if y = m + 5 then 20 else if y = m + 4 then 20 else if y = m + 3 then 20 else if y = m + 2 then 25 else if y = m + 1 then 2 else cl_k σ y := by
    intro y
    rw [h7, h6, pc_wr, pc_k_sr, pc_k_nw, pc_wr, pc_n_sr, pc_k_sr, n5, h5, pc_k_nw, pc_wr, pc_n_sr, pc_k_sr, n4, h4, pc_k_nw, pc_wr, pc_n_sr, pc_k_sr, n3, h3, pc_k_nw, pc_wr, pc_n_sr, pc_k_sr, n2, h2, pc_k_nw, pc_wr, pc_n_sr, pc_k_sr, n1, h1, pc_k_nw, pc_k_nw, pc_n_nw, ← hm]
  have ll : ∀ y, cl_l τ7 y = if y = m + 7 then 9 else if y = m + 6 then 10 else if y = m + 5 then 10 else if y = m + 4 then 10 else if y = m + 3 then 9 else if y = m + 2 then 9 else if y = m + 1 then 0 else cl_l σ y := by
    intro y
    rw [h7, h6, pc_wr, pc_l_sr, pc_l_nw, pc_wr, pc_n_sr, pc_l_sr, n5, h5, pc_l_nw, pc_wr, pc_n_sr, pc_l_sr, n4, h4, pc_l_nw, pc_wr, pc_n_sr, pc_l_sr, n3, h3, pc_l_nw, pc_wr, pc_n_sr, pc_l_sr, n2, h2, pc_l_nw, pc_wr, pc_n_sr, pc_l_sr, n1, h1, pc_l_nw, pc_l_nw, pc_n_nw, ← hm]
  have ii : ∀ y, m < y → y ≤ m + 7 → cl_i τ7 y = fun _ => 0 := by
    intro y y1 y2
    rw [h7, h6, pc_wr, pc_i_sr, pc_i_nw, pc_wr, pc_n_sr, pc_i_sr, n5, h5, pc_i_nw, pc_wr, pc_n_sr, pc_i_sr, n4, h4, pc_i_nw, pc_wr, pc_n_sr, pc_i_sr, n3, h3, pc_i_nw, pc_wr, pc_n_sr, pc_i_sr, n2, h2, pc_i_nw, pc_wr, pc_n_sr, pc_i_sr, n1, h1, pc_i_nw, pc_i_nw, pc_n_nw, ← hm]
    have : y = m + 1 ∨ y = m + 2 ∨ y = m + 3 ∨ y = m + 4 ∨ y = m + 5 ∨ y = m + 6 ∨ y = m + 7 := by omega
    rcases this with rfl | rfl | rfl | rfl | rfl | rfl | rfl <;> simp
  have rr : ∀ y, m < y → y ≤ m + 7 → y ≠ m + 1 → cl_r τ7 y = fun _ => 0 := by
    intro y y1 y2 y3
    rw [h7, h6, pc_wr, pc_r_sr, if_neg y3, pc_r_nw, pc_wr, pc_n_sr, pc_r_sr, if_neg y3, n5, h5, pc_r_nw, pc_wr, pc_n_sr, pc_r_sr, if_neg y3, n4, h4, pc_r_nw, pc_wr, pc_n_sr, pc_r_sr, if_neg y3, n3, h3, pc_r_nw, pc_wr, pc_n_sr, pc_r_sr, if_neg y3, n2, h2, pc_r_nw, pc_wr, pc_n_sr, pc_r_sr, if_neg y3, n1, h1, pc_r_nw, pc_r_nw, pc_n_nw, ← hm]
    have : y = m + 2 ∨ y = m + 3 ∨ y = m + 4 ∨ y = m + 5 ∨ y = m + 6 ∨ y = m + 7 := by omega
    rcases this with rfl | rfl | rfl | rfl | rfl | rfl <;> simp
  have r0 : cl_r τ7 (m + 1) = va_up (va_up (va_up (va_up (va_up (va_up (fun _ => 0) 4 (m + 2)) 5 (m + 3)) 6 (m + 4)) 7 (m + 5)) 8 (m + 6)) 9 (m + 7) := by
    have e : ∀ k, 2 ≤ k → ¬ m + 1 = m + k := by intro k hk; omega
    rw [h7, h6, pc_wr, pc_r_sr, if_pos rfl, pc_r_nw, pc_wr, pc_n_sr, n5, if_neg (e 7 (by omega)), pc_r_sr, if_pos rfl, h5, pc_r_nw, pc_wr, pc_n_sr, n4, if_neg (e 6 (by omega)), pc_r_sr, if_pos rfl, h4, pc_r_nw, pc_wr, pc_n_sr, n3, if_neg (e 5 (by omega)), pc_r_sr, if_pos rfl, h3, pc_r_nw, pc_wr, pc_n_sr, n2, if_neg (e 4 (by omega)), pc_r_sr, if_pos rfl, h2, pc_r_nw, pc_wr, pc_n_sr, n1, if_neg (e 3 (by omega)), pc_r_sr, if_pos rfl, h1, pc_r_nw, pc_n_nw, ← hm, if_neg (e 2 (by omega)), pc_r_nw, ← hm, if_pos rfl]
  have fr : pc_fr σ τ7 pc_0 pc_0 := by
    have lt : cl_n σ < m + 1 := by omega
    rw [h7, h6, h5, h4, h3, h2, h1]
    exact pc_fr_srn (pc_fr_nwn (pc_fr_srn (pc_fr_nwn (pc_fr_srn (pc_fr_nwn (pc_fr_srn (pc_fr_nwn (pc_fr_srn (pc_fr_nwn (pc_fr_srn (pc_fr_nwn (pc_fr_nw σ 2 0) 25 9) lt _) 20 9) lt _) 20 10) lt _) 20 10) lt _) 20 10) lt _) 26 9) lt _
  have k7 : cl_k τ7 (m + 1) = 2 := by rw [kk]; simp
  have hrun : cl_X2_init (m + 1) (cl_nw σ 2 0) = dx_lp (fun x : Int32 × cl_S => cl_X2_init_L56 (m + 1) x.2 x.1) dx_fu ((0 : Int32), τ7) := by
    have q1 : cl_k τ1 (m + 1) = 2 := by rw [h1, pc_k_nw, pc_n_nw, ← hm, if_neg (by omega), pc_k_nw, ← hm, if_pos rfl]
    have q2 : cl_k τ2 (m + 1) = 2 := by rw [h2, pc_k_nw, pc_wr, pc_n_sr, n1, if_neg (by omega), pc_k_sr, q1]
    have q3 : cl_k τ3 (m + 1) = 2 := by rw [h3, pc_k_nw, pc_wr, pc_n_sr, n2, if_neg (by omega), pc_k_sr, q2]
    have q4 : cl_k τ4 (m + 1) = 2 := by rw [h4, pc_k_nw, pc_wr, pc_n_sr, n3, if_neg (by omega), pc_k_sr, q3]
    have q5 : cl_k τ5 (m + 1) = 2 := by rw [h5, pc_k_nw, pc_wr, pc_n_sr, n4, if_neg (by omega), pc_k_sr, q4]
    have q6 : cl_k τ6 (m + 1) = 2 := by rw [h6, pc_k_nw, pc_wr, pc_n_sr, n5, if_neg (by omega), pc_k_sr, q5]
    have w0 : cl_n (cl_nw σ 2 0) + 1 = m + 2 := by rw [pc_n_nw, ← hm]
    unfold cl_X2_init
    rw [← h1, pb_gdD _ q1, pb_let, w0, ← h2, pb_gdD _ q2, pb_let]
    have w1 : cl_n (cl_wr τ1 (m + 1) 4 (m + 2)) + 1 = m + 3 := by show cl_n τ1 + 1 = _; rw [n1]
    rw [w1, ← h3, pb_gdD _ q3, pb_let]
    have w2 : cl_n (cl_wr τ2 (m + 1) 5 (m + 3)) + 1 = m + 4 := by show cl_n τ2 + 1 = _; rw [n2]
    rw [w2, ← h4, pb_gdD _ q4, pb_let]
    have w3 : cl_n (cl_wr τ3 (m + 1) 6 (m + 4)) + 1 = m + 5 := by show cl_n τ3 + 1 = _; rw [n3]
    rw [w3, ← h5, pb_gdD _ q5, pb_let]
    have w4 : cl_n (cl_wr τ4 (m + 1) 7 (m + 5)) + 1 = m + 6 := by show cl_n τ4 + 1 = _; rw [n4]
    rw [w4, ← h6, pb_gdD _ q6, pb_let]
    have w5 : cl_n (cl_wr τ5 (m + 1) 8 (m + 6)) + 1 = m + 7 := by show cl_n τ5 + 1 = _; rw [n5]
    rw [w5, ← h7]
  have hloop : dx_lp (fun x : Int32 × cl_S => cl_X2_init_L56 (m + 1) x.2 x.1) dx_fu ((0 : Int32), τ7) = some (cl_si τ7 (m + 3) (pl_il (cl_i τ7 (m + 3)) 9)) := by
    have e0 : ((0 : Int32), τ7) = (nI 0, cl_si τ7 (m + 3) (pl_il (cl_i τ7 (m + 3)) 0)) := by
      show _ = (nI 0, cl_si τ7 (m + 3) (cl_i τ7 (m + 3)))
      rw [pc_si_self, nI_0]
    rw [e0]
    refine pb_lp (b := fun x : Int32 × cl_S => cl_X2_init_L56 (m + 1) x.2 x.1) 9 (fun i => (nI i, cl_si τ7 (m + 3) (pl_il (cl_i τ7 (m + 3)) i))) (fun i hi => ?_) rfl (by omega)
    show cl_X2_init_L56 (m + 1) (cl_si τ7 (m + 3) (pl_il (cl_i τ7 (m + 3)) i)) (nI i) = some (.inl (nI (i + 1), cl_si τ7 (m + 3) (pl_il (cl_i τ7 (m + 3)) (i + 1))))
    have h9 : ¬ (9 : Int32) ≤ nI i := fun h => absurd ((pb_le (a := 9) (by omega) (by omega)).mp h) (by omega)
    have r5 : cl_r τ7 (m + 1) 5 = m + 3 := by rw [r0]; rfl
    have k3 : cl_k τ7 (m + 3) = 20 := by rw [kk]; simp
    have l3 : cl_l τ7 (m + 3) = 9 := by rw [ll]; simp
    unfold cl_X2_init_L56
    rw [if_neg h9, pc_k_si, pb_gdD _ k7, pc_r_si, r5, pb_gdD _ (by omega), pc_k_si, pb_gdD _ k3, pc_l_si, l3, pn_gdi _ (by omega) (by omega), nI_clamp (by omega), pb_let, ← nI_succ, pc_wi, pc_i_si_s, pc_si_si]
    rfl
  have hb1 : ∀ y, cl_k (cl_si τ7 (m + 3) (pl_il (cl_i τ7 (m + 3)) 9)) y = cl_k τ7 y := fun _ => rfl
  rw [← hm, hrun, hloop]
  refine ⟨_, rfl, pc_fr_sin fr (by omega) _, n7, ?_, fun k => ?_, fun k => ⟨?_, ?_⟩, fun p hp => ?_, fun y hy => ?_⟩
  · have K' : cl_K < m + 1 := by omega
    refine ⟨⟨K', by show m + 1 + 6 ≤ cl_n τ7; omega⟩, k7, ⟨?_, ?_, ?_⟩, ⟨?_, ?_, ?_⟩, ⟨?_, ?_, ?_⟩, ⟨?_, ?_, ?_⟩, ⟨?_, ?_, ?_⟩, ⟨?_, ?_, ?_⟩⟩
    · show cl_k τ7 (m + 2) = 25; rw [kk]; simp
    · show cl_l τ7 (m + 2) = 9; rw [ll]; simp
    · show cl_r τ7 (m + 1) 4 = m + 2; rw [r0]; rfl
    · show cl_k τ7 (m + 3) = 20; rw [kk]; simp
    · show cl_l τ7 (m + 3) = 9; rw [ll]; simp
    · show cl_r τ7 (m + 1) 5 = m + 3; rw [r0]; rfl
    · show cl_k τ7 (m + 4) = 20; rw [kk]; simp
    · show cl_l τ7 (m + 4) = 10; rw [ll]; simp
    · show cl_r τ7 (m + 1) 6 = m + 4; rw [r0]; rfl
    · show cl_k τ7 (m + 5) = 20; rw [kk]; simp
    · show cl_l τ7 (m + 5) = 10; rw [ll]; simp
    · show cl_r τ7 (m + 1) 7 = m + 5; rw [r0]; rfl
    · show cl_k τ7 (m + 6) = 20; rw [kk]; simp
    · show cl_l τ7 (m + 6) = 10; rw [ll]; simp
    · show cl_r τ7 (m + 1) 8 = m + 6; rw [r0]; rfl
    · show cl_k τ7 (m + 7) = 26; rw [kk]; simp
    · show cl_l τ7 (m + 7) = 9; rw [ll]; simp
    · show cl_r τ7 (m + 1) 9 = m + 7; rw [r0]; rfl
  · rw [pc_i_si_n _ _ _ _ (by omega), ii (m + 1) (by omega) (by omega)]
  · show cl_r τ7 (m + 2) k = 0
    rw [rr (m + 2) (by omega) (by omega) (by omega)]
  · show cl_r τ7 (m + 7) k = 0
    rw [rr (m + 7) (by omega) (by omega) (by omega)]
  · rw [pc_i_si_s]
    exact pl_il_at _ 9 p hp
  · show cl_k τ7 y = _
    rw [kk, if_neg (by omega), if_neg (by omega), if_neg (by omega), if_neg (by omega), if_neg (by omega), if_neg (by omega), if_neg (by omega)]
