/-! reading: the kind that a letter tells -/
def rs_kd (c : Nat) : Nat := if c = 111 then 1 else if c = 108 then 2 else if c = 104 then 3 else if c = 100 then 4 else if c = 115 then 5 else 0
theorem rs_kd_le (c : Nat) : rs_kd c ≤ 5 := by
  unfold rs_kd
  split
  · omega
  · split
    · omega
    · split
      · omega
      · split
        · omega
        · split <;> omega
/-- the Model's -/
theorem rs_m {c : Nat} (hc : c < 256) : mo_kindOf (nI c) = some (nI (rs_kd c)) := by
  have e : ∀ d : Nat, d < 256 → (nI c = nI d ↔ c = d) := fun d hd => pb_inj (by omega) (by omega)
  have e1 : nI c = (111 : Int32) ↔ c = 111 := e 111 (by omega)
  have e2 : nI c = (108 : Int32) ↔ c = 108 := e 108 (by omega)
  have e3 : nI c = (104 : Int32) ↔ c = 104 := e 104 (by omega)
  have e4 : nI c = (100 : Int32) ↔ c = 100 := e 100 (by omega)
  have e5 : nI c = (115 : Int32) ↔ c = 115 := e 115 (by omega)
  unfold mo_kindOf rs_kd
  simp only [e1, e2, e3, e4, e5]
  by_cases h1 : c = 111
  · rw [if_pos h1, if_pos h1]; rfl
  · rw [if_neg h1, if_neg h1]
    by_cases h2 : c = 108
    · rw [if_pos h2, if_pos h2]; rfl
    · rw [if_neg h2, if_neg h2]
      by_cases h3 : c = 104
      · rw [if_pos h3, if_pos h3]; rfl
      · rw [if_neg h3, if_neg h3]
        by_cases h4 : c = 100
        · rw [if_pos h4, if_pos h4]; rfl
        · rw [if_neg h4, if_neg h4]
          by_cases h5 : c = 115
          · rw [if_pos h5, if_pos h5]; rfl
          · rw [if_neg h5, if_neg h5]; exact congrArg some nI_0.symm
section RS
variable {θ : cl_S} {s : Nat}
/-- two texts of one sign -/
theorem rs_eq {c i w : Nat} (hT : sr_T θ s [c]) (k16 : cl_k θ s = 16) (hi : cl_k θ i = 18 ∧ cl_i θ i 1 = 0 ∧ cl_r θ i 0 = w ∧ w ≠ 0) (hw : cl_k θ w = 23 ∧ cl_l θ w = 1 ∧ cl_i θ w 0 = nI c) : cl_J4_equals s i θ = some true := by
  obtain ⟨a, b, ⟨c1, c2⟩, d, e, f, g⟩ := hT
  obtain ⟨i1, i2, i3, i4⟩ := hi
  obtain ⟨w1, w2, w3⟩ := hw
  have g0 : cl_i θ (cl_r θ s 0) 0 = nI c := (g 0 c rfl).1
  replace e : cl_l θ (cl_r θ s 0) = 1 := e
  have hloop : dx_lp (fun x => cl_J16_equals_L9 (cl_r θ s 0) w θ x) dx_fu (0 : Int32) = some true := by
    rw [← nI_0]
    refine pb_lp (b := fun x => cl_J16_equals_L9 (cl_r θ s 0) w θ x) 1 (fun j => nI j) (fun j hj => ?_) ?_ (by omega)
    · have hj0 : j = 0 := by omega
      subst hj0
      show cl_J16_equals_L9 (cl_r θ s 0) w θ (nI 0) = some (.inl (nI (0 + 1)))
      have c0 : (nI 0).toNatClampNeg = 0 := nI_clamp (by omega)
      have i0 : dx_inb (nI 0) 1 = true := by decide
      unfold cl_J16_equals_L9
      rw [pb_gdD _ d, e, if_neg (by decide), i0, pb_gdT, pb_gdD _ (Or.inr w1), w2, i0, pb_gdT, c0, g0, w3, if_pos rfl]
      rfl
    · show cl_J16_equals_L9 (cl_r θ s 0) w θ (nI 1) = some (.inr true)
      unfold cl_J16_equals_L9
      rw [pb_gdD _ d, e, if_pos (by decide)]
      rfl
  unfold cl_J4_equals cl_J4_equals_J36 cl_J16_equals
  rw [pb_gdD _ k16, pb_gdD _ i1, f, i2, if_pos rfl, pb_gdD _ (Or.inl k16), pb_gdD _ c1, pb_gdD _ (Or.inr i1), i3, pb_gdD _ i4, pb_gdD _ d, pb_gdD _ (Or.inr w1), e, w2, if_pos rfl, hloop, pb_b1, pb_ibT]
/-- Marked.kindBy of a text of one letter -/
theorem rs_by {c : Nat} (hk : pf_k θ) (hK : cl_K < s) (hT : sr_T θ s [c]) (k16 : cl_k θ s = 16) (hh : cl_i θ s 2 = 0 ∧ cl_i θ s 3 = 0) (hc : 97 ≤ c ∧ c ≤ 122) : cl_X9_kindBy s θ = some (if rs_kd c = 0 then (-1000000 : Int32) else nI (rs_kd c), cl_wi θ s 2 (nI c)) := by
  have hT0 := hT
  obtain ⟨a, b, ⟨c1, c2⟩, d, e, f, g⟩ := hT
  replace e : cl_l θ (cl_r θ s 0) = 1 := e
  have g0 : cl_i θ (cl_r θ s 0) 0 = nI c := (g 0 c rfl).1
  obtain ⟨-, -, f3, -, -⟩ := sr_fit ⟨c, by omega⟩
  replace f3 : nI c &&& (255 : Int32) = nI c := f3
  have c0 : (0 : Int32).toNatClampNeg = 0 := by decide
  have hcode : cl_J16_hashCode (cl_r θ s 0) θ = some (nI c) := by
    unfold cl_J16_hashCode
    rw [pb_gdD _ d, e, if_neg (by decide), if_pos (by decide), show dx_inb (0 : Int32) 1 = true by decide, pb_gdT, c0, g0, f3]
  have hn0 : ¬ nI c = (0 : Int32) := by rw [← nI_0]; exact fun h => absurd ((pb_inj (by omega) (by omega)).mp h) (by omega)
  have hhash : cl_J4_hashCode s θ = some (nI c, cl_wi θ s 2 (nI c)) := by
    unfold cl_J4_hashCode cl_J4_isLatin1
    rw [pb_gdD _ k16, hh.1, if_pos rfl, hh.2, if_pos rfl, pb_gdD _ a, f, if_pos rfl, pb_b1, pb_ibT, pb_gdD _ c1, hcode, pb_b1, if_neg hn0]
  obtain ⟨θ', hθ'⟩ : ∃ θ', θ' = cl_wi θ s 2 (nI c) := ⟨_, rfl⟩
  have k16' : cl_k θ' s = 16 := by rw [hθ']; exact k16
  have hws : cl_r θ s 0 ≠ s := fun h => by rw [h, k16] at d; omega
  have hT' : sr_T θ' s [c] := by
    rw [hθ']
    refine ⟨a, b, ⟨c1, c2⟩, d, e, ?_, fun i b hb => ?_⟩
    · rw [pc_wi, pc_i_si_s]
      exact f
    · show cl_i (cl_wi θ s 2 (nI c)) (cl_r θ s 0) i = nI b ∧ b < 128
      rw [pc_wi, pc_i_si_n _ _ _ _ hws]
      exact g i b hb
  have h18 : cl_K = 18 := rfl
  have cst : ∀ i, 4 ≤ i → i ≤ 8 → cl_i (θ') (i + 8) 0 = nI c → cl_J4_equals s i θ' = some true := by
    intro i h4 h8 hi8
    obtain ⟨p1, p2, p3, p4⟩ := hk i (by omega) (by omega)
    obtain ⟨q1, q2, q3, q4⟩ := hk (i + 8) (by omega) (by omega)
    have i1 : cl_i θ' i = cl_i θ i := by rw [hθ', pc_wi, pc_i_si_n _ _ _ _ (by omega)]
    refine rs_eq (w := i + 8) hT' k16' ⟨?_, ?_, ?_, by omega⟩ ⟨?_, ?_, hi8⟩
    · rw [hθ']
      show cl_k θ i = 18
      rw [p1]
      unfold cl_c0k
      rw [if_pos h8]
    · rw [i1, p3]
      have : i = 4 ∨ i = 5 ∨ i = 6 ∨ i = 7 ∨ i = 8 := by omega
      rcases this with rfl | rfl | rfl | rfl | rfl <;> rfl
    · rw [hθ']
      show cl_r θ i 0 = i + 8
      rw [p4]
      unfold cl_c0r
      rw [if_pos h8, if_pos rfl]
    · rw [hθ']
      show cl_k θ (i + 8) = 23
      rw [q1]
      unfold cl_c0k
      rw [if_neg (by omega)]
    · rw [hθ']
      show cl_l θ (i + 8) = 1
      rw [q2]
      unfold cl_c0l
      rw [if_neg (by omega), if_pos (by omega)]
  have ci : ∀ i, 4 ≤ i → i ≤ 8 → cl_i θ' (i + 8) 0 = cl_c0i (i + 8) 0 := by
    intro i h4 h8
    rw [hθ', pc_wi, pc_i_si_n _ _ _ _ (by omega), (hk (i + 8) (by omega) (by omega)).2.2.1]
  have eqc : ∀ d : Nat, d < 256 → (nI c = nI d ↔ c = d) := fun d hd => pb_inj (by omega) (by omega)
  have e1 : nI c = (111 : Int32) ↔ c = 111 := eqc 111 (by omega)
  have e2 : nI c = (108 : Int32) ↔ c = 108 := eqc 108 (by omega)
  have e3 : nI c = (104 : Int32) ↔ c = 104 := eqc 104 (by omega)
  have e4 : nI c = (100 : Int32) ↔ c = 100 := eqc 100 (by omega)
  have e5 : nI c = (115 : Int32) ↔ c = 115 := eqc 115 (by omega)
  unfold cl_X9_kindBy cl_X9_kindBy_J127 rs_kd
  rw [pb_gdD _ a, hhash, pb_b2, ← hθ', pb_gdD _ (Or.inl k16'), pb_gdD _ (Or.inl k16'), pb_gdD _ (Or.inl k16'), pb_gdD _ (Or.inl k16'), pb_gdD _ (Or.inl k16')]
  by_cases h1 : c = 111
  · subst h1
    rw [if_neg (by decide), if_neg (by decide), if_neg (by decide), if_pos (by decide), cst 4 (by omega) (by omega) (ci 4 (by omega) (by omega)), pb_b1, pb_ibT]
    rfl
  · by_cases h2 : c = 108
    · subst h2
      rw [if_neg (by decide), if_neg (by decide), if_pos (by decide), cst 5 (by omega) (by omega) (ci 5 (by omega) (by omega)), pb_b1, pb_ibT]
      rfl
    · by_cases h3 : c = 104
      · subst h3
        rw [if_neg (by decide), if_pos (by decide), cst 6 (by omega) (by omega) (ci 6 (by omega) (by omega)), pb_b1, pb_ibT]
        rfl
      · by_cases h4 : c = 100
        · subst h4
          rw [if_pos (by decide), cst 7 (by omega) (by omega) (ci 7 (by omega) (by omega)), pb_b1, pb_ibT]
          rfl
        · by_cases h5 : c = 115
          · subst h5
            rw [if_neg (by decide), if_neg (by decide), if_neg (by decide), if_neg (by decide), if_pos (by decide), cst 8 (by omega) (by omega) (ci 8 (by omega) (by omega)), pb_b1, pb_ibT]
            rfl
          · rw [if_neg (fun h => h4 (e4.mp h)), if_neg (fun h => h3 (e3.mp h)), if_neg (fun h => h2 (e2.mp h)), if_neg (fun h => h1 (e1.mp h)), if_neg (fun h => h5 (e5.mp h)), if_neg h1, if_neg h2, if_neg h3, if_neg h4, if_neg h5]
            rfl
end RS
section RSS
variable {σ θ : cl_S} {μ ν : mo_S} {S : pa_S} {N : pn_N} {T : rd_T}
/-- **Reader.sort** -/
theorem rs_sort (h : pc_R σ S) (W : re_W σ θ μ ν (pa_tp S) N T) : ∃ r θ', cl_X7_sort (cl_n σ + 1) θ = some (r, θ') ∧ pc_fr θ θ' pc_0 pc_0 ∧ ((T.2.2.1 = 1 ∧ ∃ c, T.2.2.2 = nI c ∧ c < 256 ∧ rs_kd c ≠ 0 ∧ r = nI (rs_kd c)) ∨ (¬ (T.2.2.1 = 1 ∧ ∃ c, T.2.2.2 = nI c ∧ c < 256 ∧ rs_kd c ≠ 0) ∧ r = (-1000000 : Int32))) := by
  obtain ⟨hG, ⟨g1, g2, g3, g4, g5⟩, -, -, ⟨k1, k2, k3, k4, k5, -⟩⟩ := W
  have kr := hG.2.2.1.1
  obtain ⟨-, hRθ⟩ := re_H h hG
  have h18 : cl_K = 18 := rfl
  have hkθ : pf_k θ := hRθ.1.2.2.2.2.2.1
  have hKθ : cl_K ≤ cl_n θ := by have := hRθ.1.1; omega
  have htk : rd_k T.2.2.1 = 1 ↔ T.2.2.1 = 1 := by
    have h6 : T.2.2.1 = 0 ∨ T.2.2.1 = 1 ∨ T.2.2.1 = 2 ∨ T.2.2.1 = 3 ∨ T.2.2.1 = 4 ∨ T.2.2.1 = 5 := by omega
    rcases h6 with e | e | e | e | e | e <;> rw [e] <;> decide
  by_cases h1 : T.2.2.1 = 1
  · obtain ⟨c, hc1, hc2, hv⟩ := k5 h1
    have hrv : rd_v T.2.2.1 T.2.2.2 = nI c := by rw [h1, hv]; rfl
    obtain ⟨-, -, -, f4, -⟩ := sr_fit ⟨c, by omega⟩
    replace f4 : ((nI c).toUInt32 % 65536).toInt32 = nI c := f4
    obtain ⟨θ3, e3, B3⟩ := sr_new (σ := θ) hKθ
    obtain ⟨hk3, hK3⟩ := su_k hkθ hKθ B3.1 (fun _ h => h.elim) (fun _ h => h.elim)
    obtain ⟨T1, -, -, t1, -⟩ := su_c hk3 hK3
    obtain ⟨θ5, cap5, e5, B5, c5, -⟩ := ss_str B3 T1 (by rw [t1]; have := B3.2.2.1.1; omega) (by omega) (by show 0 + 0 ≤ 72; omega)
    obtain ⟨a1, -, a3, -⟩ := B5.1.2 (cl_n σ + 1) (by have := hG.2.1; omega)
    have i5 : cl_i θ5 (cl_n σ + 1) 5 = nI c := by rw [a3 (fun h => h), g5, hrv]
    have k5' : cl_k θ5 (cl_n σ + 1) = 7 := by rw [a1]; exact kr
    obtain ⟨θ8, cap8, e8, B8, c8, -⟩ := ss_chr B5 (x := c) (by omega) (by show 0 + 1 ≤ 72; omega)
    obtain ⟨θ10, e10, T10, f10, k10, hh10, r10, n10⟩ := st_str B8 (by show 1 ≤ 16; omega) (by show 1 < cap8; omega)
    obtain ⟨hk10, hK10⟩ := su_k hkθ hKθ (pc_fr_tr B8.1 f10) (fun _ h => h.elim) (fun _ h => h.elim)
    have n8 := B8.1.1
    have hby := rs_by (s := cl_n θ8 + 1) hk10 (by omega) T10 k10 hh10 ⟨hc1, hc2⟩
    have nz : cl_n θ + 1 ≠ 0 := by omega
    refine ⟨if rs_kd c = 0 then (-1000000 : Int32) else nI (rs_kd c), cl_wi θ10 (cl_n θ8 + 1) 2 (nI c), ?_, pc_fr_sin (pc_fr_tr B8.1 f10) (x := cl_n θ8 + 1) (by omega) _, ?_⟩
    · unfold cl_X7_sort
      rw [pb_gdD _ kr, g3, if_pos (htk.mpr h1), e3, pb_b1, pb_gdD _ B3.2.1.2.2, e5, pb_b2, pb_gdD _ nz, pb_gdD _ k5', pb_gdD _ B5.2.1.2.2, i5, f4, e8, pb_b2, pb_gdD _ nz, pb_gdD _ B8.2.1.2.2, e10, pb_b2, pb_gdD _ (by omega), hby, pb_b2]
    · by_cases hz : rs_kd c = 0
      · rw [if_pos hz]
        refine Or.inr ⟨?_, rfl⟩
        rintro ⟨-, c', hc', hc256, hne⟩
        rw [hv] at hc'
        have := (pb_inj (by omega) (by omega)).mp hc'
        rw [← this] at hne
        exact hne hz
      · rw [if_neg hz]
        exact Or.inl ⟨h1, c, hv, by omega, hz, rfl⟩
  · refine ⟨_, θ, ?_, pc_fr_rf _ _ _, Or.inr ⟨fun h => h1 h.1, rfl⟩⟩
    unfold cl_X7_sort
    rw [pb_gdD _ kr, g3, if_neg (fun h => h1 (htk.mp h))]
/-- what is made anew leaves all as it is -/
theorem re_W_fr {θ' : cl_S} (W : re_W σ θ μ ν (pa_tp S) N T) (hf : pc_fr θ θ' pc_0 pc_0) : re_W σ θ' μ ν (pa_tp S) N T := by
  obtain ⟨hG, hg, h3⟩ := W
  obtain ⟨-, -, a3, -⟩ := hf.2 (cl_n σ + 1) (by have := hG.2.1; omega)
  exact ⟨rc_G_fr hG hf, by rw [a3 (fun h => h)]; exact hg, h3⟩
end RSS
