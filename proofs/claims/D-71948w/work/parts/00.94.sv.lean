/-! written: the class's text -/
section SV
variable {σ θ : cl_S} {S : pa_S} {N : pn_N} {o cap : Nat}
/-- one link -/
theorem sv_81 (hR : pc_R σ S) (hNS : pa_net S = N) {xs : List Nat} (hB : sr_B σ θ o xs cap) {q t k : Nat} (hk : k < 2 * pn_C N) (ho : o ≠ 0) (hl : xs.length + (su_p N k).length ≤ 72) (v3 : Nat) (v5 : Int32) : ∃ θ' cap', cl_X4_written_J81 46 30 θ v3 v5 (nI (k / 2)) (nI (ca_w N k)) o (if k % 2 = 1 then (62 : Int32) else (60 : Int32)) = some (.inl (nI (ca_w N k), v5 + (1 : Int32), θ')) ∧ sr_B σ θ' o (xs ++ su_p N k) cap' := by
  have hN : pn_ok N := by rw [← hNS]; exact hR.2.2.1.2
  have hC := hN.2.1
  have hP := hN.1
  obtain ⟨g1, g2, g3, -⟩ := ca_rg hN hk
  have hc : k / 2 < pn_C N := by omega
  have hkσ : pf_k σ := hR.1.2.2.2.2.2.1
  have hKσ : cl_K ≤ cl_n σ := by have := hR.1.1; have : cl_K = 18 := rfl; omega
  have hlen : xs.length + (1 + (ss_dg (k / 2)).length + ((1 + (ss_dg (ca_d N k)).length + 1) + (ss_dg (ca_w N k)).length)) ≤ 72 := by
    unfold su_p at hl
    rw [List.length_append, List.length_append, List.length_append, List.length_append, List.length_append] at hl
    exact hl
  have l1 := (su_dl (x := k / 2)).2.1
  have l2 := (su_dl (x := ca_d N k)).1
  have l3 := (su_dl (x := ca_w N k)).1
  obtain ⟨sg, hsg⟩ : ∃ sg, sg = (if k % 2 = 1 then 62 else 60) := ⟨_, rfl⟩
  have esg : (if k % 2 = 1 then (62 : Int32) else (60 : Int32)) = nI sg := by
    rw [hsg]
    split <;> rfl
  have hsg2 : sg < 128 := by rw [hsg]; split <;> omega
  have b17 := hB.2.1.2.2
  obtain ⟨θ1, cap1, e1, B1, -, -⟩ := ss_chr hB hsg2 (by omega)
  have b17a := B1.2.1.2.2
  obtain ⟨θ2, cap2, e2, B2, -, -⟩ := st_int B1 hkσ hKσ (x := k / 2) (by omega) (by rw [List.length_append]; show xs.length + 1 + _ ≤ 72; omega)
  obtain ⟨hk2, hK2⟩ := su_k hkσ hKσ B2.1 (fun _ h => h.elim) (fun _ h => h.elim)
  obtain ⟨θ3, e3, B3⟩ := sr_new (σ := θ2) hK2
  obtain ⟨hk3, hK3⟩ := su_k hk2 hK2 B3.1 (fun _ h => h.elim) (fun _ h => h.elim)
  have h18 : cl_K = 18 := rfl
  have nz : cl_n θ2 + 1 ≠ 0 := by omega
  obtain ⟨-, T2, -, -, t2, -⟩ := su_c hk3 hK3
  obtain ⟨θ4, cap4, e4, B4, c4, -⟩ := ss_str B3 T2 (by rw [t2]; have := B3.2.2.1.1; omega) (by omega) (by show 0 + 1 ≤ 72; omega)
  obtain ⟨hk4, hK4⟩ := su_k hk2 hK2 B4.1 (fun _ h => h.elim) (fun _ h => h.elim)
  have R4 : pc_R θ4 S := pc_R_sc (pc_fr_tr B2.1 B4.1) (fun _ _ h => h.elim) (fun _ _ h => h.elim) hR
  obtain ⟨-, -, n0, -, -, -, -, ⟨n8, nl8, nr8⟩, -⟩ := pe_30 R4
  have hN4 : pc_N θ4 30 N := by have := R4.2.2.1.1; rw [hNS] at this; exact this
  have cd : cl_i θ4 35 (k / 2) = nI (ca_d N k) := (hN4.2.2.2.1 (k / 2) hc).2.2
  obtain ⟨θ5, cap5, e5, B5, c5, -⟩ := st_int B4 hk2 hK2 (x := ca_d N k) (by omega) (by show 1 + _ ≤ 72; omega)
  obtain ⟨hk5, hK5⟩ := su_k hk2 hK2 B5.1 (fun _ h => h.elim) (fun _ h => h.elim)
  obtain ⟨-, -, T3, -, -, t3⟩ := su_c hk5 hK5
  have len5 : ([] ++ [64] ++ ss_dg (ca_d N k) : List Nat).length = 1 + (ss_dg (ca_d N k)).length := by rw [List.length_append]; rfl
  obtain ⟨θ6, cap6, e6, B6, c6, -⟩ := ss_str B5 T3 (by rw [t3]; have := B5.2.2.1.1; omega) (by omega) (by rw [len5]; show 1 + _ + 1 ≤ 72; omega)
  have len6 : ([] ++ [64] ++ ss_dg (ca_d N k) ++ [58] : List Nat).length = 1 + (ss_dg (ca_d N k)).length + 1 := by rw [List.length_append, len5]; rfl
  obtain ⟨θ7, cap7, e7, B7, c7, -⟩ := st_int B6 hk2 hK2 (x := ca_w N k) (by omega) (by rw [len6]; omega)
  have len7 : ([] ++ [64] ++ ss_dg (ca_d N k) ++ [58] ++ ss_dg (ca_w N k) : List Nat).length = 1 + (ss_dg (ca_d N k)).length + 1 + (ss_dg (ca_w N k)).length := by rw [List.length_append, len6]
  obtain ⟨θ8, e8, T8, f8, k8, -, r8, n8'⟩ := st_str B7 (by rw [len7]; omega) (by rw [len7]; omega)
  have B2' : sr_B σ θ8 o (xs ++ [sg] ++ ss_dg (k / 2)) cap2 := sr_B_fr B2 (pc_fr_tr B7.1 f8)
  have ro : cl_r θ8 o 0 = cl_r θ2 o 0 := by rw [((pc_fr_tr B7.1 f8).2 o B2.2.1.2.1).2.2.2 (fun h => h)]
  have n27 := B7.1.1
  have o2 := B2.2.1.2.1
  have r2 := B2.2.2.1.2.1
  obtain ⟨θ9, cap9, e9, B9, -, -⟩ := ss_str B2' T8 (by rw [r8, ro]; omega) (by omega) (by rw [len7, List.length_append, List.length_append]; show xs.length + 1 + _ + _ ≤ 72; omega)
  refine ⟨θ9, cap9, ?_, ?_⟩
  · have i10 : dx_inb (nI (k / 2)) 10 = true := by rw [pb_inb (by omega), decide_eq_true (by omega)]
    rw [esg]
    unfold cl_X4_written_J81
    rw [pb_gdD _ b17, e1, pb_b2, pb_gdD _ ho, pb_gdD _ b17a, e2, pb_b2, pb_gdD _ ho, e3, pb_b1, pb_gdD _ B3.2.1.2.2, e4, pb_b2, pb_gdD _ nz, pb_gdD _ n0, nr8, pb_gdD _ (by decide), pb_gdD _ n8, nl8, i10, pb_gdT, pb_gdD _ B4.2.1.2.2, nI_clamp (by omega), cd, e5, pb_b2, pb_gdD _ nz, pb_gdD _ B5.2.1.2.2, e6, pb_b2, pb_gdD _ nz, pb_gdD _ B6.2.1.2.2, e7, pb_b2, pb_gdD _ nz, pb_gdD _ B7.2.1.2.2, e8, pb_b2, pb_gdD _ (by omega), pb_gdD _ B2'.2.1.2.2, e9, pb_b2, pb_gdD _ ho]
  · have : xs ++ su_p N k = xs ++ [sg] ++ ss_dg (k / 2) ++ ([] ++ [64] ++ ss_dg (ca_d N k) ++ [58] ++ ss_dg (ca_w N k)) := by
      unfold su_p
      rw [← hsg]
      simp only [List.append_assoc, List.nil_append]
    rw [this]
    exact B9
/-- **Chains.written** -/
theorem sv_written (hR : pc_R σ S) (hNS : pa_net S = N) {s D n : Nat} {K L : Nat → Nat} (hs : s < pn_P N) (hn : n ≤ 10) (hK : ca_ok N L s D n K) (h7 : cl_i σ 46 7 = nI n) (h52 : ∀ t, t < n → cl_i σ 52 t = nI (K t / 2)) : ∃ o θ cap, cl_X4_written 46 30 σ (nI s) = some (o, θ) ∧ o ≠ 0 ∧ sr_B σ θ o (su_x N s K n) cap := by
  have hN : pn_ok N := by rw [← hNS]; exact hR.2.2.1.2
  have hC := hN.2.1
  have hP := hN.1
  have h18 : cl_K = 18 := rfl
  have hkσ : pf_k σ := hR.1.2.2.2.2.2.1
  have hKσ : cl_K ≤ cl_n σ := by have := hR.1.1; omega
  have f1 : pc_fr σ (cl_nw σ 17 0) pc_0 pc_0 := pc_fr_nw σ 17 0
  obtain ⟨hk1, hK1⟩ := su_k hkσ hKσ f1 (fun _ h => h.elim) (fun _ h => h.elim)
  obtain ⟨σ1, eσ1⟩ : ∃ σ1, σ1 = cl_nw σ 17 0 := ⟨_, rfl⟩
  have nσ1 : cl_n σ1 = cl_n σ + 1 := by rw [eσ1]; rfl
  rw [← eσ1] at hk1 hK1 f1
  obtain ⟨θ3, e3, B3⟩ := sr_new (σ := σ1) hK1
  obtain ⟨hk3, hK3⟩ := su_k hk1 hK1 B3.1 (fun _ h => h.elim) (fun _ h => h.elim)
  obtain ⟨T1, -, -, t1, -⟩ := su_c hk3 hK3
  obtain ⟨θ5, cap5, e5, B5, c5, -⟩ := ss_str B3 T1 (by rw [t1]; have := B3.2.2.1.1; omega) (by omega) (by show 0 + 0 ≤ 72; omega)
  have sd := (su_dl (x := s)).2.2 (by omega)
  obtain ⟨θ7, cap7, e7, B7, c7, -⟩ := st_int B5 hk1 hK1 (x := s) (by omega) (by show 0 + _ ≤ 72; omega)
  have len7 : ([] ++ [] ++ ss_dg s : List Nat).length = 1 := by
    show (ss_dg s).length = 1
    exact sd
  obtain ⟨θ9, e9, T9, f9, k9, -, r9, n9⟩ := st_str B7 (by rw [len7]; omega) (by rw [len7]; omega)
  have f19 : pc_fr σ1 θ9 pc_0 pc_0 := pc_fr_tr B7.1 f9
  have n17 := B7.1.1
  have nz : cl_n σ1 + 1 ≠ 0 := by omega
  obtain ⟨k1, -, i1, -⟩ := f19.2 (cl_n σ + 1) (by omega)
  have ko : cl_k θ9 (cl_n σ + 1) = 17 := by rw [k1, eσ1, pc_k_nw, if_pos rfl]
  have io : cl_i θ9 (cl_n σ + 1) 3 = 0 := by rw [i1 (fun h => h), eσ1, pc_i_nw, if_pos rfl]
  have hn9 := f19.1
  obtain ⟨θ11, cap11, e11, B11⟩ := su_init (σ := σ) (o := cl_n σ + 1) (pc_fr_tr f1 f19) ⟨by omega, by omega, ko⟩ io T9 (by omega) (by rw [len7]; omega)
  have hKr : ∀ t, t < n → K t / 2 < 10 ∧ ca_w N (K t) < 10 := by
    intro t ht
    have a := (hK t ht).1
    have b := (ca_rg hN a).1
    omega
  have hloop := pb_cnti (b := fun x : Int32 × Int32 × cl_S => cl_X4_written_L33 46 30 x.2.2 (cl_n σ + 1) x.1 x.2.1) (fun t (x : cl_S) => (nI (ca_q N s K t), nI t, x)) (fun t x => ∃ cap, sr_B σ x (cl_n σ + 1) (su_x N s K t) cap) n (fun z => z.1 = cl_n σ + 1 ∧ ∃ cap, sr_B σ z.2 (cl_n σ + 1) (su_x N s K n) cap) (fun t ht x hx => ?_) (fun x hx => ?_) 11 (by omega) θ11 ⟨cap11, B11⟩
  · obtain ⟨⟨o, θ⟩, hz, z1, cap, z2⟩ := hloop
    replace z1 : o = cl_n σ + 1 := z1
    subst z1
    refine ⟨cl_n σ + 1, θ, cap, ?_, by omega, z2⟩
    unfold cl_X4_written
    rw [← eσ1, e3, pb_b1, pb_gdD _ B3.2.1.2.2, e5, pb_b2, pb_gdD _ nz, pb_gdD _ B5.2.1.2.2, e7, pb_b2, pb_gdD _ nz, pb_gdD _ B7.2.1.2.2, e9, pb_b2, pb_gdD _ (by omega), e11, pb_b1, ← nI_0]
    exact hz
  · obtain ⟨cap, B⟩ := hx
    have Rx : pc_R x S := pc_R_sc B.1 (fun _ _ h => h.elim) (fun _ _ h => h.elim) hR
    have hNx : pc_N x 30 N := by have := Rx.2.2.1.1; rw [hNS] at this; exact this
    obtain ⟨-, -, n0, -, -, ⟨n6, nl6, nr6⟩, -⟩ := pe_30 Rx
    obtain ⟨v0, ⟨-, -, -, -, -, r6⟩, ⟨-, -, -, -, -, q6⟩, ⟨-, -, -, -, -, l6⟩⟩ := Rx.1.2.2.2.1
    obtain ⟨k1, k2, k3, k4⟩ := hK t ht
    obtain ⟨-, -, i46, -⟩ := B.1.2 46 (by have := hR.1.1; omega)
    obtain ⟨-, -, i52, -⟩ := B.1.2 52 (by have := hR.1.1; omega)
    have x7 : cl_i x 46 7 = nI n := by rw [i46 (fun h => h)]; exact h7
    have x52 : cl_i x 52 t = nI (K t / 2) := by rw [i52 (fun h => h)]; exact h52 t ht
    have hc : K t / 2 < pn_C N := by omega
    obtain ⟨hlt, hg⟩ := ca_lt hN k1 k2
    have hq : ca_q N s K t < pn_P N := by rw [← hg]; exact (ca_rg hN k1).2.1
    have xa : cl_i x 33 (K t / 2) = nI (pn_a N (K t / 2)) := (hNx.2.2.2.1 (K t / 2) hc).1
    have i279 : dx_inb (nI t) 279 = true := by rw [pb_inb (by omega), decide_eq_true (by omega)]
    have i10 : dx_inb (nI (K t / 2)) 10 = true := by rw [pb_inb (by omega), decide_eq_true (by omega)]
    have ct : (nI t).toNatClampNeg = t := nI_clamp (by omega)
    have cK : (nI (K t / 2)).toNatClampNeg = K t / 2 := nI_clamp (by omega)
    obtain ⟨c1, c2, c3, c4⟩ := hN.2.2.2.2 (K t / 2) hc
    have hot := pc_other hNx hN hc (p := ca_q N s K t) (by omega)
    have hto : (if pn_a N (K t / 2) = ca_q N s K t then nI (pn_b N (K t / 2)) else if pn_b N (K t / 2) = ca_q N s K t then nI (pn_a N (K t / 2)) else (-1000000 : Int32)) = nI (ca_w N (K t)) ∧ (pn_a N (K t / 2) = ca_q N s K t ↔ K t % 2 = 1) := by
      unfold ca_g at hg
      unfold ca_w
      by_cases h0 : K t % 2 = 0
      · rw [if_pos h0] at hg
        rw [if_neg (by omega), if_pos hg, if_pos h0]
        exact ⟨rfl, by omega⟩
      · rw [if_neg h0] at hg
        rw [if_pos hg, if_neg h0]
        exact ⟨rfl, by omega⟩
    rw [hto.1] at hot
    have hlen := su_xl (N := N) (s := s) (K := K) (by omega) t (fun t' ht' => hKr t' (by omega))
    have hpl := su_pl (N := N) (k := K t) (hKr t ht).1 (hKr t ht).2
    obtain ⟨x', cap', e', B'⟩ := sv_81 (q := 0) (t := 0) hR hNS B k1 (by omega) (by omega) (cl_n σ + 1) (nI t)
    refine ⟨x', ⟨cap', B'⟩, ?_⟩
    show cl_X4_written_L33 46 30 x (cl_n σ + 1) (nI (ca_q N s K t)) (nI t) = some (.inl (nI (ca_w N (K t)), nI (t + 1), x'))
    have hle : ¬ nI n ≤ nI t := fun h => absurd ((pb_le (by omega) (by omega)).mp h) (by omega)
    unfold cl_X4_written_L33
    rw [pb_gdD _ v0, x7, if_neg hle, r6, pb_gdD _ (by decide), pb_gdD _ q6, l6, i279, pb_gdT, pb_gdD _ n0, ct, x52, hot, pb_b1, nr6, pb_gdD _ (by decide), pb_gdD _ n6, nl6, i10, pb_gdT, cK, xa, nI_succ]
    by_cases h1 : K t % 2 = 1
    · rw [if_pos (by rw [hto.2.mpr h1])]
      rw [if_pos h1] at e'
      exact e'
    · rw [if_neg (fun h => h1 (hto.2.mp ((pb_inj (by omega) (by omega)).mp h)))]
      rw [if_neg h1] at e'
      exact e'
  · obtain ⟨cap, B⟩ := hx
    have Rx : pc_R x S := pc_R_sc B.1 (fun _ _ h => h.elim) (fun _ _ h => h.elim) hR
    obtain ⟨v0, -⟩ := Rx.1.2.2.2.1
    obtain ⟨-, -, i46, -⟩ := B.1.2 46 (by have := hR.1.1; omega)
    have x7 : cl_i x 46 7 = nI n := by rw [i46 (fun h => h)]; exact h7
    refine ⟨(cl_n σ + 1, x), ?_, rfl, cap, B⟩
    show cl_X4_written_L33 46 30 x (cl_n σ + 1) (nI (ca_q N s K n)) (nI n) = _
    unfold cl_X4_written_L33
    rw [pb_gdD _ v0, x7, if_pos ((pb_le (by omega) (by omega)).mpr (Nat.le_refl _))]
    rfl
end SV
