/-! texts: builders and strings in the heap of ids -/
theorem sr_0 : (0 : Int32) &&& 31 = 0 := by decide
theorem sr_r (x : Int32) : x >>> ((0 : Int32) &&& 31) = x := by rw [sr_0]; simp
theorem sr_l (x : Int32) : x <<< ((0 : Int32) &&& 31) = x := by rw [sr_0]; simp
theorem sr_of (n : Nat) : Int32.ofNat n = nI n := rfl
theorem sr_fit : ∀ b : Fin 128, fits .byte (.int (nI b.val)) = true ∧ (nI b.val).toInt8.toInt32 = nI b.val ∧ nI b.val &&& (255 : Int32) = nI b.val ∧ ((nI b.val).toUInt32 % 65536).toInt32 = nI b.val ∧ narrow .char (.int (nI b.val)) = .int (nI b.val) := by decide +kernel
/-- the numbers xs lie in an array from its first place on -/
def sr_A (θ : cl_S) (v : Nat) (xs : List Nat) : Prop := ∀ i b, xs[i]? = some b → cl_i θ v i = nI b ∧ b < 128
/-- a builder that was made behind σ -/
def sr_B (σ θ : cl_S) (o : Nat) (xs : List Nat) (cap : Nat) : Prop := pc_fr σ θ pc_0 pc_0 ∧ (cl_n σ < o ∧ o ≤ cl_n θ ∧ cl_k θ o = 17) ∧ (cl_n σ < cl_r θ o 0 ∧ cl_r θ o 0 ≤ cl_n θ ∧ cl_k θ (cl_r θ o 0) = 21 ∧ cl_l θ (cl_r θ o 0) = cap) ∧ cl_i θ o 1 = 0 ∧ cl_i θ o 3 = nI xs.length ∧ (xs.length ≤ cap ∧ cap ≤ 160) ∧ (∀ i, i < cap → ∃ b, b < 128 ∧ cl_i θ (cl_r θ o 0) i = nI b) ∧ sr_A θ (cl_r θ o 0) xs
/-- a string -/
def sr_T (θ : cl_S) (s : Nat) (xs : List Nat) : Prop := (cl_k θ s = 16 ∨ cl_k θ s = 18) ∧ s ≤ cl_n θ ∧ (cl_r θ s 0 ≠ 0 ∧ cl_r θ s 0 ≤ cl_n θ) ∧ (cl_k θ (cl_r θ s 0) = 21 ∨ cl_k θ (cl_r θ s 0) = 23) ∧ cl_l θ (cl_r θ s 0) = xs.length ∧ cl_i θ s 1 = 0 ∧ sr_A θ (cl_r θ s 0) xs
theorem sr_fr {σ τ : cl_S} {x : Nat} (f : Nat → Int32) {Y : Nat → Prop} (h : pc_fr σ τ pc_0 Y) (hx : cl_n σ < x) : pc_fr σ (cl_si τ x f) pc_0 Y := pc_fr_sin h hx f
section SR
variable {σ θ : cl_S} {o s : Nat} {xs ys : List Nat} {cap m : Nat}
theorem sr_new (hK : cl_K ≤ cl_n σ) : ∃ θ, cl_J10_init (cl_n σ + 1) (cl_nw σ 17 0) = some θ ∧ sr_B σ θ (cl_n σ + 1) [] 16 := by
  obtain ⟨τ, hτ⟩ : ∃ τ, τ = cl_wi (cl_wr (cl_nw (cl_nw σ 17 0) 21 16) (cl_n σ + 1) 0 (cl_n σ + 2)) (cl_n σ + 1) 1 0 := ⟨_, rfl⟩
  have hn : cl_n τ = cl_n σ + 2 := by rw [hτ]; rfl
  have kk : ∀ y, cl_k τ y = if y = cl_n σ + 2 then 21 else if y = cl_n σ + 1 then 17 else cl_k σ y := by intro y; rw [hτ]; rfl
  have ll : ∀ y, cl_l τ y = if y = cl_n σ + 2 then 16 else if y = cl_n σ + 1 then 0 else cl_l σ y := by intro y; rw [hτ]; rfl
  have rr : cl_r τ (cl_n σ + 1) 0 = cl_n σ + 2 := by rw [hτ]; show cl_r (cl_wr _ _ 0 _) _ 0 = _; rw [pc_wr, pc_r_sr, if_pos rfl, va_up_self]
  have i1 : ∀ k, cl_i τ (cl_n σ + 1) k = 0 := by
    intro k
    rw [hτ, pc_wi, pc_i_si_s]
    unfold upd
    split
    · rfl
    · rw [pc_wr, pc_i_sr, pc_i_nw, pc_n_nw, if_neg (by omega), pc_i_nw, if_pos rfl]
  have i2 : ∀ k, cl_i τ (cl_n σ + 2) k = 0 := by
    intro k
    rw [hτ, pc_wi, pc_i_si_n _ _ _ _ (by omega), pc_wr, pc_i_sr, pc_i_nw, pc_n_nw, if_pos rfl]
  refine ⟨τ, ?_, ?_, ⟨by omega, by omega, ?_⟩, ?_, i1 1, ?_, ⟨by show 0 ≤ 16; omega, by omega⟩, ?_, ?_⟩
  · unfold cl_J10_init cl_J9_init
    have c16 : (16 : Int32).toNatClampNeg = 16 := by decide
    rw [c16, pb_gdD _ (by decide), pb_gdD _ (by rw [pc_k_nw, pc_n_nw, if_neg (by omega), pc_k_nw, if_pos rfl]), pb_let, pb_b1, hτ]
    rfl
  · rw [hτ]
    exact pc_fr_sin (pc_fr_srn (pc_fr_nwn (pc_fr_nw σ 17 0) 21 16) (by omega) _) (by omega) _
  · rw [kk, if_neg (by omega), if_pos rfl]
  · rw [rr, kk, if_pos rfl, ll, if_pos rfl]
    exact ⟨by omega, by omega, rfl, rfl⟩
  · rw [i1]
    exact nI_0.symm
  · rw [rr]
    intro i _
    exact ⟨0, by omega, by rw [i2, nI_0]⟩
  · intro i b hb
    simp at hb
/-- what a builder keeps while other, newer things are made -/
theorem sr_B_fr {θ' : cl_S} (h : sr_B σ θ o xs cap) (hf : pc_fr θ θ' pc_0 pc_0) : sr_B σ θ' o xs cap := by
  obtain ⟨a, ⟨b1, b2, b3⟩, ⟨c1, c2, c3, c4⟩, d1, d2, d3, d4, d5⟩ := h
  obtain ⟨e1, -, e3, e4⟩ := hf.2 o b2
  have hn := hf.1
  obtain ⟨g1, g2, g3, -⟩ := hf.2 (cl_r θ o 0) c2
  replace e3 := e3 (fun h => h)
  replace e4 := e4 (fun h => h)
  replace g3 := g3 (fun h => h)
  unfold sr_B sr_A
  rw [e1, e3, e4, g1, g2, g3]
  exact ⟨pc_fr_tr a hf, ⟨b1, by omega, b3⟩, ⟨c1, by omega, c3, c4⟩, d1, d2, d3, d4, d5⟩
theorem sr_T_fr {θ' : cl_S} {Z Y : Nat → Prop} (h : sr_T θ s xs) (hf : pc_fr θ θ' Z Y) (hz : ¬ Z s ∧ ¬ Z (cl_r θ s 0)) (hy : ¬ Y s) : sr_T θ' s xs := by
  obtain ⟨a, b, ⟨c1, c2⟩, d, e, f, g⟩ := h
  have hn := hf.1
  obtain ⟨e1, -, e3, e4⟩ := hf.2 s b
  obtain ⟨g1, g2, g3, -⟩ := hf.2 (cl_r θ s 0) c2
  replace e3 := e3 hz.1
  replace e4 := e4 hy
  replace g3 := g3 hz.2
  unfold sr_T sr_A
  rw [e1, e3, e4, g1, g2, g3]
  exact ⟨a, by omega, ⟨c1, by omega⟩, d, e, f, g⟩
theorem sr_len (h : sr_T θ s xs) : cl_J4_coder s θ = some 0 ∧ cl_J4_length s θ = some (nI xs.length) := by
  obtain ⟨a, b, ⟨c1, c2⟩, d, e, f, g⟩ := h
  have hc : cl_J4_coder s θ = some 0 := by
    unfold cl_J4_coder
    rw [pb_gdD _ a, f, pb_gdD _ (by decide)]
  refine ⟨hc, ?_⟩
  unfold cl_J4_length
  rw [pb_gdD _ a, pb_gdD _ c1, pb_gdD _ d, hc, pb_b1, sr_r, e, sr_of]
/-- room for m -/
theorem sr_ens (h : sr_B σ θ o xs cap) (hm : m ≤ 72) : ∃ θ' cap', cl_J9_ensureCapacityInternal o θ (nI m) = some θ' ∧ sr_B σ θ' o xs cap' ∧ (m ≤ cap' ∧ cap ≤ cap') ∧ pc_fr θ θ' pc_0 (fun y => y = o) ∧ (cl_r θ' o 0 = cl_r θ o 0 ∨ cl_n θ < cl_r θ' o 0) := by
  have h0 := h
  obtain ⟨a, ⟨b1, b2, b3⟩, ⟨c1, c2, c3, c4⟩, d1, d2, ⟨d3, d3'⟩, d4, d5⟩ := h
  have zv : cl_r θ o 0 ≠ 0 := by omega
  unfold cl_J9_ensureCapacityInternal
  rw [pb_gdD _ b3, pb_gdD _ zv, pb_gdD _ (Or.inl c3), d1, sr_r, c4, sr_of]
  by_cases hle : m ≤ cap
  · have h1 : nI m - nI cap ≤ (0 : Int32) := by
      rw [Int32.le_iff_toInt_le, Int32.toInt_sub, nI_toInt (by omega), nI_toInt (by omega), Int32.toInt_zero]
      have hb : ((m : Int) - (cap : Int)).bmod (2 ^ 32) = (m : Int) - cap := by apply Int.bmod_eq_of_le <;> omega
      rw [hb]
      omega
    rw [if_pos h1]
    exact ⟨θ, cap, rfl, h0, ⟨hle, Nat.le_refl _⟩, pc_fr_rf _ _ _, Or.inl rfl⟩
  · have h1 : ¬ nI m - nI cap ≤ (0 : Int32) := by
      rw [pb_sub (by omega), ← nI_0]
      exact fun h => absurd ((pb_le (by omega) (by omega)).mp h) (by omega)
    obtain ⟨w, hw⟩ : ∃ w, w = (if m - cap < cap + 2 then 2 * cap + 2 else m) := ⟨_, rfl⟩
    have hw1 : m ≤ w ∧ cap < w ∧ w ≤ 160 := by
      rw [hw]
      split <;> omega
    have hnl : cl_J12_newLength (nI cap) (nI (m - cap)) (nI (cap + 2)) = some (nI w) := by
      unfold cl_J12_newLength
      have e : nI cap + (if nI (m - cap) < nI (cap + 2) then nI (cap + 2) else nI (m - cap)) = nI w := by
        by_cases hlt : m - cap < cap + 2
        · rw [if_pos ((pb_lt (by omega) (by omega)).mpr hlt), pb_add, hw, if_pos hlt]
          congr 1
          omega
        · rw [if_neg (fun h => hlt ((pb_lt (by omega) (by omega)).mp h)), pb_add, hw, if_neg hlt]
          congr 1
          omega
      have e1 : ¬ nI w ≤ (0 : Int32) := by
        rw [← nI_0]
        exact fun h => absurd ((pb_le (by omega) (by omega)).mp h) (by omega)
      have e2 : ¬ (2147483639 : Int32) < nI w := fun h => absurd ((pb_lt (a := 2147483639) (by omega) (by omega)).mp h) (by omega)
      rw [e, if_neg e1, if_neg e2]
    have hnc : cl_J9_newCapacity o θ (nI m) = some (nI w, θ) := by
      unfold cl_J9_newCapacity
      have e2 : nI cap + (2 : Int32) = nI (cap + 2) := by rw [pl_2, pb_add]
      have e3 : ¬ nI w = (2147483647 : Int32) := fun h => absurd ((pb_inj (b := 2147483647) (by omega) (by omega)).mp h) (by omega)
      rw [pb_gdD _ b3, pb_gdD _ zv, pb_gdD _ (Or.inl c3), d1, sr_l, sr_l, c4, sr_of, pb_let, pb_sub (by omega), e2, hnl, pb_b1, if_neg e3, sr_r]
    obtain ⟨v, hv⟩ : ∃ v, v = cl_r θ o 0 := ⟨_, rfl⟩
    rw [← hv] at c1 c2 c3 c4 zv d4 d5 ⊢
    obtain ⟨ψ, hψ⟩ : ∃ ψ, ψ = cl_si (cl_nw θ 21 w) (cl_n θ + 1) (va_cpy (cl_i θ v) (fun _ => 0) 0 0 cap) := ⟨_, rfl⟩
    have hco : cl_J14_copyOf v θ (nI w) = some (cl_n θ + 1, ψ) := by
      have cw : (nI w).toNatClampNeg = w := nI_clamp (by omega)
      have c0 : (0 : Int32).toNatClampNeg = 0 := by decide
      have lv : cl_l (cl_nw θ 21 w) v = cap := by rw [pc_l_nw, if_neg (by omega)]; exact c4
      have ln : cl_l (cl_nw θ 21 w) (cl_n θ + 1) = w := by rw [pc_l_nw, if_pos rfl]
      have kv : cl_k (cl_nw θ 21 w) v = 21 := by rw [pc_k_nw, if_neg (by omega)]; exact c3
      have iv : cl_i (cl_nw θ 21 w) v = cl_i θ v := by rw [pc_i_nw, if_neg (by omega)]
      have inn : cl_i (cl_nw θ 21 w) (cl_n θ + 1) = fun _ => 0 := by rw [pc_i_nw, if_pos rfl]
      have e1 : ¬ nI w = nI cap := fun h => absurd ((pb_inj (by omega) (by omega)).mp h) (by omega)
      have e2 : ¬ nI w < nI cap := fun h => absurd ((pb_lt (by omega) (by omega)).mp h) (by omega)
      unfold cl_J14_copyOf
      rw [pb_gdD _ (Or.inl c3), c4, sr_of, if_neg e1, cw, pb_gdD _ ⟨pb_neg (by omega), hw1.2.2⟩, pb_gdD _ (Or.inl kv), lv, sr_of, if_neg e2]
      have hcg : cl_cg (cl_nw θ 21 w) v (cl_n θ + 1) (0 : Int32) (0 : Int32) (nI cap) = true := by
        unfold cl_cg
        refine decide_eq_true ⟨by decide, by decide, pb_neg (by omega), ?_, ?_⟩
        · rw [c0, nI_clamp (by omega), lv]; omega
        · rw [c0, nI_clamp (by omega), ln]; omega
      have hcf : cl_cf .byte (cl_i (cl_nw θ 21 w) v) (0 : Int32).toNatClampNeg (nI cap).toNatClampNeg = true := by
        unfold cl_cf
        rw [List.all_eq_true]
        intro i hi
        have hi' := List.mem_range.mp hi
        rw [nI_clamp (by omega)] at hi'
        rw [c0, Nat.zero_add, iv]
        obtain ⟨b, hb, e⟩ := d4 i hi'
        rw [e]
        exact (sr_fit ⟨b, hb⟩).1
      rw [hcg, pb_gdT, hcf, pb_gdT, pb_let, hψ]
      unfold cl_cp
      rw [iv, inn, c0, nI_clamp (by omega)]
    have ko : cl_k ψ o = 17 := by
      rw [hψ, pc_k_si, pc_k_nw, if_neg (by omega)]
      exact b3
    have fψ : pc_fr θ ψ pc_0 (fun y => y = o) := by
      rw [hψ]
      exact pc_fr_sin (pc_fr_nw θ 21 w) (by omega) _
    have fσ : pc_fr σ ψ pc_0 pc_0 := by
      rw [hψ]
      exact pc_fr_sin (pc_fr_tr a (pc_fr_nw θ 21 w)) (by have := a.1; omega) _
    have hne : o ≠ cl_n θ + 1 := by omega
    refine ⟨cl_wr ψ o 0 (cl_n θ + 1), w, ?_, ?_, ⟨hw1.1, by omega⟩, ?_, Or.inr ?_⟩
    · rw [if_neg h1, pb_gdD _ zv, hnc, pb_b2, pb_gdD _ b3, d1, sr_l, hco, pb_b2, pb_gdD _ (by omega), pb_gdD _ ko]
    · have r0 : cl_r (cl_wr ψ o 0 (cl_n θ + 1)) o 0 = cl_n θ + 1 := by rw [pc_wr, pc_r_sr, if_pos rfl, va_up_self]
      have io : cl_i (cl_wr ψ o 0 (cl_n θ + 1)) o = cl_i θ o := by
        rw [pc_wr, pc_i_sr, hψ, pc_i_si_n _ _ _ _ hne, pc_i_nw, if_neg hne]
      have inn : cl_i (cl_wr ψ o 0 (cl_n θ + 1)) (cl_n θ + 1) = va_cpy (cl_i θ v) (fun _ => 0) 0 0 cap := by
        rw [pc_wr, pc_i_sr, hψ, pc_i_si_s]
      have kn : cl_k (cl_wr ψ o 0 (cl_n θ + 1)) (cl_n θ + 1) = 21 := by
        rw [pc_wr, pc_k_sr, hψ, pc_k_si, pc_k_nw, if_pos rfl]
      have ln : cl_l (cl_wr ψ o 0 (cl_n θ + 1)) (cl_n θ + 1) = w := by
        rw [pc_wr, pc_l_sr, hψ, pc_l_si, pc_l_nw, if_pos rfl]
      have nn : cl_n (cl_wr ψ o 0 (cl_n θ + 1)) = cl_n θ + 1 := by rw [hψ]; rfl
      have hσθ := a.1
      unfold sr_B sr_A
      rw [r0, io, inn, kn, ln, nn]
      refine ⟨pc_fr_srn fσ b1 _, ⟨b1, by omega, ko⟩, ⟨by omega, by omega, rfl, rfl⟩, d1, d2, ⟨by omega, by omega⟩, fun i hi => ?_, fun i b hb => ?_⟩
      · by_cases hic : i < cap
        · rw [pk_cpy _ _ _ _ hic]
          exact d4 i hic
        · refine ⟨0, by omega, ?_⟩
          unfold va_cpy
          rw [if_neg (by omega), nI_0]
      · have hi : i < xs.length := (List.getElem?_eq_some_iff.mp hb).1
        rw [pk_cpy _ _ _ _ (by omega)]
        exact d5 i b hb
    · exact pc_fr_tr fψ (pc_fr_sr ψ o _ rfl)
    · rw [pc_wr, pc_r_sr, if_pos rfl, va_up_self]
      omega
end SR
