/-! Net.become, Net.<init>, Net.stirred -/
theorem pb_let {α β : Type} (e : α) (k : α → Option β) : dx_let e k = k e := rfl
theorem pk_cpy {β : Type} (f g : Nat → β) (n j : Nat) (hj : j < n) : va_cpy f g 0 0 n j = f j := by
  unfold va_cpy
  rw [if_pos ⟨by omega, by omega⟩]
  congr 1
  omega
theorem pk_up (f : Nat → Int32) (k j : Nat) (v : Int32) : upd f k v j = if j = k then v else f j := rfl
def pk_Z (o : Nat) : Nat → Prop := fun y => y = o ∨ (o + 2 ≤ y ∧ y ≤ o + 5)
def pk_Y (o : Nat) : Nat → Prop := fun y => y = o + 1 ∨ y = o + 6
theorem pk_oks {σ : cl_S} {o : Nat} (h : pc_ar σ o) : cl_oks σ (o + 1) 25 9 = true ∧ cl_oks σ (o + 6) 26 9 = true := by
  unfold cl_oks
  rw [List.all_eq_true, List.all_eq_true]
  refine ⟨fun j hj => ?_, fun j hj => ?_⟩
  · have hj9 := List.mem_range.mp hj
    rcases (h j hj9).1 with q | ⟨-, q1, q2⟩
    · rw [q]; rfl
    · have : cl_okk 25 (cl_k σ (cl_r σ (o + 1) j)) = true := by
        unfold cl_okk
        exact decide_eq_true ⟨q1, q2⟩
      rw [this, Bool.or_true]
  · have hj9 := List.mem_range.mp hj
    rcases (h j hj9).2 with q | ⟨-, q1⟩
    · rw [q]; rfl
    · have : cl_okk 26 (cl_k σ (cl_r σ (o + 6) j)) = true := by
        unfold cl_okk
        exact decide_eq_true q1
      rw [this, Bool.or_true]
theorem pk_oks_c {σ σ' : cl_S} {x tag : Nat} (h1 : cl_r σ' x = cl_r σ x) (h2 : ∀ y, cl_k σ' y = cl_k σ y) : cl_oks σ' x tag 9 = cl_oks σ x tag 9 := by
  unfold cl_oks
  rw [h1]
  congr 1
  funext j
  rw [h2]
section PK
variable {σ : cl_S} {o0 o1 : Nat} {N : pn_N}
/-- **Net.become** -/
theorem pk_become (h0 : pc_sh σ o0) (h1 : pc_N σ o1 N) (hN : pn_ok N) (hd : o1 + 6 < o0 ∨ o0 + 6 < o1) : ∃ σ', cl_X2_become o0 o1 σ = some (o0, σ') ∧ pc_fr σ σ' (pk_Z o0) (pk_Y o0) ∧ pc_N σ' o0 N ∧ cl_n σ' = cl_n σ := by
  have D : ∀ a b, a ≤ 6 → b ≤ 6 → ¬ o1 + a = o0 + b := by intro a b _ _; omega
  have E : ∀ a b, a ≠ b → ¬ o0 + a = o0 + b := by intro a b _; omega
  have hP9 := hN.1
  have hC10 := hN.2.1
  obtain ⟨q25, q26⟩ := pk_oks h1.2.2.2.2
  obtain ⟨⟨s0, s1⟩, k0, ⟨k1, l1, r1⟩, ⟨k2, l2, r2⟩, ⟨k3, l3, r3⟩, ⟨k4, l4, r4⟩, ⟨k5, l5, r5⟩, ⟨k6, l6, r6⟩⟩ := h0
  have h1' := h1
  obtain ⟨⟨⟨t0, t1⟩, m0, ⟨m1, n1, u1⟩, ⟨m2, n2, u2⟩, ⟨m3, n3, u3⟩, ⟨m4, n4, u4⟩, ⟨m5, n5, u5⟩, ⟨m6, n6, u6⟩⟩, ⟨v0, v1, v2, v3⟩, hP, hC, hA⟩ := h1
  have d00 : ¬ o1 = o0 := D 0 0 (by decide) (by decide)
  have d01 : ¬ o1 = o0 + 1 := D 0 1 (by decide) (by decide)
  have d02 : ¬ o1 = o0 + 2 := D 0 2 (by decide) (by decide)
  have d03 : ¬ o1 = o0 + 3 := D 0 3 (by decide) (by decide)
  have d04 : ¬ o1 = o0 + 4 := D 0 4 (by decide) (by decide)
  have d05 : ¬ o1 = o0 + 5 := D 0 5 (by decide) (by decide)
  have d06 : ¬ o1 = o0 + 6 := D 0 6 (by decide) (by decide)
  have d10 : ¬ o1 + 1 = o0 := D 1 0 (by decide) (by decide)
  have d11 : ¬ o1 + 1 = o0 + 1 := D 1 1 (by decide) (by decide)
  have d12 : ¬ o1 + 1 = o0 + 2 := D 1 2 (by decide) (by decide)
  have d13 : ¬ o1 + 1 = o0 + 3 := D 1 3 (by decide) (by decide)
  have d14 : ¬ o1 + 1 = o0 + 4 := D 1 4 (by decide) (by decide)
  have d15 : ¬ o1 + 1 = o0 + 5 := D 1 5 (by decide) (by decide)
  have d16 : ¬ o1 + 1 = o0 + 6 := D 1 6 (by decide) (by decide)
  have d20 : ¬ o1 + 2 = o0 := D 2 0 (by decide) (by decide)
  have d21 : ¬ o1 + 2 = o0 + 1 := D 2 1 (by decide) (by decide)
  have d22 : ¬ o1 + 2 = o0 + 2 := D 2 2 (by decide) (by decide)
  have d23 : ¬ o1 + 2 = o0 + 3 := D 2 3 (by decide) (by decide)
  have d24 : ¬ o1 + 2 = o0 + 4 := D 2 4 (by decide) (by decide)
  have d25 : ¬ o1 + 2 = o0 + 5 := D 2 5 (by decide) (by decide)
  have d26 : ¬ o1 + 2 = o0 + 6 := D 2 6 (by decide) (by decide)
  have d30 : ¬ o1 + 3 = o0 := D 3 0 (by decide) (by decide)
  have d31 : ¬ o1 + 3 = o0 + 1 := D 3 1 (by decide) (by decide)
  have d32 : ¬ o1 + 3 = o0 + 2 := D 3 2 (by decide) (by decide)
  have d33 : ¬ o1 + 3 = o0 + 3 := D 3 3 (by decide) (by decide)
  have d34 : ¬ o1 + 3 = o0 + 4 := D 3 4 (by decide) (by decide)
  have d35 : ¬ o1 + 3 = o0 + 5 := D 3 5 (by decide) (by decide)
  have d36 : ¬ o1 + 3 = o0 + 6 := D 3 6 (by decide) (by decide)
  have d40 : ¬ o1 + 4 = o0 := D 4 0 (by decide) (by decide)
  have d41 : ¬ o1 + 4 = o0 + 1 := D 4 1 (by decide) (by decide)
  have d42 : ¬ o1 + 4 = o0 + 2 := D 4 2 (by decide) (by decide)
  have d43 : ¬ o1 + 4 = o0 + 3 := D 4 3 (by decide) (by decide)
  have d44 : ¬ o1 + 4 = o0 + 4 := D 4 4 (by decide) (by decide)
  have d45 : ¬ o1 + 4 = o0 + 5 := D 4 5 (by decide) (by decide)
  have d46 : ¬ o1 + 4 = o0 + 6 := D 4 6 (by decide) (by decide)
  have d50 : ¬ o1 + 5 = o0 := D 5 0 (by decide) (by decide)
  have d51 : ¬ o1 + 5 = o0 + 1 := D 5 1 (by decide) (by decide)
  have d52 : ¬ o1 + 5 = o0 + 2 := D 5 2 (by decide) (by decide)
  have d53 : ¬ o1 + 5 = o0 + 3 := D 5 3 (by decide) (by decide)
  have d54 : ¬ o1 + 5 = o0 + 4 := D 5 4 (by decide) (by decide)
  have d55 : ¬ o1 + 5 = o0 + 5 := D 5 5 (by decide) (by decide)
  have d56 : ¬ o1 + 5 = o0 + 6 := D 5 6 (by decide) (by decide)
  have d60 : ¬ o1 + 6 = o0 := D 6 0 (by decide) (by decide)
  have d61 : ¬ o1 + 6 = o0 + 1 := D 6 1 (by decide) (by decide)
  have d62 : ¬ o1 + 6 = o0 + 2 := D 6 2 (by decide) (by decide)
  have d63 : ¬ o1 + 6 = o0 + 3 := D 6 3 (by decide) (by decide)
  have d64 : ¬ o1 + 6 = o0 + 4 := D 6 4 (by decide) (by decide)
  have d65 : ¬ o1 + 6 = o0 + 5 := D 6 5 (by decide) (by decide)
  have d66 : ¬ o1 + 6 = o0 + 6 := D 6 6 (by decide) (by decide)
  have e01 : ¬ o0 = o0 + 1 := E 0 1 (by decide)
  have e02 : ¬ o0 = o0 + 2 := E 0 2 (by decide)
  have e03 : ¬ o0 = o0 + 3 := E 0 3 (by decide)
  have e04 : ¬ o0 = o0 + 4 := E 0 4 (by decide)
  have e05 : ¬ o0 = o0 + 5 := E 0 5 (by decide)
  have e06 : ¬ o0 = o0 + 6 := E 0 6 (by decide)
  have e10 : ¬ o0 + 1 = o0 := E 1 0 (by decide)
  have e12 : ¬ o0 + 1 = o0 + 2 := E 1 2 (by decide)
  have e13 : ¬ o0 + 1 = o0 + 3 := E 1 3 (by decide)
  have e14 : ¬ o0 + 1 = o0 + 4 := E 1 4 (by decide)
  have e15 : ¬ o0 + 1 = o0 + 5 := E 1 5 (by decide)
  have e16 : ¬ o0 + 1 = o0 + 6 := E 1 6 (by decide)
  have e20 : ¬ o0 + 2 = o0 := E 2 0 (by decide)
  have e21 : ¬ o0 + 2 = o0 + 1 := E 2 1 (by decide)
  have e23 : ¬ o0 + 2 = o0 + 3 := E 2 3 (by decide)
  have e24 : ¬ o0 + 2 = o0 + 4 := E 2 4 (by decide)
  have e25 : ¬ o0 + 2 = o0 + 5 := E 2 5 (by decide)
  have e26 : ¬ o0 + 2 = o0 + 6 := E 2 6 (by decide)
  have e30 : ¬ o0 + 3 = o0 := E 3 0 (by decide)
  have e31 : ¬ o0 + 3 = o0 + 1 := E 3 1 (by decide)
  have e32 : ¬ o0 + 3 = o0 + 2 := E 3 2 (by decide)
  have e34 : ¬ o0 + 3 = o0 + 4 := E 3 4 (by decide)
  have e35 : ¬ o0 + 3 = o0 + 5 := E 3 5 (by decide)
  have e36 : ¬ o0 + 3 = o0 + 6 := E 3 6 (by decide)
  have e40 : ¬ o0 + 4 = o0 := E 4 0 (by decide)
  have e41 : ¬ o0 + 4 = o0 + 1 := E 4 1 (by decide)
  have e42 : ¬ o0 + 4 = o0 + 2 := E 4 2 (by decide)
  have e43 : ¬ o0 + 4 = o0 + 3 := E 4 3 (by decide)
  have e45 : ¬ o0 + 4 = o0 + 5 := E 4 5 (by decide)
  have e46 : ¬ o0 + 4 = o0 + 6 := E 4 6 (by decide)
  have e50 : ¬ o0 + 5 = o0 := E 5 0 (by decide)
  have e51 : ¬ o0 + 5 = o0 + 1 := E 5 1 (by decide)
  have e52 : ¬ o0 + 5 = o0 + 2 := E 5 2 (by decide)
  have e53 : ¬ o0 + 5 = o0 + 3 := E 5 3 (by decide)
  have e54 : ¬ o0 + 5 = o0 + 4 := E 5 4 (by decide)
  have e56 : ¬ o0 + 5 = o0 + 6 := E 5 6 (by decide)
  have e60 : ¬ o0 + 6 = o0 := E 6 0 (by decide)
  have e61 : ¬ o0 + 6 = o0 + 1 := E 6 1 (by decide)
  have e62 : ¬ o0 + 6 = o0 + 2 := E 6 2 (by decide)
  have e63 : ¬ o0 + 6 = o0 + 3 := E 6 3 (by decide)
  have e64 : ¬ o0 + 6 = o0 + 4 := E 6 4 (by decide)
  have e65 : ¬ o0 + 6 = o0 + 5 := E 6 5 (by decide)
  have z1 : ¬ o0 + 1 = 0 := Nat.succ_ne_zero _
  have y1 : ¬ o1 + 1 = 0 := Nat.succ_ne_zero _
  have z2 : ¬ o0 + 2 = 0 := Nat.succ_ne_zero _
  have y2 : ¬ o1 + 2 = 0 := Nat.succ_ne_zero _
  have z3 : ¬ o0 + 3 = 0 := Nat.succ_ne_zero _
  have y3 : ¬ o1 + 3 = 0 := Nat.succ_ne_zero _
  have z4 : ¬ o0 + 4 = 0 := Nat.succ_ne_zero _
  have y4 : ¬ o1 + 4 = 0 := Nat.succ_ne_zero _
  have z5 : ¬ o0 + 5 = 0 := Nat.succ_ne_zero _
  have y5 : ¬ o1 + 5 = 0 := Nat.succ_ne_zero _
  have z6 : ¬ o0 + 6 = 0 := Nat.succ_ne_zero _
  have y6 : ¬ o1 + 6 = 0 := Nat.succ_ne_zero _
  obtain ⟨τ1, hτ1⟩ : ∃ τ, τ = cl_si σ o0 (upd (upd (upd (upd (cl_i σ o0) 0 (nI (pn_P N))) 1 (nI (pn_C N))) 2 (nI (pn_lo N))) 3 (nI (pn_hi N))) := ⟨_, rfl⟩
  obtain ⟨τ2, hτ2⟩ : ∃ τ, τ = cl_sr τ1 (o0 + 1) (va_cpy (cl_r σ (o1 + 1)) (cl_r σ (o0 + 1)) 0 0 9) := ⟨_, rfl⟩
  obtain ⟨τ3, hτ3⟩ : ∃ τ, τ = cl_si τ2 (o0 + 2) (va_cpy (cl_i σ (o1 + 2)) (cl_i σ (o0 + 2)) 0 0 9) := ⟨_, rfl⟩
  obtain ⟨τ4, hτ4⟩ : ∃ τ, τ = cl_si τ3 (o0 + 3) (va_cpy (cl_i σ (o1 + 3)) (cl_i σ (o0 + 3)) 0 0 10) := ⟨_, rfl⟩
  obtain ⟨τ5, hτ5⟩ : ∃ τ, τ = cl_si τ4 (o0 + 4) (va_cpy (cl_i σ (o1 + 4)) (cl_i σ (o0 + 4)) 0 0 10) := ⟨_, rfl⟩
  obtain ⟨τ6, hτ6⟩ : ∃ τ, τ = cl_si τ5 (o0 + 5) (va_cpy (cl_i σ (o1 + 5)) (cl_i σ (o0 + 5)) 0 0 10) := ⟨_, rfl⟩
  obtain ⟨τ7, hτ7⟩ : ∃ τ, τ = cl_sr τ6 (o0 + 6) (va_cpy (cl_r σ (o1 + 6)) (cl_r σ (o0 + 6)) 0 0 9) := ⟨_, rfl⟩
  have hrun : cl_X2_become o0 o1 σ = some (o0, τ7) := by
    have g1 : cl_oks τ1 (o1 + 1) 25 9 = true := by
      rw [pk_oks_c (σ := σ) (by rw [hτ1]; rfl) (by rw [hτ1]; intro y; rfl)]; exact q25
    have g6 : cl_oks τ6 (o1 + 6) 26 9 = true := by
      rw [pk_oks_c (σ := σ) (by rw [hτ6, hτ5, hτ4, hτ3, hτ2, hτ1]; simp only [pc_r_si, pc_r_sr, d61, if_false]) (by rw [hτ6, hτ5, hτ4, hτ3, hτ2, hτ1]; intro y; rfl)]; exact q26
    unfold cl_X2_become
    rw [pb_gdD _ m0, pb_gdD _ k0, pb_let, pb_let]
    have a4 : cl_wi (cl_wi (cl_wi (cl_wi σ o0 0 (cl_i σ o1 0)) o0 1 (cl_i (cl_wi σ o0 0 (cl_i σ o1 0)) o1 1)) o0 2 (cl_i (cl_wi (cl_wi σ o0 0 (cl_i σ o1 0)) o0 1 (cl_i (cl_wi σ o0 0 (cl_i σ o1 0)) o1 1)) o1 2)) o0 3 (cl_i (cl_wi (cl_wi (cl_wi σ o0 0 (cl_i σ o1 0)) o0 1 (cl_i (cl_wi σ o0 0 (cl_i σ o1 0)) o1 1)) o0 2 (cl_i (cl_wi (cl_wi σ o0 0 (cl_i σ o1 0)) o0 1 (cl_i (cl_wi σ o0 0 (cl_i σ o1 0)) o1 1)) o1 2)) o1 3) = τ1 := by
      simp only [pc_wi, pc_i_si, d00, if_false, if_true, pc_si_si, v0, v1, v2, v3]
      exact hτ1.symm
    rw [a4]
    have b1 : cl_r τ1 o1 = cl_r σ o1 ∧ cl_r τ1 o0 = cl_r σ o0 := by rw [hτ1]; exact ⟨rfl, rfl⟩
    rw [b1.1, b1.2, u1, r1, pb_gdD _ y1, pb_gdD _ z1]
    have c1 : cl_k τ1 (o1 + 1) = 25 ∧ cl_k τ1 (o0 + 1) = 25 ∧ cl_l τ1 (o1 + 1) = 9 ∧ cl_l τ1 (o0 + 1) = 9 := by rw [hτ1]; exact ⟨m1, k1, n1, l1⟩
    rw [pb_gdD _ c1.1, pb_gdD _ c1.2.1, pb_gdD _ ⟨Nat.le_of_eq c1.2.2.1.symm, Nat.le_of_eq c1.2.2.2.symm, g1⟩]
    have x2 : cl_sr τ1 (o0 + 1) (va_cpy (cl_r τ1 (o1 + 1)) (cl_r τ1 (o0 + 1)) 0 0 9) = τ2 := by rw [hτ2, hτ1]; rfl
    rw [pb_let, x2]
    have b2 : cl_r τ2 o1 = cl_r σ o1 ∧ cl_r τ2 o0 = cl_r σ o0 := by rw [hτ2, hτ1]; simp only [pc_r_si, pc_r_sr, d01, e01, if_false, and_self]
    rw [b2.1, b2.2, u2, r2, pb_gdD _ y2, pb_gdD _ z2]
    have c2 : cl_k τ2 (o1 + 2) = 20 ∧ cl_k τ2 (o0 + 2) = 20 ∧ cl_l τ2 (o1 + 2) = 9 ∧ cl_l τ2 (o0 + 2) = 9 := by rw [hτ2, hτ1]; exact ⟨m2, k2, n2, l2⟩
    rw [pb_gdD _ c2.1, pb_gdD _ c2.2.1, pb_gdD _ ⟨Nat.le_of_eq c2.2.2.1.symm, Nat.le_of_eq c2.2.2.2.symm⟩]
    have x3 : cl_si τ2 (o0 + 2) (va_cpy (cl_i τ2 (o1 + 2)) (cl_i τ2 (o0 + 2)) 0 0 9) = τ3 := by
      rw [hτ3]
      have : cl_i τ2 (o1 + 2) = cl_i σ (o1 + 2) ∧ cl_i τ2 (o0 + 2) = cl_i σ (o0 + 2) := by rw [hτ2, hτ1]; simp only [pc_i_si, pc_i_sr, d20, e20, if_false, and_self]
      rw [this.1, this.2]
    rw [pb_let, x3]
    have b3 : cl_r τ3 o1 = cl_r σ o1 ∧ cl_r τ3 o0 = cl_r σ o0 := by rw [hτ3]; exact b2
    rw [b3.1, b3.2, u3, r3, pb_gdD _ y3, pb_gdD _ z3]
    have c3 : cl_k τ3 (o1 + 3) = 20 ∧ cl_k τ3 (o0 + 3) = 20 ∧ cl_l τ3 (o1 + 3) = 10 ∧ cl_l τ3 (o0 + 3) = 10 := by rw [hτ3, hτ2, hτ1]; exact ⟨m3, k3, n3, l3⟩
    rw [pb_gdD _ c3.1, pb_gdD _ c3.2.1, pb_gdD _ ⟨Nat.le_of_eq c3.2.2.1.symm, Nat.le_of_eq c3.2.2.2.symm⟩]
    have x4 : cl_si τ3 (o0 + 3) (va_cpy (cl_i τ3 (o1 + 3)) (cl_i τ3 (o0 + 3)) 0 0 10) = τ4 := by
      rw [hτ4]
      have : cl_i τ3 (o1 + 3) = cl_i σ (o1 + 3) ∧ cl_i τ3 (o0 + 3) = cl_i σ (o0 + 3) := by rw [hτ3, hτ2, hτ1]; simp only [pc_i_si, pc_i_sr, d30, e30, d32, e32, if_false, and_self]
      rw [this.1, this.2]
    rw [pb_let, x4]
    have b4 : cl_r τ4 o1 = cl_r σ o1 ∧ cl_r τ4 o0 = cl_r σ o0 := by rw [hτ4]; exact b3
    rw [b4.1, b4.2, u4, r4, pb_gdD _ y4, pb_gdD _ z4]
    have c4 : cl_k τ4 (o1 + 4) = 20 ∧ cl_k τ4 (o0 + 4) = 20 ∧ cl_l τ4 (o1 + 4) = 10 ∧ cl_l τ4 (o0 + 4) = 10 := by rw [hτ4, hτ3, hτ2, hτ1]; exact ⟨m4, k4, n4, l4⟩
    rw [pb_gdD _ c4.1, pb_gdD _ c4.2.1, pb_gdD _ ⟨Nat.le_of_eq c4.2.2.1.symm, Nat.le_of_eq c4.2.2.2.symm⟩]
    have x5 : cl_si τ4 (o0 + 4) (va_cpy (cl_i τ4 (o1 + 4)) (cl_i τ4 (o0 + 4)) 0 0 10) = τ5 := by
      rw [hτ5]
      have : cl_i τ4 (o1 + 4) = cl_i σ (o1 + 4) ∧ cl_i τ4 (o0 + 4) = cl_i σ (o0 + 4) := by rw [hτ4, hτ3, hτ2, hτ1]; simp only [pc_i_si, pc_i_sr, d40, e40, d42, e42, d43, e43, if_false, and_self]
      rw [this.1, this.2]
    rw [pb_let, x5]
    have b5 : cl_r τ5 o1 = cl_r σ o1 ∧ cl_r τ5 o0 = cl_r σ o0 := by rw [hτ5]; exact b4
    rw [b5.1, b5.2, u5, r5, pb_gdD _ y5, pb_gdD _ z5]
    have c5 : cl_k τ5 (o1 + 5) = 20 ∧ cl_k τ5 (o0 + 5) = 20 ∧ cl_l τ5 (o1 + 5) = 10 ∧ cl_l τ5 (o0 + 5) = 10 := by rw [hτ5, hτ4, hτ3, hτ2, hτ1]; exact ⟨m5, k5, n5, l5⟩
    rw [pb_gdD _ c5.1, pb_gdD _ c5.2.1, pb_gdD _ ⟨Nat.le_of_eq c5.2.2.1.symm, Nat.le_of_eq c5.2.2.2.symm⟩]
    have x6 : cl_si τ5 (o0 + 5) (va_cpy (cl_i τ5 (o1 + 5)) (cl_i τ5 (o0 + 5)) 0 0 10) = τ6 := by
      rw [hτ6]
      have : cl_i τ5 (o1 + 5) = cl_i σ (o1 + 5) ∧ cl_i τ5 (o0 + 5) = cl_i σ (o0 + 5) := by rw [hτ5, hτ4, hτ3, hτ2, hτ1]; simp only [pc_i_si, pc_i_sr, d50, e50, d52, e52, d53, e53, d54, e54, if_false, and_self]
      rw [this.1, this.2]
    rw [pb_let, x6]
    have b6 : cl_r τ6 o1 = cl_r σ o1 ∧ cl_r τ6 o0 = cl_r σ o0 := by rw [hτ6]; exact b5
    rw [b6.1, b6.2, u6, r6, pb_gdD _ y6, pb_gdD _ z6]
    have c6 : cl_k τ6 (o1 + 6) = 26 ∧ cl_k τ6 (o0 + 6) = 26 ∧ cl_l τ6 (o1 + 6) = 9 ∧ cl_l τ6 (o0 + 6) = 9 := by rw [hτ6, hτ5, hτ4, hτ3, hτ2, hτ1]; exact ⟨m6, k6, n6, l6⟩
    rw [pb_gdD _ c6.1, pb_gdD _ c6.2.1, pb_gdD _ ⟨Nat.le_of_eq c6.2.2.1.symm, Nat.le_of_eq c6.2.2.2.symm, g6⟩]
    have x7 : cl_sr τ6 (o0 + 6) (va_cpy (cl_r τ6 (o1 + 6)) (cl_r τ6 (o0 + 6)) 0 0 9) = τ7 := by
      rw [hτ7]
      have : cl_r τ6 (o1 + 6) = cl_r σ (o1 + 6) ∧ cl_r τ6 (o0 + 6) = cl_r σ (o0 + 6) := by rw [hτ6, hτ5, hτ4, hτ3, hτ2, hτ1]; simp only [pc_r_si, pc_r_sr, d61, e61, if_false, and_self]
      rw [this.1, this.2]
    rw [pb_let, x7]
  have hfr : pc_fr σ τ7 (pk_Z o0) (pk_Y o0) := by
    have f1 : pc_fr σ τ1 (pk_Z o0) (pk_Y o0) := by rw [hτ1]; exact pc_fr_si _ _ _ (Or.inl rfl)
    have f2 : pc_fr σ τ2 (pk_Z o0) (pk_Y o0) := pc_fr_tr f1 (by rw [hτ2]; exact pc_fr_sr _ _ _ (Or.inl rfl))
    have f3 : pc_fr σ τ3 (pk_Z o0) (pk_Y o0) := pc_fr_tr f2 (by rw [hτ3]; exact pc_fr_si _ _ _ (Or.inr ⟨Nat.add_le_add_left (by decide) _, Nat.add_le_add_left (by decide) _⟩))
    have f4 : pc_fr σ τ4 (pk_Z o0) (pk_Y o0) := pc_fr_tr f3 (by rw [hτ4]; exact pc_fr_si _ _ _ (Or.inr ⟨Nat.add_le_add_left (by decide) _, Nat.add_le_add_left (by decide) _⟩))
    have f5 : pc_fr σ τ5 (pk_Z o0) (pk_Y o0) := pc_fr_tr f4 (by rw [hτ5]; exact pc_fr_si _ _ _ (Or.inr ⟨Nat.add_le_add_left (by decide) _, Nat.add_le_add_left (by decide) _⟩))
    have f6 : pc_fr σ τ6 (pk_Z o0) (pk_Y o0) := pc_fr_tr f5 (by rw [hτ6]; exact pc_fr_si _ _ _ (Or.inr ⟨Nat.add_le_add_left (by decide) _, Nat.add_le_add_left (by decide) _⟩))
    exact pc_fr_tr f6 (by rw [hτ7]; exact pc_fr_sr _ _ _ (Or.inr rfl))
  have hn7 : cl_n τ7 = cl_n σ := by rw [hτ7, hτ6, hτ5, hτ4, hτ3, hτ2, hτ1]; rfl
  have kk : ∀ y, cl_k τ7 y = cl_k σ y := by rw [hτ7, hτ6, hτ5, hτ4, hτ3, hτ2, hτ1]; intro y; rfl
  have R1 : cl_r τ7 (o0 + 1) = va_cpy (cl_r σ (o1 + 1)) (cl_r σ (o0 + 1)) 0 0 9 := by rw [hτ7, hτ6, hτ5, hτ4, hτ3, hτ2, hτ1]; simp only [pc_r_si, pc_r_sr, e16, if_false, if_true]
  have R6 : cl_r τ7 (o0 + 6) = va_cpy (cl_r σ (o1 + 6)) (cl_r σ (o0 + 6)) 0 0 9 := by rw [hτ7]; simp only [pc_r_sr, if_true]
  have I0 : cl_i τ7 o0 = upd (upd (upd (upd (cl_i σ o0) 0 (nI (pn_P N))) 1 (nI (pn_C N))) 2 (nI (pn_lo N))) 3 (nI (pn_hi N)) := by rw [hτ7, hτ6, hτ5, hτ4, hτ3, hτ2, hτ1]; simp only [pc_i_si, pc_i_sr, e02, e03, e04, e05, if_false, if_true]
  have I2 : cl_i τ7 (o0 + 2) = va_cpy (cl_i σ (o1 + 2)) (cl_i σ (o0 + 2)) 0 0 9 := by rw [hτ7, hτ6, hτ5, hτ4, hτ3]; simp only [pc_i_si, pc_i_sr, e23, e24, e25, if_false, if_true]
  have I3 : cl_i τ7 (o0 + 3) = va_cpy (cl_i σ (o1 + 3)) (cl_i σ (o0 + 3)) 0 0 10 := by rw [hτ7, hτ6, hτ5, hτ4]; simp only [pc_i_si, pc_i_sr, e34, e35, if_false, if_true]
  have I4 : cl_i τ7 (o0 + 4) = va_cpy (cl_i σ (o1 + 4)) (cl_i σ (o0 + 4)) 0 0 10 := by rw [hτ7, hτ6, hτ5]; simp only [pc_i_si, pc_i_sr, e45, if_false, if_true]
  have I5 : cl_i τ7 (o0 + 5) = va_cpy (cl_i σ (o1 + 5)) (cl_i σ (o0 + 5)) 0 0 10 := by rw [hτ7, hτ6]; simp only [pc_i_si, pc_i_sr, if_true]
  have cp : ∀ {β : Type} (f g : Nat → β) (n j : Nat), j < n → va_cpy f g 0 0 n j = f j := by
    intro β f g n j hj
    exact pk_cpy f g n j hj
  refine ⟨τ7, hrun, hfr, ⟨pc_sh_fr hfr (fun h => h.elim e01 e06) ⟨⟨s0, s1⟩, k0, ⟨k1, l1, r1⟩, ⟨k2, l2, r2⟩, ⟨k3, l3, r3⟩, ⟨k4, l4, r4⟩, ⟨k5, l5, r5⟩, ⟨k6, l6, r6⟩⟩, ⟨by rw [I0]; rfl, by rw [I0]; rfl, by rw [I0]; rfl, by rw [I0]; rfl⟩, fun p hp => ?_, fun c hc => ?_, fun j hj => ?_⟩, hn7⟩
  · obtain ⟨p1, p2, p3⟩ := hP p hp
    have hk := hN.2.2.2.1 p hp
    have hp9 : p < 9 := Nat.lt_of_lt_of_le hp hP9
    have hz : ∀ y, y ≤ cl_n σ → pk_Z o0 y → ¬ pc_pw σ y := by
      intro y _ hy
      unfold pc_pw
      have hy' : y = o0 ∨ y = o0 + 2 ∨ y = o0 + 3 ∨ y = o0 + 4 ∨ y = o0 + 5 := by
        clear D E hrun hfr
        rcases hy with hy | ⟨hy1, hy2⟩
        · exact Or.inl hy
        · rcases Nat.lt_or_ge y (o0 + 3) with q | q
          · exact Or.inr (Or.inl (Nat.le_antisymm (Nat.le_of_lt_succ q) hy1))
          · rcases Nat.lt_or_ge y (o0 + 4) with q2 | q2
            · exact Or.inr (Or.inr (Or.inl (Nat.le_antisymm (Nat.le_of_lt_succ q2) q)))
            · rcases Nat.lt_or_ge y (o0 + 5) with q3 | q3
              · exact Or.inr (Or.inr (Or.inr (Or.inl (Nat.le_antisymm (Nat.le_of_lt_succ q3) q2))))
              · exact Or.inr (Or.inr (Or.inr (Or.inr (Nat.le_antisymm hy2 q3))))
      rcases hy' with rfl | rfl | rfl | rfl | rfl
      · rw [k0]; exact fun h => absurd h.1 (by decide)
      · rw [k2]; exact fun h => absurd h.2 (by decide)
      · rw [k3]; exact fun h => absurd h.2 (by decide)
      · rw [k4]; exact fun h => absurd h.2 (by decide)
      · rw [k5]; exact fun h => absurd h.2 (by decide)
    rw [R1, R6, I2, cp _ _ 9 p hp9, cp _ _ 9 p hp9, cp _ _ 9 p hp9]
    refine ⟨pc_P_fr hfr hz ⟨hk.1, hk.2.1⟩ p1, p2, ?_⟩
    unfold pc_Wp at p3 ⊢
    split
    · rename_i h4
      rw [if_pos h4] at p3
      exact pc_W_fr hfr hz p3
    · rename_i h4
      rw [if_neg h4] at p3
      exact p3
  · have hc10 : c < 10 := Nat.lt_of_lt_of_le hc hC10
    rw [I3, I4, I5, cp _ _ 10 c hc10, cp _ _ 10 c hc10, cp _ _ 10 c hc10]
    exact hC c hc
  · rw [R1, R6, cp _ _ 9 j hj, cp _ _ 9 j hj, kk, kk, hn7]
    exact hA j hj
end PK
