/-! texts: constants, builders out of strings, what stands at a place -/
section SU
variable {σ θ : cl_S} {o s : Nat} {xs ys : List Nat} {cap : Nat}
theorem su_k (hk : pf_k σ) (hK : cl_K ≤ cl_n σ) {Z Y : Nat → Prop} (hf : pc_fr σ θ Z Y) (hz : ∀ y, Z y → cl_K < y) (hy : ∀ y, Y y → cl_K < y) : pf_k θ ∧ cl_K ≤ cl_n θ := by
  refine ⟨fun o h1 h2 => ?_, Nat.le_trans hK hf.1⟩
  obtain ⟨a1, a2, a3, a4⟩ := hk o h1 h2
  obtain ⟨b1, b2, b3, b4⟩ := hf.2 o (by omega)
  exact ⟨b1.trans a1, b2.trans a2, (b3 (fun h => by have := hz o h; omega)).trans a3, (b4 (fun h => by have := hy o h; omega)).trans a4⟩
theorem su_c (hk : pf_k θ) (hK : cl_K ≤ cl_n θ) : sr_T θ 1 [] ∧ sr_T θ 2 [64] ∧ sr_T θ 3 [58] ∧ cl_r θ 1 0 = 9 ∧ cl_r θ 2 0 = 10 ∧ cl_r θ 3 0 = 11 := by
  have h18 : cl_K = 18 := rfl
  obtain ⟨a1, a2, a3, a4⟩ := hk 1 (by omega) (by omega)
  obtain ⟨b1, b2, b3, b4⟩ := hk 2 (by omega) (by omega)
  obtain ⟨c1, c2, c3, c4⟩ := hk 3 (by omega) (by omega)
  obtain ⟨d1, d2, d3, d4⟩ := hk 9 (by omega) (by omega)
  obtain ⟨e1, e2, e3, e4⟩ := hk 10 (by omega) (by omega)
  obtain ⟨f1, f2, f3, f4⟩ := hk 11 (by omega) (by omega)
  have r1 : cl_r θ 1 0 = 9 := by rw [a4]; rfl
  have r2 : cl_r θ 2 0 = 10 := by rw [b4]; rfl
  have r3 : cl_r θ 3 0 = 11 := by rw [c4]; rfl
  refine ⟨⟨Or.inr (by rw [a1]; rfl), by omega, ⟨by omega, by omega⟩, ?_, ?_, by rw [a3]; rfl, fun i b hb => by simp at hb⟩, ⟨Or.inr (by rw [b1]; rfl), by omega, ⟨by omega, by omega⟩, ?_, ?_, by rw [b3]; rfl, fun i b hb => ?_⟩, ⟨Or.inr (by rw [c1]; rfl), by omega, ⟨by omega, by omega⟩, ?_, ?_, by rw [c3]; rfl, fun i b hb => ?_⟩, r1, r2, r3⟩
  · rw [r1]; exact Or.inr (by rw [d1]; rfl)
  · rw [r1, d2]; rfl
  · rw [r2]; exact Or.inr (by rw [e1]; rfl)
  · rw [r2, e2]; rfl
  · cases i with
    | zero =>
      have : 64 = b := by simpa using hb
      subst this
      rw [r2, e3]
      exact ⟨rfl, by omega⟩
    | succ i => simp at hb
  · rw [r3]; exact Or.inr (by rw [f1]; rfl)
  · rw [r3, f2]; rfl
  · cases i with
    | zero =>
      have : 58 = b := by simpa using hb
      subst this
      rw [r3, f3]
      exact ⟨rfl, by omega⟩
    | succ i => simp at hb
/-- **new StringBuilder(String)** -/
theorem su_init (hf : pc_fr σ θ pc_0 pc_0) (ho : cl_n σ < o ∧ o ≤ cl_n θ ∧ cl_k θ o = 17) (hi : cl_i θ o 3 = 0) (hT : sr_T θ s ys) (hs : s ≠ o) (hl : ys.length ≤ 24) : ∃ θ' cap', cl_J10_init_2 o s θ = some θ' ∧ sr_B σ θ' o ys cap' := by
  obtain ⟨o1, o2, o3⟩ := ho
  obtain ⟨hcd, hln⟩ := sr_len hT
  have hσθ := hf.1
  obtain ⟨ψ0, e0⟩ : ∃ ψ0, ψ0 = cl_nw (cl_wi θ o 1 (0 : Int32)) 21 (ys.length + 16) := ⟨_, rfl⟩
  obtain ⟨ψ, e1⟩ : ∃ ψ, ψ = cl_wr ψ0 o 0 (cl_n θ + 1) := ⟨_, rfl⟩
  have nn : cl_n (cl_wi θ o 1 (0 : Int32)) = cl_n θ := rfl
  have n0 : cl_n ψ = cl_n θ + 1 := by rw [e1, e0]; rfl
  have hne : o ≠ cl_n θ + 1 := by omega
  have ko0 : cl_k ψ0 o = 17 := by rw [e0, pc_k_nw, nn, if_neg hne]; exact o3
  have ko : cl_k ψ o = 17 := by rw [e1]; exact ko0
  have ro : cl_r ψ o 0 = cl_n θ + 1 := by rw [e1, pc_wr, pc_r_sr, if_pos rfl, va_up_self]
  have kn : cl_k ψ (cl_n θ + 1) = 21 := by rw [e1, pc_wr, pc_k_sr, e0, pc_k_nw, nn, if_pos rfl]
  have lnn : cl_l ψ (cl_n θ + 1) = ys.length + 16 := by rw [e1, pc_wr, pc_l_sr, e0, pc_l_nw, nn, if_pos rfl]
  have io : cl_i ψ o = upd (cl_i θ o) 1 0 := by rw [e1, pc_wr, pc_i_sr, e0, pc_i_nw, nn, if_neg hne, pc_wi, pc_i_si_s]
  have inn : cl_i ψ (cl_n θ + 1) = fun _ => 0 := by rw [e1, pc_wr, pc_i_sr, e0, pc_i_nw, nn, if_pos rfl]
  have fθ : pc_fr θ ψ (fun y => y = o) (fun y => y = o) := by
    rw [e1, e0]
    exact pc_fr_tr (pc_fr_tr (pc_fr_si θ o _ rfl) (pc_fr_nw _ 21 _)) (pc_fr_sr _ o _ rfl)
  have fσ : pc_fr σ ψ pc_0 pc_0 := by
    rw [e1, e0]
    exact pc_fr_srn (pc_fr_tr (pc_fr_sin hf o1 _) (pc_fr_nw _ 21 _)) o1 _
  have hro : cl_r θ s 0 ≠ o := by
    intro h
    have := hT.2.2.2.1
    rw [h, o3] at this
    omega
  have T : sr_T ψ s ys := sr_T_fr hT fθ ⟨hs, hro⟩ hs
  have B : sr_B σ ψ o [] (ys.length + 16) := by
    unfold sr_B sr_A
    rw [ro, io, inn, kn, lnn, n0, ko]
    refine ⟨fσ, ⟨o1, by omega, rfl⟩, ⟨by omega, by omega, rfl, rfl⟩, rfl, ?_, ⟨by show 0 ≤ _; omega, by omega⟩, fun i _ => ⟨0, by omega, nI_0.symm⟩, fun i b hb => by simp at hb⟩
    show cl_i θ o 3 = nI 0
    rw [hi, nI_0]
  have hrs : cl_r ψ s 0 = cl_r θ s 0 := by rw [(fθ.2 s hT.2.1).2.2.2 hs]
  obtain ⟨θ', cap', h1, h2, -, -⟩ := ss_str B T (by rw [ro, hrs]; have := hT.2.2.1.2; omega) hs (by show 0 + ys.length ≤ 72; omega)
  refine ⟨θ', cap', ?_, ?_⟩
  · have e16 : nI ys.length + (16 : Int32) = nI (ys.length + 16) := pb_add _ 16
    have b1 : ¬ (2147483631 : Int32) ≤ nI ys.length := fun h => absurd ((pb_le (a := 2147483631) (by omega) (by omega)).mp h) (by omega)
    unfold cl_J10_init_2 cl_J9_init_2 cl_J10_append_4
    rw [pb_gdD _ hT.1, hln, pb_b1, if_neg b1, hcd, pb_b1, pb_gdD _ o3, pb_gdD _ (by decide), if_pos rfl, e16, nI_clamp (by omega), pb_gdD _ ⟨pb_neg (by omega), by omega⟩, pb_let, ← e0, pb_gdD _ ko0, nn, ← e1, pb_gdD _ ko, h1, pb_b2, pb_gdD _ (by omega), pb_b2, pb_gdD _ (by omega), pb_b1]
  · exact h2
/-- **signOf** -/
def su_s (xs : List Nat) (j : Int32) : Int32 := if j = (-1 : Int32) then nI xs.length else if nI xs.length ≤ j then (-1000000 : Int32) else nI (xs[j.toNatClampNeg]?.getD 0)
theorem su_sign (h : sr_B σ θ o xs cap) {j : Int32} (hj : (-1 : Int32) ≤ j) : cl_X0_signOf o θ j = some (su_s xs j) := by
  obtain ⟨a, ⟨b1, b2, b3⟩, ⟨c1, c2, c3, c4⟩, d1, d2, ⟨d3, d3'⟩, d4, d5⟩ := h
  have zv : cl_r θ o 0 ≠ 0 := by omega
  have hlen : cl_J10_length o θ = some (nI xs.length) := by
    unfold cl_J10_length cl_J9_length
    rw [pb_gdD _ b3, pb_gdD _ b3, d2, pb_b1]
  unfold cl_X0_signOf su_s
  rw [hlen, pb_gdD _ b3, pb_b1, pb_gdD _ b3, pb_b1]
  by_cases h1 : j = (-1 : Int32)
  · rw [if_pos h1, if_pos h1]
  · rw [if_neg h1, if_neg h1]
    obtain ⟨i, hi, rfl⟩ := pb_of (cg_k hj h1)
    by_cases hle : nI xs.length ≤ nI i
    · rw [if_pos hle, if_pos hle]
    · rw [if_neg hle, if_neg hle]
      have hlt : i < xs.length := by
        refine Nat.lt_of_not_le fun h => hle ?_
        exact (pb_le (by omega) hi).mpr h
      rw [nI_clamp hi]
      obtain ⟨e1, e2⟩ := d5 i xs[i] (List.getElem?_eq_getElem hlt)
      obtain ⟨-, -, f3, f4, f5⟩ := sr_fit ⟨xs[i], e2⟩
      replace f3 : nI xs[i] &&& (255 : Int32) = nI xs[i] := f3
      replace f4 : ((nI xs[i]).toUInt32 % 65536).toInt32 = nI xs[i] := f4
      replace f5 : narrow .char (.int (nI xs[i])) = .int (nI xs[i]) := f5
      have hmin : (if nI cap < nI xs.length then nI cap else nI xs.length) = nI xs.length := by
        rw [if_neg (fun h => absurd ((pb_lt (by omega) (by omega)).mp h) (by omega))]
      have hch : cl_J9_charAt o θ (nI i) = some (nI xs[i]) := by
        unfold cl_J9_charAt cl_J4_checkIndex
        rw [pb_gdD _ b3, pb_gdD _ zv, pb_gdD _ (Or.inl c3), c4, sr_of, d1, sr_r, d2, hmin, pb_let, pb_gdD _ ⟨pb_neg hi, (pb_lt hi (by omega)).mpr hlt⟩, pb_b1, if_pos rfl, pn_gdi _ (by omega) hi, nI_clamp hi, e1, f3, f4]
      unfold cl_J10_charAt
      rw [pb_gdD _ b3, hch, pb_b1, pb_gdD _ f5, pb_b1, List.getElem?_eq_getElem hlt]
      rfl
end SU
/-! what is written of a chain -/
def su_p (N : pn_N) (k : Nat) : List Nat := [if k % 2 = 1 then 62 else 60] ++ ss_dg (k / 2) ++ ([64] ++ ss_dg (ca_d N k) ++ [58] ++ ss_dg (ca_w N k))
def su_x (N : pn_N) (s : Nat) (K : Nat → Nat) : Nat → List Nat
  | 0 => ss_dg s
  | t + 1 => su_x N s K t ++ su_p N (K t)
theorem su_dl {x : Nat} : (ss_dg x).length ≤ 2 ∧ 1 ≤ (ss_dg x).length ∧ (x < 10 → (ss_dg x).length = 1) := by
  unfold ss_dg
  split
  · exact ⟨Nat.le_succ 1, Nat.le_refl 1, fun _ => rfl⟩
  · exact ⟨Nat.le_refl 2, Nat.le_succ 1, fun h => by omega⟩
theorem su_pl {N : pn_N} {k : Nat} (h1 : k / 2 < 10) (h2 : ca_w N k < 10) : (su_p N k).length ≤ 7 := by
  unfold su_p
  rw [List.length_append, List.length_append, List.length_append, List.length_append, List.length_append]
  have a := (su_dl (x := k / 2)).2.2 h1
  have b := (su_dl (x := ca_w N k)).2.2 h2
  have c := (su_dl (x := ca_d N k)).1
  have e1 : ([if k % 2 = 1 then 62 else 60] : List Nat).length = 1 := rfl
  have e2 : ([64] : List Nat).length = 1 := rfl
  have e3 : ([58] : List Nat).length = 1 := rfl
  omega
theorem su_xl {N : pn_N} {s : Nat} {K : Nat → Nat} (hs : s < 10) : ∀ t, (∀ t', t' < t → K t' / 2 < 10 ∧ ca_w N (K t') < 10) → (su_x N s K t).length ≤ 1 + 7 * t := by
  intro t
  induction t with
  | zero =>
    intro _
    show (ss_dg s).length ≤ _
    have := (su_dl (x := s)).2.2 hs
    omega
  | succ t ih =>
    intro h
    show (su_x N s K t ++ su_p N (K t)).length ≤ _
    rw [List.length_append]
    have a := ih (fun t' ht' => h t' (by omega))
    have b := su_pl (N := N) (k := K t) (h t (by omega)).1 (h t (by omega)).2
    omega
