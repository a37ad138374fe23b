/-! texts: numbers, strings out of builders, builders out of strings -/
def ss_dg (x : Nat) : List Nat := if x < 10 then [48 + x] else [48 + x / 10, 48 + x % 10]
theorem ss_sz : ∀ x : Fin 100, cl_J17_stringSize (nI x.val) = some (nI (ss_dg x.val).length) := by decide +kernel
theorem ss_99 : ∀ x : Fin 100, (-100 : Int32) < -(nI x.val) ∧ -(-(nI x.val)) = nI x.val ∧ ((-9 : Int32) ≤ -(nI x.val) ↔ x.val < 10) ∧ 0 ≤ nI x.val ∧ (nI (48 + x.val % 10)).toInt8.toInt32 = nI (48 + x.val % 10) ∧ (nI (48 + x.val / 10)).toInt8.toInt32 = nI (48 + x.val / 10) := by decide +kernel
section ST
variable {σ θ : cl_S} {o s : Nat} {xs ys : List Nat} {cap : Nat}
/-- the digits' two arrays -/
theorem st_dg (hk : pf_k σ) (hK : cl_K ≤ cl_n σ) (hf : pc_fr σ θ pc_0 pc_0) : (cl_k θ 17 = 23 ∧ cl_l θ 17 = 100 ∧ ∀ k, cl_i θ 17 k = nI (48 + k % 10)) ∧ (cl_k θ 18 = 23 ∧ cl_l θ 18 = 100 ∧ ∀ k, cl_i θ 18 k = nI (48 + k / 10)) := by
  have h18 : cl_K = 18 := rfl
  obtain ⟨a1, a2, a3, -⟩ := hk 17 (by omega) (by omega)
  obtain ⟨b1, b2, b3, -⟩ := hk 18 (by omega) (by omega)
  obtain ⟨c1, c2, c3, -⟩ := hf.2 17 (by omega)
  obtain ⟨d1, d2, d3, -⟩ := hf.2 18 (by omega)
  refine ⟨⟨by rw [c1, a1]; rfl, by rw [c2, a2]; rfl, fun k => by rw [c3 (fun h => h), a3]; rfl⟩, ⟨by rw [d1, b1]; rfl, by rw [d2, b2]; rfl, fun k => by rw [d3 (fun h => h), b3]; rfl⟩⟩
/-- **append(int)** of a number below 100 -/
theorem st_int (h : sr_B σ θ o xs cap) (hk : pf_k σ) (hK : cl_K ≤ cl_n σ) {x : Nat} (hx : x < 100) (hl : xs.length + (ss_dg x).length ≤ 72) : ∃ θ' cap', cl_J10_append_3 o θ (nI x) = some (o, θ') ∧ sr_B σ θ' o (xs ++ ss_dg x) cap' ∧ cap ≤ cap' ∧ pc_fr θ θ' (fun y => y = o ∨ y = cl_r θ o 0) (fun y => y = o) := by
  obtain ⟨θ1, cap1, e1, H1, ⟨hc1, hcc⟩, f1, r1⟩ := sr_ens h hl
  have h0 := h
  obtain ⟨a, ⟨b1, b2, b3⟩, ⟨c1, c2, c3, c4⟩, d1, d2, d3, d4, d5⟩ := h
  have H1' := H1
  obtain ⟨a', ⟨b1', b2', b3'⟩, ⟨c1', c2', c3', c4'⟩, d1', d2', d3', d4', d5'⟩ := H1
  have hvo : o ≠ cl_r θ1 o 0 := fun h => by rw [← h, b3'] at c3'; omega
  have h18 : cl_K = 18 := rfl
  have zv : cl_r θ1 o 0 ≠ 0 := by omega
  have hsz : cl_J17_stringSize (nI x) = some (nI (ss_dg x).length) := ss_sz ⟨x, hx⟩
  obtain ⟨n1, n2, n3, n4, n5, n6⟩ : (-100 : Int32) < -(nI x) ∧ -(-(nI x)) = nI x ∧ ((-9 : Int32) ≤ -(nI x) ↔ x < 10) ∧ 0 ≤ nI x ∧ (nI (48 + x % 10)).toInt8.toInt32 = nI (48 + x % 10) ∧ (nI (48 + x / 10)).toInt8.toInt32 = nI (48 + x / 10) := ss_99 ⟨x, hx⟩
  obtain ⟨⟨k17, l17, i17⟩, ⟨k18, l18, i18⟩⟩ := st_dg hk hK a'
  have cx : (nI x).toNatClampNeg = x := nI_clamp (by omega)
  have ix : dx_inb (nI x) 100 = true := by rw [pb_inb (by omega), decide_eq_true hx]
  have main : ∀ f, (∃ r, cl_J17_getChars (cl_r θ1 o 0) θ1 (nI x) (nI (xs.length + (ss_dg x).length)) = some (r, cl_si θ1 (cl_r θ1 o 0) f)) → (∀ i, i < xs.length → f i = cl_i θ1 (cl_r θ1 o 0) i) → (∀ i b, (ss_dg x)[i]? = some b → f (xs.length + i) = nI b ∧ b < 128) → (∀ i, xs.length + (ss_dg x).length ≤ i → f i = cl_i θ1 (cl_r θ1 o 0) i) → ∃ θ' cap', cl_J10_append_3 o θ (nI x) = some (o, θ') ∧ sr_B σ θ' o (xs ++ ss_dg x) cap' ∧ cap ≤ cap' ∧ pc_fr θ θ' (fun y => y = o ∨ y = cl_r θ o 0) (fun y => y = o) := by
    intro f hg hf1 hf2 hf3
    obtain ⟨r, hg⟩ := hg
    refine ⟨cl_wi (cl_si θ1 (cl_r θ1 o 0) f) o 3 (nI (xs.length + (ss_dg x).length)), cap1, ?_, ss_w H1' hc1 hf1 hf2 hf3, hcc, ss_fr h0 f1 _ _ (by rcases r1 with r1 | r1; exact Or.inl r1; exact Or.inr r1) _⟩
    unfold cl_J10_append_3 cl_J9_append_3 cl_J9_isLatin1
    rw [pb_gdD _ b3, pb_gdD _ b3, hsz, pb_b1, d2, pb_add, e1, pb_b1, pb_gdD _ b3', pb_gdD _ b3', d1', if_pos rfl, pb_b1, pb_ibT, pb_gdD _ zv, hg, pb_b2, pb_gdD _ (by exact b3'), pb_b2, pb_gdD _ (by omega)]
  have hgc : ∀ z, cl_J17_getChars_L22 (cl_r θ1 o 0) θ1 false (-(nI x)) (nI (xs.length + (ss_dg x).length)) = some (.inr z) → cl_J17_getChars (cl_r θ1 o 0) θ1 (nI x) (nI (xs.length + (ss_dg x).length)) = some z := by
    intro z hz
    unfold cl_J17_getChars cl_J17_getChars_J12
    rw [if_pos n4, pb_ibF]
    exact pb_lp (b := fun y : Int32 × Int32 × cl_S => cl_J17_getChars_L22 (cl_r θ1 o 0) y.2.2 false y.1 y.2.1) 0 (fun _ => (-(nI x), nI (xs.length + (ss_dg x).length), θ1)) (fun i hi => by omega) hz (by omega)
  obtain ⟨v, hv⟩ : ∃ v, v = cl_r θ1 o 0 := ⟨_, rfl⟩
  rw [← hv] at c1' c2' c3' c4' zv hvo main hgc
  by_cases h10 : x < 10
  · have ed : ss_dg x = [48 + x] := if_pos h10
    have el : (ss_dg x).length = 1 := by rw [ed]; rfl
    have e9 : (-9 : Int32) ≤ -(nI x) := n3.mpr h10
    have em : nI (xs.length + (ss_dg x).length) + (-1 : Int32) = nI xs.length := by rw [cm_dec (by omega), el]; rfl
    refine main (upd (cl_i θ1 v) xs.length (nI (48 + x))) ⟨nI xs.length, hgc _ ?_⟩ (fun i hi => ?_) (fun i b hb => ?_) (fun i hi => ?_)
    · unfold cl_J17_getChars_L22 cl_J17_getChars_J104
      rw [if_pos n1, n2, pb_gdD _ (Or.inr k17), l17, ix, pb_gdT, pb_gdD _ c3', em, c4', pn_gdi _ (by omega) (by omega), pb_let, nI_clamp (by omega), cx, i17, n5, if_pos e9, show x % 10 = x by omega]
      rfl
    · unfold upd
      rw [if_neg (by omega)]
    · rw [ed] at hb
      cases i with
      | zero =>
        have : 48 + x = b := by simpa using hb
        subst this
        unfold upd
        rw [if_pos (by omega)]
        exact ⟨rfl, by omega⟩
      | succ i => simp at hb
    · unfold upd
      rw [if_neg (by omega)]
  · have ed : ss_dg x = [48 + x / 10, 48 + x % 10] := if_neg h10
    have el : (ss_dg x).length = 2 := by rw [ed]; rfl
    have e9 : ¬ (-9 : Int32) ≤ -(nI x) := fun h => h10 (n3.mp h)
    have em : nI (xs.length + (ss_dg x).length) + (-1 : Int32) = nI (xs.length + 1) := by rw [cm_dec (by omega), el]; rfl
    have em2 : nI (xs.length + 1) + (-1 : Int32) = nI xs.length := by rw [cm_dec (by omega)]; rfl
    refine main (upd (upd (cl_i θ1 v) (xs.length + 1) (nI (48 + x % 10))) xs.length (nI (48 + x / 10))) ⟨nI xs.length, hgc _ ?_⟩ (fun i hi => ?_) (fun i b hb => ?_) (fun i hi => ?_)
    · have i18' : ∀ f, cl_i (cl_si θ1 v f) 18 = cl_i θ1 18 := fun f => pc_i_si_n _ _ _ _ (by omega)
      have l18' : ∀ f, cl_l (cl_si θ1 v f) 18 = 100 := fun f => l18
      have lv' : ∀ f, cl_l (cl_si θ1 v f) v = cap1 := fun f => c4'
      unfold cl_J17_getChars_L22 cl_J17_getChars_J104
      rw [if_pos n1, n2, pb_gdD _ (Or.inr k17), l17, ix, pb_gdT, pb_gdD _ c3', em, c4', pn_gdi _ (by omega) (by omega), pb_let, nI_clamp (by omega), cx, i17, n5, if_neg e9, pc_wi, pb_gdD _ (by exact Or.inr k18), l18', ix, pb_gdT, em2, lv', pn_gdi _ (by omega) (by omega), pb_let, nI_clamp (by omega), i18', i18, n6, pb_ibF, pc_wi, pc_i_si_s, pc_si_si]
      rfl
    · unfold upd
      rw [if_neg (by omega), if_neg (by omega)]
    · rw [ed] at hb
      cases i with
      | zero =>
        have : 48 + x / 10 = b := by simpa using hb
        subst this
        unfold upd
        rw [if_pos (by omega)]
        exact ⟨rfl, by omega⟩
      | succ i =>
        cases i with
        | zero =>
          have : 48 + x % 10 = b := by simpa using hb
          subst this
          unfold upd
          rw [if_neg (by omega), if_pos (by omega)]
          exact ⟨rfl, by omega⟩
        | succ i => simp at hb
    · unfold upd
      rw [if_neg (by omega), if_neg (by omega)]
/-- **toString** -/
theorem st_str (h : sr_B σ θ o xs cap) (hl : xs.length ≤ 16) (hc : xs.length < cap) : ∃ θ', cl_J10_toString o θ = some (cl_n θ + 1, θ') ∧ sr_T θ' (cl_n θ + 1) xs ∧ pc_fr θ θ' pc_0 pc_0 ∧ cl_k θ' (cl_n θ + 1) = 16 ∧ (cl_i θ' (cl_n θ + 1) 2 = 0 ∧ cl_i θ' (cl_n θ + 1) 3 = 0) ∧ cl_r θ' (cl_n θ + 1) 0 = cl_n θ + 2 ∧ cl_n θ' = cl_n θ + 2 := by
  obtain ⟨a, ⟨b1, b2, b3⟩, ⟨c1, c2, c3, c4⟩, d1, d2, ⟨d3, d3'⟩, d4, d5⟩ := h
  obtain ⟨v, hv⟩ : ∃ v, v = cl_r θ o 0 := ⟨_, rfl⟩
  rw [← hv] at c1 c2 c3 c4 d4 d5
  obtain ⟨ψ0, e0⟩ : ∃ ψ0, ψ0 = cl_nw θ 16 0 := ⟨_, rfl⟩
  obtain ⟨ψ1, e1⟩ : ∃ ψ1, ψ1 = cl_wi ψ0 (cl_n θ + 1) 1 (0 : Int32) := ⟨_, rfl⟩
  obtain ⟨ψ2, e2⟩ : ∃ ψ2, ψ2 = cl_si (cl_nw ψ1 21 xs.length) (cl_n θ + 2) (va_cpy (cl_i θ v) (fun _ => 0) 0 0 xs.length) := ⟨_, rfl⟩
  have zv : v ≠ 0 := by omega
  have zo : o ≠ cl_n θ + 1 := by omega
  have n1 : cl_n ψ1 = cl_n θ + 1 := by rw [e1, e0]; rfl
  have k1 : ∀ y, cl_k ψ1 y = if y = cl_n θ + 1 then 16 else cl_k θ y := by intro y; rw [e1, e0]; rfl
  have l1 : ∀ y, cl_l ψ1 y = if y = cl_n θ + 1 then 0 else cl_l θ y := by intro y; rw [e1, e0]; rfl
  have iv1 : cl_i ψ1 v = cl_i θ v := by rw [e1, pc_wi, pc_i_si_n _ _ _ _ (by omega), e0, pc_i_nw, if_neg (by omega)]
  have is1 : ∀ k, cl_i ψ1 (cl_n θ + 1) k = 0 := by
    intro k
    rw [e1, pc_wi, pc_i_si_s, e0, pc_i_nw, if_pos rfl]
    unfold upd
    split <;> rfl
  have io0 : cl_i ψ0 o = cl_i θ o := by rw [e0, pc_i_nw, if_neg zo]
  have ko0 : cl_k ψ0 o = 17 := by rw [e0, pc_k_nw, if_neg zo]; exact b3
  have ro0 : cl_r ψ0 o 0 = v := by rw [e0, pc_r_nw, if_neg zo]; exact hv.symm
  have ks0 : cl_k ψ0 (cl_n θ + 1) = 16 := by rw [e0, pc_k_nw, if_pos rfl]
  have c0 : (0 : Int32).toNatClampNeg = 0 := by decide
  have sub0 : nI xs.length - (0 : Int32) = nI xs.length := Int32.sub_zero _
  have sub1 : nI cap - (0 : Int32) = nI cap := Int32.sub_zero _
  have lt1 : nI xs.length < nI cap := (pb_lt (by omega) (by omega)).mpr hc
  have ne1 : ¬ nI xs.length = nI cap := fun h => absurd ((pb_inj (by omega) (by omega)).mp h) (by omega)
  have le0 : (0 : Int32) ≤ nI xs.length := Int32.not_lt.mp (pb_neg (by omega))
  have hcr : cl_J14_copyOfRange v ψ1 (0 : Int32) (nI xs.length) = some (cl_n θ + 2, ψ2) := by
    have kv : cl_k ψ1 v = 21 := by rw [k1, if_neg (by omega)]; exact c3
    have lv : cl_l ψ1 v = cap := by rw [l1, if_neg (by omega)]; exact c4
    have kv' : cl_k (cl_nw ψ1 21 xs.length) v = 21 := by rw [pc_k_nw, n1, if_neg (by omega)]; exact kv
    have lv' : cl_l (cl_nw ψ1 21 xs.length) v = cap := by rw [pc_l_nw, n1, if_neg (by omega)]; exact lv
    have ln' : cl_l (cl_nw ψ1 21 xs.length) (cl_n θ + 1 + 1) = xs.length := by rw [pc_l_nw, n1, if_pos rfl]
    have iv' : cl_i (cl_nw ψ1 21 xs.length) v = cl_i θ v := by rw [pc_i_nw, n1, if_neg (by omega)]; exact iv1
    have inn : cl_i (cl_nw ψ1 21 xs.length) (cl_n θ + 1 + 1) = fun _ => 0 := by rw [pc_i_nw, n1, if_pos rfl]
    have hcg : cl_cg (cl_nw ψ1 21 xs.length) v (cl_n θ + 1 + 1) (0 : Int32) (0 : Int32) (nI xs.length) = true := by
      unfold cl_cg
      refine decide_eq_true ⟨by decide, by decide, pb_neg (by omega), ?_, ?_⟩
      · rw [c0, nI_clamp (by omega), lv']; omega
      · rw [c0, nI_clamp (by omega), ln']; omega
    have hcf : cl_cf .byte (cl_i θ v) (0 : Int32).toNatClampNeg (nI xs.length).toNatClampNeg = true := by
      unfold cl_cf
      rw [List.all_eq_true]
      intro i hi
      have hi' := List.mem_range.mp hi
      rw [nI_clamp (by omega)] at hi'
      rw [c0, Nat.zero_add]
      obtain ⟨b, hb, e⟩ := d4 i (by omega)
      rw [e]
      exact (sr_fit ⟨b, hb⟩).1
    unfold cl_J14_copyOfRange cl_J14_copyOfRange_J10 cl_J14_copyOfRangeByte cl_J14_checkLength
    rw [if_pos rfl, pb_gdD _ (Or.inl kv), lv, sr_of, if_neg ne1, if_pos le0, pb_b1, sub0, nI_clamp (by omega), pb_gdD _ ⟨pb_neg (by omega), hl⟩, pb_gdD _ (Or.inl kv'), lv', sr_of, sub1, if_pos lt1, n1, hcg, pb_gdT, iv', hcf, pb_gdT, pb_let, pb_b2, pb_gdD _ (by omega), e2]
    unfold cl_cp
    rw [iv', inn, c0, nI_clamp (by omega)]
  have ks2 : cl_k ψ2 (cl_n θ + 1) = 16 := by
    rw [e2, pc_k_si, pc_k_nw, n1, if_neg (by omega), k1, if_pos rfl]
  obtain ⟨θ', hθ'⟩ : ∃ θ', θ' = cl_wr ψ2 (cl_n θ + 1) 0 (cl_n θ + 2) := ⟨_, rfl⟩
  have hts : cl_J10_toString o θ = some (cl_n θ + 1, θ') := by
    unfold cl_J10_toString cl_J4_init cl_J4_init_2 cl_J9_getValue cl_J10_length cl_J9_length cl_J9_isLatin1
    rw [← e0, pb_gdD _ ko0, pb_gdD _ ko0, ro0, pb_gdD _ zv, pb_b1, pb_gdD _ zv, pb_gdD _ ko0, pb_gdD _ ko0, io0, d2, pb_b1, pb_b1, pb_gdD _ ko0, d1, if_pos rfl, pb_b1, pb_ibT, pb_gdD _ ks0, ← e1, hcr, pb_b2, pb_gdD _ (by omega), pb_gdD _ ks2, pb_b1, pb_b1, hθ']
  have n' : cl_n θ' = cl_n θ + 2 := by rw [hθ', e2, e1, e0]; rfl
  have r' : cl_r θ' (cl_n θ + 1) 0 = cl_n θ + 2 := by rw [hθ', pc_wr, pc_r_sr, if_pos rfl, va_up_self]
  have ks' : cl_k θ' (cl_n θ + 1) = 16 := by rw [hθ']; exact ks2
  have kn' : cl_k θ' (cl_n θ + 2) = 21 := by
    rw [hθ', pc_wr, pc_k_sr, e2, pc_k_si, pc_k_nw, n1, if_pos rfl]
  have ln' : cl_l θ' (cl_n θ + 2) = xs.length := by
    rw [hθ', pc_wr, pc_l_sr, e2, pc_l_si, pc_l_nw, n1, if_pos rfl]
  have is' : ∀ k, cl_i θ' (cl_n θ + 1) k = 0 := by
    intro k
    rw [hθ', pc_wr, pc_i_sr, e2, pc_i_si_n _ _ _ _ (by omega), pc_i_nw, n1, if_neg (by omega)]
    exact is1 k
  have in' : cl_i θ' (cl_n θ + 2) = va_cpy (cl_i θ v) (fun _ => 0) 0 0 xs.length := by
    rw [hθ', pc_wr, pc_i_sr, e2, pc_i_si_s]
  refine ⟨θ', hts, ⟨Or.inl ks', by omega, ⟨by omega, by omega⟩, ?_, ?_, is' 1, ?_⟩, ?_, ks', ⟨is' 2, is' 3⟩, r', n'⟩
  · rw [r']
    exact Or.inl kn'
  · rw [r']
    exact ln'
  · intro i b hb
    have hi : i < xs.length := (List.getElem?_eq_some_iff.mp hb).1
    rw [r', in', pk_cpy _ _ _ _ hi]
    exact d5 i b hb
  · rw [hθ', e2, e1, e0]
    exact pc_fr_srn (pc_fr_sin (pc_fr_nwn (pc_fr_sin (pc_fr_nw θ 16 0) (by omega) _) 21 xs.length) (by omega) _) (by omega) _
end ST
