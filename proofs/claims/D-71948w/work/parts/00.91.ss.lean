/-! texts: what is appended; strings out of builders -/
theorem ss_app {xs ys : List Nat} {i b : Nat} (h : (xs ++ ys)[i]? = some b) : (i < xs.length ∧ xs[i]? = some b) ∨ (xs.length ≤ i ∧ ys[i - xs.length]? = some b) := by
  by_cases hi : i < xs.length
  · rw [List.getElem?_append_left hi] at h
    exact Or.inl ⟨hi, h⟩
  · rw [List.getElem?_append_right (by omega)] at h
    exact Or.inr ⟨by omega, h⟩
section SS
variable {σ θ : cl_S} {o s : Nat} {xs ys : List Nat} {cap : Nat}
/-- an array behind which more is written -/
theorem ss_w (h : sr_B σ θ o xs cap) (hl : xs.length + ys.length ≤ cap) {f : Nat → Int32} (h1 : ∀ i, i < xs.length → f i = cl_i θ (cl_r θ o 0) i) (h2 : ∀ i b, ys[i]? = some b → f (xs.length + i) = nI b ∧ b < 128) (h3 : ∀ i, xs.length + ys.length ≤ i → f i = cl_i θ (cl_r θ o 0) i) : sr_B σ (cl_wi (cl_si θ (cl_r θ o 0) f) o 3 (nI (xs.length + ys.length))) o (xs ++ ys) cap := by
  obtain ⟨a, ⟨b1, b2, b3⟩, ⟨c1, c2, c3, c4⟩, d1, d2, ⟨d3, d3'⟩, d4, d5⟩ := h
  obtain ⟨v, hv⟩ : ∃ v, v = cl_r θ o 0 := ⟨_, rfl⟩
  rw [← hv] at c1 c2 c3 c4 d4 d5 h1 h3 ⊢
  have hvo : v ≠ o := fun h => by rw [h, b3] at c3; omega
  have hσ := a.1
  have iv : cl_i (cl_wi (cl_si θ v f) o 3 (nI (xs.length + ys.length))) v = f := by
    rw [pc_wi, pc_i_si_n _ _ _ _ hvo, pc_i_si_s]
  have io : cl_i (cl_wi (cl_si θ v f) o 3 (nI (xs.length + ys.length))) o = upd (cl_i θ o) 3 (nI (xs.length + ys.length)) := by
    rw [pc_wi, pc_i_si_s, pc_i_si_n _ _ _ _ (Ne.symm hvo)]
  have rr : cl_r (cl_wi (cl_si θ v f) o 3 (nI (xs.length + ys.length))) o 0 = v := hv.symm
  have kk : ∀ y, cl_k (cl_wi (cl_si θ v f) o 3 (nI (xs.length + ys.length))) y = cl_k θ y := fun _ => rfl
  have ll : ∀ y, cl_l (cl_wi (cl_si θ v f) o 3 (nI (xs.length + ys.length))) y = cl_l θ y := fun _ => rfl
  have nn : cl_n (cl_wi (cl_si θ v f) o 3 (nI (xs.length + ys.length))) = cl_n θ := rfl
  unfold sr_B sr_A
  rw [rr, iv, io, kk, kk, ll, nn]
  refine ⟨pc_fr_sin (pc_fr_sin a c1 _) b1 _, ⟨b1, b2, b3⟩, ⟨c1, c2, c3, c4⟩, d1, ?_, ⟨by rw [List.length_append]; omega, d3'⟩, fun i hi => ?_, fun i b hb => ?_⟩
  · rw [List.length_append]
    rfl
  · by_cases h4 : i < xs.length
    · rw [h1 i h4]
      exact d4 i hi
    · by_cases h5 : i < xs.length + ys.length
      · have hj : i - xs.length < ys.length := by omega
        obtain ⟨e1, e2⟩ := h2 (i - xs.length) ys[i - xs.length] (List.getElem?_eq_getElem hj)
        rw [show xs.length + (i - xs.length) = i by omega] at e1
        exact ⟨_, e2, e1⟩
      · rw [h3 i (by omega)]
        exact d4 i hi
  · rcases ss_app hb with ⟨g1, g2⟩ | ⟨g1, g2⟩
    · rw [h1 i g1]
      exact d5 i b g2
    · have := h2 _ b g2
      rw [show xs.length + (i - xs.length) = i by omega] at this
      exact this
/-- what has changed by it -/
theorem ss_fr {θ' : cl_S} (h : sr_B σ θ o xs cap) (hf : pc_fr θ θ' pc_0 (fun y => y = o)) (f : Nat → Int32) (v : Nat) (hv : v = cl_r θ o 0 ∨ cl_n θ < v) (w : Int32) : pc_fr θ (cl_wi (cl_si θ' v f) o 3 w) (fun y => y = o ∨ y = cl_r θ o 0) (fun y => y = o) := by
  have h1 : pc_fr θ θ' (fun y => y = o ∨ y = cl_r θ o 0) (fun y => y = o) := pc_fr_mo hf (fun _ _ h => h.elim) (fun _ _ h => h)
  have h2 : pc_fr θ (cl_si θ' v f) (fun y => y = o ∨ y = cl_r θ o 0) (fun y => y = o) := by
    rcases hv with e | e
    · exact pc_fr_tr h1 (pc_fr_si θ' v f (Or.inr e))
    · exact pc_fr_sin h1 e f
  exact pc_fr_tr h2 (pc_fr_si _ o _ (Or.inl rfl))
/-- **append(String)** -/
theorem ss_str (h : sr_B σ θ o xs cap) (hT : sr_T θ s ys) (hne : cl_r θ s 0 ≠ cl_r θ o 0) (hs : s ≠ o) (hl : xs.length + ys.length ≤ 72) : ∃ θ' cap', cl_J10_append o s θ = some (o, θ') ∧ sr_B σ θ' o (xs ++ ys) cap' ∧ cap ≤ cap' ∧ pc_fr θ θ' (fun y => y = o ∨ y = cl_r θ o 0) (fun y => y = o) := by
  obtain ⟨θ1, cap1, e1, H1, ⟨hc1, hcc⟩, f1, r1⟩ := sr_ens h hl
  obtain ⟨hcd, hln⟩ := sr_len hT
  have T1 : sr_T θ1 s ys := sr_T_fr hT f1 ⟨fun h => h, fun h => h⟩ hs
  have h0 := h
  obtain ⟨a, ⟨b1, b2, b3⟩, ⟨c1, c2, c3, c4⟩, d1, d2, d3, d4, d5⟩ := h
  have H1' := H1
  obtain ⟨a', ⟨b1', b2', b3'⟩, ⟨c1', c2', c3', c4'⟩, d1', d2', d3', d4', d5'⟩ := H1
  have T0 := hT
  obtain ⟨t1, t2, ⟨t3, t4⟩, t5, t6, t7, t8⟩ := hT
  obtain ⟨u1, u2, ⟨u3, u4⟩, u5, u6, u7, u8⟩ := T1
  have hr1 : cl_r θ1 s 0 = cl_r θ s 0 := by rw [(f1.2 s t2).2.2.2 hs]
  have hv1 : cl_r θ1 s 0 ≠ cl_r θ1 o 0 := by
    rw [hr1]
    rcases r1 with r1 | r1
    · rw [r1]; exact hne
    · omega
  have hcd1 := (sr_len (θ := θ1) (s := s) (xs := ys) ⟨u1, u2, ⟨u3, u4⟩, u5, u6, u7, u8⟩).1
  obtain ⟨v, hv⟩ : ∃ v, v = cl_r θ1 o 0 := ⟨_, rfl⟩
  obtain ⟨w, hw⟩ : ∃ w, w = cl_r θ1 s 0 := ⟨_, rfl⟩
  have zv : cl_r θ1 o 0 ≠ 0 := by omega
  have c0 : (0 : Int32).toNatClampNeg = 0 := by decide
  have hgb : cl_J4_getBytes s (cl_r θ1 o 0) θ1 (nI xs.length) 0 = some (cl_si θ1 (cl_r θ1 o 0) (va_cpy (cl_i θ1 (cl_r θ1 s 0)) (cl_i θ1 (cl_r θ1 o 0)) 0 xs.length ys.length)) := by
    have hcg : cl_cg θ1 (cl_r θ1 s 0) (cl_r θ1 o 0) (0 : Int32) (nI xs.length) (nI ys.length) = true := by
      unfold cl_cg
      refine decide_eq_true ⟨by decide, pb_neg (by omega), pb_neg (by omega), ?_, ?_⟩
      · rw [c0, nI_clamp (by omega), u6]; omega
      · rw [nI_clamp (by omega), nI_clamp (by omega), c4']; omega
    have hcf : cl_cf .byte (cl_i θ1 (cl_r θ1 s 0)) (0 : Int32).toNatClampNeg (nI ys.length).toNatClampNeg = true := by
      unfold cl_cf
      rw [List.all_eq_true]
      intro i hi
      have hi' := List.mem_range.mp hi
      rw [nI_clamp (by omega)] at hi'
      rw [c0, Nat.zero_add]
      obtain ⟨e, hb⟩ := u8 i ys[i] (List.getElem?_eq_getElem hi')
      rw [e]
      exact (sr_fit ⟨_, hb⟩).1
    unfold cl_J4_getBytes
    rw [pb_gdD _ u1, hcd1, pb_b1, if_pos rfl, pb_gdD _ u3, pb_gdD _ u3, pb_gdD _ u5, pb_gdD _ c3', sr_l, u6, sr_of, hcg, pb_gdT, hcf, pb_gdT, pb_let]
    unfold cl_cp
    rw [c0, nI_clamp (by omega), nI_clamp (by omega)]
  have hput : cl_J9_putStringAt o s θ1 (nI xs.length) = some (cl_si θ1 (cl_r θ1 o 0) (va_cpy (cl_i θ1 (cl_r θ1 s 0)) (cl_i θ1 (cl_r θ1 o 0)) 0 xs.length ys.length)) := by
    unfold cl_J9_putStringAt cl_J9_inflateIfNeededFor
    rw [pb_gdD _ b3', pb_gdD _ b3', pb_gdD _ u1, hcd1, pb_b1, d1', if_pos rfl, pb_b1, pb_gdD _ zv, pb_gdD _ u1, hgb, pb_b1]
  obtain ⟨ψ, hψ⟩ : ∃ ψ, ψ = cl_si θ1 (cl_r θ1 o 0) (va_cpy (cl_i θ1 (cl_r θ1 s 0)) (cl_i θ1 (cl_r θ1 o 0)) 0 xs.length ys.length) := ⟨_, rfl⟩
  have kψ : cl_k ψ o = 17 := by rw [hψ]; exact b3'
  have hvo : o ≠ cl_r θ1 o 0 := fun h => by rw [← h, b3'] at c3'; omega
  have iψ : cl_i ψ o 3 = nI xs.length := by rw [hψ, pc_i_si_n _ _ _ _ hvo]; exact d2'
  refine ⟨cl_wi ψ o 3 (nI (xs.length + ys.length)), cap1, ?_, ?_, hcc, ?_⟩
  · unfold cl_J10_append cl_J9_append
    rw [pb_gdD _ b3, pb_gdD _ t1, hln, pb_b1, pb_gdD _ b3, d2, pb_add, e1, pb_b1, pb_gdD _ b3', d2', hput, pb_b1, ← hψ, pb_gdD _ kψ, iψ, pb_add, pb_b2, pb_gdD _ (by omega)]
  · rw [hψ]
    refine ss_w H1' hc1 (fun i hi => ?_) (fun i b hb => ?_) (fun i hi => ?_)
    · unfold va_cpy
      rw [if_neg (by omega)]
    · have hi : i < ys.length := (List.getElem?_eq_some_iff.mp hb).1
      unfold va_cpy
      rw [if_pos (by omega), show 0 + (xs.length + i - xs.length) = i by omega]
      exact u8 i b hb
    · unfold va_cpy
      rw [if_neg (by omega)]
  · rw [hψ]
    exact ss_fr h0 f1 _ _ (by rcases r1 with r1 | r1; exact Or.inl r1; exact Or.inr r1) _
/-- **append(char)** -/
theorem ss_chr (h : sr_B σ θ o xs cap) {x : Nat} (hx : x < 128) (hl : xs.length + 1 ≤ 72) : ∃ θ' cap', cl_J10_append_2 o θ (nI x) = some (o, θ') ∧ sr_B σ θ' o (xs ++ [x]) cap' ∧ cap ≤ cap' ∧ pc_fr θ θ' (fun y => y = o ∨ y = cl_r θ o 0) (fun y => y = o) := by
  obtain ⟨θ1, cap1, e1, H1, ⟨hc1, hcc⟩, f1, r1⟩ := sr_ens h hl
  have h0 := h
  obtain ⟨a, ⟨b1, b2, b3⟩, ⟨c1, c2, c3, c4⟩, d1, d2, d3, d4, d5⟩ := h
  have H1' := H1
  obtain ⟨a', ⟨b1', b2', b3'⟩, ⟨c1', c2', c3', c4'⟩, d1', d2', d3', d4', d5'⟩ := H1
  have hvo : o ≠ cl_r θ1 o 0 := fun h => by rw [← h, b3'] at c3'; omega
  have zv : cl_r θ1 o 0 ≠ 0 := by omega
  have e255 : ¬ (255 : Int32) < nI x := fun h => absurd ((pb_lt (a := 255) (by omega) (by omega)).mp h) (by omega)
  have s1 : nI xs.length + (1 : Int32) = nI (xs.length + 1) := (nI_succ _).symm
  have fx := (sr_fit ⟨x, hx⟩).2.1
  replace fx : (nI x).toInt8.toInt32 = nI x := fx
  have comm : cl_wi (cl_wi θ1 o 3 (nI (xs.length + 1))) (cl_r θ1 o 0) xs.length (nI x) = cl_wi (cl_si θ1 (cl_r θ1 o 0) (upd (cl_i θ1 (cl_r θ1 o 0)) xs.length (nI x))) o 3 (nI (xs.length + 1)) := by
    rw [pc_wi, pc_wi θ1, pc_i_si_n _ _ _ _ (Ne.symm hvo), pc_wi, pc_i_si_n _ _ _ _ hvo]
    unfold cl_si
    refine Prod.ext rfl (Prod.ext rfl (Prod.ext rfl (Prod.ext ?_ rfl)))
    funext y
    show va_up (va_up θ1.2.2.2.1 o _) (cl_r θ1 o 0) _ y = va_up (va_up θ1.2.2.2.1 (cl_r θ1 o 0) _) o _ y
    unfold va_up
    by_cases hy1 : y = o
    · subst hy1
      rw [if_neg hvo, if_pos rfl, if_pos rfl]
    · by_cases hy2 : y = cl_r θ1 o 0
      · rw [if_pos hy2, if_neg hy1, if_pos hy2]
      · rw [if_neg hy2, if_neg hy1, if_neg hy1, if_neg hy2]
  refine ⟨cl_wi (cl_si θ1 (cl_r θ1 o 0) (upd (cl_i θ1 (cl_r θ1 o 0)) xs.length (nI x))) o 3 (nI (xs.length + 1)), cap1, ?_, ?_, hcc, ?_⟩
  · have lv : cl_l (cl_wi θ1 o 3 (nI (xs.length + 1))) (cl_r θ1 o 0) = cap1 := c4'
    unfold cl_J10_append_2 cl_J9_append_2 cl_J9_isLatin1 cl_J16_canEncode
    rw [pb_gdD _ b3, pb_gdD _ b3, d2, s1, e1, pb_b1, pb_gdD _ b3', pb_gdD _ b3', d1', if_pos rfl, pb_b1, pb_ibT, if_neg e255, pb_b1, pb_ibT, pb_gdD _ zv, pb_let, d2', s1, pb_gdD _ (by exact c3'), lv, pn_gdi _ (by omega) (by omega), pb_let, nI_clamp (by omega), fx, fx, comm, pb_b2, pb_gdD _ (by omega)]
  · refine ss_w (ys := [x]) H1' hc1 (fun i hi => ?_) (fun i b hb => ?_) (fun i hi => ?_)
    · unfold upd
      rw [if_neg (by omega)]
    · cases i with
      | zero =>
        have : x = b := by simpa using hb
        subst this
        unfold upd
        rw [if_pos (by omega)]
        exact ⟨rfl, hx⟩
      | succ i => simp at hb
    · have hi2 : xs.length + 1 ≤ i := hi
      unfold upd
      rw [if_neg (by omega)]
  · exact ss_fr h0 f1 _ _ (by rcases r1 with r1 | r1; exact Or.inl r1; exact Or.inr r1) _
end SS
