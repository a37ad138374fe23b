/-! the constructor of DatedContacts, on the heap of the constants alone -/
def zi_0 : cl_S := (18, fun o => if o = 0 then 0 else if o ≤ 18 then cl_c0k o else 0, fun o => if o = 0 then 0 else if o ≤ 18 then cl_c0l o else 0, fun o => if o = 0 then fun _ => 0 else if o ≤ 18 then cl_c0i o else fun _ => 0, fun o => if o = 0 then fun _ => 0 else if o ≤ 18 then cl_c0r o else fun _ => 0)
theorem zi_0_Z : cl_Z zi_0 := by
  refine ⟨?_, Nat.le_refl _, ?_, ?_⟩
  · intro o k
    show (if o = 0 then fun _ => 0 else if o ≤ 18 then cl_c0r o else fun _ => 0) k ≤ 18
    split
    · exact Nat.zero_le _
    · split
      · unfold cl_c0r
        split
        · split <;> omega
        · exact Nat.zero_le _
      · exact Nat.zero_le _
  · intro o ho
    have h1 : ¬ o = 0 := by have : 18 < o := ho; omega
    have h2 : ¬ o ≤ 18 := by have : 18 < o := ho; omega
    have e : cl_k zi_0 o = 0 := by
      show (if o = 0 then 0 else if o ≤ 18 then cl_c0k o else 0) = 0
      rw [if_neg h1, if_neg h2]
    rw [e]
    rfl
  · intro o h1 h2
    have h3 : ¬ o = 0 := by omega
    have h4 : o ≤ 18 := h2
    refine ⟨?_, ?_, ?_, ?_⟩
    · show (if o = 0 then 0 else if o ≤ 18 then cl_c0k o else 0) = _
      rw [if_neg h3, if_pos h4]
    · show (if o = 0 then 0 else if o ≤ 18 then cl_c0l o else 0) = _
      rw [if_neg h3, if_pos h4]
    · show (if o = 0 then fun _ => 0 else if o ≤ 18 then cl_c0i o else fun _ => 0) = _
      rw [if_neg h3, if_pos h4]
    · show (if o = 0 then fun _ => 0 else if o ≤ 18 then cl_c0r o else fun _ => 0) = _
      rw [if_neg h3, if_pos h4]
def zi_sh (σ : cl_S) (o : Nat) : Bool := decide (o + 6 ≤ cl_n σ) && decide (cl_k σ o = 2) && decide (cl_k σ (o + 1) = 25 ∧ cl_l σ (o + 1) = 9 ∧ cl_r σ o 4 = o + 1) && decide (cl_k σ (o + 2) = 20 ∧ cl_l σ (o + 2) = 9 ∧ cl_r σ o 5 = o + 2) && decide (cl_k σ (o + 3) = 20 ∧ cl_l σ (o + 3) = 10 ∧ cl_r σ o 6 = o + 3) && decide (cl_k σ (o + 4) = 20 ∧ cl_l σ (o + 4) = 10 ∧ cl_r σ o 7 = o + 4) && decide (cl_k σ (o + 5) = 20 ∧ cl_l σ (o + 5) = 10 ∧ cl_r σ o 8 = o + 5) && decide (cl_k σ (o + 6) = 26 ∧ cl_l σ (o + 6) = 9 ∧ cl_r σ o 9 = o + 6)
def zi_x (σ : cl_S) : Bool := decide (cl_k σ 19 = 0 ∧ cl_r σ 19 0 = 20 ∧ cl_r σ 19 1 = 29 ∧ cl_r σ 19 4 = 30 ∧ cl_r σ 19 5 = 37 ∧ cl_r σ 19 6 = 44 ∧ cl_r σ 19 7 = 46 ∧ cl_r σ 19 8 = 53 ∧ cl_r σ 19 10 = 54)
def zi_r (σ : cl_S) : Bool := decide (cl_k σ 20 = 24 ∧ cl_l σ 20 = 8) && (List.range 8).all (fun j => decide (cl_r σ 20 j = 21 + j ∧ cl_k σ (21 + j) = 1 ∧ cl_r σ (21 + j) 0 = 0))
def zi_c (σ : cl_S) : Bool := decide (cl_k σ 46 = 4) && decide (cl_r σ 46 0 = 47 ∧ cl_r σ 46 1 = 48 ∧ cl_r σ 46 2 = 49 ∧ cl_r σ 46 3 = 50 ∧ cl_r σ 46 4 = 51 ∧ cl_r σ 46 6 = 52) && decide (cl_k σ 47 = 20 ∧ cl_k σ 48 = 20 ∧ cl_k σ 49 = 20 ∧ cl_k σ 50 = 20 ∧ cl_k σ 51 = 20 ∧ cl_k σ 52 = 20) && decide (cl_l σ 47 = 280 ∧ cl_l σ 48 = 280 ∧ cl_l σ 49 = 280 ∧ cl_l σ 50 = 280 ∧ cl_l σ 51 = 9 ∧ cl_l σ 52 = 279)
def zi_a (σ : cl_S) : Bool := decide (cl_k σ 29 = 21 ∧ cl_l σ 29 = 130) && decide (cl_k σ 53 = 27 ∧ cl_l σ 53 = 16) && decide (cl_k σ 54 = 27 ∧ cl_l σ 54 = 2)
def zi_w (σ : cl_S) : Bool := decide (cl_k σ 44 = 3 ∧ cl_r σ 44 0 = 45 ∧ cl_k σ 45 = 20 ∧ cl_l σ 45 = 9)
def zi_t (σ : cl_S) : Bool := decide (cl_r σ 19 11 = 55 ∧ cl_k σ 55 = 5 ∧ cl_r σ 55 0 = 56 ∧ cl_k σ 56 = 20 ∧ cl_l σ 56 = 16) && decide (cl_i σ 55 1 = 0)
def zi_e (σ : cl_S) : Bool := (List.range 16).all (fun i => decide (cl_r σ 53 i = 0)) && (List.range 2).all (fun i => decide (cl_r σ 54 i = 0)) && (List.range 9).all (fun j => decide (cl_r σ 31 j = 0 ∧ cl_r σ 36 j = 0)) && decide (cl_i σ 30 0 = 0 ∧ cl_i σ 30 1 = 0 ∧ cl_i σ 30 2 = 0 ∧ cl_i σ 30 3 = 0) && decide (cl_i σ 19 2 = 0 ∧ cl_i σ 19 9 = 0 ∧ cl_i σ 19 3 = 0 ∧ cl_i σ 19 12 = 0)
def zi_b (σ : cl_S) : Bool := decide (cl_n σ = 56) && zi_x σ && zi_r σ && zi_c σ && zi_a σ && zi_sh σ 30 && zi_sh σ 37 && zi_w σ && zi_t σ && zi_e σ
def zi_q (o : Option cl_S) : Bool := match o with
  | some σ => zi_b σ
  | none => false
theorem zi_go : zi_q (cl_X0_init 19 (cl_nw zi_0 0 0)) = true := by decide +kernel
def zi_N : pn_N := ((0, 0, 0, 0), fun _ => 0, fun _ => 0, fun _ => 0, fun _ => 0, fun _ => 0)
def zi_S : pa_S := ((zi_N, fun _ => zi_N, 0), fun _ => none, fun _ => none, (fun _ => 0, 0), (0, 0), (0, fun _ => 0))
theorem zi_N_ok : pn_ok zi_N := ⟨Nat.zero_le _, Nat.zero_le _, fun h => absurd h (Nat.lt_irrefl 0), fun p h => absurd h (Nat.not_lt_zero p), fun c h => absurd h (Nat.not_lt_zero c)⟩
theorem zi_sh_of {σ : cl_S} {o : Nat} (ho : 18 < o) (h : zi_sh σ o = true) : pc_sh σ o := by
  simp only [zi_sh, Bool.and_eq_true, decide_eq_true_eq] at h
  obtain ⟨⟨⟨⟨⟨⟨⟨h0, h1⟩, h2⟩, h3⟩, h4⟩, h5⟩, h6⟩, h7⟩ := h
  exact ⟨⟨ho, h0⟩, h1, h2, h3, h4, h5, h6, h7⟩
set_option maxHeartbeats 2000000 in
theorem zi_R {σ : cl_S} (h : zi_b σ = true) (hZ : cl_Z σ) : pc_R σ zi_S := by
  simp only [zi_b, Bool.and_eq_true, decide_eq_true_eq] at h
  obtain ⟨⟨⟨⟨⟨⟨⟨⟨⟨hn, hx⟩, hr⟩, hc⟩, ha⟩, hs30⟩, hs37⟩, hw⟩, ht⟩, he⟩ := h
  simp only [zi_x, decide_eq_true_eq] at hx
  simp only [zi_r, Bool.and_eq_true, decide_eq_true_eq, List.all_eq_true, List.mem_range] at hr
  simp only [zi_c, Bool.and_eq_true, decide_eq_true_eq] at hc
  simp only [zi_a, Bool.and_eq_true, decide_eq_true_eq] at ha
  simp only [zi_w, decide_eq_true_eq] at hw
  simp only [zi_t, Bool.and_eq_true, decide_eq_true_eq] at ht
  simp only [zi_e, Bool.and_eq_true, decide_eq_true_eq, List.all_eq_true, List.mem_range] at he
  obtain ⟨hr1, hr2⟩ := hr
  obtain ⟨⟨⟨hc1, hc2⟩, hc3⟩, hc4⟩ := hc
  obtain ⟨⟨ha1, ha2⟩, ha3⟩ := ha
  obtain ⟨⟨t1, t2, t3, t4, t5⟩, t6⟩ := ht
  obtain ⟨⟨⟨⟨e1, e2⟩, e3⟩, e4⟩, e5⟩ := he
  have sh30 := zi_sh_of (by omega) hs30
  have sh37 := zi_sh_of (by omega) hs37
  have hlo : ∀ i, i < 27 → pd_lo σ i = if i < 26 then 0 else 55 := by
    intro i hi
    unfold pd_lo
    by_cases h1 : i < 16
    · rw [if_pos h1, if_pos (by omega)]
      exact e1 i h1
    · rw [if_neg h1]
      by_cases h2 : i < 18
      · rw [if_pos h2, if_pos (by omega)]
        exact e2 (i - 16) (by omega)
      · rw [if_neg h2]
        by_cases h3 : i < 26
        · rw [if_pos h3, if_pos h3]
          exact (hr2 (i - 18) (by omega)).2.2
        · rw [if_neg h3, if_neg h3]
          exact t1
  refine ⟨⟨by omega, hx, ⟨hr1, fun j hj => ⟨(hr2 j hj).1, (hr2 j hj).2.1⟩⟩, ⟨hc1, hc2, hc3, hc4⟩, ⟨ha1, ha2, ha3⟩, hZ.2.2.2, sh30, sh37, ⟨⟨by decide, by omega⟩, hw⟩⟩, ⟨?_, ?_⟩, ⟨⟨sh30, e4, fun p h => absurd h (Nat.not_lt_zero p), fun c h => absurd h (Nat.not_lt_zero c), fun j hj => ⟨Or.inl (e3 j hj).1, Or.inl (e3 j hj).2⟩⟩, zi_N_ok⟩, ⟨fun i hi => Or.inl (e1 i hi), Nat.zero_le _, fun i h => absurd h (Nat.not_lt_zero i)⟩, fun i hi => Or.inl ⟨rfl, e2 i hi⟩, fun j hj => Or.inl ⟨rfl, (hr2 j hj).2.2⟩, ⟨Nat.zero_le _, e5.1, fun j h => absurd h (Nat.not_lt_zero j)⟩, ⟨e5.2.1, e5.2.2.1, e5.2.2.2⟩, ⟨⟨?_, ?_, ?_, ?_, ?_⟩, Nat.zero_le _, ?_, fun i h => absurd h (Nat.not_lt_zero i)⟩⟩
  · intro i hi
    rw [hlo i hi]
    by_cases h : i < 26
    · rw [if_pos h]
      exact Or.inl rfl
    · rw [if_neg h]
      right
      have h26 : i = 26 := by omega
      subst h26
      refine ⟨by omega, ?_⟩
      show 55 + 1 ≤ cl_n σ
      omega
  · intro i j hi hj hij
    rw [hlo i hi, hlo j hj]
    by_cases h : i < 26
    · rw [if_pos h]
      exact Or.inl rfl
    · rw [if_pos (show j < 26 by omega)]
      exact Or.inr (Or.inl rfl)
  · rw [t1]; decide
  · rw [t1]; exact t2
  · rw [t1]; exact t3
  · rw [t1]; exact t4
  · rw [t1]; exact t5
  · rw [t1]; exact t6
theorem zi_start : ∃ σ1, cl_X0_init 19 (cl_nw zi_0 0 0) = some σ1 ∧ (cl_Z σ1 → pc_R σ1 zi_S) := by
  have h := zi_go
  cases hq : cl_X0_init 19 (cl_nw zi_0 0 0) with
  | none => rw [hq] at h; cases h
  | some σ1 =>
    rw [hq] at h
    exact ⟨σ1, rfl, fun hZ => zi_R h hZ⟩
