/-! DatedContacts' net in the heap of ids; its walk -/
theorem pb_gdT {α : Type} (k : Option α) : dx_gd true k = k := rfl
theorem pb_gdD {α : Type} {p : Prop} [Decidable p] (k : Option α) (h : p) : dx_gd (decide p) k = k := by
  rw [decide_eq_true h]; rfl
section PCH
variable (η : cl_S) (o x : Nat) (f : Nat → Int32) (g : Nat → Nat)
theorem pc_k_si : cl_k (cl_si η o f) x = cl_k η x := rfl
theorem pc_l_si : cl_l (cl_si η o f) x = cl_l η x := rfl
theorem pc_r_si : cl_r (cl_si η o f) x = cl_r η x := rfl
theorem pc_n_si : cl_n (cl_si η o f) = cl_n η := rfl
theorem pc_i_si : cl_i (cl_si η o f) x = if x = o then f else cl_i η x := rfl
theorem pc_i_si_s : cl_i (cl_si η o f) o = f := by rw [pc_i_si, if_pos rfl]
theorem pc_i_si_n (h : x ≠ o) : cl_i (cl_si η o f) x = cl_i η x := by rw [pc_i_si, if_neg h]
theorem pc_wi (k : Nat) (v : Int32) : cl_wi η o k v = cl_si η o (upd (cl_i η o) k v) := rfl
theorem pc_si_si (f' : Nat → Int32) : cl_si (cl_si η o f) o f' = cl_si η o f' := by
  unfold cl_si va_up
  refine Prod.ext rfl (Prod.ext rfl (Prod.ext rfl (Prod.ext ?_ rfl)))
  funext j
  by_cases h : j = o
  · simp [h]
  · simp [h]
theorem pc_si_self : cl_si η o (cl_i η o) = η := by
  unfold cl_si va_up cl_i
  refine Prod.ext rfl (Prod.ext rfl (Prod.ext rfl (Prod.ext ?_ rfl)))
  funext j
  by_cases h : j = o
  · simp [h]
  · simp [h]
theorem pc_k_sr : cl_k (cl_sr η o g) x = cl_k η x := rfl
theorem pc_l_sr : cl_l (cl_sr η o g) x = cl_l η x := rfl
theorem pc_i_sr : cl_i (cl_sr η o g) x = cl_i η x := rfl
theorem pc_n_sr : cl_n (cl_sr η o g) = cl_n η := rfl
theorem pc_r_sr : cl_r (cl_sr η o g) x = if x = o then g else cl_r η x := rfl
theorem pc_wr (k v : Nat) : cl_wr η o k v = cl_sr η o (va_up (cl_r η o) k v) := rfl
end PCH
/-- where a net's parts lie -/
def pc_sh (σ : cl_S) (o : Nat) : Prop := (cl_K < o ∧ o + 6 ≤ cl_n σ) ∧ cl_k σ o = 2 ∧ (cl_k σ (o + 1) = 25 ∧ cl_l σ (o + 1) = 9 ∧ cl_r σ o 4 = o + 1) ∧ (cl_k σ (o + 2) = 20 ∧ cl_l σ (o + 2) = 9 ∧ cl_r σ o 5 = o + 2) ∧ (cl_k σ (o + 3) = 20 ∧ cl_l σ (o + 3) = 10 ∧ cl_r σ o 6 = o + 3) ∧ (cl_k σ (o + 4) = 20 ∧ cl_l σ (o + 4) = 10 ∧ cl_r σ o 7 = o + 4) ∧ (cl_k σ (o + 5) = 20 ∧ cl_l σ (o + 5) = 10 ∧ cl_r σ o 8 = o + 5) ∧ (cl_k σ (o + 6) = 26 ∧ cl_l σ (o + 6) = 9 ∧ cl_r σ o 9 = o + 6)
/-- a person; a window -/
def pc_P (σ : cl_S) (r p k : Nat) : Prop := (cl_K < r ∧ r ≤ cl_n σ) ∧ cl_k σ r = 8 + k ∧ cl_i σ r 0 = nI p
def pc_W (σ : cl_S) (r : Nat) (lo hi : Nat) : Prop := (cl_K < r ∧ r ≤ cl_n σ) ∧ cl_k σ r = 14 ∧ cl_i σ r 0 = nI lo ∧ cl_i σ r 1 = nI hi
def pc_Wp (σ : cl_S) (r : Nat) (N : pn_N) (p : Nat) : Prop := if pn_kd N p < 4 then pc_W σ r (pn_lw N p) (pn_hg N p) else r = 0
/-- all that lies in an array of persons, of windows -/
def pc_ar (σ : cl_S) (o : Nat) : Prop := ∀ j, j < 9 → (cl_r σ (o + 1) j = 0 ∨ (cl_r σ (o + 1) j ≤ cl_n σ ∧ 9 ≤ cl_k σ (cl_r σ (o + 1) j) ∧ cl_k σ (cl_r σ (o + 1) j) ≤ 13)) ∧ (cl_r σ (o + 6) j = 0 ∨ (cl_r σ (o + 6) j ≤ cl_n σ ∧ cl_k σ (cl_r σ (o + 6) j) = 14))
def pc_N (σ : cl_S) (o : Nat) (N : pn_N) : Prop := pc_sh σ o ∧ (cl_i σ o 0 = nI (pn_P N) ∧ cl_i σ o 1 = nI (pn_C N) ∧ cl_i σ o 2 = nI (pn_lo N) ∧ cl_i σ o 3 = nI (pn_hi N)) ∧ (∀ p, p < pn_P N → pc_P σ (cl_r σ (o + 1) p) p (pn_kd N p) ∧ cl_i σ (o + 2) p = pn_il N p ∧ pc_Wp σ (cl_r σ (o + 6) p) N p) ∧ (∀ c, c < pn_C N → cl_i σ (o + 3) c = nI (pn_a N c) ∧ cl_i σ (o + 4) c = nI (pn_b N c) ∧ cl_i σ (o + 5) c = nI (pn_d N c)) ∧ pc_ar σ o
theorem pn_c_has {x : Int32} {k : Nat} (hk : k < 32) : cl_X0_has x (nI k) = some (pb_bt x k) := pn_m_has hk
/-- days from one to another one -/
def pc_S (a : Nat) : Nat → Int32
  | 0 => 0
  | i + 1 => pc_S a i ||| ((1 : Int32) <<< (nI (a + i) &&& 31))
theorem pc_S_bt (a : Nat) : ∀ i, a + i ≤ 32 → ∀ k, pb_bt (pc_S a i) k = decide (a ≤ k ∧ k < a + i) := by
  intro i
  induction i with
  | zero =>
    intro _ k
    show pb_bt 0 k = _
    rw [pb_bt0]
    symm
    exact decide_eq_false (by omega)
  | succ i ih =>
    intro h k
    show pb_bt (pc_S a i ||| ((1 : Int32) <<< (nI (a + i) &&& 31))) k = _
    rw [pb_or, ih (by omega), pb_one' (by omega), ← Bool.decide_or]
    congr 1
    apply propext
    omega
theorem pc_dF {f t : Int32} (hf : f.toInt < 100) (ht : t.toInt < 31) : ∃ r, cl_X17_daysFrom f t = some r ∧ ∀ k : Nat, (pb_bt r k = true ↔ f.toInt ≤ (k : Int) ∧ (k : Int) ≤ t.toInt) := by
  obtain ⟨a, ha, ea, eb⟩ : ∃ a : Nat, a < 100 ∧ (if (0 : Int32) < f then f else (0 : Int32)) = nI a ∧ (∀ k : Nat, f.toInt ≤ (k : Int) ↔ a ≤ k) := by
    by_cases h : (0 : Int32) < f
    · have h0 := Int32.lt_iff_toInt_lt.mp h
      rw [Int32.toInt_zero] at h0
      obtain ⟨n, hn, e⟩ := pb_of (v := f) (by intro h2; have := Int32.lt_iff_toInt_lt.mp h2; rw [Int32.toInt_zero] at this; omega)
      have e2 : f.toInt = (n : Int) := by rw [e, nI_toInt hn]
      exact ⟨n, by omega, by rw [if_pos h, e], fun k => by omega⟩
    · have h0 : ¬ (0 : Int) < f.toInt := fun h2 => h (by rw [Int32.lt_iff_toInt_lt, Int32.toInt_zero]; exact h2)
      exact ⟨0, by omega, by rw [if_neg h, nI_0], fun k => by omega⟩
  unfold cl_X17_daysFrom
  rw [ea]
  by_cases h0 : t.toInt < a
  · refine ⟨0, ?_, ?_⟩
    · refine pb_lp (b := fun x : Int32 × Int32 => cl_X17_daysFrom_L8 t x.1 x.2) 0 (fun _ => ((0 : Int32), nI a)) (fun i hi => by omega) ?_ (by omega)
      show cl_X17_daysFrom_L8 t 0 (nI a) = _
      unfold cl_X17_daysFrom_L8
      rw [if_pos (by rw [Int32.lt_iff_toInt_lt, nI_toInt (by omega)]; exact h0)]
      rfl
    · intro k
      rw [pb_bt0, eb]
      constructor
      · intro h; cases h
      · intro h; omega
  · obtain ⟨T, hT, e⟩ := pb_of (v := t) (by intro h2; have := Int32.lt_iff_toInt_lt.mp h2; rw [Int32.toInt_zero] at this; omega)
    have e2 : t.toInt = (T : Int) := by rw [e, nI_toInt hT]
    refine ⟨pc_S a (T + 1 - a), ?_, ?_⟩
    · refine pb_lp (b := fun x : Int32 × Int32 => cl_X17_daysFrom_L8 t x.1 x.2) (T + 1 - a) (fun i => (pc_S a i, nI (a + i))) (fun i hi => ?_) ?_ (by omega)
      · show cl_X17_daysFrom_L8 t (pc_S a i) (nI (a + i)) = some (.inl (pc_S a (i + 1), nI (a + (i + 1))))
        unfold cl_X17_daysFrom_L8
        rw [if_neg (by rw [Int32.lt_iff_toInt_lt, nI_toInt (by omega)]; omega), ← nI_succ]
        rfl
      · show cl_X17_daysFrom_L8 t (pc_S a (T + 1 - a)) (nI (a + (T + 1 - a))) = _
        unfold cl_X17_daysFrom_L8
        rw [if_pos (by rw [Int32.lt_iff_toInt_lt, nI_toInt (by omega)]; omega)]
        rfl
    · intro k
      rw [pc_S_bt a _ (by omega), eb, decide_eq_true_iff]
      omega
section PCN
variable {σ : cl_S} {o : Nat} {N : pn_N}
theorem pc_other (h : pc_N σ o N) (hN : pn_ok N) {c p : Nat} (hc : c < pn_C N) (hp : p < 2 ^ 31) : cl_X2_otherOf o σ (nI c) (nI p) = some (if pn_a N c = p then nI (pn_b N c) else if pn_b N c = p then nI (pn_a N c) else -1000000) := by
  obtain ⟨⟨-, k0, -, -, ⟨k3, l3, r3⟩, ⟨k4, l4, r4⟩, -⟩, -, -, hC, -⟩ := h
  obtain ⟨c1, c2, c3⟩ := hC c hc
  obtain ⟨b1, b2, -⟩ := hN.2.2.2.2 c hc
  have hP := hN.1
  have hC10 := hN.2.1
  have i1 : dx_inb (nI c) 10 = true := by rw [pb_inb (by omega), decide_eq_true (by omega)]
  have e1 : nI (pn_a N c) = nI p ↔ pn_a N c = p := pb_inj (by omega) hp
  have e2 : nI (pn_b N c) = nI p ↔ pn_b N c = p := pb_inj (by omega) hp
  have cc : (nI c).toNatClampNeg = c := nI_clamp (by omega)
  have z3 : ¬ o + 3 = 0 := by omega
  have z4 : ¬ o + 4 = 0 := by omega
  unfold cl_X2_otherOf
  simp only [k0, r3, r4, k3, k4, l3, l4, i1, cc, c1, c2, e1, e2, z3, z4, not_false_iff, decide_true, pb_gdT]
  split
  · rfl
  · split <;> rfl
theorem pc_catch (h : pc_N σ o N) (hN : pn_ok N) {p : Nat} (hp : p < pn_P N) : cl_dP_catches (cl_r σ (o + 1) p) σ = some (decide (pn_kd N p ≠ 5)) := by
  obtain ⟨-, -, hP, -⟩ := h
  obtain ⟨⟨-, hk, -⟩, -⟩ := hP p hp
  obtain ⟨g1, g2, g3, g4, g5, g6, g7⟩ := pn_kdb hN hp
  unfold cl_dP_catches cl_X15_catches cl_X10_catches
  have h5 : pn_kd N p = 1 ∨ pn_kd N p = 2 ∨ pn_kd N p = 3 ∨ pn_kd N p = 4 ∨ pn_kd N p = 5 := by omega
  rcases h5 with e | e | e | e | e <;> rw [e] at hk <;> simp [hk, e, dx_gd, dx_b1, dx_ib]
theorem pc_ahead {r lo hi d : Nat} (h : pc_W σ r lo hi) (hl : lo ≤ 100) (hh : hi ≤ 100) (h1 : 1 ≤ lo) (hd : d ≤ 31) : ∃ v, cl_X17_ahead r σ (nI d) = some v ∧ ∀ k : Nat, (pb_bt v k = true ↔ lo + k ≤ d ∧ d ≤ k + hi) := by
  obtain ⟨-, hk, w0, w1⟩ := h
  have s1 : ∀ {x : Nat}, x ≤ 100 → (nI d - nI x).toInt = (d : Int) - x := by
    intro x hx
    rw [Int32.toInt_sub, nI_toInt (by omega), nI_toInt (by omega)]
    apply Int.bmod_eq_of_le <;> omega
  obtain ⟨v, e, hv⟩ := pc_dF (f := nI d - nI hi) (t := nI d - nI lo) (by rw [s1 hh]; omega) (by rw [s1 hl]; omega)
  refine ⟨v, ?_, ?_⟩
  · unfold cl_X17_ahead cl_X16_most cl_X16_least
    rw [pb_gdD _ hk, pb_gdD _ hk, pb_gdD _ hk, w0, w1]
    show dx_b1 (cl_X17_daysFrom (nI d - nI hi) (nI d - nI lo)) _ = _
    rw [dx_b1_eq _ e]
  · intro k
    rw [hv k, s1 hh, s1 hl]
    omega
/-- **Net.gives**, of one of a contact's two -/
theorem pc_gives (h : pc_N σ o N) (hN : pn_ok N) {c f t : Nat} (hc : c < pn_C N) (hft : (pn_a N c = f ∧ pn_b N c = t) ∨ (pn_b N c = f ∧ pn_a N c = t)) (D : Nat → Int32) (hD : ∀ e, 31 ≤ e → pb_bt (D f) e = false) : cl_X2_gives o σ (nI c) (nI f) (D f) = some (decide (pn_kd N t ≠ 5) && pn_px N D f (pn_d N c)) := by
  obtain ⟨c1, c2, c3, c4⟩ := hN.2.2.2.2 c hc
  have hf : f < pn_P N := by omega
  have ht : t < pn_P N := by omega
  obtain ⟨g1, g2, g3, g4, g5, g6, g7⟩ := pn_kdb hN hf
  have ho := pc_other h hN hc (p := f) (by omega)
  have hto : (if pn_a N c = f then nI (pn_b N c) else if pn_b N c = f then nI (pn_a N c) else (-1000000 : Int32)) = nI t := by
    rcases hft with ⟨e1, e2⟩ | ⟨e1, e2⟩
    · rw [if_pos e1, e2]
    · rw [if_neg (by omega), if_pos e1, e2]
  rw [hto] at ho
  have hca := pc_catch h hN ht
  have h0 := h
  obtain ⟨⟨-, k0, ⟨k1, l1, r1⟩, -, -, -, ⟨k5, l5, r5⟩, ⟨k6, l6, r6⟩⟩, -, hPs, hC, -⟩ := h
  obtain ⟨-, -, hw⟩ := hPs f hf
  obtain ⟨⟨pt1, -⟩, -, -⟩ := hPs t ht
  obtain ⟨-, -, cd⟩ := hC c hc
  have hC10 := hN.2.1
  have i1 : dx_inb (nI c) 10 = true := by rw [pb_inb (by omega), decide_eq_true (by omega)]
  have i2 : dx_inb (nI f) 9 = true := by rw [pb_inb (by omega), decide_eq_true (by omega)]
  have i3 : dx_inb (nI t) 9 = true := by rw [pb_inb (by omega), decide_eq_true (by omega)]
  have cc : (nI c).toNatClampNeg = c := nI_clamp (by omega)
  have cf : (nI f).toNatClampNeg = f := nI_clamp (by omega)
  have ct : (nI t).toNatClampNeg = t := nI_clamp (by omega)
  have z1 : ¬ o + 1 = 0 := by omega
  have z5 : ¬ o + 5 = 0 := by omega
  have z6 : ¬ o + 6 = 0 := by omega
  have zt : ¬ cl_r σ (o + 1) t = 0 := by have := pt1.1; omega
  unfold cl_X2_gives
  simp only [k0, r1, r5, r6, k1, k5, k6, l1, l5, l6, i1, i2, cc, cf, z1, z5, z6, cd, not_false_iff, decide_true, pb_gdT]
  unfold pc_Wp at hw
  by_cases h4 : pn_kd N f < 4
  · rw [if_pos h4] at hw
    have hw0 := hw
    obtain ⟨⟨w1, w2⟩, w3, -⟩ := hw
    have zw : ¬ cl_r σ (o + 6) f = 0 := by omega
    rw [if_neg zw, dx_b1_eq _ ho]
    simp only [i3, ct, zt, not_false_iff, decide_true, pb_gdT]
    rw [dx_b1_eq _ hca, pb_gdD _ w3]
    have b1 : pn_lw N f ≤ 10 ∧ 1 ≤ pn_lw N f := by unfold pn_lw; split <;> omega
    have b2 : pn_hg N f ≤ 21 := by unfold pn_hg; split <;> (try split) <;> omega
    obtain ⟨v, ev, hv⟩ := pc_ahead hw0 (by omega) (by omega) b1.2 (d := pn_d N c) (by omega)
    rw [dx_b1_eq _ ev]
    cases hk5 : decide (pn_kd N t ≠ 5) with
    | false => rfl
    | true =>
      show (if (v &&& D f) = 0 then some false else some true) = some (true && pn_px N D f (pn_d N c))
      rw [Bool.true_and]
      unfold pn_px
      by_cases hz : (v &&& D f) = 0
      · rw [if_pos hz]
        rw [pb_and0] at hz
        congr 1
        symm
        rw [List.any_eq_false]
        intro e he hb
        have he' : e < pn_d N c := List.mem_range.mp he
        rw [Bool.and_eq_true] at hb
        refine hz e (by omega) ⟨(hv e).mpr ?_, hb.1⟩
        have := of_decide_eq_true hb.2
        exact this.2
      · rw [if_neg hz]
        congr 1
        symm
        have hz2 : ∃ k, k < 32 ∧ pb_bt v k = true ∧ pb_bt (D f) k = true := by
          refine Classical.byContradiction fun hn => hz ((pb_and0 _ _).mpr fun k hk hb => hn ⟨k, hk, hb⟩)
        obtain ⟨k, hk, b3, b4⟩ := hz2
        have b5 := (hv k).mp b3
        rw [List.any_eq_true]
        refine ⟨k, List.mem_range.mpr (by omega), ?_⟩
        rw [Bool.and_eq_true]
        exact ⟨b4, decide_eq_true ⟨h4, b5⟩⟩
  · rw [if_neg h4] at hw
    rw [if_pos hw]
    congr 1
    symm
    rw [Bool.and_eq_false_iff]
    right
    unfold pn_px
    rw [List.any_eq_false]
    intro e he hb
    rw [Bool.and_eq_true] at hb
    exact h4 (of_decide_eq_true hb.2).1
end PCN
