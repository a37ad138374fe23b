/-! what walks tell: days, givers, accounts, sources, common -/
/-- a loop that counts up to n, over a state of which something holds -/
theorem pb_cnt {α τ ρ : Type} {b : α × Int32 × τ → Option ((α × Int32 × τ) ⊕ ρ)} (I : τ → Prop) (g : Nat → α → α) (a : α) (n : Nat) (P : ρ → Prop) (h : ∀ i, i < n → ∀ s, I s → ∃ s', I s' ∧ b (pb_fold g a i, nI i, s) = some (.inl (g i (pb_fold g a i), nI (i + 1), s'))) (hx : ∀ s, I s → ∃ z, b (pb_fold g a n, nI n, s) = some (.inr z) ∧ P z) (hn : n < 1000000) (s : τ) (hs : I s) : ∃ z, dx_lp b dx_fu (a, 0, s) = some z ∧ P z := by
  have key : ∀ m i s, m + i = n → I s → ∀ N, m < N → ∃ z, dx_lp b N (pb_fold g a i, nI i, s) = some z ∧ P z := by
    intro m
    induction m with
    | zero =>
      intro i s hi hs N hN
      obtain ⟨z, h1, h2⟩ := hx s hs
      obtain ⟨M, rfl⟩ : ∃ M, N = M + 1 := ⟨N - 1, by omega⟩
      have e : i = n := by omega
      subst e
      refine ⟨z, ?_, h2⟩
      unfold dx_lp
      rw [h1]
    | succ m ih =>
      intro i s hi hs N hN
      obtain ⟨M, rfl⟩ : ∃ M, N = M + 1 := ⟨N - 1, by omega⟩
      obtain ⟨s', h1, h2⟩ := h i (by omega) s hs
      obtain ⟨z, h3, h4⟩ := ih (i + 1) s' (by omega) h1 M (by omega)
      refine ⟨z, ?_, h4⟩
      unfold dx_lp
      rw [h2]
      exact h3
  have := key n 0 s (by omega) hs dx_fu hn
  rw [nI_0] at this
  exact this
theorem pb_ibT {α : Type} (t f : α) : dx_ib true t f = t := rfl
theorem pb_ibF {α : Type} (t f : α) : dx_ib false t f = f := rfl
theorem pb_b1 {α γ : Type} (a : α) (k : α → Option γ) : dx_b1 (some a) k = k a := rfl
theorem pb_b2 {α β γ : Type} (a : α) (b : β) (k : α → β → Option γ) : dx_b2 (some (a, b)) k = k a b := rfl
def pq_res (o : Option (Int32 × cl_S)) (q : Option (Int32 × mo_S)) (S : pa_S) : Prop := ∃ r σ' μ', o = some (r, σ') ∧ q = some (r, μ') ∧ pc_R σ' S ∧ pm_R μ' S
section PT
variable {σ : cl_S} {μ : mo_S} {S : pa_S}
theorem pt_go (h : pc_R σ S) {s d : Nat} (hs : s < pn_P (pa_net S)) (hd : d < 31) (but : Int32) : ∃ σ', cl_X3_go 44 30 σ (nI s) (nI d) but = some (44, σ') ∧ pc_R σ' S ∧ ∀ p, p < 9 → cl_i σ' 45 p = pn_wk (pa_net S) s d but p := by
  obtain ⟨f, h1, h2⟩ := pc_go h.2.2.1.1 h.2.2.1.2 h.1.2.2.2.2.2.2.2.2 (by omega) but hs hd
  refine ⟨_, h2, ?_, fun p hp => ?_⟩
  · exact pc_R_sc (pc_fr_si σ 45 f (Z := fun y => y = 45) (Y := pc_0) rfl) (fun y _ hy => by have : y = 45 := hy; omega) (fun y _ hy => hy.elim) h
  · show cl_i (cl_si σ 45 f) 45 p = _
    rw [pc_i_si_s]
    exact h1 p hp
theorem pt_mw (hm : pm_R μ S) (hN : pn_ok (pa_net S)) {s d : Nat} (hs : s < pn_P (pa_net S)) (hd : d < 31) (but : Int32) : ∃ μ', mo_walks 5 μ (nI s) (nI d) but = some μ' ∧ pm_R μ' S ∧ ∀ p, p < 9 → μ'.2 11 p = pn_wk (pa_net S) s d but p ∧ μ'.2 12 p = pn_wg (pa_net S) s d but p := by
  refine ⟨_, pn_m_walks (k0 := 5) rfl hm.1 hN but hs hd, pm_R_W _ hm, fun p hp => ?_⟩
  rw [pn_mW_D, pn_mW_G]
  exact pn_wo_e9 hN _ s d but hp
theorem pt_cx (h : pc_R σ S) : cl_k σ 19 = 0 ∧ cl_r σ 19 4 = 30 ∧ cl_r σ 19 6 = 44 ∧ cl_k σ 30 = 2 ∧ cl_k σ 44 = 3 ∧ cl_r σ 44 0 = 45 ∧ cl_k σ 45 = 20 ∧ cl_l σ 45 = 9 := by
  obtain ⟨⟨-, ⟨x0, -, -, x3, -, x5, -⟩, -, -, -, -, ⟨-, k0, -⟩, -, ⟨-, w1, w2, w3, w4⟩⟩, -⟩ := h
  exact ⟨x0, x3, x5, k0, w1, w2, w3, w4⟩
theorem pt_cA (h : pc_R σ S) (v d w : Int32) : cl_X0_areSo 19 σ v d w = some (pq_in v 0 (nI (pn_P (pa_net S)) - 1) && pq_in d 0 (nI 30) && pq_in w 0 (nI (pn_P (pa_net S)) - 1)) := by
  unfold cl_X0_areSo
  rw [pb_gdD _ h.1.2.1.1, pq_cP h, pq_cP h, pq_cD]
  cases pq_in v 0 (nI (pn_P (pa_net S)) - 1) <;> cases pq_in d 0 (nI 30) <;> cases pq_in w 0 (nI (pn_P (pa_net S)) - 1) <;> rfl
theorem pt_mF (hm : pm_R μ S) (v d : Int32) : mo_isFrom μ v d = some (pq_in v 0 (nI (pn_P (pa_net S)) - 1) && pq_in d 0 (nI 30)) := by
  unfold mo_isFrom
  rw [pq_mP hm, pq_m]
  show dx_ib (pq_in v 0 (nI (pn_P (pa_net S)) - 1)) (dx_ib (pq_in d 0 (nI 30)) _ _) _ = _
  cases pq_in v 0 (nI (pn_P (pa_net S)) - 1) <;> cases pq_in d 0 (nI 30) <;> rfl
theorem pt_days (h : pc_R σ S) (hm : pm_R μ S) (v d w : Int32) : pq_res (cl_X0_days 19 σ v d w) (mo_days μ v d w) S := by
  obtain ⟨x0, x3, x5, k0, w1, w2, w3, w4⟩ := pt_cx h
  have hN := h.2.2.1.2
  have hP9 := hN.1
  unfold cl_X0_days mo_days
  rw [pb_gdD _ x0, pt_cA h, pt_mF hm, pq_mP hm, x5, x3, pb_gdD _ (by decide), pb_gdD _ (by decide), pb_gdD _ w1]
  show pq_res (dx_ib _ _ _) (dx_ib _ (dx_ib _ _ _) _) S
  cases hv : pq_in v 0 (nI (pn_P (pa_net S)) - 1) with
  | false => exact ⟨_, _, _, rfl, rfl, h, hm⟩
  | true =>
    cases hd : pq_in d 0 (nI 30) with
    | false => exact ⟨_, _, _, rfl, rfl, h, hm⟩
    | true =>
      cases hw : pq_in w 0 (nI (pn_P (pa_net S)) - 1) with
      | false => exact ⟨_, _, _, rfl, rfl, h, hm⟩
      | true =>
        obtain ⟨s, hs, rfl⟩ := (pq_lt (by omega)).mp hv
        obtain ⟨e, he, rfl⟩ := (pq_le (by omega)).mp hd
        obtain ⟨p, hp, rfl⟩ := (pq_lt (by omega)).mp hw
        obtain ⟨σ', g1, g2, g3⟩ := pt_go h hs (by omega : e < 31) 0
        obtain ⟨μ', g4, g5, g6⟩ := pt_mw hm hN hs (by omega : e < 31) 0
        obtain ⟨-, -, -, -, y1, y2, y3, y4⟩ := pt_cx g2
        simp only [Bool.and_self, pb_ibT]
        rw [dx_b2_eq _ g1, dx_b1_eq _ g4, pb_gdD _ (by decide), pb_gdD _ y1, y2, pb_gdD _ (by decide), pb_gdD _ y3, y4, pn_gdi _ (by omega) (by omega), pn_gdi _ (by omega) (by omega), nI_clamp (by omega), g3 p (by omega), (g6 p (by omega)).1]
        exact ⟨_, _, _, rfl, rfl, g2, g5⟩
/-- of a set of days, one by a day -/
theorem pt_il {v : Int32} (h : pn_okI v) : (v = -1 ∧ v < 0) ∨ ∃ t, t ≤ 30 ∧ v = nI t ∧ ¬ v < 0 := by
  rcases h with rfl | ⟨t, ht, rfl⟩
  · exact Or.inl ⟨rfl, by decide⟩
  · exact Or.inr ⟨t, ht, rfl, nI_pos (by omega)⟩
def pt_one (N : pn_N) (D : Nat → Int32) (p : Nat) : Bool := decide (pn_il N p < 0) || (List.range ((pn_il N p).toInt.toNat + 1)).any (fun e => pb_bt (D p) e)
def pt_acc (N : pn_N) (D : Nat → Int32) : Bool := (List.range (pn_P N)).all (fun p => pt_one N D p)
theorem pt_cacc (h : pc_R σ S) : cl_X0_isAccounted 19 σ = some (pt_acc (pa_net S) (cl_i σ 45)) := by
  obtain ⟨x0, x3, x5, k0, w1, w2, w3, w4⟩ := pt_cx h
  have hN := h.2.2.1.2
  have hP9 := hN.1
  obtain ⟨-, -, ⟨⟨⟨-, -, -, ⟨k2, l2, r2⟩, -⟩, ⟨v0, -⟩, hP, -⟩, -⟩, -⟩ := h
  replace r2 : cl_r σ 30 5 = 32 := r2
  replace k2 : cl_k σ 32 = 20 := k2
  replace l2 : cl_l σ 32 = 9 := l2
  have step : ∀ i, i < pn_P (pa_net S) → cl_X0_isAccounted_L2 19 σ (nI i) = some (if pt_one (pa_net S) (cl_i σ 45) i = true then .inl (nI (i + 1)) else .inr false) := by
    intro i hi
    obtain ⟨-, hil, -⟩ := hP i hi
    replace hil : cl_i σ 32 i = _ := hil
    have e9 : nI i + (1 : Int32) = nI (i + 1) := (nI_succ i).symm
    have hle : ¬ nI (pn_P (pa_net S)) ≤ nI i := fun h => absurd ((pb_le (by omega) (by omega)).mp h) (by omega)
    have i1 : dx_inb (nI i) 9 = true := by rw [pb_inb (by omega), decide_eq_true (by omega)]
    have cc : (nI i).toNatClampNeg = i := nI_clamp (by omega)
    have z : decide (¬ (30 : Nat) = 0) = true ∧ decide (¬ (32 : Nat) = 0) = true ∧ decide (¬ (44 : Nat) = 0) = true ∧ decide (¬ (45 : Nat) = 0) = true := by decide
    unfold cl_X0_isAccounted_L2
    simp only [x0, x3, x5, k0, w1, w2, w3, w4, v0, hle, r2, k2, l2, i1, cc, hil, z.1, z.2.1, z.2.2.1, z.2.2.2, decide_true, pb_gdT, if_false, e9]
    unfold pt_one
    rcases pt_il (hN.2.2.2.1 i hi).2.2 with ⟨e1, e2⟩ | ⟨t, ht, e1, e2⟩
    · rw [if_pos e2, decide_eq_true e2]
      rfl
    · rw [if_neg e2, decide_eq_false e2, e1, nI_toInt (by omega)]
      obtain ⟨r, hr, hb⟩ := pc_dF (f := 0) (t := nI t) (by decide) (by rw [nI_toInt (by omega)]; omega)
      rw [dx_b1_eq _ hr]
      rw [nI_toInt (by omega)] at hb
      show (if (cl_i σ 45 i &&& r) = 0 then _ else _) = _
      simp only [Bool.false_or, Int.toNat_natCast]
      by_cases hz : (cl_i σ 45 i &&& r) = 0
      · rw [if_pos hz]
        rw [pb_and0] at hz
        have ha : (List.range (t + 1)).any (fun e => pb_bt (cl_i σ 45 i) e) = false := by
          rw [List.any_eq_false]
          intro e he hbt
          have he' : e < t + 1 := List.mem_range.mp he
          refine hz e (by omega) ⟨hbt, (hb e).mpr ?_⟩
          rw [Int32.toInt_zero]
          omega
        rw [ha]
        rfl
      · rw [if_neg hz]
        have ha : (List.range (t + 1)).any (fun e => pb_bt (cl_i σ 45 i) e) = true := by
          have hz2 : ∃ k, k < 32 ∧ pb_bt (cl_i σ 45 i) k = true ∧ pb_bt r k = true :=
            Classical.byContradiction fun hn => hz ((pb_and0 _ _).mpr fun k hk hb => hn ⟨k, hk, hb⟩)
          obtain ⟨k, hk, b3, b4⟩ := hz2
          have b5 := (hb k).mp b4
          rw [List.any_eq_true]
          exact ⟨k, List.mem_range.mpr (by omega), b3⟩
        rw [ha]
        rfl
  have fin : cl_X0_isAccounted_L2 19 σ (nI (pn_P (pa_net S))) = some (.inr true) := by
    unfold cl_X0_isAccounted_L2
    rw [pb_gdD _ x0, x3, pb_gdD _ (by decide), pb_gdD _ k0, v0, if_pos ((pb_le (by omega) (by omega)).mpr (Nat.le_refl _))]
    rfl
  have key : ∀ m i, m + i = pn_P (pa_net S) → (List.range i).all (fun p => pt_one (pa_net S) (cl_i σ 45) p) = true → ∀ M, m < M → dx_lp (fun x => cl_X0_isAccounted_L2 19 σ x) M (nI i) = some (pt_acc (pa_net S) (cl_i σ 45)) := by
    intro m
    induction m with
    | zero =>
      intro i hi hall M hM
      obtain ⟨M, rfl⟩ : ∃ M', M = M' + 1 := ⟨M - 1, by omega⟩
      have e : i = pn_P (pa_net S) := by omega
      subst e
      unfold dx_lp
      rw [fin]
      show some true = _
      unfold pt_acc
      rw [hall]
    | succ m ih =>
      intro i hi hall M hM
      obtain ⟨M, rfl⟩ : ∃ M', M = M' + 1 := ⟨M - 1, by omega⟩
      unfold dx_lp
      rw [step i (by omega)]
      by_cases h1 : pt_one (pa_net S) (cl_i σ 45) i = true
      · rw [if_pos h1]
        refine ih (i + 1) (by omega) ?_ M (by omega)
        rw [List.range_succ, List.all_append, hall]
        simp [h1]
      · rw [if_neg h1]
        show some false = _
        congr 1
        symm
        unfold pt_acc
        rw [Bool.eq_false_iff]
        intro hall2
        exact h1 (List.all_eq_true.mp hall2 i (List.mem_range.mpr (by omega)))
  have := key (pn_P (pa_net S)) 0 (by omega) rfl dx_fu (by unfold dx_fu; omega)
  rw [nI_0] at this
  exact this
theorem pt_macc (hm : pm_R μ S) (hN : pn_ok (pa_net S)) : dx_lp (fun x : Bool × Int32 => mo_isSource_L16 μ x.1 x.2) dx_fu (true, (0 : Int32)) = some (pt_acc (pa_net S) (μ.2 11), μ) := by
  have hP9 := hN.1
  obtain ⟨⟨m0, -, -, -, m4, -⟩, -⟩ := hm
  have e0 : (0 : Int32).toNatClampNeg = 0 := by decide
  let g : Nat → Bool → Bool := fun p a => a && pt_one (pa_net S) (μ.2 11) p
  have hf : ∀ i, pb_fold g true i = (List.range i).all (fun p => pt_one (pa_net S) (μ.2 11) p) := by
    intro i
    induction i with
    | zero => rfl
    | succ i ih =>
      show (pb_fold g true i && pt_one (pa_net S) (μ.2 11) i) = _
      rw [ih, List.range_succ, List.all_append]
      simp
  have key := pb_lpf (b := fun x : Bool × Int32 => mo_isSource_L16 μ x.1 x.2) g true (pn_P (pa_net S)) (pt_acc (pa_net S) (μ.2 11), μ) (fun i hi => ?_) ?_ (by omega)
  · exact key
  · show mo_isSource_L16 μ (pb_fold g true i) (nI i) = some (.inl (pb_fold g true i && pt_one (pa_net S) (μ.2 11) i, nI (i + 1)))
    have e9 : nI i + (1 : Int32) = nI (i + 1) := (nI_succ i).symm
    have hle : ¬ nI (pn_P (pa_net S)) ≤ nI i := fun h => absurd ((pb_le (by omega) (by omega)).mp h) (by omega)
    have cm : (nI (5 + 2 * i)).toNatClampNeg = 5 + 2 * i := nI_clamp (by omega)
    unfold mo_isSource_L16
    rw [e0, m0, if_neg hle, pn_i4, pn_i5, pn_gdi _ (by omega) (by omega), cm, (m4 i hi).2]
    generalize hv3 : pb_fold g true i = v3
    rcases pt_il (hN.2.2.2.1 i hi).2.2 with ⟨e1, e2⟩ | ⟨t, ht, e1, e2⟩
    · rw [if_neg (by rw [e1]; decide)]
      have h1 : pt_one (pa_net S) (μ.2 11) i = true := by unfold pt_one; rw [decide_eq_true e2]; rfl
      rw [h1, e1]
      refine pb_lpf (b := fun x : Bool × Int32 => mo_isSource_L57 μ v3 (nI i) (-1) x.1 x.2) (fun _ a => a) true 0 _ (fun j hj => by omega) ?_ (by omega)
      show mo_isSource_L57 μ v3 (nI i) (-1) true (nI 0) = _
      unfold mo_isSource_L57
      rw [if_pos (by decide), e9]
      cases v3 <;> rfl
    · rw [if_pos (by rw [e1]; exact nI_pos' (by omega)), e1]
      have h1 : pt_one (pa_net S) (μ.2 11) i = (List.range (t + 1)).any (fun e => pb_bt (μ.2 11 i) e) := by
        unfold pt_one
        rw [decide_eq_false e2, e1, nI_toInt (by omega)]
        simp
      rw [h1]
      let q : Nat → Bool → Bool := fun d a => a || pb_bt (μ.2 11 i) d
      have hq : ∀ j, pb_fold q false j = (List.range j).any (fun e => pb_bt (μ.2 11 i) e) := by
        intro j
        induction j with
        | zero => rfl
        | succ j ih =>
          show (pb_fold q false j || pb_bt (μ.2 11 i) j) = _
          rw [ih, List.range_succ, List.any_append]
          simp
      refine pb_lpf (b := fun x : Bool × Int32 => mo_isSource_L57 μ v3 (nI i) (nI t) x.1 x.2) q false (t + 1) _ (fun j hj => ?_) ?_ (by omega)
      · show mo_isSource_L57 μ v3 (nI i) (nI t) (pb_fold q false j) (nI j) = some (.inl (pb_fold q false j || pb_bt (μ.2 11 i) j, nI (j + 1)))
        have e8 : nI j + (1 : Int32) = nI (j + 1) := (nI_succ j).symm
        have hlt : ¬ nI t < nI j := fun h => absurd ((pb_lt (by omega) (by omega)).mp h) (by omega)
        unfold mo_isSource_L57
        rw [if_neg hlt, pn_gdi _ (by omega) (by omega), nI_clamp (by omega), pn_m_has (by omega), e8]
        cases pb_fold q false j <;> cases pb_bt (μ.2 11 i) j <;> rfl
      · show mo_isSource_L57 μ v3 (nI i) (nI t) (pb_fold q false (t + 1)) (nI (t + 1)) = _
        unfold mo_isSource_L57
        rw [if_pos ((pb_lt (by omega) (by omega)).mpr (by omega)), hq, e9]
        cases v3 <;> cases (List.range (t + 1)).any (fun e => pb_bt (μ.2 11 i) e) <;> rfl
  · show mo_isSource_L16 μ (pb_fold g true (pn_P (pa_net S))) (nI (pn_P (pa_net S))) = _
    unfold mo_isSource_L16
    rw [e0, m0, if_pos ((pb_le (by omega) (by omega)).mpr (Nat.le_refl _)), hf]
    rfl
theorem pt_acc_c {N : pn_N} (hN : pn_ok N) {D E : Nat → Int32} (h : ∀ p, p < 9 → D p = E p) : pt_acc N D = pt_acc N E := by
  unfold pt_acc
  rw [Bool.eq_iff_iff, List.all_eq_true, List.all_eq_true]
  have e : ∀ p, p ∈ List.range (pn_P N) → pt_one N D p = pt_one N E p := by
    intro p hp
    have := List.mem_range.mp hp
    have h9 := hN.1
    unfold pt_one
    rw [h p (by omega)]
  constructor
  · intro h1 p hp
    rw [← e p hp]
    exact h1 p hp
  · intro h1 p hp
    rw [e p hp]
    exact h1 p hp
def pt_ag (N : pn_N) (s : Nat) : Nat → Int32 → Int32 := fun d a => if pt_acc N (pn_wk N s d 0) = true then a ||| ((1 : Int32) <<< (nI d &&& 31)) else a ||| 0
def pt_ac (N : pn_N) (s : Nat) : Int32 := pb_fold (pt_ag N s) 0 31
theorem pt_cAO (h : pc_R σ S) {s : Nat} (hs : s < pn_P (pa_net S)) : ∃ σ', cl_X0_accountsOf 19 σ (nI s) = some (pt_ac (pa_net S) s, σ') ∧ pc_R σ' S := by
  have hN := h.2.2.1.2
  unfold cl_X0_accountsOf
  have key1 := pb_cnt (b := fun x : Int32 × Int32 × cl_S => cl_X0_accountsOf_L4 19 x.2.2 (nI s) x.1 x.2.1) (fun σ => pc_R σ S) (pt_ag (pa_net S) s) 0 31 (fun z => z.1 = pt_ac (pa_net S) s ∧ pc_R z.2 S) (fun i hi σ hσ => ?_) (fun σ hσ => ?_) (by omega) σ h
  · obtain ⟨z, h1, h2, h3⟩ := key1
    exact ⟨z.2, by rw [h1, ← h2], h3⟩
  · obtain ⟨x0, x3, x5, k0, w1, w2, w3, w4⟩ := pt_cx hσ
    obtain ⟨σ', g1, g2, g3⟩ := pt_go hσ hs hi 0
    have h31 : ¬ (31 : Int32) ≤ nI i := fun h => absurd ((pb_le (a := 31) (by omega) (by omega)).mp h) (by omega)
    have e9 : nI i + (1 : Int32) = nI (i + 1) := (nI_succ i).symm
    refine ⟨σ', g2, ?_⟩
    show cl_X0_accountsOf_L4 19 σ (nI s) (pb_fold (pt_ag (pa_net S) s) 0 i) (nI i) = _
    unfold cl_X0_accountsOf_L4
    rw [if_neg h31, pb_gdD _ x0, x5, x3, pb_gdD _ (by decide), pb_gdD _ (by decide), pb_gdD _ w1, dx_b2_eq _ g1, pb_gdD _ (by decide), pb_gdD _ (pt_cx g2).1, dx_b1_eq _ (pt_cacc g2), pt_acc_c hN g3, e9]
    unfold pt_ag
    cases pt_acc (pa_net S) (pn_wk (pa_net S) s i 0) <;> rfl
  · exact ⟨_, rfl, rfl, hσ⟩
theorem pt_mAO (hm : pm_R μ S) (hN : pn_ok (pa_net S)) {s : Nat} (hs : s < pn_P (pa_net S)) : ∃ μ', mo_daysAs μ (nI s) = some (pt_ac (pa_net S) s, μ') ∧ pm_R μ' S := by
  unfold mo_daysAs
  have key2 := pb_cnt (b := fun x : Int32 × Int32 × mo_S => mo_daysAs_L4 x.2.2 (nI s) x.1 x.2.1) (fun μ => pm_R μ S) (pt_ag (pa_net S) s) 0 31 (fun z => z.1 = pt_ac (pa_net S) s ∧ pm_R z.2 S) (fun i hi μ hμ => ?_) (fun μ hμ => ?_) (by omega) μ hm
  · obtain ⟨z, h1, h2, h3⟩ := key2
    exact ⟨z.2, by rw [h1, ← h2], h3⟩
  · obtain ⟨μ', g1, g2, g3⟩ := pt_mw hμ hN hs hi 0
    have h31 : ¬ (31 : Int32) ≤ nI i := fun h => absurd ((pb_le (a := 31) (by omega) (by omega)).mp h) (by omega)
    have e9 : nI i + (1 : Int32) = nI (i + 1) := (nI_succ i).symm
    refine ⟨μ', g2, ?_⟩
    show mo_daysAs_L4 μ (nI s) (pb_fold (pt_ag (pa_net S) s) 0 i) (nI i) = _
    unfold mo_daysAs_L4 mo_isSource
    rw [if_neg h31, dx_b1_eq _ g1, dx_b2_eq _ (pt_macc g2 hN), pt_acc_c hN (fun p hp => (g3 p hp).1), e9]
    unfold pt_ag
    cases pt_acc (pa_net S) (pn_wk (pa_net S) s i 0) <;> rfl
  · exact ⟨_, rfl, rfl, hμ⟩
theorem pt_accounts (h : pc_R σ S) (hm : pm_R μ S) (v : Int32) : pq_res (cl_X0_accounts 19 σ v) (mo_accounts μ v) S := by
  have hN := h.2.2.1.2
  have hP9 := hN.1
  unfold cl_X0_accounts mo_accounts
  rw [pb_gdD _ h.1.2.1.1, pq_cP h, pq_mP hm]
  simp only [pb_b1]
  cases hv : pq_in v 0 (nI (pn_P (pa_net S)) - 1) with
  | false => exact ⟨_, _, _, rfl, rfl, h, hm⟩
  | true =>
    obtain ⟨s, hs, rfl⟩ := (pq_lt (by omega)).mp hv
    obtain ⟨σ', a1, a2⟩ := pt_cAO h hs
    obtain ⟨μ', b1, b2⟩ := pt_mAO hm hN hs
    simp only [pb_ibT, a1, b1, pb_b2]
    exact ⟨_, _, _, rfl, rfl, a2, b2⟩
def pt_sg (N : pn_N) : Nat → Int32 → Int32 := fun p a => if pt_ac N p = 0 then a ||| 0 else a ||| ((1 : Int32) <<< (nI p &&& 31))
theorem pt_cT (h : pc_R σ S) : cl_X0_isThere 19 σ = some (decide (0 < pn_P (pa_net S))) := by
  obtain ⟨x0, x3, x5, k0, w1, w2, w3, w4⟩ := pt_cx h
  have hP9 := h.2.2.1.2.1
  unfold cl_X0_isThere
  rw [pb_gdD _ x0, x3, pb_gdD _ (by decide), pb_gdD _ k0, h.2.2.1.1.2.1.1]
  by_cases h0 : 0 < pn_P (pa_net S)
  · have hn : ¬ nI (pn_P (pa_net S)) ≤ 0 := fun h => absurd ((pb_le (b := 0) (by omega) (by omega)).mp h) (by omega)
    rw [if_neg hn, decide_eq_true h0]
  · have hn : nI (pn_P (pa_net S)) ≤ 0 := (pb_le (b := 0) (by omega) (by omega)).mpr (by omega)
    rw [if_pos hn, decide_eq_false h0]
theorem pt_mT (hm : pm_R μ S) (hN : pn_ok (pa_net S)) : mo_isNet μ = some (decide (0 < pn_P (pa_net S))) := by
  have hP9 := hN.1
  unfold mo_isNet
  rw [show (0 : Int32).toNatClampNeg = 0 by decide, hm.1.1]
  by_cases h0 : 0 < pn_P (pa_net S)
  · have hn : ¬ nI (pn_P (pa_net S)) ≤ 0 := fun h => absurd ((pb_le (b := 0) (by omega) (by omega)).mp h) (by omega)
    rw [if_neg hn, decide_eq_true h0]
  · have hn : nI (pn_P (pa_net S)) ≤ 0 := (pb_le (b := 0) (by omega) (by omega)).mpr (by omega)
    rw [if_pos hn, decide_eq_false h0]
theorem pt_sources (h : pc_R σ S) (hm : pm_R μ S) : pq_res (cl_X0_sources 19 σ) (mo_sources μ) S := by
  have hN := h.2.2.1.2
  have hP9 := hN.1
  have e0 : (0 : Int32).toNatClampNeg = 0 := by decide
  unfold cl_X0_sources mo_sources
  rw [pb_gdD _ h.1.2.1.1, pt_cT h, pt_mT hm hN]
  simp only [pb_b1]
  cases hb : decide (0 < pn_P (pa_net S)) with
  | false => exact ⟨_, _, _, rfl, rfl, h, hm⟩
  | true =>
    simp only [pb_ibT]
    have key3 := pb_cnt (b := fun x : Int32 × Int32 × cl_S => cl_X0_sources_L14 19 x.2.2 x.1 x.2.1) (fun σ => pc_R σ S) (pt_sg (pa_net S)) 0 (pn_P (pa_net S)) (fun z => z.1 = pb_fold (pt_sg (pa_net S)) 0 (pn_P (pa_net S)) ∧ pc_R z.2 S) (fun i hi σ hσ => ?_) (fun σ hσ => ?_) (by omega) σ h
    · obtain ⟨z, h1, h2, h3⟩ := key3
      have key4 := pb_cnt (b := fun x : Int32 × Int32 × mo_S => mo_sources_L14 x.2.2 x.1 x.2.1) (fun μ => pm_R μ S) (pt_sg (pa_net S)) 0 (pn_P (pa_net S)) (fun z => z.1 = pb_fold (pt_sg (pa_net S)) 0 (pn_P (pa_net S)) ∧ pm_R z.2 S) (fun i hi μ hμ => ?_) (fun μ hμ => ?_) (by omega) μ hm
      · obtain ⟨y, j1, j2, j3⟩ := key4
        exact ⟨z.1, z.2, y.2, h1, by rw [j1, h2, ← j2], h3, j3⟩
      · obtain ⟨μ', b1, b2⟩ := pt_mAO hμ hN hi
        have hle : ¬ nI (pn_P (pa_net S)) ≤ nI i := fun h => absurd ((pb_le (by omega) (by omega)).mp h) (by omega)
        refine ⟨μ', b2, ?_⟩
        show mo_sources_L14 μ (pb_fold (pt_sg (pa_net S)) 0 i) (nI i) = _
        unfold mo_sources_L14
        rw [e0, hμ.1.1, if_neg hle, b1, pb_b2, ← nI_succ]
        unfold pt_sg
        split <;> rfl
      · refine ⟨(_, μ), ?_, rfl, hμ⟩
        show mo_sources_L14 μ _ (nI (pn_P (pa_net S))) = _
        unfold mo_sources_L14
        rw [e0, hμ.1.1, if_pos ((pb_le (by omega) (by omega)).mpr (Nat.le_refl _))]
        rfl
    · obtain ⟨x0, x3, x5, k0, w1, w2, w3, w4⟩ := pt_cx hσ
      obtain ⟨σ', b1, b2⟩ := pt_cAO hσ hi
      have hle : ¬ nI (pn_P (pa_net S)) ≤ nI i := fun h => absurd ((pb_le (by omega) (by omega)).mp h) (by omega)
      refine ⟨σ', b2, ?_⟩
      show cl_X0_sources_L14 19 σ (pb_fold (pt_sg (pa_net S)) 0 i) (nI i) = _
      unfold cl_X0_sources_L14
      rw [pb_gdD _ x0, x3, pb_gdD _ (by decide), pb_gdD _ k0, hσ.2.2.1.1.2.1.1, if_neg hle, b1, pb_b2, ← nI_succ]
      unfold pt_sg
      split <;> rfl
    · obtain ⟨x0, x3, x5, k0, w1, w2, w3, w4⟩ := pt_cx hσ
      refine ⟨(_, σ), ?_, rfl, hσ⟩
      show cl_X0_sources_L14 19 σ _ (nI (pn_P (pa_net S))) = _
      unfold cl_X0_sources_L14
      rw [pb_gdD _ x0, x3, pb_gdD _ (by decide), pb_gdD _ k0, hσ.2.2.1.1.2.1.1, if_pos ((pb_le (by omega) (by omega)).mpr (Nat.le_refl _))]
      rfl
/-- persons without whom there is no way -/
def pt_cg (N : pn_N) (s d q : Nat) : Nat → Int32 → Int32 := fun p a => if p = s ∨ p = q then a else if pn_wk N s d (pn_of N p) q = 0 then a ||| ((1 : Int32) <<< (nI p &&& 31)) else a ||| 0
theorem pb_or0 (a : Int32) : a ||| 0 = a := by
  apply pb_ext
  intro k _
  rw [pb_or, pb_bt0, Bool.or_false]
theorem pt_common (h : pc_R σ S) (hm : pm_R μ S) (v d w : Int32) : pq_res (cl_X0_common 19 σ v d w) (mo_common μ v d w) S := by
  obtain ⟨x0, x3, x5, k0, w1, w2, w3, w4⟩ := pt_cx h
  have hN := h.2.2.1.2
  have hP9 := hN.1
  have e0 : (0 : Int32).toNatClampNeg = 0 := by decide
  unfold cl_X0_common mo_common
  rw [pb_gdD _ x0, pt_cA h, pt_mF hm, pq_mP hm, x5, x3, pb_gdD _ (by decide), pb_gdD _ (by decide), pb_gdD _ w1]
  simp only [pb_b1]
  cases hv : pq_in v 0 (nI (pn_P (pa_net S)) - 1) with
  | false => exact ⟨_, _, _, rfl, rfl, h, hm⟩
  | true =>
    cases hd : pq_in d 0 (nI 30) with
    | false => exact ⟨_, _, _, rfl, rfl, h, hm⟩
    | true =>
      cases hw : pq_in w 0 (nI (pn_P (pa_net S)) - 1) with
      | false => exact ⟨_, _, _, rfl, rfl, h, hm⟩
      | true =>
        obtain ⟨s, hs, rfl⟩ := (pq_lt (by omega)).mp hv
        obtain ⟨e, he, rfl⟩ := (pq_le (by omega)).mp hd
        obtain ⟨p, hp, rfl⟩ := (pq_lt (by omega)).mp hw
        obtain ⟨σ', g1, g2, g3⟩ := pt_go h hs (by omega : e < 31) 0
        obtain ⟨μ', g4, g5, g6⟩ := pt_mw hm hN hs (by omega : e < 31) 0
        obtain ⟨-, -, -, -, y1, y2, y3, y4⟩ := pt_cx g2
        simp only [Bool.and_self, pb_ibT]
        rw [dx_b2_eq _ g1, dx_b1_eq _ g4, pb_gdD _ (by decide), pb_gdD _ y1, y2, pb_gdD _ (by decide), pb_gdD _ y3, y4, pn_gdi _ (by omega) (by omega), pn_gdi _ (by omega) (by omega), nI_clamp (by omega), g3 p (by omega), (g6 p (by omega)).1]
        by_cases hz : pn_wk (pa_net S) s e 0 p = 0
        · rw [if_pos hz, if_pos hz]
          exact ⟨_, _, _, rfl, rfl, g2, g5⟩
        · rw [if_neg hz, if_neg hz]
          have key5 := pb_cnt (b := fun x : Int32 × Int32 × cl_S => cl_X0_common_L43 19 x.2.2 (nI s) (nI e) (nI p) x.1 x.2.1) (fun σ => pc_R σ S) (pt_cg (pa_net S) s e p) 0 (pn_P (pa_net S)) (fun z => z.1 = pb_fold (pt_cg (pa_net S) s e p) 0 (pn_P (pa_net S)) ∧ pc_R z.2 S) (fun i hi σ hσ => ?_) (fun σ hσ => ?_) (by omega) σ' g2
          · obtain ⟨z, h1, h2, h3⟩ := key5
            have key6 := pb_cnt (b := fun x : Int32 × Int32 × mo_S => mo_common_L48 x.2.2 (nI s) (nI e) (nI p) x.1 x.2.1) (fun μ => pm_R μ S) (pt_cg (pa_net S) s e p) 0 (pn_P (pa_net S)) (fun z => z.1 = pb_fold (pt_cg (pa_net S) s e p) 0 (pn_P (pa_net S)) ∧ pm_R z.2 S) (fun i hi μ hμ => ?_) (fun μ hμ => ?_) (by omega) μ' g5
            · obtain ⟨y, j1, j2, j3⟩ := key6
              exact ⟨z.1, z.2, y.2, h1, by rw [j1, h2, ← j2], h3, j3⟩
            · obtain ⟨μ2, b1, b2, b3⟩ := pt_mw hμ hN hs (by omega : e < 31) (pn_of (pa_net S) i)
              have hle : ¬ nI (pn_P (pa_net S)) ≤ nI i := fun h => absurd ((pb_le (by omega) (by omega)).mp h) (by omega)
              refine ⟨μ2, b2, ?_⟩
              show mo_common_L48 μ (nI s) (nI e) (nI p) (pb_fold (pt_cg (pa_net S) s e p) 0 i) (nI i) = _
              unfold mo_common_L48
              rw [e0, hμ.1.1, if_neg hle, pn_m_of (k0 := 5) rfl hμ.1 hN (by omega), pb_b1, b1, pb_b1, ← nI_succ, pn_gdi _ (by omega) (by omega), nI_clamp (by omega), (b3 p (by omega)).1]
              simp only [pb_inj (show i < 2 ^ 31 by omega) (show s < 2 ^ 31 by omega), pb_inj (show i < 2 ^ 31 by omega) (show p < 2 ^ 31 by omega), pb_or0]
              generalize pb_fold (pt_cg (pa_net S) s e p) 0 i = acc
              unfold pt_cg
              by_cases q1 : i = s
              · rw [if_pos q1, if_pos (Or.inl q1)]
              · rw [if_neg q1]
                by_cases q2 : i = p
                · rw [if_pos q2, if_pos (Or.inr q2)]
                · rw [if_neg q2, if_neg (show ¬ (i = s ∨ i = p) by omega)]
                  by_cases q3 : pn_wk (pa_net S) s e (pn_of (pa_net S) i) p = 0
                  · rw [if_pos q3, if_pos q3]
                  · rw [if_neg q3, if_neg q3, pb_or0]
            · refine ⟨(_, μ), ?_, rfl, hμ⟩
              show mo_common_L48 μ _ _ _ _ (nI (pn_P (pa_net S))) = _
              unfold mo_common_L48
              rw [e0, hμ.1.1, if_pos ((pb_le (by omega) (by omega)).mpr (Nat.le_refl _))]
              rfl
          · obtain ⟨x0, x3, x5, k0, w1, w2, w3, w4⟩ := pt_cx hσ
            have hle : ¬ nI (pn_P (pa_net S)) ≤ nI i := fun h => absurd ((pb_le (by omega) (by omega)).mp h) (by omega)
            by_cases q1 : i = s ∨ i = p
            · refine ⟨σ, hσ, ?_⟩
              show cl_X0_common_L43 19 σ (nI s) (nI e) (nI p) (pb_fold (pt_cg (pa_net S) s e p) 0 i) (nI i) = _
              unfold cl_X0_common_L43
              rw [pb_gdD _ x0, x3, pb_gdD _ (by decide), pb_gdD _ k0, hσ.2.2.1.1.2.1.1, if_neg hle, ← nI_succ]
              unfold pt_cg
              rw [if_pos q1]
              by_cases q2 : i = s
              · rw [if_pos (by rw [q2])]
              · rw [if_neg (fun h => q2 ((pb_inj (by omega) (by omega)).mp h)), if_pos (by rw [q1.resolve_left q2])]
            · obtain ⟨σ2, b1, b2, b3⟩ := pt_go hσ hs (by omega : e < 31) (pn_of (pa_net S) i)
              obtain ⟨-, -, -, -, y1, y2, y3, y4⟩ := pt_cx b2
              refine ⟨σ2, b2, ?_⟩
              show cl_X0_common_L43 19 σ (nI s) (nI e) (nI p) (pb_fold (pt_cg (pa_net S) s e p) 0 i) (nI i) = _
              unfold cl_X0_common_L43
              rw [pb_gdD _ x0, x3, pb_gdD _ (by decide), pb_gdD _ k0, hσ.2.2.1.1.2.1.1, if_neg hle, ← nI_succ]
              rw [if_neg (fun h => q1 (Or.inl ((pb_inj (by omega) (by omega)).mp h))), if_neg (fun h => q1 (Or.inr ((pb_inj (by omega) (by omega)).mp h)))]
              rw [x5, pb_gdD _ (by decide), pb_gdD _ (by decide), pb_gdD _ (by decide), pn_c_of hσ.2.2.1.1 hN (by omega), pb_b1, pb_gdD _ w1, b1, pb_b2, pb_gdD _ (by decide), pb_gdD _ y1, y2, pb_gdD _ (by decide), pb_gdD _ y3, y4, pn_gdi _ (by omega) (by omega), nI_clamp (by omega), b3 p (by omega)]
              unfold pt_cg
              rw [if_neg q1]
              split <;> rfl
          · obtain ⟨x0, x3, x5, k0, w1, w2, w3, w4⟩ := pt_cx hσ
            refine ⟨(_, σ), ?_, rfl, hσ⟩
            show cl_X0_common_L43 19 σ _ _ _ _ (nI (pn_P (pa_net S))) = _
            unfold cl_X0_common_L43
            rw [pb_gdD _ x0, x3, pb_gdD _ (by decide), pb_gdD _ k0, hσ.2.2.1.1.2.1.1, if_pos ((pb_le (by omega) (by omega)).mpr (Nat.le_refl _))]
            rfl
end PT
