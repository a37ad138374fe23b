/-! chains: the class's queue in the heap of ids -/
def cc_W (θ : cl_S) (t d M : Nat) (p2 p3 : Int32) : cl_S := cl_wi (cl_wi (cl_wi (cl_wi (cl_wi (cl_wi θ 51 t (cl_i θ 51 t ||| ((1 : Int32) <<< (nI d &&& 31)))) 47 M (nI t)) 48 M (nI d)) 49 M p2) 50 M p3) 46 5 (nI (M + 1))
def cc_H (θ : cl_S) (Qp Qe Qf Qb : Nat → Nat) (M : Nat) : Prop := cl_i θ 46 5 = nI M ∧ (∀ j, j < M → cl_i θ 47 j = nI (Qp j) ∧ cl_i θ 48 j = nI (Qe j)) ∧ cl_i θ 50 0 = -1000000 ∧ (∀ j, 0 < j → j < M → cl_i θ 49 j = nI (Qb j) ∧ cl_i θ 50 j = nI (Qf j)) ∧ (∀ q e, q < 9 → e < 32 → (pb_bt (cl_i θ 51 q) e = true ↔ ∃ j, j < M ∧ Qp j = q ∧ Qe j = e))
def cc_Z (y : Nat) : Prop := 46 ≤ y ∧ y ≤ 52
/-- nothing has changed but the chains' own -/
def cc_F (σ θ : cl_S) : Prop := pc_fr σ θ cc_Z pc_0 ∧ cl_n θ = cl_n σ
theorem cc_F_wi {σ θ : cl_S} (h : cc_F σ θ) {o : Nat} (ho : cc_Z o) (k : Nat) (v : Int32) : cc_F σ (cl_wi θ o k v) := ⟨pc_fr_tr h.1 (pc_fr_si θ o _ ho), h.2⟩
theorem cc_F_W {σ θ : cl_S} (h : cc_F σ θ) (t d M : Nat) (p2 p3 : Int32) : cc_F σ (cc_W θ t d M p2 p3) := by
  unfold cc_W
  refine cc_F_wi (cc_F_wi (cc_F_wi (cc_F_wi (cc_F_wi (cc_F_wi h ?_ _ _) ?_ _ _) ?_ _ _) ?_ _ _) ?_ _ _) ?_ _ _ <;> (unfold cc_Z; omega)
section CC
variable {σ θ : cl_S} {S : pa_S} {N : pn_N}
theorem cc_R (h : pc_R σ S) (hF : cc_F σ θ) : pc_R θ S :=
  pc_R_sc hF.1 (fun y _ hy => by unfold cc_Z at hy; omega) (fun _ _ h => h.elim) h
theorem cc_comes (hp : pf_c θ) {t d M : Nat} (ht : t < 9) (hd : d ≤ 30) (hM : M < 280) (h5 : cl_i θ 46 5 = nI M) (p2 p3 : Int32) : cl_X4_comes 46 θ (nI t) (nI d) p2 p3 = some (if pb_bt (cl_i θ 51 t) d = true then θ else cc_W θ t d M p2 p3) := by
  obtain ⟨k0, ⟨r0, r1, r2, r3, r4, r6⟩, ⟨q0, q1, q2, q3, q4, q6⟩, ⟨l0, l1, l2, l3, l4, l6⟩⟩ := hp
  have i9 : dx_inb (nI t) 9 = true := by rw [pb_inb (by omega), decide_eq_true (by omega)]
  have iM : dx_inb (nI M) 280 = true := by rw [pb_inb (by omega), decide_eq_true (by omega)]
  have ct : (nI t).toNatClampNeg = t := nI_clamp (by omega)
  have cM : (nI M).toNatClampNeg = M := nI_clamp (by omega)
  have hs : nI M + (1 : Int32) = nI (M + 1) := (nI_succ M).symm
  unfold cl_X4_comes
  rw [pb_gdD _ k0, r4, pb_gdD _ (by decide), pb_gdD _ q4, l4, i9, pb_gdT, ct, pn_c_has (by omega), pb_b1]
  by_cases hb : pb_bt (cl_i θ 51 t) d = true
  · rw [if_pos hb, hb]
    rfl
  · have hbf : pb_bt (cl_i θ 51 t) d = false := by simpa using hb
    rw [if_neg hb, hbf, pb_ibF, pb_gdD _ (by decide), pb_gdT, pb_gdT, pb_let]
    obtain ⟨θ1, e1⟩ : ∃ θ1, θ1 = cl_wi θ 51 t (cl_i θ 51 t ||| ((1 : Int32) <<< (nI d &&& 31))) := ⟨_, rfl⟩
    rw [← e1]
    have a1 : cl_r θ1 46 = cl_r θ 46 ∧ cl_k θ1 = cl_k θ ∧ cl_l θ1 = cl_l θ ∧ cl_i θ1 46 = cl_i θ 46 := by rw [e1]; exact ⟨rfl, rfl, rfl, rfl⟩
    rw [a1.1, r0, pb_gdD _ (by decide), a1.2.1, pb_gdD _ q0, a1.2.2.2, h5, a1.2.2.1, l0, iM, pb_gdT, pb_let, cM]
    obtain ⟨θ2, e2⟩ : ∃ θ2, θ2 = cl_wi θ1 47 M (nI t) := ⟨_, rfl⟩
    rw [← e2]
    have a2 : cl_r θ2 46 = cl_r θ 46 ∧ cl_k θ2 = cl_k θ ∧ cl_l θ2 = cl_l θ ∧ cl_i θ2 46 = cl_i θ 46 := by rw [e2, e1]; exact ⟨rfl, rfl, rfl, rfl⟩
    rw [a2.1, r1, pb_gdD _ (by decide), a2.2.1, pb_gdD _ q1, a2.2.2.2, h5, a2.2.2.1, l1, iM, pb_gdT, pb_let, cM]
    obtain ⟨θ3, e3⟩ : ∃ θ3, θ3 = cl_wi θ2 48 M (nI d) := ⟨_, rfl⟩
    rw [← e3]
    have a3 : cl_r θ3 46 = cl_r θ 46 ∧ cl_k θ3 = cl_k θ ∧ cl_l θ3 = cl_l θ ∧ cl_i θ3 46 = cl_i θ 46 := by rw [e3, e2, e1]; exact ⟨rfl, rfl, rfl, rfl⟩
    rw [a3.1, r2, pb_gdD _ (by decide), a3.2.1, pb_gdD _ q2, a3.2.2.2, h5, a3.2.2.1, l2, iM, pb_gdT, pb_let, cM]
    obtain ⟨θ4, e4⟩ : ∃ θ4, θ4 = cl_wi θ3 49 M p2 := ⟨_, rfl⟩
    rw [← e4]
    have a4 : cl_r θ4 46 = cl_r θ 46 ∧ cl_k θ4 = cl_k θ ∧ cl_l θ4 = cl_l θ ∧ cl_i θ4 46 = cl_i θ 46 := by rw [e4, e3, e2, e1]; exact ⟨rfl, rfl, rfl, rfl⟩
    rw [a4.1, r3, pb_gdD _ (by decide), a4.2.1, pb_gdD _ q3, a4.2.2.2, h5, a4.2.2.1, l3, iM, pb_gdT, pb_let, cM]
    obtain ⟨θ5, e5⟩ : ∃ θ5, θ5 = cl_wi θ4 50 M p3 := ⟨_, rfl⟩
    rw [← e5]
    have a5 : cl_i θ5 46 = cl_i θ 46 := by rw [e5, e4, e3, e2, e1]; rfl
    rw [pb_let, a5, h5, hs]
    unfold cc_W
    rw [e5, e4, e3, e2, e1]
theorem cc_W_i (t d M : Nat) (p2 p3 : Int32) : cl_i (cc_W θ t d M p2 p3) 46 = upd (cl_i θ 46) 5 (nI (M + 1)) ∧ cl_i (cc_W θ t d M p2 p3) 47 = upd (cl_i θ 47) M (nI t) ∧ cl_i (cc_W θ t d M p2 p3) 48 = upd (cl_i θ 48) M (nI d) ∧ cl_i (cc_W θ t d M p2 p3) 49 = upd (cl_i θ 49) M p2 ∧ cl_i (cc_W θ t d M p2 p3) 50 = upd (cl_i θ 50) M p3 ∧ cl_i (cc_W θ t d M p2 p3) 51 = upd (cl_i θ 51) t (cl_i θ 51 t ||| ((1 : Int32) <<< (nI d &&& 31))) :=
  ⟨rfl, rfl, rfl, rfl, rfl, rfl⟩
/-- one more stands in the queue -/
theorem cc_add {Qp Qe Qf Qb : Nat → Nat} {M t d i c : Nat} (h : cc_H θ Qp Qe Qf Qb M) (hM : 0 < M) (hd : d ≤ 30) : cc_H (cc_W θ t d M (nI c) (nI i)) (va_up Qp M t) (va_up Qe M d) (va_up Qf M i) (va_up Qb M c) (M + 1) := by
  obtain ⟨h1, h2, h3, h4, h5⟩ := h
  obtain ⟨w1, w2, w3, w4, w5, w6⟩ := cc_W_i (θ := θ) t d M (nI c) (nI i)
  have up : ∀ (f : Nat → Nat) (x j : Nat), j < M → va_up f M x j = f j := fun f x j hj => va_up_ne _ _ (by omega)
  have us : ∀ (f : Nat → Nat) (x : Nat), va_up f M x M = x := fun f x => va_up_self _ _ _
  unfold cc_H
  rw [w1, w2, w3, w4, w5, w6]
  refine ⟨rfl, fun j hj => ?_, ?_, fun j hj0 hj => ?_, fun q e hq he => ?_⟩
  · by_cases hjM : j = M
    · subst hjM
      rw [us, us]
      unfold upd
      rw [if_pos rfl, if_pos rfl]
      exact ⟨rfl, rfl⟩
    · rw [up Qp t j (by omega), up Qe d j (by omega)]
      unfold upd
      rw [if_neg hjM, if_neg hjM]
      exact h2 j (by omega)
  · unfold upd
    rw [if_neg (by omega)]
    exact h3
  · by_cases hjM : j = M
    · subst hjM
      rw [us, us]
      unfold upd
      rw [if_pos rfl, if_pos rfl]
      exact ⟨rfl, rfl⟩
    · rw [up Qb c j (by omega), up Qf i j (by omega)]
      unfold upd
      rw [if_neg hjM, if_neg hjM]
      exact h4 j hj0 (by omega)
  · have hiff : (∃ j, j < M + 1 ∧ va_up Qp M t j = q ∧ va_up Qe M d j = e) ↔ ((∃ j, j < M ∧ Qp j = q ∧ Qe j = e) ∨ (t = q ∧ d = e)) := by
      constructor
      · rintro ⟨j, hj, e1, e2⟩
        by_cases hjM : j = M
        · subst hjM
          rw [us] at e1 e2
          exact Or.inr ⟨e1, e2⟩
        · rw [up Qp t j (by omega)] at e1
          rw [up Qe d j (by omega)] at e2
          exact Or.inl ⟨j, by omega, e1, e2⟩
      · rintro (⟨j, hj, e1, e2⟩ | ⟨e1, e2⟩)
        · exact ⟨j, by omega, by rw [up Qp t j hj]; exact e1, by rw [up Qe d j hj]; exact e2⟩
        · exact ⟨M, by omega, by rw [us]; exact e1, by rw [us]; exact e2⟩
    rw [hiff, ← h5 q e hq he]
    unfold upd
    by_cases hqt : q = t
    · subst hqt
      rw [if_pos rfl, pb_or, pb_one' (by omega), Bool.or_eq_true, decide_eq_true_iff]
      constructor
      · rintro (a | a)
        · exact Or.inl a
        · exact Or.inr ⟨rfl, a.symm⟩
      · rintro (a | a)
        · exact Or.inl a
        · exact Or.inr a.2.symm
    · rw [if_neg hqt]
      constructor
      · exact fun a => Or.inl a
      · rintro (a | a)
        · exact a
        · exact absurd a.1.symm hqt
/-- one day alone -/
theorem cc_px (hN : pn_ok N) {f e d : Nat} (hf : f < pn_P N) (he : e ≤ 30) : pn_px N (fun _ => (1 : Int32) <<< (nI e &&& 31)) f d = pn_mp N f e d := by
  obtain ⟨-, g2, -⟩ := pn_kdb hN hf
  have h3 : 1 ≤ pn_lw N f := by unfold pn_lw; split <;> omega
  unfold pn_px
  rw [Bool.eq_iff_iff, List.any_eq_true]
  constructor
  · rintro ⟨x, hx, hb⟩
    rw [Bool.and_eq_true, pb_one' (by omega), decide_eq_true_iff] at hb
    rw [← hb.1]
    exact hb.2
  · intro h
    have h' := h
    unfold pn_mp at h'
    rw [decide_eq_true_iff] at h'
    refine ⟨e, List.mem_range.mpr (by omega), ?_⟩
    rw [Bool.and_eq_true, pb_one' (by omega), decide_eq_true_iff]
    exact ⟨rfl, h⟩
/-- what the class asks of a contact, of one that caught it on a day -/
theorem cc_ask (h : pc_N θ 30 N) (hN : pn_ok N) {q e c : Nat} (hq : q < pn_P N) (he : e ≤ 30) (hc : c < pn_C N) : (pn_a N c ≠ q ∧ pn_b N c ≠ q ∧ cl_X2_otherOf 30 θ (nI c) (nI q) = some (-1000000 : Int32) ∧ ca_m N q e (ca_h N q c) = false) ∨ (cl_X2_otherOf 30 θ (nI c) (nI q) = some (nI (ca_w N (ca_h N q c))) ∧ cl_X2_gives 30 θ (nI c) (nI q) ((1 : Int32) <<< (nI e &&& 31)) = some (ca_m N q e (ca_h N q c))) := by
  have hP := hN.1
  obtain ⟨c1, c2, c3, c4⟩ := hN.2.2.2.2 c hc
  have ho := pc_other h hN hc (p := q) (by omega)
  have hb31 : ∀ x, 31 ≤ x → pb_bt ((1 : Int32) <<< (nI e &&& 31)) x = false := by
    intro x hx
    rw [pb_one' (by omega)]
    exact decide_eq_false (by omega)
  have hpx := cc_px hN (f := q) (e := e) (d := pn_d N c) hq he
  by_cases ha : pn_a N c = q
  · right
    have eh : ca_h N q c = 2 * c + 1 := if_pos ha
    have ew : ca_w N (2 * c + 1) = pn_b N c := by unfold ca_w; rw [if_neg (by omega), show (2 * c + 1) / 2 = c by omega]
    have eg : ca_g N (2 * c + 1) = pn_a N c := by unfold ca_g; rw [if_neg (by omega), show (2 * c + 1) / 2 = c by omega]
    have ed : ca_d N (2 * c + 1) = pn_d N c := by unfold ca_d; rw [show (2 * c + 1) / 2 = c by omega]
    have hg := pc_gives h hN hc (f := q) (t := pn_b N c) (Or.inl ⟨ha, rfl⟩) (fun _ => (1 : Int32) <<< (nI e &&& 31)) hb31
    rw [hpx] at hg
    rw [if_pos ha] at ho
    unfold ca_m
    rw [eh, ew, eg, ed]
    refine ⟨ho, ?_⟩
    rw [hg]
    congr 2
    rw [decide_eq_decide]
    exact ⟨fun h => ⟨ha, h⟩, fun h => h.2⟩
  · have eh : ca_h N q c = 2 * c := if_neg ha
    have ew : ca_w N (2 * c) = pn_a N c := by unfold ca_w; rw [if_pos (by omega), show (2 * c) / 2 = c by omega]
    have eg : ca_g N (2 * c) = pn_b N c := by unfold ca_g; rw [if_pos (by omega), show (2 * c) / 2 = c by omega]
    have ed : ca_d N (2 * c) = pn_d N c := by unfold ca_d; rw [show (2 * c) / 2 = c by omega]
    rw [if_neg ha] at ho
    by_cases hb : pn_b N c = q
    · right
      have hg := pc_gives h hN hc (f := q) (t := pn_a N c) (Or.inr ⟨hb, rfl⟩) (fun _ => (1 : Int32) <<< (nI e &&& 31)) hb31
      rw [hpx] at hg
      rw [if_pos hb] at ho
      unfold ca_m
      rw [eh, ew, eg, ed]
      refine ⟨ho, ?_⟩
      rw [hg]
      congr 2
      rw [decide_eq_decide]
      exact ⟨fun h => ⟨hb, h⟩, fun h => h.2⟩
    · left
      rw [if_neg hb] at ho
      refine ⟨ha, hb, ho, ?_⟩
      unfold ca_m
      rw [eh, eg]
      simp [hb]
/-- what holds while entry i is gone through, at contact c -/
def cc_I (σ : cl_S) (N : pn_N) (s D p i c : Nat) (θ : cl_S) : Prop := cc_F σ θ ∧ ∃ Qp Qe Qf Qb M, cq_I N s D Qp Qe Qf Qb M i c ∧ cc_H θ Qp Qe Qf Qb M ∧ i < M ∧ ∀ j, j ≤ i → Qp j ≠ p
theorem cc_goOn (h : pc_R σ S) (hNS : pa_net S = N) {s D p i : Nat} (hI : cc_I σ N s D p i 0 θ) : ∃ θ', cl_X4_goOn 46 30 θ (nI i) = some θ' ∧ cc_I σ N s D p i (pn_C N) θ' := by
  have hN : pn_ok N := by rw [← hNS]; exact h.2.2.1.2
  have hP := hN.1
  have hC := hN.2.1
  unfold cl_X4_goOn
  have key := pb_cnti (b := fun x : Int32 × cl_S => cl_X4_goOn_L2 46 30 x.2 (nI i) x.1) (fun c (x : cl_S) => (nI c, x)) (fun c x => cc_I σ N s D p i c x) (pn_C N) (fun z => cc_I σ N s D p i (pn_C N) z) (fun c hc x hx => ?_) (fun x hx => ?_) dx_fu (by unfold dx_fu; omega) θ hI
  · obtain ⟨z, hz, hzI⟩ := key
    rw [nI_0] at hz
    exact ⟨z, hz, hzI⟩
  · have hx0 := hx
    obtain ⟨hF, Qp, Qe, Qf, Qb, M, hq, hH, hi, hpj⟩ := hx
    have hRx := cc_R h hF
    have hNx : pc_N x 30 N := by have := hRx.2.2.1.1; rw [hNS] at this; exact this
    have hM := cq_M hN hq
    obtain ⟨g1, g2, g3⟩ := hq.2.2.2.2.2 i hi
    obtain ⟨-, -, -, hpc, -⟩ := hRx.1
    have hpc0 := hpc
    obtain ⟨k0, ⟨r0, r1, r2, r3, r4, r6⟩, ⟨q0, q1, q2, q3, q4, q6⟩, ⟨l0, l1, l2, l3, l4, l6⟩⟩ := hpc
    obtain ⟨-, -, n0, -, -, -, -, ⟨n8, nl8, nr8⟩, -⟩ := pe_30 hRx
    obtain ⟨h1, h2, h3, h4, h5⟩ := hH
    obtain ⟨p1, p2⟩ := h2 i hi
    have v1 : cl_i x 30 1 = nI (pn_C N) := hNx.2.1.2.1
    have cd : cl_i x 35 c = nI (pn_d N c) := (hNx.2.2.2.1 c hc).2.2
    have i280 : dx_inb (nI i) 280 = true := by rw [pb_inb (by omega), decide_eq_true (by omega)]
    have i10 : dx_inb (nI c) 10 = true := by rw [pb_inb (by omega), decide_eq_true (by omega)]
    have ci : (nI i).toNatClampNeg = i := nI_clamp (by omega)
    have cc : (nI c).toNatClampNeg = c := nI_clamp (by omega)
    have e9 : nI c + (1 : Int32) = nI (c + 1) := (nI_succ c).symm
    have hle : ¬ nI (pn_C N) ≤ nI c := fun h => absurd ((pb_le (by omega) (by omega)).mp h) (by omega)
    have shape : ∀ {r5 : Int32}, cl_X2_otherOf 30 x (nI c) (nI (Qp i)) = some r5 → cl_X4_goOn_L2 46 30 x (nI i) (nI c) = if r5 = (-1000000 : Int32) then some (.inl (nI (c + 1), x)) else dx_b1 (cl_X2_gives 30 x (nI c) (nI (Qp i)) ((1 : Int32) <<< (nI (Qe i) &&& 31))) fun r9 => dx_ib r9 (dx_b1 (cl_X4_comes 46 x r5 (nI (pn_d N c)) (nI c) (nI i)) fun σ12 => some (.inl (nI (c + 1), σ12))) (some (.inl (nI (c + 1), x))) := by
      intro r5 ho
      unfold cl_X4_goOn_L2
      rw [pb_gdD _ n0, v1, if_neg hle, pb_gdD _ k0, r0, pb_gdD _ (by decide), pb_gdD _ q0, l0, i280, pb_gdT, ci, p1, ho, pb_b1, e9, pb_gdD _ (by decide), pb_gdT, r1, pb_gdD _ (by decide), pb_gdD _ q1, l1, i280, pb_gdT, p2, nr8, pb_gdD _ (by decide), pb_gdD _ n8, nl8, i10, pb_gdT, cc, cd]
    have skip : cq_t N Qp Qe M i c → cc_I σ N s D p i (c + 1) x := fun ht => ⟨hF, Qp, Qe, Qf, Qb, M, cq_skip hq ht, ⟨h1, h2, h3, h4, h5⟩, hi, hpj⟩
    show ∃ s', cc_I σ N s D p i (c + 1) s' ∧ cl_X4_goOn_L2 46 30 x (nI i) (nI c) = some (.inl (nI (c + 1), s'))
    rcases cc_ask hNx hN g1 g2 hc with ⟨-, -, ho, hmf⟩ | ⟨ho, hg⟩
    · refine ⟨x, skip (fun hm => by rw [hmf] at hm; cases hm), ?_⟩
      rw [shape ho, if_pos rfl]
    · have hrg := ca_rg hN (k := ca_h N (Qp i) c) (ca_h_lt hc)
      have hne : ¬ nI (ca_w N (ca_h N (Qp i) c)) = (-1000000 : Int32) := pr_nN (by omega)
      rw [shape ho, if_neg hne, hg, pb_b1]
      cases hmm : ca_m N (Qp i) (Qe i) (ca_h N (Qp i) c) with
      | false => exact ⟨x, skip (fun hm => by rw [hmm] at hm; cases hm), by rw [pb_ibF]⟩
      | true =>
        have hd30 : pn_d N c ≤ 30 := (hN.2.2.2.2 c hc).2.2.2
        have hco := cc_comes hpc0 (t := ca_w N (ca_h N (Qp i) c)) (d := pn_d N c) (by omega) hd30 (M := M) (by omega) h1 (nI c) (nI i)
        rw [pb_ibT, hco, pb_b1]
        by_cases hb : pb_bt (cl_i x 51 (ca_w N (ca_h N (Qp i) c))) (pn_d N c) = true
        · rw [if_pos hb]
          exact ⟨x, skip (fun _ => (h5 _ _ (by omega) (by omega)).mp hb), rfl⟩
        · rw [if_neg hb]
          refine ⟨_, ⟨cc_F_W hF _ _ _ _ _, _, _, _, _, M + 1, cq_add hN hq hi hc hmm (fun j hj hh => hb ((h5 _ _ (by omega) (by omega)).mpr ⟨j, hj, hh⟩)), cc_add ⟨h1, h2, h3, h4, h5⟩ hq.1.1 hd30, by omega, fun j hj => ?_⟩, rfl⟩
          rw [va_up_ne _ _ (by omega)]
          exact hpj j hj
  · have hRx := cc_R h hx.1
    have hNx : pc_N x 30 N := by have := hRx.2.2.1.1; rw [hNS] at this; exact this
    obtain ⟨-, -, n0, -⟩ := pe_30 hRx
    have v1 : cl_i x 30 1 = nI (pn_C N) := hNx.2.1.2.1
    refine ⟨x, ?_, hx⟩
    show cl_X4_goOn_L2 46 30 x (nI i) (nI (pn_C N)) = _
    unfold cl_X4_goOn_L2
    rw [pb_gdD _ n0, v1, if_pos ((pb_le (by omega) (by omega)).mpr (Nat.le_refl _))]
    rfl
end CC
