/-! the state as plain data; how the heap of ids shows it -/
abbrev pa_S : Type := (pn_N × (Nat → pn_N) × Nat) × (Nat → Option pn_N) × (Nat → Option (Nat × Nat × (Nat → Int32))) × ((Nat → Nat) × Nat) × (Int32 × Int32) × (Nat × (Nat → Int32))
def pa_net (S : pa_S) : pn_N := S.1.1
def pa_past (S : pa_S) : Nat → pn_N := S.1.2.1
def pa_acts (S : pa_S) : Nat := S.1.2.2
def pa_img (S : pa_S) : Nat → Option pn_N := S.2.1
def pa_row (S : pa_S) : Nat → Option (Nat × Nat × (Nat → Int32)) := S.2.2.1
def pa_tape (S : pa_S) : Nat → Nat := S.2.2.2.1.1
def pa_tp (S : pa_S) : Nat := S.2.2.2.1.2
def pa_fk (S : pa_S) : Int32 := S.2.2.2.2.1.1
def pa_st (S : pa_S) : Int32 := S.2.2.2.2.1.2
def pa_tn (S : pa_S) : Nat := S.2.2.2.2.2.1
def pa_tr (S : pa_S) : Nat → Int32 := S.2.2.2.2.2.2
/-- where the parts that stay lie -/
def pf_x (σ : cl_S) : Prop := cl_k σ 19 = 0 ∧ cl_r σ 19 0 = 20 ∧ cl_r σ 19 1 = 29 ∧ cl_r σ 19 4 = 30 ∧ cl_r σ 19 5 = 37 ∧ cl_r σ 19 6 = 44 ∧ cl_r σ 19 7 = 46 ∧ cl_r σ 19 8 = 53 ∧ cl_r σ 19 10 = 54
def pf_r (σ : cl_S) : Prop := (cl_k σ 20 = 24 ∧ cl_l σ 20 = 8) ∧ ∀ j, j < 8 → cl_r σ 20 j = 21 + j ∧ cl_k σ (21 + j) = 1
def pf_c (σ : cl_S) : Prop := cl_k σ 46 = 4 ∧ (cl_r σ 46 0 = 47 ∧ cl_r σ 46 1 = 48 ∧ cl_r σ 46 2 = 49 ∧ cl_r σ 46 3 = 50 ∧ cl_r σ 46 4 = 51 ∧ cl_r σ 46 6 = 52) ∧ (cl_k σ 47 = 20 ∧ cl_k σ 48 = 20 ∧ cl_k σ 49 = 20 ∧ cl_k σ 50 = 20 ∧ cl_k σ 51 = 20 ∧ cl_k σ 52 = 20) ∧ (cl_l σ 47 = 280 ∧ cl_l σ 48 = 280 ∧ cl_l σ 49 = 280 ∧ cl_l σ 50 = 280 ∧ cl_l σ 51 = 9 ∧ cl_l σ 52 = 279)
def pf_a (σ : cl_S) : Prop := (cl_k σ 29 = 21 ∧ cl_l σ 29 = 130) ∧ (cl_k σ 53 = 27 ∧ cl_l σ 53 = 16) ∧ (cl_k σ 54 = 27 ∧ cl_l σ 54 = 2)
def pf_k (σ : cl_S) : Prop := ∀ o, 1 ≤ o → o ≤ cl_K → cl_k σ o = cl_c0k o ∧ cl_l σ o = cl_c0l o ∧ cl_i σ o = cl_c0i o ∧ cl_r σ o = cl_c0r o
def pf (σ : cl_S) : Prop := 54 ≤ cl_n σ ∧ pf_x σ ∧ pf_r σ ∧ pf_c σ ∧ pf_a σ ∧ pf_k σ ∧ pc_sh σ 30 ∧ pc_sh σ 37 ∧ pc_wk σ 44
theorem pf_fr {σ σ' : cl_S} {Z Y : Nat → Prop} (h : pc_fr σ σ' Z Y) (hz : ∀ y, Z y → 18 < y) (hy : ∀ y, Y y → 20 < y ∧ y ≠ 30 ∧ y ≠ 37 ∧ y ≠ 44 ∧ y ≠ 46) (hp : pf σ) : pf σ' := by
  obtain ⟨hn, ⟨x0, x1, x2, x3, x4, x5, x6, x7, x8⟩, ⟨⟨r0, r1⟩, r2⟩, ⟨c0, ⟨c1, c2, c3, c4, c5, c6⟩, ⟨d1, d2, d3, d4, d5, d6⟩, ⟨e1, e2, e3, e4, e5, e6⟩⟩, ⟨⟨a1, a2⟩, ⟨a3, a4⟩, ⟨a5, a6⟩⟩, hk, s30, s37, ⟨w0, w1, w2, w3, w4⟩⟩ := hp
  have K : ∀ y, y ≤ 54 → cl_k σ' y = cl_k σ y := fun y hy => (h.2 y (by omega)).1
  have L : ∀ y, y ≤ 54 → cl_l σ' y = cl_l σ y := fun y hy => (h.2 y (by omega)).2.1
  have Rr : ∀ y, y ≤ 54 → ¬ Y y → cl_r σ' y = cl_r σ y := fun y hy hn => (h.2 y (by omega)).2.2.2 hn
  have R19 := Rr 19 (by omega) (fun h => by have := hy _ h; omega)
  have R20 := Rr 20 (by omega) (fun h => by have := hy _ h; omega)
  have R44 := Rr 44 (by omega) (fun h => by have := hy _ h; omega)
  have R46 := Rr 46 (by omega) (fun h => by have := hy _ h; omega)
  have hc := h.1
  refine ⟨by omega, ⟨by rw [K 19 (by omega), x0], by rw [R19, x1], by rw [R19, x2], by rw [R19, x3], by rw [R19, x4], by rw [R19, x5], by rw [R19, x6], by rw [R19, x7], by rw [R19, x8]⟩, ⟨⟨by rw [K 20 (by omega), r0], by rw [L 20 (by omega), r1]⟩, fun j hj => ⟨by rw [R20]; exact (r2 j hj).1, by rw [K _ (by omega)]; exact (r2 j hj).2⟩⟩, ⟨by rw [K 46 (by omega), c0], ⟨by rw [R46, c1], by rw [R46, c2], by rw [R46, c3], by rw [R46, c4], by rw [R46, c5], by rw [R46, c6]⟩, ⟨by rw [K 47 (by omega), d1], by rw [K 48 (by omega), d2], by rw [K 49 (by omega), d3], by rw [K 50 (by omega), d4], by rw [K 51 (by omega), d5], by rw [K 52 (by omega), d6]⟩, ⟨by rw [L 47 (by omega), e1], by rw [L 48 (by omega), e2], by rw [L 49 (by omega), e3], by rw [L 50 (by omega), e4], by rw [L 51 (by omega), e5], by rw [L 52 (by omega), e6]⟩⟩, ⟨⟨by rw [K 29 (by omega), a1], by rw [L 29 (by omega), a2]⟩, ⟨by rw [K 53 (by omega), a3], by rw [L 53 (by omega), a4]⟩, ⟨by rw [K 54 (by omega), a5], by rw [L 54 (by omega), a6]⟩⟩, ?_, pc_sh_fr h (fun h => by have := hy _ h; omega) s30, pc_sh_fr h (fun h => by have := hy _ h; omega) s37, ⟨by omega, by rw [K 44 (by omega), w1], by rw [R44, w2], by rw [K _ (by omega), w3], by rw [L _ (by omega), w4]⟩⟩
  intro o h1 h2
  have h3 : o ≤ 18 := h2
  obtain ⟨g1, g2, g3, g4⟩ := hk o h1 h2
  obtain ⟨f1, f2, f3, f4⟩ := h.2 o (by omega)
  exact ⟨f1.trans g1, f2.trans g2, (f3 (fun h => by have := hz _ h; omega)).trans g3, (f4 (fun h => by have := hy _ h; omega)).trans g4⟩
/-- what lies apart: nets of the past, images, rows, the trail; each from .. to -/
def pd_lo (σ : cl_S) (i : Nat) : Nat := if i < 16 then cl_r σ 53 i else if i < 18 then cl_r σ 54 (i - 16) else if i < 26 then cl_r σ (21 + (i - 18)) 0 else cl_r σ 19 11
def pd_sz (i : Nat) : Nat := if i < 18 then 6 else if i < 26 then 0 else 1
def pd (σ : cl_S) : Prop := (∀ i, i < 27 → pd_lo σ i = 0 ∨ (54 < pd_lo σ i ∧ pd_lo σ i + pd_sz i ≤ cl_n σ)) ∧ (∀ i j, i < 27 → j < 27 → i ≠ j → pd_lo σ i = 0 ∨ pd_lo σ j = 0 ∨ pd_lo σ i + pd_sz i < pd_lo σ j ∨ pd_lo σ j + pd_sz j < pd_lo σ i)
/-- y lies in the i-th of these -/
def pd_in (σ : cl_S) (i y : Nat) : Prop := pd_lo σ i ≤ y ∧ y ≤ pd_lo σ i + pd_sz i
theorem pd_ap {σ : cl_S} (h : pd σ) {i j y : Nat} (hi : i < 27) (hj : j < 27) (hij : i ≠ j) (h0 : pd_lo σ i ≠ 0) (h1 : pd_lo σ j ≠ 0) (hy : pd_in σ i y) : ¬ pd_in σ j y := by
  obtain ⟨a, b⟩ := hy
  rintro ⟨c, d⟩
  rcases h.2 i j hi hj hij with h | h | h | h <;> omega
def pr_past (σ : cl_S) (f : Nat → pn_N) (n : Nat) : Prop := (∀ i, i < 16 → cl_r σ 53 i = 0 ∨ pc_sh σ (cl_r σ 53 i)) ∧ n ≤ 16 ∧ (∀ i, i < n → cl_r σ 53 i ≠ 0 ∧ pc_N σ (cl_r σ 53 i) (f i) ∧ pn_ok (f i))
def pr_img (σ : cl_S) (f : Nat → Option pn_N) : Prop := ∀ i, i < 2 → (f i = none ∧ cl_r σ 54 i = 0) ∨ ∃ N, f i = some N ∧ cl_r σ 54 i ≠ 0 ∧ pc_N σ (cl_r σ 54 i) N ∧ pn_ok N
def pr_lk (lane : Nat) : Nat := if lane = 0 then 21 else if lane = 1 then 22 else 20
def pr_fit (lane : Nat) (v : Int32) : Prop := fits (cx_ty (pr_lk lane)) (.int v) = true
def pr_row (σ : cl_S) (h : Nat) (r : Option (Nat × Nat × (Nat → Int32))) : Prop := (r = none ∧ h = 0) ∨ ∃ lane len f, r = some (lane, len, f) ∧ lane ≤ 2 ∧ len ≤ 40 ∧ h ≠ 0 ∧ cl_k σ h = pr_lk lane ∧ cl_l σ h = len ∧ ∀ i, i < len → cl_i σ h i = f i ∧ pr_fit lane (f i)
def pr_rows (σ : cl_S) (f : Nat → Option (Nat × Nat × (Nat → Int32))) : Prop := ∀ j, j < 8 → pr_row σ (cl_r σ (21 + j) 0) (f j)
def pr_tape (σ : cl_S) (f : Nat → Nat) (n : Nat) : Prop := n ≤ 130 ∧ cl_i σ 19 2 = nI n ∧ ∀ j, j < n → f j < 256 ∧ cl_i σ 29 j &&& 255 = nI (f j)
def pr_tr (σ : cl_S) (n : Nat) (f : Nat → Int32) : Prop := (cl_r σ 19 11 ≠ 0 ∧ cl_k σ (cl_r σ 19 11) = 5 ∧ cl_r σ (cl_r σ 19 11) 0 = cl_r σ 19 11 + 1 ∧ cl_k σ (cl_r σ 19 11 + 1) = 20 ∧ cl_l σ (cl_r σ 19 11 + 1) = 16) ∧ n ≤ 16 ∧ cl_i σ (cl_r σ 19 11) 1 = nI n ∧ ∀ i, i < n → cl_i σ (cl_r σ 19 11 + 1) i = f i
def pr_sc (σ : cl_S) (acts : Nat) (fk st : Int32) : Prop := cl_i σ 19 9 = nI acts ∧ cl_i σ 19 3 = fk ∧ cl_i σ 19 12 = st
/-- **how the heap of ids shows a state** -/
def pc_R (σ : cl_S) (S : pa_S) : Prop := pf σ ∧ pd σ ∧ (pc_N σ 30 (pa_net S) ∧ pn_ok (pa_net S)) ∧ pr_past σ (pa_past S) (pa_acts S) ∧ pr_img σ (pa_img S) ∧ pr_rows σ (pa_row S) ∧ pr_tape σ (pa_tape S) (pa_tp S) ∧ pr_sc σ (pa_acts S) (pa_fk S) (pa_st S) ∧ pr_tr σ (pa_tn S) (pa_tr S)
/-- what of it stays if Z, Y are apart from it -/
theorem pd_fr {σ σ' : cl_S} {Z Y : Nat → Prop} (h : pc_fr σ σ' Z Y) (hn : 54 ≤ cl_n σ) (hy : ∀ y, Y y → y ≠ 19 ∧ y ≠ 53 ∧ y ≠ 54 ∧ ¬ (21 ≤ y ∧ y ≤ 28)) (hd : pd σ) : pd σ' ∧ ∀ i, i < 27 → pd_lo σ' i = pd_lo σ i := by
  have e : ∀ i, i < 27 → pd_lo σ' i = pd_lo σ i := by
    intro i hi
    unfold pd_lo
    have Rr : ∀ y, y ≤ 54 → ¬ Y y → cl_r σ' y = cl_r σ y := fun y hy hn => (h.2 y (by omega)).2.2.2 hn
    rw [Rr 53 (by omega) (fun h => by have := hy _ h; omega), Rr 54 (by omega) (fun h => by have := hy _ h; omega), Rr 19 (by omega) (fun h => by have := hy _ h; omega)]
    split
    · rfl
    · split
      · rfl
      · split
        · rw [Rr (21 + (i - 18)) (by omega) (fun h => by have := hy _ h; omega)]
        · rfl
  refine ⟨⟨fun i hi => ?_, fun i j hi hj hij => ?_⟩, e⟩
  · have hc := h.1
    rw [e i hi]
    rcases hd.1 i hi with h | h
    · exact Or.inl h
    · exact Or.inr ⟨h.1, by omega⟩
  · rw [e i hi, e j hj]
    exact hd.2 i j hi hj hij
theorem pr_row_fr {σ σ' : cl_S} {Z Y : Nat → Prop} (h : pc_fr σ σ' Z Y) {x : Nat} (hx : x ≤ cl_n σ) (hz : ¬ Z x) {r : Option (Nat × Nat × (Nat → Int32))} (hr : pr_row σ x r) : pr_row σ' x r := by
  rcases hr with hr | ⟨lane, len, f, h1, h2, h3, h4, h5, h6, h7⟩
  · exact Or.inl hr
  · obtain ⟨a1, a2, a3, -⟩ := h.2 x hx
    exact Or.inr ⟨lane, len, f, h1, h2, h3, h4, a1.trans h5, a2.trans h6, fun i hi => by rw [a3 hz]; exact h7 i hi⟩
theorem pf_kd {σ : cl_S} (h : pf σ) {y : Nat} (h1 : 19 ≤ y) (h2 : y ≤ 54) : ¬ pc_pw σ y := by
  obtain ⟨hn, ⟨x0, -⟩, ⟨⟨r0, -⟩, r2⟩, ⟨c0, -, ⟨d1, d2, d3, d4, d5, d6⟩, -⟩, ⟨⟨a1, -⟩, ⟨a3, -⟩, ⟨a5, -⟩⟩, -, ⟨-, s0, ⟨s1, -⟩, ⟨s2, -⟩, ⟨s3, -⟩, ⟨s4, -⟩, ⟨s5, -⟩, ⟨s6, -⟩⟩, ⟨-, t0, ⟨t1, -⟩, ⟨t2, -⟩, ⟨t3, -⟩, ⟨t4, -⟩, ⟨t5, -⟩, ⟨t6, -⟩⟩, ⟨-, w1, -, w3, -⟩⟩ := h
  replace s1 : cl_k σ 31 = 25 := s1
  replace t1 : cl_k σ 38 = 25 := t1
  replace s2 : cl_k σ 32 = 20 := s2
  replace t2 : cl_k σ 39 = 20 := t2
  replace s3 : cl_k σ 33 = 20 := s3
  replace t3 : cl_k σ 40 = 20 := t3
  replace s4 : cl_k σ 34 = 20 := s4
  replace t4 : cl_k σ 41 = 20 := t4
  replace s5 : cl_k σ 35 = 20 := s5
  replace t5 : cl_k σ 42 = 20 := t5
  replace s6 : cl_k σ 36 = 26 := s6
  replace t6 : cl_k σ 43 = 26 := t6
  replace w3 : cl_k σ 45 = 20 := w3
  unfold pc_pw
  by_cases hr : 21 ≤ y ∧ y ≤ 28
  · have := (r2 (y - 21) (by omega)).2
    rw [show 21 + (y - 21) = y by omega] at this
    omega
  · have hh : y = 19 ∨ y = 20 ∨ y = 29 ∨ y = 30 ∨ y = 31 ∨ y = 32 ∨ y = 33 ∨ y = 34 ∨ y = 35 ∨ y = 36 ∨ y = 37 ∨ y = 38 ∨ y = 39 ∨ y = 40 ∨ y = 41 ∨ y = 42 ∨ y = 43 ∨ y = 44 ∨ y = 45 ∨ y = 46 ∨ y = 47 ∨ y = 48 ∨ y = 49 ∨ y = 50 ∨ y = 51 ∨ y = 52 ∨ y = 53 ∨ y = 54 := by omega
    rcases hh with rfl | rfl | rfl | rfl | rfl | rfl | rfl | rfl | rfl | rfl | rfl | rfl | rfl | rfl | rfl | rfl | rfl | rfl | rfl | rfl | rfl | rfl | rfl | rfl | rfl | rfl | rfl | rfl <;> omega
theorem pc_fr_n {σ σ' : cl_S} {Z Y : Nat → Prop} (h : pc_fr σ σ' Z Y) : pc_fr σ σ' (fun y => y ≤ cl_n σ ∧ Z y) (fun y => y ≤ cl_n σ ∧ Y y) :=
  pc_fr_mo h (fun _ h1 h2 => ⟨h1, h2⟩) (fun _ h1 h2 => ⟨h1, h2⟩)
theorem pd_p {σ : cl_S} {i : Nat} (h : i < 16) : pd_lo σ i = cl_r σ 53 i := by unfold pd_lo; rw [if_pos h]
theorem pd_i {σ : cl_S} {i : Nat} (h : i < 2) : pd_lo σ (16 + i) = cl_r σ 54 i := by
  unfold pd_lo
  rw [if_neg (by omega), if_pos (by omega), show 16 + i - 16 = i by omega]
theorem pd_h {σ : cl_S} {i : Nat} (h : i < 8) : pd_lo σ (18 + i) = cl_r σ (21 + i) 0 := by
  unfold pd_lo
  rw [if_neg (by omega), if_neg (by omega), if_pos (by omega), show 18 + i - 18 = i by omega]
theorem pd_t {σ : cl_S} : pd_lo σ 26 = cl_r σ 19 11 := by
  unfold pd_lo
  rw [if_neg (by omega), if_neg (by omega), if_neg (by omega)]
/-- writes to the net and to what is made anew at each call leave the rest as it is -/
theorem pc_R_fr {σ σ' : cl_S} {Z Y : Nat → Prop} {S : pa_S} (h : pc_fr σ σ' Z Y) (hz : ∀ y, y ≤ cl_n σ → Z y → 30 ≤ y ∧ y ≤ 52) (hy : ∀ y, y ≤ cl_n σ → Y y → y = 31 ∨ y = 36 ∨ (38 ≤ y ∧ y ≤ 43)) (hR : pc_R σ S) {N : pn_N} (hN : pc_N σ' 30 N ∧ pn_ok N) : pc_R σ' ((N, pa_past S, pa_acts S), S.2) := by
  obtain ⟨f, d, -, ⟨p1, p2, p3⟩, im, rw_, ⟨t1, t2, t3⟩, ⟨c1, c2, c3⟩, ⟨⟨u0, u1, u2, u3, u4⟩, u5, u6, u7⟩⟩ := hR
  have hn := f.1
  have h' := pc_fr_n h
  have f' : pf σ' := pf_fr h' (fun y hz' => by have := hz y hz'.1 hz'.2; omega) (fun y hy' => by have := hy y hy'.1 hy'.2; omega) f
  obtain ⟨d', e⟩ := pd_fr h' hn (fun y hy' => by have := hy y hy'.1 hy'.2; omega) d
  have R53 : cl_r σ' 53 = cl_r σ 53 := (h.2 53 (by omega)).2.2.2 (fun h => by have := hy _ (by omega) h; omega)
  have R54 : cl_r σ' 54 = cl_r σ 54 := (h.2 54 (by omega)).2.2.2 (fun h => by have := hy _ (by omega) h; omega)
  have R19 : cl_r σ' 19 = cl_r σ 19 := (h.2 19 (by omega)).2.2.2 (fun h => by have := hy _ (by omega) h; omega)
  have I19 : cl_i σ' 19 = cl_i σ 19 := (h.2 19 (by omega)).2.2.1 (fun h => by have := hz _ (by omega) h; omega)
  have I29 : cl_i σ' 29 = cl_i σ 29 := (h.2 29 (by omega)).2.2.1 (fun h => by have := hz _ (by omega) h; omega)
  have ap : ∀ o, 54 < o → pc_ap σ Z Y o := by
    intro o ho
    refine ⟨fun y hy' hz' => ?_, fun y hy' hz' => ?_⟩
    · have := hz y hy' hz'
      exact ⟨by omega, pf_kd f (by omega) (by omega)⟩
    · have := hy y hy' hz'
      omega
  refine ⟨f', d', hN, ⟨fun i hi => ?_, p2, fun i hi => ?_⟩, fun i hi => ?_, fun j hj => ?_, ⟨t1, by rw [I19]; exact t2, fun j hj => by rw [I29]; exact t3 j hj⟩, ⟨by rw [I19]; exact c1, by rw [I19]; exact c2, by rw [I19]; exact c3⟩, ?_⟩
  · rw [R53]
    rcases p1 i hi with q | q
    · exact Or.inl q
    · have ho := d.1 i (by omega)
      rw [pd_p hi] at ho
      rcases ho with ho | ho
      · exact Or.inl ho
      · exact Or.inr (pc_sh_fr h (fun hy' => by have := hy _ (by have := q.1.2; omega) hy'; omega) q)
  · have hi16 : i < 16 := Nat.lt_of_lt_of_le hi p2
    obtain ⟨q1, q2, q3⟩ := p3 i hi
    rw [R53]
    have ho := d.1 i (by omega)
    rw [pd_p hi16] at ho
    rcases ho with ho | ho
    · exact absurd ho q1
    · exact ⟨q1, pc_N_fr h (ap _ ho.1) q3 q2, q3⟩
  · rw [R54]
    rcases im i hi with q | ⟨N', q1, q2, q3, q4⟩
    · exact Or.inl q
    · have ho := d.1 (16 + i) (by omega)
      rw [pd_i hi] at ho
      rcases ho with ho | ho
      · exact absurd ho q2
      · exact Or.inr ⟨N', q1, q2, pc_N_fr h (ap _ ho.1) q4 q3, q4⟩
  · have R21 : cl_r σ' (21 + j) = cl_r σ (21 + j) := (h.2 (21 + j) (by omega)).2.2.2 (fun h => by have := hy _ (by omega) h; omega)
    rw [R21]
    have ho := d.1 (18 + j) (by omega)
    rw [pd_h hj] at ho
    rcases ho with ho | ho
    · rw [ho]
      have q := rw_ j hj
      rw [ho] at q
      rcases q with q | ⟨_, _, _, _, _, _, q, _⟩
      · exact Or.inl q
      · exact absurd rfl q
    · have q := rw_ j hj
      unfold pd_sz at ho
      exact pr_row_fr h (by omega) (fun hz' => by have := hz _ (by omega) hz'; omega) q
  · have ho := d.1 26 (by omega)
    rw [pd_t] at ho
    rcases ho with ho | ho
    · exact absurd ho u0
    · have e2 : pd_sz 26 = 1 := rfl
      rw [e2] at ho
      obtain ⟨a1, a2, a3, a4⟩ := h.2 (cl_r σ 19 11) (by omega)
      obtain ⟨b1, b2, b3, b4⟩ := h.2 (cl_r σ 19 11 + 1) (by omega)
      replace a3 := a3 (fun hz' => by have := hz _ (by omega) hz'; omega)
      replace a4 := a4 (fun hz' => by have := hy _ (by omega) hz'; omega)
      replace b3 := b3 (fun hz' => by have := hz _ (by omega) hz'; omega)
      unfold pr_tr
      rw [R19]
      exact ⟨⟨u0, a1.trans u1, by rw [a4]; exact u2, b1.trans u3, b2.trans u4⟩, u5, by rw [a3]; exact u6, fun i hi => by rw [b3]; exact u7 i hi⟩
/-- .. without the net -/
theorem pc_R_sc {σ σ' : cl_S} {Z Y : Nat → Prop} {S : pa_S} (h : pc_fr σ σ' Z Y) (hz : ∀ y, y ≤ cl_n σ → Z y → 37 ≤ y ∧ y ≤ 52) (hy : ∀ y, y ≤ cl_n σ → Y y → (38 ≤ y ∧ y ≤ 43)) (hR : pc_R σ S) : pc_R σ' S := by
  have f := hR.1
  have hn := f.1
  refine pc_R_fr (N := pa_net S) h (fun y h1 h2 => by have := hz y h1 h2; omega) (fun y h1 h2 => by have := hy y h1 h2; omega) hR ⟨pc_N_fr h ⟨fun y h1 h2 => ?_, fun y h1 h2 => ?_⟩ hR.2.2.1.2 hR.2.2.1.1, hR.2.2.1.2⟩
  · have := hz y h1 h2
    exact ⟨by omega, pf_kd f (by omega) (by omega)⟩
  · have := hy y h1 h2
    omega
/-- a number of the object itself -/
theorem pc_R_x {σ : cl_S} {S : pa_S} (hR : pc_R σ S) {f : Nat → Int32} (S' : pa_S) (h1 : S'.1.1 = S.1.1) (h2 : pa_img S' = pa_img S) (h3 : pa_row S' = pa_row S) (h4 : S'.2.2.2.2.2 = S.2.2.2.2.2) (hp : pr_past σ (pa_past S') (pa_acts S')) (ht : pa_tp S' ≤ 130 ∧ f 2 = nI (pa_tp S') ∧ ∀ j, j < pa_tp S' → pa_tape S' j < 256 ∧ cl_i σ 29 j &&& 255 = nI (pa_tape S' j)) (hs : f 9 = nI (pa_acts S') ∧ f 3 = pa_fk S' ∧ f 12 = pa_st S') : pc_R (cl_si σ 19 f) S' := by
  obtain ⟨fx, d, hN, -, im, rw_, -, -, tr⟩ := hR
  have hn := fx.1
  have h := pc_fr_si σ 19 f (Z := fun y => y = 19) (Y := pc_0) rfl
  have ap : ∀ o, 19 < o → pc_ap σ (fun y => y = 19) pc_0 o := by
    intro o ho
    refine ⟨fun y _ hz => ?_, fun _ _ h => h.elim⟩
    subst hz
    exact ⟨by omega, pf_kd fx (by omega) (by omega)⟩
  have lo : ∀ i, i < 27 → pd_lo σ i ≠ 0 → 54 < pd_lo σ i := by
    intro i hi h0
    rcases d.1 i hi with q | q
    · exact absurd q h0
    · exact q.1
  refine ⟨pf_fr h (fun y hz => by have : y = 19 := hz; omega) (fun y hy => hy.elim) fx, d, ⟨?_, ?_⟩, ⟨hp.1, hp.2.1, fun i hi => ?_⟩, fun i hi => ?_, fun j hj => ?_, ⟨ht.1, ?_, fun j hj => ?_⟩, ⟨?_, ?_, ?_⟩, ?_⟩
  · unfold pa_net
    rw [h1]
    exact pc_N_fr h (ap 30 (by omega)) hN.2 hN.1
  · unfold pa_net
    rw [h1]
    exact hN.2
  · obtain ⟨q1, q2, q3⟩ := hp.2.2 i hi
    have hi16 : i < 16 := Nat.lt_of_lt_of_le hi hp.2.1
    have := lo i (by omega) (by rw [pd_p hi16]; exact q1)
    rw [pd_p hi16] at this
    exact ⟨q1, pc_N_fr h (ap (cl_r σ 53 i) (by omega)) q3 q2, q3⟩
  · rw [h2]
    rcases im i hi with q | ⟨N', q1, q2, q3, q4⟩
    · exact Or.inl q
    · have := lo (16 + i) (by omega) (by rw [pd_i hi]; exact q2)
      rw [pd_i hi] at this
      exact Or.inr ⟨N', q1, q2, pc_N_fr h (ap (cl_r σ 54 i) (by omega)) q4 q3, q4⟩
  · rw [h3]
    show pr_row (cl_si σ 19 f) (cl_r σ (21 + j) 0) _
    have ho := d.1 (18 + j) (by omega)
    rw [pd_h hj] at ho
    rcases ho with ho | ho
    · have q := rw_ j hj
      rw [ho] at q ⊢
      rcases q with q | ⟨_, _, _, _, _, _, q, _⟩
      · exact Or.inl q
      · exact absurd rfl q
    · unfold pd_sz at ho
      exact pr_row_fr h (by omega) (fun hz' => by have : _ = 19 := hz'; omega) (rw_ j hj)
  · show cl_i (cl_si σ 19 f) 19 2 = _
    rw [pc_i_si_s]
    exact ht.2.1
  · rw [pc_i_si_n _ _ _ _ (by decide)]
    exact ht.2.2 j hj
  · rw [pc_i_si_s]; exact hs.1
  · rw [pc_i_si_s]; exact hs.2.1
  · rw [pc_i_si_s]; exact hs.2.2
  · have e1 : pa_tn S' = pa_tn S := by unfold pa_tn; rw [h4]
    have e2 : pa_tr S' = pa_tr S := by unfold pa_tr; rw [h4]
    rw [e1, e2]
    obtain ⟨⟨u0, u1, u2, u3, u4⟩, u5, u6, u7⟩ := tr
    have := lo 26 (by omega) (by rw [pd_t]; exact u0)
    rw [pd_t] at this
    refine ⟨⟨u0, u1, u2, u3, u4⟩, u5, ?_, fun i hi => ?_⟩
    · show cl_i (cl_si σ 19 f) (cl_r σ 19 11) 1 = _
      rw [pc_i_si_n _ _ _ _ (by omega)]
      exact u6
    · show cl_i (cl_si σ 19 f) (cl_r σ 19 11 + 1) i = _
      rw [pc_i_si_n _ _ _ _ (by omega)]
      exact u7 i hi
