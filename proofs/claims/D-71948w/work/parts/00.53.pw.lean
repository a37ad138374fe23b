/-! Walk.go; what stays as it is -/
/-- one heap has become another one, but for numbers at Z, references at Y, and what is new -/
def pc_fr (σ σ' : cl_S) (Z Y : Nat → Prop) : Prop := cl_n σ ≤ cl_n σ' ∧ ∀ y, y ≤ cl_n σ → cl_k σ' y = cl_k σ y ∧ cl_l σ' y = cl_l σ y ∧ (¬ Z y → cl_i σ' y = cl_i σ y) ∧ (¬ Y y → cl_r σ' y = cl_r σ y)
def pc_0 : Nat → Prop := fun _ => False
theorem pc_fr_rf (σ : cl_S) (Z Y : Nat → Prop) : pc_fr σ σ Z Y := ⟨Nat.le_refl _, fun _ _ => ⟨rfl, rfl, fun _ => rfl, fun _ => rfl⟩⟩
theorem pc_fr_tr {σ σ1 σ2 : cl_S} {Z Y : Nat → Prop} (h1 : pc_fr σ σ1 Z Y) (h2 : pc_fr σ1 σ2 Z Y) : pc_fr σ σ2 Z Y := by
  refine ⟨Nat.le_trans h1.1 h2.1, fun y hy => ?_⟩
  obtain ⟨a1, a2, a3, a4⟩ := h1.2 y hy
  obtain ⟨b1, b2, b3, b4⟩ := h2.2 y (Nat.le_trans hy h1.1)
  exact ⟨b1.trans a1, b2.trans a2, fun hz => (b3 hz).trans (a3 hz), fun hz => (b4 hz).trans (a4 hz)⟩
theorem pc_fr_mo {σ σ' : cl_S} {Z Z' Y Y' : Nat → Prop} (h : pc_fr σ σ' Z Y) (hz : ∀ y, y ≤ cl_n σ → Z y → Z' y) (hy : ∀ y, y ≤ cl_n σ → Y y → Y' y) : pc_fr σ σ' Z' Y' := by
  refine ⟨h.1, fun y hy' => ?_⟩
  obtain ⟨a1, a2, a3, a4⟩ := h.2 y hy'
  exact ⟨a1, a2, fun hn => a3 (fun h => hn (hz y hy' h)), fun hn => a4 (fun h => hn (hy y hy' h))⟩
theorem pc_fr_si (σ : cl_S) (o : Nat) (f : Nat → Int32) {Z Y : Nat → Prop} (hz : Z o) : pc_fr σ (cl_si σ o f) Z Y := by
  refine ⟨Nat.le_refl _, fun y _ => ⟨rfl, rfl, fun hn => ?_, fun _ => rfl⟩⟩
  rw [pc_i_si, if_neg (fun h => hn (by rw [h]; exact hz))]
theorem pc_fr_sr (σ : cl_S) (o : Nat) (g : Nat → Nat) {Z Y : Nat → Prop} (hz : Y o) : pc_fr σ (cl_sr σ o g) Z Y := by
  refine ⟨Nat.le_refl _, fun y _ => ⟨rfl, rfl, fun _ => rfl, fun hn => ?_⟩⟩
  rw [pc_r_sr, if_neg (fun h => hn (by rw [h]; exact hz))]
theorem pc_fr_nw (σ : cl_S) (k n : Nat) {Z Y : Nat → Prop} : pc_fr σ (cl_nw σ k n) Z Y := by
  refine ⟨Nat.le_succ _, fun y hy => ?_⟩
  have hy2 : y ≤ σ.1 := hy
  have hne : y ≠ σ.1 + 1 := by omega
  refine ⟨?_, ?_, fun _ => ?_, fun _ => ?_⟩
  · show va_up σ.2.1 (σ.1 + 1) k y = _
    rw [va_up_ne _ _ hne]; rfl
  · show va_up σ.2.2.1 (σ.1 + 1) n y = _
    rw [va_up_ne _ _ hne]; rfl
  · show va_up σ.2.2.2.1 (σ.1 + 1) _ y = _
    rw [va_up_ne _ _ hne]; rfl
  · show va_up σ.2.2.2.2 (σ.1 + 1) _ y = _
    rw [va_up_ne _ _ hne]; rfl
/-- a person or a window -/
def pc_pw (σ : cl_S) (y : Nat) : Prop := 9 ≤ cl_k σ y ∧ cl_k σ y ≤ 14
/-- nothing of a net at o lies in Z, Y -/
def pc_ap (σ : cl_S) (Z Y : Nat → Prop) (o : Nat) : Prop := (∀ y, y ≤ cl_n σ → Z y → ¬ (o ≤ y ∧ y ≤ o + 6) ∧ ¬ pc_pw σ y) ∧ (∀ y, y ≤ cl_n σ → Y y → ¬ (o ≤ y ∧ y ≤ o + 6))
theorem pc_P_fr {σ σ' : cl_S} {Z Y : Nat → Prop} (h : pc_fr σ σ' Z Y) (hz : ∀ y, y ≤ cl_n σ → Z y → ¬ pc_pw σ y) {r p k : Nat} (hk : 1 ≤ k ∧ k ≤ 5) (hP : pc_P σ r p k) : pc_P σ' r p k := by
  obtain ⟨⟨a1, a2⟩, a3, a4⟩ := hP
  obtain ⟨b1, -, b3, -⟩ := h.2 r a2
  have c := h.1
  refine ⟨⟨a1, by omega⟩, b1.trans a3, ?_⟩
  rw [b3 (fun hz' => hz r a2 hz' ⟨by omega, by omega⟩)]
  exact a4
theorem pc_W_fr {σ σ' : cl_S} {Z Y : Nat → Prop} (h : pc_fr σ σ' Z Y) (hz : ∀ y, y ≤ cl_n σ → Z y → ¬ pc_pw σ y) {r lo hi : Nat} (hW : pc_W σ r lo hi) : pc_W σ' r lo hi := by
  obtain ⟨⟨a1, a2⟩, a3, a4, a5⟩ := hW
  obtain ⟨b1, -, b3, -⟩ := h.2 r a2
  have c := h.1
  have e := b3 (fun hz' => hz r a2 hz' ⟨by omega, by omega⟩)
  exact ⟨⟨a1, by omega⟩, b1.trans a3, by rw [e]; exact a4, by rw [e]; exact a5⟩
theorem pc_sh_fr {σ σ' : cl_S} {Z Y : Nat → Prop} {o : Nat} (h : pc_fr σ σ' Z Y) (hz : ¬ Y o) (hs : pc_sh σ o) : pc_sh σ' o := by
  obtain ⟨⟨s0, s1⟩, k0, ⟨k1, l1, r1⟩, ⟨k2, l2, r2⟩, ⟨k3, l3, r3⟩, ⟨k4, l4, r4⟩, ⟨k5, l5, r5⟩, ⟨k6, l6, r6⟩⟩ := hs
  have hc := h.1
  obtain ⟨e0, -, -, q0⟩ := h.2 o (by omega)
  obtain ⟨e1, f1, -⟩ := h.2 (o + 1) (by omega)
  obtain ⟨e2, f2, -⟩ := h.2 (o + 2) (by omega)
  obtain ⟨e3, f3, -⟩ := h.2 (o + 3) (by omega)
  obtain ⟨e4, f4, -⟩ := h.2 (o + 4) (by omega)
  obtain ⟨e5, f5, -⟩ := h.2 (o + 5) (by omega)
  obtain ⟨e6, f6, -⟩ := h.2 (o + 6) (by omega)
  replace q0 := q0 hz
  exact ⟨⟨s0, by omega⟩, by rw [e0, k0], ⟨by rw [e1, k1], by rw [f1, l1], by rw [q0, r1]⟩, ⟨by rw [e2, k2], by rw [f2, l2], by rw [q0, r2]⟩, ⟨by rw [e3, k3], by rw [f3, l3], by rw [q0, r3]⟩, ⟨by rw [e4, k4], by rw [f4, l4], by rw [q0, r4]⟩, ⟨by rw [e5, k5], by rw [f5, l5], by rw [q0, r5]⟩, ⟨by rw [e6, k6], by rw [f6, l6], by rw [q0, r6]⟩⟩
theorem pc_N_fr {σ σ' : cl_S} {Z Y : Nat → Prop} {o : Nat} {N : pn_N} (h : pc_fr σ σ' Z Y) (hz : pc_ap σ Z Y o) (hN : pn_ok N) (hn : pc_N σ o N) : pc_N σ' o N := by
  obtain ⟨hs, ⟨v0, v1, v2, v3⟩, hP, hC, hA⟩ := hn
  have hb := hs.1.2
  have hc := h.1
  have at_ : ∀ y, o ≤ y → y ≤ o + 6 → cl_i σ' y = cl_i σ y ∧ cl_r σ' y = cl_r σ y := by
    intro y h1 h2
    obtain ⟨-, -, b3, b4⟩ := h.2 y (by omega)
    exact ⟨b3 (fun hz' => (hz.1 y (by omega) hz').1 ⟨h1, h2⟩), b4 (fun hz' => (hz.2 y (by omega) hz') ⟨h1, h2⟩)⟩
  obtain ⟨i0, q0⟩ := at_ o (by omega) (by omega)
  obtain ⟨-, q1⟩ := at_ (o + 1) (by omega) (by omega)
  obtain ⟨i2, -⟩ := at_ (o + 2) (by omega) (by omega)
  obtain ⟨i3, -⟩ := at_ (o + 3) (by omega) (by omega)
  obtain ⟨i4, -⟩ := at_ (o + 4) (by omega) (by omega)
  obtain ⟨i5, -⟩ := at_ (o + 5) (by omega) (by omega)
  obtain ⟨-, q6⟩ := at_ (o + 6) (by omega) (by omega)
  refine ⟨pc_sh_fr h (fun hy => hz.2 o (by omega) hy ⟨by omega, by omega⟩) hs, ⟨by rw [i0, v0], by rw [i0, v1], by rw [i0, v2], by rw [i0, v3]⟩, ?_, ?_, ?_⟩
  · intro p hp
    obtain ⟨p1, p2, p3⟩ := hP p hp
    have hk := hN.2.2.2.1 p hp
    rw [q1, i2, q6]
    refine ⟨pc_P_fr h (fun y h1 h2 => (hz.1 y h1 h2).2) ⟨hk.1, hk.2.1⟩ p1, p2, ?_⟩
    unfold pc_Wp at p3 ⊢
    split
    · rename_i h4
      rw [if_pos h4] at p3
      exact pc_W_fr h (fun y h1 h2 => (hz.1 y h1 h2).2) p3
    · rename_i h4
      rw [if_neg h4] at p3
      exact p3
  · intro c hc'
    rw [i3, i4, i5]
    exact hC c hc'
  · intro j hj
    obtain ⟨a1, a2⟩ := hA j hj
    rw [q1, q6]
    refine ⟨?_, ?_⟩
    · rcases a1 with a1 | ⟨a3, a4, a5⟩
      · exact Or.inl a1
      · have := (h.2 _ a3).1
        exact Or.inr ⟨by omega, by omega, by omega⟩
    · rcases a2 with a2 | ⟨a3, a4⟩
      · exact Or.inl a2
      · have := (h.2 _ a3).1
        exact Or.inr ⟨by omega, by omega⟩
/-- where the walk's parts lie -/
def pc_wk (σ : cl_S) (w : Nat) : Prop := (cl_K < w ∧ w + 1 ≤ cl_n σ) ∧ cl_k σ w = 3 ∧ cl_r σ w 0 = w + 1 ∧ cl_k σ (w + 1) = 20 ∧ cl_l σ (w + 1) = 9
def pn_31 (W : pn_W) : Prop := ∀ p e, p < 9 → 31 ≤ e → pb_bt (W.1 p) e = false
theorem pn_31_gv {N : pn_N} {W : pn_W} (h : pn_31 W) {f t d : Nat} (hd : d ≤ 30) : pn_31 (pn_gv N W f t d) := by
  unfold pn_gv
  split
  · intro p e hp he
    show pb_bt (upd W.1 t _ p) e = false
    unfold upd
    split
    · rename_i hpt
      rw [pb_or, pb_one' (by omega), ← hpt, h p e hp he]
      simp
      omega
    · exact h p e hp he
  · exact h
theorem pn_31_fc {N : pn_N} (but : Int32) {d : Nat} (hd : d ≤ 30) {W : pn_W} (h : pn_31 W) : ∀ c, pn_31 (pn_fc N but d W c) := by
  intro c
  induction c with
  | zero => exact h
  | succ c ih =>
    unfold pn_fc pn_st
    split
    · exact pn_31_gv (pn_31_gv ih hd) hd
    · exact ih
theorem pn_31_fd {N : pn_N} (but : Int32) {W : pn_W} (h : pn_31 W) : ∀ n, n ≤ 31 → pn_31 (pn_fd N but W n) := by
  intro n
  induction n with
  | zero => intro _; exact h
  | succ n ih => intro hn; exact pn_31_fc but (by omega) (ih (by omega)) _
theorem pn_31_w0 (o : pn_W) (s : Nat) {d : Nat} (hd : d < 31) : pn_31 (pn_w0 o s d 9) := by
  intro p e hp he
  rw [(pn_w0_at o s d 9 p hp).1]
  split
  · rw [pb_one' (by omega)]
    simp
    omega
  · exact pb_bt0 e
theorem pn_wk_31 {N : pn_N} {s d : Nat} (hd : d < 31) (but : Int32) {p e : Nat} (hp : p < 9) (he : 31 ≤ e) : pb_bt (pn_wk N s d but p) e = false :=
  pn_31_fd but (pn_31_w0 (fun _ => 0, fun _ => 0) s hd) 31 (Nat.le_refl _) p e hp he
theorem pn_px_up {N : pn_N} (D : Nat → Int32) (t : Nat) {g d : Nat} (hd : d < 32) : pn_px N (upd D t (D t ||| ((1 : Int32) <<< (nI d &&& 31)))) g d = pn_px N D g d := by
  have e2 : ∀ e, e < d → pb_bt (upd D t (D t ||| ((1 : Int32) <<< (nI d &&& 31))) g) e = pb_bt (D g) e := by
    intro e he
    unfold upd
    split
    · rename_i h
      rw [pb_or, pb_one' hd, h]
      have : ¬ e = d := by omega
      simp [this]
    · rfl
  unfold pn_px
  rw [Bool.eq_iff_iff, List.any_eq_true, List.any_eq_true]
  constructor
  · rintro ⟨e, he, hb⟩
    rw [e2 e (List.mem_range.mp he)] at hb
    exact ⟨e, he, hb⟩
  · rintro ⟨e, he, hb⟩
    exact ⟨e, he, by rw [e2 e (List.mem_range.mp he)]; exact hb⟩
section PWK
variable {σ : cl_S} {o w : Nat} {N : pn_N}
theorem pc_ap_w (hw : pc_wk σ w) (hd : w + 1 < o ∨ o + 6 < w + 1) : pc_ap σ (fun y => y = w + 1) pc_0 o := by
  refine ⟨fun y _ hz => ?_, fun _ _ h => h.elim⟩
  subst hz
  refine ⟨by omega, ?_⟩
  unfold pc_pw
  rw [hw.2.2.2.1]
  omega
/-- **Walk.meet** -/
theorem pc_meet (h : pc_N σ o N) (hN : pn_ok N) (hw : pc_wk σ w) (hd : w + 1 < o ∨ o + 6 < w + 1) {c : Nat} (hc : c < pn_C N) {W : pn_W} (hW : W.1 = cl_i σ (w + 1)) (h31 : pn_31 W) : cl_X3_meet w o σ (nI c) = some (cl_si σ (w + 1) (pn_gv N (pn_gv N W (pn_a N c) (pn_b N c) (pn_d N c)) (pn_b N c) (pn_a N c) (pn_d N c)).1) := by
  obtain ⟨c1, c2, c3, c4⟩ := hN.2.2.2.2 c hc
  have hP := hN.1
  have hC10 := hN.2.1
  have ga := pc_gives h hN hc (f := pn_a N c) (t := pn_b N c) (Or.inl ⟨rfl, rfl⟩) W.1 (fun e he => h31 _ e (by omega) he)
  have gb := pc_gives h hN hc (f := pn_b N c) (t := pn_a N c) (Or.inr ⟨rfl, rfl⟩) W.1 (fun e he => h31 _ e (by omega) he)
  rw [hW] at ga gb
  obtain ⟨⟨-, k0, -, -, ⟨k3, l3, r3⟩, ⟨k4, l4, r4⟩, ⟨k5, l5, r5⟩, -⟩, -, -, hC, -⟩ := h
  obtain ⟨x1, x2, x3⟩ := hC c hc
  obtain ⟨-, m0, m1, m2, m3⟩ := hw
  have i1 : dx_inb (nI c) 10 = true := by rw [pb_inb (by omega), decide_eq_true (by omega)]
  have i2 : dx_inb (nI (pn_a N c)) 9 = true := by rw [pb_inb (by omega), decide_eq_true (by omega)]
  have i3 : dx_inb (nI (pn_b N c)) 9 = true := by rw [pb_inb (by omega), decide_eq_true (by omega)]
  have cc : (nI c).toNatClampNeg = c := nI_clamp (by omega)
  have ca : (nI (pn_a N c)).toNatClampNeg = pn_a N c := nI_clamp (by omega)
  have cb : (nI (pn_b N c)).toNatClampNeg = pn_b N c := nI_clamp (by omega)
  have z3 : ¬ o + 3 = 0 := by omega
  have z4 : ¬ o + 4 = 0 := by omega
  have z5 : ¬ o + 5 = 0 := by omega
  have zw : ¬ w + 1 = 0 := by omega
  have n5 : ¬ o + 5 = w + 1 := by omega
  unfold cl_X3_meet cl_X3_meet_J67
  simp only [k0, r3, r4, r5, k3, k4, k5, l3, l4, l5, m0, m1, m2, m3, i1, i2, i3, cc, ca, cb, x1, x2, x3, z3, z4, z5, zw, not_false_iff, decide_true, pb_gdT]
  rw [dx_b1_eq _ ga, dx_b1_eq _ gb]
  unfold dx_let
  simp only [pc_wi, pc_k_si, pc_l_si, pc_r_si, pc_i_si, n5, k0, r3, r4, r5, k3, k4, k5, l3, l4, l5, m0, m1, m2, m3, i1, i2, i3, cc, ca, cb, x1, x2, x3, z3, z4, z5, zw, not_false_iff, decide_true, pb_gdT, if_true, if_false, pc_si_si]
  have key : ∀ q1 q2 : Bool, (decide (pn_kd N (pn_b N c) ≠ 5) && pn_px N (cl_i σ (w + 1)) (pn_a N c) (pn_d N c)) = q1 → (decide (pn_kd N (pn_a N c) ≠ 5) && pn_px N (cl_i σ (w + 1)) (pn_b N c) (pn_d N c)) = q2 → (pn_gv N (pn_gv N W (pn_a N c) (pn_b N c) (pn_d N c)) (pn_b N c) (pn_a N c) (pn_d N c)).1 = (if q2 = true then (fun D => upd D (pn_a N c) (D (pn_a N c) ||| ((1 : Int32) <<< (nI (pn_d N c) &&& 31)))) else id) ((if q1 = true then (fun D => upd D (pn_b N c) (D (pn_b N c) ||| ((1 : Int32) <<< (nI (pn_d N c) &&& 31)))) else id) (cl_i σ (w + 1))) := by
    intro q1 q2 e1 e2
    rw [← hW] at e1 e2 ⊢
    have s1 : (pn_gv N W (pn_a N c) (pn_b N c) (pn_d N c)).1 = (if q1 = true then (fun D => upd D (pn_b N c) (D (pn_b N c) ||| ((1 : Int32) <<< (nI (pn_d N c) &&& 31)))) else id) W.1 := by
      unfold pn_gv
      have : (pn_kd N (pn_b N c) ≠ 5 ∧ pn_px N W.1 (pn_a N c) (pn_d N c) = true) ↔ q1 = true := by
        rw [← e1, Bool.and_eq_true, decide_eq_true_iff]
      by_cases hq : q1 = true
      · rw [if_pos (this.mpr hq), if_pos hq]
      · rw [if_neg (fun h => hq (this.mp h)), if_neg hq]
        rfl
    have s2 : pn_px N (pn_gv N W (pn_a N c) (pn_b N c) (pn_d N c)).1 (pn_b N c) (pn_d N c) = pn_px N W.1 (pn_b N c) (pn_d N c) := by
      rw [s1]
      split
      · exact pn_px_up W.1 _ (by omega)
      · rfl
    have s3 : (pn_kd N (pn_a N c) ≠ 5 ∧ pn_px N (pn_gv N W (pn_a N c) (pn_b N c) (pn_d N c)).1 (pn_b N c) (pn_d N c) = true) ↔ q2 = true := by
      rw [s2, ← e2, Bool.and_eq_true, decide_eq_true_iff]
    rw [← s1]
    generalize pn_gv N W (pn_a N c) (pn_b N c) (pn_d N c) = V at s3
    unfold pn_gv
    by_cases hq : q2 = true
    · rw [if_pos (s3.mpr hq), if_pos hq]
    · rw [if_neg (fun h => hq (s3.mp h)), if_neg hq]
      rfl
  generalize hq1 : (decide (pn_kd N (pn_b N c) ≠ 5) && pn_px N (cl_i σ (w + 1)) (pn_a N c) (pn_d N c)) = q1
  generalize hq2 : (decide (pn_kd N (pn_a N c) ≠ 5) && pn_px N (cl_i σ (w + 1)) (pn_b N c) (pn_d N c)) = q2
  rw [key q1 q2 hq1 hq2]
  cases q1 <;> cases q2 <;> simp only [dx_ib, if_true, if_false, id, pc_si_self, Bool.false_eq_true]
theorem pc_wk_si (hw : pc_wk σ w) (x : Nat) (f : Nat → Int32) : pc_wk (cl_si σ x f) w := hw
theorem pc_N_w (h : pc_N σ o N) (hN : pn_ok N) (hw : pc_wk σ w) (hd : w + 1 < o ∨ o + 6 < w + 1) (f : Nat → Int32) : pc_N (cl_si σ (w + 1) f) o N :=
  pc_N_fr (pc_fr_si σ (w + 1) f (Z := fun y => y = w + 1) rfl) (pc_ap_w hw hd) hN h
theorem pc_fc (h : pc_N σ o N) (hN : pn_ok N) (hw : pc_wk σ w) (hd : w + 1 < o ∨ o + 6 < w + 1) (but : Int32) {W : pn_W} (h31 : pn_31 W) {d : Nat} (hd30 : d ≤ 30) : dx_lp (fun x : Int32 × cl_S => cl_X3_go_L46 w o x.2 but (nI d) x.1) dx_fu ((0 : Int32), cl_si σ (w + 1) W.1) = some (.inl (nI (d + 1), cl_si σ (w + 1) (pn_fc N but d W (pn_C N)).1)) := by
  have hC10 := hN.2.1
  refine pb_lp (b := fun x : Int32 × cl_S => cl_X3_go_L46 w o x.2 but (nI d) x.1) (pn_C N) (fun i => (nI i, cl_si σ (w + 1) (pn_fc N but d W i).1)) (fun i hi => ?_) ?_ (by omega)
  · show cl_X3_go_L46 w o (cl_si σ (w + 1) (pn_fc N but d W i).1) but (nI d) (nI i) = some (.inl (nI (i + 1), cl_si σ (w + 1) (pn_fc N but d W (i + 1)).1))
    have h' := pc_N_w h hN hw hd (pn_fc N but d W i).1
    have hm := pc_meet h' hN (pc_wk_si hw (w + 1) (pn_fc N but d W i).1) hd hi (W := pn_fc N but d W i) (by rw [pc_i_si_s]) (pn_31_fc but hd30 h31 i)
    rw [pc_si_si] at hm
    obtain ⟨c1, c2, c3, c4⟩ := hN.2.2.2.2 i hi
    obtain ⟨⟨-, k0, -, -, -, -, ⟨k5, l5, r5⟩, -⟩, ⟨-, v1, -⟩, -, hC, -⟩ := h'
    obtain ⟨-, -, x3⟩ := hC i hi
    have mk : cl_k (cl_si σ (w + 1) (pn_fc N but d W i).1) w = 3 := hw.2.1
    have e9 : nI i + (1 : Int32) = nI (i + 1) := (nI_succ i).symm
    have z5 : ¬ o + 5 = 0 := by omega
    have i1 : dx_inb (nI i) 10 = true := by rw [pb_inb (by omega), decide_eq_true (by omega)]
    have cc : (nI i).toNatClampNeg = i := nI_clamp (by omega)
    unfold cl_X3_go_L46
    rw [v1, if_neg (fun h => absurd ((pb_le (by omega) (by omega)).mp h) (by omega))]
    simp only [k0, r5, k5, l5, i1, cc, x3, z5, mk, not_false_iff, decide_true, pb_gdT, pn_c_has (x := but) (k := i) (by omega), e9]
    show _ = some (Sum.inl (nI (i + 1), cl_si σ (w + 1) (pn_st N but d i (pn_fc N but d W i)).1))
    unfold pn_st
    by_cases h1 : pn_d N i = d
    · rw [if_pos (by rw [h1])]
      show dx_ib (pb_bt but i) _ _ = _
      cases h2 : pb_bt but i with
      | true => rw [if_neg (fun h => by cases h.2)]; rfl
      | false =>
        rw [if_pos ⟨h1, rfl⟩]
        show dx_b1 _ _ = _
        rw [dx_b1_eq _ hm, h1]
    · rw [if_neg (fun h => h1 ((pb_inj (by omega) (by omega)).mp h)), if_neg (fun h => h1 h.1)]
  · show cl_X3_go_L46 w o (cl_si σ (w + 1) (pn_fc N but d W (pn_C N)).1) but (nI d) (nI (pn_C N)) = _
    obtain ⟨⟨-, k0, -⟩, ⟨-, v1, -⟩, -⟩ := pc_N_w h hN hw hd (pn_fc N but d W (pn_C N)).1
    have e9 : nI d + (1 : Int32) = nI (d + 1) := (nI_succ d).symm
    unfold cl_X3_go_L46
    rw [pb_gdD _ k0, v1, if_pos ((pb_le (by omega) (by omega)).mpr (Nat.le_refl _)), e9]
    rfl
theorem pc_fd (h : pc_N σ o N) (hN : pn_ok N) (hw : pc_wk σ w) (hd : w + 1 < o ∨ o + 6 < w + 1) (but : Int32) {W : pn_W} (h31 : pn_31 W) : dx_lp (fun x : Int32 × cl_S => cl_X3_go_L36 w o x.2 but x.1) dx_fu ((0 : Int32), cl_si σ (w + 1) W.1) = some (w, cl_si σ (w + 1) (pn_fd N but W 31).1) := by
  refine pb_lp (b := fun x : Int32 × cl_S => cl_X3_go_L36 w o x.2 but x.1) 31 (fun i => (nI i, cl_si σ (w + 1) (pn_fd N but W i).1)) (fun i hi => ?_) ?_ (by omega)
  · show cl_X3_go_L36 w o (cl_si σ (w + 1) (pn_fd N but W i).1) but (nI i) = some (.inl (nI (i + 1), cl_si σ (w + 1) (pn_fd N but W (i + 1)).1))
    have h31' : ¬ (31 : Int32) ≤ nI i := fun h => absurd ((pb_le (a := 31) (by omega) (by omega)).mp h) (by omega)
    unfold cl_X3_go_L36
    rw [if_neg h31', pc_fc h hN hw hd but (pn_31_fd but h31 i (by omega)) (by omega)]
    rfl
  · show cl_X3_go_L36 w o (cl_si σ (w + 1) (pn_fd N but W 31).1) but (nI 31) = _
    unfold cl_X3_go_L36
    rw [if_pos (by decide)]
    rfl
/-- the array's nine places, one after the other -/
def pc_z (f : Nat → Int32) : Nat → Nat → Int32
  | 0 => f
  | i + 1 => upd (pc_z f i) i 0
theorem pc_z_at (f : Nat → Int32) : ∀ n p, p < n → pc_z f n p = 0 := by
  intro n
  induction n with
  | zero => intro p h; omega
  | succ n ih =>
    intro p h
    show upd _ n 0 p = 0
    unfold upd
    split
    · rfl
    · exact ih p (by omega)
/-- **Walk.go** -/
theorem pc_go (h : pc_N σ o N) (hN : pn_ok N) (hw : pc_wk σ w) (hd : w + 1 < o ∨ o + 6 < w + 1) (but : Int32) {s d : Nat} (hs : s < pn_P N) (hd31 : d < 31) : ∃ f : Nat → Int32, (∀ p, p < 9 → f p = pn_wk N s d but p) ∧ cl_X3_go w o σ (nI s) (nI d) but = some (w, cl_si σ (w + 1) f) := by
  have hP := hN.1
  have z1 : ¬ w + 1 = 0 := by omega
  obtain ⟨W0, hW0⟩ : ∃ W0 : pn_W, W0 = (upd (pc_z (cl_i σ (w + 1)) 9) s ((1 : Int32) <<< (nI d &&& 31)), fun _ => 0) := ⟨_, rfl⟩
  have he9 : pn_e9 W0 (pn_w0 (fun _ => 0, fun _ => 0) s d 9) := by
    intro p hp
    obtain ⟨a1, a2⟩ := pn_w0_at (fun _ => 0, fun _ => 0) s d 9 p hp
    rw [a1, a2, hW0]
    refine ⟨?_, rfl⟩
    show upd _ s _ p = _
    unfold upd
    split
    · rfl
    · exact pc_z_at _ 9 p hp
  have h31 : pn_31 W0 := by
    intro p e hp he
    rw [(he9 p hp).1]
    exact pn_31_w0 _ s hd31 p e hp he
  refine ⟨(pn_fd N but W0 31).1, fun p hp => (pn_e9_fd hN but he9 31 p hp).1, ?_⟩
  unfold cl_X3_go
  have e0 : ((0 : Int32), σ) = (nI 0, cl_si σ (w + 1) (pc_z (cl_i σ (w + 1)) 0)) := by
    show _ = (nI 0, cl_si σ (w + 1) (cl_i σ (w + 1)))
    rw [pc_si_self, nI_0]
  rw [e0]
  refine pb_lp (b := fun x : Int32 × cl_S => cl_X3_go_L3 w o x.2 (nI s) (nI d) but x.1) 9 (fun i => (nI i, cl_si σ (w + 1) (pc_z (cl_i σ (w + 1)) i))) (fun i hi => ?_) ?_ (by omega)
  · show cl_X3_go_L3 w o (cl_si σ (w + 1) (pc_z (cl_i σ (w + 1)) i)) (nI s) (nI d) but (nI i) = some (.inl (nI (i + 1), cl_si σ (w + 1) (pc_z (cl_i σ (w + 1)) (i + 1))))
    have h9 : ¬ (9 : Int32) ≤ nI i := fun h => absurd ((pb_le (a := 9) (by omega) (by omega)).mp h) (by omega)
    have e9 : nI i + (1 : Int32) = nI (i + 1) := (nI_succ i).symm
    have i1 : dx_inb (nI i) 9 = true := by rw [pb_inb (by omega), decide_eq_true (by omega)]
    have cc : (nI i).toNatClampNeg = i := nI_clamp (by omega)
    unfold cl_X3_go_L3 dx_let
    rw [if_neg h9]
    simp only [pc_k_si, pc_r_si, pc_l_si, hw.2.1, hw.2.2.1, hw.2.2.2.1, hw.2.2.2.2, i1, z1, e9, cc, not_false_iff, decide_true, pb_gdT, pc_wi, pc_i_si_s, pc_si_si]
    rfl
  · show cl_X3_go_L3 w o (cl_si σ (w + 1) (pc_z (cl_i σ (w + 1)) 9)) (nI s) (nI d) but (nI 9) = _
    have i1 : dx_inb (nI s) 9 = true := by rw [pb_inb (by omega), decide_eq_true (by omega)]
    have cc : (nI s).toNatClampNeg = s := nI_clamp (by omega)
    unfold cl_X3_go_L3 dx_let
    rw [if_pos (by decide)]
    simp only [pc_k_si, pc_r_si, pc_l_si, hw.2.1, hw.2.2.1, hw.2.2.2.1, hw.2.2.2.2, i1, z1, cc, not_false_iff, decide_true, pb_gdT, pc_wi, pc_i_si_s, pc_si_si]
    have e1 : upd (pc_z (cl_i σ (w + 1)) 9) s ((1 : Int32) <<< (nI d &&& 31)) = W0.1 := by rw [hW0]
    rw [e1, pc_fd h hN hw hd but h31]
    rfl
end PWK
