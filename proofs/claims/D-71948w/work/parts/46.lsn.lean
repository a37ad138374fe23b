/-! the start: the constants, and all that a contract's start says -/
def ls_F : List Cond := flatC (Jvm.Cond.and given_1 narrow_1)
def ls_tm (i : Nat) : Term := match i with
  | 0 => .string "DatedContacts$Chains" 67
  | 1 => .string "DatedContacts$Chains" 89
  | 2 => .string "DatedContacts$Chains" 91
  | 3 => .string "DatedContacts$Marked" 25
  | 4 => .string "DatedContacts$Marked" 31
  | 5 => .string "DatedContacts$Marked" 33
  | 6 => .string "DatedContacts$Marked" 35
  | _ => .string "DatedContacts$Marked" 37
def ls_len : List Nat := [0, 1, 1, 1, 1, 1, 1, 1]
def ls_byt : List (List Int32) := [[], [64], [58], [111], [108], [104], [100], [115]]
theorem ls_p {w : Cond} (i : Nat) (h : ls_F[i]? = some w) : w ∈ ls_F := List.mem_of_getElem? h
theorem ls_ps {ws : List Cond} (ps : List Nat) (h : ws = ps.filterMap (fun i => ls_F[i]?)) : ∀ w ∈ ws, w ∈ ls_F := by
  intro w hw
  rw [h] at hw
  obtain ⟨i, -, hi⟩ := List.mem_filterMap.mp hw
  exact ls_p i hi
theorem ls_fam {f : Nat → Cond} {n : Nat} (h : ∀ w ∈ (List.range n).map f, w ∈ ls_F) : ∀ i : Nat, i < n → f i ∈ ls_F := fun i hi => h _ (List.mem_map_of_mem (List.mem_range.mpr hi))
theorem ls_run {ws : List Cond} (k n : Nat) (h : ws = (ls_F.drop k).take n) : ∀ w ∈ ws, w ∈ ls_F := by
  intro w hw
  rw [h] at hw
  exact List.mem_of_mem_drop (List.mem_of_mem_take hw)
theorem ls_m1 : ∀ i : Nat, i < 8 → Cond.exactly (ls_tm i) "java/lang/String" ∈ ls_F := ls_fam (f := fun i => Cond.exactly (ls_tm i) "java/lang/String") (ls_ps [873, 885, 899, 823, 831, 840, 850, 861] (by decide +kernel))
theorem ls_m2 : ∀ i : Nat, i < 8 → Cond.eq (.field (ls_tm i) "java/lang/String" "coder" "B") (.int 0) ∈ ls_F := ls_fam (f := fun i => Cond.eq (.field (ls_tm i) "java/lang/String" "coder" "B") (.int 0)) (ls_ps [874, 886, 900, 824, 832, 841, 851, 862] (by decide +kernel))
theorem ls_m3 : ∀ i : Nat, i < 8 → Cond.arrayOf (.field (ls_tm i) "java/lang/String" "value" "[B") .byte ∈ ls_F := ls_fam (f := fun i => Cond.arrayOf (.field (ls_tm i) "java/lang/String" "value" "[B") .byte) (ls_ps [875, 887, 901, 825, 833, 842, 852, 863] (by decide +kernel))
theorem ls_m4 : ∀ i : Nat, i < 8 → Cond.eq (.length (.field (ls_tm i) "java/lang/String" "value" "[B")) (.int (Int32.ofNat (ls_len.getD i 0))) ∈ ls_F := ls_fam (f := fun i => Cond.eq (.length (.field (ls_tm i) "java/lang/String" "value" "[B")) (.int (Int32.ofNat (ls_len.getD i 0)))) (ls_ps [876, 888, 902, 826, 834, 843, 853, 864] (by decide +kernel))
theorem ls_m5a : ∀ i : Nat, i < 7 → Cond.eq (.elem (.field (ls_tm (i + 1)) "java/lang/String" "value" "[B") (.int (Int32.ofNat 0))) (.int ((ls_byt.getD (i + 1) []).getD 0 0)) ∈ ls_F := ls_fam (f := fun i => Cond.eq (.elem (.field (ls_tm (i + 1)) "java/lang/String" "value" "[B") (.int (Int32.ofNat 0))) (.int ((ls_byt.getD (i + 1) []).getD 0 0))) (ls_ps [889, 903, 827, 835, 844, 854, 865] (by decide +kernel))
theorem ls_m5b : ∀ i : Nat, i < 8 → ls_len.getD i 0 ≤ 1 ∧ (i = 0 → ls_len.getD i 0 = 0) := by decide +kernel
theorem ls_m5 : ∀ i : Nat, i < 8 → ∀ j : Nat, j < ls_len.getD i 0 → Cond.eq (.elem (.field (ls_tm i) "java/lang/String" "value" "[B") (.int (Int32.ofNat j))) (.int ((ls_byt.getD i []).getD j 0)) ∈ ls_F := by
  intro i hi j hj
  obtain ⟨h1, h2⟩ := ls_m5b i hi
  have hj0 : j = 0 := by omega
  have hi0 : i ≠ 0 := fun h => by have := h2 h; omega
  subst hj0
  obtain ⟨k, rfl⟩ : ∃ k, i = k + 1 := ⟨i - 1, by omega⟩
  exact ls_m5a k (by omega)
def ls_pr : List (Nat × Nat) := [(0, 1), (0, 2), (1, 2), (3, 0), (3, 1), (3, 2), (3, 4), (3, 5), (3, 6), (3, 7), (4, 0), (4, 1), (4, 2), (4, 5), (4, 6), (4, 7), (5, 0), (5, 1), (5, 2), (5, 6), (5, 7), (6, 0), (6, 1), (6, 2), (6, 7), (7, 0), (7, 1), (7, 2)]
theorem ls_m6a : ∀ p ∈ ls_pr, Cond.not (Cond.eq (ls_tm p.1) (ls_tm p.2)) ∈ ls_F := fun p hp => ls_ps (ws := ls_pr.map (fun p => Cond.not (Cond.eq (ls_tm p.1) (ls_tm p.2)))) [898, 912, 913, 880, 893, 907, 839, 848, 858, 869, 881, 894, 908, 849, 859, 870, 882, 895, 909, 860, 871, 883, 896, 910, 872, 884, 897, 911] (by decide +kernel) _ (List.mem_map_of_mem hp)
theorem ls_m6c : ∀ i : Nat, i < 8 → ∀ j : Nat, j < 8 → (i == j || ls_pr.any (fun p => p.1 == i && p.2 == j) || ls_pr.any (fun p => p.1 == j && p.2 == i)) = true := by decide +kernel
theorem ls_m6d {i j : Nat} (h : ls_pr.any (fun p => p.1 == i && p.2 == j) = true) : (i, j) ∈ ls_pr := by
  obtain ⟨p, hp, h2⟩ := List.any_eq_true.mp h
  simp only [Bool.and_eq_true, beq_iff_eq] at h2
  rw [← h2.1, ← h2.2]
  exact hp
theorem ls_m6b : ∀ i : Nat, i < 8 → ∀ j : Nat, j < 8 → i ≠ j → (i, j) ∈ ls_pr ∨ (j, i) ∈ ls_pr := by
  intro i hi j hj hij
  have h := ls_m6c i hi j hj
  rcases Bool.or_eq_true_iff.mp h with h | h
  · rcases Bool.or_eq_true_iff.mp h with h | h
    · exact absurd (beq_iff_eq.mp h) hij
    · exact Or.inl (ls_m6d h)
  · exact Or.inr (ls_m6d h)
theorem ls_m6 : ∀ i : Nat, i < 8 → ∀ j : Nat, j < 8 → i ≠ j → Cond.not (Cond.eq (ls_tm i) (ls_tm j)) ∈ ls_F ∨ Cond.not (Cond.eq (ls_tm j) (ls_tm i)) ∈ ls_F := fun i hi j hj h => (ls_m6b i hi j hj h).imp (ls_m6a _) (ls_m6a _)
theorem ls_m7 : ∀ i : Nat, i < 8 → ls_len.getD i 0 < 2 ^ 31 := by decide +kernel
theorem ls_m8 : ∀ j : Nat, j < 100 → Cond.eq (.elem (.static "java/lang/Integer" "DigitOnes" "[B") (.int (Int32.ofNat j))) (.int (cl_c0i 17 j)) ∈ ls_F := ls_fam (f := fun j => Cond.eq (.elem (.static "java/lang/Integer" "DigitOnes" "[B") (.int (Int32.ofNat j))) (.int (cl_c0i 17 j))) (ls_run 24 100 (by decide +kernel))
theorem ls_m9 : ∀ j : Nat, j < 100 → Cond.eq (.elem (.static "java/lang/Integer" "DigitTens" "[B") (.int (Int32.ofNat j))) (.int (cl_c0i 18 j)) ∈ ls_F := ls_fam (f := fun j => Cond.eq (.elem (.static "java/lang/Integer" "DigitTens" "[B") (.int (Int32.ofNat j))) (.int (cl_c0i 18 j))) (ls_run 127 100 (by decide +kernel))
theorem ls_m10 : ∀ w ∈ defaultWords_1, w ∈ ls_F := ls_run 2 8 (by decide +kernel)
theorem ls_m11 : ∀ t ∈ cl_ncs, Cond.not (.castable t.1 t.2) ∈ ls_F := fun t ht => ls_ps (ws := cl_ncs.map (fun t => Cond.not (.castable t.1 t.2))) [573, 571, 605, 258, 259, 305, 468, 491, 514, 536, 492, 515, 537, 469, 516, 538, 447, 470, 493, 539, 448, 471, 494] (by decide +kernel) _ (List.mem_map_of_mem ht)
theorem ls_DF {s : State} {A : Array Value} (hts : ∀ w ∈ lw_tbl, w.before A s = true) (hs : ∀ w ∈ ls_F, w.before A s = true) (hmod : modulesRight_1 s = true) : cl_DF s := by
  have ha : ∀ w ∈ lw_all, w.before A s = true := fun w h => hts w (lw_all_tbl h)
  refine ⟨?_, ?_, fun t ht => va_Nc.of (hs _ (ls_m11 t ht)), hmod, ?_, ?_⟩
  · intro w hw
    refine va_Nw.of (cl_dws_ok w hw).2 (A := A) ?_
    rcases List.mem_append.mp hw with h | h
    · exact hs w (ls_m10 w h)
    · have hy : ∀ (n d : String), (⟨"java/lang/AbstractStringBuilder", n, d⟩ : MethodName).cls ≠ "java/lang/invoke/MethodHandle" ∧ (⟨"java/lang/AbstractStringBuilder", n, d⟩ : MethodName).cls ≠ "java/lang/invoke/VarHandle" := fun n d => ⟨show "java/lang/AbstractStringBuilder" ≠ "java/lang/invoke/MethodHandle" by decide, show "java/lang/AbstractStringBuilder" ≠ "java/lang/invoke/VarHandle" by decide⟩
      have hin := ha _ q618
      revert w
      intro w _ h
      simp only [cl_pws, List.mem_cons, List.not_mem_nil, or_false] at h
      rcases h with e | e | e | e
      · rw [e]; exact ls_priv (hy _ _) hin (by first | exact hts _ q666 | exact ha _ q666) (by first | exact hts _ q667 | exact ha _ q667) (by first | exact hts _ q2056 | exact ha _ q2056)
      · rw [e]; exact ls_priv (hy _ _) hin (by first | exact hts _ q670 | exact ha _ q670) (by first | exact hts _ q671 | exact ha _ q671) (by first | exact hts _ q2057 | exact ha _ q2057)
      · rw [e]; exact ls_priv (hy _ _) hin (by first | exact hts _ q739 | exact ha _ q739) (by first | exact hts _ q740 | exact ha _ q740) (by first | exact hts _ q2058 | exact ha _ q2058)
      · rw [e]; exact ls_priv (hy _ _) hin (by first | exact hts _ q743 | exact ha _ q743) (by first | exact hts _ q744 | exact ha _ q744) (by first | exact hts _ q2059 | exact ha _ q2059)
  · exact ls_sel ⟨by decide, by decide⟩ (hs _ (ls_p 914 (by decide +kernel)))
  · exact ls_lsp (hs _ (ls_p 3 (by decide +kernel))) (ha _ q1506) (hs _ (ls_p 915 (by decide +kernel)))
  · exact ls_lsp (hs _ (ls_p 6 (by decide +kernel))) (ha _ q1535) (hs _ (ls_p 916 (by decide +kernel)))
theorem ls_eqR {args : Array Value} {s : State} {t u : Term} {a b : Nat} (h : (Cond.eq t u).before args s = true) (ht : t.eval args s none [] s = some (.ref a)) (hu : u.eval args s none [] s = some (.ref b)) : a = b := by
  simpa [Cond.before, Cond.holds, Cond.value, ht, hu] using h
theorem ls_T {ty : FieldType} {t N : Nat} {f g : Nat → Value} {A : Nat → Prop} {U : State} {H : Heap} (h : va_T ty t N f A U H) (e : ∀ j, j < N → f j = g j) : va_T ty t N g A U H := by
  obtain ⟨cell, h1, h2, h3, h4, h5, h6, h7⟩ := h
  exact ⟨cell, h1, h2, h3, h4, h5, fun j hj => by rw [h6 j hj, e j hj], h7⟩
theorem ls_c0 : ∀ i : Nat, i < 8 → cl_c0l (i + 9) = ls_len.getD i 0 := by decide +kernel
theorem ls_c1 : ∀ i : Nat, i < 8 → ∀ j : Nat, j < ls_len.getD i 0 → (ls_byt.getD i []).getD j 0 = cl_c0i (i + 9) j := by decide +kernel
set_option maxHeartbeats 2000000 in
theorem ls_N {s : State} {A0 : Array Value} (hts : ∀ w ∈ lw_tbl, w.before A0 s = true) (hs : ∀ w ∈ ls_F, w.before A0 s = true) (hmod : modulesRight_1 s = true) : ∃ b1 : Nat → Nat, ∀ A : Nat → Prop, (∀ q, A q → s.heap.size ≤ q) → cl_N (b1, cl_K) A s.heap s := by
  have ha : ∀ w ∈ lw_all, w.before A0 s = true := fun w h => hts w (lw_all_tbl h)
  have hA : ∀ a : Nat, a < s.heap.size → ¬ (fun q => s.heap.size ≤ q) a := fun a h1 h2 => Nat.lt_irrefl _ (Nat.lt_of_lt_of_le h1 h2)
  obtain ⟨adK, adV, hS, hev⟩ := vk_Sof (args := A0) (s := s) (N := 8) (tm := ls_tm) (len := ls_len) (byt := ls_byt) (A := fun q => s.heap.size ≤ q) ls_m7 (fun i hi => hs _ (ls_m1 i hi)) (fun i hi => hs _ (ls_m2 i hi)) (fun i hi => hs _ (ls_m3 i hi)) (fun i hi => hs _ (ls_m4 i hi)) (fun i hi j hj => hs _ (ls_m5 i hi j hj)) (fun i j hi hj hij => (ls_m6 i hi j hj hij).imp (hs _) (hs _)) hA
  obtain ⟨t1, he1, hT1⟩ := va_Tof (args := A0) (s := s) (tm := .static "java/lang/Integer" "DigitOnes" "[B") (ty := .byte) (N := 100) (f := fun j => .int (cl_c0i 17 j)) (A := fun q => s.heap.size ≤ q) (by decide) (hs _ (ls_p 22 (by decide +kernel))) (va_eqt (hs _ (ls_p 23 (by decide +kernel)))) (fun j hj => va_eqt (hs _ (ls_m8 j hj))) hA
  obtain ⟨t2, he2, hT2⟩ := va_Tof (args := A0) (s := s) (tm := .static "java/lang/Integer" "DigitTens" "[B") (ty := .byte) (N := 100) (f := fun j => .int (cl_c0i 18 j)) (A := fun q => s.heap.size ≤ q) (by decide) (hs _ (ls_p 125 (by decide +kernel))) (va_eqt (hs _ (ls_p 126 (by decide +kernel)))) (fun j hj => va_eqt (hs _ (ls_m9 j hj))) hA
  have z1 := va_Zof (args := A0) (s := s) (C := "java/lang/String") (n := "COMPACT_STRINGS") (d := "Z") (v := .int 1) (A := fun q => s.heap.size ≤ q) (hts _ q627) (ha _ q88) (va_eqt (hs _ (ls_p 15 (by decide +kernel)))) hA
  have z2 := va_Zof (args := A0) (s := s) (C := "java/lang/Integer") (n := "DigitOnes") (d := "[B") (v := .ref t1) (A := fun q => s.heap.size ≤ q) (hts _ q1257) (ha _ q114) he1 hA
  have z3 := va_Zof (args := A0) (s := s) (C := "java/lang/Integer") (n := "DigitTens") (d := "[B") (v := .ref t2) (A := fun q => s.heap.size ≤ q) (hts _ q1259) (ha _ q114) he2 hA
  have z4 := vx_Zqof (args := A0) (s := s) (C := Bundle.tN) (n := "UNASSIGNED_STACK") (d := Bundle.steD) (A := fun q => s.heap.size ≤ q) (hts _ q327) (ha _ q84) (hs _ (ls_p 13 (by decide +kernel))) hA
  have z5 := vx_Zqof (args := A0) (s := s) (C := Bundle.tN) (n := "SUPPRESSED_SENTINEL") (d := Bundle.listD) (A := fun q => s.heap.size ≤ q) (hts _ q329) (ha _ q84) (hs _ (ls_p 14 (by decide +kernel))) hA
  have z6 := va_Zqof (args := A0) (s := s) (C := "jdk/internal/util/Preconditions") (n := "SIOOBE_FORMATTER") (d := "Ljava/util/function/BiFunction;") (A := fun q => s.heap.size ≤ q) (hts _ q716) (ha _ q102) (hs _ (ls_p 16 (by decide +kernel))) hA
  have hrd : (Term.string "DatedContacts$Reader" 100).eval A0 s none [] s = some (.ref (adK 0)) := by
    obtain ⟨a, c, cA, kA, q1, -⟩ := Cond.exactly_spec (args := A0) (first := s) (o := none) (s := s) (idx := []) (t := .string "DatedContacts$Reader" 100) (cls := "java/lang/String") (hs _ (ls_p 817 (by decide +kernel)))
    have h0 : (Term.string "DatedContacts$Chains" 67).eval A0 s none [] s = some (.ref (adK 0)) := hev 0 (by omega)
    have e := ls_eqR (t := .string "DatedContacts$Reader" 100) (u := .string "DatedContacts$Chains" 67) (hs _ (ls_p 879 (by decide +kernel))) q1 h0
    rw [← e]
    exact q1
  refine ⟨fun i => if i ≤ 8 then adK (i - 1) else if i ≤ 16 then adV (i - 9) else if i = 17 then t1 else t2, fun A hAA => ?_⟩
  refine cl_N.mk (cl_N0.of hts (ls_DF hts hs hmod)) ⟨Nat.le_refl _, ⟨?_, ?_⟩, ⟨z1.narrow hAA, z2.narrow hAA, z3.narrow hAA, z4.narrow hAA, z5.narrow hAA, z6.narrow hAA⟩, ?_⟩
  · intro i h1 h2
    obtain ⟨o1, o2, o3, -⟩ := hS.1 (i - 1) (by omega)
    have e1 : (if i ≤ 8 then adK (i - 1) else if i ≤ 16 then adV (i - 9) else if i = 17 then t1 else t2) = adK (i - 1) := if_pos h2
    have e2 : (if i + 8 ≤ 8 then adK (i + 8 - 1) else if i + 8 ≤ 16 then adV (i + 8 - 9) else if i + 8 = 17 then t1 else t2) = adV (i - 1) := by
      rw [if_neg (by omega), if_pos (by omega), show i + 8 - 9 = i - 1 by omega]
    show va_O _ (if i ≤ 8 then adK (i - 1) else if i ≤ 16 then adV (i - 9) else if i = 17 then t1 else t2) A s s.heap ∧ va_OF _ _ _ _ (if i ≤ 8 then adK (i - 1) else if i ≤ 16 then adV (i - 9) else if i = 17 then t1 else t2) A s s.heap ∧ va_OF _ _ _ (.ref (if i + 8 ≤ 8 then adK (i + 8 - 1) else if i + 8 ≤ 16 then adV (i + 8 - 9) else if i + 8 = 17 then t1 else t2)) (if i ≤ 8 then adK (i - 1) else if i ≤ 16 then adV (i - 9) else if i = 17 then t1 else t2) A s s.heap
    rw [e1, e2]
    exact ⟨o1.narrow hAA, o2.narrow hAA, o3.narrow hAA⟩
  · intro i h1 h2
    show va_T .byte (if i ≤ 8 then adK (i - 1) else if i ≤ 16 then adV (i - 9) else if i = 17 then t1 else t2) (cl_c0l i) (fun j => .int (cl_c0i i j)) A s s.heap
    by_cases h16 : i ≤ 16
    · obtain ⟨-, -, -, o4⟩ := hS.1 (i - 9) (by omega)
      rw [if_neg (by omega), if_pos h16]
      have e0 := ls_c0 (i - 9) (by omega)
      rw [show i - 9 + 9 = i by omega] at e0
      rw [e0]
      refine (ls_T o4 (fun j hj => ?_)).narrow hAA
      have e1 := ls_c1 (i - 9) (by omega) j hj
      rw [show i - 9 + 9 = i by omega] at e1
      rw [e1]
    · by_cases h17 : i = 17
      · subst h17
        exact hT1.narrow hAA
      · have h18 : i = 18 := by omega
        subst h18
        exact hT2.narrow hAA
  · exact ⟨vk_R.of (hts _ q1241) (hev 0 (by omega)), vk_R.of (hts _ q653) hrd, vk_R.of (hts _ q1281) (hev 1 (by omega)), vk_R.of (hts _ q1282) (hev 2 (by omega)), vk_R.of (hts _ q907) (hev 3 (by omega)), vk_R.of (hts _ q916) (hev 4 (by omega)), vk_R.of (hts _ q917) (hev 5 (by omega)), vk_R.of (hts _ q918) (hev 6 (by omega)), vk_R.of (hts _ q919) (hev 7 (by omega))⟩
