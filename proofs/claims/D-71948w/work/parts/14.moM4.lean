/-! DatedContactsModel read back and walked (printed by gen/mo.py) -/
theorem mo_d_spared : yX6_spared.cls = RX6 ∧ yX6_spared.cls ≠ "java/lang/invoke/MethodHandle" ∧ yX6_spared.cls ≠ "java/lang/invoke/VarHandle" ∧ (parseMethodDescriptor yX6_spared.desc).map (fun d => d.parameters.length) = some 4 := by decide +kernel
set_option maxHeartbeats 4000000 in
set_option maxRecDepth 100000 in
theorem mo_m_spared (l : Launch) (D : va_G) (di dz : ClassId) (h : Nat) (ad : Nat → Nat) (A : Nat → Prop)  (p0 : Int32) (p1 : Int32) (p2 : Int32) (p3 : Int32) (σ0 : mo_S) (r : Int64) (σ' : mo_S) (hF : mo_spared σ0 p0 p1 p2 p3 = some (r, σ')) : mo_Cl l yX6_spared cX6_spared 13 ({ frames := 5, cells := 0, slots := 0, locals := 123 }) D di dz h ad A [.ref h, .int p0, .int p1, .int p2, .int p3] σ0 r σ' := by
  refine dx_in RX6 rfl (by decide) (Nat.le_of_ble_eq_true rfl) ?_
  intro p e s m below meth c ls S hr hlocks hv hl
  have hx := S.1
  have hb := S.2.1
  have hown := S.2.2.2.1
  have hts := S.2.2.2.2
  obtain ⟨hK, hP, hD⟩ := hv
  have V : mo_V D di dz h ad A s.heap σ0 s s.heap [] := ⟨hK, hP, hD, va_S.rf⟩
  replace hl : lv_has ls 13 [(0, .ref h), (1, .int p0), (2, .int p1), (3, .int p2), (4, .int p3)] := hl
  unfold mo_spared at hF
  have hL77 : ∀ (v1 : Int32) (v2 : Int32) (v3 : Int32) (v4 : Int32) (v7 : Int64) (n : Nat) (v5 : Int64) (v9 : Int32) (σ : mo_S) (H : Heap) (locs : List Loc) (ls : Array Slot), dx_lp (fun x => mo_spared_L77 x.2.2 v1 v2 v3 v4 v7 x.1 x.2.1) n (v5, v9, σ) = some (r, σ') → mo_V D di dz h ad A s.heap σ s H locs → lv_has ls 13 [(0, .ref h), (1, .int v1), (2, .int v2), (3, .int v3), (4, .int v4), (5, .long v5), (7, .long v7), (9, .int v9)] → W p l e ({ frames := 5, cells := 0, slots := 0, locals := 123 }) s m ([.ref h, .int p0, .int p1, .int p2, .int p3] : List Value).toArray below meth c H locs 0 0 (MQ below (mo_Ql D di dz h ad A r σ') ([.ref h, .int p0, .int p1, .int p2, .int p3] : List Value).toArray s 0 0 A) (F0 m 77 ls []) := by
    intro v1 v2 v3 v4 v7 n
    induction n with
    | zero =>
      intro v5 v9 σ H locs ls hF V hl
      exact (dx_lp_0 hF).elim
    | succ n ih77 =>
      intro v5 v9 σ H locs ls hF V hl
      obtain ⟨y77, hF, hz77⟩ := dx_lp_s hF
      replace hF : mo_spared_L77 σ v1 v2 v3 v4 v7 v5 v9 = some y77 := hF
      unfold mo_spared_L77 at hF
      have hL96 : ∀ (σ : mo_S) (v5 : Int64) (v9 : Int32) (n : Nat) (v10 : Int64) (v12 : Int32) (H : Heap) (locs : List Loc) (ls : Array Slot), dx_lp (fun x => mo_spared_L96 σ v1 v2 v3 v4 v5 v7 v9 x.1 x.2) n (v10, v12) = some y77 → mo_V D di dz h ad A s.heap σ s H locs → lv_has ls 13 [(0, .ref h), (1, .int v1), (2, .int v2), (3, .int v3), (4, .int v4), (5, .long v5), (7, .long v7), (9, .int v9), (10, .long v10), (12, .int v12)] → W p l e ({ frames := 5, cells := 0, slots := 0, locals := 123 }) s m ([.ref h, .int p0, .int p1, .int p2, .int p3] : List Value).toArray below meth c H locs 0 0 (MQ below (mo_Ql D di dz h ad A r σ') ([.ref h, .int p0, .int p1, .int p2, .int p3] : List Value).toArray s 0 0 A) (F0 m 96 ls []) := by
        intro σ v5 v9 n
        induction n with
        | zero =>
          intro v10 v12 H locs ls hF V hl
          exact (dx_lp_0 hF).elim
        | succ n ih96 =>
          intro v10 v12 H locs ls hF V hl
          obtain ⟨y96, hF, hz96⟩ := dx_lp_s hF
          replace hF : mo_spared_L96 σ v1 v2 v3 v4 v5 v7 v9 v10 v12 = some y96 := hF
          unfold mo_spared_L96 at hF
          refine lv_iload hx hb dX6_spared_96 (lv_at hl 9 rfl) ?_
          refine lv_aload_n hx hb dX6_spared_98 rfl (lv_at hl 0 rfl) ?_
          refine mo_get S V 13 (by decide) rfl q1628 rfl dX6_spared_99 ?_
          refine lv_iconst (v := 1) hx hb dX6_spared_102 (by decide) ?_
          refine mo_ld S V 5 (by decide) (dx_inb_in rfl) dX6_spared_103 ?_
          refine lv_icmp_ge (tgt := 138) hx hb dX6_spared_104 (by decide) (fun hc => ?_) (fun hc => ?_)
          · replace hF := (if_pos hc).symm.trans hF
            replace hF := dx_ex_k hF hz96
            refine lv_aload_n hx hb dX6_spared_138 rfl (lv_at hl 0 rfl) ?_
            refine lv_aload_n hx hb dX6_spared_139 rfl (lv_at hl 0 rfl) ?_
            refine mo_get S V 13 (by decide) rfl q1628 rfl dX6_spared_140 ?_
            refine lv_iload_n hx hb dX6_spared_143 rfl (lv_at hl 1 rfl) ?_
            refine lv_iconst (v := 0) hx hb dX6_spared_144 (by decide) ?_
            refine lv_iload hx hb dX6_spared_145 (lv_at hl 7 rfl) ?_
            obtain ⟨σ6, h6c, hF⟩ := dx_b1_some hF
            refine mo_cVv S V [.ref (ad 5), .int v1, .int (0 : Int32), .int v9] (mo_m_walks l D di dz h ad A 5 (by decide) v1 (0 : Int32) v9 σ _ h6c) (cwV 4 hts (lw_V q1883 q1885 qs58 q83 q1886) rfl rfl rfl mo_d_walks ⟨Nat.le_of_ble_eq_true rfl, Nat.le_of_ble_eq_true rfl⟩) rfl rfl hl.1 (Nat.le_of_ble_eq_true rfl) dX6_spared_147 (fun _ _ V => ?_)
            refine lv_lload hx hb dX6_spared_150 (lv_at hl 5 rfl) ?_
            refine lv_aload_n hx hb dX6_spared_152 rfl (lv_at hl 0 rfl) ?_
            refine mo_get S V 20 (by decide) rfl q1635 rfl dX6_spared_153 ?_
            refine lv_iload_n hx hb dX6_spared_156 rfl (lv_at hl 2 rfl) ?_
            obtain ⟨hg, hF⟩ := dx_gd_some hF
            refine mo_ld S V 11 (by decide) (dx_inb_in hg) dX6_spared_157 ?_
            refine lv_if_ne (tgt := 166) hx hb dX6_spared_158 (by decide) (fun hc => ?_) (fun hc => ?_)
            · replace hF := (if_neg hc).symm.trans hF
              refine lv_lconst (v := 0) hx hb dX6_spared_166 (by decide) ?_
              refine lv_ladd hx hb dX6_spared_167 ?_
              refine lv_lstore (lv' := [(5, .long (v5 + (0 : Int64))), (0, .ref h), (1, .int v1), (2, .int v2), (3, .int v3), (4, .int v4), (7, .long v7), (9, .int v9), (10, .long v10), (12, .int v12)]) hx hb dX6_spared_168 hl (by decide) rfl (fun ls hl => ?_)
              refine lv_iinc (v := (v9 + (1 : Int32))) (lv' := [(9, .int (v9 + (1 : Int32))), (5, .long (v5 + (0 : Int64))), (0, .ref h), (1, .int v1), (2, .int v2), (3, .int v3), (4, .int v4), (7, .long v7), (10, .long v10), (12, .int v12)]) hx hb dX6_spared_170 hl (k := 7) rfl rfl (by decide) rfl (fun ls hl => ?_)
              refine lv_goto (tgt := 77) hx hb dX6_spared_173 (by decide) ?_
              replace hF := Option.some.inj hF
              subst hF
              exact ih77 (v5 + (0 : Int64)) (v9 + (1 : Int32)) σ6 _ _ _ (dx_lk_l hz77) V (lv_sub hl [2, 3, 4, 5, 6, 1, 7, 0] rfl)
            · replace hF := (if_pos hc).symm.trans hF
              refine lv_lload hx hb dX6_spared_161 (lv_at hl 8 rfl) ?_
              refine lv_goto (tgt := 167) hx hb dX6_spared_163 (by decide) ?_
              refine lv_ladd hx hb dX6_spared_167 ?_
              refine lv_lstore (lv' := [(5, .long (v5 + v10)), (0, .ref h), (1, .int v1), (2, .int v2), (3, .int v3), (4, .int v4), (7, .long v7), (9, .int v9), (10, .long v10), (12, .int v12)]) hx hb dX6_spared_168 hl (by decide) rfl (fun ls hl => ?_)
              refine lv_iinc (v := (v9 + (1 : Int32))) (lv' := [(9, .int (v9 + (1 : Int32))), (5, .long (v5 + v10)), (0, .ref h), (1, .int v1), (2, .int v2), (3, .int v3), (4, .int v4), (7, .long v7), (10, .long v10), (12, .int v12)]) hx hb dX6_spared_170 hl (k := 7) rfl rfl (by decide) rfl (fun ls hl => ?_)
              refine lv_goto (tgt := 77) hx hb dX6_spared_173 (by decide) ?_
              replace hF := Option.some.inj hF
              subst hF
              exact ih77 (v5 + v10) (v9 + (1 : Int32)) σ6 _ _ _ (dx_lk_l hz77) V (lv_sub hl [2, 3, 4, 5, 6, 1, 7, 0] rfl)
          · replace hF := (if_neg hc).symm.trans hF
            refine lv_lload hx hb dX6_spared_107 (lv_at hl 8 rfl) ?_
            refine lv_iload hx hb dX6_spared_109 (lv_at hl 7 rfl) ?_
            refine lv_iload hx hb dX6_spared_111 (lv_at hl 9 rfl) ?_
            obtain ⟨r7, h7c, hF⟩ := dx_b1_some hF
            refine dx_cPi S [.int v9, .int v12] (mo_m_has l v9 v12 _ h7c) (va_cwS 2 hts (lw_S q1887 q1888 q83 q1889) rfl rfl rfl mo_d_has ⟨Nat.le_of_ble_eq_true rfl, Nat.le_of_ble_eq_true rfl⟩) rfl rfl hl.1 (Nat.le_of_ble_eq_true rfl) dX6_spared_113 ⟨Nat.zero_le _, Nat.zero_le _⟩ ?_
            refine lv_if_eq (tgt := 124) hx hb dX6_spared_116 (by decide) (fun hc => ?_) (fun hc => ?_)
            · replace hF := dx_ib_f (dx_bI_0 hc) hF
              refine lv_bipush (v := 10) hx hb dX6_spared_124 (by decide) ?_
              refine lv_iload_n hx hb dX6_spared_126 rfl (lv_at hl 3 rfl) ?_
              refine lv_isub hx hb dX6_spared_127 ?_
              refine lv_i2l hx hb dX6_spared_128 rfl ?_
              refine lv_lmul hx hb dX6_spared_129 ?_
              refine lv_lstore (lv' := [(10, .long (v10 * ((10 : Int32) - v3).toInt64)), (0, .ref h), (1, .int v1), (2, .int v2), (3, .int v3), (4, .int v4), (5, .long v5), (7, .long v7), (9, .int v9), (12, .int v12)]) hx hb dX6_spared_130 hl (by decide) rfl (fun ls hl => ?_)
              refine lv_iinc (v := (v12 + (1 : Int32))) (lv' := [(12, .int (v12 + (1 : Int32))), (10, .long (v10 * ((10 : Int32) - v3).toInt64)), (0, .ref h), (1, .int v1), (2, .int v2), (3, .int v3), (4, .int v4), (5, .long v5), (7, .long v7), (9, .int v9)]) hx hb dX6_spared_132 hl (k := 9) rfl rfl (by decide) rfl (fun ls hl => ?_)
              refine lv_goto (tgt := 96) hx hb dX6_spared_135 (by decide) ?_
              replace hF := Option.some.inj hF
              subst hF
              exact ih96 (v10 * ((10 : Int32) - v3).toInt64) (v12 + (1 : Int32)) _ _ _ (dx_lk_l hz96) V (lv_sub hl [2, 3, 4, 5, 6, 7, 8, 9, 1, 0] rfl)
            · replace hF := dx_ib_t (dx_bI_n hc) hF
              refine lv_iload_n hx hb dX6_spared_119 rfl (lv_at hl 3 rfl) ?_
              refine lv_i2l hx hb dX6_spared_120 rfl ?_
              refine lv_goto (tgt := 129) hx hb dX6_spared_121 (by decide) ?_
              refine lv_lmul hx hb dX6_spared_129 ?_
              refine lv_lstore (lv' := [(10, .long (v10 * v3.toInt64)), (0, .ref h), (1, .int v1), (2, .int v2), (3, .int v3), (4, .int v4), (5, .long v5), (7, .long v7), (9, .int v9), (12, .int v12)]) hx hb dX6_spared_130 hl (by decide) rfl (fun ls hl => ?_)
              refine lv_iinc (v := (v12 + (1 : Int32))) (lv' := [(12, .int (v12 + (1 : Int32))), (10, .long (v10 * v3.toInt64)), (0, .ref h), (1, .int v1), (2, .int v2), (3, .int v3), (4, .int v4), (5, .long v5), (7, .long v7), (9, .int v9)]) hx hb dX6_spared_132 hl (k := 9) rfl rfl (by decide) rfl (fun ls hl => ?_)
              refine lv_goto (tgt := 96) hx hb dX6_spared_135 (by decide) ?_
              replace hF := Option.some.inj hF
              subst hF
              exact ih96 (v10 * v3.toInt64) (v12 + (1 : Int32)) _ _ _ (dx_lk_l hz96) V (lv_sub hl [2, 3, 4, 5, 6, 7, 8, 9, 1, 0] rfl)
      refine lv_iload hx hb dX6_spared_77 (lv_at hl 7 rfl) ?_
      refine lv_iconst (v := 1) hx hb dX6_spared_79 (by decide) ?_
      refine lv_aload_n hx hb dX6_spared_80 rfl (lv_at hl 0 rfl) ?_
      refine mo_get S V 13 (by decide) rfl q1628 rfl dX6_spared_81 ?_
      refine lv_iconst (v := 1) hx hb dX6_spared_84 (by decide) ?_
      refine mo_ld S V 5 (by decide) (dx_inb_in rfl) dX6_spared_85 ?_
      refine lv_ishl hx hb dX6_spared_86 ?_
      refine lv_icmp_ge (tgt := 176) hx hb dX6_spared_87 (by decide) (fun hc => ?_) (fun hc => ?_)
      · replace hF := (if_pos hc).symm.trans hF
        replace hF := dx_ex_k hF hz77
        refine lv_lload hx hb dX6_spared_176 (lv_at hl 5 rfl) ?_
        refine lv_lload hx hb dX6_spared_178 (lv_at hl 6 rfl) ?_
        refine lv_iload hx hb dX6_spared_180 (lv_at hl 4 rfl) ?_
        obtain ⟨r5, h5c, hF⟩ := dx_b1_some hF
        refine dx_cPl S [.long v5, .long v7, .int v4] (mo_m_part_2 l v5 v7 v4 _ h5c) (va_cwS 3 hts (lw_S q1970 q1971 q83 q1972) rfl rfl rfl mo_d_part_2 ⟨Nat.le_of_ble_eq_true rfl, Nat.le_of_ble_eq_true rfl⟩) rfl rfl hl.1 (Nat.le_of_ble_eq_true rfl) dX6_spared_182 ⟨Nat.zero_le _, Nat.zero_le _⟩ ?_
        obtain ⟨hF1, hF2⟩ := dx_r2 hF
        subst hF1
        subst hF2
        exact mo_rl S V hr hlocks dX6_spared_185
      · replace hF := (if_neg hc).symm.trans hF
        refine lv_lconst (v := 1) hx hb dX6_spared_90 (by decide) ?_
        refine lv_lstore (lv' := [(10, .long (1 : Int64)), (0, .ref h), (1, .int v1), (2, .int v2), (3, .int v3), (4, .int v4), (5, .long v5), (7, .long v7), (9, .int v9)]) hx hb dX6_spared_91 hl (by decide) rfl (fun ls hl => ?_)
        refine lv_iconst (v := 0) hx hb dX6_spared_93 (by decide) ?_
        refine lv_istore (lv' := [(12, .int (0 : Int32)), (10, .long (1 : Int64)), (0, .ref h), (1, .int v1), (2, .int v2), (3, .int v3), (4, .int v4), (5, .long v5), (7, .long v7), (9, .int v9)]) hx hb dX6_spared_94 hl (by decide) rfl (fun ls hl => ?_)
        exact hL96 σ v5 v9 dx_fu (1 : Int64) (0 : Int32) _ _ _ hF V (lv_sub hl [2, 3, 4, 5, 6, 7, 8, 9, 1, 0] rfl)
  have hL49 : ∀ (σ : mo_S) (v1 : Int32) (v2 : Int32) (v3 : Int32) (v4 : Int32) (v5 : Int64) (n : Nat) (v7 : Int64) (v9 : Int32) (H : Heap) (locs : List Loc) (ls : Array Slot), dx_lp (fun x => mo_spared_L49 σ v1 v2 v3 v4 v5 x.1 x.2) n (v7, v9) = some (r, σ') → mo_V D di dz h ad A s.heap σ s H locs → lv_has ls 13 [(0, .ref h), (1, .int v1), (2, .int v2), (3, .int v3), (4, .int v4), (5, .long v5), (7, .long v7), (9, .int v9)] → W p l e ({ frames := 5, cells := 0, slots := 0, locals := 123 }) s m ([.ref h, .int p0, .int p1, .int p2, .int p3] : List Value).toArray below meth c H locs 0 0 (MQ below (mo_Ql D di dz h ad A r σ') ([.ref h, .int p0, .int p1, .int p2, .int p3] : List Value).toArray s 0 0 A) (F0 m 49 ls []) := by
    intro σ v1 v2 v3 v4 v5 n
    induction n with
    | zero =>
      intro v7 v9 H locs ls hF V hl
      exact (dx_lp_0 hF).elim
    | succ n ih49 =>
      intro v7 v9 H locs ls hF V hl
      obtain ⟨y49, hF, hz49⟩ := dx_lp_s hF
      replace hF : mo_spared_L49 σ v1 v2 v3 v4 v5 v7 v9 = some y49 := hF
      unfold mo_spared_L49 at hF
      refine lv_iload hx hb dX6_spared_49 (lv_at hl 7 rfl) ?_
      refine lv_aload_n hx hb dX6_spared_51 rfl (lv_at hl 0 rfl) ?_
      refine mo_get S V 13 (by decide) rfl q1628 rfl dX6_spared_52 ?_
      refine lv_iconst (v := 1) hx hb dX6_spared_55 (by decide) ?_
      refine mo_ld S V 5 (by decide) (dx_inb_in rfl) dX6_spared_56 ?_
      refine lv_icmp_ge (tgt := 74) hx hb dX6_spared_57 (by decide) (fun hc => ?_) (fun hc => ?_)
      · replace hF := (if_pos hc).symm.trans hF
        replace hF := dx_ex_k hF hz49
        refine lv_iconst (v := 0) hx hb dX6_spared_74 (by decide) ?_
        refine lv_istore (lv' := [(9, .int (0 : Int32)), (0, .ref h), (1, .int v1), (2, .int v2), (3, .int v3), (4, .int v4), (5, .long v5), (7, .long v7)]) hx hb dX6_spared_75 hl (by decide) rfl (fun ls hl => ?_)
        exact hL77 v1 v2 v3 v4 v7 dx_fu v5 (0 : Int32) σ _ _ _ hF V (lv_sub hl [1, 2, 3, 4, 5, 6, 7, 0] rfl)
      · replace hF := (if_neg hc).symm.trans hF
        refine lv_lload hx hb dX6_spared_60 (lv_at hl 6 rfl) ?_
        refine lv_ldc2 hx hb hown (hts _ q1969) dX6_spared_62 ?_
        refine lv_lmul hx hb dX6_spared_65 ?_
        refine lv_lstore (lv' := [(7, .long (v7 * (10 : Int64))), (0, .ref h), (1, .int v1), (2, .int v2), (3, .int v3), (4, .int v4), (5, .long v5), (9, .int v9)]) hx hb dX6_spared_66 hl (by decide) rfl (fun ls hl => ?_)
        refine lv_iinc (v := (v9 + (1 : Int32))) (lv' := [(9, .int (v9 + (1 : Int32))), (7, .long (v7 * (10 : Int64))), (0, .ref h), (1, .int v1), (2, .int v2), (3, .int v3), (4, .int v4), (5, .long v5)]) hx hb dX6_spared_68 hl (k := 7) rfl rfl (by decide) rfl (fun ls hl => ?_)
        refine lv_goto (tgt := 49) hx hb dX6_spared_71 (by decide) ?_
        replace hF := Option.some.inj hF
        subst hF
        exact ih49 (v7 * (10 : Int64)) (v9 + (1 : Int32)) _ _ _ (dx_lk_l hz49) V (lv_sub hl [2, 3, 4, 5, 6, 7, 1, 0] rfl)
  refine lv_aload_n hx hb dX6_spared_0 rfl (lv_at hl 0 rfl) ?_
  refine lv_iload_n hx hb dX6_spared_1 rfl (lv_at hl 1 rfl) ?_
  obtain ⟨r1, h1c, hF⟩ := dx_b1_some hF
  refine mo_cVi S V [.int p0] (mo_m_isPerson l D di dz h ad A  p0 σ0 _ h1c) (cwV 1 hts (lw_V q1815 q1817 qs51 q83 q1818) rfl rfl rfl mo_d_isPerson ⟨Nat.le_of_ble_eq_true rfl, Nat.le_of_ble_eq_true rfl⟩) rfl rfl hl.1 (Nat.le_of_ble_eq_true rfl) dX6_spared_2 (fun _ _ V => ?_)
  refine lv_if_eq (tgt := 36) hx hb dX6_spared_5 (by decide) (fun hc => ?_) (fun hc => ?_)
  · replace hF := dx_ib_f (dx_bI_0 hc) hF
    refine lv_ldc2 hx hb hown (hts _ q1968) dX6_spared_36 ?_
    obtain ⟨hF1, hF2⟩ := dx_r2 hF
    subst hF1
    subst hF2
    exact mo_rl S V hr hlocks dX6_spared_39
  · replace hF := dx_ib_t (dx_bI_n hc) hF
    refine lv_aload_n hx hb dX6_spared_8 rfl (lv_at hl 0 rfl) ?_
    refine lv_iload_n hx hb dX6_spared_9 rfl (lv_at hl 2 rfl) ?_
    obtain ⟨r2, h2c, hF⟩ := dx_b1_some hF
    refine mo_cVi S V [.int p1] (mo_m_isPerson l D di dz h ad A  p1 σ0 _ h2c) (cwV 1 hts (lw_V q1815 q1817 qs51 q83 q1818) rfl rfl rfl mo_d_isPerson ⟨Nat.le_of_ble_eq_true rfl, Nat.le_of_ble_eq_true rfl⟩) rfl rfl hl.1 (Nat.le_of_ble_eq_true rfl) dX6_spared_10 (fun _ _ V => ?_)
    refine lv_if_eq (tgt := 36) hx hb dX6_spared_13 (by decide) (fun hc => ?_) (fun hc => ?_)
    · replace hF := dx_ib_f (dx_bI_0 hc) hF
      refine lv_ldc2 hx hb hown (hts _ q1968) dX6_spared_36 ?_
      obtain ⟨hF1, hF2⟩ := dx_r2 hF
      subst hF1
      subst hF2
      exact mo_rl S V hr hlocks dX6_spared_39
    · replace hF := dx_ib_t (dx_bI_n hc) hF
      refine lv_iload_n hx hb dX6_spared_16 rfl (lv_at hl 3 rfl) ?_
      refine lv_iconst (v := 0) hx hb dX6_spared_17 (by decide) ?_
      refine lv_bipush (v := 10) hx hb dX6_spared_18 (by decide) ?_
      obtain ⟨r3, h3c, hF⟩ := dx_b1_some hF
      refine dx_cPi S [.int p2, .int (0 : Int32), .int (10 : Int32)] (mo_m_in l p2 (0 : Int32) (10 : Int32) _ h3c) (va_cwS 3 hts (lw_S q1711 q1712 q83 q1713) rfl rfl rfl mo_d_in ⟨Nat.le_of_ble_eq_true rfl, Nat.le_of_ble_eq_true rfl⟩) rfl rfl hl.1 (Nat.le_of_ble_eq_true rfl) dX6_spared_20 ⟨Nat.zero_le _, Nat.zero_le _⟩ ?_
      refine lv_if_eq (tgt := 36) hx hb dX6_spared_23 (by decide) (fun hc => ?_) (fun hc => ?_)
      · replace hF := dx_ib_f (dx_bI_0 hc) hF
        refine lv_ldc2 hx hb hown (hts _ q1968) dX6_spared_36 ?_
        obtain ⟨hF1, hF2⟩ := dx_r2 hF
        subst hF1
        subst hF2
        exact mo_rl S V hr hlocks dX6_spared_39
      · replace hF := dx_ib_t (dx_bI_n hc) hF
        refine lv_iload hx hb dX6_spared_26 (lv_at hl 4 rfl) ?_
        refine lv_iconst (v := 0) hx hb dX6_spared_28 (by decide) ?_
        refine lv_iconst (v := 1) hx hb dX6_spared_29 (by decide) ?_
        obtain ⟨r4, h4c, hF⟩ := dx_b1_some hF
        refine dx_cPi S [.int p3, .int (0 : Int32), .int (1 : Int32)] (mo_m_in l p3 (0 : Int32) (1 : Int32) _ h4c) (va_cwS 3 hts (lw_S q1711 q1712 q83 q1713) rfl rfl rfl mo_d_in ⟨Nat.le_of_ble_eq_true rfl, Nat.le_of_ble_eq_true rfl⟩) rfl rfl hl.1 (Nat.le_of_ble_eq_true rfl) dX6_spared_30 ⟨Nat.zero_le _, Nat.zero_le _⟩ ?_
        refine lv_if_ne (tgt := 40) hx hb dX6_spared_33 (by decide) (fun hc => ?_) (fun hc => ?_)
        · replace hF := dx_ib_t (dx_bI_n hc) hF
          refine lv_lconst (v := 0) hx hb dX6_spared_40 (by decide) ?_
          refine lv_lstore (lv' := [(5, .long (0 : Int64)), (0, .ref h), (1, .int p0), (2, .int p1), (3, .int p2), (4, .int p3)]) hx hb dX6_spared_41 hl (by decide) rfl (fun ls hl => ?_)
          refine lv_lconst (v := 1) hx hb dX6_spared_43 (by decide) ?_
          refine lv_lstore (lv' := [(7, .long (1 : Int64)), (5, .long (0 : Int64)), (0, .ref h), (1, .int p0), (2, .int p1), (3, .int p2), (4, .int p3)]) hx hb dX6_spared_44 hl (by decide) rfl (fun ls hl => ?_)
          refine lv_iconst (v := 0) hx hb dX6_spared_46 (by decide) ?_
          refine lv_istore (lv' := [(9, .int (0 : Int32)), (7, .long (1 : Int64)), (5, .long (0 : Int64)), (0, .ref h), (1, .int p0), (2, .int p1), (3, .int p2), (4, .int p3)]) hx hb dX6_spared_47 hl (by decide) rfl (fun ls hl => ?_)
          exact hL49 σ0 p0 p1 p2 p3 (0 : Int64) dx_fu (1 : Int64) (0 : Int32) _ _ _ hF V (lv_sub hl [3, 4, 5, 6, 7, 2, 1, 0] rfl)
        · replace hF := dx_ib_f (dx_bI_0 hc) hF
          refine lv_ldc2 hx hb hown (hts _ q1968) dX6_spared_36 ?_
          obtain ⟨hF1, hF2⟩ := dx_r2 hF
          subst hF1
          subst hF2
          exact mo_rl S V hr hlocks dX6_spared_39
theorem mo_d_firstOf : yX6_firstOf.cls ≠ "java/lang/invoke/MethodHandle" ∧ yX6_firstOf.cls ≠ "java/lang/invoke/VarHandle" ∧ (parseMethodDescriptor yX6_firstOf.desc).map (fun d => d.parameters.length) = some 1 := by decide +kernel
set_option maxHeartbeats 4000000 in
set_option maxRecDepth 100000 in
theorem mo_m_firstOf (l : Launch) (p0 : Int32) (r : Int32) (hF : mo_firstOf p0 = some r) : dx_Pi l yX6_firstOf cX6_firstOf 2 .int ({ frames := 1, cells := 0, slots := 0, locals := 21 }) [.int p0] r := by
  refine dx_in RX6 rfl (by decide) (Nat.le_of_ble_eq_true rfl) ?_
  intro p e s m below meth c ls S hr hlocks hv hl
  have hx := S.1
  have hb := S.2.1
  have hown := S.2.2.2.1
  have hts := S.2.2.2.2
  replace hl : lv_has ls 2 [(0, .int p0)] := hl
  unfold mo_firstOf at hF
  have hJ22 : ∀ (v1 : Int32) (ls : Array Slot), mo_firstOf_J22 v1 = some r → lv_has ls 2 [(1, .int v1)] → W p l e ({ frames := 1, cells := 0, slots := 0, locals := 21 }) s m ([.int p0] : List Value).toArray below meth c s.heap [] 0 0 (MQ below (vp_Si (fun r2 => r2 = r)) ([.int p0] : List Value).toArray s 0 0 (fun _ => False)) (F0 m 22 ls []) := by
    intro v1 ls hF hl
    unfold mo_firstOf_J22 at hF
    refine lv_iload_n hx hb dX6_firstOf_22 rfl (lv_at hl 0 rfl) ?_
    refine lv_bipush (v := 31) hx hb dX6_firstOf_23 (by decide) ?_
    refine lv_icmp_ge (tgt := 32) hx hb dX6_firstOf_25 (by decide) (fun hc => ?_) (fun hc => ?_)
    · replace hF := (if_pos hc).symm.trans hF
      refine lv_iconst (v := (-1)) hx hb dX6_firstOf_32 (by decide) ?_
      replace hF := Option.some.inj hF
      subst hF
      exact dx_rPi S hr hlocks rfl dX6_firstOf_33
    · replace hF := (if_neg hc).symm.trans hF
      refine lv_iload_n hx hb dX6_firstOf_28 rfl (lv_at hl 0 rfl) ?_
      refine lv_goto (tgt := 33) hx hb dX6_firstOf_29 (by decide) ?_
      replace hF := Option.some.inj hF
      subst hF
      exact dx_rPi S hr hlocks rfl dX6_firstOf_33
  have hL2 : ∀ (v0 : Int32) (n : Nat) (v1 : Int32) (ls : Array Slot), dx_lp (fun x => mo_firstOf_L2 v0 x) n v1 = some r → lv_has ls 2 [(0, .int v0), (1, .int v1)] → W p l e ({ frames := 1, cells := 0, slots := 0, locals := 21 }) s m ([.int p0] : List Value).toArray below meth c s.heap [] 0 0 (MQ below (vp_Si (fun r2 => r2 = r)) ([.int p0] : List Value).toArray s 0 0 (fun _ => False)) (F0 m 2 ls []) := by
    intro v0 n
    induction n with
    | zero =>
      intro v1 ls hF hl
      exact (dx_lp_0 hF).elim
    | succ n ih2 =>
      intro v1 ls hF hl
      obtain ⟨y2, hF, hz2⟩ := dx_lp_s hF
      replace hF : mo_firstOf_L2 v0 v1 = some y2 := hF
      unfold mo_firstOf_L2 at hF
      refine lv_iload_n hx hb dX6_firstOf_2 rfl (lv_at hl 1 rfl) ?_
      refine lv_bipush (v := 31) hx hb dX6_firstOf_3 (by decide) ?_
      refine lv_icmp_ge (tgt := 22) hx hb dX6_firstOf_5 (by decide) (fun hc => ?_) (fun hc => ?_)
      · replace hF := (if_pos hc).symm.trans hF
        replace hF := dx_ex_k hF hz2
        exact hJ22 v1 _ hF (lv_sub hl [1] rfl)
      · replace hF := (if_neg hc).symm.trans hF
        refine lv_iload_n hx hb dX6_firstOf_8 rfl (lv_at hl 0 rfl) ?_
        refine lv_iload_n hx hb dX6_firstOf_9 rfl (lv_at hl 1 rfl) ?_
        obtain ⟨r1, h1c, hF⟩ := dx_b1_some hF
        refine dx_cPi S [.int v0, .int v1] (mo_m_has l v0 v1 _ h1c) (va_cwS 2 hts (lw_S q1887 q1888 q83 q1889) rfl rfl rfl mo_d_has ⟨Nat.le_of_ble_eq_true rfl, Nat.le_of_ble_eq_true rfl⟩) rfl rfl hl.1 (Nat.le_of_ble_eq_true rfl) dX6_firstOf_10 ⟨Nat.zero_le _, Nat.zero_le _⟩ ?_
        refine lv_if_ne (tgt := 22) hx hb dX6_firstOf_13 (by decide) (fun hc => ?_) (fun hc => ?_)
        · replace hF := dx_ib_t (dx_bI_n hc) hF
          replace hF := dx_ex_k hF hz2
          exact hJ22 v1 _ hF (lv_sub hl [1] rfl)
        · replace hF := dx_ib_f (dx_bI_0 hc) hF
          refine lv_iinc (v := (v1 + (1 : Int32))) (lv' := [(1, .int (v1 + (1 : Int32))), (0, .int v0)]) hx hb dX6_firstOf_16 hl (k := 1) rfl rfl (by decide) rfl (fun ls hl => ?_)
          refine lv_goto (tgt := 2) hx hb dX6_firstOf_19 (by decide) ?_
          replace hF := Option.some.inj hF
          subst hF
          exact ih2 (v1 + (1 : Int32)) _ (dx_lk_l hz2) (lv_sub hl [1, 0] rfl)
  refine lv_iconst (v := 0) hx hb dX6_firstOf_0 (by decide) ?_
  refine lv_istore_n (lv' := [(1, .int (0 : Int32)), (0, .int p0)]) hx hb dX6_firstOf_1 rfl hl (by decide) rfl (fun ls hl => ?_)
  exact hL2 p0 dx_fu (0 : Int32) _ hF (lv_sub hl [1, 0] rfl)
theorem mo_d_fits : yX6_fits.cls = RX6 ∧ yX6_fits.cls ≠ "java/lang/invoke/MethodHandle" ∧ yX6_fits.cls ≠ "java/lang/invoke/VarHandle" ∧ (parseMethodDescriptor yX6_fits.desc).map (fun d => d.parameters.length) = some 5 := by decide +kernel
set_option maxHeartbeats 4000000 in
set_option maxRecDepth 100000 in
theorem mo_m_fits (l : Launch) (D : va_G) (di dz : ClassId) (h : Nat) (ad : Nat → Nat) (A : Nat → Prop)  (p0 : Int32) (p1 : Int32) (p2 : Int32) (p3 : Int32) (p4 : Int32) (σ0 : mo_S) (r : Int32) (σ' : mo_S) (hF : mo_fits σ0 p0 p1 p2 p3 p4 = some (r, σ')) : mo_Ci l yX6_fits cX6_fits 13 .int ({ frames := 5, cells := 0, slots := 0, locals := 123 }) D di dz h ad A [.ref h, .int p0, .int p1, .int p2, .int p3, .int p4] σ0 r σ' := by
  refine dx_in RX6 rfl (by decide) (Nat.le_of_ble_eq_true rfl) ?_
  intro p e s m below meth c ls S hr hlocks hv hl
  have hx := S.1
  have hb := S.2.1
  have hown := S.2.2.2.1
  have hts := S.2.2.2.2
  obtain ⟨hK, hP, hD⟩ := hv
  have V : mo_V D di dz h ad A s.heap σ0 s s.heap [] := ⟨hK, hP, hD, va_S.rf⟩
  replace hl : lv_has ls 13 [(0, .ref h), (1, .int p0), (2, .int p1), (3, .int p2), (4, .int p3), (5, .int p4)] := hl
  unfold mo_fits at hF
  have hL215 : ∀ (v1 : Int32) (v3 : Int32) (v4 : Int32) (v7 : Int32) (v8 : Int32) (n : Nat) (v9 : Int32) (v10 : Int32) (σ : mo_S) (H : Heap) (locs : List Loc) (ls : Array Slot), dx_lp (fun x => mo_fits_L215 x.2.2 v1 v3 v4 v7 v8 x.1 x.2.1) n (v9, v10, σ) = some (r, σ') → mo_V D di dz h ad A s.heap σ s H locs → lv_has ls 13 [(0, .ref h), (1, .int v1), (3, .int v3), (4, .int v4), (7, .int v7), (8, .int v8), (9, .int v9), (10, .int v10)] → W p l e ({ frames := 5, cells := 0, slots := 0, locals := 123 }) s m ([.ref h, .int p0, .int p1, .int p2, .int p3, .int p4] : List Value).toArray below meth c H locs 0 0 (MQ below (mo_Qi D di dz h ad A r σ') ([.ref h, .int p0, .int p1, .int p2, .int p3, .int p4] : List Value).toArray s 0 0 A) (F0 m 215 ls []) := by
    intro v1 v3 v4 v7 v8 n
    induction n with
    | zero =>
      intro v9 v10 σ H locs ls hF V hl
      exact (dx_lp_0 hF).elim
    | succ n ih215 =>
      intro v9 v10 σ H locs ls hF V hl
      obtain ⟨y215, hF, hz215⟩ := dx_lp_s hF
      replace hF : mo_fits_L215 σ v1 v3 v4 v7 v8 v9 v10 = some y215 := hF
      unfold mo_fits_L215 at hF
      have hL248 : ∀ (σ : mo_S) (v9 : Int32) (v10 : Int32) (n : Nat) (v11 : Bool) (v12 : Int32) (H : Heap) (locs : List Loc) (ls : Array Slot), dx_lp (fun x => mo_fits_L248 σ v1 v3 v4 v7 v8 v9 v10 x.1 x.2) n (v11, v12) = some y215 → mo_V D di dz h ad A s.heap σ s H locs → lv_has ls 13 [(0, .ref h), (1, .int v1), (3, .int v3), (4, .int v4), (7, .int v7), (8, .int v8), (9, .int v9), (10, .int v10), (11, .int (dx_bI v11)), (12, .int v12)] → W p l e ({ frames := 5, cells := 0, slots := 0, locals := 123 }) s m ([.ref h, .int p0, .int p1, .int p2, .int p3, .int p4] : List Value).toArray below meth c H locs 0 0 (MQ below (mo_Qi D di dz h ad A r σ') ([.ref h, .int p0, .int p1, .int p2, .int p3, .int p4] : List Value).toArray s 0 0 A) (F0 m 248 ls []) := by
        intro σ v9 v10 n
        induction n with
        | zero =>
          intro v11 v12 H locs ls hF V hl
          exact (dx_lp_0 hF).elim
        | succ n ih248 =>
          intro v11 v12 H locs ls hF V hl
          obtain ⟨y248, hF, hz248⟩ := dx_lp_s hF
          replace hF : mo_fits_L248 σ v1 v3 v4 v7 v8 v9 v10 v11 v12 = some y248 := hF
          unfold mo_fits_L248 at hF
          refine lv_iload hx hb dX6_fits_248 (lv_at hl 9 rfl) ?_
          refine lv_iload hx hb dX6_fits_250 (lv_at hl 3 rfl) ?_
          refine lv_icmp_ge (tgt := 298) hx hb dX6_fits_252 (by decide) (fun hc => ?_) (fun hc => ?_)
          · replace hF := (if_pos hc).symm.trans hF
            replace hF := dx_ex_k hF hz248
            refine lv_iload hx hb dX6_fits_298 (lv_at hl 6 rfl) ?_
            refine lv_iload hx hb dX6_fits_300 (lv_at hl 8 rfl) ?_
            refine lv_if_eq (tgt := 312) hx hb dX6_fits_302 (by decide) (fun hc => ?_) (fun hc => ?_)
            · replace hF := dx_ib_f (dx_bI_0 hc) hF
              refine lv_iconst (v := 0) hx hb dX6_fits_312 (by decide) ?_
              refine lv_ior hx hb dX6_fits_313 ?_
              refine lv_istore (lv' := [(9, .int (v9 ||| (0 : Int32))), (0, .ref h), (1, .int v1), (3, .int v3), (4, .int v4), (7, .int v7), (8, .int v8), (10, .int v10), (11, .int (dx_bI v11)), (12, .int v12)]) hx hb dX6_fits_314 hl (by decide) rfl (fun ls hl => ?_)
              refine lv_iinc (v := (v10 + (1 : Int32))) (lv' := [(10, .int (v10 + (1 : Int32))), (9, .int (v9 ||| (0 : Int32))), (0, .ref h), (1, .int v1), (3, .int v3), (4, .int v4), (7, .int v7), (8, .int v8), (11, .int (dx_bI v11)), (12, .int v12)]) hx hb dX6_fits_316 hl (k := 7) rfl rfl (by decide) rfl (fun ls hl => ?_)
              refine lv_goto (tgt := 215) hx hb dX6_fits_319 (by decide) ?_
              replace hF := Option.some.inj hF
              subst hF
              exact ih215 (v9 ||| (0 : Int32)) (v10 + (1 : Int32)) σ _ _ _ (dx_lk_l hz215) V (lv_sub hl [2, 3, 4, 5, 6, 7, 1, 0] rfl)
            · replace hF := dx_ib_t (dx_bI_n hc) hF
              refine lv_iconst (v := 1) hx hb dX6_fits_305 (by decide) ?_
              refine lv_iload hx hb dX6_fits_306 (lv_at hl 7 rfl) ?_
              refine lv_ishl hx hb dX6_fits_308 ?_
              refine lv_goto (tgt := 313) hx hb dX6_fits_309 (by decide) ?_
              refine lv_ior hx hb dX6_fits_313 ?_
              refine lv_istore (lv' := [(9, .int (v9 ||| ((1 : Int32) <<< (v10 &&& 31)))), (0, .ref h), (1, .int v1), (3, .int v3), (4, .int v4), (7, .int v7), (8, .int v8), (10, .int v10), (11, .int (dx_bI v11)), (12, .int v12)]) hx hb dX6_fits_314 hl (by decide) rfl (fun ls hl => ?_)
              refine lv_iinc (v := (v10 + (1 : Int32))) (lv' := [(10, .int (v10 + (1 : Int32))), (9, .int (v9 ||| ((1 : Int32) <<< (v10 &&& 31)))), (0, .ref h), (1, .int v1), (3, .int v3), (4, .int v4), (7, .int v7), (8, .int v8), (11, .int (dx_bI v11)), (12, .int v12)]) hx hb dX6_fits_316 hl (k := 7) rfl rfl (by decide) rfl (fun ls hl => ?_)
              refine lv_goto (tgt := 215) hx hb dX6_fits_319 (by decide) ?_
              replace hF := Option.some.inj hF
              subst hF
              exact ih215 (v9 ||| ((1 : Int32) <<< (v10 &&& 31))) (v10 + (1 : Int32)) σ _ _ _ (dx_lk_l hz215) V (lv_sub hl [2, 3, 4, 5, 6, 7, 1, 0] rfl)
          · replace hF := (if_neg hc).symm.trans hF
            refine lv_iload hx hb dX6_fits_255 (lv_at hl 8 rfl) ?_
            refine lv_if_eq (tgt := 289) hx hb dX6_fits_257 (by decide) (fun hc => ?_) (fun hc => ?_)
            · replace hF := dx_ib_f (dx_bI_0 hc) hF
              refine lv_iconst (v := 0) hx hb dX6_fits_289 (by decide) ?_
              refine lv_istore (lv' := [(11, .int (0 : Int32)), (0, .ref h), (1, .int v1), (3, .int v3), (4, .int v4), (7, .int v7), (8, .int v8), (9, .int v9), (10, .int v10), (12, .int v12)]) hx hb dX6_fits_290 hl (by decide) rfl (fun ls hl => ?_)
              refine lv_iinc (v := (v12 + (1 : Int32))) (lv' := [(12, .int (v12 + (1 : Int32))), (11, .int (0 : Int32)), (0, .ref h), (1, .int v1), (3, .int v3), (4, .int v4), (7, .int v7), (8, .int v8), (9, .int v9), (10, .int v10)]) hx hb dX6_fits_292 hl (k := 9) rfl rfl (by decide) rfl (fun ls hl => ?_)
              refine lv_goto (tgt := 248) hx hb dX6_fits_295 (by decide) ?_
              replace hF := Option.some.inj hF
              subst hF
              exact ih248 false (v12 + (1 : Int32)) _ _ _ (dx_lk_l hz248) V (lv_sub hl [2, 3, 4, 5, 6, 7, 8, 9, 1, 0] rfl)
            · replace hF := dx_ib_t (dx_bI_n hc) hF
              refine lv_aload_n hx hb dX6_fits_260 rfl (lv_at hl 0 rfl) ?_
              refine mo_get S V 20 (by decide) rfl q1635 rfl dX6_fits_261 ?_
              refine lv_iload hx hb dX6_fits_264 (lv_at hl 9 rfl) ?_
              obtain ⟨hg, hF⟩ := dx_gd_some hF
              refine mo_ld S V 11 (by decide) (dx_inb_in hg) dX6_fits_266 ?_
              obtain ⟨r9, h9c, hF⟩ := dx_b1_some hF
              refine dx_cPi S [.int (σ.2 11 v12.toNatClampNeg)] (mo_m_firstOf l (σ.2 11 v12.toNatClampNeg) _ h9c) (va_cwS 1 hts (lw_S q1977 q1978 q83 q1979) rfl rfl rfl mo_d_firstOf ⟨Nat.le_of_ble_eq_true rfl, Nat.le_of_ble_eq_true rfl⟩) rfl rfl hl.1 (Nat.le_of_ble_eq_true rfl) dX6_fits_267 ⟨Nat.zero_le _, Nat.zero_le _⟩ ?_
              refine lv_aload_n hx hb dX6_fits_270 rfl (lv_at hl 0 rfl) ?_
              refine mo_get S V 2 (by decide) rfl q1617 rfl dX6_fits_271 ?_
              refine lv_bipush (v := 40) hx hb dX6_fits_274 (by decide) ?_
              refine lv_iload_n hx hb dX6_fits_276 rfl (lv_at hl 2 rfl) ?_
              refine lv_imul hx hb dX6_fits_277 ?_
              refine lv_iload hx hb dX6_fits_278 (lv_at hl 9 rfl) ?_
              refine lv_iadd hx hb dX6_fits_280 ?_
              obtain ⟨hg, hF⟩ := dx_gd_some hF
              refine mo_ld S V 2 (by decide) (dx_inb_in hg) dX6_fits_281 ?_
              refine lv_icmp_ne (tgt := 289) hx hb dX6_fits_282 (by decide) (fun hc => ?_) (fun hc => ?_)
              · replace hF := (if_neg hc).symm.trans hF
                refine lv_iconst (v := 0) hx hb dX6_fits_289 (by decide) ?_
                refine lv_istore (lv' := [(11, .int (0 : Int32)), (0, .ref h), (1, .int v1), (3, .int v3), (4, .int v4), (7, .int v7), (8, .int v8), (9, .int v9), (10, .int v10), (12, .int v12)]) hx hb dX6_fits_290 hl (by decide) rfl (fun ls hl => ?_)
                refine lv_iinc (v := (v12 + (1 : Int32))) (lv' := [(12, .int (v12 + (1 : Int32))), (11, .int (0 : Int32)), (0, .ref h), (1, .int v1), (3, .int v3), (4, .int v4), (7, .int v7), (8, .int v8), (9, .int v9), (10, .int v10)]) hx hb dX6_fits_292 hl (k := 9) rfl rfl (by decide) rfl (fun ls hl => ?_)
                refine lv_goto (tgt := 248) hx hb dX6_fits_295 (by decide) ?_
                replace hF := Option.some.inj hF
                subst hF
                exact ih248 false (v12 + (1 : Int32)) _ _ _ (dx_lk_l hz248) V (lv_sub hl [2, 3, 4, 5, 6, 7, 8, 9, 1, 0] rfl)
              · replace hF := (if_pos hc).symm.trans hF
                refine lv_iconst (v := 1) hx hb dX6_fits_285 (by decide) ?_
                refine lv_goto (tgt := 290) hx hb dX6_fits_286 (by decide) ?_
                refine lv_istore (lv' := [(11, .int (1 : Int32)), (0, .ref h), (1, .int v1), (3, .int v3), (4, .int v4), (7, .int v7), (8, .int v8), (9, .int v9), (10, .int v10), (12, .int v12)]) hx hb dX6_fits_290 hl (by decide) rfl (fun ls hl => ?_)
                refine lv_iinc (v := (v12 + (1 : Int32))) (lv' := [(12, .int (v12 + (1 : Int32))), (11, .int (1 : Int32)), (0, .ref h), (1, .int v1), (3, .int v3), (4, .int v4), (7, .int v7), (8, .int v8), (9, .int v9), (10, .int v10)]) hx hb dX6_fits_292 hl (k := 9) rfl rfl (by decide) rfl (fun ls hl => ?_)
                refine lv_goto (tgt := 248) hx hb dX6_fits_295 (by decide) ?_
                replace hF := Option.some.inj hF
                subst hF
                exact ih248 true (v12 + (1 : Int32)) _ _ _ (dx_lk_l hz248) V (lv_sub hl [2, 3, 4, 5, 6, 7, 8, 9, 1, 0] rfl)
      refine lv_iload hx hb dX6_fits_215 (lv_at hl 7 rfl) ?_
      refine lv_iload hx hb dX6_fits_217 (lv_at hl 5 rfl) ?_
      refine lv_icmp_gt (tgt := 322) hx hb dX6_fits_219 (by decide) (fun hc => ?_) (fun hc => ?_)
      · replace hF := (if_pos hc).symm.trans hF
        replace hF := dx_ex_k hF hz215
        refine lv_aload_n hx hb dX6_fits_322 rfl (lv_at hl 0 rfl) ?_
        refine lv_iload hx hb dX6_fits_323 (lv_at hl 6 rfl) ?_
        obtain ⟨r7, σ7, h7c, hF⟩ := dx_b2_some hF
        refine mo_cVi S V [.int v9] (mo_m_well l D di dz h ad A  v9 σ _ _ h7c) (cwV 1 hts (lw_V q1720 q1722 qs37 q83 q1723) rfl rfl rfl mo_d_well ⟨Nat.le_of_ble_eq_true rfl, Nat.le_of_ble_eq_true rfl⟩) rfl rfl hl.1 (Nat.le_of_ble_eq_true rfl) dX6_fits_325 (fun _ _ V => ?_)
        obtain ⟨hF1, hF2⟩ := dx_r2 hF
        subst hF1
        subst hF2
        exact mo_ri S V hr hlocks rfl dX6_fits_328
      · replace hF := (if_neg hc).symm.trans hF
        refine lv_aload_n hx hb dX6_fits_222 rfl (lv_at hl 0 rfl) ?_
        refine mo_get S V 15 (by decide) rfl q1630 rfl dX6_fits_223 ?_
        refine lv_iload hx hb dX6_fits_226 (lv_at hl 4 rfl) ?_
        refine lv_iload hx hb dX6_fits_228 (lv_at hl 7 rfl) ?_
        obtain ⟨hg, hF⟩ := dx_gd_some hF
        refine mo_st S V 7 (by decide) (dx_inb_in hg) dX6_fits_230 (fun _ _ V => ?_)
        refine lv_aload_n hx hb dX6_fits_231 rfl (lv_at hl 0 rfl) ?_
        refine lv_aload_n hx hb dX6_fits_232 rfl (lv_at hl 0 rfl) ?_
        refine mo_get S V 15 (by decide) rfl q1630 rfl dX6_fits_233 ?_
        refine lv_iload_n hx hb dX6_fits_236 rfl (lv_at hl 1 rfl) ?_
        refine lv_iconst (v := 0) hx hb dX6_fits_237 (by decide) ?_
        refine lv_iconst (v := 0) hx hb dX6_fits_238 (by decide) ?_
        obtain ⟨σ8, h8c, hF⟩ := dx_b1_some hF
        refine mo_cVv S V [.ref (ad 7), .int v1, .int (0 : Int32), .int (0 : Int32)] (mo_m_walks l D di dz h ad A 7 (by decide) v1 (0 : Int32) (0 : Int32) (mo_A σ 7 v7.toNatClampNeg v10) _ h8c) (cwV 4 hts (lw_V q1883 q1885 qs58 q83 q1886) rfl rfl rfl mo_d_walks ⟨Nat.le_of_ble_eq_true rfl, Nat.le_of_ble_eq_true rfl⟩) rfl rfl hl.1 (Nat.le_of_ble_eq_true rfl) dX6_fits_239 (fun _ _ V => ?_)
        refine lv_iconst (v := 1) hx hb dX6_fits_242 (by decide) ?_
        refine lv_istore (lv' := [(11, .int (1 : Int32)), (0, .ref h), (1, .int v1), (3, .int v3), (4, .int v4), (7, .int v7), (8, .int v8), (9, .int v9), (10, .int v10)]) hx hb dX6_fits_243 hl (by decide) rfl (fun ls hl => ?_)
        refine lv_iconst (v := 0) hx hb dX6_fits_245 (by decide) ?_
        refine lv_istore (lv' := [(12, .int (0 : Int32)), (11, .int (1 : Int32)), (0, .ref h), (1, .int v1), (3, .int v3), (4, .int v4), (7, .int v7), (8, .int v8), (9, .int v9), (10, .int v10)]) hx hb dX6_fits_246 hl (by decide) rfl (fun ls hl => ?_)
        exact hL248 σ8 v9 v10 dx_fu true (0 : Int32) _ _ _ hF V (lv_sub hl [2, 3, 4, 5, 6, 7, 8, 9, 1, 0] rfl)
  have hJ197 : ∀ (σ : mo_S) (v1 : Int32) (v3 : Int32) (v4 : Int32) (v5 : Int32) (v7 : Int32) (t0 : Int32) (H : Heap) (locs : List Loc) (ls : Array Slot), mo_fits_J197 σ v1 v3 v4 v5 v7 t0 = some (r, σ') → mo_V D di dz h ad A s.heap σ s H locs → lv_has ls 13 [(0, .ref h), (1, .int v1), (3, .int v3), (4, .int v4), (5, .int v5), (7, .int v7)] → W p l e ({ frames := 5, cells := 0, slots := 0, locals := 123 }) s m ([.ref h, .int p0, .int p1, .int p2, .int p3, .int p4] : List Value).toArray below meth c H locs 0 0 (MQ below (mo_Qi D di dz h ad A r σ') ([.ref h, .int p0, .int p1, .int p2, .int p3, .int p4] : List Value).toArray s 0 0 A) (F0 m 197 ls [.int t0]) := by
    intro σ v1 v3 v4 v5 v7 t0 H locs ls hF V hl
    unfold mo_fits_J197 at hF
    refine lv_istore (lv' := [(8, .int t0), (0, .ref h), (1, .int v1), (3, .int v3), (4, .int v4), (5, .int v5), (7, .int v7)]) hx hb dX6_fits_197 hl (by decide) rfl (fun ls hl => ?_)
    refine lv_iconst (v := 0) hx hb dX6_fits_199 (by decide) ?_
    refine lv_istore (lv' := [(9, .int (0 : Int32)), (8, .int t0), (0, .ref h), (1, .int v1), (3, .int v3), (4, .int v4), (5, .int v5), (7, .int v7)]) hx hb dX6_fits_200 hl (by decide) rfl (fun ls hl => ?_)
    refine lv_iload hx hb dX6_fits_202 (lv_at hl 6 rfl) ?_
    refine lv_iconst (v := 1) hx hb dX6_fits_204 (by decide) ?_
    refine lv_icmp_ne (tgt := 212) hx hb dX6_fits_205 (by decide) (fun hc => ?_) (fun hc => ?_)
    · replace hF := (if_neg hc).symm.trans hF
      refine lv_iconst (v := 1) hx hb dX6_fits_212 (by decide) ?_
      refine lv_istore (lv' := [(10, .int (1 : Int32)), (9, .int (0 : Int32)), (8, .int t0), (0, .ref h), (1, .int v1), (3, .int v3), (4, .int v4), (5, .int v5), (7, .int v7)]) hx hb dX6_fits_213 hl (by decide) rfl (fun ls hl => ?_)
      exact hL215 v1 v3 v4 v7 t0 dx_fu (0 : Int32) (1 : Int32) σ _ _ _ hF V (lv_sub hl [3, 4, 5, 6, 8, 2, 1, 0] rfl)
    · replace hF := (if_pos hc).symm.trans hF
      refine lv_iconst (v := 0) hx hb dX6_fits_208 (by decide) ?_
      refine lv_goto (tgt := 213) hx hb dX6_fits_209 (by decide) ?_
      refine lv_istore (lv' := [(10, .int (0 : Int32)), (9, .int (0 : Int32)), (8, .int t0), (0, .ref h), (1, .int v1), (3, .int v3), (4, .int v4), (5, .int v5), (7, .int v7)]) hx hb dX6_fits_213 hl (by decide) rfl (fun ls hl => ?_)
      exact hL215 v1 v3 v4 v7 t0 dx_fu (0 : Int32) (0 : Int32) σ _ _ _ hF V (lv_sub hl [3, 4, 5, 6, 8, 2, 1, 0] rfl)
  have hJ153 : ∀ (σ : mo_S) (v1 : Int32) (v3 : Int32) (v4 : Int32) (v5 : Int32) (t0 : Int32) (H : Heap) (locs : List Loc) (ls : Array Slot), mo_fits_J153 σ v1 v3 v4 v5 t0 = some (r, σ') → mo_V D di dz h ad A s.heap σ s H locs → lv_has ls 13 [(0, .ref h), (1, .int v1), (3, .int v3), (4, .int v4), (5, .int v5)] → W p l e ({ frames := 5, cells := 0, slots := 0, locals := 123 }) s m ([.ref h, .int p0, .int p1, .int p2, .int p3, .int p4] : List Value).toArray below meth c H locs 0 0 (MQ below (mo_Qi D di dz h ad A r σ') ([.ref h, .int p0, .int p1, .int p2, .int p3, .int p4] : List Value).toArray s 0 0 A) (F0 m 153 ls [.int t0]) := by
    intro σ v1 v3 v4 v5 t0 H locs ls hF V hl
    unfold mo_fits_J153 at hF
    refine lv_istore (lv' := [(7, .int t0), (0, .ref h), (1, .int v1), (3, .int v3), (4, .int v4), (5, .int v5)]) hx hb dX6_fits_153 hl (by decide) rfl (fun ls hl => ?_)
    refine lv_iload hx hb dX6_fits_155 (lv_at hl 5 rfl) ?_
    refine lv_if_ne (tgt := 185) hx hb dX6_fits_157 (by decide) (fun hc => ?_) (fun hc => ?_)
    · replace hF := (if_neg hc).symm.trans hF
      refine lv_iload hx hb dX6_fits_185 (lv_at hl 5 rfl) ?_
      refine lv_iconst (v := 1) hx hb dX6_fits_187 (by decide) ?_
      refine lv_icmp_ne (tgt := 196) hx hb dX6_fits_188 (by decide) (fun hc => ?_) (fun hc => ?_)
      · replace hF := (if_neg hc).symm.trans hF
        refine lv_iconst (v := 5) hx hb dX6_fits_196 (by decide) ?_
        exact hJ197 σ v1 v3 v4 v5 t0 (5 : Int32) _ _ _ hF V (lv_sub hl [1, 2, 3, 4, 5, 0] rfl)
      · replace hF := (if_pos hc).symm.trans hF
        refine lv_bipush (v := 30) hx hb dX6_fits_191 (by decide) ?_
        refine lv_goto (tgt := 197) hx hb dX6_fits_193 (by decide) ?_
        exact hJ197 σ v1 v3 v4 v5 t0 (30 : Int32) _ _ _ hF V (lv_sub hl [1, 2, 3, 4, 5, 0] rfl)
    · replace hF := (if_pos hc).symm.trans hF
      refine lv_aload_n hx hb dX6_fits_160 rfl (lv_at hl 1 rfl) ?_
      refine mo_get S V 13 (by decide) rfl q1628 rfl dX6_fits_161 ?_
      refine lv_iconst (v := 3) hx hb dX6_fits_164 (by decide) ?_
      refine mo_ld S V 5 (by decide) (dx_inb_in rfl) dX6_fits_165 ?_
      refine lv_bipush (v := 9) hx hb dX6_fits_166 (by decide) ?_
      refine lv_icmp_ge (tgt := 180) hx hb dX6_fits_168 (by decide) (fun hc => ?_) (fun hc => ?_)
      · replace hF := (if_pos hc).symm.trans hF
        refine lv_bipush (v := 9) hx hb dX6_fits_180 (by decide) ?_
        refine lv_goto (tgt := 197) hx hb dX6_fits_182 (by decide) ?_
        exact hJ197 σ v1 v3 v4 v5 t0 (9 : Int32) _ _ _ hF V (lv_sub hl [1, 2, 3, 4, 5, 0] rfl)
      · replace hF := (if_neg hc).symm.trans hF
        refine lv_aload_n hx hb dX6_fits_171 rfl (lv_at hl 1 rfl) ?_
        refine mo_get S V 13 (by decide) rfl q1628 rfl dX6_fits_172 ?_
        refine lv_iconst (v := 3) hx hb dX6_fits_175 (by decide) ?_
        refine mo_ld S V 5 (by decide) (dx_inb_in rfl) dX6_fits_176 ?_
        refine lv_goto (tgt := 197) hx hb dX6_fits_177 (by decide) ?_
        exact hJ197 σ v1 v3 v4 v5 t0 (σ.2 5 (3 : Int32).toNatClampNeg) _ _ _ hF V (lv_sub hl [1, 2, 3, 4, 5, 0] rfl)
  have hJ38 : ∀ (σ : mo_S) (v1 : Int32) (v2 : Int32) (v3 : Int32) (v4 : Int32) (v5 : Int32) (t0 : Bool) (H : Heap) (locs : List Loc) (ls : Array Slot), mo_fits_J38 σ v1 v2 v3 v4 v5 t0 = some (r, σ') → mo_V D di dz h ad A s.heap σ s H locs → lv_has ls 13 [(0, .ref h), (1, .int v1), (2, .int v2), (3, .int v3), (4, .int v4), (5, .int v5)] → W p l e ({ frames := 5, cells := 0, slots := 0, locals := 123 }) s m ([.ref h, .int p0, .int p1, .int p2, .int p3, .int p4] : List Value).toArray below meth c H locs 0 0 (MQ below (mo_Qi D di dz h ad A r σ') ([.ref h, .int p0, .int p1, .int p2, .int p3, .int p4] : List Value).toArray s 0 0 A) (F0 m 38 ls [.int (dx_bI t0)]) := by
    intro σ v1 v2 v3 v4 v5 t0 H locs ls hF V hl
    unfold mo_fits_J38 at hF
    refine lv_istore (lv' := [(6, .int (dx_bI t0)), (0, .ref h), (1, .int v1), (2, .int v2), (3, .int v3), (4, .int v4), (5, .int v5)]) hx hb dX6_fits_38 hl (by decide) rfl (fun ls hl => ?_)
    refine lv_aload_n hx hb dX6_fits_40 rfl (lv_at hl 1 rfl) ?_
    refine lv_iload_n hx hb dX6_fits_41 rfl (lv_at hl 2 rfl) ?_
    obtain ⟨r1, h1c, hF⟩ := dx_b1_some hF
    refine mo_cVi S V [.int v1] (mo_m_isPerson l D di dz h ad A  v1 σ _ h1c) (cwV 1 hts (lw_V q1815 q1817 qs51 q83 q1818) rfl rfl rfl mo_d_isPerson ⟨Nat.le_of_ble_eq_true rfl, Nat.le_of_ble_eq_true rfl⟩) rfl rfl hl.1 (Nat.le_of_ble_eq_true rfl) dX6_fits_42 (fun _ _ V => ?_)
    refine lv_if_eq (tgt := 75) hx hb dX6_fits_45 (by decide) (fun hc => ?_) (fun hc => ?_)
    · replace hF := dx_ib_f (dx_bI_0 hc) hF
      refine lv_ldc hx hb hown (hts _ q1714) dX6_fits_75 ?_
      obtain ⟨hF1, hF2⟩ := dx_r2 hF
      subst hF1
      subst hF2
      exact mo_ri S V hr hlocks rfl dX6_fits_77
    · replace hF := dx_ib_t (dx_bI_n hc) hF
      refine lv_iload hx hb dX6_fits_48 (lv_at hl 0 rfl) ?_
      refine lv_if_eq (tgt := 75) hx hb dX6_fits_50 (by decide) (fun hc => ?_) (fun hc => ?_)
      · replace hF := dx_ib_f (dx_bI_0 hc) hF
        refine lv_ldc hx hb hown (hts _ q1714) dX6_fits_75 ?_
        obtain ⟨hF1, hF2⟩ := dx_r2 hF
        subst hF1
        subst hF2
        exact mo_ri S V hr hlocks rfl dX6_fits_77
      · replace hF := dx_ib_t (dx_bI_n hc) hF
        refine lv_iload_n hx hb dX6_fits_53 rfl (lv_at hl 4 rfl) ?_
        obtain ⟨r2, h2c, hF⟩ := dx_b1_some hF
        refine dx_cPi S [.int v3] (mo_m_isRow l v3 _ h2c) (va_cwS 1 hts (lw_S q1708 q1709 q83 q1710) rfl rfl rfl mo_d_isRow ⟨Nat.le_of_ble_eq_true rfl, Nat.le_of_ble_eq_true rfl⟩) rfl rfl hl.1 (Nat.le_of_ble_eq_true rfl) dX6_fits_54 ⟨Nat.zero_le _, Nat.zero_le _⟩ ?_
        refine lv_if_eq (tgt := 75) hx hb dX6_fits_57 (by decide) (fun hc => ?_) (fun hc => ?_)
        · replace hF := dx_ib_f (dx_bI_0 hc) hF
          refine lv_ldc hx hb hown (hts _ q1714) dX6_fits_75 ?_
          obtain ⟨hF1, hF2⟩ := dx_r2 hF
          subst hF1
          subst hF2
          exact mo_ri S V hr hlocks rfl dX6_fits_77
        · replace hF := dx_ib_t (dx_bI_n hc) hF
          refine lv_iload hx hb dX6_fits_60 (lv_at hl 5 rfl) ?_
          refine lv_iconst (v := 1) hx hb dX6_fits_62 (by decide) ?_
          refine lv_aload_n hx hb dX6_fits_63 rfl (lv_at hl 1 rfl) ?_
          refine mo_get S V 13 (by decide) rfl q1628 rfl dX6_fits_64 ?_
          refine lv_iconst (v := 0) hx hb dX6_fits_67 (by decide) ?_
          refine mo_ld S V 5 (by decide) (dx_inb_in rfl) dX6_fits_68 ?_
          obtain ⟨r3, h3c, hF⟩ := dx_b1_some hF
          refine dx_cPi S [.int v4, .int (1 : Int32), .int (σ.2 5 (0 : Int32).toNatClampNeg)] (mo_m_in l v4 (1 : Int32) (σ.2 5 (0 : Int32).toNatClampNeg) _ h3c) (va_cwS 3 hts (lw_S q1711 q1712 q83 q1713) rfl rfl rfl mo_d_in ⟨Nat.le_of_ble_eq_true rfl, Nat.le_of_ble_eq_true rfl⟩) rfl rfl hl.1 (Nat.le_of_ble_eq_true rfl) dX6_fits_69 ⟨Nat.zero_le _, Nat.zero_le _⟩ ?_
          refine lv_if_ne (tgt := 78) hx hb dX6_fits_72 (by decide) (fun hc => ?_) (fun hc => ?_)
          · replace hF := dx_ib_t (dx_bI_n hc) hF
            refine lv_aload_n hx hb dX6_fits_78 rfl (lv_at hl 1 rfl) ?_
            refine lv_iload_n hx hb dX6_fits_79 rfl (lv_at hl 4 rfl) ?_
            obtain ⟨r4, h4c, hF⟩ := dx_b1_some hF
            refine mo_cVi S V [.int v3] (mo_m_isMissing l D di dz h ad A  v3 σ _ h4c) (cwV 1 hts (lw_V q1728 q1730 qs38 q83 q1731) rfl rfl rfl mo_d_isMissing ⟨Nat.le_of_ble_eq_true rfl, Nat.le_of_ble_eq_true rfl⟩) rfl rfl hl.1 (Nat.le_of_ble_eq_true rfl) dX6_fits_80 (fun _ _ V => ?_)
            refine lv_if_eq (tgt := 92) hx hb dX6_fits_83 (by decide) (fun hc => ?_) (fun hc => ?_)
            · replace hF := dx_ib_f (dx_bI_0 hc) hF
              refine lv_aload_n hx hb dX6_fits_92 rfl (lv_at hl 1 rfl) ?_
              refine lv_iload_n hx hb dX6_fits_93 rfl (lv_at hl 4 rfl) ?_
              refine lv_iconst (v := 0) hx hb dX6_fits_94 (by decide) ?_
              refine lv_iload hx hb dX6_fits_95 (lv_at hl 5 rfl) ?_
              obtain ⟨r5, h5c, hF⟩ := dx_b1_some hF
              refine mo_cVi S V [.int v3, .int (0 : Int32), .int v4] (mo_m_isPart l D di dz h ad A  v3 (0 : Int32) v4 σ _ h5c) (cwV 3 hts (lw_V q1739 q1741 qs39 q83 q1742) rfl rfl rfl mo_d_isPart ⟨Nat.le_of_ble_eq_true rfl, Nat.le_of_ble_eq_true rfl⟩) rfl rfl hl.1 (Nat.le_of_ble_eq_true rfl) dX6_fits_97 (fun _ _ V => ?_)
              refine lv_if_ne (tgt := 109) hx hb dX6_fits_100 (by decide) (fun hc => ?_) (fun hc => ?_)
              · replace hF := dx_ib_t (dx_bI_n hc) hF
                refine lv_aload_n hx hb dX6_fits_109 rfl (lv_at hl 1 rfl) ?_
                refine mo_get S V 13 (by decide) rfl q1628 rfl dX6_fits_110 ?_
                refine lv_iconst (v := 0) hx hb dX6_fits_113 (by decide) ?_
                refine lv_aload_n hx hb dX6_fits_114 rfl (lv_at hl 1 rfl) ?_
                refine mo_get S V 15 (by decide) rfl q1630 rfl dX6_fits_115 ?_
                refine lv_iconst (v := 0) hx hb dX6_fits_118 (by decide) ?_
                obtain ⟨σ6, h6c, hF⟩ := dx_b1_some hF
                refine mo_cSv S V [.ref (ad 5), .int (0 : Int32), .ref (ad 7), .int (0 : Int32)] (mo_m_copies l D di dz h ad A 5 (by decide) 7 (by decide) (0 : Int32) (0 : Int32) σ _ h6c) (va_cwS 4 hts (lw_S q1804 q1805 q83 q1806) rfl rfl rfl mo_d_copies ⟨Nat.le_of_ble_eq_true rfl, Nat.le_of_ble_eq_true rfl⟩) rfl rfl hl.1 (Nat.le_of_ble_eq_true rfl) dX6_fits_119 (fun _ _ V => ?_)
                refine lv_iload hx hb dX6_fits_122 (lv_at hl 6 rfl) ?_
                refine lv_if_ne (tgt := 131) hx hb dX6_fits_124 (by decide) (fun hc => ?_) (fun hc => ?_)
                · replace hF := (if_neg hc).symm.trans hF
                  refine lv_iload hx hb dX6_fits_131 (lv_at hl 6 rfl) ?_
                  refine lv_iconst (v := 1) hx hb dX6_fits_133 (by decide) ?_
                  refine lv_icmp_ne (tgt := 148) hx hb dX6_fits_134 (by decide) (fun hc => ?_) (fun hc => ?_)
                  · replace hF := (if_neg hc).symm.trans hF
                    refine lv_iconst (v := 4) hx hb dX6_fits_148 (by decide) ?_
                    refine lv_iconst (v := 2) hx hb dX6_fits_149 (by decide) ?_
                    refine lv_iload_n hx hb dX6_fits_150 rfl (lv_at hl 3 rfl) ?_
                    refine lv_imul hx hb dX6_fits_151 ?_
                    refine lv_iadd hx hb dX6_fits_152 ?_
                    exact hJ153 σ6 v1 v3 v4 v5 ((4 : Int32) + ((2 : Int32) * v2)) _ _ _ hF V (lv_sub hl [1, 2, 4, 5, 6] rfl)
                  · replace hF := (if_pos hc).symm.trans hF
                    refine lv_bipush (v := 22) hx hb dX6_fits_137 (by decide) ?_
                    refine lv_iconst (v := 3) hx hb dX6_fits_139 (by decide) ?_
                    refine lv_iload_n hx hb dX6_fits_140 rfl (lv_at hl 3 rfl) ?_
                    refine lv_imul hx hb dX6_fits_141 ?_
                    refine lv_iadd hx hb dX6_fits_142 ?_
                    refine lv_iconst (v := 2) hx hb dX6_fits_143 (by decide) ?_
                    refine lv_iadd hx hb dX6_fits_144 ?_
                    refine lv_goto (tgt := 153) hx hb dX6_fits_145 (by decide) ?_
                    exact hJ153 σ6 v1 v3 v4 v5 (((22 : Int32) + ((3 : Int32) * v2)) + (2 : Int32)) _ _ _ hF V (lv_sub hl [1, 2, 4, 5, 6] rfl)
                · replace hF := (if_pos hc).symm.trans hF
                  refine lv_iconst (v := 2) hx hb dX6_fits_127 (by decide) ?_
                  refine lv_goto (tgt := 153) hx hb dX6_fits_128 (by decide) ?_
                  exact hJ153 σ6 v1 v3 v4 v5 (2 : Int32) _ _ _ hF V (lv_sub hl [1, 2, 4, 5, 6] rfl)
              · replace hF := dx_ib_f (dx_bI_0 hc) hF
                refine lv_aload_n hx hb dX6_fits_103 rfl (lv_at hl 1 rfl) ?_
                refine lv_iconst (v := 2) hx hb dX6_fits_104 (by decide) ?_
                obtain ⟨r10, σ10, h10c, hF⟩ := dx_b2_some hF
                refine mo_cVi S V [.int (2 : Int32)] (mo_m_found l D di dz h ad A  (2 : Int32) σ _ _ h10c) (cwV 1 hts (lw_V q1715 q1717 qs36 q83 q1718) rfl rfl rfl mo_d_found ⟨Nat.le_of_ble_eq_true rfl, Nat.le_of_ble_eq_true rfl⟩) rfl rfl hl.1 (Nat.le_of_ble_eq_true rfl) dX6_fits_105 (fun _ _ V => ?_)
                obtain ⟨hF1, hF2⟩ := dx_r2 hF
                subst hF1
                subst hF2
                exact mo_ri S V hr hlocks rfl dX6_fits_108
            · replace hF := dx_ib_t (dx_bI_n hc) hF
              refine lv_aload_n hx hb dX6_fits_86 rfl (lv_at hl 1 rfl) ?_
              refine lv_iconst (v := 1) hx hb dX6_fits_87 (by decide) ?_
              obtain ⟨r11, σ11, h11c, hF⟩ := dx_b2_some hF
              refine mo_cVi S V [.int (1 : Int32)] (mo_m_found l D di dz h ad A  (1 : Int32) σ _ _ h11c) (cwV 1 hts (lw_V q1715 q1717 qs36 q83 q1718) rfl rfl rfl mo_d_found ⟨Nat.le_of_ble_eq_true rfl, Nat.le_of_ble_eq_true rfl⟩) rfl rfl hl.1 (Nat.le_of_ble_eq_true rfl) dX6_fits_88 (fun _ _ V => ?_)
              obtain ⟨hF1, hF2⟩ := dx_r2 hF
              subst hF1
              subst hF2
              exact mo_ri S V hr hlocks rfl dX6_fits_91
          · replace hF := dx_ib_f (dx_bI_0 hc) hF
            refine lv_ldc hx hb hown (hts _ q1714) dX6_fits_75 ?_
            obtain ⟨hF1, hF2⟩ := dx_r2 hF
            subst hF1
            subst hF2
            exact mo_ri S V hr hlocks rfl dX6_fits_77
  have hJ19 : ∀ (σ : mo_S) (v1 : Int32) (v2 : Int32) (v3 : Int32) (v4 : Int32) (v5 : Int32) (H : Heap) (locs : List Loc) (ls : Array Slot), mo_fits_J19 σ v1 v2 v3 v4 v5 = some (r, σ') → mo_V D di dz h ad A s.heap σ s H locs → lv_has ls 13 [(0, .ref h), (1, .int v1), (2, .int v2), (3, .int v3), (4, .int v4), (5, .int v5)] → W p l e ({ frames := 5, cells := 0, slots := 0, locals := 123 }) s m ([.ref h, .int p0, .int p1, .int p2, .int p3, .int p4] : List Value).toArray below meth c H locs 0 0 (MQ below (mo_Qi D di dz h ad A r σ') ([.ref h, .int p0, .int p1, .int p2, .int p3, .int p4] : List Value).toArray s 0 0 A) (F0 m 19 ls []) := by
    intro σ v1 v2 v3 v4 v5 H locs ls hF V hl
    unfold mo_fits_J19 at hF
    refine lv_iload hx hb dX6_fits_19 (lv_at hl 5 rfl) ?_
    refine lv_iconst (v := 2) hx hb dX6_fits_21 (by decide) ?_
    refine lv_icmp_ne (tgt := 37) hx hb dX6_fits_22 (by decide) (fun hc => ?_) (fun hc => ?_)
    · replace hF := (if_neg hc).symm.trans hF
      refine lv_iconst (v := 0) hx hb dX6_fits_37 (by decide) ?_
      exact hJ38 σ v1 v2 v3 v4 v5 false _ _ _ hF V (lv_sub hl [0, 1, 2, 3, 4, 5] rfl)
    · replace hF := (if_pos hc).symm.trans hF
      refine lv_aload_n hx hb dX6_fits_25 rfl (lv_at hl 0 rfl) ?_
      refine lv_iload_n hx hb dX6_fits_26 rfl (lv_at hl 2 rfl) ?_
      obtain ⟨r12, h12c, hF⟩ := dx_b1_some hF
      refine mo_cVi S V [.int v2] (mo_m_isPerson l D di dz h ad A  v2 σ _ h12c) (cwV 1 hts (lw_V q1815 q1817 qs51 q83 q1818) rfl rfl rfl mo_d_isPerson ⟨Nat.le_of_ble_eq_true rfl, Nat.le_of_ble_eq_true rfl⟩) rfl rfl hl.1 (Nat.le_of_ble_eq_true rfl) dX6_fits_27 (fun _ _ V => ?_)
      refine lv_if_eq (tgt := 37) hx hb dX6_fits_30 (by decide) (fun hc => ?_) (fun hc => ?_)
      · replace hF := dx_ib_f (dx_bI_0 hc) hF
        refine lv_iconst (v := 0) hx hb dX6_fits_37 (by decide) ?_
        exact hJ38 σ v1 v2 v3 v4 v5 false _ _ _ hF V (lv_sub hl [0, 1, 2, 3, 4, 5] rfl)
      · replace hF := dx_ib_t (dx_bI_n hc) hF
        refine lv_iconst (v := 1) hx hb dX6_fits_33 (by decide) ?_
        refine lv_goto (tgt := 38) hx hb dX6_fits_34 (by decide) ?_
        exact hJ38 σ v1 v2 v3 v4 v5 true _ _ _ hF V (lv_sub hl [0, 1, 2, 3, 4, 5] rfl)
  refine lv_iload hx hb dX6_fits_0 (lv_at hl 5 rfl) ?_
  refine lv_if_eq (tgt := 33) hx hb dX6_fits_2 (by decide) (fun hc => ?_) (fun hc => ?_)
  · replace hF := (if_pos hc).symm.trans hF
    refine lv_iconst (v := 1) hx hb dX6_fits_33 (by decide) ?_
    refine lv_goto (tgt := 38) hx hb dX6_fits_34 (by decide) ?_
    exact hJ38 σ0 p0 p1 p2 p3 p4 true _ _ _ hF V (lv_sub hl [0, 1, 2, 3, 4, 5] rfl)
  · replace hF := (if_neg hc).symm.trans hF
    refine lv_iload hx hb dX6_fits_5 (lv_at hl 5 rfl) ?_
    refine lv_iconst (v := 1) hx hb dX6_fits_7 (by decide) ?_
    refine lv_icmp_ne (tgt := 19) hx hb dX6_fits_8 (by decide) (fun hc => ?_) (fun hc => ?_)
    · replace hF := (if_neg hc).symm.trans hF
      exact hJ19 σ0 p0 p1 p2 p3 p4 _ _ _ hF V (lv_sub hl [0, 1, 2, 3, 4, 5] rfl)
    · replace hF := (if_pos hc).symm.trans hF
      refine lv_aload_n hx hb dX6_fits_11 rfl (lv_at hl 0 rfl) ?_
      refine lv_iload_n hx hb dX6_fits_12 rfl (lv_at hl 2 rfl) ?_
      obtain ⟨r13, h13c, hF⟩ := dx_b1_some hF
      refine mo_cVi S V [.int p1] (mo_m_isContact l D di dz h ad A  p1 σ0 _ h13c) (cwV 1 hts (lw_V q1827 q1829 qs53 q83 q1830) rfl rfl rfl mo_d_isContact ⟨Nat.le_of_ble_eq_true rfl, Nat.le_of_ble_eq_true rfl⟩) rfl rfl hl.1 (Nat.le_of_ble_eq_true rfl) dX6_fits_13 (fun _ _ V => ?_)
      refine lv_if_ne (tgt := 33) hx hb dX6_fits_16 (by decide) (fun hc => ?_) (fun hc => ?_)
      · replace hF := dx_ib_t (dx_bI_n hc) hF
        refine lv_iconst (v := 1) hx hb dX6_fits_33 (by decide) ?_
        refine lv_goto (tgt := 38) hx hb dX6_fits_34 (by decide) ?_
        exact hJ38 σ0 p0 p1 p2 p3 p4 true _ _ _ hF V (lv_sub hl [0, 1, 2, 3, 4, 5] rfl)
      · replace hF := dx_ib_f (dx_bI_0 hc) hF
        exact hJ19 σ0 p0 p1 p2 p3 p4 _ _ _ hF V (lv_sub hl [0, 1, 2, 3, 4, 5] rfl)
theorem mo_d_tell : yX6_tell.cls = RX6 ∧ yX6_tell.cls ≠ "java/lang/invoke/MethodHandle" ∧ yX6_tell.cls ≠ "java/lang/invoke/VarHandle" ∧ (parseMethodDescriptor yX6_tell.desc).map (fun d => d.parameters.length) = some 3 := by decide +kernel
set_option maxHeartbeats 4000000 in
set_option maxRecDepth 100000 in
theorem mo_m_tell (l : Launch) (D : va_G) (di dz : ClassId) (h : Nat) (ad : Nat → Nat) (A : Nat → Prop)  (p0 : Int32) (p1 : Int32) (p2 : Int32) (σ0 : mo_S) (r : Int32) (σ' : mo_S) (hF : mo_tell σ0 p0 p1 p2 = some (r, σ')) : mo_Ci l yX6_tell cX6_tell 5 .int ({ frames := 5, cells := 0, slots := 0, locals := 123 }) D di dz h ad A [.ref h, .int p0, .int p1, .int p2] σ0 r σ' := by
  refine dx_in RX6 rfl (by decide) (Nat.le_of_ble_eq_true rfl) ?_
  intro p e s m below meth c ls S hr hlocks hv hl
  have hx := S.1
  have hb := S.2.1
  have hown := S.2.2.2.1
  have hts := S.2.2.2.2
  obtain ⟨hK, hP, hD⟩ := hv
  have V : mo_V D di dz h ad A s.heap σ0 s s.heap [] := ⟨hK, hP, hD, va_S.rf⟩
  replace hl : lv_has ls 5 [(0, .ref h), (1, .int p0), (2, .int p1), (3, .int p2)] := hl
  unfold mo_tell at hF
  have hJ97 : ∀ (σ : mo_S) (v4 : Int32) (H : Heap) (locs : List Loc) (ls : Array Slot), mo_tell_J97 σ v4 = some (r, σ') → mo_V D di dz h ad A s.heap σ s H locs → lv_has ls 5 [(0, .ref h), (4, .int v4)] → W p l e ({ frames := 5, cells := 0, slots := 0, locals := 123 }) s m ([.ref h, .int p0, .int p1, .int p2] : List Value).toArray below meth c H locs 0 0 (MQ below (mo_Qi D di dz h ad A r σ') ([.ref h, .int p0, .int p1, .int p2] : List Value).toArray s 0 0 A) (F0 m 97 ls []) := by
    intro σ v4 H locs ls hF V hl
    unfold mo_tell_J97 at hF
    refine lv_aload_n hx hb dX6_tell_97 rfl (lv_at hl 0 rfl) ?_
    refine lv_iload hx hb dX6_tell_98 (lv_at hl 1 rfl) ?_
    obtain ⟨r5, σ5, h5c, hF⟩ := dx_b2_some hF
    refine mo_cVi S V [.int v4] (mo_m_well l D di dz h ad A  v4 σ _ _ h5c) (cwV 1 hts (lw_V q1720 q1722 qs37 q83 q1723) rfl rfl rfl mo_d_well ⟨Nat.le_of_ble_eq_true rfl, Nat.le_of_ble_eq_true rfl⟩) rfl rfl hl.1 (Nat.le_of_ble_eq_true rfl) dX6_tell_100 (fun _ _ V => ?_)
    obtain ⟨hF1, hF2⟩ := dx_r2 hF
    subst hF1
    subst hF2
    exact mo_ri S V hr hlocks rfl dX6_tell_103
  have hL47 : ∀ (v3 : Int32) (n : Nat) (v4 : Int32) (σ : mo_S) (H : Heap) (locs : List Loc) (ls : Array Slot), dx_lp (fun x => mo_tell_L47 x.2 v3 x.1) n (v4, σ) = some (r, σ') → mo_V D di dz h ad A s.heap σ s H locs → lv_has ls 5 [(0, .ref h), (3, .int v3), (4, .int v4)] → W p l e ({ frames := 5, cells := 0, slots := 0, locals := 123 }) s m ([.ref h, .int p0, .int p1, .int p2] : List Value).toArray below meth c H locs 0 0 (MQ below (mo_Qi D di dz h ad A r σ') ([.ref h, .int p0, .int p1, .int p2] : List Value).toArray s 0 0 A) (F0 m 47 ls []) := by
    intro v3 n
    induction n with
    | zero =>
      intro v4 σ H locs ls hF V hl
      exact (dx_lp_0 hF).elim
    | succ n ih47 =>
      intro v4 σ H locs ls hF V hl
      obtain ⟨y47, hF, hz47⟩ := dx_lp_s hF
      replace hF : mo_tell_L47 σ v3 v4 = some y47 := hF
      unfold mo_tell_L47 at hF
      refine lv_iload hx hb dX6_tell_47 (lv_at hl 2 rfl) ?_
      refine lv_aload_n hx hb dX6_tell_49 rfl (lv_at hl 0 rfl) ?_
      refine mo_get S V 13 (by decide) rfl q1628 rfl dX6_tell_50 ?_
      refine lv_iconst (v := 0) hx hb dX6_tell_53 (by decide) ?_
      refine mo_ld S V 5 (by decide) (dx_inb_in rfl) dX6_tell_54 ?_
      refine lv_icmp_ge (tgt := 97) hx hb dX6_tell_55 (by decide) (fun hc => ?_) (fun hc => ?_)
      · replace hF := (if_pos hc).symm.trans hF
        replace hF := dx_ex_k hF hz47
        exact hJ97 σ v4 _ _ _ hF V (lv_sub hl [0, 2] rfl)
      · replace hF := (if_neg hc).symm.trans hF
        refine lv_iload hx hb dX6_tell_58 (lv_at hl 2 rfl) ?_
        refine lv_aload_n hx hb dX6_tell_60 rfl (lv_at hl 0 rfl) ?_
        refine mo_get S V 1 (by decide) rfl q1616 rfl dX6_tell_61 ?_
        refine lv_iload_n hx hb dX6_tell_64 rfl (lv_at hl 1 rfl) ?_
        obtain ⟨hg, hF⟩ := dx_gd_some hF
        refine mo_ld S V 1 (by decide) (dx_inb_in hg) dX6_tell_65 ?_
        refine lv_icmp_ge (tgt := 97) hx hb dX6_tell_66 (by decide) (fun hc => ?_) (fun hc => ?_)
        · replace hF := (if_pos hc).symm.trans hF
          replace hF := dx_ex_k hF hz47
          exact hJ97 σ v4 _ _ _ hF V (lv_sub hl [0, 2] rfl)
        · replace hF := (if_neg hc).symm.trans hF
          refine lv_aload_n hx hb dX6_tell_69 rfl (lv_at hl 0 rfl) ?_
          refine mo_get S V 2 (by decide) rfl q1617 rfl dX6_tell_70 ?_
          refine lv_bipush (v := 40) hx hb dX6_tell_73 (by decide) ?_
          refine lv_iload_n hx hb dX6_tell_75 rfl (lv_at hl 1 rfl) ?_
          refine lv_imul hx hb dX6_tell_76 ?_
          refine lv_iload hx hb dX6_tell_77 (lv_at hl 2 rfl) ?_
          refine lv_iadd hx hb dX6_tell_79 ?_
          refine lv_aload_n hx hb dX6_tell_80 rfl (lv_at hl 0 rfl) ?_
          refine mo_get S V 20 (by decide) rfl q1635 rfl dX6_tell_81 ?_
          refine lv_iload hx hb dX6_tell_84 (lv_at hl 2 rfl) ?_
          obtain ⟨hg, hF⟩ := dx_gd_some hF
          refine mo_ld S V 11 (by decide) (dx_inb_in hg) dX6_tell_86 ?_
          obtain ⟨r6, h6c, hF⟩ := dx_b1_some hF
          refine dx_cPi S [.int (σ.2 11 v4.toNatClampNeg)] (mo_m_firstOf l (σ.2 11 v4.toNatClampNeg) _ h6c) (va_cwS 1 hts (lw_S q1977 q1978 q83 q1979) rfl rfl rfl mo_d_firstOf ⟨Nat.le_of_ble_eq_true rfl, Nat.le_of_ble_eq_true rfl⟩) rfl rfl hl.1 (Nat.le_of_ble_eq_true rfl) dX6_tell_87 ⟨Nat.zero_le _, Nat.zero_le _⟩ ?_
          obtain ⟨hg, hF⟩ := dx_gd_some hF
          refine mo_st S V 2 (by decide) (dx_inb_in hg) dX6_tell_90 (fun _ _ V => ?_)
          refine lv_iinc (v := (v4 + (1 : Int32))) (lv' := [(4, .int (v4 + (1 : Int32))), (0, .ref h), (3, .int v3)]) hx hb dX6_tell_91 hl (k := 2) rfl rfl (by decide) rfl (fun ls hl => ?_)
          refine lv_goto (tgt := 47) hx hb dX6_tell_94 (by decide) ?_
          replace hF := Option.some.inj hF
          subst hF
          exact ih47 (v4 + (1 : Int32)) (mo_A σ 2 ((((40 : Int32) * v3) + v4).toNatClampNeg) r6) _ _ _ (dx_lk_l hz47) V (lv_sub hl [1, 2, 0] rfl)
  refine lv_aload_n hx hb dX6_tell_0 rfl (lv_at hl 0 rfl) ?_
  refine lv_iload_n hx hb dX6_tell_1 rfl (lv_at hl 1 rfl) ?_
  refine lv_iload_n hx hb dX6_tell_2 rfl (lv_at hl 2 rfl) ?_
  obtain ⟨r1, h1c, hF⟩ := dx_b1_some hF
  refine mo_cVi S V [.int p0, .int p1] (mo_m_isFrom l D di dz h ad A  p0 p1 σ0 _ h1c) (cwV 2 hts (lw_V q1879 q1881 qs57 q83 q1882) rfl rfl rfl mo_d_isFrom ⟨Nat.le_of_ble_eq_true rfl, Nat.le_of_ble_eq_true rfl⟩) rfl rfl hl.1 (Nat.le_of_ble_eq_true rfl) dX6_tell_3 (fun _ _ V => ?_)
  refine lv_if_eq (tgt := 16) hx hb dX6_tell_6 (by decide) (fun hc => ?_) (fun hc => ?_)
  · replace hF := dx_ib_f (dx_bI_0 hc) hF
    refine lv_ldc hx hb hown (hts _ q1714) dX6_tell_16 ?_
    obtain ⟨hF1, hF2⟩ := dx_r2 hF
    subst hF1
    subst hF2
    exact mo_ri S V hr hlocks rfl dX6_tell_18
  · replace hF := dx_ib_t (dx_bI_n hc) hF
    refine lv_iload_n hx hb dX6_tell_9 rfl (lv_at hl 3 rfl) ?_
    obtain ⟨r2, h2c, hF⟩ := dx_b1_some hF
    refine dx_cPi S [.int p2] (mo_m_isRow l p2 _ h2c) (va_cwS 1 hts (lw_S q1708 q1709 q83 q1710) rfl rfl rfl mo_d_isRow ⟨Nat.le_of_ble_eq_true rfl, Nat.le_of_ble_eq_true rfl⟩) rfl rfl hl.1 (Nat.le_of_ble_eq_true rfl) dX6_tell_10 ⟨Nat.zero_le _, Nat.zero_le _⟩ ?_
    refine lv_if_ne (tgt := 19) hx hb dX6_tell_13 (by decide) (fun hc => ?_) (fun hc => ?_)
    · replace hF := dx_ib_t (dx_bI_n hc) hF
      refine lv_aload_n hx hb dX6_tell_19 rfl (lv_at hl 0 rfl) ?_
      refine lv_iload_n hx hb dX6_tell_20 rfl (lv_at hl 3 rfl) ?_
      obtain ⟨r3, h3c, hF⟩ := dx_b1_some hF
      refine mo_cVi S V [.int p2] (mo_m_isMissing l D di dz h ad A  p2 σ0 _ h3c) (cwV 1 hts (lw_V q1728 q1730 qs38 q83 q1731) rfl rfl rfl mo_d_isMissing ⟨Nat.le_of_ble_eq_true rfl, Nat.le_of_ble_eq_true rfl⟩) rfl rfl hl.1 (Nat.le_of_ble_eq_true rfl) dX6_tell_21 (fun _ _ V => ?_)
      refine lv_if_eq (tgt := 33) hx hb dX6_tell_24 (by decide) (fun hc => ?_) (fun hc => ?_)
      · replace hF := dx_ib_f (dx_bI_0 hc) hF
        refine lv_aload_n hx hb dX6_tell_33 rfl (lv_at hl 0 rfl) ?_
        refine lv_aload_n hx hb dX6_tell_34 rfl (lv_at hl 0 rfl) ?_
        refine mo_get S V 13 (by decide) rfl q1628 rfl dX6_tell_35 ?_
        refine lv_iload_n hx hb dX6_tell_38 rfl (lv_at hl 1 rfl) ?_
        refine lv_iload_n hx hb dX6_tell_39 rfl (lv_at hl 2 rfl) ?_
        refine lv_iconst (v := 0) hx hb dX6_tell_40 (by decide) ?_
        obtain ⟨σ4, h4c, hF⟩ := dx_b1_some hF
        refine mo_cVv S V [.ref (ad 5), .int p0, .int p1, .int (0 : Int32)] (mo_m_walks l D di dz h ad A 5 (by decide) p0 p1 (0 : Int32) σ0 _ h4c) (cwV 4 hts (lw_V q1883 q1885 qs58 q83 q1886) rfl rfl rfl mo_d_walks ⟨Nat.le_of_ble_eq_true rfl, Nat.le_of_ble_eq_true rfl⟩) rfl rfl hl.1 (Nat.le_of_ble_eq_true rfl) dX6_tell_41 (fun _ _ V => ?_)
        refine lv_iconst (v := 0) hx hb dX6_tell_44 (by decide) ?_
        refine lv_istore (lv' := [(4, .int (0 : Int32)), (0, .ref h), (1, .int p0), (2, .int p1), (3, .int p2)]) hx hb dX6_tell_45 hl (by decide) rfl (fun ls hl => ?_)
        exact hL47 p2 dx_fu (0 : Int32) σ4 _ _ _ hF V (lv_sub hl [1, 4, 0] rfl)
      · replace hF := dx_ib_t (dx_bI_n hc) hF
        refine lv_aload_n hx hb dX6_tell_27 rfl (lv_at hl 0 rfl) ?_
        refine lv_iconst (v := 1) hx hb dX6_tell_28 (by decide) ?_
        obtain ⟨r7, σ7, h7c, hF⟩ := dx_b2_some hF
        refine mo_cVi S V [.int (1 : Int32)] (mo_m_found l D di dz h ad A  (1 : Int32) σ0 _ _ h7c) (cwV 1 hts (lw_V q1715 q1717 qs36 q83 q1718) rfl rfl rfl mo_d_found ⟨Nat.le_of_ble_eq_true rfl, Nat.le_of_ble_eq_true rfl⟩) rfl rfl hl.1 (Nat.le_of_ble_eq_true rfl) dX6_tell_29 (fun _ _ V => ?_)
        obtain ⟨hF1, hF2⟩ := dx_r2 hF
        subst hF1
        subst hF2
        exact mo_ri S V hr hlocks rfl dX6_tell_32
    · replace hF := dx_ib_f (dx_bI_0 hc) hF
      refine lv_ldc hx hb hown (hts _ q1714) dX6_tell_16 ?_
      obtain ⟨hF1, hF2⟩ := dx_r2 hF
      subst hF1
      subst hF2
      exact mo_ri S V hr hlocks rfl dX6_tell_18
theorem mo_d_drawn : yX6_drawn.cls = RX6 ∧ yX6_drawn.cls ≠ "java/lang/invoke/MethodHandle" ∧ yX6_drawn.cls ≠ "java/lang/invoke/VarHandle" ∧ (parseMethodDescriptor yX6_drawn.desc).map (fun d => d.parameters.length) = some 3 := by decide +kernel
set_option maxHeartbeats 4000000 in
set_option maxRecDepth 100000 in
theorem mo_m_drawn (l : Launch) (D : va_G) (di dz : ClassId) (h : Nat) (ad : Nat → Nat) (A : Nat → Prop)  (p0 : Int32) (p1 : Int32) (p2 : Int32) (σ0 : mo_S) (r : Int32) (σ' : mo_S) (hF : mo_drawn σ0 p0 p1 p2 = some (r, σ')) : mo_Ci l yX6_drawn cX6_drawn 9 .int ({ frames := 5, cells := 0, slots := 0, locals := 123 }) D di dz h ad A [.ref h, .int p0, .int p1, .int p2] σ0 r σ' := by
  refine dx_in RX6 rfl (by decide) (Nat.le_of_ble_eq_true rfl) ?_
  intro p e s m below meth c ls S hr hlocks hv hl
  have hx := S.1
  have hb := S.2.1
  have hown := S.2.2.2.1
  have hts := S.2.2.2.2
  obtain ⟨hK, hP, hD⟩ := hv
  have V : mo_V D di dz h ad A s.heap σ0 s s.heap [] := ⟨hK, hP, hD, va_S.rf⟩
  replace hl : lv_has ls 9 [(0, .ref h), (1, .int p0), (2, .int p1), (3, .int p2)] := hl
  unfold mo_drawn at hF
  have hL54 : ∀ (v1 : Int32) (v2 : Int32) (n : Nat) (v4 : Int64) (v6 : Int32) (v7 : Int32) (σ : mo_S) (H : Heap) (locs : List Loc) (ls : Array Slot), dx_lp (fun x => mo_drawn_L54 x.2.2.2 v1 v2 x.1 x.2.1 x.2.2.1) n (v4, v6, v7, σ) = some (r, σ') → mo_V D di dz h ad A s.heap σ s H locs → lv_has ls 9 [(0, .ref h), (1, .int v1), (2, .int v2), (4, .long v4), (6, .int v6), (7, .int v7)] → W p l e ({ frames := 5, cells := 0, slots := 0, locals := 123 }) s m ([.ref h, .int p0, .int p1, .int p2] : List Value).toArray below meth c H locs 0 0 (MQ below (mo_Qi D di dz h ad A r σ') ([.ref h, .int p0, .int p1, .int p2] : List Value).toArray s 0 0 A) (F0 m 54 ls []) := by
    intro v1 v2 n
    induction n with
    | zero =>
      intro v4 v6 v7 σ H locs ls hF V hl
      exact (dx_lp_0 hF).elim
    | succ n ih54 =>
      intro v4 v6 v7 σ H locs ls hF V hl
      obtain ⟨y54, hF, hz54⟩ := dx_lp_s hF
      replace hF : mo_drawn_L54 σ v1 v2 v4 v6 v7 = some y54 := hF
      unfold mo_drawn_L54 at hF
      have hL129 : ∀ (σ : mo_S) (v4 : Int64) (v7 : Int32) (n : Nat) (v6 : Int32) (v8 : Int32) (H : Heap) (locs : List Loc) (ls : Array Slot), dx_lp (fun x => mo_drawn_L129 σ v1 v2 v4 v7 x.1 x.2) n (v6, v8) = some y54 → mo_V D di dz h ad A s.heap σ s H locs → lv_has ls 9 [(0, .ref h), (1, .int v1), (2, .int v2), (4, .long v4), (6, .int v6), (7, .int v7), (8, .int v8)] → W p l e ({ frames := 5, cells := 0, slots := 0, locals := 123 }) s m ([.ref h, .int p0, .int p1, .int p2] : List Value).toArray below meth c H locs 0 0 (MQ below (mo_Qi D di dz h ad A r σ') ([.ref h, .int p0, .int p1, .int p2] : List Value).toArray s 0 0 A) (F0 m 129 ls []) := by
        intro σ v4 v7 n
        induction n with
        | zero =>
          intro v6 v8 H locs ls hF V hl
          exact (dx_lp_0 hF).elim
        | succ n ih129 =>
          intro v6 v8 H locs ls hF V hl
          obtain ⟨y129, hF, hz129⟩ := dx_lp_s hF
          replace hF : mo_drawn_L129 σ v1 v2 v4 v7 v6 v8 = some y129 := hF
          unfold mo_drawn_L129 at hF
          refine lv_iload hx hb dX6_drawn_129 (lv_at hl 6 rfl) ?_
          refine lv_aload_n hx hb dX6_drawn_131 rfl (lv_at hl 0 rfl) ?_
          refine mo_get S V 15 (by decide) rfl q1630 rfl dX6_drawn_132 ?_
          refine lv_iconst (v := 0) hx hb dX6_drawn_135 (by decide) ?_
          refine mo_ld S V 7 (by decide) (dx_inb_in rfl) dX6_drawn_136 ?_
          refine lv_icmp_ge (tgt := 166) hx hb dX6_drawn_137 (by decide) (fun hc => ?_) (fun hc => ?_)
          · replace hF := (if_pos hc).symm.trans hF
            replace hF := dx_ex_k hF hz129
            refine lv_iinc (v := (v7 + (1 : Int32))) (lv' := [(7, .int (v7 + (1 : Int32))), (0, .ref h), (1, .int v1), (2, .int v2), (4, .long v4), (6, .int v6), (8, .int v8)]) hx hb dX6_drawn_166 hl (k := 5) rfl rfl (by decide) rfl (fun ls hl => ?_)
            refine lv_goto (tgt := 54) hx hb dX6_drawn_169 (by decide) ?_
            replace hF := Option.some.inj hF
            subst hF
            exact ih54 v4 v6 (v7 + (1 : Int32)) σ _ _ _ (dx_lk_l hz54) V (lv_sub hl [1, 2, 3, 4, 5, 0] rfl)
          · replace hF := (if_neg hc).symm.trans hF
            refine lv_iload hx hb dX6_drawn_140 (lv_at hl 4 rfl) ?_
            refine lv_aload_n hx hb dX6_drawn_142 rfl (lv_at hl 0 rfl) ?_
            refine mo_get S V 20 (by decide) rfl q1635 rfl dX6_drawn_143 ?_
            refine lv_iload hx hb dX6_drawn_146 (lv_at hl 6 rfl) ?_
            obtain ⟨hg, hF⟩ := dx_gd_some hF
            refine mo_ld S V 11 (by decide) (dx_inb_in hg) dX6_drawn_148 ?_
            refine lv_if_eq (tgt := 156) hx hb dX6_drawn_149 (by decide) (fun hc => ?_) (fun hc => ?_)
            · replace hF := (if_pos hc).symm.trans hF
              refine lv_iconst (v := 0) hx hb dX6_drawn_156 (by decide) ?_
              refine lv_iadd hx hb dX6_drawn_157 ?_
              refine lv_istore (lv' := [(6, .int (v6 + (0 : Int32))), (0, .ref h), (1, .int v1), (2, .int v2), (4, .long v4), (7, .int v7), (8, .int v8)]) hx hb dX6_drawn_158 hl (by decide) rfl (fun ls hl => ?_)
              refine lv_iinc (v := (v8 + (1 : Int32))) (lv' := [(8, .int (v8 + (1 : Int32))), (6, .int (v6 + (0 : Int32))), (0, .ref h), (1, .int v1), (2, .int v2), (4, .long v4), (7, .int v7)]) hx hb dX6_drawn_160 hl (k := 6) rfl rfl (by decide) rfl (fun ls hl => ?_)
              refine lv_goto (tgt := 129) hx hb dX6_drawn_163 (by decide) ?_
              replace hF := Option.some.inj hF
              subst hF
              exact ih129 (v6 + (0 : Int32)) (v8 + (1 : Int32)) _ _ _ (dx_lk_l hz129) V (lv_sub hl [2, 3, 4, 5, 1, 6, 0] rfl)
            · replace hF := (if_neg hc).symm.trans hF
              refine lv_iconst (v := 1) hx hb dX6_drawn_152 (by decide) ?_
              refine lv_goto (tgt := 157) hx hb dX6_drawn_153 (by decide) ?_
              refine lv_iadd hx hb dX6_drawn_157 ?_
              refine lv_istore (lv' := [(6, .int (v6 + (1 : Int32))), (0, .ref h), (1, .int v1), (2, .int v2), (4, .long v4), (7, .int v7), (8, .int v8)]) hx hb dX6_drawn_158 hl (by decide) rfl (fun ls hl => ?_)
              refine lv_iinc (v := (v8 + (1 : Int32))) (lv' := [(8, .int (v8 + (1 : Int32))), (6, .int (v6 + (1 : Int32))), (0, .ref h), (1, .int v1), (2, .int v2), (4, .long v4), (7, .int v7)]) hx hb dX6_drawn_160 hl (k := 6) rfl rfl (by decide) rfl (fun ls hl => ?_)
              refine lv_goto (tgt := 129) hx hb dX6_drawn_163 (by decide) ?_
              replace hF := Option.some.inj hF
              subst hF
              exact ih129 (v6 + (1 : Int32)) (v8 + (1 : Int32)) _ _ _ (dx_lk_l hz129) V (lv_sub hl [2, 3, 4, 5, 1, 6, 0] rfl)
      have hJ115 : ∀ (σ : mo_S) (v4 : Int64) (v6 : Int32) (v7 : Int32) (H : Heap) (locs : List Loc) (ls : Array Slot), mo_drawn_J115 σ v1 v2 v4 v6 v7 = some y54 → mo_V D di dz h ad A s.heap σ s H locs → lv_has ls 9 [(0, .ref h), (1, .int v1), (2, .int v2), (4, .long v4), (6, .int v6), (7, .int v7)] → W p l e ({ frames := 5, cells := 0, slots := 0, locals := 123 }) s m ([.ref h, .int p0, .int p1, .int p2] : List Value).toArray below meth c H locs 0 0 (MQ below (mo_Qi D di dz h ad A r σ') ([.ref h, .int p0, .int p1, .int p2] : List Value).toArray s 0 0 A) (F0 m 115 ls []) := by
        intro σ v4 v6 v7 H locs ls hF V hl
        unfold mo_drawn_J115 at hF
        refine lv_aload_n hx hb dX6_drawn_115 rfl (lv_at hl 0 rfl) ?_
        refine lv_aload_n hx hb dX6_drawn_116 rfl (lv_at hl 0 rfl) ?_
        refine mo_get S V 15 (by decide) rfl q1630 rfl dX6_drawn_117 ?_
        refine lv_iload_n hx hb dX6_drawn_120 rfl (lv_at hl 1 rfl) ?_
        refine lv_iconst (v := 0) hx hb dX6_drawn_121 (by decide) ?_
        refine lv_iconst (v := 0) hx hb dX6_drawn_122 (by decide) ?_
        obtain ⟨σ5, h5c, hF⟩ := dx_b1_some hF
        refine mo_cVv S V [.ref (ad 7), .int v1, .int (0 : Int32), .int (0 : Int32)] (mo_m_walks l D di dz h ad A 7 (by decide) v1 (0 : Int32) (0 : Int32) σ _ h5c) (cwV 4 hts (lw_V q1883 q1885 qs58 q83 q1886) rfl rfl rfl mo_d_walks ⟨Nat.le_of_ble_eq_true rfl, Nat.le_of_ble_eq_true rfl⟩) rfl rfl hl.1 (Nat.le_of_ble_eq_true rfl) dX6_drawn_123 (fun _ _ V => ?_)
        refine lv_iconst (v := 0) hx hb dX6_drawn_126 (by decide) ?_
        refine lv_istore (lv' := [(8, .int (0 : Int32)), (0, .ref h), (1, .int v1), (2, .int v2), (4, .long v4), (6, .int v6), (7, .int v7)]) hx hb dX6_drawn_127 hl (by decide) rfl (fun ls hl => ?_)
        exact hL129 σ5 v4 v7 dx_fu v6 (0 : Int32) _ _ _ hF V (lv_sub hl [1, 2, 3, 4, 5, 6, 0] rfl)
      refine lv_iload hx hb dX6_drawn_54 (lv_at hl 5 rfl) ?_
      refine lv_iload_n hx hb dX6_drawn_56 rfl (lv_at hl 2 rfl) ?_
      refine lv_icmp_ge (tgt := 172) hx hb dX6_drawn_57 (by decide) (fun hc => ?_) (fun hc => ?_)
      · replace hF := (if_pos hc).symm.trans hF
        replace hF := dx_ex_k hF hz54
        refine lv_iload hx hb dX6_drawn_172 (lv_at hl 4 rfl) ?_
        obtain ⟨hF1, hF2⟩ := dx_r2 hF
        subst hF1
        subst hF2
        exact mo_ri S V hr hlocks rfl dX6_drawn_174
      · replace hF := (if_neg hc).symm.trans hF
        refine lv_lload hx hb dX6_drawn_60 (lv_at hl 3 rfl) ?_
        refine lv_ldc2 hx hb hown (hts _ q1989) dX6_drawn_62 ?_
        refine lv_lmul hx hb dX6_drawn_65 ?_
        refine lv_ldc2 hx hb hown (hts _ q1990) dX6_drawn_66 ?_
        refine lv_lrem hx hb dX6_drawn_69 (by decide) ?_
        refine lv_lstore (lv' := [(4, .long ((v4 * (16807 : Int64)) - (v4 * (16807 : Int64)) / (2147483647 : Int64) * (2147483647 : Int64))), (0, .ref h), (1, .int v1), (2, .int v2), (6, .int v6), (7, .int v7)]) hx hb dX6_drawn_70 hl (by decide) rfl (fun ls hl => ?_)
        refine lv_aload_n hx hb dX6_drawn_72 rfl (lv_at hl 1 rfl) ?_
        refine mo_get S V 15 (by decide) rfl q1630 rfl dX6_drawn_73 ?_
        refine lv_iconst (v := 1) hx hb dX6_drawn_76 (by decide) ?_
        refine mo_ld S V 7 (by decide) (dx_inb_in rfl) dX6_drawn_77 ?_
        refine lv_if_le (tgt := 115) hx hb dX6_drawn_78 (by decide) (fun hc => ?_) (fun hc => ?_)
        · replace hF := (if_pos hc).symm.trans hF
          exact hJ115 σ ((v4 * (16807 : Int64)) - (v4 * (16807 : Int64)) / (2147483647 : Int64) * (2147483647 : Int64)) v6 v7 _ _ _ hF V (lv_sub hl [1, 2, 3, 0, 4, 5] rfl)
        · replace hF := (if_neg hc).symm.trans hF
          refine lv_aload_n hx hb dX6_drawn_81 rfl (lv_at hl 1 rfl) ?_
          refine mo_get S V 15 (by decide) rfl q1630 rfl dX6_drawn_82 ?_
          refine lv_bipush (v := 22) hx hb dX6_drawn_85 (by decide) ?_
          refine lv_iconst (v := 3) hx hb dX6_drawn_87 (by decide) ?_
          refine lv_lload hx hb dX6_drawn_88 (lv_at hl 0 rfl) ?_
          refine lv_aload_n hx hb dX6_drawn_90 rfl (lv_at hl 1 rfl) ?_
          refine mo_get S V 15 (by decide) rfl q1630 rfl dX6_drawn_91 ?_
          refine lv_iconst (v := 1) hx hb dX6_drawn_94 (by decide) ?_
          refine mo_ld S V 7 (by decide) (dx_inb_in rfl) dX6_drawn_95 ?_
          refine lv_i2l hx hb dX6_drawn_96 rfl ?_
          obtain ⟨hg, hF⟩ := dx_gd_some hF
          refine lv_lrem hx hb dX6_drawn_97 (of_decide_eq_true hg) ?_
          refine lv_l2i hx hb dX6_drawn_98 rfl ?_
          refine lv_imul hx hb dX6_drawn_99 ?_
          refine lv_iadd hx hb dX6_drawn_100 ?_
          refine lv_iconst (v := 2) hx hb dX6_drawn_101 (by decide) ?_
          refine lv_iadd hx hb dX6_drawn_102 ?_
          refine lv_lload hx hb dX6_drawn_103 (lv_at hl 0 rfl) ?_
          refine lv_ldc2 hx hb hown (hts _ q1991) dX6_drawn_105 ?_
          refine lv_ldiv hx hb dX6_drawn_108 (by decide) ?_
          refine lv_ldc2 hx hb hown (hts _ q1992) dX6_drawn_109 ?_
          refine lv_lrem hx hb dX6_drawn_112 (by decide) ?_
          refine lv_l2i hx hb dX6_drawn_113 rfl ?_
          obtain ⟨hg, hF⟩ := dx_gd_some hF
          refine mo_st S V 7 (by decide) (dx_inb_in hg) dX6_drawn_114 (fun _ _ V => ?_)
          exact hJ115 (mo_A σ 7 ((((22 : Int32) + ((3 : Int32) * (((v4 * (16807 : Int64)) - (v4 * (16807 : Int64)) / (2147483647 : Int64) * (2147483647 : Int64)) - ((v4 * (16807 : Int64)) - (v4 * (16807 : Int64)) / (2147483647 : Int64) * (2147483647 : Int64)) / (σ.2 7 (1 : Int32).toNatClampNeg).toInt64 * (σ.2 7 (1 : Int32).toNatClampNeg).toInt64).toInt32)) + (2 : Int32)).toNatClampNeg) (((((v4 * (16807 : Int64)) - (v4 * (16807 : Int64)) / (2147483647 : Int64) * (2147483647 : Int64)) / (16 : Int64)) - (((v4 * (16807 : Int64)) - (v4 * (16807 : Int64)) / (2147483647 : Int64) * (2147483647 : Int64)) / (16 : Int64)) / (31 : Int64) * (31 : Int64)).toInt32)) ((v4 * (16807 : Int64)) - (v4 * (16807 : Int64)) / (2147483647 : Int64) * (2147483647 : Int64)) v6 v7 _ _ _ hF V (lv_sub hl [1, 2, 3, 0, 4, 5] rfl)
  refine lv_aload_n hx hb dX6_drawn_0 rfl (lv_at hl 0 rfl) ?_
  refine lv_iload_n hx hb dX6_drawn_1 rfl (lv_at hl 1 rfl) ?_
  obtain ⟨r1, h1c, hF⟩ := dx_b1_some hF
  refine mo_cVi S V [.int p0] (mo_m_isPerson l D di dz h ad A  p0 σ0 _ h1c) (cwV 1 hts (lw_V q1815 q1817 qs51 q83 q1818) rfl rfl rfl mo_d_isPerson ⟨Nat.le_of_ble_eq_true rfl, Nat.le_of_ble_eq_true rfl⟩) rfl rfl hl.1 (Nat.le_of_ble_eq_true rfl) dX6_drawn_2 (fun _ _ V => ?_)
  refine lv_if_eq (tgt := 28) hx hb dX6_drawn_5 (by decide) (fun hc => ?_) (fun hc => ?_)
  · replace hF := dx_ib_f (dx_bI_0 hc) hF
    refine lv_ldc hx hb hown (hts _ q1714) dX6_drawn_28 ?_
    obtain ⟨hF1, hF2⟩ := dx_r2 hF
    subst hF1
    subst hF2
    exact mo_ri S V hr hlocks rfl dX6_drawn_30
  · replace hF := dx_ib_t (dx_bI_n hc) hF
    refine lv_iload_n hx hb dX6_drawn_8 rfl (lv_at hl 2 rfl) ?_
    refine lv_iconst (v := 0) hx hb dX6_drawn_9 (by decide) ?_
    refine lv_bipush (v := 30) hx hb dX6_drawn_10 (by decide) ?_
    obtain ⟨r2, h2c, hF⟩ := dx_b1_some hF
    refine dx_cPi S [.int p1, .int (0 : Int32), .int (30 : Int32)] (mo_m_in l p1 (0 : Int32) (30 : Int32) _ h2c) (va_cwS 3 hts (lw_S q1711 q1712 q83 q1713) rfl rfl rfl mo_d_in ⟨Nat.le_of_ble_eq_true rfl, Nat.le_of_ble_eq_true rfl⟩) rfl rfl hl.1 (Nat.le_of_ble_eq_true rfl) dX6_drawn_12 ⟨Nat.zero_le _, Nat.zero_le _⟩ ?_
    refine lv_if_eq (tgt := 28) hx hb dX6_drawn_15 (by decide) (fun hc => ?_) (fun hc => ?_)
    · replace hF := dx_ib_f (dx_bI_0 hc) hF
      refine lv_ldc hx hb hown (hts _ q1714) dX6_drawn_28 ?_
      obtain ⟨hF1, hF2⟩ := dx_r2 hF
      subst hF1
      subst hF2
      exact mo_ri S V hr hlocks rfl dX6_drawn_30
    · replace hF := dx_ib_t (dx_bI_n hc) hF
      refine lv_iload_n hx hb dX6_drawn_18 rfl (lv_at hl 3 rfl) ?_
      refine lv_iconst (v := 1) hx hb dX6_drawn_19 (by decide) ?_
      refine lv_ldc hx hb hown (hts _ q1988) dX6_drawn_20 ?_
      obtain ⟨r3, h3c, hF⟩ := dx_b1_some hF
      refine dx_cPi S [.int p2, .int (1 : Int32), .int (999999 : Int32)] (mo_m_in l p2 (1 : Int32) (999999 : Int32) _ h3c) (va_cwS 3 hts (lw_S q1711 q1712 q83 q1713) rfl rfl rfl mo_d_in ⟨Nat.le_of_ble_eq_true rfl, Nat.le_of_ble_eq_true rfl⟩) rfl rfl hl.1 (Nat.le_of_ble_eq_true rfl) dX6_drawn_22 ⟨Nat.zero_le _, Nat.zero_le _⟩ ?_
      refine lv_if_ne (tgt := 31) hx hb dX6_drawn_25 (by decide) (fun hc => ?_) (fun hc => ?_)
      · replace hF := dx_ib_t (dx_bI_n hc) hF
        refine lv_aload_n hx hb dX6_drawn_31 rfl (lv_at hl 0 rfl) ?_
        refine mo_get S V 13 (by decide) rfl q1628 rfl dX6_drawn_32 ?_
        refine lv_iconst (v := 0) hx hb dX6_drawn_35 (by decide) ?_
        refine lv_aload_n hx hb dX6_drawn_36 rfl (lv_at hl 0 rfl) ?_
        refine mo_get S V 15 (by decide) rfl q1630 rfl dX6_drawn_37 ?_
        refine lv_iconst (v := 0) hx hb dX6_drawn_40 (by decide) ?_
        obtain ⟨σ4, h4c, hF⟩ := dx_b1_some hF
        refine mo_cSv S V [.ref (ad 5), .int (0 : Int32), .ref (ad 7), .int (0 : Int32)] (mo_m_copies l D di dz h ad A 5 (by decide) 7 (by decide) (0 : Int32) (0 : Int32) σ0 _ h4c) (va_cwS 4 hts (lw_S q1804 q1805 q83 q1806) rfl rfl rfl mo_d_copies ⟨Nat.le_of_ble_eq_true rfl, Nat.le_of_ble_eq_true rfl⟩) rfl rfl hl.1 (Nat.le_of_ble_eq_true rfl) dX6_drawn_41 (fun _ _ V => ?_)
        refine lv_iload_n hx hb dX6_drawn_44 rfl (lv_at hl 3 rfl) ?_
        refine lv_i2l hx hb dX6_drawn_45 rfl ?_
        refine lv_lstore (lv' := [(4, .long p2.toInt64), (0, .ref h), (1, .int p0), (2, .int p1), (3, .int p2)]) hx hb dX6_drawn_46 hl (by decide) rfl (fun ls hl => ?_)
        refine lv_iconst (v := 0) hx hb dX6_drawn_48 (by decide) ?_
        refine lv_istore (lv' := [(6, .int (0 : Int32)), (4, .long p2.toInt64), (0, .ref h), (1, .int p0), (2, .int p1), (3, .int p2)]) hx hb dX6_drawn_49 hl (by decide) rfl (fun ls hl => ?_)
        refine lv_iconst (v := 0) hx hb dX6_drawn_51 (by decide) ?_
        refine lv_istore (lv' := [(7, .int (0 : Int32)), (6, .int (0 : Int32)), (4, .long p2.toInt64), (0, .ref h), (1, .int p0), (2, .int p1), (3, .int p2)]) hx hb dX6_drawn_52 hl (by decide) rfl (fun ls hl => ?_)
        exact hL54 p0 p1 dx_fu p2.toInt64 (0 : Int32) (0 : Int32) σ4 _ _ _ hF V (lv_sub hl [3, 4, 5, 2, 1, 0] rfl)
      · replace hF := dx_ib_f (dx_bI_0 hc) hF
        refine lv_ldc hx hb hown (hts _ q1714) dX6_drawn_28 ?_
        obtain ⟨hF1, hF2⟩ := dx_r2 hF
        subst hF1
        subst hF2
        exact mo_ri S V hr hlocks rfl dX6_drawn_30
theorem mo_d_image : yX6_image.cls = RX6 ∧ yX6_image.cls ≠ "java/lang/invoke/MethodHandle" ∧ yX6_image.cls ≠ "java/lang/invoke/VarHandle" ∧ (parseMethodDescriptor yX6_image.desc).map (fun d => d.parameters.length) = some 1 := by decide +kernel
set_option maxHeartbeats 4000000 in
set_option maxRecDepth 100000 in
theorem mo_m_image (l : Launch) (D : va_G) (di dz : ClassId) (h : Nat) (ad : Nat → Nat) (A : Nat → Prop)  (p0 : Int32) (σ0 : mo_S) (r : Int32) (σ' : mo_S) (hF : mo_image σ0 p0 = some (r, σ')) : mo_Ci l yX6_image cX6_image 2 .int ({ frames := 1, cells := 0, slots := 0, locals := 24 }) D di dz h ad A [.ref h, .int p0] σ0 r σ' := by
  refine dx_in RX6 rfl (by decide) (Nat.le_of_ble_eq_true rfl) ?_
  intro p e s m below meth c ls S hr hlocks hv hl
  have hx := S.1
  have hb := S.2.1
  have hown := S.2.2.2.1
  have hts := S.2.2.2.2
  obtain ⟨hK, hP, hD⟩ := hv
  have V : mo_V D di dz h ad A s.heap σ0 s s.heap [] := ⟨hK, hP, hD, va_S.rf⟩
  replace hl : lv_has ls 2 [(0, .ref h), (1, .int p0)] := hl
  unfold mo_image at hF
  refine lv_iload_n hx hb dX6_image_0 rfl (lv_at hl 1 rfl) ?_
  refine lv_iconst (v := 0) hx hb dX6_image_1 (by decide) ?_
  refine lv_iconst (v := 1) hx hb dX6_image_2 (by decide) ?_
  obtain ⟨r1, h1c, hF⟩ := dx_b1_some hF
  refine dx_cPi S [.int p0, .int (0 : Int32), .int (1 : Int32)] (mo_m_in l p0 (0 : Int32) (1 : Int32) _ h1c) (va_cwS 3 hts (lw_S q1711 q1712 q83 q1713) rfl rfl rfl mo_d_in ⟨Nat.le_of_ble_eq_true rfl, Nat.le_of_ble_eq_true rfl⟩) rfl rfl hl.1 (Nat.le_of_ble_eq_true rfl) dX6_image_3 ⟨Nat.zero_le _, Nat.zero_le _⟩ ?_
  refine lv_if_ne (tgt := 12) hx hb dX6_image_6 (by decide) (fun hc => ?_) (fun hc => ?_)
  · replace hF := dx_ib_t (dx_bI_n hc) hF
    refine lv_aload_n hx hb dX6_image_12 rfl (lv_at hl 0 rfl) ?_
    obtain ⟨r2, h2c, hF⟩ := dx_b1_some hF
    refine mo_cVi S V [] (mo_m_isNet l D di dz h ad A   σ0 _ h2c) (cwV 0 hts (lw_V q1848 q1850 qs55 q83 q1851) rfl rfl rfl mo_d_isNet ⟨Nat.le_of_ble_eq_true rfl, Nat.le_of_ble_eq_true rfl⟩) rfl rfl hl.1 (Nat.le_of_ble_eq_true rfl) dX6_image_13 (fun _ _ V => ?_)
    refine lv_if_ne (tgt := 22) hx hb dX6_image_16 (by decide) (fun hc => ?_) (fun hc => ?_)
    · replace hF := dx_ib_t (dx_bI_n hc) hF
      refine lv_aload_n hx hb dX6_image_22 rfl (lv_at hl 0 rfl) ?_
      refine mo_get S V 13 (by decide) rfl q1628 rfl dX6_image_23 ?_
      refine lv_iconst (v := 0) hx hb dX6_image_26 (by decide) ?_
      refine lv_aload_n hx hb dX6_image_27 rfl (lv_at hl 0 rfl) ?_
      refine mo_get S V 18 (by decide) rfl q1633 rfl dX6_image_28 ?_
      refine lv_bipush (v := 52) hx hb dX6_image_31 (by decide) ?_
      refine lv_iload_n hx hb dX6_image_33 rfl (lv_at hl 1 rfl) ?_
      refine lv_imul hx hb dX6_image_34 ?_
      obtain ⟨σ3, h3c, hF⟩ := dx_b1_some hF
      refine mo_cSv S V [.ref (ad 5), .int (0 : Int32), .ref (ad 9), .int ((52 : Int32) * p0)] (mo_m_copies l D di dz h ad A 5 (by decide) 9 (by decide) (0 : Int32) ((52 : Int32) * p0) σ0 _ h3c) (va_cwS 4 hts (lw_S q1804 q1805 q83 q1806) rfl rfl rfl mo_d_copies ⟨Nat.le_of_ble_eq_true rfl, Nat.le_of_ble_eq_true rfl⟩) rfl rfl hl.1 (Nat.le_of_ble_eq_true rfl) dX6_image_35 (fun _ _ V => ?_)
      refine lv_aload_n hx hb dX6_image_38 rfl (lv_at hl 0 rfl) ?_
      refine mo_get S V 19 (by decide) rfl q1634 rfl dX6_image_39 ?_
      refine lv_iload_n hx hb dX6_image_42 rfl (lv_at hl 1 rfl) ?_
      refine lv_iconst (v := 1) hx hb dX6_image_43 (by decide) ?_
      obtain ⟨hg, hF⟩ := dx_gd_some hF
      refine mo_stz S V rfl (dx_inb_in hg) dX6_image_44 (fun _ _ V => ?_)
      refine lv_iconst (v := 1) hx hb dX6_image_45 (by decide) ?_
      obtain ⟨hF1, hF2⟩ := dx_r2 hF
      subst hF1
      subst hF2
      exact mo_ri S V hr hlocks rfl dX6_image_46
    · replace hF := dx_ib_f (dx_bI_0 hc) hF
      refine lv_ldc hx hb hown (hts _ q1835) dX6_image_19 ?_
      obtain ⟨hF1, hF2⟩ := dx_r2 hF
      subst hF1
      subst hF2
      exact mo_ri S V hr hlocks rfl dX6_image_21
  · replace hF := dx_ib_f (dx_bI_0 hc) hF
    refine lv_ldc hx hb hown (hts _ q1714) dX6_image_9 ?_
    obtain ⟨hF1, hF2⟩ := dx_r2 hF
    subst hF1
    subst hF2
    exact mo_ri S V hr hlocks rfl dX6_image_11
theorem mo_d_restore : yX6_restore.cls = RX6 ∧ yX6_restore.cls ≠ "java/lang/invoke/MethodHandle" ∧ yX6_restore.cls ≠ "java/lang/invoke/VarHandle" ∧ (parseMethodDescriptor yX6_restore.desc).map (fun d => d.parameters.length) = some 1 := by decide +kernel
set_option maxHeartbeats 4000000 in
set_option maxRecDepth 100000 in
theorem mo_m_restore (l : Launch) (D : va_G) (di dz : ClassId) (h : Nat) (ad : Nat → Nat) (A : Nat → Prop)  (p0 : Int32) (σ0 : mo_S) (r : Int32) (σ' : mo_S) (hF : mo_restore σ0 p0 = some (r, σ')) : mo_Ci l yX6_restore cX6_restore 2 .int ({ frames := 1, cells := 0, slots := 0, locals := 24 }) D di dz h ad A [.ref h, .int p0] σ0 r σ' := by
  refine dx_in RX6 rfl (by decide) (Nat.le_of_ble_eq_true rfl) ?_
  intro p e s m below meth c ls S hr hlocks hv hl
  have hx := S.1
  have hb := S.2.1
  have hown := S.2.2.2.1
  have hts := S.2.2.2.2
  obtain ⟨hK, hP, hD⟩ := hv
  have V : mo_V D di dz h ad A s.heap σ0 s s.heap [] := ⟨hK, hP, hD, va_S.rf⟩
  replace hl : lv_has ls 2 [(0, .ref h), (1, .int p0)] := hl
  unfold mo_restore at hF
  refine lv_iload_n hx hb dX6_restore_0 rfl (lv_at hl 1 rfl) ?_
  refine lv_iconst (v := 0) hx hb dX6_restore_1 (by decide) ?_
  refine lv_iconst (v := 1) hx hb dX6_restore_2 (by decide) ?_
  obtain ⟨r1, h1c, hF⟩ := dx_b1_some hF
  refine dx_cPi S [.int p0, .int (0 : Int32), .int (1 : Int32)] (mo_m_in l p0 (0 : Int32) (1 : Int32) _ h1c) (va_cwS 3 hts (lw_S q1711 q1712 q83 q1713) rfl rfl rfl mo_d_in ⟨Nat.le_of_ble_eq_true rfl, Nat.le_of_ble_eq_true rfl⟩) rfl rfl hl.1 (Nat.le_of_ble_eq_true rfl) dX6_restore_3 ⟨Nat.zero_le _, Nat.zero_le _⟩ ?_
  refine lv_if_ne (tgt := 12) hx hb dX6_restore_6 (by decide) (fun hc => ?_) (fun hc => ?_)
  · replace hF := dx_ib_t (dx_bI_n hc) hF
    refine lv_aload_n hx hb dX6_restore_12 rfl (lv_at hl 0 rfl) ?_
    refine mo_get S V 19 (by decide) rfl q1634 rfl dX6_restore_13 ?_
    refine lv_iload_n hx hb dX6_restore_16 rfl (lv_at hl 1 rfl) ?_
    obtain ⟨hg, hF⟩ := dx_gd_some hF
    refine mo_ldz S V (dx_inb_in hg) dX6_restore_17 ?_
    refine lv_if_ne (tgt := 24) hx hb dX6_restore_18 (by decide) (fun hc => ?_) (fun hc => ?_)
    · replace hF := (if_neg hc).symm.trans hF
      refine lv_aload_n hx hb dX6_restore_24 rfl (lv_at hl 0 rfl) ?_
      refine mo_get S V 18 (by decide) rfl q1633 rfl dX6_restore_25 ?_
      refine lv_bipush (v := 52) hx hb dX6_restore_28 (by decide) ?_
      refine lv_iload_n hx hb dX6_restore_30 rfl (lv_at hl 1 rfl) ?_
      refine lv_imul hx hb dX6_restore_31 ?_
      refine lv_aload_n hx hb dX6_restore_32 rfl (lv_at hl 0 rfl) ?_
      refine mo_get S V 13 (by decide) rfl q1628 rfl dX6_restore_33 ?_
      refine lv_iconst (v := 0) hx hb dX6_restore_36 (by decide) ?_
      obtain ⟨σ2, h2c, hF⟩ := dx_b1_some hF
      refine mo_cSv S V [.ref (ad 9), .int ((52 : Int32) * p0), .ref (ad 5), .int (0 : Int32)] (mo_m_copies l D di dz h ad A 9 (by decide) 5 (by decide) ((52 : Int32) * p0) (0 : Int32) σ0 _ h2c) (va_cwS 4 hts (lw_S q1804 q1805 q83 q1806) rfl rfl rfl mo_d_copies ⟨Nat.le_of_ble_eq_true rfl, Nat.le_of_ble_eq_true rfl⟩) rfl rfl hl.1 (Nat.le_of_ble_eq_true rfl) dX6_restore_37 (fun _ _ V => ?_)
      refine lv_aload_n hx hb dX6_restore_40 rfl (lv_at hl 0 rfl) ?_
      refine lv_iconst (v := 0) hx hb dX6_restore_41 (by decide) ?_
      refine mo_put S V 17 8 (by decide) rfl q1632 rfl rfl rfl dX6_restore_42 (fun _ _ V => ?_)
      refine lv_iconst (v := 1) hx hb dX6_restore_45 (by decide) ?_
      obtain ⟨hF1, hF2⟩ := dx_r2 hF
      subst hF1
      subst hF2
      exact mo_ri S V hr hlocks rfl dX6_restore_46
    · replace hF := (if_pos hc).symm.trans hF
      refine lv_ldc hx hb hown (hts _ q1835) dX6_restore_21 ?_
      obtain ⟨hF1, hF2⟩ := dx_r2 hF
      subst hF1
      subst hF2
      exact mo_ri S V hr hlocks rfl dX6_restore_23
  · replace hF := dx_ib_f (dx_bI_0 hc) hF
    refine lv_ldc hx hb hown (hts _ q1714) dX6_restore_9 ?_
    obtain ⟨hF1, hF2⟩ := dx_r2 hF
    subst hF1
    subst hF2
    exact mo_ri S V hr hlocks rfl dX6_restore_11
theorem mo_d_kindIn : yX6_kindIn.cls = RX6 ∧ yX6_kindIn.cls ≠ "java/lang/invoke/MethodHandle" ∧ yX6_kindIn.cls ≠ "java/lang/invoke/VarHandle" ∧ (parseMethodDescriptor yX6_kindIn.desc).map (fun d => d.parameters.length) = some 1 := by decide +kernel
set_option maxHeartbeats 4000000 in
set_option maxRecDepth 100000 in
theorem mo_m_kindIn (l : Launch) (D : va_G) (di dz : ClassId) (h : Nat) (ad : Nat → Nat) (A : Nat → Prop)  (p0 : Int32) (σ0 : mo_S) (r : Int32) (hF : mo_kindIn σ0 p0 = some r) : mo_Ci l yX6_kindIn cX6_kindIn 2 .int ({ frames := 0, cells := 0, slots := 0, locals := 0 }) D di dz h ad A [.ref h, .int p0] σ0 r σ0 := by
  refine dx_in RX6 rfl (by decide) (Nat.le_of_ble_eq_true rfl) ?_
  intro p e s m below meth c ls S hr hlocks hv hl
  have hx := S.1
  have hb := S.2.1
  have hown := S.2.2.2.1
  have hts := S.2.2.2.2
  obtain ⟨hK, hP, hD⟩ := hv
  have V : mo_V D di dz h ad A s.heap σ0 s s.heap [] := ⟨hK, hP, hD, va_S.rf⟩
  replace hl : lv_has ls 2 [(0, .ref h), (1, .int p0)] := hl
  unfold mo_kindIn at hF
  refine lv_aload_n hx hb dX6_kindIn_0 rfl (lv_at hl 0 rfl) ?_
  refine mo_get S V 13 (by decide) rfl q1628 rfl dX6_kindIn_1 ?_
  refine lv_iconst (v := 4) hx hb dX6_kindIn_4 (by decide) ?_
  refine lv_iconst (v := 2) hx hb dX6_kindIn_5 (by decide) ?_
  refine lv_iload_n hx hb dX6_kindIn_6 rfl (lv_at hl 1 rfl) ?_
  refine lv_imul hx hb dX6_kindIn_7 ?_
  refine lv_iadd hx hb dX6_kindIn_8 ?_
  obtain ⟨hg, hF⟩ := dx_gd_some hF
  refine mo_ld S V 5 (by decide) (dx_inb_in hg) dX6_kindIn_9 ?_
  replace hF := Option.some.inj hF
  subst hF
  exact mo_ri S V hr hlocks rfl dX6_kindIn_10
theorem mo_d_kind : yX6_kind.cls = RX6 ∧ yX6_kind.cls ≠ "java/lang/invoke/MethodHandle" ∧ yX6_kind.cls ≠ "java/lang/invoke/VarHandle" ∧ (parseMethodDescriptor yX6_kind.desc).map (fun d => d.parameters.length) = some 1 := by decide +kernel
set_option maxHeartbeats 4000000 in
set_option maxRecDepth 100000 in
theorem mo_m_kind (l : Launch) (D : va_G) (di dz : ClassId) (h : Nat) (ad : Nat → Nat) (A : Nat → Prop)  (p0 : Int32) (σ0 : mo_S) (r : Int32) (hF : mo_kind σ0 p0 = some r) : mo_Ci l yX6_kind cX6_kind 2 .int ({ frames := 2, cells := 0, slots := 0, locals := 43 }) D di dz h ad A [.ref h, .int p0] σ0 r σ0 := by
  refine dx_in RX6 rfl (by decide) (Nat.le_of_ble_eq_true rfl) ?_
  intro p e s m below meth c ls S hr hlocks hv hl
  have hx := S.1
  have hb := S.2.1
  have hown := S.2.2.2.1
  have hts := S.2.2.2.2
  obtain ⟨hK, hP, hD⟩ := hv
  have V : mo_V D di dz h ad A s.heap σ0 s s.heap [] := ⟨hK, hP, hD, va_S.rf⟩
  replace hl : lv_has ls 2 [(0, .ref h), (1, .int p0)] := hl
  unfold mo_kind at hF
  refine lv_aload_n hx hb dX6_kind_0 rfl (lv_at hl 0 rfl) ?_
  refine lv_iload_n hx hb dX6_kind_1 rfl (lv_at hl 1 rfl) ?_
  obtain ⟨r1, h1c, hF⟩ := dx_b1_some hF
  refine mo_cVi S V [.int p0] (mo_m_isPerson l D di dz h ad A  p0 σ0 _ h1c) (cwV 1 hts (lw_V q1815 q1817 qs51 q83 q1818) rfl rfl rfl mo_d_isPerson ⟨Nat.le_of_ble_eq_true rfl, Nat.le_of_ble_eq_true rfl⟩) rfl rfl hl.1 (Nat.le_of_ble_eq_true rfl) dX6_kind_2 (fun _ _ V => ?_)
  refine lv_if_eq (tgt := 16) hx hb dX6_kind_5 (by decide) (fun hc => ?_) (fun hc => ?_)
  · replace hF := dx_ib_f (dx_bI_0 hc) hF
    refine lv_ldc hx hb hown (hts _ q1714) dX6_kind_16 ?_
    replace hF := Option.some.inj hF
    subst hF
    exact mo_ri S V hr hlocks rfl dX6_kind_18
  · replace hF := dx_ib_t (dx_bI_n hc) hF
    refine lv_aload_n hx hb dX6_kind_8 rfl (lv_at hl 0 rfl) ?_
    refine lv_iload_n hx hb dX6_kind_9 rfl (lv_at hl 1 rfl) ?_
    obtain ⟨r2, h2c, hF⟩ := dx_b1_some hF
    refine mo_cVi S V [.int p0] (mo_m_kindIn l D di dz h ad A  p0 σ0 _ h2c) (cwV 1 hts (lw_V q2005 q2007 qs69 q83 q2008) rfl rfl rfl mo_d_kindIn ⟨Nat.le_of_ble_eq_true rfl, Nat.le_of_ble_eq_true rfl⟩) rfl rfl hl.1 (Nat.le_of_ble_eq_true rfl) dX6_kind_10 (fun _ _ V => ?_)
    refine lv_goto (tgt := 18) hx hb dX6_kind_13 (by decide) ?_
    replace hF := Option.some.inj hF
    subst hF
    exact mo_ri S V hr hlocks rfl dX6_kind_18
theorem mo_d_as : yX6_as.cls = RX6 ∧ yX6_as.cls ≠ "java/lang/invoke/MethodHandle" ∧ yX6_as.cls ≠ "java/lang/invoke/VarHandle" ∧ (parseMethodDescriptor yX6_as.desc).map (fun d => d.parameters.length) = some 2 := by decide +kernel
set_option maxHeartbeats 4000000 in
set_option maxRecDepth 100000 in
theorem mo_m_as (l : Launch) (D : va_G) (di dz : ClassId) (h : Nat) (ad : Nat → Nat) (A : Nat → Prop)  (p0 : Int32) (p1 : Int32) (σ0 : mo_S) (r : Int32) (σ' : mo_S) (hF : mo_as σ0 p0 p1 = some (r, σ')) : mo_Ci l yX6_as cX6_as 5 .int ({ frames := 2, cells := 0, slots := 0, locals := 43 }) D di dz h ad A [.ref h, .int p0, .int p1] σ0 r σ' := by
  refine dx_in RX6 rfl (by decide) (Nat.le_of_ble_eq_true rfl) ?_
  intro p e s m below meth c ls S hr hlocks hv hl
  have hx := S.1
  have hb := S.2.1
  have hown := S.2.2.2.1
  have hts := S.2.2.2.2
  obtain ⟨hK, hP, hD⟩ := hv
  have V : mo_V D di dz h ad A s.heap σ0 s s.heap [] := ⟨hK, hP, hD, va_S.rf⟩
  replace hl : lv_has ls 5 [(0, .ref h), (1, .int p0), (2, .int p1)] := hl
  unfold mo_as at hF
  have hJ60 : ∀ (σ : mo_S) (v1 : Int32) (t0 : Bool) (H : Heap) (locs : List Loc) (ls : Array Slot), mo_as_J60 σ v1 t0 = some (r, σ') → mo_V D di dz h ad A s.heap σ s H locs → lv_has ls 5 [(0, .ref h), (1, .int v1)] → W p l e ({ frames := 2, cells := 0, slots := 0, locals := 43 }) s m ([.ref h, .int p0, .int p1] : List Value).toArray below meth c H locs 0 0 (MQ below (mo_Qi D di dz h ad A r σ') ([.ref h, .int p0, .int p1] : List Value).toArray s 0 0 A) (F0 m 60 ls [.int (dx_bI t0)]) := by
    intro σ v1 t0 H locs ls hF V hl
    unfold mo_as_J60 at hF
    refine lv_istore (lv' := [(4, .int (dx_bI t0)), (0, .ref h), (1, .int v1)]) hx hb dX6_as_60 hl (by decide) rfl (fun ls hl => ?_)
    refine lv_iload hx hb dX6_as_62 (lv_at hl 0 rfl) ?_
    refine lv_if_eq (tgt := 75) hx hb dX6_as_64 (by decide) (fun hc => ?_) (fun hc => ?_)
    · replace hF := dx_ib_f (dx_bI_0 hc) hF
      refine lv_aload_n hx hb dX6_as_75 rfl (lv_at hl 1 rfl) ?_
      refine lv_iconst (v := 3) hx hb dX6_as_76 (by decide) ?_
      obtain ⟨r4, σ4, h4c, hF⟩ := dx_b2_some hF
      refine mo_cVi S V [.int (3 : Int32)] (mo_m_found l D di dz h ad A  (3 : Int32) σ _ _ h4c) (cwV 1 hts (lw_V q1715 q1717 qs36 q83 q1718) rfl rfl rfl mo_d_found ⟨Nat.le_of_ble_eq_true rfl, Nat.le_of_ble_eq_true rfl⟩) rfl rfl hl.1 (Nat.le_of_ble_eq_true rfl) dX6_as_77 (fun _ _ V => ?_)
      obtain ⟨hF1, hF2⟩ := dx_r2 hF
      subst hF1
      subst hF2
      exact mo_ri S V hr hlocks rfl dX6_as_80
    · replace hF := dx_ib_t (dx_bI_n hc) hF
      refine lv_aload_n hx hb dX6_as_67 rfl (lv_at hl 1 rfl) ?_
      refine lv_iload_n hx hb dX6_as_68 rfl (lv_at hl 2 rfl) ?_
      obtain ⟨r5, σ5, h5c, hF⟩ := dx_b2_some hF
      refine mo_cVi S V [.int v1] (mo_m_well l D di dz h ad A  v1 σ _ _ h5c) (cwV 1 hts (lw_V q1720 q1722 qs37 q83 q1723) rfl rfl rfl mo_d_well ⟨Nat.le_of_ble_eq_true rfl, Nat.le_of_ble_eq_true rfl⟩) rfl rfl hl.1 (Nat.le_of_ble_eq_true rfl) dX6_as_69 (fun _ _ V => ?_)
      refine lv_goto (tgt := 80) hx hb dX6_as_72 (by decide) ?_
      obtain ⟨hF1, hF2⟩ := dx_r2 hF
      subst hF1
      subst hF2
      exact mo_ri S V hr hlocks rfl dX6_as_80
  have hJ45 : ∀ (σ : mo_S) (v1 : Int32) (v2 : Int32) (v3 : Int32) (H : Heap) (locs : List Loc) (ls : Array Slot), mo_as_J45 σ v1 v2 v3 = some (r, σ') → mo_V D di dz h ad A s.heap σ s H locs → lv_has ls 5 [(0, .ref h), (1, .int v1), (2, .int v2), (3, .int v3)] → W p l e ({ frames := 2, cells := 0, slots := 0, locals := 43 }) s m ([.ref h, .int p0, .int p1] : List Value).toArray below meth c H locs 0 0 (MQ below (mo_Qi D di dz h ad A r σ') ([.ref h, .int p0, .int p1] : List Value).toArray s 0 0 A) (F0 m 45 ls []) := by
    intro σ v1 v2 v3 H locs ls hF V hl
    unfold mo_as_J45 at hF
    refine lv_iload_n hx hb dX6_as_45 rfl (lv_at hl 2 rfl) ?_
    refine lv_iconst (v := 4) hx hb dX6_as_46 (by decide) ?_
    refine lv_icmp_ne (tgt := 59) hx hb dX6_as_47 (by decide) (fun hc => ?_) (fun hc => ?_)
    · replace hF := (if_neg hc).symm.trans hF
      refine lv_iconst (v := 0) hx hb dX6_as_59 (by decide) ?_
      exact hJ60 σ v1 false _ _ _ hF V (lv_sub hl [0, 1] rfl)
    · replace hF := (if_pos hc).symm.trans hF
      refine lv_iload_n hx hb dX6_as_50 rfl (lv_at hl 3 rfl) ?_
      refine lv_iconst (v := 5) hx hb dX6_as_51 (by decide) ?_
      refine lv_icmp_ne (tgt := 59) hx hb dX6_as_52 (by decide) (fun hc => ?_) (fun hc => ?_)
      · replace hF := (if_neg hc).symm.trans hF
        refine lv_iconst (v := 0) hx hb dX6_as_59 (by decide) ?_
        exact hJ60 σ v1 false _ _ _ hF V (lv_sub hl [0, 1] rfl)
      · replace hF := (if_pos hc).symm.trans hF
        refine lv_iconst (v := 1) hx hb dX6_as_55 (by decide) ?_
        refine lv_goto (tgt := 60) hx hb dX6_as_56 (by decide) ?_
        exact hJ60 σ v1 true _ _ _ hF V (lv_sub hl [0, 1] rfl)
  refine lv_aload_n hx hb dX6_as_0 rfl (lv_at hl 0 rfl) ?_
  refine lv_iload_n hx hb dX6_as_1 rfl (lv_at hl 1 rfl) ?_
  obtain ⟨r1, h1c, hF⟩ := dx_b1_some hF
  refine mo_cVi S V [.int p0] (mo_m_isPerson l D di dz h ad A  p0 σ0 _ h1c) (cwV 1 hts (lw_V q1815 q1817 qs51 q83 q1818) rfl rfl rfl mo_d_isPerson ⟨Nat.le_of_ble_eq_true rfl, Nat.le_of_ble_eq_true rfl⟩) rfl rfl hl.1 (Nat.le_of_ble_eq_true rfl) dX6_as_2 (fun _ _ V => ?_)
  refine lv_if_eq (tgt := 17) hx hb dX6_as_5 (by decide) (fun hc => ?_) (fun hc => ?_)
  · replace hF := dx_ib_f (dx_bI_0 hc) hF
    refine lv_ldc hx hb hown (hts _ q1714) dX6_as_17 ?_
    obtain ⟨hF1, hF2⟩ := dx_r2 hF
    subst hF1
    subst hF2
    exact mo_ri S V hr hlocks rfl dX6_as_19
  · replace hF := dx_ib_t (dx_bI_n hc) hF
    refine lv_iload_n hx hb dX6_as_8 rfl (lv_at hl 2 rfl) ?_
    refine lv_iconst (v := 0) hx hb dX6_as_9 (by decide) ?_
    refine lv_iconst (v := 5) hx hb dX6_as_10 (by decide) ?_
    obtain ⟨r2, h2c, hF⟩ := dx_b1_some hF
    refine dx_cPi S [.int p1, .int (0 : Int32), .int (5 : Int32)] (mo_m_in l p1 (0 : Int32) (5 : Int32) _ h2c) (va_cwS 3 hts (lw_S q1711 q1712 q83 q1713) rfl rfl rfl mo_d_in ⟨Nat.le_of_ble_eq_true rfl, Nat.le_of_ble_eq_true rfl⟩) rfl rfl hl.1 (Nat.le_of_ble_eq_true rfl) dX6_as_11 ⟨Nat.zero_le _, Nat.zero_le _⟩ ?_
    refine lv_if_ne (tgt := 20) hx hb dX6_as_14 (by decide) (fun hc => ?_) (fun hc => ?_)
    · replace hF := dx_ib_t (dx_bI_n hc) hF
      refine lv_aload_n hx hb dX6_as_20 rfl (lv_at hl 0 rfl) ?_
      refine lv_iload_n hx hb dX6_as_21 rfl (lv_at hl 1 rfl) ?_
      obtain ⟨r3, h3c, hF⟩ := dx_b1_some hF
      refine mo_cVi S V [.int p0] (mo_m_kindIn l D di dz h ad A  p0 σ0 _ h3c) (cwV 1 hts (lw_V q2005 q2007 qs69 q83 q2008) rfl rfl rfl mo_d_kindIn ⟨Nat.le_of_ble_eq_true rfl, Nat.le_of_ble_eq_true rfl⟩) rfl rfl hl.1 (Nat.le_of_ble_eq_true rfl) dX6_as_22 (fun _ _ V => ?_)
      refine lv_istore_n (lv' := [(3, .int r3), (0, .ref h), (1, .int p0), (2, .int p1)]) hx hb dX6_as_25 rfl hl (by decide) rfl (fun ls hl => ?_)
      refine lv_iload_n hx hb dX6_as_26 rfl (lv_at hl 3 rfl) ?_
      refine lv_if_eq (tgt := 55) hx hb dX6_as_27 (by decide) (fun hc => ?_) (fun hc => ?_)
      · replace hF := (if_pos hc).symm.trans hF
        refine lv_iconst (v := 1) hx hb dX6_as_55 (by decide) ?_
        refine lv_goto (tgt := 60) hx hb dX6_as_56 (by decide) ?_
        exact hJ60 σ0 p0 true _ _ _ hF V (lv_sub hl [1, 2] rfl)
      · replace hF := (if_neg hc).symm.trans hF
        refine lv_iload_n hx hb dX6_as_30 rfl (lv_at hl 3 rfl) ?_
        refine lv_iload_n hx hb dX6_as_31 rfl (lv_at hl 0 rfl) ?_
        refine lv_icmp_eq (tgt := 55) hx hb dX6_as_32 (by decide) (fun hc => ?_) (fun hc => ?_)
        · replace hF := (if_pos hc).symm.trans hF
          refine lv_iconst (v := 1) hx hb dX6_as_55 (by decide) ?_
          refine lv_goto (tgt := 60) hx hb dX6_as_56 (by decide) ?_
          exact hJ60 σ0 p0 true _ _ _ hF V (lv_sub hl [1, 2] rfl)
        · replace hF := (if_neg hc).symm.trans hF
          refine lv_iload_n hx hb dX6_as_35 rfl (lv_at hl 3 rfl) ?_
          refine lv_iconst (v := 1) hx hb dX6_as_36 (by decide) ?_
          refine lv_icmp_ne (tgt := 45) hx hb dX6_as_37 (by decide) (fun hc => ?_) (fun hc => ?_)
          · replace hF := (if_neg hc).symm.trans hF
            exact hJ45 σ0 p0 p1 r3 _ _ _ hF V (lv_sub hl [1, 2, 3, 0] rfl)
          · replace hF := (if_pos hc).symm.trans hF
            refine lv_iload_n hx hb dX6_as_40 rfl (lv_at hl 0 rfl) ?_
            refine lv_iconst (v := 4) hx hb dX6_as_41 (by decide) ?_
            refine lv_icmp_lt (tgt := 55) hx hb dX6_as_42 (by decide) (fun hc => ?_) (fun hc => ?_)
            · replace hF := (if_pos hc).symm.trans hF
              refine lv_iconst (v := 1) hx hb dX6_as_55 (by decide) ?_
              refine lv_goto (tgt := 60) hx hb dX6_as_56 (by decide) ?_
              exact hJ60 σ0 p0 true _ _ _ hF V (lv_sub hl [1, 2] rfl)
            · replace hF := (if_neg hc).symm.trans hF
              exact hJ45 σ0 p0 p1 r3 _ _ _ hF V (lv_sub hl [1, 2, 3, 0] rfl)
    · replace hF := dx_ib_f (dx_bI_0 hc) hF
      refine lv_ldc hx hb hown (hts _ q1714) dX6_as_17 ?_
      obtain ⟨hF1, hF2⟩ := dx_r2 hF
      subst hF1
      subst hF2
      exact mo_ri S V hr hlocks rfl dX6_as_19
theorem mo_d_begins : yX6_begins.cls = RX6 ∧ yX6_begins.cls ≠ "java/lang/invoke/MethodHandle" ∧ yX6_begins.cls ≠ "java/lang/invoke/VarHandle" ∧ (parseMethodDescriptor yX6_begins.desc).map (fun d => d.parameters.length) = some 1 := by decide +kernel
set_option maxHeartbeats 4000000 in
set_option maxRecDepth 100000 in
theorem mo_m_begins (l : Launch) (D : va_G) (di dz : ClassId) (h : Nat) (ad : Nat → Nat) (A : Nat → Prop)  (p0 : Int32) (σ0 : mo_S) (σ' : mo_S) (hF : mo_begins σ0 p0 = some σ') : mo_Cv l yX6_begins cX6_begins 2 ({ frames := 0, cells := 0, slots := 0, locals := 0 }) D di dz h ad A [.ref h, .int p0] σ0 σ' := by
  refine dx_in RX6 rfl (by decide) (Nat.le_of_ble_eq_true rfl) ?_
  intro p e s m below meth c ls S hr hlocks hv hl
  have hx := S.1
  have hb := S.2.1
  have hown := S.2.2.2.1
  have hts := S.2.2.2.2
  obtain ⟨hK, hP, hD⟩ := hv
  have V : mo_V D di dz h ad A s.heap σ0 s s.heap [] := ⟨hK, hP, hD, va_S.rf⟩
  replace hl : lv_has ls 2 [(0, .ref h), (1, .int p0)] := hl
  unfold mo_begins at hF
  refine lv_aload_n hx hb dX6_begins_0 rfl (lv_at hl 0 rfl) ?_
  refine mo_get S V 28 (by decide) rfl q1643 rfl dX6_begins_1 ?_
  refine lv_bipush (v := 16) hx hb dX6_begins_4 (by decide) ?_
  refine lv_icmp_ge (tgt := 29) hx hb dX6_begins_6 (by decide) (fun hc => ?_) (fun hc => ?_)
  · replace hF := (if_pos hc).symm.trans hF
    replace hF := Option.some.inj hF
    subst hF
    exact mo_rv S V hr hlocks dX6_begins_29
  · replace hF := (if_neg hc).symm.trans hF
    refine lv_aload_n hx hb dX6_begins_9 rfl (lv_at hl 0 rfl) ?_
    refine mo_get S V 27 (by decide) rfl q1642 rfl dX6_begins_10 ?_
    refine lv_aload_n hx hb dX6_begins_13 rfl (lv_at hl 0 rfl) ?_
    refine mo_get S V 28 (by decide) rfl q1643 rfl dX6_begins_14 ?_
    refine lv_iload_n hx hb dX6_begins_17 rfl (lv_at hl 1 rfl) ?_
    obtain ⟨hg, hF⟩ := dx_gd_some hF
    refine mo_st S V 16 (by decide) (dx_inb_in hg) dX6_begins_18 (fun _ _ V => ?_)
    refine lv_aload_n hx hb dX6_begins_19 rfl (lv_at hl 0 rfl) ?_
    refine lv_dup hx hb dX6_begins_20 rfl ?_
    refine mo_get S V 28 (by decide) rfl q1643 rfl dX6_begins_21 ?_
    refine lv_iconst (v := 1) hx hb dX6_begins_24 (by decide) ?_
    refine lv_iadd hx hb dX6_begins_25 ?_
    refine mo_put S V 28 11 (by decide) rfl q1643 rfl rfl rfl dX6_begins_26 (fun _ _ V => ?_)
    replace hF := Option.some.inj hF
    subst hF
    exact mo_rv S V hr hlocks dX6_begins_29
theorem mo_d_wardSize : yX6_wardSize.cls = RX6 ∧ yX6_wardSize.cls ≠ "java/lang/invoke/MethodHandle" ∧ yX6_wardSize.cls ≠ "java/lang/invoke/VarHandle" ∧ (parseMethodDescriptor yX6_wardSize.desc).map (fun d => d.parameters.length) = some 1 := by decide +kernel
set_option maxHeartbeats 4000000 in
set_option maxRecDepth 100000 in
theorem mo_m_wardSize (l : Launch) (D : va_G) (di dz : ClassId) (h : Nat) (ad : Nat → Nat) (A : Nat → Prop)  (p0 : Int32) (σ0 : mo_S) (r : Int32) (σ' : mo_S) (hF : mo_wardSize σ0 p0 = some (r, σ')) : mo_Ci l yX6_wardSize cX6_wardSize 4 .int ({ frames := 1, cells := 0, slots := 0, locals := 24 }) D di dz h ad A [.ref h, .int p0] σ0 r σ' := by
  refine dx_in RX6 rfl (by decide) (Nat.le_of_ble_eq_true rfl) ?_
  intro p e s m below meth c ls S hr hlocks hv hl
  have hx := S.1
  have hb := S.2.1
  have hown := S.2.2.2.1
  have hts := S.2.2.2.2
  obtain ⟨hK, hP, hD⟩ := hv
  have V : mo_V D di dz h ad A s.heap σ0 s s.heap [] := ⟨hK, hP, hD, va_S.rf⟩
  replace hl : lv_has ls 4 [(0, .ref h), (1, .int p0)] := hl
  unfold mo_wardSize at hF
  have hJ25 : ∀ (σ : mo_S) (v1 : Int32) (v2 : Bool) (H : Heap) (locs : List Loc) (ls : Array Slot), mo_wardSize_J25 σ v1 v2 = some (r, σ') → mo_V D di dz h ad A s.heap σ s H locs → lv_has ls 4 [(0, .ref h), (1, .int v1), (2, .int (dx_bI v2))] → W p l e ({ frames := 1, cells := 0, slots := 0, locals := 24 }) s m ([.ref h, .int p0] : List Value).toArray below meth c H locs 0 0 (MQ below (mo_Qi D di dz h ad A r σ') ([.ref h, .int p0] : List Value).toArray s 0 0 A) (F0 m 25 ls []) := by
    intro σ v1 v2 H locs ls hF V hl
    unfold mo_wardSize_J25 at hF
    refine lv_aload_n hx hb dX6_wardSize_25 rfl (lv_at hl 0 rfl) ?_
    refine lv_bipush (v := 13) hx hb dX6_wardSize_26 (by decide) ?_
    obtain ⟨σ2, h2c, hF⟩ := dx_b1_some hF
    refine mo_cVv S V [.int (13 : Int32)] (mo_m_begins l D di dz h ad A  (13 : Int32) σ _ h2c) (cwV 1 hts (lw_V q2021 q2023 qs71 q83 q2024) rfl rfl rfl mo_d_begins ⟨Nat.le_of_ble_eq_true rfl, Nat.le_of_ble_eq_true rfl⟩) rfl rfl hl.1 (Nat.le_of_ble_eq_true rfl) dX6_wardSize_28 (fun _ _ V => ?_)
    refine lv_aload_n hx hb dX6_wardSize_31 rfl (lv_at hl 0 rfl) ?_
    refine lv_bipush (v := 10) hx hb dX6_wardSize_32 (by decide) ?_
    obtain ⟨σ3, h3c, hF⟩ := dx_b1_some hF
    refine mo_cVv S V [.int (10 : Int32)] (mo_m_begins l D di dz h ad A  (10 : Int32) σ2 _ h3c) (cwV 1 hts (lw_V q2021 q2023 qs71 q83 q2024) rfl rfl rfl mo_d_begins ⟨Nat.le_of_ble_eq_true rfl, Nat.le_of_ble_eq_true rfl⟩) rfl rfl hl.1 (Nat.le_of_ble_eq_true rfl) dX6_wardSize_34 (fun _ _ V => ?_)
    refine lv_aload_n hx hb dX6_wardSize_37 rfl (lv_at hl 0 rfl) ?_
    refine lv_aload_n hx hb dX6_wardSize_38 rfl (lv_at hl 0 rfl) ?_
    refine mo_get S V 13 (by decide) rfl q1628 rfl dX6_wardSize_39 ?_
    refine lv_iload_n hx hb dX6_wardSize_42 rfl (lv_at hl 1 rfl) ?_
    obtain ⟨r4, h4c, hF⟩ := dx_b1_some hF
    refine mo_cVi S V [.ref (ad 5), .int v1] (mo_m_contactsOf l D di dz h ad A 5 (by decide) v1 σ3 _ h4c) (cwV 2 hts (lw_V q1867 q1869 qs56 q83 q1870) rfl rfl rfl mo_d_contactsOf ⟨Nat.le_of_ble_eq_true rfl, Nat.le_of_ble_eq_true rfl⟩) rfl rfl hl.1 (Nat.le_of_ble_eq_true rfl) dX6_wardSize_43 (fun _ _ V => ?_)
    obtain ⟨r5, h5c, hF⟩ := dx_b1_some hF
    refine dx_cPi S [.int r4] (mo_m_ones l r4 _ h5c) (va_cwS 1 hts (lw_S q1957 q1958 q83 q1959) rfl rfl rfl mo_d_ones ⟨Nat.le_of_ble_eq_true rfl, Nat.le_of_ble_eq_true rfl⟩) rfl rfl hl.1 (Nat.le_of_ble_eq_true rfl) dX6_wardSize_46 ⟨Nat.zero_le _, Nat.zero_le _⟩ ?_
    refine lv_bipush (v := 100) hx hb dX6_wardSize_49 (by decide) ?_
    refine lv_isub hx hb dX6_wardSize_51 ?_
    refine lv_istore_n (lv' := [(3, .int (r5 - (100 : Int32))), (0, .ref h), (1, .int v1), (2, .int (dx_bI v2))]) hx hb dX6_wardSize_52 rfl hl (by decide) rfl (fun ls hl => ?_)
    refine lv_iload_n hx hb dX6_wardSize_53 rfl (lv_at hl 3 rfl) ?_
    refine lv_if_eq (tgt := 63) hx hb dX6_wardSize_54 (by decide) (fun hc => ?_) (fun hc => ?_)
    · replace hF := dx_ib_f (dx_bI_0 hc) hF
      refine lv_iload_n hx hb dX6_wardSize_63 rfl (lv_at hl 0 rfl) ?_
      obtain ⟨hF1, hF2⟩ := dx_r2 hF
      subst hF1
      subst hF2
      exact mo_ri S V hr hlocks rfl dX6_wardSize_64
    · replace hF := dx_ib_t (dx_bI_n hc) hF
      refine lv_iconst (v := 2) hx hb dX6_wardSize_57 (by decide) ?_
      refine lv_iload_n hx hb dX6_wardSize_58 rfl (lv_at hl 0 rfl) ?_
      refine lv_imul hx hb dX6_wardSize_59 ?_
      refine lv_goto (tgt := 64) hx hb dX6_wardSize_60 (by decide) ?_
      obtain ⟨hF1, hF2⟩ := dx_r2 hF
      subst hF1
      subst hF2
      exact mo_ri S V hr hlocks rfl dX6_wardSize_64
  have hJ14 : ∀ (σ : mo_S) (v1 : Int32) (t0 : Bool) (H : Heap) (locs : List Loc) (ls : Array Slot), mo_wardSize_J14 σ v1 t0 = some (r, σ') → mo_V D di dz h ad A s.heap σ s H locs → lv_has ls 4 [(0, .ref h), (1, .int v1)] → W p l e ({ frames := 1, cells := 0, slots := 0, locals := 24 }) s m ([.ref h, .int p0] : List Value).toArray below meth c H locs 0 0 (MQ below (mo_Qi D di dz h ad A r σ') ([.ref h, .int p0] : List Value).toArray s 0 0 A) (F0 m 14 ls [.int (dx_bI t0)]) := by
    intro σ v1 t0 H locs ls hF V hl
    unfold mo_wardSize_J14 at hF
    refine lv_istore_n (lv' := [(2, .int (dx_bI t0)), (0, .ref h), (1, .int v1)]) hx hb dX6_wardSize_14 rfl hl (by decide) rfl (fun ls hl => ?_)
    refine lv_iload_n hx hb dX6_wardSize_15 rfl (lv_at hl 0 rfl) ?_
    refine lv_if_eq (tgt := 25) hx hb dX6_wardSize_16 (by decide) (fun hc => ?_) (fun hc => ?_)
    · replace hF := dx_ib_f (dx_bI_0 hc) hF
      exact hJ25 σ v1 t0 _ _ _ hF V (lv_sub hl [1, 2, 0] rfl)
    · replace hF := dx_ib_t (dx_bI_n hc) hF
      refine lv_aload_n hx hb dX6_wardSize_19 rfl (lv_at hl 1 rfl) ?_
      refine lv_bipush (v := 14) hx hb dX6_wardSize_20 (by decide) ?_
      obtain ⟨σ6, h6c, hF⟩ := dx_b1_some hF
      refine mo_cVv S V [.int (14 : Int32)] (mo_m_begins l D di dz h ad A  (14 : Int32) σ _ h6c) (cwV 1 hts (lw_V q2021 q2023 qs71 q83 q2024) rfl rfl rfl mo_d_begins ⟨Nat.le_of_ble_eq_true rfl, Nat.le_of_ble_eq_true rfl⟩) rfl rfl hl.1 (Nat.le_of_ble_eq_true rfl) dX6_wardSize_22 (fun _ _ V => ?_)
      exact hJ25 σ6 v1 t0 _ _ _ hF V (lv_sub hl [1, 2, 0] rfl)
  refine lv_aload_n hx hb dX6_wardSize_0 rfl (lv_at hl 0 rfl) ?_
  refine lv_iload_n hx hb dX6_wardSize_1 rfl (lv_at hl 1 rfl) ?_
  obtain ⟨r1, h1c, hF⟩ := dx_b1_some hF
  refine mo_cVi S V [.int p0] (mo_m_kindIn l D di dz h ad A  p0 σ0 _ h1c) (cwV 1 hts (lw_V q2005 q2007 qs69 q83 q2008) rfl rfl rfl mo_d_kindIn ⟨Nat.le_of_ble_eq_true rfl, Nat.le_of_ble_eq_true rfl⟩) rfl rfl hl.1 (Nat.le_of_ble_eq_true rfl) dX6_wardSize_2 (fun _ _ V => ?_)
  refine lv_iconst (v := 5) hx hb dX6_wardSize_5 (by decide) ?_
  refine lv_icmp_ne (tgt := 13) hx hb dX6_wardSize_6 (by decide) (fun hc => ?_) (fun hc => ?_)
  · replace hF := (if_neg hc).symm.trans hF
    refine lv_iconst (v := 0) hx hb dX6_wardSize_13 (by decide) ?_
    exact hJ14 σ0 p0 false _ _ _ hF V (lv_sub hl [0, 1] rfl)
  · replace hF := (if_pos hc).symm.trans hF
    refine lv_iconst (v := 1) hx hb dX6_wardSize_9 (by decide) ?_
    refine lv_goto (tgt := 14) hx hb dX6_wardSize_10 (by decide) ?_
    exact hJ14 σ0 p0 true _ _ _ hF V (lv_sub hl [0, 1] rfl)
