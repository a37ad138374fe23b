/-! DatedContactsModel read back and walked (printed by gen/mo.py) -/
theorem mo_d_isLinked : yX6_isLinked.cls = RX6 ∧ yX6_isLinked.cls ≠ "java/lang/invoke/MethodHandle" ∧ yX6_isLinked.cls ≠ "java/lang/invoke/VarHandle" ∧ (parseMethodDescriptor yX6_isLinked.desc).map (fun d => d.parameters.length) = some 3 := by decide +kernel
set_option maxHeartbeats 4000000 in
set_option maxRecDepth 100000 in
theorem mo_m_isLinked (l : Launch) (D : va_G) (di dz : ClassId) (h : Nat) (ad : Nat → Nat) (A : Nat → Prop)  (p0 : Int32) (p1 : Int32) (p2 : Int32) (σ0 : mo_S) (r : Bool) (σ' : mo_S) (hF : mo_isLinked σ0 p0 p1 p2 = some (r, σ')) : mo_Ci l yX6_isLinked cX6_isLinked 8 .boolean ({ frames := 4, cells := 0, slots := 0, locals := 98 }) D di dz h ad A [.ref h, .int p0, .int p1, .int p2] σ0 (dx_bI r) σ' := by
  refine dx_in RX6 rfl (by decide) (Nat.le_of_ble_eq_true rfl) ?_
  intro p e s m below meth c ls S hr hlocks hv hl
  have hx := S.1
  have hb := S.2.1
  have hown := S.2.2.2.1
  have hts := S.2.2.2.2
  obtain ⟨hK, hP, hD⟩ := hv
  have V : mo_V D di dz h ad A s.heap σ0 s s.heap [] := ⟨hK, hP, hD, va_S.rf⟩
  replace hl : lv_has ls 8 [(0, .ref h), (1, .int p0), (2, .int p1), (3, .int p2)] := hl
  unfold mo_isLinked at hF
  have hL153 : ∀  (n : Nat) (v4 : Int32) (v5 : Int32) (v6 : Int32) (σ : mo_S) (H : Heap) (locs : List Loc) (ls : Array Slot), dx_lp (fun x => mo_isLinked_L153 x.2.2.2 x.1 x.2.1 x.2.2.1) n (v4, v5, v6, σ) = some (r, σ') → mo_V D di dz h ad A s.heap σ s H locs → lv_has ls 8 [(0, .ref h), (4, .int v4), (5, .int v5), (6, .int v6)] → W p l e ({ frames := 4, cells := 0, slots := 0, locals := 98 }) s m ([.ref h, .int p0, .int p1, .int p2] : List Value).toArray below meth c H locs 0 0 (MQ below (mo_Qi D di dz h ad A (dx_bI r) σ') ([.ref h, .int p0, .int p1, .int p2] : List Value).toArray s 0 0 A) (F0 m 153 ls []) := by
    intro n
    induction n with
    | zero =>
      intro v4 v5 v6 σ H locs ls hF V hl
      exact (dx_lp_0 hF).elim
    | succ n ih153 =>
      intro v4 v5 v6 σ H locs ls hF V hl
      obtain ⟨y153, hF, hz153⟩ := dx_lp_s hF
      replace hF : mo_isLinked_L153 σ v4 v5 v6 = some y153 := hF
      unfold mo_isLinked_L153 at hF
      have hL161 : ∀ (σ : mo_S) (v4 : Int32) (v5 : Int32) (v6 : Int32) (n : Nat) (v7 : Int32) (H : Heap) (locs : List Loc) (ls : Array Slot), dx_lp (fun x => mo_isLinked_L161 σ v4 v5 v6 x) n v7 = some y153 → mo_V D di dz h ad A s.heap σ s H locs → lv_has ls 8 [(0, .ref h), (4, .int v4), (5, .int v5), (6, .int v6), (7, .int v7)] → W p l e ({ frames := 4, cells := 0, slots := 0, locals := 98 }) s m ([.ref h, .int p0, .int p1, .int p2] : List Value).toArray below meth c H locs 0 0 (MQ below (mo_Qi D di dz h ad A (dx_bI r) σ') ([.ref h, .int p0, .int p1, .int p2] : List Value).toArray s 0 0 A) (F0 m 161 ls []) := by
        intro σ v4 v5 v6 n
        induction n with
        | zero =>
          intro v7 H locs ls hF V hl
          exact (dx_lp_0 hF).elim
        | succ n ih161 =>
          intro v7 H locs ls hF V hl
          obtain ⟨y161, hF, hz161⟩ := dx_lp_s hF
          replace hF : mo_isLinked_L161 σ v4 v5 v6 v7 = some y161 := hF
          unfold mo_isLinked_L161 at hF
          refine lv_aload_n hx hb dX6_isLinked_161 rfl (lv_at hl 0 rfl) ?_
          refine lv_iload hx hb dX6_isLinked_162 (lv_at hl 2 rfl) ?_
          refine lv_iload hx hb dX6_isLinked_164 (lv_at hl 3 rfl) ?_
          refine lv_iload hx hb dX6_isLinked_166 (lv_at hl 4 rfl) ?_
          refine lv_iconst (v := 2) hx hb dX6_isLinked_168 (by decide) ?_
          refine lv_idiv hx hb dX6_isLinked_169 (by decide) ?_
          refine lv_iload hx hb dX6_isLinked_170 (lv_at hl 4 rfl) ?_
          refine lv_iconst (v := 2) hx hb dX6_isLinked_172 (by decide) ?_
          refine lv_irem hx hb dX6_isLinked_173 (by decide) ?_
          obtain ⟨r2, h2c, hF⟩ := dx_b1_some hF
          refine mo_cVi S V [.int v5, .int v6, .int (v7 / (2 : Int32)), .int (v7 - v7 / (2 : Int32) * (2 : Int32))] (mo_m_mayGive l D di dz h ad A  v5 v6 (v7 / (2 : Int32)) (v7 - v7 / (2 : Int32) * (2 : Int32)) σ _ h2c) (cwV 4 hts (lw_V q1921 q1923 qs64 q83 q1924) rfl rfl rfl mo_d_mayGive ⟨Nat.le_of_ble_eq_true rfl, Nat.le_of_ble_eq_true rfl⟩) rfl rfl hl.1 (Nat.le_of_ble_eq_true rfl) dX6_isLinked_174 (fun _ _ V => ?_)
          refine lv_if_eq (tgt := 194) hx hb dX6_isLinked_177 (by decide) (fun hc => ?_) (fun hc => ?_)
          · replace hF := dx_ib_f (dx_bI_0 hc) hF
            refine lv_iinc (v := (v7 + (1 : Int32))) (lv' := [(7, .int (v7 + (1 : Int32))), (0, .ref h), (4, .int v4), (5, .int v5), (6, .int v6)]) hx hb dX6_isLinked_194 hl (k := 4) rfl rfl (by decide) rfl (fun ls hl => ?_)
            refine lv_goto (tgt := 161) hx hb dX6_isLinked_197 (by decide) ?_
            replace hF := Option.some.inj hF
            subst hF
            exact ih161 (v7 + (1 : Int32)) _ _ _ (dx_lk_l hz161) V (lv_sub hl [1, 2, 3, 4, 0] rfl)
          · replace hF := dx_ib_t (dx_bI_n hc) hF
            refine lv_aload_n hx hb dX6_isLinked_180 rfl (lv_at hl 0 rfl) ?_
            refine mo_get S V 22 (by decide) rfl q1637 rfl dX6_isLinked_181 ?_
            refine lv_iload hx hb dX6_isLinked_184 (lv_at hl 4 rfl) ?_
            obtain ⟨hg, hF⟩ := dx_gd_some hF
            refine mo_ld S V 13 (by decide) (dx_inb_in hg) dX6_isLinked_186 ?_
            refine lv_iload hx hb dX6_isLinked_187 (lv_at hl 1 rfl) ?_
            refine lv_iconst (v := 1) hx hb dX6_isLinked_189 (by decide) ?_
            refine lv_isub hx hb dX6_isLinked_190 ?_
            refine lv_icmp_eq (tgt := 200) hx hb dX6_isLinked_191 (by decide) (fun hc => ?_) (fun hc => ?_)
            · replace hF := (if_pos hc).symm.trans hF
              replace hF := dx_ex_k hF hz161
              refine lv_aload_n hx hb dX6_isLinked_200 rfl (lv_at hl 0 rfl) ?_
              refine mo_get S V 23 (by decide) rfl q1638 rfl dX6_isLinked_201 ?_
              refine lv_aload_n hx hb dX6_isLinked_204 rfl (lv_at hl 0 rfl) ?_
              refine mo_get S V 24 (by decide) rfl q1639 rfl dX6_isLinked_205 ?_
              refine lv_iload hx hb dX6_isLinked_208 (lv_at hl 4 rfl) ?_
              obtain ⟨hg, hF⟩ := dx_gd_some hF
              refine mo_st S V 14 (by decide) (dx_inb_in hg) dX6_isLinked_210 (fun _ _ V => ?_)
              refine lv_aload_n hx hb dX6_isLinked_211 rfl (lv_at hl 0 rfl) ?_
              refine lv_dup hx hb dX6_isLinked_212 rfl ?_
              refine mo_get S V 24 (by decide) rfl q1639 rfl dX6_isLinked_213 ?_
              refine lv_iconst (v := 1) hx hb dX6_isLinked_216 (by decide) ?_
              refine lv_iadd hx hb dX6_isLinked_217 ?_
              refine mo_put S V 24 9 (by decide) rfl q1639 rfl rfl rfl dX6_isLinked_218 (fun _ _ V => ?_)
              refine lv_aload_n hx hb dX6_isLinked_221 rfl (lv_at hl 0 rfl) ?_
              refine lv_iload hx hb dX6_isLinked_222 (lv_at hl 4 rfl) ?_
              refine lv_iconst (v := 2) hx hb dX6_isLinked_224 (by decide) ?_
              refine lv_idiv hx hb dX6_isLinked_225 (by decide) ?_
              refine lv_iload hx hb dX6_isLinked_226 (lv_at hl 4 rfl) ?_
              refine lv_iconst (v := 2) hx hb dX6_isLinked_228 (by decide) ?_
              refine lv_irem hx hb dX6_isLinked_229 (by decide) ?_
              obtain ⟨r3, h3c, hF⟩ := dx_b1_some hF
              refine mo_cVi S V [.int (v7 / (2 : Int32)), .int (v7 - v7 / (2 : Int32) * (2 : Int32))] (mo_m_whoOf l D di dz h ad A  (v7 / (2 : Int32)) (v7 - v7 / (2 : Int32) * (2 : Int32)) (mo_I (mo_A σ 14 ((σ.1 9).toNatClampNeg) v7) 9 (((mo_A σ 14 ((σ.1 9).toNatClampNeg) v7).1 9) + (1 : Int32))) _ h3c) (cwV 2 hts (lw_V q1913 q1915 qs62 q83 q1916) rfl rfl rfl mo_d_whoOf ⟨Nat.le_of_ble_eq_true rfl, Nat.le_of_ble_eq_true rfl⟩) rfl rfl hl.1 (Nat.le_of_ble_eq_true rfl) dX6_isLinked_230 (fun _ _ V => ?_)
              refine lv_istore (lv' := [(5, .int r3), (0, .ref h), (4, .int v4), (6, .int v6), (7, .int v7)]) hx hb dX6_isLinked_233 hl (by decide) rfl (fun ls hl => ?_)
              refine lv_aload_n hx hb dX6_isLinked_235 rfl (lv_at hl 1 rfl) ?_
              refine mo_get S V 13 (by decide) rfl q1628 rfl dX6_isLinked_236 ?_
              refine lv_bipush (v := 22) hx hb dX6_isLinked_239 (by decide) ?_
              refine lv_iconst (v := 3) hx hb dX6_isLinked_241 (by decide) ?_
              refine lv_iload hx hb dX6_isLinked_242 (lv_at hl 4 rfl) ?_
              refine lv_iconst (v := 2) hx hb dX6_isLinked_244 (by decide) ?_
              refine lv_idiv hx hb dX6_isLinked_245 (by decide) ?_
              refine lv_imul hx hb dX6_isLinked_246 ?_
              refine lv_iadd hx hb dX6_isLinked_247 ?_
              refine lv_iconst (v := 2) hx hb dX6_isLinked_248 (by decide) ?_
              refine lv_iadd hx hb dX6_isLinked_249 ?_
              obtain ⟨hg, hF⟩ := dx_gd_some hF
              refine mo_ld S V 5 (by decide) (dx_inb_in hg) dX6_isLinked_250 ?_
              refine lv_istore (lv' := [(6, .int ((mo_I (mo_A σ 14 ((σ.1 9).toNatClampNeg) v7) 9 (((mo_A σ 14 ((σ.1 9).toNatClampNeg) v7).1 9) + (1 : Int32))).2 5 (((22 : Int32) + ((3 : Int32) * (v7 / (2 : Int32)))) + (2 : Int32)).toNatClampNeg)), (5, .int r3), (0, .ref h), (4, .int v4), (7, .int v7)]) hx hb dX6_isLinked_251 hl (by decide) rfl (fun ls hl => ?_)
              refine lv_iinc (v := (v4 + (-1 : Int32))) (lv' := [(4, .int (v4 + (-1 : Int32))), (6, .int ((mo_I (mo_A σ 14 ((σ.1 9).toNatClampNeg) v7) 9 (((mo_A σ 14 ((σ.1 9).toNatClampNeg) v7).1 9) + (1 : Int32))).2 5 (((22 : Int32) + ((3 : Int32) * (v7 / (2 : Int32)))) + (2 : Int32)).toNatClampNeg)), (5, .int r3), (0, .ref h), (7, .int v7)]) hx hb dX6_isLinked_253 hl (k := 3) rfl rfl (by decide) rfl (fun ls hl => ?_)
              refine lv_goto (tgt := 153) hx hb dX6_isLinked_256 (by decide) ?_
              replace hF := Option.some.inj hF
              subst hF
              exact ih153 (v4 + (-1 : Int32)) r3 ((mo_I (mo_A σ 14 ((σ.1 9).toNatClampNeg) v7) 9 (((mo_A σ 14 ((σ.1 9).toNatClampNeg) v7).1 9) + (1 : Int32))).2 5 (((22 : Int32) + ((3 : Int32) * (v7 / (2 : Int32)))) + (2 : Int32)).toNatClampNeg) (mo_I (mo_A σ 14 ((σ.1 9).toNatClampNeg) v7) 9 (((mo_A σ 14 ((σ.1 9).toNatClampNeg) v7).1 9) + (1 : Int32))) _ _ _ (dx_lk_l hz153) V (lv_sub hl [3, 0, 2, 1] rfl)
            · replace hF := (if_neg hc).symm.trans hF
              refine lv_iinc (v := (v7 + (1 : Int32))) (lv' := [(7, .int (v7 + (1 : Int32))), (0, .ref h), (4, .int v4), (5, .int v5), (6, .int v6)]) hx hb dX6_isLinked_194 hl (k := 4) rfl rfl (by decide) rfl (fun ls hl => ?_)
              refine lv_goto (tgt := 161) hx hb dX6_isLinked_197 (by decide) ?_
              replace hF := Option.some.inj hF
              subst hF
              exact ih161 (v7 + (1 : Int32)) _ _ _ (dx_lk_l hz161) V (lv_sub hl [1, 2, 3, 4, 0] rfl)
      refine lv_iload hx hb dX6_isLinked_153 (lv_at hl 1 rfl) ?_
      refine lv_if_le (tgt := 259) hx hb dX6_isLinked_155 (by decide) (fun hc => ?_) (fun hc => ?_)
      · replace hF := (if_pos hc).symm.trans hF
        replace hF := dx_ex_k hF hz153
        refine lv_iconst (v := 1) hx hb dX6_isLinked_259 (by decide) ?_
        obtain ⟨hF1, hF2⟩ := dx_r2 hF
        subst hF1
        subst hF2
        exact mo_ri S V hr hlocks rfl dX6_isLinked_260
      · replace hF := (if_neg hc).symm.trans hF
        refine lv_iconst (v := 0) hx hb dX6_isLinked_158 (by decide) ?_
        refine lv_istore (lv' := [(7, .int (0 : Int32)), (0, .ref h), (4, .int v4), (5, .int v5), (6, .int v6)]) hx hb dX6_isLinked_159 hl (by decide) rfl (fun ls hl => ?_)
        exact hL161 σ v4 v5 v6 dx_fu (0 : Int32) _ _ _ hF V (lv_sub hl [1, 2, 3, 4, 0] rfl)
  have hL30 : ∀ (v1 : Int32) (v2 : Int32) (v3 : Int32) (n : Nat) (v4 : Int32) (σ : mo_S) (H : Heap) (locs : List Loc) (ls : Array Slot), dx_lp (fun x => mo_isLinked_L30 x.2 v1 v2 v3 x.1) n (v4, σ) = some (r, σ') → mo_V D di dz h ad A s.heap σ s H locs → lv_has ls 8 [(0, .ref h), (1, .int v1), (2, .int v2), (3, .int v3), (4, .int v4)] → W p l e ({ frames := 4, cells := 0, slots := 0, locals := 98 }) s m ([.ref h, .int p0, .int p1, .int p2] : List Value).toArray below meth c H locs 0 0 (MQ below (mo_Qi D di dz h ad A (dx_bI r) σ') ([.ref h, .int p0, .int p1, .int p2] : List Value).toArray s 0 0 A) (F0 m 30 ls []) := by
    intro v1 v2 v3 n
    induction n with
    | zero =>
      intro v4 σ H locs ls hF V hl
      exact (dx_lp_0 hF).elim
    | succ n ih30 =>
      intro v4 σ H locs ls hF V hl
      obtain ⟨y30, hF, hz30⟩ := dx_lp_s hF
      replace hF : mo_isLinked_L30 σ v1 v2 v3 v4 = some y30 := hF
      unfold mo_isLinked_L30 at hF
      have hL39 : ∀ (v4 : Int32) (n : Nat) (v5 : Int32) (σ : mo_S) (H : Heap) (locs : List Loc) (ls : Array Slot), dx_lp (fun x => mo_isLinked_L39 x.2 v1 v2 v3 v4 x.1) n (v5, σ) = some y30 → mo_V D di dz h ad A s.heap σ s H locs → lv_has ls 8 [(0, .ref h), (1, .int v1), (2, .int v2), (3, .int v3), (4, .int v4), (5, .int v5)] → W p l e ({ frames := 4, cells := 0, slots := 0, locals := 98 }) s m ([.ref h, .int p0, .int p1, .int p2] : List Value).toArray below meth c H locs 0 0 (MQ below (mo_Qi D di dz h ad A (dx_bI r) σ') ([.ref h, .int p0, .int p1, .int p2] : List Value).toArray s 0 0 A) (F0 m 39 ls []) := by
        intro v4 n
        induction n with
        | zero =>
          intro v5 σ H locs ls hF V hl
          exact (dx_lp_0 hF).elim
        | succ n ih39 =>
          intro v5 σ H locs ls hF V hl
          obtain ⟨y39, hF, hz39⟩ := dx_lp_s hF
          replace hF : mo_isLinked_L39 σ v1 v2 v3 v4 v5 = some y39 := hF
          unfold mo_isLinked_L39 at hF
          have hL53 : ∀ (v5 : Int32) (n : Nat) (v6 : Int32) (σ : mo_S) (H : Heap) (locs : List Loc) (ls : Array Slot), dx_lp (fun x => mo_isLinked_L53 x.2 v1 v2 v3 v4 v5 x.1) n (v6, σ) = some y39 → mo_V D di dz h ad A s.heap σ s H locs → lv_has ls 8 [(0, .ref h), (1, .int v1), (2, .int v2), (3, .int v3), (4, .int v4), (5, .int v5), (6, .int v6)] → W p l e ({ frames := 4, cells := 0, slots := 0, locals := 98 }) s m ([.ref h, .int p0, .int p1, .int p2] : List Value).toArray below meth c H locs 0 0 (MQ below (mo_Qi D di dz h ad A (dx_bI r) σ') ([.ref h, .int p0, .int p1, .int p2] : List Value).toArray s 0 0 A) (F0 m 53 ls []) := by
            intro v5 n
            induction n with
            | zero =>
              intro v6 σ H locs ls hF V hl
              exact (dx_lp_0 hF).elim
            | succ n ih53 =>
              intro v6 σ H locs ls hF V hl
              obtain ⟨y53, hF, hz53⟩ := dx_lp_s hF
              replace hF : mo_isLinked_L53 σ v1 v2 v3 v4 v5 v6 = some y53 := hF
              unfold mo_isLinked_L53 at hF
              refine lv_iload hx hb dX6_isLinked_53 (lv_at hl 6 rfl) ?_
              refine lv_iconst (v := 2) hx hb dX6_isLinked_55 (by decide) ?_
              refine lv_icmp_ge (tgt := 111) hx hb dX6_isLinked_56 (by decide) (fun hc => ?_) (fun hc => ?_)
              · replace hF := (if_pos hc).symm.trans hF
                replace hF := dx_ex_k hF hz53
                refine lv_iinc (v := (v5 + (1 : Int32))) (lv' := [(5, .int (v5 + (1 : Int32))), (0, .ref h), (1, .int v1), (2, .int v2), (3, .int v3), (4, .int v4), (6, .int v6)]) hx hb dX6_isLinked_111 hl (k := 5) rfl rfl (by decide) rfl (fun ls hl => ?_)
                refine lv_goto (tgt := 39) hx hb dX6_isLinked_114 (by decide) ?_
                replace hF := Option.some.inj hF
                subst hF
                exact ih39 (v5 + (1 : Int32)) σ _ _ _ (dx_lk_l hz39) V (lv_sub hl [1, 2, 3, 4, 5, 0] rfl)
              · replace hF := (if_neg hc).symm.trans hF
                refine lv_aload_n hx hb dX6_isLinked_59 rfl (lv_at hl 0 rfl) ?_
                refine mo_get S V 13 (by decide) rfl q1628 rfl dX6_isLinked_60 ?_
                refine lv_bipush (v := 22) hx hb dX6_isLinked_63 (by decide) ?_
                refine lv_iconst (v := 3) hx hb dX6_isLinked_65 (by decide) ?_
                refine lv_iload hx hb dX6_isLinked_66 (lv_at hl 5 rfl) ?_
                refine lv_imul hx hb dX6_isLinked_68 ?_
                refine lv_iadd hx hb dX6_isLinked_69 ?_
                refine lv_iconst (v := 2) hx hb dX6_isLinked_70 (by decide) ?_
                refine lv_iadd hx hb dX6_isLinked_71 ?_
                obtain ⟨hg, hF⟩ := dx_gd_some hF
                refine mo_ld S V 5 (by decide) (dx_inb_in hg) dX6_isLinked_72 ?_
                refine lv_iload hx hb dX6_isLinked_73 (lv_at hl 4 rfl) ?_
                refine lv_icmp_ne (tgt := 111) hx hb dX6_isLinked_75 (by decide) (fun hc => ?_) (fun hc => ?_)
                · replace hF := (if_neg hc).symm.trans hF
                  replace hF := dx_ex_k hF hz53
                  refine lv_iinc (v := (v5 + (1 : Int32))) (lv' := [(5, .int (v5 + (1 : Int32))), (0, .ref h), (1, .int v1), (2, .int v2), (3, .int v3), (4, .int v4), (6, .int v6)]) hx hb dX6_isLinked_111 hl (k := 5) rfl rfl (by decide) rfl (fun ls hl => ?_)
                  refine lv_goto (tgt := 39) hx hb dX6_isLinked_114 (by decide) ?_
                  replace hF := Option.some.inj hF
                  subst hF
                  exact ih39 (v5 + (1 : Int32)) σ _ _ _ (dx_lk_l hz39) V (lv_sub hl [1, 2, 3, 4, 5, 0] rfl)
                · replace hF := (if_pos hc).symm.trans hF
                  refine lv_aload_n hx hb dX6_isLinked_78 rfl (lv_at hl 0 rfl) ?_
                  refine mo_get S V 22 (by decide) rfl q1637 rfl dX6_isLinked_79 ?_
                  refine lv_iconst (v := 2) hx hb dX6_isLinked_82 (by decide) ?_
                  refine lv_iload hx hb dX6_isLinked_83 (lv_at hl 5 rfl) ?_
                  refine lv_imul hx hb dX6_isLinked_85 ?_
                  refine lv_iload hx hb dX6_isLinked_86 (lv_at hl 6 rfl) ?_
                  refine lv_iadd hx hb dX6_isLinked_88 ?_
                  refine lv_aload_n hx hb dX6_isLinked_89 rfl (lv_at hl 0 rfl) ?_
                  refine lv_aload_n hx hb dX6_isLinked_90 rfl (lv_at hl 0 rfl) ?_
                  refine lv_iload hx hb dX6_isLinked_91 (lv_at hl 5 rfl) ?_
                  refine lv_iload hx hb dX6_isLinked_93 (lv_at hl 6 rfl) ?_
                  obtain ⟨r4, h4c, hF⟩ := dx_b1_some hF
                  refine mo_cVi S V [.int v5, .int v6] (mo_m_whoOf l D di dz h ad A  v5 v6 σ _ h4c) (cwV 2 hts (lw_V q1913 q1915 qs62 q83 q1916) rfl rfl rfl mo_d_whoOf ⟨Nat.le_of_ble_eq_true rfl, Nat.le_of_ble_eq_true rfl⟩) rfl rfl hl.1 (Nat.le_of_ble_eq_true rfl) dX6_isLinked_95 (fun _ _ V => ?_)
                  refine lv_iload hx hb dX6_isLinked_98 (lv_at hl 4 rfl) ?_
                  refine lv_iload_n hx hb dX6_isLinked_100 rfl (lv_at hl 3 rfl) ?_
                  obtain ⟨r5, h5c, hF⟩ := dx_b1_some hF
                  refine mo_cVi S V [.int r4, .int v4, .int v3] (mo_m_fewest l D di dz h ad A  r4 v4 v3 σ _ h5c) (cwV 3 hts (lw_V q1917 q1919 qs63 q83 q1920) rfl rfl rfl mo_d_fewest ⟨Nat.le_of_ble_eq_true rfl, Nat.le_of_ble_eq_true rfl⟩) rfl rfl hl.1 (Nat.le_of_ble_eq_true rfl) dX6_isLinked_101 (fun _ _ V => ?_)
                  obtain ⟨hg, hF⟩ := dx_gd_some hF
                  refine mo_st S V 13 (by decide) (dx_inb_in hg) dX6_isLinked_104 (fun _ _ V => ?_)
                  refine lv_iinc (v := (v6 + (1 : Int32))) (lv' := [(6, .int (v6 + (1 : Int32))), (0, .ref h), (1, .int v1), (2, .int v2), (3, .int v3), (4, .int v4), (5, .int v5)]) hx hb dX6_isLinked_105 hl (k := 6) rfl rfl (by decide) rfl (fun ls hl => ?_)
                  refine lv_goto (tgt := 53) hx hb dX6_isLinked_108 (by decide) ?_
                  replace hF := Option.some.inj hF
                  subst hF
                  exact ih53 (v6 + (1 : Int32)) (mo_A σ 13 ((((2 : Int32) * v5) + v6).toNatClampNeg) r5) _ _ _ (dx_lk_l hz53) V (lv_sub hl [1, 2, 3, 4, 5, 6, 0] rfl)
          refine lv_iload hx hb dX6_isLinked_39 (lv_at hl 5 rfl) ?_
          refine lv_aload_n hx hb dX6_isLinked_41 rfl (lv_at hl 0 rfl) ?_
          refine mo_get S V 13 (by decide) rfl q1628 rfl dX6_isLinked_42 ?_
          refine lv_iconst (v := 1) hx hb dX6_isLinked_45 (by decide) ?_
          refine mo_ld S V 5 (by decide) (dx_inb_in rfl) dX6_isLinked_46 ?_
          refine lv_icmp_ge (tgt := 117) hx hb dX6_isLinked_47 (by decide) (fun hc => ?_) (fun hc => ?_)
          · replace hF := (if_pos hc).symm.trans hF
            replace hF := dx_ex_k hF hz39
            refine lv_iinc (v := (v4 + (-1 : Int32))) (lv' := [(4, .int (v4 + (-1 : Int32))), (0, .ref h), (1, .int v1), (2, .int v2), (3, .int v3), (5, .int v5)]) hx hb dX6_isLinked_117 hl (k := 4) rfl rfl (by decide) rfl (fun ls hl => ?_)
            refine lv_goto (tgt := 30) hx hb dX6_isLinked_120 (by decide) ?_
            replace hF := Option.some.inj hF
            subst hF
            exact ih30 (v4 + (-1 : Int32)) σ _ _ _ (dx_lk_l hz30) V (lv_sub hl [1, 2, 3, 4, 0] rfl)
          · replace hF := (if_neg hc).symm.trans hF
            refine lv_iconst (v := 0) hx hb dX6_isLinked_50 (by decide) ?_
            refine lv_istore (lv' := [(6, .int (0 : Int32)), (0, .ref h), (1, .int v1), (2, .int v2), (3, .int v3), (4, .int v4), (5, .int v5)]) hx hb dX6_isLinked_51 hl (by decide) rfl (fun ls hl => ?_)
            exact hL53 v5 dx_fu (0 : Int32) σ _ _ _ hF V (lv_sub hl [1, 2, 3, 4, 5, 6, 0] rfl)
      refine lv_iload hx hb dX6_isLinked_30 (lv_at hl 4 rfl) ?_
      refine lv_iload_n hx hb dX6_isLinked_32 rfl (lv_at hl 2 rfl) ?_
      refine lv_icmp_le (tgt := 123) hx hb dX6_isLinked_33 (by decide) (fun hc => ?_) (fun hc => ?_)
      · replace hF := (if_pos hc).symm.trans hF
        replace hF := dx_ex_k hF hz30
        refine lv_aload_n hx hb dX6_isLinked_123 rfl (lv_at hl 0 rfl) ?_
        refine lv_iload_n hx hb dX6_isLinked_124 rfl (lv_at hl 1 rfl) ?_
        refine lv_iload_n hx hb dX6_isLinked_125 rfl (lv_at hl 2 rfl) ?_
        refine lv_iload_n hx hb dX6_isLinked_126 rfl (lv_at hl 3 rfl) ?_
        obtain ⟨r1, h1c, hF⟩ := dx_b1_some hF
        refine mo_cVi S V [.int v1, .int v2, .int v3] (mo_m_fewest l D di dz h ad A  v1 v2 v3 σ _ h1c) (cwV 3 hts (lw_V q1917 q1919 qs63 q83 q1920) rfl rfl rfl mo_d_fewest ⟨Nat.le_of_ble_eq_true rfl, Nat.le_of_ble_eq_true rfl⟩) rfl rfl hl.1 (Nat.le_of_ble_eq_true rfl) dX6_isLinked_127 (fun _ _ V => ?_)
        refine lv_istore (lv' := [(4, .int r1), (0, .ref h), (1, .int v1), (2, .int v2), (3, .int v3)]) hx hb dX6_isLinked_130 hl (by decide) rfl (fun ls hl => ?_)
        refine lv_aload_n hx hb dX6_isLinked_132 rfl (lv_at hl 1 rfl) ?_
        refine lv_iconst (v := 0) hx hb dX6_isLinked_133 (by decide) ?_
        refine mo_put S V 24 9 (by decide) rfl q1639 rfl rfl rfl dX6_isLinked_134 (fun _ _ V => ?_)
        refine lv_iload hx hb dX6_isLinked_137 (lv_at hl 0 rfl) ?_
        refine lv_sipush (v := 1000) hx hb dX6_isLinked_139 (by decide) ?_
        refine lv_icmp_lt (tgt := 147) hx hb dX6_isLinked_142 (by decide) (fun hc => ?_) (fun hc => ?_)
        · replace hF := (if_pos hc).symm.trans hF
          refine lv_iload_n hx hb dX6_isLinked_147 rfl (lv_at hl 2 rfl) ?_
          refine lv_istore (lv' := [(5, .int v1), (4, .int r1), (0, .ref h), (1, .int v1), (2, .int v2), (3, .int v3)]) hx hb dX6_isLinked_148 hl (by decide) rfl (fun ls hl => ?_)
          refine lv_iload_n hx hb dX6_isLinked_150 rfl (lv_at hl 4 rfl) ?_
          refine lv_istore (lv' := [(6, .int v2), (5, .int v1), (4, .int r1), (0, .ref h), (1, .int v1), (2, .int v2), (3, .int v3)]) hx hb dX6_isLinked_151 hl (by decide) rfl (fun ls hl => ?_)
          exact hL153  dx_fu r1 v1 v2 (mo_I σ 9 (0 : Int32)) _ _ _ hF V (lv_sub hl [3, 2, 1, 0] rfl)
        · replace hF := (if_neg hc).symm.trans hF
          refine lv_iconst (v := 0) hx hb dX6_isLinked_145 (by decide) ?_
          obtain ⟨hF1, hF2⟩ := dx_r2 hF
          subst hF1
          subst hF2
          exact mo_ri S V hr hlocks rfl dX6_isLinked_146
      · replace hF := (if_neg hc).symm.trans hF
        refine lv_iconst (v := 0) hx hb dX6_isLinked_36 (by decide) ?_
        refine lv_istore (lv' := [(5, .int (0 : Int32)), (0, .ref h), (1, .int v1), (2, .int v2), (3, .int v3), (4, .int v4)]) hx hb dX6_isLinked_37 hl (by decide) rfl (fun ls hl => ?_)
        exact hL39 v4 dx_fu (0 : Int32) σ _ _ _ hF V (lv_sub hl [1, 2, 3, 4, 5, 0] rfl)
  have hL3 : ∀ (v1 : Int32) (v2 : Int32) (v3 : Int32) (n : Nat) (v4 : Int32) (σ : mo_S) (H : Heap) (locs : List Loc) (ls : Array Slot), dx_lp (fun x => mo_isLinked_L3 x.2 v1 v2 v3 x.1) n (v4, σ) = some (r, σ') → mo_V D di dz h ad A s.heap σ s H locs → lv_has ls 8 [(0, .ref h), (1, .int v1), (2, .int v2), (3, .int v3), (4, .int v4)] → W p l e ({ frames := 4, cells := 0, slots := 0, locals := 98 }) s m ([.ref h, .int p0, .int p1, .int p2] : List Value).toArray below meth c H locs 0 0 (MQ below (mo_Qi D di dz h ad A (dx_bI r) σ') ([.ref h, .int p0, .int p1, .int p2] : List Value).toArray s 0 0 A) (F0 m 3 ls []) := by
    intro v1 v2 v3 n
    induction n with
    | zero =>
      intro v4 σ H locs ls hF V hl
      exact (dx_lp_0 hF).elim
    | succ n ih3 =>
      intro v4 σ H locs ls hF V hl
      obtain ⟨y3, hF, hz3⟩ := dx_lp_s hF
      replace hF : mo_isLinked_L3 σ v1 v2 v3 v4 = some y3 := hF
      unfold mo_isLinked_L3 at hF
      refine lv_iload hx hb dX6_isLinked_3 (lv_at hl 4 rfl) ?_
      refine lv_bipush (v := 20) hx hb dX6_isLinked_5 (by decide) ?_
      refine lv_icmp_ge (tgt := 26) hx hb dX6_isLinked_7 (by decide) (fun hc => ?_) (fun hc => ?_)
      · replace hF := (if_pos hc).symm.trans hF
        replace hF := dx_ex_k hF hz3
        refine lv_bipush (v := 30) hx hb dX6_isLinked_26 (by decide) ?_
        refine lv_istore (lv' := [(4, .int (30 : Int32)), (0, .ref h), (1, .int v1), (2, .int v2), (3, .int v3)]) hx hb dX6_isLinked_28 hl (by decide) rfl (fun ls hl => ?_)
        exact hL30 v1 v2 v3 dx_fu (30 : Int32) σ _ _ _ hF V (lv_sub hl [1, 2, 3, 4, 0] rfl)
      · replace hF := (if_neg hc).symm.trans hF
        refine lv_aload_n hx hb dX6_isLinked_10 rfl (lv_at hl 0 rfl) ?_
        refine mo_get S V 22 (by decide) rfl q1637 rfl dX6_isLinked_11 ?_
        refine lv_iload hx hb dX6_isLinked_14 (lv_at hl 4 rfl) ?_
        refine lv_sipush (v := 1000) hx hb dX6_isLinked_16 (by decide) ?_
        obtain ⟨hg, hF⟩ := dx_gd_some hF
        refine mo_st S V 13 (by decide) (dx_inb_in hg) dX6_isLinked_19 (fun _ _ V => ?_)
        refine lv_iinc (v := (v4 + (1 : Int32))) (lv' := [(4, .int (v4 + (1 : Int32))), (0, .ref h), (1, .int v1), (2, .int v2), (3, .int v3)]) hx hb dX6_isLinked_20 hl (k := 4) rfl rfl (by decide) rfl (fun ls hl => ?_)
        refine lv_goto (tgt := 3) hx hb dX6_isLinked_23 (by decide) ?_
        replace hF := Option.some.inj hF
        subst hF
        exact ih3 (v4 + (1 : Int32)) (mo_A σ 13 v4.toNatClampNeg (1000 : Int32)) _ _ _ (dx_lk_l hz3) V (lv_sub hl [1, 2, 3, 4, 0] rfl)
  refine lv_iconst (v := 0) hx hb dX6_isLinked_0 (by decide) ?_
  refine lv_istore (lv' := [(4, .int (0 : Int32)), (0, .ref h), (1, .int p0), (2, .int p1), (3, .int p2)]) hx hb dX6_isLinked_1 hl (by decide) rfl (fun ls hl => ?_)
  exact hL3 p0 p1 p2 dx_fu (0 : Int32) σ0 _ _ _ hF V (lv_sub hl [1, 2, 3, 4, 0] rfl)
theorem mo_d_chain : yX6_chain.cls = RX6 ∧ yX6_chain.cls ≠ "java/lang/invoke/MethodHandle" ∧ yX6_chain.cls ≠ "java/lang/invoke/VarHandle" ∧ (parseMethodDescriptor yX6_chain.desc).map (fun d => d.parameters.length) = some 4 := by decide +kernel
set_option maxHeartbeats 4000000 in
set_option maxRecDepth 100000 in
theorem mo_m_chain (l : Launch) (D : va_G) (di dz : ClassId) (h : Nat) (ad : Nat → Nat) (A : Nat → Prop)  (p0 : Int32) (p1 : Int32) (p2 : Int32) (p3 : Int32) (σ0 : mo_S) (r : Int32) (σ' : mo_S) (hF : mo_chain σ0 p0 p1 p2 p3 = some (r, σ')) : mo_Ci l yX6_chain cX6_chain 5 .int ({ frames := 5, cells := 0, slots := 0, locals := 125 }) D di dz h ad A [.ref h, .int p0, .int p1, .int p2, .int p3] σ0 r σ' := by
  refine dx_in RX6 rfl (by decide) (Nat.le_of_ble_eq_true rfl) ?_
  intro p e s m below meth c ls S hr hlocks hv hl
  have hx := S.1
  have hb := S.2.1
  have hown := S.2.2.2.1
  have hts := S.2.2.2.2
  obtain ⟨hK, hP, hD⟩ := hv
  have V : mo_V D di dz h ad A s.heap σ0 s s.heap [] := ⟨hK, hP, hD, va_S.rf⟩
  replace hl : lv_has ls 5 [(0, .ref h), (1, .int p0), (2, .int p1), (3, .int p2), (4, .int p3)] := hl
  unfold mo_chain at hF
  refine lv_aload_n hx hb dX6_chain_0 rfl (lv_at hl 0 rfl) ?_
  refine lv_iload_n hx hb dX6_chain_1 rfl (lv_at hl 1 rfl) ?_
  refine lv_iload_n hx hb dX6_chain_2 rfl (lv_at hl 2 rfl) ?_
  obtain ⟨r1, h1c, hF⟩ := dx_b1_some hF
  refine mo_cVi S V [.int p0, .int p1] (mo_m_isFrom l D di dz h ad A  p0 p1 σ0 _ h1c) (cwV 2 hts (lw_V q1879 q1881 qs57 q83 q1882) rfl rfl rfl mo_d_isFrom ⟨Nat.le_of_ble_eq_true rfl, Nat.le_of_ble_eq_true rfl⟩) rfl rfl hl.1 (Nat.le_of_ble_eq_true rfl) dX6_chain_3 (fun _ _ V => ?_)
  refine lv_if_eq (tgt := 23) hx hb dX6_chain_6 (by decide) (fun hc => ?_) (fun hc => ?_)
  · replace hF := dx_ib_f (dx_bI_0 hc) hF
    refine lv_ldc hx hb hown (hts _ q1714) dX6_chain_23 ?_
    obtain ⟨hF1, hF2⟩ := dx_r2 hF
    subst hF1
    subst hF2
    exact mo_ri S V hr hlocks rfl dX6_chain_25
  · replace hF := dx_ib_t (dx_bI_n hc) hF
    refine lv_aload_n hx hb dX6_chain_9 rfl (lv_at hl 0 rfl) ?_
    refine lv_iload_n hx hb dX6_chain_10 rfl (lv_at hl 3 rfl) ?_
    obtain ⟨r2, h2c, hF⟩ := dx_b1_some hF
    refine mo_cVi S V [.int p2] (mo_m_isPerson l D di dz h ad A  p2 σ0 _ h2c) (cwV 1 hts (lw_V q1815 q1817 qs51 q83 q1818) rfl rfl rfl mo_d_isPerson ⟨Nat.le_of_ble_eq_true rfl, Nat.le_of_ble_eq_true rfl⟩) rfl rfl hl.1 (Nat.le_of_ble_eq_true rfl) dX6_chain_11 (fun _ _ V => ?_)
    refine lv_if_eq (tgt := 23) hx hb dX6_chain_14 (by decide) (fun hc => ?_) (fun hc => ?_)
    · replace hF := dx_ib_f (dx_bI_0 hc) hF
      refine lv_ldc hx hb hown (hts _ q1714) dX6_chain_23 ?_
      obtain ⟨hF1, hF2⟩ := dx_r2 hF
      subst hF1
      subst hF2
      exact mo_ri S V hr hlocks rfl dX6_chain_25
    · replace hF := dx_ib_t (dx_bI_n hc) hF
      refine lv_iload hx hb dX6_chain_17 (lv_at hl 4 rfl) ?_
      refine lv_iconst (v := (-1)) hx hb dX6_chain_19 (by decide) ?_
      refine lv_icmp_ge (tgt := 26) hx hb dX6_chain_20 (by decide) (fun hc => ?_) (fun hc => ?_)
      · replace hF := (if_pos hc).symm.trans hF
        refine lv_aload_n hx hb dX6_chain_26 rfl (lv_at hl 0 rfl) ?_
        refine lv_iload_n hx hb dX6_chain_27 rfl (lv_at hl 1 rfl) ?_
        refine lv_iload_n hx hb dX6_chain_28 rfl (lv_at hl 2 rfl) ?_
        refine lv_iload_n hx hb dX6_chain_29 rfl (lv_at hl 3 rfl) ?_
        obtain ⟨r3, σ3, h3c, hF⟩ := dx_b2_some hF
        refine mo_cVi S V [.int p0, .int p1, .int p2] (mo_m_isLinked l D di dz h ad A  p0 p1 p2 σ0 _ _ h3c) (cwV 3 hts (lw_V q1909 q1911 qs61 q83 q1912) rfl rfl rfl mo_d_isLinked ⟨Nat.le_of_ble_eq_true rfl, Nat.le_of_ble_eq_true rfl⟩) rfl rfl hl.1 (Nat.le_of_ble_eq_true rfl) dX6_chain_30 (fun _ _ V => ?_)
        refine lv_if_ne (tgt := 39) hx hb dX6_chain_33 (by decide) (fun hc => ?_) (fun hc => ?_)
        · replace hF := dx_ib_t (dx_bI_n hc) hF
          refine lv_iload hx hb dX6_chain_39 (lv_at hl 4 rfl) ?_
          refine lv_iconst (v := (-1)) hx hb dX6_chain_41 (by decide) ?_
          refine lv_icmp_ne (tgt := 52) hx hb dX6_chain_42 (by decide) (fun hc => ?_) (fun hc => ?_)
          · replace hF := (if_neg hc).symm.trans hF
            refine lv_iload hx hb dX6_chain_52 (lv_at hl 4 rfl) ?_
            refine lv_aload_n hx hb dX6_chain_54 rfl (lv_at hl 0 rfl) ?_
            refine mo_get S V 24 (by decide) rfl q1639 rfl dX6_chain_55 ?_
            refine lv_icmp_ge (tgt := 73) hx hb dX6_chain_58 (by decide) (fun hc => ?_) (fun hc => ?_)
            · replace hF := (if_pos hc).symm.trans hF
              refine lv_ldc hx hb hown (hts _ q1614) dX6_chain_73 ?_
              obtain ⟨hF1, hF2⟩ := dx_r2 hF
              subst hF1
              subst hF2
              exact mo_ri S V hr hlocks rfl dX6_chain_75
            · replace hF := (if_neg hc).symm.trans hF
              refine lv_aload_n hx hb dX6_chain_61 rfl (lv_at hl 0 rfl) ?_
              refine mo_get S V 23 (by decide) rfl q1638 rfl dX6_chain_62 ?_
              refine lv_iload hx hb dX6_chain_65 (lv_at hl 4 rfl) ?_
              obtain ⟨hg, hF⟩ := dx_gd_some hF
              refine mo_ld S V 14 (by decide) (dx_inb_in hg) dX6_chain_67 ?_
              refine lv_iconst (v := 2) hx hb dX6_chain_68 (by decide) ?_
              refine lv_idiv hx hb dX6_chain_69 (by decide) ?_
              refine lv_goto (tgt := 75) hx hb dX6_chain_70 (by decide) ?_
              obtain ⟨hF1, hF2⟩ := dx_r2 hF
              subst hF1
              subst hF2
              exact mo_ri S V hr hlocks rfl dX6_chain_75
          · replace hF := (if_pos hc).symm.trans hF
            refine lv_aload_n hx hb dX6_chain_45 rfl (lv_at hl 0 rfl) ?_
            refine mo_get S V 24 (by decide) rfl q1639 rfl dX6_chain_46 ?_
            refine lv_goto (tgt := 75) hx hb dX6_chain_49 (by decide) ?_
            obtain ⟨hF1, hF2⟩ := dx_r2 hF
            subst hF1
            subst hF2
            exact mo_ri S V hr hlocks rfl dX6_chain_75
        · replace hF := dx_ib_f (dx_bI_0 hc) hF
          refine lv_ldc hx hb hown (hts _ q1614) dX6_chain_36 ?_
          obtain ⟨hF1, hF2⟩ := dx_r2 hF
          subst hF1
          subst hF2
          exact mo_ri S V hr hlocks rfl dX6_chain_38
      · replace hF := (if_neg hc).symm.trans hF
        refine lv_ldc hx hb hown (hts _ q1714) dX6_chain_23 ?_
        obtain ⟨hF1, hF2⟩ := dx_r2 hF
        subst hF1
        subst hF2
        exact mo_ri S V hr hlocks rfl dX6_chain_25
theorem mo_d_signs : yX6_signs.cls = RX6 ∧ yX6_signs.cls ≠ "java/lang/invoke/MethodHandle" ∧ yX6_signs.cls ≠ "java/lang/invoke/VarHandle" ∧ (parseMethodDescriptor yX6_signs.desc).map (fun d => d.parameters.length) = some 1 := by decide +kernel
set_option maxHeartbeats 4000000 in
set_option maxRecDepth 100000 in
theorem mo_m_signs (l : Launch) (D : va_G) (di dz : ClassId) (h : Nat) (ad : Nat → Nat) (A : Nat → Prop)  (p0 : Int32) (σ0 : mo_S) (σ' : mo_S) (hF : mo_signs σ0 p0 = some σ') : mo_Cv l yX6_signs cX6_signs 2 ({ frames := 0, cells := 0, slots := 0, locals := 0 }) D di dz h ad A [.ref h, .int p0] σ0 σ' := by
  refine dx_in RX6 rfl (by decide) (Nat.le_of_ble_eq_true rfl) ?_
  intro p e s m below meth c ls S hr hlocks hv hl
  have hx := S.1
  have hb := S.2.1
  have hown := S.2.2.2.1
  have hts := S.2.2.2.2
  obtain ⟨hK, hP, hD⟩ := hv
  have V : mo_V D di dz h ad A s.heap σ0 s s.heap [] := ⟨hK, hP, hD, va_S.rf⟩
  replace hl : lv_has ls 2 [(0, .ref h), (1, .int p0)] := hl
  unfold mo_signs at hF
  refine lv_aload_n hx hb dX6_signs_0 rfl (lv_at hl 0 rfl) ?_
  refine mo_get S V 25 (by decide) rfl q1640 rfl dX6_signs_1 ?_
  refine lv_aload_n hx hb dX6_signs_4 rfl (lv_at hl 0 rfl) ?_
  refine mo_get S V 26 (by decide) rfl q1641 rfl dX6_signs_5 ?_
  refine lv_iload_n hx hb dX6_signs_8 rfl (lv_at hl 1 rfl) ?_
  obtain ⟨hg, hF⟩ := dx_gd_some hF
  refine mo_st S V 15 (by decide) (dx_inb_in hg) dX6_signs_9 (fun _ _ V => ?_)
  refine lv_aload_n hx hb dX6_signs_10 rfl (lv_at hl 0 rfl) ?_
  refine lv_dup hx hb dX6_signs_11 rfl ?_
  refine mo_get S V 26 (by decide) rfl q1641 rfl dX6_signs_12 ?_
  refine lv_iconst (v := 1) hx hb dX6_signs_15 (by decide) ?_
  refine lv_iadd hx hb dX6_signs_16 ?_
  refine mo_put S V 26 10 (by decide) rfl q1641 rfl rfl rfl dX6_signs_17 (fun _ _ V => ?_)
  replace hF := Option.some.inj hF
  subst hF
  exact mo_rv S V hr hlocks dX6_signs_20
theorem mo_d_figures : yX6_figures.cls = RX6 ∧ yX6_figures.cls ≠ "java/lang/invoke/MethodHandle" ∧ yX6_figures.cls ≠ "java/lang/invoke/VarHandle" ∧ (parseMethodDescriptor yX6_figures.desc).map (fun d => d.parameters.length) = some 1 := by decide +kernel
set_option maxHeartbeats 4000000 in
set_option maxRecDepth 100000 in
theorem mo_m_figures (l : Launch) (D : va_G) (di dz : ClassId) (h : Nat) (ad : Nat → Nat) (A : Nat → Prop)  (p0 : Int32) (σ0 : mo_S) (σ' : mo_S) (hF : mo_figures σ0 p0 = some σ') : mo_Cv l yX6_figures cX6_figures 2 ({ frames := 1, cells := 0, slots := 0, locals := 21 }) D di dz h ad A [.ref h, .int p0] σ0 σ' := by
  refine dx_in RX6 rfl (by decide) (Nat.le_of_ble_eq_true rfl) ?_
  intro p e s m below meth c ls S hr hlocks hv hl
  have hx := S.1
  have hb := S.2.1
  have hown := S.2.2.2.1
  have hts := S.2.2.2.2
  obtain ⟨hK, hP, hD⟩ := hv
  have V : mo_V D di dz h ad A s.heap σ0 s s.heap [] := ⟨hK, hP, hD, va_S.rf⟩
  replace hl : lv_has ls 2 [(0, .ref h), (1, .int p0)] := hl
  unfold mo_figures at hF
  have hJ17 : ∀ (σ : mo_S) (v1 : Int32) (H : Heap) (locs : List Loc) (ls : Array Slot), mo_figures_J17 σ v1 = some σ' → mo_V D di dz h ad A s.heap σ s H locs → lv_has ls 2 [(0, .ref h), (1, .int v1)] → W p l e ({ frames := 1, cells := 0, slots := 0, locals := 21 }) s m ([.ref h, .int p0] : List Value).toArray below meth c H locs 0 0 (MQ below (mo_Qv D di dz h ad A σ') ([.ref h, .int p0] : List Value).toArray s 0 0 A) (F0 m 17 ls []) := by
    intro σ v1 H locs ls hF V hl
    unfold mo_figures_J17 at hF
    refine lv_aload_n hx hb dX6_figures_17 rfl (lv_at hl 0 rfl) ?_
    refine lv_bipush (v := 48) hx hb dX6_figures_18 (by decide) ?_
    refine lv_iload_n hx hb dX6_figures_20 rfl (lv_at hl 1 rfl) ?_
    refine lv_bipush (v := 10) hx hb dX6_figures_21 (by decide) ?_
    refine lv_irem hx hb dX6_figures_23 (by decide) ?_
    refine lv_iadd hx hb dX6_figures_24 ?_
    obtain ⟨σ1, h1c, hF⟩ := dx_b1_some hF
    refine mo_cVv S V [.int ((48 : Int32) + (v1 - v1 / (10 : Int32) * (10 : Int32)))] (mo_m_signs l D di dz h ad A  ((48 : Int32) + (v1 - v1 / (10 : Int32) * (10 : Int32))) σ _ h1c) (cwV 1 hts (lw_V q1933 q1935 qs66 q83 q1936) rfl rfl rfl mo_d_signs ⟨Nat.le_of_ble_eq_true rfl, Nat.le_of_ble_eq_true rfl⟩) rfl rfl hl.1 (Nat.le_of_ble_eq_true rfl) dX6_figures_25 (fun _ _ V => ?_)
    replace hF := Option.some.inj hF
    subst hF
    exact mo_rv S V hr hlocks dX6_figures_28
  refine lv_iload_n hx hb dX6_figures_0 rfl (lv_at hl 1 rfl) ?_
  refine lv_bipush (v := 9) hx hb dX6_figures_1 (by decide) ?_
  refine lv_icmp_le (tgt := 17) hx hb dX6_figures_3 (by decide) (fun hc => ?_) (fun hc => ?_)
  · replace hF := (if_pos hc).symm.trans hF
    exact hJ17 σ0 p0 _ _ _ hF V (lv_sub hl [0, 1] rfl)
  · replace hF := (if_neg hc).symm.trans hF
    refine lv_aload_n hx hb dX6_figures_6 rfl (lv_at hl 0 rfl) ?_
    refine lv_bipush (v := 48) hx hb dX6_figures_7 (by decide) ?_
    refine lv_iload_n hx hb dX6_figures_9 rfl (lv_at hl 1 rfl) ?_
    refine lv_bipush (v := 10) hx hb dX6_figures_10 (by decide) ?_
    refine lv_idiv hx hb dX6_figures_12 (by decide) ?_
    refine lv_iadd hx hb dX6_figures_13 ?_
    obtain ⟨σ2, h2c, hF⟩ := dx_b1_some hF
    refine mo_cVv S V [.int ((48 : Int32) + (p0 / (10 : Int32)))] (mo_m_signs l D di dz h ad A  ((48 : Int32) + (p0 / (10 : Int32))) σ0 _ h2c) (cwV 1 hts (lw_V q1933 q1935 qs66 q83 q1936) rfl rfl rfl mo_d_signs ⟨Nat.le_of_ble_eq_true rfl, Nat.le_of_ble_eq_true rfl⟩) rfl rfl hl.1 (Nat.le_of_ble_eq_true rfl) dX6_figures_14 (fun _ _ V => ?_)
    exact hJ17 σ2 p0 _ _ _ hF V (lv_sub hl [0, 1] rfl)
theorem mo_d_written : yX6_written.cls = RX6 ∧ yX6_written.cls ≠ "java/lang/invoke/MethodHandle" ∧ yX6_written.cls ≠ "java/lang/invoke/VarHandle" ∧ (parseMethodDescriptor yX6_written.desc).map (fun d => d.parameters.length) = some 4 := by decide +kernel
set_option maxHeartbeats 4000000 in
set_option maxRecDepth 100000 in
theorem mo_m_written (l : Launch) (D : va_G) (di dz : ClassId) (h : Nat) (ad : Nat → Nat) (A : Nat → Prop)  (p0 : Int32) (p1 : Int32) (p2 : Int32) (p3 : Int32) (σ0 : mo_S) (r : Int32) (σ' : mo_S) (hF : mo_written σ0 p0 p1 p2 p3 = some (r, σ')) : mo_Ci l yX6_written cX6_written 7 .int ({ frames := 5, cells := 0, slots := 0, locals := 125 }) D di dz h ad A [.ref h, .int p0, .int p1, .int p2, .int p3] σ0 r σ' := by
  refine dx_in RX6 rfl (by decide) (Nat.le_of_ble_eq_true rfl) ?_
  intro p e s m below meth c ls S hr hlocks hv hl
  have hx := S.1
  have hb := S.2.1
  have hown := S.2.2.2.1
  have hts := S.2.2.2.2
  obtain ⟨hK, hP, hD⟩ := hv
  have V : mo_V D di dz h ad A s.heap σ0 s s.heap [] := ⟨hK, hP, hD, va_S.rf⟩
  replace hl : lv_has ls 7 [(0, .ref h), (1, .int p0), (2, .int p1), (3, .int p2), (4, .int p3)] := hl
  unfold mo_written at hF
  have hL52 : ∀ (v4 : Int32) (n : Nat) (v5 : Int32) (σ : mo_S) (H : Heap) (locs : List Loc) (ls : Array Slot), dx_lp (fun x => mo_written_L52 x.2 v4 x.1) n (v5, σ) = some (r, σ') → mo_V D di dz h ad A s.heap σ s H locs → lv_has ls 7 [(0, .ref h), (4, .int v4), (5, .int v5)] → W p l e ({ frames := 5, cells := 0, slots := 0, locals := 125 }) s m ([.ref h, .int p0, .int p1, .int p2, .int p3] : List Value).toArray below meth c H locs 0 0 (MQ below (mo_Qi D di dz h ad A r σ') ([.ref h, .int p0, .int p1, .int p2, .int p3] : List Value).toArray s 0 0 A) (F0 m 52 ls []) := by
    intro v4 n
    induction n with
    | zero =>
      intro v5 σ H locs ls hF V hl
      exact (dx_lp_0 hF).elim
    | succ n ih52 =>
      intro v5 σ H locs ls hF V hl
      obtain ⟨y52, hF, hz52⟩ := dx_lp_s hF
      replace hF : mo_written_L52 σ v4 v5 = some y52 := hF
      unfold mo_written_L52 at hF
      have hJ93 : ∀ (σ : mo_S) (v5 : Int32) (v6 : Int32) (t1 : Int32) (H : Heap) (locs : List Loc) (ls : Array Slot), mo_written_J93 σ v4 v5 v6 t1 = some y52 → mo_V D di dz h ad A s.heap σ s H locs → lv_has ls 7 [(0, .ref h), (4, .int v4), (5, .int v5), (6, .int v6)] → W p l e ({ frames := 5, cells := 0, slots := 0, locals := 125 }) s m ([.ref h, .int p0, .int p1, .int p2, .int p3] : List Value).toArray below meth c H locs 0 0 (MQ below (mo_Qi D di dz h ad A r σ') ([.ref h, .int p0, .int p1, .int p2, .int p3] : List Value).toArray s 0 0 A) (F0 m 93 ls [.int t1, .ref h]) := by
        intro σ v5 v6 t1 H locs ls hF V hl
        unfold mo_written_J93 at hF
        obtain ⟨σ5, h5c, hF⟩ := dx_b1_some hF
        refine mo_cVv S V [.int t1] (mo_m_signs l D di dz h ad A  t1 σ _ h5c) (cwV 1 hts (lw_V q1933 q1935 qs66 q83 q1936) rfl rfl rfl mo_d_signs ⟨Nat.le_of_ble_eq_true rfl, Nat.le_of_ble_eq_true rfl⟩) rfl rfl hl.1 (Nat.le_of_ble_eq_true rfl) dX6_written_93 (fun _ _ V => ?_)
        refine lv_aload_n hx hb dX6_written_96 rfl (lv_at hl 0 rfl) ?_
        refine lv_iload hx hb dX6_written_97 (lv_at hl 3 rfl) ?_
        obtain ⟨σ6, h6c, hF⟩ := dx_b1_some hF
        refine mo_cVv S V [.int v6] (mo_m_figures l D di dz h ad A  v6 σ5 _ h6c) (cwV 1 hts (lw_V q1929 q1931 qs65 q83 q1932) rfl rfl rfl mo_d_figures ⟨Nat.le_of_ble_eq_true rfl, Nat.le_of_ble_eq_true rfl⟩) rfl rfl hl.1 (Nat.le_of_ble_eq_true rfl) dX6_written_99 (fun _ _ V => ?_)
        refine lv_aload_n hx hb dX6_written_102 rfl (lv_at hl 0 rfl) ?_
        refine lv_bipush (v := 64) hx hb dX6_written_103 (by decide) ?_
        obtain ⟨σ7, h7c, hF⟩ := dx_b1_some hF
        refine mo_cVv S V [.int (64 : Int32)] (mo_m_signs l D di dz h ad A  (64 : Int32) σ6 _ h7c) (cwV 1 hts (lw_V q1933 q1935 qs66 q83 q1936) rfl rfl rfl mo_d_signs ⟨Nat.le_of_ble_eq_true rfl, Nat.le_of_ble_eq_true rfl⟩) rfl rfl hl.1 (Nat.le_of_ble_eq_true rfl) dX6_written_105 (fun _ _ V => ?_)
        refine lv_aload_n hx hb dX6_written_108 rfl (lv_at hl 0 rfl) ?_
        refine lv_aload_n hx hb dX6_written_109 rfl (lv_at hl 0 rfl) ?_
        refine mo_get S V 13 (by decide) rfl q1628 rfl dX6_written_110 ?_
        refine lv_bipush (v := 22) hx hb dX6_written_113 (by decide) ?_
        refine lv_iconst (v := 3) hx hb dX6_written_115 (by decide) ?_
        refine lv_iload hx hb dX6_written_116 (lv_at hl 3 rfl) ?_
        refine lv_imul hx hb dX6_written_118 ?_
        refine lv_iadd hx hb dX6_written_119 ?_
        refine lv_iconst (v := 2) hx hb dX6_written_120 (by decide) ?_
        refine lv_iadd hx hb dX6_written_121 ?_
        obtain ⟨hg, hF⟩ := dx_gd_some hF
        refine mo_ld S V 5 (by decide) (dx_inb_in hg) dX6_written_122 ?_
        obtain ⟨σ8, h8c, hF⟩ := dx_b1_some hF
        refine mo_cVv S V [.int (σ7.2 5 (((22 : Int32) + ((3 : Int32) * v6)) + (2 : Int32)).toNatClampNeg)] (mo_m_figures l D di dz h ad A  (σ7.2 5 (((22 : Int32) + ((3 : Int32) * v6)) + (2 : Int32)).toNatClampNeg) σ7 _ h8c) (cwV 1 hts (lw_V q1929 q1931 qs65 q83 q1932) rfl rfl rfl mo_d_figures ⟨Nat.le_of_ble_eq_true rfl, Nat.le_of_ble_eq_true rfl⟩) rfl rfl hl.1 (Nat.le_of_ble_eq_true rfl) dX6_written_123 (fun _ _ V => ?_)
        refine lv_aload_n hx hb dX6_written_126 rfl (lv_at hl 0 rfl) ?_
        refine lv_bipush (v := 58) hx hb dX6_written_127 (by decide) ?_
        obtain ⟨σ9, h9c, hF⟩ := dx_b1_some hF
        refine mo_cVv S V [.int (58 : Int32)] (mo_m_signs l D di dz h ad A  (58 : Int32) σ8 _ h9c) (cwV 1 hts (lw_V q1933 q1935 qs66 q83 q1936) rfl rfl rfl mo_d_signs ⟨Nat.le_of_ble_eq_true rfl, Nat.le_of_ble_eq_true rfl⟩) rfl rfl hl.1 (Nat.le_of_ble_eq_true rfl) dX6_written_129 (fun _ _ V => ?_)
        refine lv_aload_n hx hb dX6_written_132 rfl (lv_at hl 0 rfl) ?_
        refine lv_aload_n hx hb dX6_written_133 rfl (lv_at hl 0 rfl) ?_
        refine lv_iload hx hb dX6_written_134 (lv_at hl 3 rfl) ?_
        refine lv_aload_n hx hb dX6_written_136 rfl (lv_at hl 0 rfl) ?_
        refine mo_get S V 23 (by decide) rfl q1638 rfl dX6_written_137 ?_
        refine lv_iload hx hb dX6_written_140 (lv_at hl 2 rfl) ?_
        obtain ⟨hg, hF⟩ := dx_gd_some hF
        refine mo_ld S V 14 (by decide) (dx_inb_in hg) dX6_written_142 ?_
        refine lv_iconst (v := 2) hx hb dX6_written_143 (by decide) ?_
        refine lv_irem hx hb dX6_written_144 (by decide) ?_
        obtain ⟨r10, h10c, hF⟩ := dx_b1_some hF
        refine mo_cVi S V [.int v6, .int ((σ9.2 14 v5.toNatClampNeg) - (σ9.2 14 v5.toNatClampNeg) / (2 : Int32) * (2 : Int32))] (mo_m_whoOf l D di dz h ad A  v6 ((σ9.2 14 v5.toNatClampNeg) - (σ9.2 14 v5.toNatClampNeg) / (2 : Int32) * (2 : Int32)) σ9 _ h10c) (cwV 2 hts (lw_V q1913 q1915 qs62 q83 q1916) rfl rfl rfl mo_d_whoOf ⟨Nat.le_of_ble_eq_true rfl, Nat.le_of_ble_eq_true rfl⟩) rfl rfl hl.1 (Nat.le_of_ble_eq_true rfl) dX6_written_145 (fun _ _ V => ?_)
        obtain ⟨σ11, h11c, hF⟩ := dx_b1_some hF
        refine mo_cVv S V [.int r10] (mo_m_figures l D di dz h ad A  r10 σ9 _ h11c) (cwV 1 hts (lw_V q1929 q1931 qs65 q83 q1932) rfl rfl rfl mo_d_figures ⟨Nat.le_of_ble_eq_true rfl, Nat.le_of_ble_eq_true rfl⟩) rfl rfl hl.1 (Nat.le_of_ble_eq_true rfl) dX6_written_148 (fun _ _ V => ?_)
        refine lv_iinc (v := (v5 + (1 : Int32))) (lv' := [(5, .int (v5 + (1 : Int32))), (0, .ref h), (4, .int v4), (6, .int v6)]) hx hb dX6_written_151 hl (k := 2) rfl rfl (by decide) rfl (fun ls hl => ?_)
        refine lv_goto (tgt := 52) hx hb dX6_written_154 (by decide) ?_
        replace hF := Option.some.inj hF
        subst hF
        exact ih52 (v5 + (1 : Int32)) σ11 _ _ _ (dx_lk_l hz52) V (lv_sub hl [1, 2, 0] rfl)
      refine lv_iload hx hb dX6_written_52 (lv_at hl 2 rfl) ?_
      refine lv_aload_n hx hb dX6_written_54 rfl (lv_at hl 0 rfl) ?_
      refine mo_get S V 24 (by decide) rfl q1639 rfl dX6_written_55 ?_
      refine lv_icmp_ge (tgt := 157) hx hb dX6_written_58 (by decide) (fun hc => ?_) (fun hc => ?_)
      · replace hF := (if_pos hc).symm.trans hF
        replace hF := dx_ex_k hF hz52
        refine lv_iload hx hb dX6_written_157 (lv_at hl 1 rfl) ?_
        refine lv_iconst (v := (-1)) hx hb dX6_written_159 (by decide) ?_
        refine lv_icmp_ne (tgt := 170) hx hb dX6_written_160 (by decide) (fun hc => ?_) (fun hc => ?_)
        · replace hF := (if_neg hc).symm.trans hF
          refine lv_iload hx hb dX6_written_170 (lv_at hl 1 rfl) ?_
          refine lv_aload_n hx hb dX6_written_172 rfl (lv_at hl 0 rfl) ?_
          refine mo_get S V 26 (by decide) rfl q1641 rfl dX6_written_173 ?_
          refine lv_icmp_ge (tgt := 189) hx hb dX6_written_176 (by decide) (fun hc => ?_) (fun hc => ?_)
          · replace hF := (if_pos hc).symm.trans hF
            refine lv_ldc hx hb hown (hts _ q1614) dX6_written_189 ?_
            obtain ⟨hF1, hF2⟩ := dx_r2 hF
            subst hF1
            subst hF2
            exact mo_ri S V hr hlocks rfl dX6_written_191
          · replace hF := (if_neg hc).symm.trans hF
            refine lv_aload_n hx hb dX6_written_179 rfl (lv_at hl 0 rfl) ?_
            refine mo_get S V 25 (by decide) rfl q1640 rfl dX6_written_180 ?_
            refine lv_iload hx hb dX6_written_183 (lv_at hl 1 rfl) ?_
            obtain ⟨hg, hF⟩ := dx_gd_some hF
            refine mo_ld S V 15 (by decide) (dx_inb_in hg) dX6_written_185 ?_
            refine lv_goto (tgt := 191) hx hb dX6_written_186 (by decide) ?_
            obtain ⟨hF1, hF2⟩ := dx_r2 hF
            subst hF1
            subst hF2
            exact mo_ri S V hr hlocks rfl dX6_written_191
        · replace hF := (if_pos hc).symm.trans hF
          refine lv_aload_n hx hb dX6_written_163 rfl (lv_at hl 0 rfl) ?_
          refine mo_get S V 26 (by decide) rfl q1641 rfl dX6_written_164 ?_
          refine lv_goto (tgt := 191) hx hb dX6_written_167 (by decide) ?_
          obtain ⟨hF1, hF2⟩ := dx_r2 hF
          subst hF1
          subst hF2
          exact mo_ri S V hr hlocks rfl dX6_written_191
      · replace hF := (if_neg hc).symm.trans hF
        refine lv_aload_n hx hb dX6_written_61 rfl (lv_at hl 0 rfl) ?_
        refine mo_get S V 23 (by decide) rfl q1638 rfl dX6_written_62 ?_
        refine lv_iload hx hb dX6_written_65 (lv_at hl 2 rfl) ?_
        obtain ⟨hg, hF⟩ := dx_gd_some hF
        refine mo_ld S V 14 (by decide) (dx_inb_in hg) dX6_written_67 ?_
        refine lv_iconst (v := 2) hx hb dX6_written_68 (by decide) ?_
        refine lv_idiv hx hb dX6_written_69 (by decide) ?_
        refine lv_istore (lv' := [(6, .int ((σ.2 14 v5.toNatClampNeg) / (2 : Int32))), (0, .ref h), (4, .int v4), (5, .int v5)]) hx hb dX6_written_70 hl (by decide) rfl (fun ls hl => ?_)
        refine lv_aload_n hx hb dX6_written_72 rfl (lv_at hl 1 rfl) ?_
        refine lv_aload_n hx hb dX6_written_73 rfl (lv_at hl 1 rfl) ?_
        refine mo_get S V 23 (by decide) rfl q1638 rfl dX6_written_74 ?_
        refine lv_iload hx hb dX6_written_77 (lv_at hl 3 rfl) ?_
        obtain ⟨hg, hF⟩ := dx_gd_some hF
        refine mo_ld S V 14 (by decide) (dx_inb_in hg) dX6_written_79 ?_
        refine lv_iconst (v := 2) hx hb dX6_written_80 (by decide) ?_
        refine lv_irem hx hb dX6_written_81 (by decide) ?_
        refine lv_iconst (v := 1) hx hb dX6_written_82 (by decide) ?_
        refine lv_icmp_ne (tgt := 91) hx hb dX6_written_83 (by decide) (fun hc => ?_) (fun hc => ?_)
        · replace hF := (if_neg hc).symm.trans hF
          refine lv_bipush (v := 60) hx hb dX6_written_91 (by decide) ?_
          exact hJ93 σ v5 ((σ.2 14 v5.toNatClampNeg) / (2 : Int32)) (60 : Int32) _ _ _ hF V (lv_sub hl [1, 2, 3, 0] rfl)
        · replace hF := (if_pos hc).symm.trans hF
          refine lv_bipush (v := 62) hx hb dX6_written_86 (by decide) ?_
          refine lv_goto (tgt := 93) hx hb dX6_written_88 (by decide) ?_
          exact hJ93 σ v5 ((σ.2 14 v5.toNatClampNeg) / (2 : Int32)) (62 : Int32) _ _ _ hF V (lv_sub hl [1, 2, 3, 0] rfl)
  refine lv_aload_n hx hb dX6_written_0 rfl (lv_at hl 0 rfl) ?_
  refine lv_iload_n hx hb dX6_written_1 rfl (lv_at hl 1 rfl) ?_
  refine lv_iload_n hx hb dX6_written_2 rfl (lv_at hl 2 rfl) ?_
  obtain ⟨r1, h1c, hF⟩ := dx_b1_some hF
  refine mo_cVi S V [.int p0, .int p1] (mo_m_isFrom l D di dz h ad A  p0 p1 σ0 _ h1c) (cwV 2 hts (lw_V q1879 q1881 qs57 q83 q1882) rfl rfl rfl mo_d_isFrom ⟨Nat.le_of_ble_eq_true rfl, Nat.le_of_ble_eq_true rfl⟩) rfl rfl hl.1 (Nat.le_of_ble_eq_true rfl) dX6_written_3 (fun _ _ V => ?_)
  refine lv_if_eq (tgt := 23) hx hb dX6_written_6 (by decide) (fun hc => ?_) (fun hc => ?_)
  · replace hF := dx_ib_f (dx_bI_0 hc) hF
    refine lv_ldc hx hb hown (hts _ q1714) dX6_written_23 ?_
    obtain ⟨hF1, hF2⟩ := dx_r2 hF
    subst hF1
    subst hF2
    exact mo_ri S V hr hlocks rfl dX6_written_25
  · replace hF := dx_ib_t (dx_bI_n hc) hF
    refine lv_aload_n hx hb dX6_written_9 rfl (lv_at hl 0 rfl) ?_
    refine lv_iload_n hx hb dX6_written_10 rfl (lv_at hl 3 rfl) ?_
    obtain ⟨r2, h2c, hF⟩ := dx_b1_some hF
    refine mo_cVi S V [.int p2] (mo_m_isPerson l D di dz h ad A  p2 σ0 _ h2c) (cwV 1 hts (lw_V q1815 q1817 qs51 q83 q1818) rfl rfl rfl mo_d_isPerson ⟨Nat.le_of_ble_eq_true rfl, Nat.le_of_ble_eq_true rfl⟩) rfl rfl hl.1 (Nat.le_of_ble_eq_true rfl) dX6_written_11 (fun _ _ V => ?_)
    refine lv_if_eq (tgt := 23) hx hb dX6_written_14 (by decide) (fun hc => ?_) (fun hc => ?_)
    · replace hF := dx_ib_f (dx_bI_0 hc) hF
      refine lv_ldc hx hb hown (hts _ q1714) dX6_written_23 ?_
      obtain ⟨hF1, hF2⟩ := dx_r2 hF
      subst hF1
      subst hF2
      exact mo_ri S V hr hlocks rfl dX6_written_25
    · replace hF := dx_ib_t (dx_bI_n hc) hF
      refine lv_iload hx hb dX6_written_17 (lv_at hl 4 rfl) ?_
      refine lv_iconst (v := (-1)) hx hb dX6_written_19 (by decide) ?_
      refine lv_icmp_ge (tgt := 26) hx hb dX6_written_20 (by decide) (fun hc => ?_) (fun hc => ?_)
      · replace hF := (if_pos hc).symm.trans hF
        refine lv_aload_n hx hb dX6_written_26 rfl (lv_at hl 0 rfl) ?_
        refine lv_iload_n hx hb dX6_written_27 rfl (lv_at hl 1 rfl) ?_
        refine lv_iload_n hx hb dX6_written_28 rfl (lv_at hl 2 rfl) ?_
        refine lv_iload_n hx hb dX6_written_29 rfl (lv_at hl 3 rfl) ?_
        obtain ⟨r3, σ3, h3c, hF⟩ := dx_b2_some hF
        refine mo_cVi S V [.int p0, .int p1, .int p2] (mo_m_isLinked l D di dz h ad A  p0 p1 p2 σ0 _ _ h3c) (cwV 3 hts (lw_V q1909 q1911 qs61 q83 q1912) rfl rfl rfl mo_d_isLinked ⟨Nat.le_of_ble_eq_true rfl, Nat.le_of_ble_eq_true rfl⟩) rfl rfl hl.1 (Nat.le_of_ble_eq_true rfl) dX6_written_30 (fun _ _ V => ?_)
        refine lv_if_ne (tgt := 39) hx hb dX6_written_33 (by decide) (fun hc => ?_) (fun hc => ?_)
        · replace hF := dx_ib_t (dx_bI_n hc) hF
          refine lv_aload_n hx hb dX6_written_39 rfl (lv_at hl 0 rfl) ?_
          refine lv_iconst (v := 0) hx hb dX6_written_40 (by decide) ?_
          refine mo_put S V 26 10 (by decide) rfl q1641 rfl rfl rfl dX6_written_41 (fun _ _ V => ?_)
          refine lv_aload_n hx hb dX6_written_44 rfl (lv_at hl 0 rfl) ?_
          refine lv_iload_n hx hb dX6_written_45 rfl (lv_at hl 1 rfl) ?_
          obtain ⟨σ4, h4c, hF⟩ := dx_b1_some hF
          refine mo_cVv S V [.int p0] (mo_m_figures l D di dz h ad A  p0 (mo_I σ3 10 (0 : Int32)) _ h4c) (cwV 1 hts (lw_V q1929 q1931 qs65 q83 q1932) rfl rfl rfl mo_d_figures ⟨Nat.le_of_ble_eq_true rfl, Nat.le_of_ble_eq_true rfl⟩) rfl rfl hl.1 (Nat.le_of_ble_eq_true rfl) dX6_written_46 (fun _ _ V => ?_)
          refine lv_iconst (v := 0) hx hb dX6_written_49 (by decide) ?_
          refine lv_istore (lv' := [(5, .int (0 : Int32)), (0, .ref h), (1, .int p0), (2, .int p1), (3, .int p2), (4, .int p3)]) hx hb dX6_written_50 hl (by decide) rfl (fun ls hl => ?_)
          exact hL52 p3 dx_fu (0 : Int32) σ4 _ _ _ hF V (lv_sub hl [1, 5, 0] rfl)
        · replace hF := dx_ib_f (dx_bI_0 hc) hF
          refine lv_ldc hx hb hown (hts _ q1614) dX6_written_36 ?_
          obtain ⟨hF1, hF2⟩ := dx_r2 hF
          subst hF1
          subst hF2
          exact mo_ri S V hr hlocks rfl dX6_written_38
      · replace hF := (if_neg hc).symm.trans hF
        refine lv_ldc hx hb hown (hts _ q1714) dX6_written_23 ?_
        obtain ⟨hF1, hF2⟩ := dx_r2 hF
        subst hF1
        subst hF2
        exact mo_ri S V hr hlocks rfl dX6_written_25
theorem mo_d_isSource : yX6_isSource.cls = RX6 ∧ yX6_isSource.cls ≠ "java/lang/invoke/MethodHandle" ∧ yX6_isSource.cls ≠ "java/lang/invoke/VarHandle" ∧ (parseMethodDescriptor yX6_isSource.desc).map (fun d => d.parameters.length) = some 2 := by decide +kernel
set_option maxHeartbeats 4000000 in
set_option maxRecDepth 100000 in
theorem mo_m_isSource (l : Launch) (D : va_G) (di dz : ClassId) (h : Nat) (ad : Nat → Nat) (A : Nat → Prop)  (p0 : Int32) (p1 : Int32) (σ0 : mo_S) (r : Bool) (σ' : mo_S) (hF : mo_isSource σ0 p0 p1 = some (r, σ')) : mo_Ci l yX6_isSource cX6_isSource 8 .boolean ({ frames := 5, cells := 0, slots := 0, locals := 123 }) D di dz h ad A [.ref h, .int p0, .int p1] σ0 (dx_bI r) σ' := by
  refine dx_in RX6 rfl (by decide) (Nat.le_of_ble_eq_true rfl) ?_
  intro p e s m below meth c ls S hr hlocks hv hl
  have hx := S.1
  have hb := S.2.1
  have hown := S.2.2.2.1
  have hts := S.2.2.2.2
  obtain ⟨hK, hP, hD⟩ := hv
  have V : mo_V D di dz h ad A s.heap σ0 s s.heap [] := ⟨hK, hP, hD, va_S.rf⟩
  replace hl : lv_has ls 8 [(0, .ref h), (1, .int p0), (2, .int p1)] := hl
  unfold mo_isSource at hF
  have hL16 : ∀ (σ : mo_S) (n : Nat) (v3 : Bool) (v4 : Int32) (H : Heap) (locs : List Loc) (ls : Array Slot), dx_lp (fun x => mo_isSource_L16 σ x.1 x.2) n (v3, v4) = some (r, σ') → mo_V D di dz h ad A s.heap σ s H locs → lv_has ls 8 [(0, .ref h), (3, .int (dx_bI v3)), (4, .int v4)] → W p l e ({ frames := 5, cells := 0, slots := 0, locals := 123 }) s m ([.ref h, .int p0, .int p1] : List Value).toArray below meth c H locs 0 0 (MQ below (mo_Qi D di dz h ad A (dx_bI r) σ') ([.ref h, .int p0, .int p1] : List Value).toArray s 0 0 A) (F0 m 16 ls []) := by
    intro σ n
    induction n with
    | zero =>
      intro v3 v4 H locs ls hF V hl
      exact (dx_lp_0 hF).elim
    | succ n ih16 =>
      intro v3 v4 H locs ls hF V hl
      obtain ⟨y16, hF, hz16⟩ := dx_lp_s hF
      replace hF : mo_isSource_L16 σ v3 v4 = some y16 := hF
      unfold mo_isSource_L16 at hF
      have hL57 : ∀ (v3 : Bool) (v4 : Int32) (v5 : Int32) (n : Nat) (v6 : Bool) (v7 : Int32) (H : Heap) (locs : List Loc) (ls : Array Slot), dx_lp (fun x => mo_isSource_L57 σ v3 v4 v5 x.1 x.2) n (v6, v7) = some y16 → mo_V D di dz h ad A s.heap σ s H locs → lv_has ls 8 [(0, .ref h), (3, .int (dx_bI v3)), (4, .int v4), (5, .int v5), (6, .int (dx_bI v6)), (7, .int v7)] → W p l e ({ frames := 5, cells := 0, slots := 0, locals := 123 }) s m ([.ref h, .int p0, .int p1] : List Value).toArray below meth c H locs 0 0 (MQ below (mo_Qi D di dz h ad A (dx_bI r) σ') ([.ref h, .int p0, .int p1] : List Value).toArray s 0 0 A) (F0 m 57 ls []) := by
        intro v3 v4 v5 n
        induction n with
        | zero =>
          intro v6 v7 H locs ls hF V hl
          exact (dx_lp_0 hF).elim
        | succ n ih57 =>
          intro v6 v7 H locs ls hF V hl
          obtain ⟨y57, hF, hz57⟩ := dx_lp_s hF
          replace hF : mo_isSource_L57 σ v3 v4 v5 v6 v7 = some y57 := hF
          unfold mo_isSource_L57 at hF
          refine lv_iload hx hb dX6_isSource_57 (lv_at hl 5 rfl) ?_
          refine lv_iload hx hb dX6_isSource_59 (lv_at hl 3 rfl) ?_
          refine lv_icmp_gt (tgt := 97) hx hb dX6_isSource_61 (by decide) (fun hc => ?_) (fun hc => ?_)
          · replace hF := (if_pos hc).symm.trans hF
            replace hF := dx_ex_k hF hz57
            refine lv_iload_n hx hb dX6_isSource_97 rfl (lv_at hl 1 rfl) ?_
            refine lv_if_eq (tgt := 110) hx hb dX6_isSource_98 (by decide) (fun hc => ?_) (fun hc => ?_)
            · replace hF := dx_ib_f (dx_bI_0 hc) hF
              refine lv_iconst (v := 0) hx hb dX6_isSource_110 (by decide) ?_
              refine lv_istore_n (lv' := [(3, .int (0 : Int32)), (0, .ref h), (4, .int v4), (5, .int v5), (6, .int (dx_bI v6)), (7, .int v7)]) hx hb dX6_isSource_111 rfl hl (by decide) rfl (fun ls hl => ?_)
              refine lv_iinc (v := (v4 + (1 : Int32))) (lv' := [(4, .int (v4 + (1 : Int32))), (3, .int (0 : Int32)), (0, .ref h), (5, .int v5), (6, .int (dx_bI v6)), (7, .int v7)]) hx hb dX6_isSource_112 hl (k := 2) rfl rfl (by decide) rfl (fun ls hl => ?_)
              refine lv_goto (tgt := 16) hx hb dX6_isSource_115 (by decide) ?_
              replace hF := Option.some.inj hF
              subst hF
              exact ih16 false (v4 + (1 : Int32)) _ _ _ (dx_lk_l hz16) V (lv_sub hl [2, 1, 0] rfl)
            · replace hF := dx_ib_t (dx_bI_n hc) hF
              refine lv_iload hx hb dX6_isSource_101 (lv_at hl 4 rfl) ?_
              refine lv_if_eq (tgt := 110) hx hb dX6_isSource_103 (by decide) (fun hc => ?_) (fun hc => ?_)
              · replace hF := dx_ib_f (dx_bI_0 hc) hF
                refine lv_iconst (v := 0) hx hb dX6_isSource_110 (by decide) ?_
                refine lv_istore_n (lv' := [(3, .int (0 : Int32)), (0, .ref h), (4, .int v4), (5, .int v5), (6, .int (dx_bI v6)), (7, .int v7)]) hx hb dX6_isSource_111 rfl hl (by decide) rfl (fun ls hl => ?_)
                refine lv_iinc (v := (v4 + (1 : Int32))) (lv' := [(4, .int (v4 + (1 : Int32))), (3, .int (0 : Int32)), (0, .ref h), (5, .int v5), (6, .int (dx_bI v6)), (7, .int v7)]) hx hb dX6_isSource_112 hl (k := 2) rfl rfl (by decide) rfl (fun ls hl => ?_)
                refine lv_goto (tgt := 16) hx hb dX6_isSource_115 (by decide) ?_
                replace hF := Option.some.inj hF
                subst hF
                exact ih16 false (v4 + (1 : Int32)) _ _ _ (dx_lk_l hz16) V (lv_sub hl [2, 1, 0] rfl)
              · replace hF := dx_ib_t (dx_bI_n hc) hF
                refine lv_iconst (v := 1) hx hb dX6_isSource_106 (by decide) ?_
                refine lv_goto (tgt := 111) hx hb dX6_isSource_107 (by decide) ?_
                refine lv_istore_n (lv' := [(3, .int (1 : Int32)), (0, .ref h), (4, .int v4), (5, .int v5), (6, .int (dx_bI v6)), (7, .int v7)]) hx hb dX6_isSource_111 rfl hl (by decide) rfl (fun ls hl => ?_)
                refine lv_iinc (v := (v4 + (1 : Int32))) (lv' := [(4, .int (v4 + (1 : Int32))), (3, .int (1 : Int32)), (0, .ref h), (5, .int v5), (6, .int (dx_bI v6)), (7, .int v7)]) hx hb dX6_isSource_112 hl (k := 2) rfl rfl (by decide) rfl (fun ls hl => ?_)
                refine lv_goto (tgt := 16) hx hb dX6_isSource_115 (by decide) ?_
                replace hF := Option.some.inj hF
                subst hF
                exact ih16 true (v4 + (1 : Int32)) _ _ _ (dx_lk_l hz16) V (lv_sub hl [2, 1, 0] rfl)
          · replace hF := (if_neg hc).symm.trans hF
            refine lv_iload hx hb dX6_isSource_64 (lv_at hl 4 rfl) ?_
            refine lv_if_ne (tgt := 84) hx hb dX6_isSource_66 (by decide) (fun hc => ?_) (fun hc => ?_)
            · replace hF := dx_ib_t (dx_bI_n hc) hF
              refine lv_iconst (v := 1) hx hb dX6_isSource_84 (by decide) ?_
              refine lv_goto (tgt := 89) hx hb dX6_isSource_85 (by decide) ?_
              refine lv_istore (lv' := [(6, .int (1 : Int32)), (0, .ref h), (3, .int (dx_bI v3)), (4, .int v4), (5, .int v5), (7, .int v7)]) hx hb dX6_isSource_89 hl (by decide) rfl (fun ls hl => ?_)
              refine lv_iinc (v := (v7 + (1 : Int32))) (lv' := [(7, .int (v7 + (1 : Int32))), (6, .int (1 : Int32)), (0, .ref h), (3, .int (dx_bI v3)), (4, .int v4), (5, .int v5)]) hx hb dX6_isSource_91 hl (k := 5) rfl rfl (by decide) rfl (fun ls hl => ?_)
              refine lv_goto (tgt := 57) hx hb dX6_isSource_94 (by decide) ?_
              replace hF := Option.some.inj hF
              subst hF
              exact ih57 true (v7 + (1 : Int32)) _ _ _ (dx_lk_l hz57) V (lv_sub hl [2, 3, 4, 5, 1, 0] rfl)
            · replace hF := dx_ib_f (dx_bI_0 hc) hF
              refine lv_aload_n hx hb dX6_isSource_69 rfl (lv_at hl 0 rfl) ?_
              refine mo_get S V 20 (by decide) rfl q1635 rfl dX6_isSource_70 ?_
              refine lv_iload hx hb dX6_isSource_73 (lv_at hl 2 rfl) ?_
              obtain ⟨hg, hF⟩ := dx_gd_some hF
              refine mo_ld S V 11 (by decide) (dx_inb_in hg) dX6_isSource_75 ?_
              refine lv_iload hx hb dX6_isSource_76 (lv_at hl 5 rfl) ?_
              obtain ⟨r2, h2c, hF⟩ := dx_b1_some hF
              refine dx_cPi S [.int (σ.2 11 v4.toNatClampNeg), .int v7] (mo_m_has l (σ.2 11 v4.toNatClampNeg) v7 _ h2c) (va_cwS 2 hts (lw_S q1887 q1888 q83 q1889) rfl rfl rfl mo_d_has ⟨Nat.le_of_ble_eq_true rfl, Nat.le_of_ble_eq_true rfl⟩) rfl rfl hl.1 (Nat.le_of_ble_eq_true rfl) dX6_isSource_78 ⟨Nat.zero_le _, Nat.zero_le _⟩ ?_
              refine lv_if_eq (tgt := 88) hx hb dX6_isSource_81 (by decide) (fun hc => ?_) (fun hc => ?_)
              · replace hF := dx_ib_f (dx_bI_0 hc) hF
                refine lv_iconst (v := 0) hx hb dX6_isSource_88 (by decide) ?_
                refine lv_istore (lv' := [(6, .int (0 : Int32)), (0, .ref h), (3, .int (dx_bI v3)), (4, .int v4), (5, .int v5), (7, .int v7)]) hx hb dX6_isSource_89 hl (by decide) rfl (fun ls hl => ?_)
                refine lv_iinc (v := (v7 + (1 : Int32))) (lv' := [(7, .int (v7 + (1 : Int32))), (6, .int (0 : Int32)), (0, .ref h), (3, .int (dx_bI v3)), (4, .int v4), (5, .int v5)]) hx hb dX6_isSource_91 hl (k := 5) rfl rfl (by decide) rfl (fun ls hl => ?_)
                refine lv_goto (tgt := 57) hx hb dX6_isSource_94 (by decide) ?_
                replace hF := Option.some.inj hF
                subst hF
                exact ih57 false (v7 + (1 : Int32)) _ _ _ (dx_lk_l hz57) V (lv_sub hl [2, 3, 4, 5, 1, 0] rfl)
              · replace hF := dx_ib_t (dx_bI_n hc) hF
                refine lv_iconst (v := 1) hx hb dX6_isSource_84 (by decide) ?_
                refine lv_goto (tgt := 89) hx hb dX6_isSource_85 (by decide) ?_
                refine lv_istore (lv' := [(6, .int (1 : Int32)), (0, .ref h), (3, .int (dx_bI v3)), (4, .int v4), (5, .int v5), (7, .int v7)]) hx hb dX6_isSource_89 hl (by decide) rfl (fun ls hl => ?_)
                refine lv_iinc (v := (v7 + (1 : Int32))) (lv' := [(7, .int (v7 + (1 : Int32))), (6, .int (1 : Int32)), (0, .ref h), (3, .int (dx_bI v3)), (4, .int v4), (5, .int v5)]) hx hb dX6_isSource_91 hl (k := 5) rfl rfl (by decide) rfl (fun ls hl => ?_)
                refine lv_goto (tgt := 57) hx hb dX6_isSource_94 (by decide) ?_
                replace hF := Option.some.inj hF
                subst hF
                exact ih57 true (v7 + (1 : Int32)) _ _ _ (dx_lk_l hz57) V (lv_sub hl [2, 3, 4, 5, 1, 0] rfl)
      refine lv_iload hx hb dX6_isSource_16 (lv_at hl 2 rfl) ?_
      refine lv_aload_n hx hb dX6_isSource_18 rfl (lv_at hl 0 rfl) ?_
      refine mo_get S V 13 (by decide) rfl q1628 rfl dX6_isSource_19 ?_
      refine lv_iconst (v := 0) hx hb dX6_isSource_22 (by decide) ?_
      refine mo_ld S V 5 (by decide) (dx_inb_in rfl) dX6_isSource_23 ?_
      refine lv_icmp_ge (tgt := 118) hx hb dX6_isSource_24 (by decide) (fun hc => ?_) (fun hc => ?_)
      · replace hF := (if_pos hc).symm.trans hF
        replace hF := dx_ex_k hF hz16
        refine lv_iload_n hx hb dX6_isSource_118 rfl (lv_at hl 1 rfl) ?_
        obtain ⟨hF1, hF2⟩ := dx_r2 hF
        subst hF1
        subst hF2
        exact mo_ri S V hr hlocks (dx_bI_nar _) dX6_isSource_119
      · replace hF := (if_neg hc).symm.trans hF
        refine lv_aload_n hx hb dX6_isSource_27 rfl (lv_at hl 0 rfl) ?_
        refine mo_get S V 13 (by decide) rfl q1628 rfl dX6_isSource_28 ?_
        refine lv_iconst (v := 4) hx hb dX6_isSource_31 (by decide) ?_
        refine lv_iconst (v := 2) hx hb dX6_isSource_32 (by decide) ?_
        refine lv_iload hx hb dX6_isSource_33 (lv_at hl 2 rfl) ?_
        refine lv_imul hx hb dX6_isSource_35 ?_
        refine lv_iadd hx hb dX6_isSource_36 ?_
        refine lv_iconst (v := 1) hx hb dX6_isSource_37 (by decide) ?_
        refine lv_iadd hx hb dX6_isSource_38 ?_
        obtain ⟨hg, hF⟩ := dx_gd_some hF
        refine mo_ld S V 5 (by decide) (dx_inb_in hg) dX6_isSource_39 ?_
        refine lv_istore (lv' := [(5, .int (σ.2 5 (((4 : Int32) + ((2 : Int32) * v4)) + (1 : Int32)).toNatClampNeg)), (0, .ref h), (3, .int (dx_bI v3)), (4, .int v4)]) hx hb dX6_isSource_40 hl (by decide) rfl (fun ls hl => ?_)
        refine lv_iload hx hb dX6_isSource_42 (lv_at hl 0 rfl) ?_
        refine lv_if_ge (tgt := 51) hx hb dX6_isSource_44 (by decide) (fun hc => ?_) (fun hc => ?_)
        · replace hF := (if_pos hc).symm.trans hF
          refine lv_iconst (v := 0) hx hb dX6_isSource_51 (by decide) ?_
          refine lv_istore (lv' := [(6, .int (0 : Int32)), (5, .int (σ.2 5 (((4 : Int32) + ((2 : Int32) * v4)) + (1 : Int32)).toNatClampNeg)), (0, .ref h), (3, .int (dx_bI v3)), (4, .int v4)]) hx hb dX6_isSource_52 hl (by decide) rfl (fun ls hl => ?_)
          refine lv_iconst (v := 0) hx hb dX6_isSource_54 (by decide) ?_
          refine lv_istore (lv' := [(7, .int (0 : Int32)), (6, .int (0 : Int32)), (5, .int (σ.2 5 (((4 : Int32) + ((2 : Int32) * v4)) + (1 : Int32)).toNatClampNeg)), (0, .ref h), (3, .int (dx_bI v3)), (4, .int v4)]) hx hb dX6_isSource_55 hl (by decide) rfl (fun ls hl => ?_)
          exact hL57 v3 v4 (σ.2 5 (((4 : Int32) + ((2 : Int32) * v4)) + (1 : Int32)).toNatClampNeg) dx_fu false (0 : Int32) _ _ _ hF V (lv_sub hl [3, 4, 5, 2, 1, 0] rfl)
        · replace hF := (if_neg hc).symm.trans hF
          refine lv_iconst (v := 1) hx hb dX6_isSource_47 (by decide) ?_
          refine lv_goto (tgt := 52) hx hb dX6_isSource_48 (by decide) ?_
          refine lv_istore (lv' := [(6, .int (1 : Int32)), (5, .int (σ.2 5 (((4 : Int32) + ((2 : Int32) * v4)) + (1 : Int32)).toNatClampNeg)), (0, .ref h), (3, .int (dx_bI v3)), (4, .int v4)]) hx hb dX6_isSource_52 hl (by decide) rfl (fun ls hl => ?_)
          refine lv_iconst (v := 0) hx hb dX6_isSource_54 (by decide) ?_
          refine lv_istore (lv' := [(7, .int (0 : Int32)), (6, .int (1 : Int32)), (5, .int (σ.2 5 (((4 : Int32) + ((2 : Int32) * v4)) + (1 : Int32)).toNatClampNeg)), (0, .ref h), (3, .int (dx_bI v3)), (4, .int v4)]) hx hb dX6_isSource_55 hl (by decide) rfl (fun ls hl => ?_)
          exact hL57 v3 v4 (σ.2 5 (((4 : Int32) + ((2 : Int32) * v4)) + (1 : Int32)).toNatClampNeg) dx_fu true (0 : Int32) _ _ _ hF V (lv_sub hl [3, 4, 5, 2, 1, 0] rfl)
  refine lv_aload_n hx hb dX6_isSource_0 rfl (lv_at hl 0 rfl) ?_
  refine lv_aload_n hx hb dX6_isSource_1 rfl (lv_at hl 0 rfl) ?_
  refine mo_get S V 13 (by decide) rfl q1628 rfl dX6_isSource_2 ?_
  refine lv_iload_n hx hb dX6_isSource_5 rfl (lv_at hl 1 rfl) ?_
  refine lv_iload_n hx hb dX6_isSource_6 rfl (lv_at hl 2 rfl) ?_
  refine lv_iconst (v := 0) hx hb dX6_isSource_7 (by decide) ?_
  obtain ⟨σ1, h1c, hF⟩ := dx_b1_some hF
  refine mo_cVv S V [.ref (ad 5), .int p0, .int p1, .int (0 : Int32)] (mo_m_walks l D di dz h ad A 5 (by decide) p0 p1 (0 : Int32) σ0 _ h1c) (cwV 4 hts (lw_V q1883 q1885 qs58 q83 q1886) rfl rfl rfl mo_d_walks ⟨Nat.le_of_ble_eq_true rfl, Nat.le_of_ble_eq_true rfl⟩) rfl rfl hl.1 (Nat.le_of_ble_eq_true rfl) dX6_isSource_8 (fun _ _ V => ?_)
  refine lv_iconst (v := 1) hx hb dX6_isSource_11 (by decide) ?_
  refine lv_istore_n (lv' := [(3, .int (1 : Int32)), (0, .ref h), (1, .int p0), (2, .int p1)]) hx hb dX6_isSource_12 rfl hl (by decide) rfl (fun ls hl => ?_)
  refine lv_iconst (v := 0) hx hb dX6_isSource_13 (by decide) ?_
  refine lv_istore (lv' := [(4, .int (0 : Int32)), (3, .int (1 : Int32)), (0, .ref h), (1, .int p0), (2, .int p1)]) hx hb dX6_isSource_14 hl (by decide) rfl (fun ls hl => ?_)
  exact hL16 σ1 dx_fu true (0 : Int32) _ _ _ hF V (lv_sub hl [2, 1, 0] rfl)
theorem mo_d_daysAs : yX6_daysAs.cls = RX6 ∧ yX6_daysAs.cls ≠ "java/lang/invoke/MethodHandle" ∧ yX6_daysAs.cls ≠ "java/lang/invoke/VarHandle" ∧ (parseMethodDescriptor yX6_daysAs.desc).map (fun d => d.parameters.length) = some 1 := by decide +kernel
set_option maxHeartbeats 4000000 in
set_option maxRecDepth 100000 in
theorem mo_m_daysAs (l : Launch) (D : va_G) (di dz : ClassId) (h : Nat) (ad : Nat → Nat) (A : Nat → Prop)  (p0 : Int32) (σ0 : mo_S) (r : Int32) (σ' : mo_S) (hF : mo_daysAs σ0 p0 = some (r, σ')) : mo_Ci l yX6_daysAs cX6_daysAs 4 .int ({ frames := 6, cells := 0, slots := 0, locals := 150 }) D di dz h ad A [.ref h, .int p0] σ0 r σ' := by
  refine dx_in RX6 rfl (by decide) (Nat.le_of_ble_eq_true rfl) ?_
  intro p e s m below meth c ls S hr hlocks hv hl
  have hx := S.1
  have hb := S.2.1
  have hown := S.2.2.2.1
  have hts := S.2.2.2.2
  obtain ⟨hK, hP, hD⟩ := hv
  have V : mo_V D di dz h ad A s.heap σ0 s s.heap [] := ⟨hK, hP, hD, va_S.rf⟩
  replace hl : lv_has ls 4 [(0, .ref h), (1, .int p0)] := hl
  unfold mo_daysAs at hF
  have hL4 : ∀ (v1 : Int32) (n : Nat) (v2 : Int32) (v3 : Int32) (σ : mo_S) (H : Heap) (locs : List Loc) (ls : Array Slot), dx_lp (fun x => mo_daysAs_L4 x.2.2 v1 x.1 x.2.1) n (v2, v3, σ) = some (r, σ') → mo_V D di dz h ad A s.heap σ s H locs → lv_has ls 4 [(0, .ref h), (1, .int v1), (2, .int v2), (3, .int v3)] → W p l e ({ frames := 6, cells := 0, slots := 0, locals := 150 }) s m ([.ref h, .int p0] : List Value).toArray below meth c H locs 0 0 (MQ below (mo_Qi D di dz h ad A r σ') ([.ref h, .int p0] : List Value).toArray s 0 0 A) (F0 m 4 ls []) := by
    intro v1 n
    induction n with
    | zero =>
      intro v2 v3 σ H locs ls hF V hl
      exact (dx_lp_0 hF).elim
    | succ n ih4 =>
      intro v2 v3 σ H locs ls hF V hl
      obtain ⟨y4, hF, hz4⟩ := dx_lp_s hF
      replace hF : mo_daysAs_L4 σ v1 v2 v3 = some y4 := hF
      unfold mo_daysAs_L4 at hF
      refine lv_iload_n hx hb dX6_daysAs_4 rfl (lv_at hl 3 rfl) ?_
      refine lv_bipush (v := 31) hx hb dX6_daysAs_5 (by decide) ?_
      refine lv_icmp_ge (tgt := 35) hx hb dX6_daysAs_7 (by decide) (fun hc => ?_) (fun hc => ?_)
      · replace hF := (if_pos hc).symm.trans hF
        replace hF := dx_ex_k hF hz4
        refine lv_iload_n hx hb dX6_daysAs_35 rfl (lv_at hl 2 rfl) ?_
        obtain ⟨hF1, hF2⟩ := dx_r2 hF
        subst hF1
        subst hF2
        exact mo_ri S V hr hlocks rfl dX6_daysAs_36
      · replace hF := (if_neg hc).symm.trans hF
        refine lv_iload_n hx hb dX6_daysAs_10 rfl (lv_at hl 2 rfl) ?_
        refine lv_aload_n hx hb dX6_daysAs_11 rfl (lv_at hl 0 rfl) ?_
        refine lv_iload_n hx hb dX6_daysAs_12 rfl (lv_at hl 1 rfl) ?_
        refine lv_iload_n hx hb dX6_daysAs_13 rfl (lv_at hl 3 rfl) ?_
        obtain ⟨r1, σ1, h1c, hF⟩ := dx_b2_some hF
        refine mo_cVi S V [.int v1, .int v3] (mo_m_isSource l D di dz h ad A  v1 v3 σ _ _ h1c) (cwV 2 hts (lw_V q1945 q1947 qs68 q83 q1948) rfl rfl rfl mo_d_isSource ⟨Nat.le_of_ble_eq_true rfl, Nat.le_of_ble_eq_true rfl⟩) rfl rfl hl.1 (Nat.le_of_ble_eq_true rfl) dX6_daysAs_14 (fun _ _ V => ?_)
        refine lv_if_eq (tgt := 26) hx hb dX6_daysAs_17 (by decide) (fun hc => ?_) (fun hc => ?_)
        · replace hF := dx_ib_f (dx_bI_0 hc) hF
          refine lv_iconst (v := 0) hx hb dX6_daysAs_26 (by decide) ?_
          refine lv_ior hx hb dX6_daysAs_27 ?_
          refine lv_istore_n (lv' := [(2, .int (v2 ||| (0 : Int32))), (0, .ref h), (1, .int v1), (3, .int v3)]) hx hb dX6_daysAs_28 rfl hl (by decide) rfl (fun ls hl => ?_)
          refine lv_iinc (v := (v3 + (1 : Int32))) (lv' := [(3, .int (v3 + (1 : Int32))), (2, .int (v2 ||| (0 : Int32))), (0, .ref h), (1, .int v1)]) hx hb dX6_daysAs_29 hl (k := 3) rfl rfl (by decide) rfl (fun ls hl => ?_)
          refine lv_goto (tgt := 4) hx hb dX6_daysAs_32 (by decide) ?_
          replace hF := Option.some.inj hF
          subst hF
          exact ih4 (v2 ||| (0 : Int32)) (v3 + (1 : Int32)) σ1 _ _ _ (dx_lk_l hz4) V (lv_sub hl [2, 3, 1, 0] rfl)
        · replace hF := dx_ib_t (dx_bI_n hc) hF
          refine lv_iconst (v := 1) hx hb dX6_daysAs_20 (by decide) ?_
          refine lv_iload_n hx hb dX6_daysAs_21 rfl (lv_at hl 3 rfl) ?_
          refine lv_ishl hx hb dX6_daysAs_22 ?_
          refine lv_goto (tgt := 27) hx hb dX6_daysAs_23 (by decide) ?_
          refine lv_ior hx hb dX6_daysAs_27 ?_
          refine lv_istore_n (lv' := [(2, .int (v2 ||| ((1 : Int32) <<< (v3 &&& 31)))), (0, .ref h), (1, .int v1), (3, .int v3)]) hx hb dX6_daysAs_28 rfl hl (by decide) rfl (fun ls hl => ?_)
          refine lv_iinc (v := (v3 + (1 : Int32))) (lv' := [(3, .int (v3 + (1 : Int32))), (2, .int (v2 ||| ((1 : Int32) <<< (v3 &&& 31)))), (0, .ref h), (1, .int v1)]) hx hb dX6_daysAs_29 hl (k := 3) rfl rfl (by decide) rfl (fun ls hl => ?_)
          refine lv_goto (tgt := 4) hx hb dX6_daysAs_32 (by decide) ?_
          replace hF := Option.some.inj hF
          subst hF
          exact ih4 (v2 ||| ((1 : Int32) <<< (v3 &&& 31))) (v3 + (1 : Int32)) σ1 _ _ _ (dx_lk_l hz4) V (lv_sub hl [2, 3, 1, 0] rfl)
  refine lv_iconst (v := 0) hx hb dX6_daysAs_0 (by decide) ?_
  refine lv_istore_n (lv' := [(2, .int (0 : Int32)), (0, .ref h), (1, .int p0)]) hx hb dX6_daysAs_1 rfl hl (by decide) rfl (fun ls hl => ?_)
  refine lv_iconst (v := 0) hx hb dX6_daysAs_2 (by decide) ?_
  refine lv_istore_n (lv' := [(3, .int (0 : Int32)), (2, .int (0 : Int32)), (0, .ref h), (1, .int p0)]) hx hb dX6_daysAs_3 rfl hl (by decide) rfl (fun ls hl => ?_)
  exact hL4 p0 dx_fu (0 : Int32) (0 : Int32) σ0 _ _ _ hF V (lv_sub hl [2, 3, 1, 0] rfl)
theorem mo_d_accounts : yX6_accounts.cls = RX6 ∧ yX6_accounts.cls ≠ "java/lang/invoke/MethodHandle" ∧ yX6_accounts.cls ≠ "java/lang/invoke/VarHandle" ∧ (parseMethodDescriptor yX6_accounts.desc).map (fun d => d.parameters.length) = some 1 := by decide +kernel
set_option maxHeartbeats 4000000 in
set_option maxRecDepth 100000 in
theorem mo_m_accounts (l : Launch) (D : va_G) (di dz : ClassId) (h : Nat) (ad : Nat → Nat) (A : Nat → Prop)  (p0 : Int32) (σ0 : mo_S) (r : Int32) (σ' : mo_S) (hF : mo_accounts σ0 p0 = some (r, σ')) : mo_Ci l yX6_accounts cX6_accounts 2 .int ({ frames := 7, cells := 0, slots := 0, locals := 173 }) D di dz h ad A [.ref h, .int p0] σ0 r σ' := by
  refine dx_in RX6 rfl (by decide) (Nat.le_of_ble_eq_true rfl) ?_
  intro p e s m below meth c ls S hr hlocks hv hl
  have hx := S.1
  have hb := S.2.1
  have hown := S.2.2.2.1
  have hts := S.2.2.2.2
  obtain ⟨hK, hP, hD⟩ := hv
  have V : mo_V D di dz h ad A s.heap σ0 s s.heap [] := ⟨hK, hP, hD, va_S.rf⟩
  replace hl : lv_has ls 2 [(0, .ref h), (1, .int p0)] := hl
  unfold mo_accounts at hF
  refine lv_aload_n hx hb dX6_accounts_0 rfl (lv_at hl 0 rfl) ?_
  refine lv_iload_n hx hb dX6_accounts_1 rfl (lv_at hl 1 rfl) ?_
  obtain ⟨r1, h1c, hF⟩ := dx_b1_some hF
  refine mo_cVi S V [.int p0] (mo_m_isPerson l D di dz h ad A  p0 σ0 _ h1c) (cwV 1 hts (lw_V q1815 q1817 qs51 q83 q1818) rfl rfl rfl mo_d_isPerson ⟨Nat.le_of_ble_eq_true rfl, Nat.le_of_ble_eq_true rfl⟩) rfl rfl hl.1 (Nat.le_of_ble_eq_true rfl) dX6_accounts_2 (fun _ _ V => ?_)
  refine lv_if_eq (tgt := 16) hx hb dX6_accounts_5 (by decide) (fun hc => ?_) (fun hc => ?_)
  · replace hF := dx_ib_f (dx_bI_0 hc) hF
    refine lv_ldc hx hb hown (hts _ q1714) dX6_accounts_16 ?_
    obtain ⟨hF1, hF2⟩ := dx_r2 hF
    subst hF1
    subst hF2
    exact mo_ri S V hr hlocks rfl dX6_accounts_18
  · replace hF := dx_ib_t (dx_bI_n hc) hF
    refine lv_aload_n hx hb dX6_accounts_8 rfl (lv_at hl 0 rfl) ?_
    refine lv_iload_n hx hb dX6_accounts_9 rfl (lv_at hl 1 rfl) ?_
    obtain ⟨r2, σ2, h2c, hF⟩ := dx_b2_some hF
    refine mo_cVi S V [.int p0] (mo_m_daysAs l D di dz h ad A  p0 σ0 _ _ h2c) (cwV 1 hts (lw_V q1941 q1943 qs67 q83 q1944) rfl rfl rfl mo_d_daysAs ⟨Nat.le_of_ble_eq_true rfl, Nat.le_of_ble_eq_true rfl⟩) rfl rfl hl.1 (Nat.le_of_ble_eq_true rfl) dX6_accounts_10 (fun _ _ V => ?_)
    refine lv_goto (tgt := 18) hx hb dX6_accounts_13 (by decide) ?_
    obtain ⟨hF1, hF2⟩ := dx_r2 hF
    subst hF1
    subst hF2
    exact mo_ri S V hr hlocks rfl dX6_accounts_18
theorem mo_d_sources : yX6_sources.cls = RX6 ∧ yX6_sources.cls ≠ "java/lang/invoke/MethodHandle" ∧ yX6_sources.cls ≠ "java/lang/invoke/VarHandle" ∧ (parseMethodDescriptor yX6_sources.desc).map (fun d => d.parameters.length) = some 0 := by decide +kernel
set_option maxHeartbeats 4000000 in
set_option maxRecDepth 100000 in
theorem mo_m_sources (l : Launch) (D : va_G) (di dz : ClassId) (h : Nat) (ad : Nat → Nat) (A : Nat → Prop)   (σ0 : mo_S) (r : Int32) (σ' : mo_S) (hF : mo_sources σ0 = some (r, σ')) : mo_Ci l yX6_sources cX6_sources 3 .int ({ frames := 7, cells := 0, slots := 0, locals := 173 }) D di dz h ad A [.ref h] σ0 r σ' := by
  refine dx_in RX6 rfl (by decide) (Nat.le_of_ble_eq_true rfl) ?_
  intro p e s m below meth c ls S hr hlocks hv hl
  have hx := S.1
  have hb := S.2.1
  have hown := S.2.2.2.1
  have hts := S.2.2.2.2
  obtain ⟨hK, hP, hD⟩ := hv
  have V : mo_V D di dz h ad A s.heap σ0 s s.heap [] := ⟨hK, hP, hD, va_S.rf⟩
  replace hl : lv_has ls 3 [(0, .ref h)] := hl
  unfold mo_sources at hF
  have hL14 : ∀  (n : Nat) (v1 : Int32) (v2 : Int32) (σ : mo_S) (H : Heap) (locs : List Loc) (ls : Array Slot), dx_lp (fun x => mo_sources_L14 x.2.2 x.1 x.2.1) n (v1, v2, σ) = some (r, σ') → mo_V D di dz h ad A s.heap σ s H locs → lv_has ls 3 [(0, .ref h), (1, .int v1), (2, .int v2)] → W p l e ({ frames := 7, cells := 0, slots := 0, locals := 173 }) s m ([.ref h] : List Value).toArray below meth c H locs 0 0 (MQ below (mo_Qi D di dz h ad A r σ') ([.ref h] : List Value).toArray s 0 0 A) (F0 m 14 ls []) := by
    intro n
    induction n with
    | zero =>
      intro v1 v2 σ H locs ls hF V hl
      exact (dx_lp_0 hF).elim
    | succ n ih14 =>
      intro v1 v2 σ H locs ls hF V hl
      obtain ⟨y14, hF, hz14⟩ := dx_lp_s hF
      replace hF : mo_sources_L14 σ v1 v2 = some y14 := hF
      unfold mo_sources_L14 at hF
      refine lv_iload_n hx hb dX6_sources_14 rfl (lv_at hl 2 rfl) ?_
      refine lv_aload_n hx hb dX6_sources_15 rfl (lv_at hl 0 rfl) ?_
      refine mo_get S V 13 (by decide) rfl q1628 rfl dX6_sources_16 ?_
      refine lv_iconst (v := 0) hx hb dX6_sources_19 (by decide) ?_
      refine mo_ld S V 5 (by decide) (dx_inb_in rfl) dX6_sources_20 ?_
      refine lv_icmp_ge (tgt := 48) hx hb dX6_sources_21 (by decide) (fun hc => ?_) (fun hc => ?_)
      · replace hF := (if_pos hc).symm.trans hF
        replace hF := dx_ex_k hF hz14
        refine lv_iload_n hx hb dX6_sources_48 rfl (lv_at hl 1 rfl) ?_
        obtain ⟨hF1, hF2⟩ := dx_r2 hF
        subst hF1
        subst hF2
        exact mo_ri S V hr hlocks rfl dX6_sources_49
      · replace hF := (if_neg hc).symm.trans hF
        refine lv_iload_n hx hb dX6_sources_24 rfl (lv_at hl 1 rfl) ?_
        refine lv_aload_n hx hb dX6_sources_25 rfl (lv_at hl 0 rfl) ?_
        refine lv_iload_n hx hb dX6_sources_26 rfl (lv_at hl 2 rfl) ?_
        obtain ⟨r2, σ2, h2c, hF⟩ := dx_b2_some hF
        refine mo_cVi S V [.int v2] (mo_m_daysAs l D di dz h ad A  v2 σ _ _ h2c) (cwV 1 hts (lw_V q1941 q1943 qs67 q83 q1944) rfl rfl rfl mo_d_daysAs ⟨Nat.le_of_ble_eq_true rfl, Nat.le_of_ble_eq_true rfl⟩) rfl rfl hl.1 (Nat.le_of_ble_eq_true rfl) dX6_sources_27 (fun _ _ V => ?_)
        refine lv_if_eq (tgt := 39) hx hb dX6_sources_30 (by decide) (fun hc => ?_) (fun hc => ?_)
        · replace hF := (if_pos hc).symm.trans hF
          refine lv_iconst (v := 0) hx hb dX6_sources_39 (by decide) ?_
          refine lv_ior hx hb dX6_sources_40 ?_
          refine lv_istore_n (lv' := [(1, .int (v1 ||| (0 : Int32))), (0, .ref h), (2, .int v2)]) hx hb dX6_sources_41 rfl hl (by decide) rfl (fun ls hl => ?_)
          refine lv_iinc (v := (v2 + (1 : Int32))) (lv' := [(2, .int (v2 + (1 : Int32))), (1, .int (v1 ||| (0 : Int32))), (0, .ref h)]) hx hb dX6_sources_42 hl (k := 2) rfl rfl (by decide) rfl (fun ls hl => ?_)
          refine lv_goto (tgt := 14) hx hb dX6_sources_45 (by decide) ?_
          replace hF := Option.some.inj hF
          subst hF
          exact ih14 (v1 ||| (0 : Int32)) (v2 + (1 : Int32)) σ2 _ _ _ (dx_lk_l hz14) V (lv_sub hl [2, 1, 0] rfl)
        · replace hF := (if_neg hc).symm.trans hF
          refine lv_iconst (v := 1) hx hb dX6_sources_33 (by decide) ?_
          refine lv_iload_n hx hb dX6_sources_34 rfl (lv_at hl 2 rfl) ?_
          refine lv_ishl hx hb dX6_sources_35 ?_
          refine lv_goto (tgt := 40) hx hb dX6_sources_36 (by decide) ?_
          refine lv_ior hx hb dX6_sources_40 ?_
          refine lv_istore_n (lv' := [(1, .int (v1 ||| ((1 : Int32) <<< (v2 &&& 31)))), (0, .ref h), (2, .int v2)]) hx hb dX6_sources_41 rfl hl (by decide) rfl (fun ls hl => ?_)
          refine lv_iinc (v := (v2 + (1 : Int32))) (lv' := [(2, .int (v2 + (1 : Int32))), (1, .int (v1 ||| ((1 : Int32) <<< (v2 &&& 31)))), (0, .ref h)]) hx hb dX6_sources_42 hl (k := 2) rfl rfl (by decide) rfl (fun ls hl => ?_)
          refine lv_goto (tgt := 14) hx hb dX6_sources_45 (by decide) ?_
          replace hF := Option.some.inj hF
          subst hF
          exact ih14 (v1 ||| ((1 : Int32) <<< (v2 &&& 31))) (v2 + (1 : Int32)) σ2 _ _ _ (dx_lk_l hz14) V (lv_sub hl [2, 1, 0] rfl)
  refine lv_aload_n hx hb dX6_sources_0 rfl (lv_at hl 0 rfl) ?_
  obtain ⟨r1, h1c, hF⟩ := dx_b1_some hF
  refine mo_cVi S V [] (mo_m_isNet l D di dz h ad A   σ0 _ h1c) (cwV 0 hts (lw_V q1848 q1850 qs55 q83 q1851) rfl rfl rfl mo_d_isNet ⟨Nat.le_of_ble_eq_true rfl, Nat.le_of_ble_eq_true rfl⟩) rfl rfl hl.1 (Nat.le_of_ble_eq_true rfl) dX6_sources_1 (fun _ _ V => ?_)
  refine lv_if_ne (tgt := 10) hx hb dX6_sources_4 (by decide) (fun hc => ?_) (fun hc => ?_)
  · replace hF := dx_ib_t (dx_bI_n hc) hF
    refine lv_iconst (v := 0) hx hb dX6_sources_10 (by decide) ?_
    refine lv_istore_n (lv' := [(1, .int (0 : Int32)), (0, .ref h)]) hx hb dX6_sources_11 rfl hl (by decide) rfl (fun ls hl => ?_)
    refine lv_iconst (v := 0) hx hb dX6_sources_12 (by decide) ?_
    refine lv_istore_n (lv' := [(2, .int (0 : Int32)), (1, .int (0 : Int32)), (0, .ref h)]) hx hb dX6_sources_13 rfl hl (by decide) rfl (fun ls hl => ?_)
    exact hL14  dx_fu (0 : Int32) (0 : Int32) σ0 _ _ _ hF V (lv_sub hl [2, 1, 0] rfl)
  · replace hF := dx_ib_f (dx_bI_0 hc) hF
    refine lv_ldc hx hb hown (hts _ q1835) dX6_sources_7 ?_
    obtain ⟨hF1, hF2⟩ := dx_r2 hF
    subst hF1
    subst hF2
    exact mo_ri S V hr hlocks rfl dX6_sources_9
theorem mo_d_ones : yX6_ones.cls ≠ "java/lang/invoke/MethodHandle" ∧ yX6_ones.cls ≠ "java/lang/invoke/VarHandle" ∧ (parseMethodDescriptor yX6_ones.desc).map (fun d => d.parameters.length) = some 1 := by decide +kernel
set_option maxHeartbeats 4000000 in
set_option maxRecDepth 100000 in
theorem mo_m_ones (l : Launch) (p0 : Int32) (r : Int32) (hF : mo_ones p0 = some r) : dx_Pi l yX6_ones cX6_ones 3 .int ({ frames := 0, cells := 0, slots := 0, locals := 0 }) [.int p0] r := by
  refine dx_in RX6 rfl (by decide) (Nat.le_of_ble_eq_true rfl) ?_
  intro p e s m below meth c ls S hr hlocks hv hl
  have hx := S.1
  have hb := S.2.1
  have hown := S.2.2.2.1
  have hts := S.2.2.2.2
  replace hl : lv_has ls 3 [(0, .int p0)] := hl
  unfold mo_ones at hF
  have hL4 : ∀ (v0 : Int32) (n : Nat) (v1 : Int32) (v2 : Int32) (ls : Array Slot), dx_lp (fun x => mo_ones_L4 v0 x.1 x.2) n (v1, v2) = some r → lv_has ls 3 [(0, .int v0), (1, .int v1), (2, .int v2)] → W p l e ({ frames := 0, cells := 0, slots := 0, locals := 0 }) s m ([.int p0] : List Value).toArray below meth c s.heap [] 0 0 (MQ below (vp_Si (fun r2 => r2 = r)) ([.int p0] : List Value).toArray s 0 0 (fun _ => False)) (F0 m 4 ls []) := by
    intro v0 n
    induction n with
    | zero =>
      intro v1 v2 ls hF hl
      exact (dx_lp_0 hF).elim
    | succ n ih4 =>
      intro v1 v2 ls hF hl
      obtain ⟨y4, hF, hz4⟩ := dx_lp_s hF
      replace hF : mo_ones_L4 v0 v1 v2 = some y4 := hF
      unfold mo_ones_L4 at hF
      refine lv_iload_n hx hb dX6_ones_4 rfl (lv_at hl 2 rfl) ?_
      refine lv_bipush (v := 31) hx hb dX6_ones_5 (by decide) ?_
      refine lv_icmp_ge (tgt := 24) hx hb dX6_ones_7 (by decide) (fun hc => ?_) (fun hc => ?_)
      · replace hF := (if_pos hc).symm.trans hF
        replace hF := dx_ex_k hF hz4
        refine lv_iload_n hx hb dX6_ones_24 rfl (lv_at hl 1 rfl) ?_
        replace hF := Option.some.inj hF
        subst hF
        exact dx_rPi S hr hlocks rfl dX6_ones_25
      · replace hF := (if_neg hc).symm.trans hF
        refine lv_iload_n hx hb dX6_ones_10 rfl (lv_at hl 1 rfl) ?_
        refine lv_iload_n hx hb dX6_ones_11 rfl (lv_at hl 0 rfl) ?_
        refine lv_iload_n hx hb dX6_ones_12 rfl (lv_at hl 2 rfl) ?_
        refine lv_ishr hx hb dX6_ones_13 ?_
        refine lv_iconst (v := 1) hx hb dX6_ones_14 (by decide) ?_
        refine lv_iand hx hb dX6_ones_15 ?_
        refine lv_iadd hx hb dX6_ones_16 ?_
        refine lv_istore_n (lv' := [(1, .int (v1 + ((v0 >>> (v2 &&& 31)) &&& (1 : Int32)))), (0, .int v0), (2, .int v2)]) hx hb dX6_ones_17 rfl hl (by decide) rfl (fun ls hl => ?_)
        refine lv_iinc (v := (v2 + (1 : Int32))) (lv' := [(2, .int (v2 + (1 : Int32))), (1, .int (v1 + ((v0 >>> (v2 &&& 31)) &&& (1 : Int32)))), (0, .int v0)]) hx hb dX6_ones_18 hl (k := 2) rfl rfl (by decide) rfl (fun ls hl => ?_)
        refine lv_goto (tgt := 4) hx hb dX6_ones_21 (by decide) ?_
        replace hF := Option.some.inj hF
        subst hF
        exact ih4 (v1 + ((v0 >>> (v2 &&& 31)) &&& (1 : Int32))) (v2 + (1 : Int32)) _ (dx_lk_l hz4) (lv_sub hl [2, 1, 0] rfl)
  refine lv_iconst (v := 0) hx hb dX6_ones_0 (by decide) ?_
  refine lv_istore_n (lv' := [(1, .int (0 : Int32)), (0, .int p0)]) hx hb dX6_ones_1 rfl hl (by decide) rfl (fun ls hl => ?_)
  refine lv_iconst (v := 0) hx hb dX6_ones_2 (by decide) ?_
  refine lv_istore_n (lv' := [(2, .int (0 : Int32)), (1, .int (0 : Int32)), (0, .int p0)]) hx hb dX6_ones_3 rfl hl (by decide) rfl (fun ls hl => ?_)
  exact hL4 p0 dx_fu (0 : Int32) (0 : Int32) _ hF (lv_sub hl [2, 1, 0] rfl)
theorem mo_d_cut : yX6_cut.cls = RX6 ∧ yX6_cut.cls ≠ "java/lang/invoke/MethodHandle" ∧ yX6_cut.cls ≠ "java/lang/invoke/VarHandle" ∧ (parseMethodDescriptor yX6_cut.desc).map (fun d => d.parameters.length) = some 3 := by decide +kernel
set_option maxHeartbeats 4000000 in
set_option maxRecDepth 100000 in
theorem mo_m_cut (l : Launch) (D : va_G) (di dz : ClassId) (h : Nat) (ad : Nat → Nat) (A : Nat → Prop)  (p0 : Int32) (p1 : Int32) (p2 : Int32) (σ0 : mo_S) (r : Int32) (σ' : mo_S) (hF : mo_cut σ0 p0 p1 p2 = some (r, σ')) : mo_Ci l yX6_cut cX6_cut 6 .int ({ frames := 5, cells := 0, slots := 0, locals := 123 }) D di dz h ad A [.ref h, .int p0, .int p1, .int p2] σ0 r σ' := by
  refine dx_in RX6 rfl (by decide) (Nat.le_of_ble_eq_true rfl) ?_
  intro p e s m below meth c ls S hr hlocks hv hl
  have hx := S.1
  have hb := S.2.1
  have hown := S.2.2.2.1
  have hts := S.2.2.2.2
  obtain ⟨hK, hP, hD⟩ := hv
  have V : mo_V D di dz h ad A s.heap σ0 s s.heap [] := ⟨hK, hP, hD, va_S.rf⟩
  replace hl : lv_has ls 6 [(0, .ref h), (1, .int p0), (2, .int p1), (3, .int p2)] := hl
  unfold mo_cut at hF
  have hL44 : ∀ (v1 : Int32) (v2 : Int32) (v3 : Int32) (n : Nat) (v4 : Int32) (v5 : Int32) (σ : mo_S) (H : Heap) (locs : List Loc) (ls : Array Slot), dx_lp (fun x => mo_cut_L44 x.2.2 v1 v2 v3 x.1 x.2.1) n (v4, v5, σ) = some (r, σ') → mo_V D di dz h ad A s.heap σ s H locs → lv_has ls 6 [(0, .ref h), (1, .int v1), (2, .int v2), (3, .int v3), (4, .int v4), (5, .int v5)] → W p l e ({ frames := 5, cells := 0, slots := 0, locals := 123 }) s m ([.ref h, .int p0, .int p1, .int p2] : List Value).toArray below meth c H locs 0 0 (MQ below (mo_Qi D di dz h ad A r σ') ([.ref h, .int p0, .int p1, .int p2] : List Value).toArray s 0 0 A) (F0 m 44 ls []) := by
    intro v1 v2 v3 n
    induction n with
    | zero =>
      intro v4 v5 σ H locs ls hF V hl
      exact (dx_lp_0 hF).elim
    | succ n ih44 =>
      intro v4 v5 σ H locs ls hF V hl
      obtain ⟨y44, hF, hz44⟩ := dx_lp_s hF
      replace hF : mo_cut_L44 σ v1 v2 v3 v4 v5 = some y44 := hF
      unfold mo_cut_L44 at hF
      refine lv_iload hx hb dX6_cut_44 (lv_at hl 5 rfl) ?_
      refine lv_if_lt (tgt := 98) hx hb dX6_cut_46 (by decide) (fun hc => ?_) (fun hc => ?_)
      · replace hF := (if_pos hc).symm.trans hF
        replace hF := dx_ex_k hF hz44
        refine lv_iload hx hb dX6_cut_98 (lv_at hl 4 rfl) ?_
        obtain ⟨hF1, hF2⟩ := dx_r2 hF
        subst hF1
        subst hF2
        exact mo_ri S V hr hlocks rfl dX6_cut_100
      · replace hF := (if_neg hc).symm.trans hF
        refine lv_iload hx hb dX6_cut_49 (lv_at hl 5 rfl) ?_
        obtain ⟨r3, h3c, hF⟩ := dx_b1_some hF
        refine dx_cPi S [.int v5] (mo_m_ones l v5 _ h3c) (va_cwS 1 hts (lw_S q1957 q1958 q83 q1959) rfl rfl rfl mo_d_ones ⟨Nat.le_of_ble_eq_true rfl, Nat.le_of_ble_eq_true rfl⟩) rfl rfl hl.1 (Nat.le_of_ble_eq_true rfl) dX6_cut_51 ⟨Nat.zero_le _, Nat.zero_le _⟩ ?_
        refine lv_iload hx hb dX6_cut_54 (lv_at hl 4 rfl) ?_
        obtain ⟨r4, h4c, hF⟩ := dx_b1_some hF
        refine dx_cPi S [.int v4] (mo_m_ones l v4 _ h4c) (va_cwS 1 hts (lw_S q1957 q1958 q83 q1959) rfl rfl rfl mo_d_ones ⟨Nat.le_of_ble_eq_true rfl, Nat.le_of_ble_eq_true rfl⟩) rfl rfl hl.1 (Nat.le_of_ble_eq_true rfl) dX6_cut_56 ⟨Nat.zero_le _, Nat.zero_le _⟩ ?_
        refine lv_icmp_gt (tgt := 92) hx hb dX6_cut_59 (by decide) (fun hc => ?_) (fun hc => ?_)
        · replace hF := (if_pos hc).symm.trans hF
          refine lv_iinc (v := (v5 + (-1 : Int32))) (lv' := [(5, .int (v5 + (-1 : Int32))), (0, .ref h), (1, .int v1), (2, .int v2), (3, .int v3), (4, .int v4)]) hx hb dX6_cut_92 hl (k := 5) rfl rfl (by decide) rfl (fun ls hl => ?_)
          refine lv_goto (tgt := 44) hx hb dX6_cut_95 (by decide) ?_
          replace hF := Option.some.inj hF
          subst hF
          exact ih44 v4 (v5 + (-1 : Int32)) σ _ _ _ (dx_lk_l hz44) V (lv_sub hl [1, 2, 3, 4, 5, 0] rfl)
        · replace hF := (if_neg hc).symm.trans hF
          refine lv_aload_n hx hb dX6_cut_62 rfl (lv_at hl 0 rfl) ?_
          refine lv_aload_n hx hb dX6_cut_63 rfl (lv_at hl 0 rfl) ?_
          refine mo_get S V 13 (by decide) rfl q1628 rfl dX6_cut_64 ?_
          refine lv_iload_n hx hb dX6_cut_67 rfl (lv_at hl 1 rfl) ?_
          refine lv_iload_n hx hb dX6_cut_68 rfl (lv_at hl 2 rfl) ?_
          refine lv_iload hx hb dX6_cut_69 (lv_at hl 5 rfl) ?_
          obtain ⟨σ5, h5c, hF⟩ := dx_b1_some hF
          refine mo_cVv S V [.ref (ad 5), .int v1, .int v2, .int v5] (mo_m_walks l D di dz h ad A 5 (by decide) v1 v2 v5 σ _ h5c) (cwV 4 hts (lw_V q1883 q1885 qs58 q83 q1886) rfl rfl rfl mo_d_walks ⟨Nat.le_of_ble_eq_true rfl, Nat.le_of_ble_eq_true rfl⟩) rfl rfl hl.1 (Nat.le_of_ble_eq_true rfl) dX6_cut_71 (fun _ _ V => ?_)
          refine lv_aload_n hx hb dX6_cut_74 rfl (lv_at hl 0 rfl) ?_
          refine mo_get S V 20 (by decide) rfl q1635 rfl dX6_cut_75 ?_
          refine lv_iload_n hx hb dX6_cut_78 rfl (lv_at hl 3 rfl) ?_
          obtain ⟨hg, hF⟩ := dx_gd_some hF
          refine mo_ld S V 11 (by decide) (dx_inb_in hg) dX6_cut_79 ?_
          refine lv_if_ne (tgt := 88) hx hb dX6_cut_80 (by decide) (fun hc => ?_) (fun hc => ?_)
          · replace hF := (if_neg hc).symm.trans hF
            refine lv_iload hx hb dX6_cut_88 (lv_at hl 4 rfl) ?_
            refine lv_istore (lv' := [(4, .int v4), (0, .ref h), (1, .int v1), (2, .int v2), (3, .int v3), (5, .int v5)]) hx hb dX6_cut_90 hl (by decide) rfl (fun ls hl => ?_)
            refine lv_iinc (v := (v5 + (-1 : Int32))) (lv' := [(5, .int (v5 + (-1 : Int32))), (4, .int v4), (0, .ref h), (1, .int v1), (2, .int v2), (3, .int v3)]) hx hb dX6_cut_92 hl (k := 5) rfl rfl (by decide) rfl (fun ls hl => ?_)
            refine lv_goto (tgt := 44) hx hb dX6_cut_95 (by decide) ?_
            replace hF := Option.some.inj hF
            subst hF
            exact ih44 v4 (v5 + (-1 : Int32)) σ5 _ _ _ (dx_lk_l hz44) V (lv_sub hl [2, 3, 4, 5, 1, 0] rfl)
          · replace hF := (if_pos hc).symm.trans hF
            refine lv_iload hx hb dX6_cut_83 (lv_at hl 5 rfl) ?_
            refine lv_goto (tgt := 90) hx hb dX6_cut_85 (by decide) ?_
            refine lv_istore (lv' := [(4, .int v5), (0, .ref h), (1, .int v1), (2, .int v2), (3, .int v3), (5, .int v5)]) hx hb dX6_cut_90 hl (by decide) rfl (fun ls hl => ?_)
            refine lv_iinc (v := (v5 + (-1 : Int32))) (lv' := [(5, .int (v5 + (-1 : Int32))), (4, .int v5), (0, .ref h), (1, .int v1), (2, .int v2), (3, .int v3)]) hx hb dX6_cut_92 hl (k := 5) rfl rfl (by decide) rfl (fun ls hl => ?_)
            refine lv_goto (tgt := 44) hx hb dX6_cut_95 (by decide) ?_
            replace hF := Option.some.inj hF
            subst hF
            exact ih44 v5 (v5 + (-1 : Int32)) σ5 _ _ _ (dx_lk_l hz44) V (lv_sub hl [2, 3, 4, 5, 1, 0] rfl)
  refine lv_aload_n hx hb dX6_cut_0 rfl (lv_at hl 0 rfl) ?_
  refine lv_iload_n hx hb dX6_cut_1 rfl (lv_at hl 1 rfl) ?_
  refine lv_iload_n hx hb dX6_cut_2 rfl (lv_at hl 2 rfl) ?_
  obtain ⟨r1, h1c, hF⟩ := dx_b1_some hF
  refine mo_cVi S V [.int p0, .int p1] (mo_m_isFrom l D di dz h ad A  p0 p1 σ0 _ h1c) (cwV 2 hts (lw_V q1879 q1881 qs57 q83 q1882) rfl rfl rfl mo_d_isFrom ⟨Nat.le_of_ble_eq_true rfl, Nat.le_of_ble_eq_true rfl⟩) rfl rfl hl.1 (Nat.le_of_ble_eq_true rfl) dX6_cut_3 (fun _ _ V => ?_)
  refine lv_if_eq (tgt := 17) hx hb dX6_cut_6 (by decide) (fun hc => ?_) (fun hc => ?_)
  · replace hF := dx_ib_f (dx_bI_0 hc) hF
    refine lv_ldc hx hb hown (hts _ q1714) dX6_cut_17 ?_
    obtain ⟨hF1, hF2⟩ := dx_r2 hF
    subst hF1
    subst hF2
    exact mo_ri S V hr hlocks rfl dX6_cut_19
  · replace hF := dx_ib_t (dx_bI_n hc) hF
    refine lv_aload_n hx hb dX6_cut_9 rfl (lv_at hl 0 rfl) ?_
    refine lv_iload_n hx hb dX6_cut_10 rfl (lv_at hl 3 rfl) ?_
    obtain ⟨r2, h2c, hF⟩ := dx_b1_some hF
    refine mo_cVi S V [.int p2] (mo_m_isPerson l D di dz h ad A  p2 σ0 _ h2c) (cwV 1 hts (lw_V q1815 q1817 qs51 q83 q1818) rfl rfl rfl mo_d_isPerson ⟨Nat.le_of_ble_eq_true rfl, Nat.le_of_ble_eq_true rfl⟩) rfl rfl hl.1 (Nat.le_of_ble_eq_true rfl) dX6_cut_11 (fun _ _ V => ?_)
    refine lv_if_ne (tgt := 20) hx hb dX6_cut_14 (by decide) (fun hc => ?_) (fun hc => ?_)
    · replace hF := dx_ib_t (dx_bI_n hc) hF
      refine lv_iload_n hx hb dX6_cut_20 rfl (lv_at hl 1 rfl) ?_
      refine lv_iload_n hx hb dX6_cut_21 rfl (lv_at hl 3 rfl) ?_
      refine lv_icmp_ne (tgt := 28) hx hb dX6_cut_22 (by decide) (fun hc => ?_) (fun hc => ?_)
      · replace hF := (if_neg hc).symm.trans hF
        refine lv_iconst (v := 1) hx hb dX6_cut_28 (by decide) ?_
        refine lv_aload_n hx hb dX6_cut_29 rfl (lv_at hl 0 rfl) ?_
        refine mo_get S V 13 (by decide) rfl q1628 rfl dX6_cut_30 ?_
        refine lv_iconst (v := 1) hx hb dX6_cut_33 (by decide) ?_
        refine mo_ld S V 5 (by decide) (dx_inb_in rfl) dX6_cut_34 ?_
        refine lv_ishl hx hb dX6_cut_35 ?_
        refine lv_iconst (v := 1) hx hb dX6_cut_36 (by decide) ?_
        refine lv_isub hx hb dX6_cut_37 ?_
        refine lv_istore (lv' := [(4, .int (((1 : Int32) <<< ((σ0.2 5 (1 : Int32).toNatClampNeg) &&& 31)) - (1 : Int32))), (0, .ref h), (1, .int p0), (2, .int p1), (3, .int p2)]) hx hb dX6_cut_38 hl (by decide) rfl (fun ls hl => ?_)
        refine lv_iload hx hb dX6_cut_40 (lv_at hl 0 rfl) ?_
        refine lv_istore (lv' := [(5, .int (((1 : Int32) <<< ((σ0.2 5 (1 : Int32).toNatClampNeg) &&& 31)) - (1 : Int32))), (4, .int (((1 : Int32) <<< ((σ0.2 5 (1 : Int32).toNatClampNeg) &&& 31)) - (1 : Int32))), (0, .ref h), (1, .int p0), (2, .int p1), (3, .int p2)]) hx hb dX6_cut_42 hl (by decide) rfl (fun ls hl => ?_)
        exact hL44 p0 p1 p2 dx_fu (((1 : Int32) <<< ((σ0.2 5 (1 : Int32).toNatClampNeg) &&& 31)) - (1 : Int32)) (((1 : Int32) <<< ((σ0.2 5 (1 : Int32).toNatClampNeg) &&& 31)) - (1 : Int32)) σ0 _ _ _ hF V (lv_sub hl [2, 3, 4, 5, 1, 0] rfl)
      · replace hF := (if_pos hc).symm.trans hF
        refine lv_ldc hx hb hown (hts _ q1614) dX6_cut_25 ?_
        obtain ⟨hF1, hF2⟩ := dx_r2 hF
        subst hF1
        subst hF2
        exact mo_ri S V hr hlocks rfl dX6_cut_27
    · replace hF := dx_ib_f (dx_bI_0 hc) hF
      refine lv_ldc hx hb hown (hts _ q1714) dX6_cut_17 ?_
      obtain ⟨hF1, hF2⟩ := dx_r2 hF
      subst hF1
      subst hF2
      exact mo_ri S V hr hlocks rfl dX6_cut_19
theorem mo_d_common : yX6_common.cls = RX6 ∧ yX6_common.cls ≠ "java/lang/invoke/MethodHandle" ∧ yX6_common.cls ≠ "java/lang/invoke/VarHandle" ∧ (parseMethodDescriptor yX6_common.desc).map (fun d => d.parameters.length) = some 3 := by decide +kernel
set_option maxHeartbeats 4000000 in
set_option maxRecDepth 100000 in
theorem mo_m_common (l : Launch) (D : va_G) (di dz : ClassId) (h : Nat) (ad : Nat → Nat) (A : Nat → Prop)  (p0 : Int32) (p1 : Int32) (p2 : Int32) (σ0 : mo_S) (r : Int32) (σ' : mo_S) (hF : mo_common σ0 p0 p1 p2 = some (r, σ')) : mo_Ci l yX6_common cX6_common 6 .int ({ frames := 5, cells := 0, slots := 0, locals := 123 }) D di dz h ad A [.ref h, .int p0, .int p1, .int p2] σ0 r σ' := by
  refine dx_in RX6 rfl (by decide) (Nat.le_of_ble_eq_true rfl) ?_
  intro p e s m below meth c ls S hr hlocks hv hl
  have hx := S.1
  have hb := S.2.1
  have hown := S.2.2.2.1
  have hts := S.2.2.2.2
  obtain ⟨hK, hP, hD⟩ := hv
  have V : mo_V D di dz h ad A s.heap σ0 s s.heap [] := ⟨hK, hP, hD, va_S.rf⟩
  replace hl : lv_has ls 6 [(0, .ref h), (1, .int p0), (2, .int p1), (3, .int p2)] := hl
  unfold mo_common at hF
  have hL48 : ∀ (v1 : Int32) (v2 : Int32) (v3 : Int32) (n : Nat) (v4 : Int32) (v5 : Int32) (σ : mo_S) (H : Heap) (locs : List Loc) (ls : Array Slot), dx_lp (fun x => mo_common_L48 x.2.2 v1 v2 v3 x.1 x.2.1) n (v4, v5, σ) = some (r, σ') → mo_V D di dz h ad A s.heap σ s H locs → lv_has ls 6 [(0, .ref h), (1, .int v1), (2, .int v2), (3, .int v3), (4, .int v4), (5, .int v5)] → W p l e ({ frames := 5, cells := 0, slots := 0, locals := 123 }) s m ([.ref h, .int p0, .int p1, .int p2] : List Value).toArray below meth c H locs 0 0 (MQ below (mo_Qi D di dz h ad A r σ') ([.ref h, .int p0, .int p1, .int p2] : List Value).toArray s 0 0 A) (F0 m 48 ls []) := by
    intro v1 v2 v3 n
    induction n with
    | zero =>
      intro v4 v5 σ H locs ls hF V hl
      exact (dx_lp_0 hF).elim
    | succ n ih48 =>
      intro v4 v5 σ H locs ls hF V hl
      obtain ⟨y48, hF, hz48⟩ := dx_lp_s hF
      replace hF : mo_common_L48 σ v1 v2 v3 v4 v5 = some y48 := hF
      unfold mo_common_L48 at hF
      refine lv_iload hx hb dX6_common_48 (lv_at hl 5 rfl) ?_
      refine lv_aload_n hx hb dX6_common_50 rfl (lv_at hl 0 rfl) ?_
      refine mo_get S V 13 (by decide) rfl q1628 rfl dX6_common_51 ?_
      refine lv_iconst (v := 0) hx hb dX6_common_54 (by decide) ?_
      refine mo_ld S V 5 (by decide) (dx_inb_in rfl) dX6_common_55 ?_
      refine lv_icmp_ge (tgt := 119) hx hb dX6_common_56 (by decide) (fun hc => ?_) (fun hc => ?_)
      · replace hF := (if_pos hc).symm.trans hF
        replace hF := dx_ex_k hF hz48
        refine lv_iload hx hb dX6_common_119 (lv_at hl 4 rfl) ?_
        obtain ⟨hF1, hF2⟩ := dx_r2 hF
        subst hF1
        subst hF2
        exact mo_ri S V hr hlocks rfl dX6_common_121
      · replace hF := (if_neg hc).symm.trans hF
        refine lv_aload_n hx hb dX6_common_59 rfl (lv_at hl 0 rfl) ?_
        refine lv_aload_n hx hb dX6_common_60 rfl (lv_at hl 0 rfl) ?_
        refine mo_get S V 13 (by decide) rfl q1628 rfl dX6_common_61 ?_
        refine lv_iload_n hx hb dX6_common_64 rfl (lv_at hl 1 rfl) ?_
        refine lv_iload_n hx hb dX6_common_65 rfl (lv_at hl 2 rfl) ?_
        refine lv_aload_n hx hb dX6_common_66 rfl (lv_at hl 0 rfl) ?_
        refine lv_aload_n hx hb dX6_common_67 rfl (lv_at hl 0 rfl) ?_
        refine mo_get S V 13 (by decide) rfl q1628 rfl dX6_common_68 ?_
        refine lv_iload hx hb dX6_common_71 (lv_at hl 5 rfl) ?_
        obtain ⟨r4, h4c, hF⟩ := dx_b1_some hF
        refine mo_cVi S V [.ref (ad 5), .int v5] (mo_m_contactsOf l D di dz h ad A 5 (by decide) v5 σ _ h4c) (cwV 2 hts (lw_V q1867 q1869 qs56 q83 q1870) rfl rfl rfl mo_d_contactsOf ⟨Nat.le_of_ble_eq_true rfl, Nat.le_of_ble_eq_true rfl⟩) rfl rfl hl.1 (Nat.le_of_ble_eq_true rfl) dX6_common_73 (fun _ _ V => ?_)
        obtain ⟨σ5, h5c, hF⟩ := dx_b1_some hF
        refine mo_cVv S V [.ref (ad 5), .int v1, .int v2, .int r4] (mo_m_walks l D di dz h ad A 5 (by decide) v1 v2 r4 σ _ h5c) (cwV 4 hts (lw_V q1883 q1885 qs58 q83 q1886) rfl rfl rfl mo_d_walks ⟨Nat.le_of_ble_eq_true rfl, Nat.le_of_ble_eq_true rfl⟩) rfl rfl hl.1 (Nat.le_of_ble_eq_true rfl) dX6_common_76 (fun _ _ V => ?_)
        refine lv_iload hx hb dX6_common_79 (lv_at hl 4 rfl) ?_
        refine lv_iload hx hb dX6_common_81 (lv_at hl 5 rfl) ?_
        refine lv_iload_n hx hb dX6_common_83 rfl (lv_at hl 1 rfl) ?_
        refine lv_icmp_eq (tgt := 109) hx hb dX6_common_84 (by decide) (fun hc => ?_) (fun hc => ?_)
        · replace hF := (if_pos hc).symm.trans hF
          refine lv_iconst (v := 0) hx hb dX6_common_109 (by decide) ?_
          refine lv_ior hx hb dX6_common_110 ?_
          refine lv_istore (lv' := [(4, .int (v4 ||| (0 : Int32))), (0, .ref h), (1, .int v1), (2, .int v2), (3, .int v3), (5, .int v5)]) hx hb dX6_common_111 hl (by decide) rfl (fun ls hl => ?_)
          refine lv_iinc (v := (v5 + (1 : Int32))) (lv' := [(5, .int (v5 + (1 : Int32))), (4, .int (v4 ||| (0 : Int32))), (0, .ref h), (1, .int v1), (2, .int v2), (3, .int v3)]) hx hb dX6_common_113 hl (k := 5) rfl rfl (by decide) rfl (fun ls hl => ?_)
          refine lv_goto (tgt := 48) hx hb dX6_common_116 (by decide) ?_
          replace hF := Option.some.inj hF
          subst hF
          exact ih48 (v4 ||| (0 : Int32)) (v5 + (1 : Int32)) σ5 _ _ _ (dx_lk_l hz48) V (lv_sub hl [2, 3, 4, 5, 1, 0] rfl)
        · replace hF := (if_neg hc).symm.trans hF
          refine lv_iload hx hb dX6_common_87 (lv_at hl 5 rfl) ?_
          refine lv_iload_n hx hb dX6_common_89 rfl (lv_at hl 3 rfl) ?_
          refine lv_icmp_eq (tgt := 109) hx hb dX6_common_90 (by decide) (fun hc => ?_) (fun hc => ?_)
          · replace hF := (if_pos hc).symm.trans hF
            refine lv_iconst (v := 0) hx hb dX6_common_109 (by decide) ?_
            refine lv_ior hx hb dX6_common_110 ?_
            refine lv_istore (lv' := [(4, .int (v4 ||| (0 : Int32))), (0, .ref h), (1, .int v1), (2, .int v2), (3, .int v3), (5, .int v5)]) hx hb dX6_common_111 hl (by decide) rfl (fun ls hl => ?_)
            refine lv_iinc (v := (v5 + (1 : Int32))) (lv' := [(5, .int (v5 + (1 : Int32))), (4, .int (v4 ||| (0 : Int32))), (0, .ref h), (1, .int v1), (2, .int v2), (3, .int v3)]) hx hb dX6_common_113 hl (k := 5) rfl rfl (by decide) rfl (fun ls hl => ?_)
            refine lv_goto (tgt := 48) hx hb dX6_common_116 (by decide) ?_
            replace hF := Option.some.inj hF
            subst hF
            exact ih48 (v4 ||| (0 : Int32)) (v5 + (1 : Int32)) σ5 _ _ _ (dx_lk_l hz48) V (lv_sub hl [2, 3, 4, 5, 1, 0] rfl)
          · replace hF := (if_neg hc).symm.trans hF
            refine lv_aload_n hx hb dX6_common_93 rfl (lv_at hl 0 rfl) ?_
            refine mo_get S V 20 (by decide) rfl q1635 rfl dX6_common_94 ?_
            refine lv_iload_n hx hb dX6_common_97 rfl (lv_at hl 3 rfl) ?_
            obtain ⟨hg, hF⟩ := dx_gd_some hF
            refine mo_ld S V 11 (by decide) (dx_inb_in hg) dX6_common_98 ?_
            refine lv_if_ne (tgt := 109) hx hb dX6_common_99 (by decide) (fun hc => ?_) (fun hc => ?_)
            · replace hF := (if_neg hc).symm.trans hF
              refine lv_iconst (v := 0) hx hb dX6_common_109 (by decide) ?_
              refine lv_ior hx hb dX6_common_110 ?_
              refine lv_istore (lv' := [(4, .int (v4 ||| (0 : Int32))), (0, .ref h), (1, .int v1), (2, .int v2), (3, .int v3), (5, .int v5)]) hx hb dX6_common_111 hl (by decide) rfl (fun ls hl => ?_)
              refine lv_iinc (v := (v5 + (1 : Int32))) (lv' := [(5, .int (v5 + (1 : Int32))), (4, .int (v4 ||| (0 : Int32))), (0, .ref h), (1, .int v1), (2, .int v2), (3, .int v3)]) hx hb dX6_common_113 hl (k := 5) rfl rfl (by decide) rfl (fun ls hl => ?_)
              refine lv_goto (tgt := 48) hx hb dX6_common_116 (by decide) ?_
              replace hF := Option.some.inj hF
              subst hF
              exact ih48 (v4 ||| (0 : Int32)) (v5 + (1 : Int32)) σ5 _ _ _ (dx_lk_l hz48) V (lv_sub hl [2, 3, 4, 5, 1, 0] rfl)
            · replace hF := (if_pos hc).symm.trans hF
              refine lv_iconst (v := 1) hx hb dX6_common_102 (by decide) ?_
              refine lv_iload hx hb dX6_common_103 (lv_at hl 5 rfl) ?_
              refine lv_ishl hx hb dX6_common_105 ?_
              refine lv_goto (tgt := 110) hx hb dX6_common_106 (by decide) ?_
              refine lv_ior hx hb dX6_common_110 ?_
              refine lv_istore (lv' := [(4, .int (v4 ||| ((1 : Int32) <<< (v5 &&& 31)))), (0, .ref h), (1, .int v1), (2, .int v2), (3, .int v3), (5, .int v5)]) hx hb dX6_common_111 hl (by decide) rfl (fun ls hl => ?_)
              refine lv_iinc (v := (v5 + (1 : Int32))) (lv' := [(5, .int (v5 + (1 : Int32))), (4, .int (v4 ||| ((1 : Int32) <<< (v5 &&& 31)))), (0, .ref h), (1, .int v1), (2, .int v2), (3, .int v3)]) hx hb dX6_common_113 hl (k := 5) rfl rfl (by decide) rfl (fun ls hl => ?_)
              refine lv_goto (tgt := 48) hx hb dX6_common_116 (by decide) ?_
              replace hF := Option.some.inj hF
              subst hF
              exact ih48 (v4 ||| ((1 : Int32) <<< (v5 &&& 31))) (v5 + (1 : Int32)) σ5 _ _ _ (dx_lk_l hz48) V (lv_sub hl [2, 3, 4, 5, 1, 0] rfl)
  refine lv_aload_n hx hb dX6_common_0 rfl (lv_at hl 0 rfl) ?_
  refine lv_iload_n hx hb dX6_common_1 rfl (lv_at hl 1 rfl) ?_
  refine lv_iload_n hx hb dX6_common_2 rfl (lv_at hl 2 rfl) ?_
  obtain ⟨r1, h1c, hF⟩ := dx_b1_some hF
  refine mo_cVi S V [.int p0, .int p1] (mo_m_isFrom l D di dz h ad A  p0 p1 σ0 _ h1c) (cwV 2 hts (lw_V q1879 q1881 qs57 q83 q1882) rfl rfl rfl mo_d_isFrom ⟨Nat.le_of_ble_eq_true rfl, Nat.le_of_ble_eq_true rfl⟩) rfl rfl hl.1 (Nat.le_of_ble_eq_true rfl) dX6_common_3 (fun _ _ V => ?_)
  refine lv_if_eq (tgt := 17) hx hb dX6_common_6 (by decide) (fun hc => ?_) (fun hc => ?_)
  · replace hF := dx_ib_f (dx_bI_0 hc) hF
    refine lv_ldc hx hb hown (hts _ q1714) dX6_common_17 ?_
    obtain ⟨hF1, hF2⟩ := dx_r2 hF
    subst hF1
    subst hF2
    exact mo_ri S V hr hlocks rfl dX6_common_19
  · replace hF := dx_ib_t (dx_bI_n hc) hF
    refine lv_aload_n hx hb dX6_common_9 rfl (lv_at hl 0 rfl) ?_
    refine lv_iload_n hx hb dX6_common_10 rfl (lv_at hl 3 rfl) ?_
    obtain ⟨r2, h2c, hF⟩ := dx_b1_some hF
    refine mo_cVi S V [.int p2] (mo_m_isPerson l D di dz h ad A  p2 σ0 _ h2c) (cwV 1 hts (lw_V q1815 q1817 qs51 q83 q1818) rfl rfl rfl mo_d_isPerson ⟨Nat.le_of_ble_eq_true rfl, Nat.le_of_ble_eq_true rfl⟩) rfl rfl hl.1 (Nat.le_of_ble_eq_true rfl) dX6_common_11 (fun _ _ V => ?_)
    refine lv_if_ne (tgt := 20) hx hb dX6_common_14 (by decide) (fun hc => ?_) (fun hc => ?_)
    · replace hF := dx_ib_t (dx_bI_n hc) hF
      refine lv_aload_n hx hb dX6_common_20 rfl (lv_at hl 0 rfl) ?_
      refine lv_aload_n hx hb dX6_common_21 rfl (lv_at hl 0 rfl) ?_
      refine mo_get S V 13 (by decide) rfl q1628 rfl dX6_common_22 ?_
      refine lv_iload_n hx hb dX6_common_25 rfl (lv_at hl 1 rfl) ?_
      refine lv_iload_n hx hb dX6_common_26 rfl (lv_at hl 2 rfl) ?_
      refine lv_iconst (v := 0) hx hb dX6_common_27 (by decide) ?_
      obtain ⟨σ3, h3c, hF⟩ := dx_b1_some hF
      refine mo_cVv S V [.ref (ad 5), .int p0, .int p1, .int (0 : Int32)] (mo_m_walks l D di dz h ad A 5 (by decide) p0 p1 (0 : Int32) σ0 _ h3c) (cwV 4 hts (lw_V q1883 q1885 qs58 q83 q1886) rfl rfl rfl mo_d_walks ⟨Nat.le_of_ble_eq_true rfl, Nat.le_of_ble_eq_true rfl⟩) rfl rfl hl.1 (Nat.le_of_ble_eq_true rfl) dX6_common_28 (fun _ _ V => ?_)
      refine lv_aload_n hx hb dX6_common_31 rfl (lv_at hl 0 rfl) ?_
      refine mo_get S V 20 (by decide) rfl q1635 rfl dX6_common_32 ?_
      refine lv_iload_n hx hb dX6_common_35 rfl (lv_at hl 3 rfl) ?_
      obtain ⟨hg, hF⟩ := dx_gd_some hF
      refine mo_ld S V 11 (by decide) (dx_inb_in hg) dX6_common_36 ?_
      refine lv_if_ne (tgt := 42) hx hb dX6_common_37 (by decide) (fun hc => ?_) (fun hc => ?_)
      · replace hF := (if_neg hc).symm.trans hF
        refine lv_iconst (v := 0) hx hb dX6_common_42 (by decide) ?_
        refine lv_istore (lv' := [(4, .int (0 : Int32)), (0, .ref h), (1, .int p0), (2, .int p1), (3, .int p2)]) hx hb dX6_common_43 hl (by decide) rfl (fun ls hl => ?_)
        refine lv_iconst (v := 0) hx hb dX6_common_45 (by decide) ?_
        refine lv_istore (lv' := [(5, .int (0 : Int32)), (4, .int (0 : Int32)), (0, .ref h), (1, .int p0), (2, .int p1), (3, .int p2)]) hx hb dX6_common_46 hl (by decide) rfl (fun ls hl => ?_)
        exact hL48 p0 p1 p2 dx_fu (0 : Int32) (0 : Int32) σ3 _ _ _ hF V (lv_sub hl [2, 3, 4, 5, 1, 0] rfl)
      · replace hF := (if_pos hc).symm.trans hF
        refine lv_iconst (v := 0) hx hb dX6_common_40 (by decide) ?_
        obtain ⟨hF1, hF2⟩ := dx_r2 hF
        subst hF1
        subst hF2
        exact mo_ri S V hr hlocks rfl dX6_common_41
    · replace hF := dx_ib_f (dx_bI_0 hc) hF
      refine lv_ldc hx hb hown (hts _ q1714) dX6_common_17 ?_
      obtain ⟨hF1, hF2⟩ := dx_r2 hF
      subst hF1
      subst hF2
      exact mo_ri S V hr hlocks rfl dX6_common_19
theorem mo_d_part_2 : yX6_part_2.cls ≠ "java/lang/invoke/MethodHandle" ∧ yX6_part_2.cls ≠ "java/lang/invoke/VarHandle" ∧ (parseMethodDescriptor yX6_part_2.desc).map (fun d => d.parameters.length) = some 3 := by decide +kernel
set_option maxHeartbeats 4000000 in
set_option maxRecDepth 100000 in
theorem mo_m_part_2 (l : Launch) (p0 : Int64) (p1 : Int64) (p2 : Int32) (r : Int64) (hF : mo_part_2 p0 p1 p2 = some r) : dx_Pl l yX6_part_2 cX6_part_2 11 ({ frames := 0, cells := 0, slots := 0, locals := 0 }) [.long p0, .long p1, .int p2] r := by
  refine dx_in RX6 rfl (by decide) (Nat.le_of_ble_eq_true rfl) ?_
  intro p e s m below meth c ls S hr hlocks hv hl
  have hx := S.1
  have hb := S.2.1
  have hown := S.2.2.2.1
  have hts := S.2.2.2.2
  replace hl : lv_has ls 11 [(0, .long p0), (2, .long p1), (4, .int p2)] := hl
  unfold mo_part_2 at hF
  have hJ41 : ∀ (v5 : Int64) (t0 : Int64) (ls : Array Slot), mo_part_2_J41 v5 t0 = some r → lv_has ls 11 [(5, .long v5)] → W p l e ({ frames := 0, cells := 0, slots := 0, locals := 0 }) s m ([.long p0, .long p1, .int p2] : List Value).toArray below meth c s.heap [] 0 0 (MQ below (vp_Sl (fun r2 => r2 = r)) ([.long p0, .long p1, .int p2] : List Value).toArray s 0 0 (fun _ => False)) (F0 m 41 ls [.long t0]) := by
    intro v5 t0 ls hF hl
    unfold mo_part_2_J41 at hF
    refine lv_lload hx hb dX6_part_2_41 (lv_at hl 0 rfl) ?_
    obtain ⟨hg, hF⟩ := dx_gd_some hF
    refine lv_ldiv hx hb dX6_part_2_43 (of_decide_eq_true hg) ?_
    replace hF := Option.some.inj hF
    subst hF
    exact dx_rPl S hr hlocks dX6_part_2_44
  have hL6 : ∀ (v0 : Int64) (v2 : Int64) (v4 : Int32) (n : Nat) (v5 : Int64) (v7 : Int64) (ls : Array Slot), dx_lp (fun x => mo_part_2_L6 v0 v2 v4 x.1 x.2) n (v5, v7) = some r → lv_has ls 11 [(0, .long v0), (2, .long v2), (4, .int v4), (5, .long v5), (7, .long v7)] → W p l e ({ frames := 0, cells := 0, slots := 0, locals := 0 }) s m ([.long p0, .long p1, .int p2] : List Value).toArray below meth c s.heap [] 0 0 (MQ below (vp_Sl (fun r2 => r2 = r)) ([.long p0, .long p1, .int p2] : List Value).toArray s 0 0 (fun _ => False)) (F0 m 6 ls []) := by
    intro v0 v2 v4 n
    induction n with
    | zero =>
      intro v5 v7 ls hF hl
      exact (dx_lp_0 hF).elim
    | succ n ih6 =>
      intro v5 v7 ls hF hl
      obtain ⟨y6, hF, hz6⟩ := dx_lp_s hF
      replace hF : mo_part_2_L6 v0 v2 v4 v5 v7 = some y6 := hF
      unfold mo_part_2_L6 at hF
      refine lv_lload hx hb dX6_part_2_6 (lv_at hl 4 rfl) ?_
      refine lv_lconst (v := 0) hx hb dX6_part_2_8 (by decide) ?_
      refine W.lcmp hx hb dX6_part_2_9 ?_
      refine lv_if_eq (tgt := 31) hx hb dX6_part_2_10 (by decide) (fun hc => ?_) (fun hc => ?_)
      · replace hF := (if_pos hc).symm.trans hF
        replace hF := dx_ex_k hF hz6
        refine lv_iload hx hb dX6_part_2_31 (lv_at hl 2 rfl) ?_
        refine lv_if_ne (tgt := 40) hx hb dX6_part_2_33 (by decide) (fun hc => ?_) (fun hc => ?_)
        · replace hF := (if_neg hc).symm.trans hF
          refine lv_lload_n hx hb dX6_part_2_40 rfl (lv_at hl 1 rfl) ?_
          exact hJ41 v5 v2 _ hF (lv_sub hl [3] rfl)
        · replace hF := (if_pos hc).symm.trans hF
          refine lv_lload_n hx hb dX6_part_2_36 rfl (lv_at hl 0 rfl) ?_
          refine lv_goto (tgt := 41) hx hb dX6_part_2_37 (by decide) ?_
          exact hJ41 v5 v0 _ hF (lv_sub hl [3] rfl)
      · replace hF := (if_neg hc).symm.trans hF
        refine lv_lload hx hb dX6_part_2_13 (lv_at hl 3 rfl) ?_
        refine lv_lload hx hb dX6_part_2_15 (lv_at hl 4 rfl) ?_
        obtain ⟨hg, hF⟩ := dx_gd_some hF
        refine lv_lrem hx hb dX6_part_2_17 (of_decide_eq_true hg) ?_
        refine lv_lstore (lv' := [(9, .long (v5 - v5 / v7 * v7)), (0, .long v0), (2, .long v2), (4, .int v4), (5, .long v5), (7, .long v7)]) hx hb dX6_part_2_18 hl (by decide) rfl (fun ls hl => ?_)
        refine lv_lload hx hb dX6_part_2_20 (lv_at hl 5 rfl) ?_
        refine lv_lstore (lv' := [(5, .long v7), (9, .long (v5 - v5 / v7 * v7)), (0, .long v0), (2, .long v2), (4, .int v4), (7, .long v7)]) hx hb dX6_part_2_22 hl (by decide) rfl (fun ls hl => ?_)
        refine lv_lload hx hb dX6_part_2_24 (lv_at hl 1 rfl) ?_
        refine lv_lstore (lv' := [(7, .long (v5 - v5 / v7 * v7)), (5, .long v7), (9, .long (v5 - v5 / v7 * v7)), (0, .long v0), (2, .long v2), (4, .int v4)]) hx hb dX6_part_2_26 hl (by decide) rfl (fun ls hl => ?_)
        refine lv_goto (tgt := 6) hx hb dX6_part_2_28 (by decide) ?_
        replace hF := Option.some.inj hF
        subst hF
        exact ih6 v7 (v5 - v5 / v7 * v7) _ (dx_lk_l hz6) (lv_sub hl [3, 4, 5, 1, 0] rfl)
  refine lv_lload_n hx hb dX6_part_2_0 rfl (lv_at hl 0 rfl) ?_
  refine lv_lstore (lv' := [(5, .long p0), (0, .long p0), (2, .long p1), (4, .int p2)]) hx hb dX6_part_2_1 hl (by decide) rfl (fun ls hl => ?_)
  refine lv_lload_n hx hb dX6_part_2_3 rfl (lv_at hl 2 rfl) ?_
  refine lv_lstore (lv' := [(7, .long p1), (5, .long p0), (0, .long p0), (2, .long p1), (4, .int p2)]) hx hb dX6_part_2_4 hl (by decide) rfl (fun ls hl => ?_)
  exact hL6 p0 p1 p2 dx_fu p0 p1 _ hF (lv_sub hl [2, 3, 4, 1, 0] rfl)
