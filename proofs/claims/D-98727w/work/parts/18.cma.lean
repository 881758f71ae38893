set_option maxRecDepth 100000
def fX1_draw (T : bf_CS) (x1 : Int32) : Option (Int32 × bf_CS) := bf_l (bf_u3 T 0 19 0 ((1664525 * (T.1 0 19 0)) + 1013904223)) fun T_1 => bf_c (bf_nz x1) <| some (((((T_1.1 0 19 0).toUInt32 >>> (Int32.toUInt32 8 &&& Int32.toUInt32 31)).toInt32) - (((T_1.1 0 19 0).toUInt32 >>> (Int32.toUInt32 8 &&& Int32.toUInt32 31)).toInt32) / x1 * x1), T_1)
set_option maxHeartbeats 4000000 in
theorem mX1_draw (l : Launch) (G : bf_G) (ν : bf_V) (c : Nat) (q : Nat → Nat) (T : bf_CS) (x1 : Int32) {r : Int32} {T' : bf_CS} (hf : fX1_draw T x1 = some (r, T')) : bf_MI l G yX1_draw cX1_draw 2 (bf_rm 0) [.ref c, .int x1] (bf_pC G ν c q T) (fun v σ' => v = r ∧ σ' = bf_pC G ν c q T') := by
  refine bf_MI.of rfl (Nat.le_of_ble_eq_true rfl) ?_
  intro p e s m below meth c' Q X hlk hnm kret hd ls hl
  have hx := X.1
  have hb := X.2.1
  have hml := X.2.2.1
  have hown := X.2.2.2.1
  have hts := X.2.2.2.2
  have hl : lv_has ls 2 [(0, .ref c), (1, .int x1)] := hl
  unfold fX1_draw at hf
  refine lv_aload_n hx hb dX1_draw_0 rfl (lv_at hl 0 rfl) ?_
  refine lv_ldc (v := 1664525) hx hb hown (hts _ q1205) dX1_draw_1 ?_
  refine lv_aload_n hx hb dX1_draw_3 rfl (lv_at hl 0 rfl) ?_
  refine bf_rC X hd (bf_pC_hC G ν c q T) 19 (by decide) (Or.inl q341) rfl dX1_draw_4 ?_
  refine lv_imul hx hb dX1_draw_7 ?_
  refine lv_ldc (v := 1013904223) hx hb hown (hts _ q1206) dX1_draw_8 ?_
  refine lv_iadd hx hb dX1_draw_10 ?_
  refine bf_xC X hd 19 (by decide) ⟨by decide, rfl, rfl⟩ (Or.inl q341) dX1_draw_11 (fun H locs hd => ?_)
  obtain ⟨T_3, eT_3, hf⟩ := bf_l_e hf
  have hd := hd.of (congrArg (bf_pC G ν c q) eT_3.symm)
  refine lv_aload_n hx hb dX1_draw_14 rfl (lv_at hl 0 rfl) ?_
  refine bf_rC X hd (bf_pC_hC G ν c q T_3) 19 (by decide) (Or.inl q341) rfl dX1_draw_15 ?_
  refine lv_bipush (v := 8) hx hb dX1_draw_18 (by decide) ?_
  refine lv_iushr (v := ((T_3.1 0 19 0).toUInt32 >>> (Int32.toUInt32 8 &&& Int32.toUInt32 31)).toInt32) hx hb dX1_draw_20 rfl ?_
  refine lv_iload_n hx hb dX1_draw_21 rfl (lv_at hl 1 rfl) ?_
  obtain ⟨g_4, hf⟩ := bf_c_some hf
  refine lv_irem hx hb dX1_draw_22 (bf_nz_t g_4) ?_
  exact kret _ _ _ _ _ _ ⟨(bf_pr hf).1, congrArg (bf_pC G ν c q) (bf_pr hf).2⟩ hd dX1_draw_23
def fX1_notes (T : bf_CS) (x1 : Int32) (x2 : Int32) (x3 : Int32) : Option (bf_CS) := if (T.1 0 25 0) = 0 then (if (T.1 0 20 0) = 150 then (some T) else (bf_c (bf_in (T.1 0 20 0) 150) <| bf_l (bf_u3 T 5 ((T.1 0 20 0).toNatClampNeg) 0 (T.1 0 18 0)) fun T_4 => bf_l (bf_u3 T_4 5 ((T.1 0 20 0).toNatClampNeg) 1 x1) fun T_5 => bf_l (bf_u3 T_5 5 ((T.1 0 20 0).toNatClampNeg) 2 x2) fun T_6 => bf_l (bf_u3 T_6 5 ((T.1 0 20 0).toNatClampNeg) 3 x3) fun T_7 => bf_l (bf_u3 T_7 0 20 0 ((T_7.1 0 20 0) + 1)) fun T_8 => some T_8)) else (some T)
set_option maxHeartbeats 4000000 in
theorem mX1_notes (l : Launch) (G : bf_G) (ν : bf_V) (c : Nat) (q : Nat → Nat) (T : bf_CS) (x1 : Int32) (x2 : Int32) (x3 : Int32) {T' : bf_CS} (hf : fX1_notes T x1 x2 x3 = some T') : bf_MV l G yX1_notes cX1_notes 5 (bf_rm 0) [.ref c, .int x1, .int x2, .int x3] (bf_pC G ν c q T) (fun σ' => σ' = bf_pC G ν c q T') := by
  refine bf_MV.of rfl (Nat.le_of_ble_eq_true rfl) ?_
  intro p e s m below meth c' Q X hlk hnm kret hd ls hl
  have hx := X.1
  have hb := X.2.1
  have hml := X.2.2.1
  have hown := X.2.2.2.1
  have hts := X.2.2.2.2
  have hl : lv_has ls 5 [(0, .ref c), (1, .int x1), (2, .int x2), (3, .int x3)] := hl
  unfold fX1_notes at hf
  refine lv_aload_n hx hb dX1_notes_0 rfl (lv_at hl 0 rfl) ?_
  refine bf_rC X hd (bf_pC_hC G ν c q T) 25 (by decide) (Or.inl q354) rfl dX1_notes_1 ?_
  refine lv_if_ne (tgt := 17) hx hb dX1_notes_4 (by decide) (fun c_9 => ?_) (fun c_9 => ?_)
  · have hf := bf_ie hf c_9
    exact kret _ _ _ _ _ (congrArg (bf_pC G ν c q) (bf_so hf)) hd dX1_notes_17
  · have hf := bf_it hf c_9
    refine lv_aload_n hx hb dX1_notes_7 rfl (lv_at hl 0 rfl) ?_
    refine bf_rC X hd (bf_pC_hC G ν c q T) 20 (by decide) (Or.inl q343) rfl dX1_notes_8 ?_
    refine lv_sipush (v := 150) hx hb dX1_notes_11 (by decide) ?_
    refine lv_icmp_ne (tgt := 18) hx hb dX1_notes_14 (by decide) (fun c_10 => ?_) (fun c_10 => ?_)
    · have hf := bf_ie hf c_10
      refine lv_aload_n hx hb dX1_notes_18 rfl (lv_at hl 0 rfl) ?_
      refine bf_rC (v := .ref (c + 4)) X hd (bf_pC_hC G ν c q T) 3 (by decide) (Or.inl q306) rfl dX1_notes_19 ?_
      refine lv_aload_n hx hb dX1_notes_22 rfl (lv_at hl 0 rfl) ?_
      refine bf_rC X hd (bf_pC_hC G ν c q T) 20 (by decide) (Or.inl q343) rfl dX1_notes_23 ?_
      obtain ⟨g_11, hf⟩ := bf_c_some hf
      refine bf_aald (v := .ref (c + 5 + (T.1 0 20 0).toNatClampNeg)) X hd (bf_c4 (bf_pC_hC G ν c q T)) 5 rfl rfl g_11 rfl dX1_notes_26 ?_
      refine lv_astore (lv' := [(4, .ref (c + 5 + (T.1 0 20 0).toNatClampNeg)), (0, .ref c), (1, .int x1), (2, .int x2), (3, .int x3)]) hx hb dX1_notes_27 hl (by decide) rfl (fun ls hl => ?_)
      refine lv_aload hx hb dX1_notes_29 (lv_at hl 0 rfl) ?_
      refine lv_iconst (v := 0) hx hb dX1_notes_31 (by decide) ?_
      refine lv_aload_n hx hb dX1_notes_32 rfl (lv_at hl 1 rfl) ?_
      refine bf_rC X hd (bf_pC_hC G ν c q T) 18 (by decide) (Or.inl q339) rfl dX1_notes_33 ?_
      refine bf_sB X hd (bf_in_lt g_11) (by decide) dX1_notes_36 (fun H locs hd => ?_)
      obtain ⟨T_12, eT_12, hf⟩ := bf_l_e hf
      have hd := hd.of (congrArg (bf_pC G ν c q) eT_12.symm)
      refine lv_aload hx hb dX1_notes_37 (lv_at hl 0 rfl) ?_
      refine lv_iconst (v := 1) hx hb dX1_notes_39 (by decide) ?_
      refine lv_iload_n hx hb dX1_notes_40 rfl (lv_at hl 2 rfl) ?_
      refine bf_sB X hd (bf_in_lt g_11) (by decide) dX1_notes_41 (fun H locs hd => ?_)
      obtain ⟨T_13, eT_13, hf⟩ := bf_l_e hf
      have hd := hd.of (congrArg (bf_pC G ν c q) eT_13.symm)
      refine lv_aload hx hb dX1_notes_42 (lv_at hl 0 rfl) ?_
      refine lv_iconst (v := 2) hx hb dX1_notes_44 (by decide) ?_
      refine lv_iload_n hx hb dX1_notes_45 rfl (lv_at hl 3 rfl) ?_
      refine bf_sB X hd (bf_in_lt g_11) (by decide) dX1_notes_46 (fun H locs hd => ?_)
      obtain ⟨T_14, eT_14, hf⟩ := bf_l_e hf
      have hd := hd.of (congrArg (bf_pC G ν c q) eT_14.symm)
      refine lv_aload hx hb dX1_notes_47 (lv_at hl 0 rfl) ?_
      refine lv_iconst (v := 3) hx hb dX1_notes_49 (by decide) ?_
      refine lv_iload_n hx hb dX1_notes_50 rfl (lv_at hl 4 rfl) ?_
      refine bf_sB X hd (bf_in_lt g_11) (by decide) dX1_notes_51 (fun H locs hd => ?_)
      obtain ⟨T_15, eT_15, hf⟩ := bf_l_e hf
      have hd := hd.of (congrArg (bf_pC G ν c q) eT_15.symm)
      refine lv_aload_n hx hb dX1_notes_52 rfl (lv_at hl 1 rfl) ?_
      refine lv_dup hx hb dX1_notes_53 rfl ?_
      refine bf_rC X hd (bf_pC_hC G ν c q T_15) 20 (by decide) (Or.inl q343) rfl dX1_notes_54 ?_
      refine lv_iconst (v := 1) hx hb dX1_notes_57 (by decide) ?_
      refine lv_iadd hx hb dX1_notes_58 ?_
      refine bf_xC X hd 20 (by decide) ⟨by decide, rfl, rfl⟩ (Or.inl q343) dX1_notes_59 (fun H locs hd => ?_)
      obtain ⟨T_16, eT_16, hf⟩ := bf_l_e hf
      have hd := hd.of (congrArg (bf_pC G ν c q) eT_16.symm)
      exact kret _ _ _ _ _ (congrArg (bf_pC G ν c q) (bf_so hf)) hd dX1_notes_62
    · have hf := bf_it hf c_10
      exact kret _ _ _ _ _ (congrArg (bf_pC G ν c q) (bf_so hf)) hd dX1_notes_17
def fX1_fact (T : bf_CS) (x1 : Int32) : Option (Int32) := if x1 = 0 then (some ((T.1 0 18 0) - (T.1 0 18 0) / 52 * 52)) else (if x1 = 1 then (if (T.1 0 27 0) = (-1) then (some 0) else (some (T.1 0 27 0))) else (if x1 = 2 then (bf_q T.2 (some 0) (fun t_5 => bf_c (decide (t_5 < 14)) <| some (T.1 2 t_5 1))) else (if x1 = 3 then (bf_q T.2 (some 0) (fun t_8 => bf_c (decide (t_8 < 14)) <| some (T.1 2 t_8 2))) else (if x1 = 4 then (bf_q T.2 (some 0) (fun t_11 => bf_c (decide (t_11 < 14)) <| some (T.1 2 t_11 3))) else (if x1 = 5 then (some (T.1 0 28 0)) else (if x1 = 6 then (some (T.1 0 29 0)) else (if x1 = 7 then (some (T.1 0 30 0)) else (if (T.1 0 27 0) = (-1) then (some 0) else (bf_c (bf_in (T.1 0 27 0) 5) <| some (T.1 1 ((T.1 0 27 0).toNatClampNeg) 2))))))))))
set_option maxHeartbeats 4000000 in
theorem mX1_fact (l : Launch) (G : bf_G) (ν : bf_V) (c : Nat) (q : Nat → Nat) (T : bf_CS) (x1 : Int32) {r : Int32} (hf : fX1_fact T x1 = some r) : bf_MI l G yX1_fact cX1_fact 2 (bf_rm 0) [.ref c, .int x1] (bf_pC G ν c q T) (fun v σ' => v = r ∧ σ' = bf_pC G ν c q T) := by
  refine bf_MI.of rfl (Nat.le_of_ble_eq_true rfl) ?_
  intro p e s m below meth c' Q X hlk hnm kret hd ls hl
  have hx := X.1
  have hb := X.2.1
  have hml := X.2.2.1
  have hown := X.2.2.2.1
  have hts := X.2.2.2.2
  have hl : lv_has ls 2 [(0, .ref c), (1, .int x1)] := hl
  unfold fX1_fact at hf
  refine lv_iload_n hx hb dX1_fact_0 rfl (lv_at hl 1 rfl) ?_
  by_cases c_18 : x1 = 0
  · have hf := bf_it hf c_18
    refine bf_top c_18.symm ?_
    refine lv_tableIn (tgt := 48) hx hb dX1_fact_1 (by decide) (by decide) rfl (by decide) ?_
    refine lv_aload_n hx hb dX1_fact_48 rfl (lv_at hl 0 rfl) ?_
    refine bf_rC X hd (bf_pC_hC G ν c q T) 18 (by decide) (Or.inl q339) rfl dX1_fact_49 ?_
    refine lv_bipush (v := 52) hx hb dX1_fact_52 (by decide) ?_
    refine lv_irem hx hb dX1_fact_54 (by decide) ?_
    exact kret _ _ _ _ _ _ ⟨bf_so hf, rfl⟩ hd dX1_fact_55
  · have hf := bf_ie hf c_18
    by_cases c_19 : x1 = 1
    · have hf := bf_it hf c_19
      refine bf_top c_19.symm ?_
      refine lv_tableIn (tgt := 56) hx hb dX1_fact_1 (by decide) (by decide) rfl (by decide) ?_
      refine lv_aload_n hx hb dX1_fact_56 rfl (lv_at hl 0 rfl) ?_
      refine bf_rC X hd (bf_pC_hC G ν c q T) 27 (by decide) (Or.inl q356) rfl dX1_fact_57 ?_
      refine lv_iconst (v := (-1)) hx hb dX1_fact_60 (by decide) ?_
      refine lv_icmp_ne (tgt := 68) hx hb dX1_fact_61 (by decide) (fun c_20 => ?_) (fun c_20 => ?_)
      · have hf := bf_ie hf c_20
        refine lv_aload_n hx hb dX1_fact_68 rfl (lv_at hl 0 rfl) ?_
        refine bf_rC X hd (bf_pC_hC G ν c q T) 27 (by decide) (Or.inl q356) rfl dX1_fact_69 ?_
        exact kret _ _ _ _ _ _ ⟨bf_so hf, rfl⟩ hd dX1_fact_72
      · have hf := bf_it hf c_20
        refine lv_iconst (v := 0) hx hb dX1_fact_64 (by decide) ?_
        refine lv_goto (tgt := 72) hx hb dX1_fact_65 (by decide) ?_
        exact kret _ _ _ _ _ _ ⟨bf_so hf, rfl⟩ hd dX1_fact_72
    · have hf := bf_ie hf c_19
      by_cases c_21 : x1 = 2
      · have hf := bf_it hf c_21
        refine bf_top c_21.symm ?_
        refine lv_tableIn (tgt := 73) hx hb dX1_fact_1 (by decide) (by decide) rfl (by decide) ?_
        refine lv_aload_n hx hb dX1_fact_73 rfl (lv_at hl 0 rfl) ?_
        refine bf_rC X hd (bf_pC_hC G ν c q T) 26 (by decide) (Or.inl q355) rfl dX1_fact_74 ?_
        rcases bf_opt (T.2) with et_22 | ⟨t_22, et_22⟩
        · have hf := bf_q_n hf et_22
          refine bf_ift (q := Option.map (fun t => c + 166 + t) T.2) (q' := none) (by rw [et_22]; rfl) ?_
          refine lv_ifnonnullN hx hb dX1_fact_77 ?_
          refine lv_iconst (v := 0) hx hb dX1_fact_80 (by decide) ?_
          refine lv_goto (tgt := 91) hx hb dX1_fact_81 (by decide) ?_
          exact kret _ _ _ _ _ _ ⟨bf_so hf, rfl⟩ hd dX1_fact_91
        · have hf := bf_q_s hf et_22
          refine bf_ift (q := Option.map (fun t => c + 166 + t) T.2) (q' := some (c + 166 + t_22)) (by rw [et_22]; rfl) ?_
          refine lv_ifnonnull (tgt := 84) hx hb dX1_fact_77 (by decide) ?_
          refine lv_aload_n hx hb dX1_fact_84 rfl (lv_at hl 0 rfl) ?_
          refine bf_rC X hd (bf_pC_hC G ν c q T) 26 (by decide) (Or.inl q355) rfl dX1_fact_85 ?_
          refine bf_ift (q := Option.map (fun t => c + 166 + t) T.2) (q' := some (c + 166 + t_22)) (by rw [et_22]; rfl) ?_
          obtain ⟨g_23, hf⟩ := bf_c_some hf
          refine bf_rT X hd (bf_pC_hC G ν c q T) (of_decide_eq_true g_23) 1 (by decide) (Or.inr ⟨_, q265⟩) dX1_fact_88 ?_
          exact kret _ _ _ _ _ _ ⟨bf_so hf, rfl⟩ hd dX1_fact_91
      · have hf := bf_ie hf c_21
        by_cases c_24 : x1 = 3
        · have hf := bf_it hf c_24
          refine bf_top c_24.symm ?_
          refine lv_tableIn (tgt := 92) hx hb dX1_fact_1 (by decide) (by decide) rfl (by decide) ?_
          refine lv_aload_n hx hb dX1_fact_92 rfl (lv_at hl 0 rfl) ?_
          refine bf_rC X hd (bf_pC_hC G ν c q T) 26 (by decide) (Or.inl q355) rfl dX1_fact_93 ?_
          rcases bf_opt (T.2) with et_25 | ⟨t_25, et_25⟩
          · have hf := bf_q_n hf et_25
            refine bf_ift (q := Option.map (fun t => c + 166 + t) T.2) (q' := none) (by rw [et_25]; rfl) ?_
            refine lv_ifnonnullN hx hb dX1_fact_96 ?_
            refine lv_iconst (v := 0) hx hb dX1_fact_99 (by decide) ?_
            refine lv_goto (tgt := 110) hx hb dX1_fact_100 (by decide) ?_
            exact kret _ _ _ _ _ _ ⟨bf_so hf, rfl⟩ hd dX1_fact_110
          · have hf := bf_q_s hf et_25
            refine bf_ift (q := Option.map (fun t => c + 166 + t) T.2) (q' := some (c + 166 + t_25)) (by rw [et_25]; rfl) ?_
            refine lv_ifnonnull (tgt := 103) hx hb dX1_fact_96 (by decide) ?_
            refine lv_aload_n hx hb dX1_fact_103 rfl (lv_at hl 0 rfl) ?_
            refine bf_rC X hd (bf_pC_hC G ν c q T) 26 (by decide) (Or.inl q355) rfl dX1_fact_104 ?_
            refine bf_ift (q := Option.map (fun t => c + 166 + t) T.2) (q' := some (c + 166 + t_25)) (by rw [et_25]; rfl) ?_
            obtain ⟨g_26, hf⟩ := bf_c_some hf
            refine bf_rT X hd (bf_pC_hC G ν c q T) (of_decide_eq_true g_26) 2 (by decide) (Or.inr ⟨_, q268⟩) dX1_fact_107 ?_
            exact kret _ _ _ _ _ _ ⟨bf_so hf, rfl⟩ hd dX1_fact_110
        · have hf := bf_ie hf c_24
          by_cases c_27 : x1 = 4
          · have hf := bf_it hf c_27
            refine bf_top c_27.symm ?_
            refine lv_tableIn (tgt := 111) hx hb dX1_fact_1 (by decide) (by decide) rfl (by decide) ?_
            refine lv_aload_n hx hb dX1_fact_111 rfl (lv_at hl 0 rfl) ?_
            refine bf_rC X hd (bf_pC_hC G ν c q T) 26 (by decide) (Or.inl q355) rfl dX1_fact_112 ?_
            rcases bf_opt (T.2) with et_28 | ⟨t_28, et_28⟩
            · have hf := bf_q_n hf et_28
              refine bf_ift (q := Option.map (fun t => c + 166 + t) T.2) (q' := none) (by rw [et_28]; rfl) ?_
              refine lv_ifnonnullN hx hb dX1_fact_115 ?_
              refine lv_iconst (v := 0) hx hb dX1_fact_118 (by decide) ?_
              refine lv_goto (tgt := 129) hx hb dX1_fact_119 (by decide) ?_
              exact kret _ _ _ _ _ _ ⟨bf_so hf, rfl⟩ hd dX1_fact_129
            · have hf := bf_q_s hf et_28
              refine bf_ift (q := Option.map (fun t => c + 166 + t) T.2) (q' := some (c + 166 + t_28)) (by rw [et_28]; rfl) ?_
              refine lv_ifnonnull (tgt := 122) hx hb dX1_fact_115 (by decide) ?_
              refine lv_aload_n hx hb dX1_fact_122 rfl (lv_at hl 0 rfl) ?_
              refine bf_rC X hd (bf_pC_hC G ν c q T) 26 (by decide) (Or.inl q355) rfl dX1_fact_123 ?_
              refine bf_ift (q := Option.map (fun t => c + 166 + t) T.2) (q' := some (c + 166 + t_28)) (by rw [et_28]; rfl) ?_
              obtain ⟨g_29, hf⟩ := bf_c_some hf
              refine bf_rT X hd (bf_pC_hC G ν c q T) (of_decide_eq_true g_29) 3 (by decide) (Or.inr ⟨_, q271⟩) dX1_fact_126 ?_
              exact kret _ _ _ _ _ _ ⟨bf_so hf, rfl⟩ hd dX1_fact_129
          · have hf := bf_ie hf c_27
            by_cases c_30 : x1 = 5
            · have hf := bf_it hf c_30
              refine bf_top c_30.symm ?_
              refine lv_tableIn (tgt := 130) hx hb dX1_fact_1 (by decide) (by decide) rfl (by decide) ?_
              refine lv_aload_n hx hb dX1_fact_130 rfl (lv_at hl 0 rfl) ?_
              refine bf_rC X hd (bf_pC_hC G ν c q T) 28 (by decide) (Or.inl q357) rfl dX1_fact_131 ?_
              exact kret _ _ _ _ _ _ ⟨bf_so hf, rfl⟩ hd dX1_fact_134
            · have hf := bf_ie hf c_30
              by_cases c_31 : x1 = 6
              · have hf := bf_it hf c_31
                refine bf_top c_31.symm ?_
                refine lv_tableIn (tgt := 135) hx hb dX1_fact_1 (by decide) (by decide) rfl (by decide) ?_
                refine lv_aload_n hx hb dX1_fact_135 rfl (lv_at hl 0 rfl) ?_
                refine bf_rC X hd (bf_pC_hC G ν c q T) 29 (by decide) (Or.inl q358) rfl dX1_fact_136 ?_
                exact kret _ _ _ _ _ _ ⟨bf_so hf, rfl⟩ hd dX1_fact_139
              · have hf := bf_ie hf c_31
                by_cases c_32 : x1 = 7
                · have hf := bf_it hf c_32
                  refine bf_top c_32.symm ?_
                  refine lv_tableIn (tgt := 140) hx hb dX1_fact_1 (by decide) (by decide) rfl (by decide) ?_
                  refine lv_aload_n hx hb dX1_fact_140 rfl (lv_at hl 0 rfl) ?_
                  refine bf_rC X hd (bf_pC_hC G ν c q T) 30 (by decide) (Or.inl q359) rfl dX1_fact_141 ?_
                  exact kret _ _ _ _ _ _ ⟨bf_so hf, rfl⟩ hd dX1_fact_144
                · have hf := bf_ie hf c_32
                  refine lv_tableOut (tgt := 145) hx hb dX1_fact_1 (by have := lv_neT c_18 (a := 0) rfl; have := lv_neT c_19 (a := 1) rfl; have := lv_neT c_21 (a := 2) rfl; have := lv_neT c_24 (a := 3) rfl; have := lv_neT c_27 (a := 4) rfl; have := lv_neT c_30 (a := 5) rfl; have := lv_neT c_31 (a := 6) rfl; have := lv_neT c_32 (a := 7) rfl; omega) (by decide) ?_
                  refine lv_aload_n hx hb dX1_fact_145 rfl (lv_at hl 0 rfl) ?_
                  refine bf_rC X hd (bf_pC_hC G ν c q T) 27 (by decide) (Or.inl q356) rfl dX1_fact_146 ?_
                  refine lv_iconst (v := (-1)) hx hb dX1_fact_149 (by decide) ?_
                  refine lv_icmp_ne (tgt := 157) hx hb dX1_fact_150 (by decide) (fun c_33 => ?_) (fun c_33 => ?_)
                  · have hf := bf_ie hf c_33
                    refine lv_aload_n hx hb dX1_fact_157 rfl (lv_at hl 0 rfl) ?_
                    refine bf_rC (v := .ref (c + 1)) X hd (bf_pC_hC G ν c q T) 0 (by decide) (Or.inl q299) rfl dX1_fact_158 ?_
                    refine lv_aload_n hx hb dX1_fact_161 rfl (lv_at hl 0 rfl) ?_
                    refine bf_rC X hd (bf_pC_hC G ν c q T) 27 (by decide) (Or.inl q356) rfl dX1_fact_162 ?_
                    obtain ⟨g_34, hf⟩ := bf_c_some hf
                    refine bf_aald (v := .ref (c + 161 + (T.1 0 27 0).toNatClampNeg)) X hd (bf_c1 (bf_pC_hC G ν c q T)) 2 rfl rfl g_34 rfl dX1_fact_165 ?_
                    refine bf_rP X hd (bf_pC_hC G ν c q T) (bf_in_lt g_34) 2 (by decide) (Or.inr ⟨_, q247⟩) dX1_fact_166 ?_
                    exact kret _ _ _ _ _ _ ⟨bf_so hf, rfl⟩ hd dX1_fact_169
                  · have hf := bf_it hf c_33
                    refine lv_iconst (v := 0) hx hb dX1_fact_153 (by decide) ?_
                    refine lv_goto (tgt := 169) hx hb dX1_fact_154 (by decide) ?_
                    exact kret _ _ _ _ _ _ ⟨bf_so hf, rfl⟩ hd dX1_fact_169
def fX1_asks (T : bf_CS) (t1 : Option Nat) (x2 : Int32) (x3 : Int32) (x4 : Int32) (x5 : Int32) : Option (bf_CS) := bf_l (bf_uq T t1) fun T_1 => bf_l (bf_u3 T_1 0 27 0 x2) fun T_2 => bf_l (bf_u3 T_2 0 28 0 x3) fun T_3 => bf_l (bf_u3 T_3 0 29 0 x4) fun T_4 => bf_l (bf_u3 T_4 0 30 0 x5) fun T_5 => some T_5
set_option maxHeartbeats 4000000 in
theorem mX1_asks (l : Launch) (G : bf_G) (ν : bf_V) (c : Nat) (q : Nat → Nat) (T : bf_CS) (t1 : Option Nat) (x2 : Int32) (x3 : Int32) (x4 : Int32) (x5 : Int32) {T' : bf_CS} (hf : fX1_asks T t1 x2 x3 x4 x5 = some T') : bf_MV l G yX1_asks cX1_asks 6 (bf_rm 0) [.ref c, va_rf (Option.map (fun t => c + 166 + t) t1), .int x2, .int x3, .int x4, .int x5] (bf_pC G ν c q T) (fun σ' => σ' = bf_pC G ν c q T') := by
  refine bf_MV.of rfl (by cases t1 <;> exact Nat.le_of_ble_eq_true rfl) ?_
  intro p e s m below meth c' Q X hlk hnm kret hd ls hl
  have hx := X.1
  have hb := X.2.1
  have hml := X.2.2.1
  have hown := X.2.2.2.1
  have hts := X.2.2.2.2
  have hl : lv_has ls 6 [(0, .ref c), (1, va_rf (Option.map (fun t => c + 166 + t) t1)), (2, .int x2), (3, .int x3), (4, .int x4), (5, .int x5)] := by cases t1 <;> exact hl
  unfold fX1_asks at hf
  refine lv_aload_n hx hb dX1_asks_0 rfl (lv_at hl 0 rfl) ?_
  refine bf_aload_n hx hb dX1_asks_1 rfl (lv_at hl 1 rfl) ?_
  refine bf_xA (t := t1) X hd (Or.inl q355) dX1_asks_2 (fun H locs hd => ?_)
  obtain ⟨T_6, eT_6, hf⟩ := bf_l_e hf
  have hd := hd.of (congrArg (bf_pC G ν c q) eT_6.symm)
  refine lv_aload_n hx hb dX1_asks_5 rfl (lv_at hl 0 rfl) ?_
  refine lv_iload_n hx hb dX1_asks_6 rfl (lv_at hl 2 rfl) ?_
  refine bf_xC X hd 27 (by decide) ⟨by decide, rfl, rfl⟩ (Or.inl q356) dX1_asks_7 (fun H locs hd => ?_)
  obtain ⟨T_7, eT_7, hf⟩ := bf_l_e hf
  have hd := hd.of (congrArg (bf_pC G ν c q) eT_7.symm)
  refine lv_aload_n hx hb dX1_asks_10 rfl (lv_at hl 0 rfl) ?_
  refine lv_iload_n hx hb dX1_asks_11 rfl (lv_at hl 3 rfl) ?_
  refine bf_xC X hd 28 (by decide) ⟨by decide, rfl, rfl⟩ (Or.inl q357) dX1_asks_12 (fun H locs hd => ?_)
  obtain ⟨T_8, eT_8, hf⟩ := bf_l_e hf
  have hd := hd.of (congrArg (bf_pC G ν c q) eT_8.symm)
  refine lv_aload_n hx hb dX1_asks_15 rfl (lv_at hl 0 rfl) ?_
  refine lv_iload hx hb dX1_asks_16 (lv_at hl 4 rfl) ?_
  refine bf_xC X hd 29 (by decide) ⟨by decide, rfl, rfl⟩ (Or.inl q358) dX1_asks_18 (fun H locs hd => ?_)
  obtain ⟨T_9, eT_9, hf⟩ := bf_l_e hf
  have hd := hd.of (congrArg (bf_pC G ν c q) eT_9.symm)
  refine lv_aload_n hx hb dX1_asks_21 rfl (lv_at hl 0 rfl) ?_
  refine lv_iload hx hb dX1_asks_22 (lv_at hl 5 rfl) ?_
  refine bf_xC X hd 30 (by decide) ⟨by decide, rfl, rfl⟩ (Or.inl q359) dX1_asks_24 (fun H locs hd => ?_)
  obtain ⟨T_10, eT_10, hf⟩ := bf_l_e hf
  have hd := hd.of (congrArg (bf_pC G ν c q) eT_10.symm)
  exact kret _ _ _ _ _ (congrArg (bf_pC G ν c q) (bf_so hf)) hd dX1_asks_27
def fX1_isFenced (T : bf_CS) (x1 : Int32) : Int32 := if (((T.1 0 17 0) >>> (x1 &&& 31)) &&& 1) = 1 then (1) else (0)
set_option maxHeartbeats 4000000 in
theorem mX1_isFenced (l : Launch) (G : bf_G) (ν : bf_V) (c : Nat) (q : Nat → Nat) (T : bf_CS) (x1 : Int32) {r : Int32} (hf : fX1_isFenced T x1 = r) : bf_MZ l G yX1_isFenced cX1_isFenced 2 (bf_rm 0) [.ref c, .int x1] (bf_pC G ν c q T) (fun v σ' => v = r ∧ σ' = bf_pC G ν c q T) := by
  refine bf_MZ.of rfl (Nat.le_of_ble_eq_true rfl) ?_
  intro p e s m below meth c' Q X hlk hnm kret hd ls hl
  have hx := X.1
  have hb := X.2.1
  have hml := X.2.2.1
  have hown := X.2.2.2.1
  have hts := X.2.2.2.2
  have hl : lv_has ls 2 [(0, .ref c), (1, .int x1)] := hl
  unfold fX1_isFenced at hf
  refine lv_aload_n hx hb dX1_isFenced_0 rfl (lv_at hl 0 rfl) ?_
  refine bf_rC X hd (bf_pC_hC G ν c q T) 17 (by decide) (Or.inl q337) rfl dX1_isFenced_1 ?_
  refine lv_iload_n hx hb dX1_isFenced_4 rfl (lv_at hl 1 rfl) ?_
  refine lv_ishr hx hb dX1_isFenced_5 ?_
  refine lv_iconst (v := 1) hx hb dX1_isFenced_6 (by decide) ?_
  refine lv_iand hx hb dX1_isFenced_7 ?_
  refine lv_iconst (v := 1) hx hb dX1_isFenced_8 (by decide) ?_
  refine lv_icmp_ne (tgt := 16) hx hb dX1_isFenced_9 (by decide) (fun c_2 => ?_) (fun c_2 => ?_)
  · have hf := bf_ie hf c_2
    refine lv_iconst (v := 0) hx hb dX1_isFenced_16 (by decide) ?_
    exact kret _ _ _ _ _ _ ⟨hf, rfl⟩ (Or.inl rfl) hd dX1_isFenced_17
  · have hf := bf_it hf c_2
    refine lv_iconst (v := 1) hx hb dX1_isFenced_12 (by decide) ?_
    refine lv_goto (tgt := 17) hx hb dX1_isFenced_13 (by decide) ?_
    exact kret _ _ _ _ _ _ ⟨hf, rfl⟩ (Or.inr rfl) hd dX1_isFenced_17
def fX1_plants (T : bf_CS) (x1 : Int32) (x2 : Int32) (x3 : Int32) : Option (Int32 × bf_CS) := bf_c (bf_in (T.1 0 11 0) 14) <| bf_l (bf_u3 T 2 ((T.1 0 11 0).toNatClampNeg) 0 x1) fun T_2 => bf_l (bf_u3 T_2 2 ((T.1 0 11 0).toNatClampNeg) 1 x2) fun T_3 => bf_l (bf_u3 T_3 2 ((T.1 0 11 0).toNatClampNeg) 2 x3) fun T_4 => bf_l (bf_u3 T_4 2 ((T.1 0 11 0).toNatClampNeg) 3 0) fun T_5 => bf_l (bf_u3 T_5 0 11 0 ((T_5.1 0 11 0) + 1)) fun T_6 => bf_b (fX1_notes T_6 0 ((T_6.1 0 11 0) - 1) 0) fun T_7 => some (((T_7.1 0 11 0) - 1), T_7)
set_option maxHeartbeats 4000000 in
theorem mX1_plants (l : Launch) (G : bf_G) (ν : bf_V) (c : Nat) (q : Nat → Nat) (T : bf_CS) (x1 : Int32) (x2 : Int32) (x3 : Int32) {r : Int32} {T' : bf_CS} (hf : fX1_plants T x1 x2 x3 = some (r, T')) : bf_MI l G yX1_plants cX1_plants 5 (bf_rm 1) [.ref c, .int x1, .int x2, .int x3] (bf_pC G ν c q T) (fun v σ' => v = r ∧ σ' = bf_pC G ν c q T') := by
  refine bf_MI.of rfl (Nat.le_of_ble_eq_true rfl) ?_
  intro p e s m below meth c' Q X hlk hnm kret hd ls hl
  have hx := X.1
  have hb := X.2.1
  have hml := X.2.2.1
  have hown := X.2.2.2.1
  have hts := X.2.2.2.2
  have hl : lv_has ls 5 [(0, .ref c), (1, .int x1), (2, .int x2), (3, .int x3)] := hl
  unfold fX1_plants at hf
  refine lv_aload_n hx hb dX1_plants_0 rfl (lv_at hl 0 rfl) ?_
  refine bf_rC (v := .ref (c + 2)) X hd (bf_pC_hC G ν c q T) 1 (by decide) (Or.inl q301) rfl dX1_plants_1 ?_
  refine lv_aload_n hx hb dX1_plants_4 rfl (lv_at hl 0 rfl) ?_
  refine bf_rC X hd (bf_pC_hC G ν c q T) 11 (by decide) (Or.inl q324) rfl dX1_plants_5 ?_
  obtain ⟨g_8, hf⟩ := bf_c_some hf
  refine bf_aald (v := .ref (c + 166 + (T.1 0 11 0).toNatClampNeg)) X hd (bf_c2 (bf_pC_hC G ν c q T)) 3 rfl rfl g_8 rfl dX1_plants_8 ?_
  refine lv_astore (lv' := [(4, .ref (c + 166 + (T.1 0 11 0).toNatClampNeg)), (0, .ref c), (1, .int x1), (2, .int x2), (3, .int x3)]) hx hb dX1_plants_9 hl (by decide) rfl (fun ls hl => ?_)
  refine lv_aload hx hb dX1_plants_11 (lv_at hl 0 rfl) ?_
  refine lv_iload_n hx hb dX1_plants_13 rfl (lv_at hl 2 rfl) ?_
  refine bf_xT X hd (bf_in_lt g_8) 0 (by decide) (Or.inr ⟨_, q262⟩) dX1_plants_14 (fun H locs hd => ?_)
  obtain ⟨T_9, eT_9, hf⟩ := bf_l_e hf
  have hd := hd.of (congrArg (bf_pC G ν c q) eT_9.symm)
  refine lv_aload hx hb dX1_plants_17 (lv_at hl 0 rfl) ?_
  refine lv_iload_n hx hb dX1_plants_19 rfl (lv_at hl 3 rfl) ?_
  refine bf_xT X hd (bf_in_lt g_8) 1 (by decide) (Or.inr ⟨_, q265⟩) dX1_plants_20 (fun H locs hd => ?_)
  obtain ⟨T_10, eT_10, hf⟩ := bf_l_e hf
  have hd := hd.of (congrArg (bf_pC G ν c q) eT_10.symm)
  refine lv_aload hx hb dX1_plants_23 (lv_at hl 0 rfl) ?_
  refine lv_iload_n hx hb dX1_plants_25 rfl (lv_at hl 4 rfl) ?_
  refine bf_xT X hd (bf_in_lt g_8) 2 (by decide) (Or.inr ⟨_, q268⟩) dX1_plants_26 (fun H locs hd => ?_)
  obtain ⟨T_11, eT_11, hf⟩ := bf_l_e hf
  have hd := hd.of (congrArg (bf_pC G ν c q) eT_11.symm)
  refine lv_aload hx hb dX1_plants_29 (lv_at hl 0 rfl) ?_
  refine lv_iconst (v := 0) hx hb dX1_plants_31 (by decide) ?_
  refine bf_xT X hd (bf_in_lt g_8) 3 (by decide) (Or.inr ⟨_, q271⟩) dX1_plants_32 (fun H locs hd => ?_)
  obtain ⟨T_12, eT_12, hf⟩ := bf_l_e hf
  have hd := hd.of (congrArg (bf_pC G ν c q) eT_12.symm)
  refine lv_aload_n hx hb dX1_plants_35 rfl (lv_at hl 1 rfl) ?_
  refine lv_dup hx hb dX1_plants_36 rfl ?_
  refine bf_rC X hd (bf_pC_hC G ν c q T_12) 11 (by decide) (Or.inl q324) rfl dX1_plants_37 ?_
  refine lv_iconst (v := 1) hx hb dX1_plants_40 (by decide) ?_
  refine lv_iadd hx hb dX1_plants_41 ?_
  refine bf_xC X hd 11 (by decide) ⟨by decide, rfl, rfl⟩ (Or.inl q324) dX1_plants_42 (fun H locs hd => ?_)
  obtain ⟨T_13, eT_13, hf⟩ := bf_l_e hf
  have hd := hd.of (congrArg (bf_pC G ν c q) eT_13.symm)
  refine lv_aload_n hx hb dX1_plants_45 rfl (lv_at hl 1 rfl) ?_
  refine lv_iconst (v := 0) hx hb dX1_plants_46 (by decide) ?_
  refine lv_aload_n hx hb dX1_plants_47 rfl (lv_at hl 1 rfl) ?_
  refine bf_rC X hd (bf_pC_hC G ν c q T_13) 11 (by decide) (Or.inl q324) rfl dX1_plants_48 ?_
  refine lv_iconst (v := 1) hx hb dX1_plants_51 (by decide) ?_
  refine lv_isub hx hb dX1_plants_52 ?_
  refine lv_iconst (v := 0) hx hb dX1_plants_53 (by decide) ?_
  obtain ⟨T_14, eT_14, hf⟩ := bf_b_some hf
  refine bf_ccv (n := 3) (As := [.int 0, .int ((T_13.1 0 11 0) - 1), .int 0]) (rest := []) X hd (mX1_notes l G ν c q T_13 0 ((T_13.1 0 11 0) - 1) 0 eT_14) (lw_V q1041 q1043 qs33 q149 q1044) (by decide +kernel) ⟨Nat.le_of_ble_eq_true rfl, Nat.le_of_ble_eq_true rfl⟩ rfl hl.1 rfl (Nat.le_of_ble_eq_true rfl) dX1_plants_54 ⟨Nat.le_of_ble_eq_true rfl, Nat.le_of_ble_eq_true rfl⟩ (fun H locs hd => ?_)
  refine lv_aload_n hx hb dX1_plants_57 rfl (lv_at hl 1 rfl) ?_
  refine bf_rC X hd (bf_pC_hC G ν c q T_14) 11 (by decide) (Or.inl q324) rfl dX1_plants_58 ?_
  refine lv_iconst (v := 1) hx hb dX1_plants_61 (by decide) ?_
  refine lv_isub hx hb dX1_plants_62 ?_
  exact kret _ _ _ _ _ _ ⟨(bf_pr hf).1, congrArg (bf_pC G ν c q) (bf_pr hf).2⟩ hd dX1_plants_63
def fX1_fences_39 (x1 : Int32) (t39_0 : Int32) (T39 : bf_CS) : Option (bf_CS) := bf_b (fX1_notes T39 t39_0 x1 0) fun T_3 => some T_3
def fX1_fences_26 (x1 : Int32) (x2 : Int32) (t26_0 : Int32) (T26 : bf_CS) : Option (bf_CS) := bf_l (bf_u3 T26 0 17 0 t26_0) fun T_1 => if x2 = 0 then (fX1_fences_39 x1 2 T_1) else (fX1_fences_39 x1 1 T_1)
def fX1_fences (T : bf_CS) (x1 : Int32) (x2 : Int32) : Option (bf_CS) := if x2 = 0 then (fX1_fences_26 x1 x2 ((T.1 0 17 0) &&& ((1 <<< (x1 &&& 31)) ^^^ (-1))) T) else (fX1_fences_26 x1 x2 ((T.1 0 17 0) ||| (1 <<< (x1 &&& 31))) T)
set_option maxHeartbeats 4000000 in
theorem mX1_fences (l : Launch) (G : bf_G) (ν : bf_V) (c : Nat) (q : Nat → Nat) (T : bf_CS) (x1 : Int32) (x2 : Int32) {T' : bf_CS} (hf : fX1_fences T x1 x2 = some T') : bf_MV l G yX1_fences cX1_fences 3 (bf_rm 1) [.ref c, .int x1, .int x2] (bf_pC G ν c q T) (fun σ' => σ' = bf_pC G ν c q T') := by
  refine bf_MV.of rfl (Nat.le_of_ble_eq_true rfl) ?_
  intro p e s m below meth c' Q X hlk hnm kret hd ls hl
  have hx := X.1
  have hb := X.2.1
  have hml := X.2.2.1
  have hown := X.2.2.2.1
  have hts := X.2.2.2.2
  have hl : lv_has ls 3 [(0, .ref c), (1, .int x1), (2, .int x2)] := hl
  have J39 : ∀ (t39_0 : Int32) (T39 : bf_CS) (H : Heap) (locs : List Loc) (ls : Array Slot), fX1_fences_39 x1 t39_0 T39 = some T' → bf_Dy G s H locs (bf_pC G ν c q T39) → lv_has ls 3 [(1, .int x1)] → W p l e (bf_rm 1) s m ([.ref c, .int x1, .int x2] : List Value).toArray below meth c' H locs 0 0 Q (F0 m 39 ls [.int t39_0, .ref c]) := by
    intro t39_0 T39 H locs ls hf hd hl
    unfold fX1_fences_39 at hf
    refine lv_iload_n hx hb dX1_fences_39 rfl (lv_at hl 0 rfl) ?_
    refine lv_iconst (v := 0) hx hb dX1_fences_40 (by decide) ?_
    obtain ⟨T_5, eT_5, hf⟩ := bf_b_some hf
    refine bf_ccv (n := 3) (As := [.int t39_0, .int x1, .int 0]) (rest := []) X hd (mX1_notes l G ν c q T39 t39_0 x1 0 eT_5) (lw_V q1041 q1043 qs33 q149 q1044) (by decide +kernel) ⟨Nat.le_of_ble_eq_true rfl, Nat.le_of_ble_eq_true rfl⟩ rfl hl.1 rfl (Nat.le_of_ble_eq_true rfl) dX1_fences_41 ⟨Nat.le_of_ble_eq_true rfl, Nat.le_of_ble_eq_true rfl⟩ (fun H locs hd => ?_)
    exact kret _ _ _ _ _ (congrArg (bf_pC G ν c q) (bf_so hf)) hd dX1_fences_44
  have J26 : ∀ (t26_0 : Int32) (T26 : bf_CS) (H : Heap) (locs : List Loc) (ls : Array Slot), fX1_fences_26 x1 x2 t26_0 T26 = some T' → bf_Dy G s H locs (bf_pC G ν c q T26) → lv_has ls 3 [(0, .ref c), (1, .int x1), (2, .int x2)] → W p l e (bf_rm 1) s m ([.ref c, .int x1, .int x2] : List Value).toArray below meth c' H locs 0 0 Q (F0 m 26 ls [.int t26_0, .ref c]) := by
    intro t26_0 T26 H locs ls hf hd hl
    unfold fX1_fences_26 at hf
    refine bf_xC X hd 17 (by decide) ⟨by decide, rfl, rfl⟩ (Or.inl q337) dX1_fences_26 (fun H locs hd => ?_)
    obtain ⟨T_6, eT_6, hf⟩ := bf_l_e hf
    have hd := hd.of (congrArg (bf_pC G ν c q) eT_6.symm)
    refine lv_aload_n hx hb dX1_fences_29 rfl (lv_at hl 0 rfl) ?_
    refine lv_iload_n hx hb dX1_fences_30 rfl (lv_at hl 2 rfl) ?_
    refine lv_if_eq (tgt := 38) hx hb dX1_fences_31 (by decide) (fun c_7 => ?_) (fun c_7 => ?_)
    · have hf := bf_it hf c_7
      refine lv_iconst (v := 2) hx hb dX1_fences_38 (by decide) ?_
      exact J39 2 T_6 _ _ _ hf hd (lv_sub hl [1] rfl)
    · have hf := bf_ie hf c_7
      refine lv_iconst (v := 1) hx hb dX1_fences_34 (by decide) ?_
      refine lv_goto (tgt := 39) hx hb dX1_fences_35 (by decide) ?_
      exact J39 1 T_6 _ _ _ hf hd (lv_sub hl [1] rfl)
  unfold fX1_fences at hf
  refine lv_aload_n hx hb dX1_fences_0 rfl (lv_at hl 0 rfl) ?_
  refine lv_iload_n hx hb dX1_fences_1 rfl (lv_at hl 2 rfl) ?_
  refine lv_if_eq (tgt := 16) hx hb dX1_fences_2 (by decide) (fun c_8 => ?_) (fun c_8 => ?_)
  · have hf := bf_it hf c_8
    refine lv_aload_n hx hb dX1_fences_16 rfl (lv_at hl 0 rfl) ?_
    refine bf_rC X hd (bf_pC_hC G ν c q T) 17 (by decide) (Or.inl q337) rfl dX1_fences_17 ?_
    refine lv_iconst (v := 1) hx hb dX1_fences_20 (by decide) ?_
    refine lv_iload_n hx hb dX1_fences_21 rfl (lv_at hl 1 rfl) ?_
    refine lv_ishl hx hb dX1_fences_22 ?_
    refine lv_iconst (v := (-1)) hx hb dX1_fences_23 (by decide) ?_
    refine lv_ixor hx hb dX1_fences_24 ?_
    refine lv_iand hx hb dX1_fences_25 ?_
    exact J26 ((T.1 0 17 0) &&& ((1 <<< (x1 &&& 31)) ^^^ (-1))) T _ _ _ hf hd (lv_sub hl [0, 1, 2] rfl)
  · have hf := bf_ie hf c_8
    refine lv_aload_n hx hb dX1_fences_5 rfl (lv_at hl 0 rfl) ?_
    refine bf_rC X hd (bf_pC_hC G ν c q T) 17 (by decide) (Or.inl q337) rfl dX1_fences_6 ?_
    refine lv_iconst (v := 1) hx hb dX1_fences_9 (by decide) ?_
    refine lv_iload_n hx hb dX1_fences_10 rfl (lv_at hl 1 rfl) ?_
    refine lv_ishl hx hb dX1_fences_11 ?_
    refine lv_ior hx hb dX1_fences_12 ?_
    refine lv_goto (tgt := 26) hx hb dX1_fences_13 (by decide) ?_
    exact J26 ((T.1 0 17 0) ||| (1 <<< (x1 &&& 31))) T _ _ _ hf hd (lv_sub hl [0, 1, 2] rfl)
def fX1_boils_75 (x1 : Int32) (x2 : Int32) (w75_3 : Int32) (T75 : bf_CS) : Option (Int32 × bf_CS) := bf_c (bf_in x1 5) <| bf_c (bf_in x1 5) <| bf_l (bf_u3 T75 1 x1.toNatClampNeg 0 (bf_mmin 999 (((T75.1 1 x1.toNatClampNeg 0) + x2) - w75_3))) fun T_12 => bf_b (fX1_notes T_12 3 x1 (x2 - w75_3)) fun T_13 => some ((x2 - w75_3), T_13)
def fX1_boils_69 (k5 : Int32 → Int32 → bf_CS → Option (Int32 × bf_CS)) (x1 : Int32) (x2 : Int32) (w69_3 : Int32) (w69_4 : Int32) (T69 : bf_CS) : Option (Int32 × bf_CS) := bf_l (w69_4 + 1) fun x4_9 => k5 w69_3 x4_9 T69
def fX1_boils_5b (x1 : Int32) (x2 : Int32) (k5 : Int32 → Int32 → bf_CS → Option (Int32 × bf_CS)) (v5_3 : Int32) (v5_4 : Int32) (T5 : bf_CS) : Option (Int32 × bf_CS) := if (T5.1 0 11 0) ≤ v5_4 then (fX1_boils_75 x1 x2 v5_3 T5) else (bf_c (bf_in v5_4 14) <| if (T5.1 2 v5_4.toNatClampNeg 0) = x1 then (bf_c (bf_in v5_4 14) <| bf_l ((bf_mmin v5_3 (T5.1 2 v5_4.toNatClampNeg 3))) fun x5_5 => bf_c (bf_in v5_4 14) <| bf_l (bf_u3 T5 2 v5_4.toNatClampNeg 3 ((T5.1 2 v5_4.toNatClampNeg 3) - x5_5)) fun T_7 => bf_l ((v5_3 - x5_5)) fun x3_8 => fX1_boils_69 k5 x1 x2 x3_8 v5_4 T_7) else (fX1_boils_69 k5 x1 x2 v5_3 v5_4 T5))
def fX1_boils_5 (x1 : Int32) (x2 : Int32) : Nat → Int32 → Int32 → bf_CS → Option (Int32 × bf_CS)
  | 0, _, _, _ => none
  | n + 1, v5_3, v5_4, T5 => fX1_boils_5b x1 x2 (fX1_boils_5 x1 x2 n) v5_3 v5_4 T5
def fX1_boils (T : bf_CS) (x1 : Int32) (x2 : Int32) : Option (Int32 × bf_CS) := fX1_boils_5 x1 x2 bf_fuel x2 0 T
set_option maxHeartbeats 4000000 in
theorem mX1_boils (l : Launch) (G : bf_G) (ν : bf_V) (c : Nat) (q : Nat → Nat) (T : bf_CS) (x1 : Int32) (x2 : Int32) {r : Int32} {T' : bf_CS} (hf : fX1_boils T x1 x2 = some (r, T')) : bf_MI l G yX1_boils cX1_boils 6 (bf_rm 1) [.ref c, .int x1, .int x2] (bf_pC G ν c q T) (fun v σ' => v = r ∧ σ' = bf_pC G ν c q T') := by
  refine bf_MI.of rfl (Nat.le_of_ble_eq_true rfl) ?_
  intro p e s m below meth c' Q X hlk hnm kret hd ls hl
  have hx := X.1
  have hb := X.2.1
  have hml := X.2.2.1
  have hown := X.2.2.2.1
  have hts := X.2.2.2.2
  have hl : lv_has ls 6 [(0, .ref c), (1, .int x1), (2, .int x2)] := hl
  have J75 : ∀ (w75_3 : Int32) (T75 : bf_CS) (H : Heap) (locs : List Loc) (ls : Array Slot), fX1_boils_75 x1 x2 w75_3 T75 = some (r, T') → bf_Dy G s H locs (bf_pC G ν c q T75) → lv_has ls 6 [(0, .ref c), (1, .int x1), (2, .int x2), (3, .int w75_3)] → W p l e (bf_rm 1) s m ([.ref c, .int x1, .int x2] : List Value).toArray below meth c' H locs 0 0 Q (F0 m 75 ls []) := by
    intro w75_3 T75 H locs ls hf hd hl
    unfold fX1_boils_75 at hf
    refine lv_aload_n hx hb dX1_boils_75 rfl (lv_at hl 0 rfl) ?_
    refine bf_rC (v := .ref (c + 1)) X hd (bf_pC_hC G ν c q T75) 0 (by decide) (Or.inl q299) rfl dX1_boils_76 ?_
    refine lv_iload_n hx hb dX1_boils_79 rfl (lv_at hl 1 rfl) ?_
    obtain ⟨g_14, hf⟩ := bf_c_some hf
    refine bf_aald (v := .ref (c + 161 + x1.toNatClampNeg)) X hd (bf_c1 (bf_pC_hC G ν c q T75)) 2 rfl rfl g_14 rfl dX1_boils_80 ?_
    refine lv_sipush (v := 999) hx hb dX1_boils_81 (by decide) ?_
    refine lv_aload_n hx hb dX1_boils_84 rfl (lv_at hl 0 rfl) ?_
    refine bf_rC (v := .ref (c + 1)) X hd (bf_pC_hC G ν c q T75) 0 (by decide) (Or.inl q299) rfl dX1_boils_85 ?_
    refine lv_iload_n hx hb dX1_boils_88 rfl (lv_at hl 1 rfl) ?_
    obtain ⟨g_15, hf⟩ := bf_c_some hf
    refine bf_aald (v := .ref (c + 161 + x1.toNatClampNeg)) X hd (bf_c1 (bf_pC_hC G ν c q T75)) 2 rfl rfl g_15 rfl dX1_boils_89 ?_
    refine bf_rP X hd (bf_pC_hC G ν c q T75) (bf_in_lt g_15) 0 (by decide) (Or.inr ⟨_, q242⟩) dX1_boils_90 ?_
    refine lv_iload_n hx hb dX1_boils_93 rfl (lv_at hl 2 rfl) ?_
    refine lv_iadd hx hb dX1_boils_94 ?_
    refine lv_iload_n hx hb dX1_boils_95 rfl (lv_at hl 3 rfl) ?_
    refine lv_isub hx hb dX1_boils_96 ?_
    refine va_mmin hx hb (hml.trans hl.1.symm) hown (hts _ q1065) (hts _ q875) (hts _ q157) (hts _ q876) (Nat.le_of_ble_eq_true rfl) (Nat.le_of_ble_eq_true rfl) (Nat.le_of_ble_eq_true rfl) (Nat.le_of_ble_eq_true rfl) dX1_boils_97 ?_
    refine bf_xP X hd (bf_in_lt g_14) 0 (by decide) (Or.inr ⟨_, q242⟩) dX1_boils_100 (fun H locs hd => ?_)
    obtain ⟨T_16, eT_16, hf⟩ := bf_l_e hf
    have hd := hd.of (congrArg (bf_pC G ν c q) eT_16.symm)
    refine lv_aload_n hx hb dX1_boils_103 rfl (lv_at hl 0 rfl) ?_
    refine lv_iconst (v := 3) hx hb dX1_boils_104 (by decide) ?_
    refine lv_iload_n hx hb dX1_boils_105 rfl (lv_at hl 1 rfl) ?_
    refine lv_iload_n hx hb dX1_boils_106 rfl (lv_at hl 2 rfl) ?_
    refine lv_iload_n hx hb dX1_boils_107 rfl (lv_at hl 3 rfl) ?_
    refine lv_isub hx hb dX1_boils_108 ?_
    obtain ⟨T_17, eT_17, hf⟩ := bf_b_some hf
    refine bf_ccv (n := 3) (As := [.int 3, .int x1, .int (x2 - w75_3)]) (rest := []) X hd (mX1_notes l G ν c q T_16 3 x1 (x2 - w75_3) eT_17) (lw_V q1041 q1043 qs33 q149 q1044) (by decide +kernel) ⟨Nat.le_of_ble_eq_true rfl, Nat.le_of_ble_eq_true rfl⟩ rfl hl.1 rfl (Nat.le_of_ble_eq_true rfl) dX1_boils_109 ⟨Nat.le_of_ble_eq_true rfl, Nat.le_of_ble_eq_true rfl⟩ (fun H locs hd => ?_)
    refine lv_iload_n hx hb dX1_boils_112 rfl (lv_at hl 2 rfl) ?_
    refine lv_iload_n hx hb dX1_boils_113 rfl (lv_at hl 3 rfl) ?_
    refine lv_isub hx hb dX1_boils_114 ?_
    exact kret _ _ _ _ _ _ ⟨(bf_pr hf).1, congrArg (bf_pC G ν c q) (bf_pr hf).2⟩ hd dX1_boils_115
  have L5 : ∀ (n5 : Nat) (v5_3 : Int32) (v5_4 : Int32) (T5 : bf_CS) (H : Heap) (locs : List Loc) (ls : Array Slot), fX1_boils_5 x1 x2 n5 v5_3 v5_4 T5 = some (r, T') → bf_Dy G s H locs (bf_pC G ν c q T5) → lv_has ls 6 [(0, .ref c), (1, .int x1), (2, .int x2), (3, .int v5_3), (4, .int v5_4)] → W p l e (bf_rm 1) s m ([.ref c, .int x1, .int x2] : List Value).toArray below meth c' H locs 0 0 Q (F0 m 5 ls []) := by
    intro n5
    induction n5 with
    | zero =>
      intro v5_3 v5_4 T5 H locs ls hf hd hl
      exact absurd (show (none : Option (Int32 × bf_CS)) = some (r, T') from hf) (by intro h; cases h)
    | succ n5 ih5 =>
      intro v5_3 v5_4 T5 H locs ls hf hd hl
      have hf : fX1_boils_5b x1 x2 (fX1_boils_5 x1 x2 n5) v5_3 v5_4 T5 = some (r, T') := hf
      unfold fX1_boils_5b at hf
      have J69 : ∀ (w69_3 : Int32) (w69_4 : Int32) (T69 : bf_CS) (H : Heap) (locs : List Loc) (ls : Array Slot), fX1_boils_69 (fX1_boils_5 x1 x2 n5) x1 x2 w69_3 w69_4 T69 = some (r, T') → bf_Dy G s H locs (bf_pC G ν c q T69) → lv_has ls 6 [(0, .ref c), (1, .int x1), (2, .int x2), (3, .int w69_3), (4, .int w69_4)] → W p l e (bf_rm 1) s m ([.ref c, .int x1, .int x2] : List Value).toArray below meth c' H locs 0 0 Q (F0 m 69 ls []) := by
        intro w69_3 w69_4 T69 H locs ls hf hd hl
        unfold fX1_boils_69 at hf
        obtain ⟨x4_18, ex4_18, hf⟩ := bf_l_e hf
        refine lv_iinc (v := x4_18) (lv' := [(4, .int x4_18), (0, .ref c), (1, .int x1), (2, .int x2), (3, .int w69_3)]) hx hb dX1_boils_69 hl (k := 4) rfl (by rw [ex4_18]; rfl) (by decide) rfl (fun ls hl => ?_)
        refine lv_goto (tgt := 5) hx hb dX1_boils_72 (by decide) ?_
        exact ih5 w69_3 x4_18 T69 _ _ _ hf hd (lv_sub hl [1, 2, 3, 4, 0] rfl)
      refine lv_iload hx hb dX1_boils_5 (lv_at hl 4 rfl) ?_
      refine lv_aload_n hx hb dX1_boils_7 rfl (lv_at hl 0 rfl) ?_
      refine bf_rC X hd (bf_pC_hC G ν c q T5) 11 (by decide) (Or.inl q324) rfl dX1_boils_8 ?_
      refine lv_icmp_ge (tgt := 75) hx hb dX1_boils_11 (by decide) (fun c_19 => ?_) (fun c_19 => ?_)
      · have hf := bf_it hf c_19
        exact J75 v5_3 T5 _ _ _ hf hd (lv_sub hl [0, 1, 2, 3] rfl)
      · have hf := bf_ie hf c_19
        refine lv_aload_n hx hb dX1_boils_14 rfl (lv_at hl 0 rfl) ?_
        refine bf_rC (v := .ref (c + 2)) X hd (bf_pC_hC G ν c q T5) 1 (by decide) (Or.inl q301) rfl dX1_boils_15 ?_
        refine lv_iload hx hb dX1_boils_18 (lv_at hl 4 rfl) ?_
        obtain ⟨g_20, hf⟩ := bf_c_some hf
        refine bf_aald (v := .ref (c + 166 + v5_4.toNatClampNeg)) X hd (bf_c2 (bf_pC_hC G ν c q T5)) 3 rfl rfl g_20 rfl dX1_boils_20 ?_
        refine bf_rT X hd (bf_pC_hC G ν c q T5) (bf_in_lt g_20) 0 (by decide) (Or.inr ⟨_, q262⟩) dX1_boils_21 ?_
        refine lv_iload_n hx hb dX1_boils_24 rfl (lv_at hl 1 rfl) ?_
        refine lv_icmp_eq (tgt := 31) hx hb dX1_boils_25 (by decide) (fun c_21 => ?_) (fun c_21 => ?_)
        · have hf := bf_it hf c_21
          refine lv_iload_n hx hb dX1_boils_31 rfl (lv_at hl 3 rfl) ?_
          refine lv_aload_n hx hb dX1_boils_32 rfl (lv_at hl 0 rfl) ?_
          refine bf_rC (v := .ref (c + 2)) X hd (bf_pC_hC G ν c q T5) 1 (by decide) (Or.inl q301) rfl dX1_boils_33 ?_
          refine lv_iload hx hb dX1_boils_36 (lv_at hl 4 rfl) ?_
          obtain ⟨g_22, hf⟩ := bf_c_some hf
          refine bf_aald (v := .ref (c + 166 + v5_4.toNatClampNeg)) X hd (bf_c2 (bf_pC_hC G ν c q T5)) 3 rfl rfl g_22 rfl dX1_boils_38 ?_
          refine bf_rT X hd (bf_pC_hC G ν c q T5) (bf_in_lt g_22) 3 (by decide) (Or.inr ⟨_, q271⟩) dX1_boils_39 ?_
          refine va_mmin hx hb (hml.trans hl.1.symm) hown (hts _ q1065) (hts _ q875) (hts _ q157) (hts _ q876) (Nat.le_of_ble_eq_true rfl) (Nat.le_of_ble_eq_true rfl) (Nat.le_of_ble_eq_true rfl) (Nat.le_of_ble_eq_true rfl) dX1_boils_42 ?_
          obtain ⟨x5_23, ex5_23, hf⟩ := bf_l_e hf
          refine bf_top ex5_23 ?_
          refine lv_istore (lv' := [(5, .int x5_23), (0, .ref c), (1, .int x1), (2, .int x2), (3, .int v5_3), (4, .int v5_4)]) hx hb dX1_boils_45 hl (by decide) rfl (fun ls hl => ?_)
          refine lv_aload_n hx hb dX1_boils_47 rfl (lv_at hl 1 rfl) ?_
          refine bf_rC (v := .ref (c + 2)) X hd (bf_pC_hC G ν c q T5) 1 (by decide) (Or.inl q301) rfl dX1_boils_48 ?_
          refine lv_iload hx hb dX1_boils_51 (lv_at hl 5 rfl) ?_
          obtain ⟨g_24, hf⟩ := bf_c_some hf
          refine bf_aald (v := .ref (c + 166 + v5_4.toNatClampNeg)) X hd (bf_c2 (bf_pC_hC G ν c q T5)) 3 rfl rfl g_24 rfl dX1_boils_53 ?_
          refine lv_dup hx hb dX1_boils_54 rfl ?_
          refine bf_rT X hd (bf_pC_hC G ν c q T5) (bf_in_lt g_24) 3 (by decide) (Or.inr ⟨_, q271⟩) dX1_boils_55 ?_
          refine lv_iload hx hb dX1_boils_58 (lv_at hl 0 rfl) ?_
          refine lv_isub hx hb dX1_boils_60 ?_
          refine bf_xT X hd (bf_in_lt g_24) 3 (by decide) (Or.inr ⟨_, q271⟩) dX1_boils_61 (fun H locs hd => ?_)
          obtain ⟨T_25, eT_25, hf⟩ := bf_l_e hf
          have hd := hd.of (congrArg (bf_pC G ν c q) eT_25.symm)
          refine lv_iload_n hx hb dX1_boils_64 rfl (lv_at hl 4 rfl) ?_
          refine lv_iload hx hb dX1_boils_65 (lv_at hl 0 rfl) ?_
          refine lv_isub hx hb dX1_boils_67 ?_
          obtain ⟨x3_26, ex3_26, hf⟩ := bf_l_e hf
          refine bf_top ex3_26 ?_
          refine lv_istore_n (lv' := [(3, .int x3_26), (5, .int x5_23), (0, .ref c), (1, .int x1), (2, .int x2), (4, .int v5_4)]) hx hb dX1_boils_68 rfl hl (by decide) rfl (fun ls hl => ?_)
          exact J69 x3_26 v5_4 T_25 _ _ _ hf hd (lv_sub hl [2, 3, 4, 0, 5] rfl)
        · have hf := bf_ie hf c_21
          refine lv_goto (tgt := 69) hx hb dX1_boils_28 (by decide) ?_
          exact J69 v5_3 v5_4 T5 _ _ _ hf hd (lv_sub hl [0, 1, 2, 3, 4] rfl)
  unfold fX1_boils at hf
  refine lv_iload_n hx hb dX1_boils_0 rfl (lv_at hl 2 rfl) ?_
  refine lv_istore_n (lv' := [(3, .int x2), (0, .ref c), (1, .int x1), (2, .int x2)]) hx hb dX1_boils_1 rfl hl (by decide) rfl (fun ls hl => ?_)
  refine lv_iconst (v := 0) hx hb dX1_boils_2 (by decide) ?_
  refine lv_istore (lv' := [(4, .int 0), (3, .int x2), (0, .ref c), (1, .int x1), (2, .int x2)]) hx hb dX1_boils_3 hl (by decide) rfl (fun ls hl => ?_)
  exact L5 bf_fuel x2 0 T _ _ _ hf hd (lv_sub hl [2, 3, 4, 1, 0] rfl)
def fX1_best_82 (T : bf_CS) (k5 : Option Nat → Int32 → Option (Option Nat)) (i1 : Nat) (x2 : Int32) (w82_3 : Option Nat) (w82_4 : Int32) : Option (Option Nat) := bf_l (w82_4 + 1) fun x4_12 => k5 w82_3 x4_12
def fX1_best_79 (T : bf_CS) (k5 : Option Nat → Int32 → Option (Option Nat)) (i1 : Nat) (x2 : Int32) (w79_4 : Int32) (w79_5 : Nat) : Option (Option Nat) := fX1_best_82 T k5 i1 x2 (some w79_5) w79_4
def fX1_best_5b (T : bf_CS) (i1 : Nat) (x2 : Int32) (k5 : Option Nat → Int32 → Option (Option Nat)) (v5_3 : Option Nat) (v5_4 : Int32) : Option (Option Nat) := if (T.1 0 11 0) ≤ v5_4 then (some v5_3) else (bf_c (bf_in v5_4 14) <| if (T.1 2 v5_4.toNatClampNeg 1) = x2 then (if (T.1 2 v5_4.toNatClampNeg 3) ≤ 0 then (fX1_best_82 T k5 i1 x2 v5_3 v5_4) else (bf_c (bf_in (T.1 2 v5_4.toNatClampNeg 0) 5) <| if (T.1 4 i1 (T.1 2 v5_4.toNatClampNeg 0).toNatClampNeg) ≤ 0 then (fX1_best_82 T k5 i1 x2 v5_3 v5_4) else (bf_q v5_3 (fX1_best_79 T k5 i1 x2 v5_4 v5_4.toNatClampNeg) (fun t_7 => bf_c (bf_in (T.1 2 v5_4.toNatClampNeg 0) 5) <| bf_c (decide (t_7 < 14)) <| bf_c (bf_in (T.1 2 t_7 0) 5) <| if (T.1 4 i1 (T.1 2 v5_4.toNatClampNeg 0).toNatClampNeg) ≤ (T.1 4 i1 (T.1 2 t_7 0).toNatClampNeg) then (fX1_best_82 T k5 i1 x2 v5_3 v5_4) else (fX1_best_79 T k5 i1 x2 v5_4 v5_4.toNatClampNeg))))) else (fX1_best_82 T k5 i1 x2 v5_3 v5_4))
def fX1_best_5 (T : bf_CS) (i1 : Nat) (x2 : Int32) : Nat → Option Nat → Int32 → Option (Option Nat)
  | 0, _, _ => none
  | n + 1, v5_3, v5_4 => fX1_best_5b T i1 x2 (fX1_best_5 T i1 x2 n) v5_3 v5_4
def fX1_best (T : bf_CS) (i1 : Nat) (x2 : Int32) : Option (Option Nat) := fX1_best_5 T i1 x2 bf_fuel none 0
set_option maxHeartbeats 4000000 in
theorem mX1_best (l : Launch) (G : bf_G) (ν : bf_V) (c : Nat) (q : Nat → Nat) (T : bf_CS) (i1 : Nat) (hi1 : i1 < 10) (x2 : Int32) {r : Option Nat} (hf : fX1_best T i1 x2 = some r) : bf_MQ l G yX1_best cX1_best 6 (.object "BallotFruit$Tree") (bf_rm 0) [.ref c, .ref (c + 180 + 2 * i1), .int x2] (bf_pC G ν c q T) (fun v σ' => v = Option.map (fun t => c + 166 + t) r ∧ σ' = bf_pC G ν c q T) := by
  refine bf_MQ.of rfl (Or.inl ⟨_, rfl⟩) (Nat.le_of_ble_eq_true rfl) ?_
  intro p e s m below meth c' Q X hlk hnm kret hd ls hl
  have hx := X.1
  have hb := X.2.1
  have hml := X.2.2.1
  have hown := X.2.2.2.1
  have hts := X.2.2.2.2
  have hl : lv_has ls 6 [(0, .ref c), (1, .ref (c + 180 + 2 * i1)), (2, .int x2)] := hl
  have L5 : ∀ (n5 : Nat) (v5_3 : Option Nat) (v5_4 : Int32) (H : Heap) (locs : List Loc) (ls : Array Slot), fX1_best_5 T i1 x2 n5 v5_3 v5_4 = some r → bf_Dy G s H locs (bf_pC G ν c q T) → lv_has ls 6 [(0, .ref c), (1, .ref (c + 180 + 2 * i1)), (2, .int x2), (3, va_rf (Option.map (fun t => c + 166 + t) v5_3)), (4, .int v5_4)] → W p l e (bf_rm 0) s m ([.ref c, .ref (c + 180 + 2 * i1), .int x2] : List Value).toArray below meth c' H locs 0 0 Q (F0 m 5 ls []) := by
    intro n5
    induction n5 with
    | zero =>
      intro v5_3 v5_4 H locs ls hf hd hl
      exact absurd (show (none : Option (Option Nat)) = some r from hf) (by intro h; cases h)
    | succ n5 ih5 =>
      intro v5_3 v5_4 H locs ls hf hd hl
      have hf : fX1_best_5b T i1 x2 (fX1_best_5 T i1 x2 n5) v5_3 v5_4 = some r := hf
      unfold fX1_best_5b at hf
      have J82 : ∀ (w82_3 : Option Nat) (w82_4 : Int32) (H : Heap) (locs : List Loc) (ls : Array Slot), fX1_best_82 T (fX1_best_5 T i1 x2 n5) i1 x2 w82_3 w82_4 = some r → bf_Dy G s H locs (bf_pC G ν c q T) → lv_has ls 6 [(0, .ref c), (1, .ref (c + 180 + 2 * i1)), (2, .int x2), (3, va_rf (Option.map (fun t => c + 166 + t) w82_3)), (4, .int w82_4)] → W p l e (bf_rm 0) s m ([.ref c, .ref (c + 180 + 2 * i1), .int x2] : List Value).toArray below meth c' H locs 0 0 Q (F0 m 82 ls []) := by
        intro w82_3 w82_4 H locs ls hf hd hl
        unfold fX1_best_82 at hf
        obtain ⟨x4_13, ex4_13, hf⟩ := bf_l_e hf
        refine lv_iinc (v := x4_13) (lv' := [(4, .int x4_13), (0, .ref c), (1, .ref (c + 180 + 2 * i1)), (2, .int x2), (3, va_rf (Option.map (fun t => c + 166 + t) w82_3))]) hx hb dX1_best_82 hl (k := 4) rfl (by rw [ex4_13]; rfl) (by decide) (by rcases bf_opt (w82_3) with h | ⟨t, h⟩ <;> rw [h] <;> rfl) (fun ls hl => ?_)
        refine lv_goto (tgt := 5) hx hb dX1_best_85 (by decide) ?_
        exact ih5 w82_3 x4_13 _ _ _ hf hd (lv_sub hl [1, 2, 3, 4, 0] rfl)
      have J79 : ∀ (w79_4 : Int32) (w79_5 : Nat) (hw79_5 : w79_5 < 14) (H : Heap) (locs : List Loc) (ls : Array Slot), fX1_best_79 T (fX1_best_5 T i1 x2 n5) i1 x2 w79_4 w79_5 = some r → bf_Dy G s H locs (bf_pC G ν c q T) → lv_has ls 6 [(0, .ref c), (1, .ref (c + 180 + 2 * i1)), (2, .int x2), (4, .int w79_4), (5, .ref (c + 166 + w79_5))] → W p l e (bf_rm 0) s m ([.ref c, .ref (c + 180 + 2 * i1), .int x2] : List Value).toArray below meth c' H locs 0 0 Q (F0 m 79 ls []) := by
        intro w79_4 w79_5 hw79_5 H locs ls hf hd hl
        unfold fX1_best_79 at hf
        refine lv_aload hx hb dX1_best_79 (lv_at hl 4 rfl) ?_
        refine lv_astore_n (lv' := [(3, .ref (c + 166 + w79_5)), (0, .ref c), (1, .ref (c + 180 + 2 * i1)), (2, .int x2), (4, .int w79_4), (5, .ref (c + 166 + w79_5))]) hx hb dX1_best_81 rfl hl (by decide) rfl (fun ls hl => ?_)
        exact J82 (some w79_5) w79_4 _ _ _ hf hd (lv_sub hl [1, 2, 3, 0, 4] rfl)
      refine lv_iload hx hb dX1_best_5 (lv_at hl 4 rfl) ?_
      refine lv_aload_n hx hb dX1_best_7 rfl (lv_at hl 0 rfl) ?_
      refine bf_rC X hd (bf_pC_hC G ν c q T) 11 (by decide) (Or.inl q324) rfl dX1_best_8 ?_
      refine lv_icmp_ge (tgt := 88) hx hb dX1_best_11 (by decide) (fun c_14 => ?_) (fun c_14 => ?_)
      · have hf := bf_it hf c_14
        refine bf_aload_n hx hb dX1_best_88 rfl (lv_at hl 3 rfl) ?_
        exact kret (Option.map (fun t => c + 166 + t) v5_3) _ _ _ _ _ ⟨congrArg _ (bf_so hf), rfl⟩ hd dX1_best_89
      · have hf := bf_ie hf c_14
        refine lv_aload_n hx hb dX1_best_14 rfl (lv_at hl 0 rfl) ?_
        refine bf_rC (v := .ref (c + 2)) X hd (bf_pC_hC G ν c q T) 1 (by decide) (Or.inl q301) rfl dX1_best_15 ?_
        refine lv_iload hx hb dX1_best_18 (lv_at hl 4 rfl) ?_
        obtain ⟨g_15, hf⟩ := bf_c_some hf
        refine bf_aald (v := .ref (c + 166 + v5_4.toNatClampNeg)) X hd (bf_c2 (bf_pC_hC G ν c q T)) 3 rfl rfl g_15 rfl dX1_best_20 ?_
        refine lv_astore (lv' := [(5, .ref (c + 166 + v5_4.toNatClampNeg)), (0, .ref c), (1, .ref (c + 180 + 2 * i1)), (2, .int x2), (3, va_rf (Option.map (fun t => c + 166 + t) v5_3)), (4, .int v5_4)]) hx hb dX1_best_21 hl (by decide) rfl (fun ls hl => ?_)
        refine lv_aload hx hb dX1_best_23 (lv_at hl 0 rfl) ?_
        refine bf_rT X hd (bf_pC_hC G ν c q T) (bf_in_lt g_15) 1 (by decide) (Or.inr ⟨_, q265⟩) dX1_best_25 ?_
        refine lv_iload_n hx hb dX1_best_28 rfl (lv_at hl 3 rfl) ?_
        refine lv_icmp_ne (tgt := 82) hx hb dX1_best_29 (by decide) (fun c_16 => ?_) (fun c_16 => ?_)
        · have hf := bf_ie hf c_16
          exact J82 v5_3 v5_4 _ _ _ hf hd (lv_sub hl [1, 2, 3, 4, 5] rfl)
        · have hf := bf_it hf c_16
          refine lv_aload hx hb dX1_best_32 (lv_at hl 0 rfl) ?_
          refine bf_rT X hd (bf_pC_hC G ν c q T) (bf_in_lt g_15) 3 (by decide) (Or.inr ⟨_, q271⟩) dX1_best_34 ?_
          refine lv_if_le (tgt := 82) hx hb dX1_best_37 (by decide) (fun c_17 => ?_) (fun c_17 => ?_)
          · have hf := bf_it hf c_17
            exact J82 v5_3 v5_4 _ _ _ hf hd (lv_sub hl [1, 2, 3, 4, 5] rfl)
          · have hf := bf_ie hf c_17
            refine lv_aload_n hx hb dX1_best_40 rfl (lv_at hl 2 rfl) ?_
            refine bf_rE X hd (bf_pC_hC G ν c q T) hi1 (Or.inr ⟨_, q288⟩) dX1_best_41 ?_
            refine lv_aload hx hb dX1_best_44 (lv_at hl 0 rfl) ?_
            refine bf_rT X hd (bf_pC_hC G ν c q T) (bf_in_lt g_15) 0 (by decide) (Or.inr ⟨_, q262⟩) dX1_best_46 ?_
            obtain ⟨g_18, hf⟩ := bf_c_some hf
            refine bf_iald X hd (bf_cta (bf_pC_hC G ν c q T) hi1) g_18 dX1_best_49 ?_
            refine lv_if_le (tgt := 82) hx hb dX1_best_50 (by decide) (fun c_19 => ?_) (fun c_19 => ?_)
            · have hf := bf_it hf c_19
              exact J82 v5_3 v5_4 _ _ _ hf hd (lv_sub hl [1, 2, 3, 4, 5] rfl)
            · have hf := bf_ie hf c_19
              refine bf_aload_n hx hb dX1_best_53 rfl (lv_at hl 4 rfl) ?_
              rcases bf_opt (v5_3) with et_20 | ⟨t_20, et_20⟩
              · have hf := bf_q_n hf et_20
                refine bf_ift (q := Option.map (fun t => c + 166 + t) v5_3) (q' := none) (by rw [et_20]; rfl) ?_
                refine lv_ifnullN (tgt := 79) hx hb dX1_best_54 (by decide) ?_
                exact J79 v5_4 v5_4.toNatClampNeg (bf_in_lt g_15) _ _ _ hf hd (lv_sub hl [1, 2, 3, 5, 0] rfl)
              · have hf := bf_q_s hf et_20
                refine bf_ift (q := Option.map (fun t => c + 166 + t) v5_3) (q' := some (c + 166 + t_20)) (by rw [et_20]; rfl) ?_
                refine lv_ifnull hx hb dX1_best_54 ?_
                refine lv_aload_n hx hb dX1_best_57 rfl (lv_at hl 2 rfl) ?_
                refine bf_rE X hd (bf_pC_hC G ν c q T) hi1 (Or.inr ⟨_, q288⟩) dX1_best_58 ?_
                refine lv_aload hx hb dX1_best_61 (lv_at hl 0 rfl) ?_
                refine bf_rT X hd (bf_pC_hC G ν c q T) (bf_in_lt g_15) 0 (by decide) (Or.inr ⟨_, q262⟩) dX1_best_63 ?_
                obtain ⟨g_21, hf⟩ := bf_c_some hf
                refine bf_iald X hd (bf_cta (bf_pC_hC G ν c q T) hi1) g_21 dX1_best_66 ?_
                refine lv_aload_n hx hb dX1_best_67 rfl (lv_at hl 2 rfl) ?_
                refine bf_rE X hd (bf_pC_hC G ν c q T) hi1 (Or.inr ⟨_, q288⟩) dX1_best_68 ?_
                refine bf_aload_n hx hb dX1_best_71 rfl (lv_at hl 4 rfl) ?_
                refine bf_ift (q := Option.map (fun t => c + 166 + t) v5_3) (q' := some (c + 166 + t_20)) (by rw [et_20]; rfl) ?_
                obtain ⟨g_22, hf⟩ := bf_c_some hf
                refine bf_rT X hd (bf_pC_hC G ν c q T) (of_decide_eq_true g_22) 0 (by decide) (Or.inr ⟨_, q262⟩) dX1_best_72 ?_
                obtain ⟨g_23, hf⟩ := bf_c_some hf
                refine bf_iald X hd (bf_cta (bf_pC_hC G ν c q T) hi1) g_23 dX1_best_75 ?_
                refine lv_icmp_le (tgt := 82) hx hb dX1_best_76 (by decide) (fun c_24 => ?_) (fun c_24 => ?_)
                · have hf := bf_it hf c_24
                  exact J82 v5_3 v5_4 _ _ _ hf hd (lv_sub hl [1, 2, 3, 4, 5] rfl)
                · have hf := bf_ie hf c_24
                  exact J79 v5_4 v5_4.toNatClampNeg (bf_in_lt g_15) _ _ _ hf hd (lv_sub hl [1, 2, 3, 5, 0] rfl)
  unfold fX1_best at hf
  refine lv_null hx hb dX1_best_0 ?_
  refine lv_astore_nN (lv' := [(3, .null), (0, .ref c), (1, .ref (c + 180 + 2 * i1)), (2, .int x2)]) hx hb dX1_best_1 rfl hl (by decide) rfl (fun ls hl => ?_)
  refine lv_iconst (v := 0) hx hb dX1_best_2 (by decide) ?_
  refine lv_istore (lv' := [(4, .int 0), (3, .null), (0, .ref c), (1, .ref (c + 180 + 2 * i1)), (2, .int x2)]) hx hb dX1_best_3 hl (by decide) rfl (fun ls hl => ?_)
  exact L5 bf_fuel none 0 _ _ _ hf hd (lv_sub hl [2, 3, 4, 1, 0] rfl)
def fX1_votes (T : bf_CS) (x1 : Int32) (x2 : Int32) : Option (bf_CS) := bf_c (bf_in x1 5) <| bf_l ((T.1 1 x1.toNatClampNeg 1)) fun x3_2 => bf_c (bf_in x1 5) <| bf_l (bf_u3 T 1 x1.toNatClampNeg 1 (bf_mmin 9999 (x3_2 + x2))) fun T_4 => bf_c (bf_in x1 5) <| bf_c (bf_in x1 5) <| bf_c (bf_in x1 5) <| bf_l (bf_u3 T_4 8 x1.toNatClampNeg 0 ((T_4.1 8 x1.toNatClampNeg 0) + ((T_4.1 1 x1.toNatClampNeg 1) - x3_2))) fun T_8 => some T_8
set_option maxHeartbeats 4000000 in
theorem mX1_votes (l : Launch) (G : bf_G) (ν : bf_V) (c : Nat) (q : Nat → Nat) (T : bf_CS) (x1 : Int32) (x2 : Int32) {T' : bf_CS} (hf : fX1_votes T x1 x2 = some T') : bf_MV l G yX1_votes cX1_votes 4 (bf_rm 1) [.ref c, .int x1, .int x2] (bf_pC G ν c q T) (fun σ' => σ' = bf_pC G ν c q T') := by
  refine bf_MV.of rfl (Nat.le_of_ble_eq_true rfl) ?_
  intro p e s m below meth c' Q X hlk hnm kret hd ls hl
  have hx := X.1
  have hb := X.2.1
  have hml := X.2.2.1
  have hown := X.2.2.2.1
  have hts := X.2.2.2.2
  have hl : lv_has ls 4 [(0, .ref c), (1, .int x1), (2, .int x2)] := hl
  unfold fX1_votes at hf
  refine lv_aload_n hx hb dX1_votes_0 rfl (lv_at hl 0 rfl) ?_
  refine bf_rC (v := .ref (c + 1)) X hd (bf_pC_hC G ν c q T) 0 (by decide) (Or.inl q299) rfl dX1_votes_1 ?_
  refine lv_iload_n hx hb dX1_votes_4 rfl (lv_at hl 1 rfl) ?_
  obtain ⟨g_9, hf⟩ := bf_c_some hf
  refine bf_aald (v := .ref (c + 161 + x1.toNatClampNeg)) X hd (bf_c1 (bf_pC_hC G ν c q T)) 2 rfl rfl g_9 rfl dX1_votes_5 ?_
  refine bf_rP X hd (bf_pC_hC G ν c q T) (bf_in_lt g_9) 1 (by decide) (Or.inr ⟨_, q245⟩) dX1_votes_6 ?_
  obtain ⟨x3_10, ex3_10, hf⟩ := bf_l_e hf
  refine bf_top ex3_10 ?_
  refine lv_istore_n (lv' := [(3, .int x3_10), (0, .ref c), (1, .int x1), (2, .int x2)]) hx hb dX1_votes_9 rfl hl (by decide) rfl (fun ls hl => ?_)
  refine lv_aload_n hx hb dX1_votes_10 rfl (lv_at hl 1 rfl) ?_
  refine bf_rC (v := .ref (c + 1)) X hd (bf_pC_hC G ν c q T) 0 (by decide) (Or.inl q299) rfl dX1_votes_11 ?_
  refine lv_iload_n hx hb dX1_votes_14 rfl (lv_at hl 2 rfl) ?_
  obtain ⟨g_11, hf⟩ := bf_c_some hf
  refine bf_aald (v := .ref (c + 161 + x1.toNatClampNeg)) X hd (bf_c1 (bf_pC_hC G ν c q T)) 2 rfl rfl g_11 rfl dX1_votes_15 ?_
  refine lv_sipush (v := 9999) hx hb dX1_votes_16 (by decide) ?_
  refine lv_iload_n hx hb dX1_votes_19 rfl (lv_at hl 0 rfl) ?_
  refine lv_iload_n hx hb dX1_votes_20 rfl (lv_at hl 3 rfl) ?_
  refine lv_iadd hx hb dX1_votes_21 ?_
  refine va_mmin hx hb (hml.trans hl.1.symm) hown (hts _ q1065) (hts _ q875) (hts _ q157) (hts _ q876) (Nat.le_of_ble_eq_true rfl) (Nat.le_of_ble_eq_true rfl) (Nat.le_of_ble_eq_true rfl) (Nat.le_of_ble_eq_true rfl) dX1_votes_22 ?_
  refine bf_xP X hd (bf_in_lt g_11) 1 (by decide) (Or.inr ⟨_, q245⟩) dX1_votes_25 (fun H locs hd => ?_)
  obtain ⟨T_12, eT_12, hf⟩ := bf_l_e hf
  have hd := hd.of (congrArg (bf_pC G ν c q) eT_12.symm)
  refine lv_aload_n hx hb dX1_votes_28 rfl (lv_at hl 1 rfl) ?_
  refine bf_rC (v := .ref (c + 157)) X hd (bf_pC_hC G ν c q T_12) 6 (by decide) (Or.inl q312) rfl dX1_votes_29 ?_
  refine lv_iload_n hx hb dX1_votes_32 rfl (lv_at hl 2 rfl) ?_
  refine lv_dup2_11 hx hb dX1_votes_33 rfl rfl ?_
  obtain ⟨g_13, hf⟩ := bf_c_some hf
  refine bf_iald X hd (bf_c157 (bf_pC_hC G ν c q T_12)) g_13 dX1_votes_34 ?_
  refine lv_aload_n hx hb dX1_votes_35 rfl (lv_at hl 1 rfl) ?_
  refine bf_rC (v := .ref (c + 1)) X hd (bf_pC_hC G ν c q T_12) 0 (by decide) (Or.inl q299) rfl dX1_votes_36 ?_
  refine lv_iload_n hx hb dX1_votes_39 rfl (lv_at hl 2 rfl) ?_
  obtain ⟨g_14, hf⟩ := bf_c_some hf
  refine bf_aald (v := .ref (c + 161 + x1.toNatClampNeg)) X hd (bf_c1 (bf_pC_hC G ν c q T_12)) 2 rfl rfl g_14 rfl dX1_votes_40 ?_
  refine bf_rP X hd (bf_pC_hC G ν c q T_12) (bf_in_lt g_14) 1 (by decide) (Or.inr ⟨_, q245⟩) dX1_votes_41 ?_
  refine lv_iload_n hx hb dX1_votes_44 rfl (lv_at hl 0 rfl) ?_
  refine lv_isub hx hb dX1_votes_45 ?_
  refine lv_iadd hx hb dX1_votes_46 ?_
  obtain ⟨g_15, hf⟩ := bf_c_some hf
  refine bf_s8 X hd g_15 dX1_votes_47 (fun H locs hd => ?_)
  obtain ⟨T_16, eT_16, hf⟩ := bf_l_e hf
  have hd := hd.of (congrArg (bf_pC G ν c q) eT_16.symm)
  exact kret _ _ _ _ _ (congrArg (bf_pC G ν c q) (bf_so hf)) hd dX1_votes_48
def fX1_jamOf_55 (T : bf_CS) (k4 : Int32 → Int32 → Option (Int32)) (i1 : Nat) (w55_2 : Int32) (w55_3 : Int32) : Option (Int32) := bf_l (w55_3 + 1) fun x3_10 => k4 w55_2 x3_10
def fX1_jamOf_53 (T : bf_CS) (k4 : Int32 → Int32 → Option (Int32)) (i1 : Nat) (w53_3 : Int32) : Option (Int32) := fX1_jamOf_55 T k4 i1 w53_3 w53_3
def fX1_jamOf_4b (T : bf_CS) (i1 : Nat) (k4 : Int32 → Int32 → Option (Int32)) (v4_2 : Int32) (v4_3 : Int32) : Option (Int32) := if (T.1 0 10 0) ≤ v4_3 then (some v4_2) else (bf_c (bf_in v4_3 5) <| if (T.1 1 v4_3.toNatClampNeg 0) ≤ 0 then (fX1_jamOf_55 T k4 i1 v4_2 v4_3) else (bf_c (bf_in v4_3 5) <| if (T.1 4 i1 v4_3.toNatClampNeg) ≤ 0 then (fX1_jamOf_55 T k4 i1 v4_2 v4_3) else (if v4_2 = (-1) then (fX1_jamOf_53 T k4 i1 v4_3) else (bf_c (bf_in v4_3 5) <| bf_c (bf_in v4_2 5) <| if (T.1 4 i1 v4_3.toNatClampNeg) ≤ (T.1 4 i1 v4_2.toNatClampNeg) then (fX1_jamOf_55 T k4 i1 v4_2 v4_3) else (fX1_jamOf_53 T k4 i1 v4_3)))))
def fX1_jamOf_4 (T : bf_CS) (i1 : Nat) : Nat → Int32 → Int32 → Option (Int32)
  | 0, _, _ => none
  | n + 1, v4_2, v4_3 => fX1_jamOf_4b T i1 (fX1_jamOf_4 T i1 n) v4_2 v4_3
def fX1_jamOf (T : bf_CS) (i1 : Nat) : Option (Int32) := fX1_jamOf_4 T i1 bf_fuel (-1) 0
set_option maxHeartbeats 4000000 in
theorem mX1_jamOf (l : Launch) (G : bf_G) (ν : bf_V) (c : Nat) (q : Nat → Nat) (T : bf_CS) (i1 : Nat) (hi1 : i1 < 10) {r : Int32} (hf : fX1_jamOf T i1 = some r) : bf_MI l G yX1_jamOf cX1_jamOf 4 (bf_rm 0) [.ref c, .ref (c + 180 + 2 * i1)] (bf_pC G ν c q T) (fun v σ' => v = r ∧ σ' = bf_pC G ν c q T) := by
  refine bf_MI.of rfl (Nat.le_of_ble_eq_true rfl) ?_
  intro p e s m below meth c' Q X hlk hnm kret hd ls hl
  have hx := X.1
  have hb := X.2.1
  have hml := X.2.2.1
  have hown := X.2.2.2.1
  have hts := X.2.2.2.2
  have hl : lv_has ls 4 [(0, .ref c), (1, .ref (c + 180 + 2 * i1))] := hl
  have L4 : ∀ (n4 : Nat) (v4_2 : Int32) (v4_3 : Int32) (H : Heap) (locs : List Loc) (ls : Array Slot), fX1_jamOf_4 T i1 n4 v4_2 v4_3 = some r → bf_Dy G s H locs (bf_pC G ν c q T) → lv_has ls 4 [(0, .ref c), (1, .ref (c + 180 + 2 * i1)), (2, .int v4_2), (3, .int v4_3)] → W p l e (bf_rm 0) s m ([.ref c, .ref (c + 180 + 2 * i1)] : List Value).toArray below meth c' H locs 0 0 Q (F0 m 4 ls []) := by
    intro n4
    induction n4 with
    | zero =>
      intro v4_2 v4_3 H locs ls hf hd hl
      exact absurd (show (none : Option (Int32)) = some r from hf) (by intro h; cases h)
    | succ n4 ih4 =>
      intro v4_2 v4_3 H locs ls hf hd hl
      have hf : fX1_jamOf_4b T i1 (fX1_jamOf_4 T i1 n4) v4_2 v4_3 = some r := hf
      unfold fX1_jamOf_4b at hf
      have J55 : ∀ (w55_2 : Int32) (w55_3 : Int32) (H : Heap) (locs : List Loc) (ls : Array Slot), fX1_jamOf_55 T (fX1_jamOf_4 T i1 n4) i1 w55_2 w55_3 = some r → bf_Dy G s H locs (bf_pC G ν c q T) → lv_has ls 4 [(0, .ref c), (1, .ref (c + 180 + 2 * i1)), (2, .int w55_2), (3, .int w55_3)] → W p l e (bf_rm 0) s m ([.ref c, .ref (c + 180 + 2 * i1)] : List Value).toArray below meth c' H locs 0 0 Q (F0 m 55 ls []) := by
        intro w55_2 w55_3 H locs ls hf hd hl
        unfold fX1_jamOf_55 at hf
        obtain ⟨x3_11, ex3_11, hf⟩ := bf_l_e hf
        refine lv_iinc (v := x3_11) (lv' := [(3, .int x3_11), (0, .ref c), (1, .ref (c + 180 + 2 * i1)), (2, .int w55_2)]) hx hb dX1_jamOf_55 hl (k := 3) rfl (by rw [ex3_11]; rfl) (by decide) rfl (fun ls hl => ?_)
        refine lv_goto (tgt := 4) hx hb dX1_jamOf_58 (by decide) ?_
        exact ih4 w55_2 x3_11 _ _ _ hf hd (lv_sub hl [1, 2, 3, 0] rfl)
      have J53 : ∀ (w53_3 : Int32) (H : Heap) (locs : List Loc) (ls : Array Slot), fX1_jamOf_53 T (fX1_jamOf_4 T i1 n4) i1 w53_3 = some r → bf_Dy G s H locs (bf_pC G ν c q T) → lv_has ls 4 [(0, .ref c), (1, .ref (c + 180 + 2 * i1)), (3, .int w53_3)] → W p l e (bf_rm 0) s m ([.ref c, .ref (c + 180 + 2 * i1)] : List Value).toArray below meth c' H locs 0 0 Q (F0 m 53 ls []) := by
        intro w53_3 H locs ls hf hd hl
        unfold fX1_jamOf_53 at hf
        refine lv_iload_n hx hb dX1_jamOf_53 rfl (lv_at hl 2 rfl) ?_
        refine lv_istore_n (lv' := [(2, .int w53_3), (0, .ref c), (1, .ref (c + 180 + 2 * i1)), (3, .int w53_3)]) hx hb dX1_jamOf_54 rfl hl (by decide) rfl (fun ls hl => ?_)
        exact J55 w53_3 w53_3 _ _ _ hf hd (lv_sub hl [1, 2, 0, 3] rfl)
      refine lv_iload_n hx hb dX1_jamOf_4 rfl (lv_at hl 3 rfl) ?_
      refine lv_aload_n hx hb dX1_jamOf_5 rfl (lv_at hl 0 rfl) ?_
      refine bf_rC X hd (bf_pC_hC G ν c q T) 10 (by decide) (Or.inl q320) rfl dX1_jamOf_6 ?_
      refine lv_icmp_ge (tgt := 61) hx hb dX1_jamOf_9 (by decide) (fun c_12 => ?_) (fun c_12 => ?_)
      · have hf := bf_it hf c_12
        refine lv_iload_n hx hb dX1_jamOf_61 rfl (lv_at hl 2 rfl) ?_
        exact kret _ _ _ _ _ _ ⟨bf_so hf, rfl⟩ hd dX1_jamOf_62
      · have hf := bf_ie hf c_12
        refine lv_aload_n hx hb dX1_jamOf_12 rfl (lv_at hl 0 rfl) ?_
        refine bf_rC (v := .ref (c + 1)) X hd (bf_pC_hC G ν c q T) 0 (by decide) (Or.inl q299) rfl dX1_jamOf_13 ?_
        refine lv_iload_n hx hb dX1_jamOf_16 rfl (lv_at hl 3 rfl) ?_
        obtain ⟨g_13, hf⟩ := bf_c_some hf
        refine bf_aald (v := .ref (c + 161 + v4_3.toNatClampNeg)) X hd (bf_c1 (bf_pC_hC G ν c q T)) 2 rfl rfl g_13 rfl dX1_jamOf_17 ?_
        refine bf_rP X hd (bf_pC_hC G ν c q T) (bf_in_lt g_13) 0 (by decide) (Or.inr ⟨_, q242⟩) dX1_jamOf_18 ?_
        refine lv_if_le (tgt := 55) hx hb dX1_jamOf_21 (by decide) (fun c_14 => ?_) (fun c_14 => ?_)
        · have hf := bf_it hf c_14
          exact J55 v4_2 v4_3 _ _ _ hf hd (lv_sub hl [0, 1, 2, 3] rfl)
        · have hf := bf_ie hf c_14
          refine lv_aload_n hx hb dX1_jamOf_24 rfl (lv_at hl 1 rfl) ?_
          refine bf_rE X hd (bf_pC_hC G ν c q T) hi1 (Or.inr ⟨_, q288⟩) dX1_jamOf_25 ?_
          refine lv_iload_n hx hb dX1_jamOf_28 rfl (lv_at hl 3 rfl) ?_
          obtain ⟨g_15, hf⟩ := bf_c_some hf
          refine bf_iald X hd (bf_cta (bf_pC_hC G ν c q T) hi1) g_15 dX1_jamOf_29 ?_
          refine lv_if_le (tgt := 55) hx hb dX1_jamOf_30 (by decide) (fun c_16 => ?_) (fun c_16 => ?_)
          · have hf := bf_it hf c_16
            exact J55 v4_2 v4_3 _ _ _ hf hd (lv_sub hl [0, 1, 2, 3] rfl)
          · have hf := bf_ie hf c_16
            refine lv_iload_n hx hb dX1_jamOf_33 rfl (lv_at hl 2 rfl) ?_
            refine lv_iconst (v := (-1)) hx hb dX1_jamOf_34 (by decide) ?_
            refine lv_icmp_eq (tgt := 53) hx hb dX1_jamOf_35 (by decide) (fun c_17 => ?_) (fun c_17 => ?_)
            · have hf := bf_it hf c_17
              exact J53 v4_3 _ _ _ hf hd (lv_sub hl [0, 1, 3] rfl)
            · have hf := bf_ie hf c_17
              refine lv_aload_n hx hb dX1_jamOf_38 rfl (lv_at hl 1 rfl) ?_
              refine bf_rE X hd (bf_pC_hC G ν c q T) hi1 (Or.inr ⟨_, q288⟩) dX1_jamOf_39 ?_
              refine lv_iload_n hx hb dX1_jamOf_42 rfl (lv_at hl 3 rfl) ?_
              obtain ⟨g_18, hf⟩ := bf_c_some hf
              refine bf_iald X hd (bf_cta (bf_pC_hC G ν c q T) hi1) g_18 dX1_jamOf_43 ?_
              refine lv_aload_n hx hb dX1_jamOf_44 rfl (lv_at hl 1 rfl) ?_
              refine bf_rE X hd (bf_pC_hC G ν c q T) hi1 (Or.inr ⟨_, q288⟩) dX1_jamOf_45 ?_
              refine lv_iload_n hx hb dX1_jamOf_48 rfl (lv_at hl 2 rfl) ?_
              obtain ⟨g_19, hf⟩ := bf_c_some hf
              refine bf_iald X hd (bf_cta (bf_pC_hC G ν c q T) hi1) g_19 dX1_jamOf_49 ?_
              refine lv_icmp_le (tgt := 55) hx hb dX1_jamOf_50 (by decide) (fun c_20 => ?_) (fun c_20 => ?_)
              · have hf := bf_it hf c_20
                exact J55 v4_2 v4_3 _ _ _ hf hd (lv_sub hl [0, 1, 2, 3] rfl)
              · have hf := bf_ie hf c_20
                exact J53 v4_3 _ _ _ hf hd (lv_sub hl [0, 1, 3] rfl)
  unfold fX1_jamOf at hf
  refine lv_iconst (v := (-1)) hx hb dX1_jamOf_0 (by decide) ?_
  refine lv_istore_n (lv' := [(2, .int (-1)), (0, .ref c), (1, .ref (c + 180 + 2 * i1))]) hx hb dX1_jamOf_1 rfl hl (by decide) rfl (fun ls hl => ?_)
  refine lv_iconst (v := 0) hx hb dX1_jamOf_2 (by decide) ?_
  refine lv_istore_n (lv' := [(3, .int 0), (2, .int (-1)), (0, .ref c), (1, .ref (c + 180 + 2 * i1))]) hx hb dX1_jamOf_3 rfl hl (by decide) rfl (fun ls hl => ?_)
  exact L4 bf_fuel (-1) 0 _ _ _ hf hd (lv_sub hl [2, 3, 1, 0] rfl)
def fX1_stings_87 (k2 : Int32 → bf_CS → Option (bf_CS)) (w87_1 : Int32) (T87 : bf_CS) : Option (bf_CS) := bf_l (w87_1 + 1) fun x1_11 => k2 x1_11 T87
def fX1_stings_2b (k2 : Int32 → bf_CS → Option (bf_CS)) (v2_1 : Int32) (T2 : bf_CS) : Option (bf_CS) := if (T2.1 0 11 0) ≤ v2_1 then (some T2) else (if (T2.1 0 14 0) ≤ 0 then (some T2) else (if (T2.1 0 25 0) = 0 then (bf_c (bf_in v2_1 14) <| if (T2.1 2 v2_1.toNatClampNeg 3) < 10 then (fX1_stings_87 k2 v2_1 T2) else (bf_b2 (fX1_draw T2 1000) fun r_7 T_6 => if r_7 < (T_6.1 0 14 0) then (bf_b (fX1_notes T_6 6 v2_1 ((T_6.1 2 v2_1.toNatClampNeg 3) / 10)) fun T_9 => bf_l (bf_u3 T_9 2 v2_1.toNatClampNeg 3 ((T_9.1 2 v2_1.toNatClampNeg 3) - ((T_9.1 2 v2_1.toNatClampNeg 3) / 10))) fun T_10 => fX1_stings_87 k2 v2_1 T_10) else (fX1_stings_87 k2 v2_1 T_6))) else (some T2)))
def fX1_stings_2  : Nat → Int32 → bf_CS → Option (bf_CS)
  | 0, _, _ => none
  | n + 1, v2_1, T2 => fX1_stings_2b (fX1_stings_2 n) v2_1 T2
def fX1_stings (T : bf_CS) : Option (bf_CS) := fX1_stings_2 bf_fuel 0 T
set_option maxHeartbeats 4000000 in
theorem mX1_stings (l : Launch) (G : bf_G) (ν : bf_V) (c : Nat) (q : Nat → Nat) (T : bf_CS) {T' : bf_CS} (hf : fX1_stings T = some T') : bf_MV l G yX1_stings cX1_stings 3 (bf_rm 1) [.ref c] (bf_pC G ν c q T) (fun σ' => σ' = bf_pC G ν c q T') := by
  refine bf_MV.of rfl (Nat.le_of_ble_eq_true rfl) ?_
  intro p e s m below meth c' Q X hlk hnm kret hd ls hl
  have hx := X.1
  have hb := X.2.1
  have hml := X.2.2.1
  have hown := X.2.2.2.1
  have hts := X.2.2.2.2
  have hl : lv_has ls 3 [(0, .ref c)] := hl
  have L2 : ∀ (n2 : Nat) (v2_1 : Int32) (T2 : bf_CS) (H : Heap) (locs : List Loc) (ls : Array Slot), fX1_stings_2 n2 v2_1 T2 = some T' → bf_Dy G s H locs (bf_pC G ν c q T2) → lv_has ls 3 [(0, .ref c), (1, .int v2_1)] → W p l e (bf_rm 1) s m ([.ref c] : List Value).toArray below meth c' H locs 0 0 Q (F0 m 2 ls []) := by
    intro n2
    induction n2 with
    | zero =>
      intro v2_1 T2 H locs ls hf hd hl
      exact absurd (show (none : Option (bf_CS)) = some T' from hf) (by intro h; cases h)
    | succ n2 ih2 =>
      intro v2_1 T2 H locs ls hf hd hl
      have hf : fX1_stings_2b (fX1_stings_2 n2) v2_1 T2 = some T' := hf
      unfold fX1_stings_2b at hf
      have J87 : ∀ (w87_1 : Int32) (T87 : bf_CS) (H : Heap) (locs : List Loc) (ls : Array Slot), fX1_stings_87 (fX1_stings_2 n2) w87_1 T87 = some T' → bf_Dy G s H locs (bf_pC G ν c q T87) → lv_has ls 3 [(0, .ref c), (1, .int w87_1)] → W p l e (bf_rm 1) s m ([.ref c] : List Value).toArray below meth c' H locs 0 0 Q (F0 m 87 ls []) := by
        intro w87_1 T87 H locs ls hf hd hl
        unfold fX1_stings_87 at hf
        obtain ⟨x1_12, ex1_12, hf⟩ := bf_l_e hf
        refine lv_iinc (v := x1_12) (lv' := [(1, .int x1_12), (0, .ref c)]) hx hb dX1_stings_87 hl (k := 1) rfl (by rw [ex1_12]; rfl) (by decide) rfl (fun ls hl => ?_)
        refine lv_goto (tgt := 2) hx hb dX1_stings_90 (by decide) ?_
        exact ih2 x1_12 T87 _ _ _ hf hd (lv_sub hl [1, 0] rfl)
      refine lv_iload_n hx hb dX1_stings_2 rfl (lv_at hl 1 rfl) ?_
      refine lv_aload_n hx hb dX1_stings_3 rfl (lv_at hl 0 rfl) ?_
      refine bf_rC X hd (bf_pC_hC G ν c q T2) 11 (by decide) (Or.inl q324) rfl dX1_stings_4 ?_
      refine lv_icmp_ge (tgt := 93) hx hb dX1_stings_7 (by decide) (fun c_13 => ?_) (fun c_13 => ?_)
      · have hf := bf_it hf c_13
        exact kret _ _ _ _ _ (congrArg (bf_pC G ν c q) (bf_so hf)) hd dX1_stings_93
      · have hf := bf_ie hf c_13
        refine lv_aload_n hx hb dX1_stings_10 rfl (lv_at hl 0 rfl) ?_
        refine bf_rC X hd (bf_pC_hC G ν c q T2) 14 (by decide) (Or.inl q331) rfl dX1_stings_11 ?_
        refine lv_if_le (tgt := 93) hx hb dX1_stings_14 (by decide) (fun c_14 => ?_) (fun c_14 => ?_)
        · have hf := bf_it hf c_14
          exact kret _ _ _ _ _ (congrArg (bf_pC G ν c q) (bf_so hf)) hd dX1_stings_93
        · have hf := bf_ie hf c_14
          refine lv_aload_n hx hb dX1_stings_17 rfl (lv_at hl 0 rfl) ?_
          refine bf_rC X hd (bf_pC_hC G ν c q T2) 25 (by decide) (Or.inl q354) rfl dX1_stings_18 ?_
          refine lv_if_ne (tgt := 93) hx hb dX1_stings_21 (by decide) (fun c_15 => ?_) (fun c_15 => ?_)
          · have hf := bf_ie hf c_15
            exact kret _ _ _ _ _ (congrArg (bf_pC G ν c q) (bf_so hf)) hd dX1_stings_93
          · have hf := bf_it hf c_15
            refine lv_aload_n hx hb dX1_stings_24 rfl (lv_at hl 0 rfl) ?_
            refine bf_rC (v := .ref (c + 2)) X hd (bf_pC_hC G ν c q T2) 1 (by decide) (Or.inl q301) rfl dX1_stings_25 ?_
            refine lv_iload_n hx hb dX1_stings_28 rfl (lv_at hl 1 rfl) ?_
            obtain ⟨g_16, hf⟩ := bf_c_some hf
            refine bf_aald (v := .ref (c + 166 + v2_1.toNatClampNeg)) X hd (bf_c2 (bf_pC_hC G ν c q T2)) 3 rfl rfl g_16 rfl dX1_stings_29 ?_
            refine lv_astore_n (lv' := [(2, .ref (c + 166 + v2_1.toNatClampNeg)), (0, .ref c), (1, .int v2_1)]) hx hb dX1_stings_30 rfl hl (by decide) rfl (fun ls hl => ?_)
            refine lv_aload_n hx hb dX1_stings_31 rfl (lv_at hl 0 rfl) ?_
            refine bf_rT X hd (bf_pC_hC G ν c q T2) (bf_in_lt g_16) 3 (by decide) (Or.inr ⟨_, q271⟩) dX1_stings_32 ?_
            refine lv_bipush (v := 10) hx hb dX1_stings_35 (by decide) ?_
            refine lv_icmp_lt (tgt := 87) hx hb dX1_stings_37 (by decide) (fun c_17 => ?_) (fun c_17 => ?_)
            · have hf := bf_it hf c_17
              exact J87 v2_1 T2 _ _ _ hf hd (lv_sub hl [1, 2] rfl)
            · have hf := bf_ie hf c_17
              refine lv_aload_n hx hb dX1_stings_40 rfl (lv_at hl 1 rfl) ?_
              refine lv_sipush (v := 1000) hx hb dX1_stings_41 (by decide) ?_
              obtain ⟨r_19, T_18, er_19, hf⟩ := bf_b2_some hf
              refine bf_cci (n := 1) (As := [.int 1000]) (rest := []) X hd (mX1_draw l G ν c q T2 1000 er_19) (lw_V q1201 q1202 q1203 q149 q1204) (by decide +kernel) ⟨Nat.le_of_ble_eq_true rfl, Nat.le_of_ble_eq_true rfl⟩ rfl hl.1 rfl (Nat.le_of_ble_eq_true rfl) dX1_stings_44 ⟨Nat.le_of_ble_eq_true rfl, Nat.le_of_ble_eq_true rfl⟩ (fun H locs hd => ?_)
              refine lv_aload_n hx hb dX1_stings_47 rfl (lv_at hl 1 rfl) ?_
              refine bf_rC X hd (bf_pC_hC G ν c q T_18) 14 (by decide) (Or.inl q331) rfl dX1_stings_48 ?_
              refine lv_icmp_lt (tgt := 57) hx hb dX1_stings_51 (by decide) (fun c_20 => ?_) (fun c_20 => ?_)
              · have hf := bf_it hf c_20
                refine lv_aload_n hx hb dX1_stings_57 rfl (lv_at hl 1 rfl) ?_
                refine lv_bipush (v := 6) hx hb dX1_stings_58 (by decide) ?_
                refine lv_iload_n hx hb dX1_stings_60 rfl (lv_at hl 2 rfl) ?_
                refine lv_aload_n hx hb dX1_stings_61 rfl (lv_at hl 0 rfl) ?_
                refine bf_rT X hd (bf_pC_hC G ν c q T_18) (bf_in_lt g_16) 3 (by decide) (Or.inr ⟨_, q271⟩) dX1_stings_62 ?_
                refine lv_bipush (v := 10) hx hb dX1_stings_65 (by decide) ?_
                refine lv_idiv hx hb dX1_stings_67 (by decide) ?_
                obtain ⟨T_21, eT_21, hf⟩ := bf_b_some hf
                refine bf_ccv (n := 3) (As := [.int 6, .int v2_1, .int ((T_18.1 2 v2_1.toNatClampNeg 3) / 10)]) (rest := []) X hd (mX1_notes l G ν c q T_18 6 v2_1 ((T_18.1 2 v2_1.toNatClampNeg 3) / 10) eT_21) (lw_V q1041 q1043 qs33 q149 q1044) (by decide +kernel) ⟨Nat.le_of_ble_eq_true rfl, Nat.le_of_ble_eq_true rfl⟩ rfl hl.1 rfl (Nat.le_of_ble_eq_true rfl) dX1_stings_68 ⟨Nat.le_of_ble_eq_true rfl, Nat.le_of_ble_eq_true rfl⟩ (fun H locs hd => ?_)
                refine lv_aload_n hx hb dX1_stings_71 rfl (lv_at hl 0 rfl) ?_
                refine lv_dup hx hb dX1_stings_72 rfl ?_
                refine bf_rT X hd (bf_pC_hC G ν c q T_21) (bf_in_lt g_16) 3 (by decide) (Or.inr ⟨_, q271⟩) dX1_stings_73 ?_
                refine lv_aload_n hx hb dX1_stings_76 rfl (lv_at hl 0 rfl) ?_
                refine bf_rT X hd (bf_pC_hC G ν c q T_21) (bf_in_lt g_16) 3 (by decide) (Or.inr ⟨_, q271⟩) dX1_stings_77 ?_
                refine lv_bipush (v := 10) hx hb dX1_stings_80 (by decide) ?_
                refine lv_idiv hx hb dX1_stings_82 (by decide) ?_
                refine lv_isub hx hb dX1_stings_83 ?_
                refine bf_xT X hd (bf_in_lt g_16) 3 (by decide) (Or.inr ⟨_, q271⟩) dX1_stings_84 (fun H locs hd => ?_)
                obtain ⟨T_22, eT_22, hf⟩ := bf_l_e hf
                have hd := hd.of (congrArg (bf_pC G ν c q) eT_22.symm)
                exact J87 v2_1 T_22 _ _ _ hf hd (lv_sub hl [1, 2] rfl)
              · have hf := bf_ie hf c_20
                refine lv_goto (tgt := 87) hx hb dX1_stings_54 (by decide) ?_
                exact J87 v2_1 T_18 _ _ _ hf hd (lv_sub hl [1, 2] rfl)
  unfold fX1_stings at hf
  refine lv_iconst (v := 0) hx hb dX1_stings_0 (by decide) ?_
  refine lv_istore_n (lv' := [(1, .int 0), (0, .ref c)]) hx hb dX1_stings_1 rfl hl (by decide) rfl (fun ls hl => ?_)
  exact L2 bf_fuel 0 T _ _ _ hf hd (lv_sub hl [1, 0] rfl)
def fX1_mostSeated_46 (T : bf_CS) (k15 : Int32 → Int32 → Option (Int32)) (w46_1 : Int32) (w46_2 : Int32) : Option (Int32) := bf_l (w46_2 + 1) fun x2_5 => k15 w46_1 x2_5
def fX1_mostSeated_15b (T : bf_CS) (k15 : Int32 → Int32 → Option (Int32)) (v15_1 : Int32) (v15_2 : Int32) : Option (Int32) := if (T.1 0 10 0) ≤ v15_2 then (some v15_1) else (bf_c (bf_in v15_2 5) <| bf_c (bf_in v15_1 5) <| if (T.1 1 v15_2.toNatClampNeg 2) ≤ (T.1 1 v15_1.toNatClampNeg 2) then (fX1_mostSeated_46 T k15 v15_1 v15_2) else (fX1_mostSeated_46 T k15 v15_2 v15_2))
def fX1_mostSeated_15 (T : bf_CS) : Nat → Int32 → Int32 → Option (Int32)
  | 0, _, _ => none
  | n + 1, v15_1, v15_2 => fX1_mostSeated_15b T (fX1_mostSeated_15 T n) v15_1 v15_2
def fX1_mostSeated_12 (T : bf_CS) (t12_0 : Int32) : Option (Int32) := fX1_mostSeated_15 T bf_fuel t12_0 1
def fX1_mostSeated (T : bf_CS) : Option (Int32) := if (T.1 0 10 0) = 0 then (fX1_mostSeated_12 T (-1)) else (fX1_mostSeated_12 T 0)
set_option maxHeartbeats 4000000 in
theorem mX1_mostSeated (l : Launch) (G : bf_G) (ν : bf_V) (c : Nat) (q : Nat → Nat) (T : bf_CS) {r : Int32} (hf : fX1_mostSeated T = some r) : bf_MI l G yX1_mostSeated cX1_mostSeated 3 (bf_rm 0) [.ref c] (bf_pC G ν c q T) (fun v σ' => v = r ∧ σ' = bf_pC G ν c q T) := by
  refine bf_MI.of rfl (Nat.le_of_ble_eq_true rfl) ?_
  intro p e s m below meth c' Q X hlk hnm kret hd ls hl
  have hx := X.1
  have hb := X.2.1
  have hml := X.2.2.1
  have hown := X.2.2.2.1
  have hts := X.2.2.2.2
  have hl : lv_has ls 3 [(0, .ref c)] := hl
  have L15 : ∀ (n15 : Nat) (v15_1 : Int32) (v15_2 : Int32) (H : Heap) (locs : List Loc) (ls : Array Slot), fX1_mostSeated_15 T n15 v15_1 v15_2 = some r → bf_Dy G s H locs (bf_pC G ν c q T) → lv_has ls 3 [(0, .ref c), (1, .int v15_1), (2, .int v15_2)] → W p l e (bf_rm 0) s m ([.ref c] : List Value).toArray below meth c' H locs 0 0 Q (F0 m 15 ls []) := by
    intro n15
    induction n15 with
    | zero =>
      intro v15_1 v15_2 H locs ls hf hd hl
      exact absurd (show (none : Option (Int32)) = some r from hf) (by intro h; cases h)
    | succ n15 ih15 =>
      intro v15_1 v15_2 H locs ls hf hd hl
      have hf : fX1_mostSeated_15b T (fX1_mostSeated_15 T n15) v15_1 v15_2 = some r := hf
      unfold fX1_mostSeated_15b at hf
      have J46 : ∀ (w46_1 : Int32) (w46_2 : Int32) (H : Heap) (locs : List Loc) (ls : Array Slot), fX1_mostSeated_46 T (fX1_mostSeated_15 T n15) w46_1 w46_2 = some r → bf_Dy G s H locs (bf_pC G ν c q T) → lv_has ls 3 [(0, .ref c), (1, .int w46_1), (2, .int w46_2)] → W p l e (bf_rm 0) s m ([.ref c] : List Value).toArray below meth c' H locs 0 0 Q (F0 m 46 ls []) := by
        intro w46_1 w46_2 H locs ls hf hd hl
        unfold fX1_mostSeated_46 at hf
        obtain ⟨x2_7, ex2_7, hf⟩ := bf_l_e hf
        refine lv_iinc (v := x2_7) (lv' := [(2, .int x2_7), (0, .ref c), (1, .int w46_1)]) hx hb dX1_mostSeated_46 hl (k := 2) rfl (by rw [ex2_7]; rfl) (by decide) rfl (fun ls hl => ?_)
        refine lv_goto (tgt := 15) hx hb dX1_mostSeated_49 (by decide) ?_
        exact ih15 w46_1 x2_7 _ _ _ hf hd (lv_sub hl [1, 2, 0] rfl)
      refine lv_iload_n hx hb dX1_mostSeated_15 rfl (lv_at hl 2 rfl) ?_
      refine lv_aload_n hx hb dX1_mostSeated_16 rfl (lv_at hl 0 rfl) ?_
      refine bf_rC X hd (bf_pC_hC G ν c q T) 10 (by decide) (Or.inl q320) rfl dX1_mostSeated_17 ?_
      refine lv_icmp_ge (tgt := 52) hx hb dX1_mostSeated_20 (by decide) (fun c_8 => ?_) (fun c_8 => ?_)
      · have hf := bf_it hf c_8
        refine lv_iload_n hx hb dX1_mostSeated_52 rfl (lv_at hl 1 rfl) ?_
        exact kret _ _ _ _ _ _ ⟨bf_so hf, rfl⟩ hd dX1_mostSeated_53
      · have hf := bf_ie hf c_8
        refine lv_aload_n hx hb dX1_mostSeated_23 rfl (lv_at hl 0 rfl) ?_
        refine bf_rC (v := .ref (c + 1)) X hd (bf_pC_hC G ν c q T) 0 (by decide) (Or.inl q299) rfl dX1_mostSeated_24 ?_
        refine lv_iload_n hx hb dX1_mostSeated_27 rfl (lv_at hl 2 rfl) ?_
        obtain ⟨g_9, hf⟩ := bf_c_some hf
        refine bf_aald (v := .ref (c + 161 + v15_2.toNatClampNeg)) X hd (bf_c1 (bf_pC_hC G ν c q T)) 2 rfl rfl g_9 rfl dX1_mostSeated_28 ?_
        refine bf_rP X hd (bf_pC_hC G ν c q T) (bf_in_lt g_9) 2 (by decide) (Or.inr ⟨_, q247⟩) dX1_mostSeated_29 ?_
        refine lv_aload_n hx hb dX1_mostSeated_32 rfl (lv_at hl 0 rfl) ?_
        refine bf_rC (v := .ref (c + 1)) X hd (bf_pC_hC G ν c q T) 0 (by decide) (Or.inl q299) rfl dX1_mostSeated_33 ?_
        refine lv_iload_n hx hb dX1_mostSeated_36 rfl (lv_at hl 1 rfl) ?_
        obtain ⟨g_10, hf⟩ := bf_c_some hf
        refine bf_aald (v := .ref (c + 161 + v15_1.toNatClampNeg)) X hd (bf_c1 (bf_pC_hC G ν c q T)) 2 rfl rfl g_10 rfl dX1_mostSeated_37 ?_
        refine bf_rP X hd (bf_pC_hC G ν c q T) (bf_in_lt g_10) 2 (by decide) (Or.inr ⟨_, q247⟩) dX1_mostSeated_38 ?_
        refine lv_icmp_le (tgt := 46) hx hb dX1_mostSeated_41 (by decide) (fun c_11 => ?_) (fun c_11 => ?_)
        · have hf := bf_it hf c_11
          exact J46 v15_1 v15_2 _ _ _ hf hd (lv_sub hl [0, 1, 2] rfl)
        · have hf := bf_ie hf c_11
          refine lv_iload_n hx hb dX1_mostSeated_44 rfl (lv_at hl 2 rfl) ?_
          refine lv_istore_n (lv' := [(1, .int v15_2), (0, .ref c), (2, .int v15_2)]) hx hb dX1_mostSeated_45 rfl hl (by decide) rfl (fun ls hl => ?_)
          exact J46 v15_2 v15_2 _ _ _ hf hd (lv_sub hl [1, 0, 2] rfl)
  have J12 : ∀ (t12_0 : Int32) (H : Heap) (locs : List Loc) (ls : Array Slot), fX1_mostSeated_12 T t12_0 = some r → bf_Dy G s H locs (bf_pC G ν c q T) → lv_has ls 3 [(0, .ref c)] → W p l e (bf_rm 0) s m ([.ref c] : List Value).toArray below meth c' H locs 0 0 Q (F0 m 12 ls [.int t12_0]) := by
    intro t12_0 H locs ls hf hd hl
    unfold fX1_mostSeated_12 at hf
    refine lv_istore_n (lv' := [(1, .int t12_0), (0, .ref c)]) hx hb dX1_mostSeated_12 rfl hl (by decide) rfl (fun ls hl => ?_)
    refine lv_iconst (v := 1) hx hb dX1_mostSeated_13 (by decide) ?_
    refine lv_istore_n (lv' := [(2, .int 1), (1, .int t12_0), (0, .ref c)]) hx hb dX1_mostSeated_14 rfl hl (by decide) rfl (fun ls hl => ?_)
    exact L15 bf_fuel t12_0 1 _ _ _ hf hd (lv_sub hl [2, 1, 0] rfl)
  unfold fX1_mostSeated at hf
  refine lv_aload_n hx hb dX1_mostSeated_0 rfl (lv_at hl 0 rfl) ?_
  refine bf_rC X hd (bf_pC_hC G ν c q T) 10 (by decide) (Or.inl q320) rfl dX1_mostSeated_1 ?_
  refine lv_if_ne (tgt := 11) hx hb dX1_mostSeated_4 (by decide) (fun c_12 => ?_) (fun c_12 => ?_)
  · have hf := bf_ie hf c_12
    refine lv_iconst (v := 0) hx hb dX1_mostSeated_11 (by decide) ?_
    exact J12 0 _ _ _ hf hd (lv_sub hl [0] rfl)
  · have hf := bf_it hf c_12
    refine lv_iconst (v := (-1)) hx hb dX1_mostSeated_7 (by decide) ?_
    refine lv_goto (tgt := 12) hx hb dX1_mostSeated_8 (by decide) ?_
    exact J12 (-1) _ _ _ hf hd (lv_sub hl [0] rfl)
def fX1_isAhead (T : bf_CS) (x1 : Int32) (x2 : Int32) (x3 : Int32) : Option (Int32) := bf_c (bf_in x1 5) <| bf_c (bf_nz x3) <| bf_c (bf_in x2 5) <| bf_c (bf_nz x3) <| bf_l (((((T.1 1 x1.toNatClampNeg 1) * (T.1 0 15 0)) - ((T.1 1 x1.toNatClampNeg 1) * (T.1 0 15 0)) / x3 * x3) - (((T.1 1 x2.toNatClampNeg 1) * (T.1 0 15 0)) - ((T.1 1 x2.toNatClampNeg 1) * (T.1 0 15 0)) / x3 * x3))) fun x4_5 => if 0 < x4_5 then (some 1) else (if x4_5 = 0 then (bf_c (bf_in x1 5) <| bf_c (bf_in x2 5) <| if (T.1 1 x1.toNatClampNeg 2) ≤ (T.1 1 x2.toNatClampNeg 2) then (some 0) else (some 1)) else (some 0))
set_option maxHeartbeats 4000000 in
theorem mX1_isAhead (l : Launch) (G : bf_G) (ν : bf_V) (c : Nat) (q : Nat → Nat) (T : bf_CS) (x1 : Int32) (x2 : Int32) (x3 : Int32) {r : Int32} (hf : fX1_isAhead T x1 x2 x3 = some r) : bf_MZ l G yX1_isAhead cX1_isAhead 5 (bf_rm 0) [.ref c, .int x1, .int x2, .int x3] (bf_pC G ν c q T) (fun v σ' => v = r ∧ σ' = bf_pC G ν c q T) := by
  refine bf_MZ.of rfl (Nat.le_of_ble_eq_true rfl) ?_
  intro p e s m below meth c' Q X hlk hnm kret hd ls hl
  have hx := X.1
  have hb := X.2.1
  have hml := X.2.2.1
  have hown := X.2.2.2.1
  have hts := X.2.2.2.2
  have hl : lv_has ls 5 [(0, .ref c), (1, .int x1), (2, .int x2), (3, .int x3)] := hl
  unfold fX1_isAhead at hf
  refine lv_aload_n hx hb dX1_isAhead_0 rfl (lv_at hl 0 rfl) ?_
  refine bf_rC (v := .ref (c + 1)) X hd (bf_pC_hC G ν c q T) 0 (by decide) (Or.inl q299) rfl dX1_isAhead_1 ?_
  refine lv_iload_n hx hb dX1_isAhead_4 rfl (lv_at hl 1 rfl) ?_
  obtain ⟨g_11, hf⟩ := bf_c_some hf
  refine bf_aald (v := .ref (c + 161 + x1.toNatClampNeg)) X hd (bf_c1 (bf_pC_hC G ν c q T)) 2 rfl rfl g_11 rfl dX1_isAhead_5 ?_
  refine bf_rP X hd (bf_pC_hC G ν c q T) (bf_in_lt g_11) 1 (by decide) (Or.inr ⟨_, q245⟩) dX1_isAhead_6 ?_
  refine lv_aload_n hx hb dX1_isAhead_9 rfl (lv_at hl 0 rfl) ?_
  refine bf_rC X hd (bf_pC_hC G ν c q T) 15 (by decide) (Or.inl q333) rfl dX1_isAhead_10 ?_
  refine lv_imul hx hb dX1_isAhead_13 ?_
  refine lv_iload_n hx hb dX1_isAhead_14 rfl (lv_at hl 3 rfl) ?_
  obtain ⟨g_12, hf⟩ := bf_c_some hf
  refine lv_irem hx hb dX1_isAhead_15 (bf_nz_t g_12) ?_
  refine lv_aload_n hx hb dX1_isAhead_16 rfl (lv_at hl 0 rfl) ?_
  refine bf_rC (v := .ref (c + 1)) X hd (bf_pC_hC G ν c q T) 0 (by decide) (Or.inl q299) rfl dX1_isAhead_17 ?_
  refine lv_iload_n hx hb dX1_isAhead_20 rfl (lv_at hl 2 rfl) ?_
  obtain ⟨g_13, hf⟩ := bf_c_some hf
  refine bf_aald (v := .ref (c + 161 + x2.toNatClampNeg)) X hd (bf_c1 (bf_pC_hC G ν c q T)) 2 rfl rfl g_13 rfl dX1_isAhead_21 ?_
  refine bf_rP X hd (bf_pC_hC G ν c q T) (bf_in_lt g_13) 1 (by decide) (Or.inr ⟨_, q245⟩) dX1_isAhead_22 ?_
  refine lv_aload_n hx hb dX1_isAhead_25 rfl (lv_at hl 0 rfl) ?_
  refine bf_rC X hd (bf_pC_hC G ν c q T) 15 (by decide) (Or.inl q333) rfl dX1_isAhead_26 ?_
  refine lv_imul hx hb dX1_isAhead_29 ?_
  refine lv_iload_n hx hb dX1_isAhead_30 rfl (lv_at hl 3 rfl) ?_
  obtain ⟨g_14, hf⟩ := bf_c_some hf
  refine lv_irem hx hb dX1_isAhead_31 (bf_nz_t g_14) ?_
  refine lv_isub hx hb dX1_isAhead_32 ?_
  obtain ⟨x4_15, ex4_15, hf⟩ := bf_l_e hf
  refine bf_top ex4_15 ?_
  refine lv_istore (lv' := [(4, .int x4_15), (0, .ref c), (1, .int x1), (2, .int x2), (3, .int x3)]) hx hb dX1_isAhead_33 hl (by decide) rfl (fun ls hl => ?_)
  refine lv_iload hx hb dX1_isAhead_35 (lv_at hl 0 rfl) ?_
  refine lv_if_gt (tgt := 66) hx hb dX1_isAhead_37 (by decide) (fun c_16 => ?_) (fun c_16 => ?_)
  · have hf := bf_it hf c_16
    refine lv_iconst (v := 1) hx hb dX1_isAhead_66 (by decide) ?_
    refine lv_goto (tgt := 71) hx hb dX1_isAhead_67 (by decide) ?_
    exact kret _ _ _ _ _ _ ⟨bf_so hf, rfl⟩ (Or.inr rfl) hd dX1_isAhead_71
  · have hf := bf_ie hf c_16
    refine lv_iload hx hb dX1_isAhead_40 (lv_at hl 0 rfl) ?_
    refine lv_if_ne (tgt := 70) hx hb dX1_isAhead_42 (by decide) (fun c_17 => ?_) (fun c_17 => ?_)
    · have hf := bf_ie hf c_17
      refine lv_iconst (v := 0) hx hb dX1_isAhead_70 (by decide) ?_
      exact kret _ _ _ _ _ _ ⟨bf_so hf, rfl⟩ (Or.inl rfl) hd dX1_isAhead_71
    · have hf := bf_it hf c_17
      refine lv_aload_n hx hb dX1_isAhead_45 rfl (lv_at hl 1 rfl) ?_
      refine bf_rC (v := .ref (c + 1)) X hd (bf_pC_hC G ν c q T) 0 (by decide) (Or.inl q299) rfl dX1_isAhead_46 ?_
      refine lv_iload_n hx hb dX1_isAhead_49 rfl (lv_at hl 2 rfl) ?_
      obtain ⟨g_18, hf⟩ := bf_c_some hf
      refine bf_aald (v := .ref (c + 161 + x1.toNatClampNeg)) X hd (bf_c1 (bf_pC_hC G ν c q T)) 2 rfl rfl g_18 rfl dX1_isAhead_50 ?_
      refine bf_rP X hd (bf_pC_hC G ν c q T) (bf_in_lt g_18) 2 (by decide) (Or.inr ⟨_, q247⟩) dX1_isAhead_51 ?_
      refine lv_aload_n hx hb dX1_isAhead_54 rfl (lv_at hl 1 rfl) ?_
      refine bf_rC (v := .ref (c + 1)) X hd (bf_pC_hC G ν c q T) 0 (by decide) (Or.inl q299) rfl dX1_isAhead_55 ?_
      refine lv_iload_n hx hb dX1_isAhead_58 rfl (lv_at hl 3 rfl) ?_
      obtain ⟨g_19, hf⟩ := bf_c_some hf
      refine bf_aald (v := .ref (c + 161 + x2.toNatClampNeg)) X hd (bf_c1 (bf_pC_hC G ν c q T)) 2 rfl rfl g_19 rfl dX1_isAhead_59 ?_
      refine bf_rP X hd (bf_pC_hC G ν c q T) (bf_in_lt g_19) 2 (by decide) (Or.inr ⟨_, q247⟩) dX1_isAhead_60 ?_
      refine lv_icmp_le (tgt := 70) hx hb dX1_isAhead_63 (by decide) (fun c_20 => ?_) (fun c_20 => ?_)
      · have hf := bf_it hf c_20
        refine lv_iconst (v := 0) hx hb dX1_isAhead_70 (by decide) ?_
        exact kret _ _ _ _ _ _ ⟨bf_so hf, rfl⟩ (Or.inl rfl) hd dX1_isAhead_71
      · have hf := bf_ie hf c_20
        refine lv_iconst (v := 1) hx hb dX1_isAhead_66 (by decide) ?_
        refine lv_goto (tgt := 71) hx hb dX1_isAhead_67 (by decide) ?_
        exact kret _ _ _ _ _ _ ⟨bf_so hf, rfl⟩ (Or.inr rfl) hd dX1_isAhead_71
def fX1_falls_156 (k100 : Int32 → Int32 → bf_CS → Option (bf_CS)) (u100_1 : Int32) (w156_2 : Int32) (w156_3 : Int32) (w156_4 : Int32) (T156 : bf_CS) : Option (bf_CS) := bf_l ((w156_3 ||| (1 <<< (w156_4 &&& 31)))) fun x3_23 => bf_c (bf_in w156_4 5) <| bf_l (bf_u3 T156 1 w156_4.toNatClampNeg 2 ((T156.1 1 w156_4.toNatClampNeg 2) + 1)) fun T_25 => bf_l (w156_2 + (-1)) fun x2_26 => k100 x2_26 x3_23 T_25
def fX1_falls_150 (k100 : Int32 → Int32 → bf_CS → Option (bf_CS)) (k110 : Int32 → Int32 → bf_CS → Option (bf_CS)) (u100_1 : Int32) (u110_2 : Int32) (u110_3 : Int32) (w150_4 : Int32) (w150_5 : Int32) (T150 : bf_CS) : Option (bf_CS) := bf_l (w150_5 + 1) fun x5_22 => k110 w150_4 x5_22 T150
def fX1_falls_146 (k100 : Int32 → Int32 → bf_CS → Option (bf_CS)) (k110 : Int32 → Int32 → bf_CS → Option (bf_CS)) (u100_1 : Int32) (u110_2 : Int32) (u110_3 : Int32) (w146_5 : Int32) (T146 : bf_CS) : Option (bf_CS) := fX1_falls_150 k100 k110 u100_1 u110_2 u110_3 w146_5 w146_5 T146
def fX1_falls_110b (k100 : Int32 → Int32 → bf_CS → Option (bf_CS)) (u100_1 : Int32) (u110_2 : Int32) (u110_3 : Int32) (k110 : Int32 → Int32 → bf_CS → Option (bf_CS)) (v110_4 : Int32) (v110_5 : Int32) (T110 : bf_CS) : Option (bf_CS) := if (T110.1 0 10 0) ≤ v110_5 then (fX1_falls_156 k100 u100_1 u110_2 u110_3 v110_4 T110) else (if ((u110_3 >>> (v110_5 &&& 31)) &&& 1) = 0 then (if v110_4 = (-1) then (fX1_falls_146 k100 k110 u100_1 u110_2 u110_3 v110_5 T110) else (bf_b (fX1_isAhead T110 v110_5 v110_4 u100_1) fun r_19 => if r_19 = 0 then (fX1_falls_150 k100 k110 u100_1 u110_2 u110_3 v110_4 v110_5 T110) else (fX1_falls_146 k100 k110 u100_1 u110_2 u110_3 v110_5 T110))) else (fX1_falls_150 k100 k110 u100_1 u110_2 u110_3 v110_4 v110_5 T110))
def fX1_falls_110 (k100 : Int32 → Int32 → bf_CS → Option (bf_CS)) (u100_1 : Int32) (u110_2 : Int32) (u110_3 : Int32) : Nat → Int32 → Int32 → bf_CS → Option (bf_CS)
  | 0, _, _, _ => none
  | n + 1, v110_4, v110_5, T110 => fX1_falls_110b k100 u100_1 u110_2 u110_3 (fX1_falls_110 k100 u100_1 u110_2 u110_3 n) v110_4 v110_5 T110
def fX1_falls_100b (u100_1 : Int32) (k100 : Int32 → Int32 → bf_CS → Option (bf_CS)) (v100_2 : Int32) (v100_3 : Int32) (T100 : bf_CS) : Option (bf_CS) := if v100_2 ≤ 0 then (some T100) else (fX1_falls_110 k100 u100_1 v100_2 v100_3 bf_fuel (-1) 0 T100)
def fX1_falls_100 (u100_1 : Int32) : Nat → Int32 → Int32 → bf_CS → Option (bf_CS)
  | 0, _, _, _ => none
  | n + 1, v100_2, v100_3, T100 => fX1_falls_100b u100_1 (fX1_falls_100 u100_1 n) v100_2 v100_3 T100
def fX1_falls_45b (u45_1 : Int32) (u45_3 : Int32) (k45 : Int32 → Int32 → bf_CS → Option (bf_CS)) (v45_2 : Int32) (v45_4 : Int32) (T45 : bf_CS) : Option (bf_CS) := if (T45.1 0 10 0) ≤ v45_4 then (fX1_falls_100 u45_1 bf_fuel v45_2 u45_3 T45) else (bf_c (bf_in v45_4 5) <| bf_c (bf_in v45_4 5) <| bf_c (bf_nz u45_1) <| bf_l (bf_u3 T45 1 v45_4.toNatClampNeg 2 (((T45.1 1 v45_4.toNatClampNeg 1) * (T45.1 0 15 0)) / u45_1)) fun T_11 => bf_c (bf_in v45_4 5) <| bf_l ((v45_2 - (T_11.1 1 v45_4.toNatClampNeg 2))) fun x2_13 => bf_l (v45_4 + 1) fun x4_14 => k45 x2_13 x4_14 T_11)
def fX1_falls_45 (u45_1 : Int32) (u45_3 : Int32) : Nat → Int32 → Int32 → bf_CS → Option (bf_CS)
  | 0, _, _, _ => none
  | n + 1, v45_2, v45_4, T45 => fX1_falls_45b u45_1 u45_3 (fX1_falls_45 u45_1 u45_3 n) v45_2 v45_4 T45
def fX1_falls_30 (w30_1 : Int32) (T30 : bf_CS) : Option (bf_CS) := if w30_1 = 0 then (some T30) else (bf_l ((T30.1 0 15 0)) fun x2_6 => fX1_falls_45 w30_1 0 bf_fuel x2_6 0 T30)
def fX1_falls_4b (k4 : Int32 → Int32 → bf_CS → Option (bf_CS)) (v4_1 : Int32) (v4_2 : Int32) (T4 : bf_CS) : Option (bf_CS) := if (T4.1 0 10 0) ≤ v4_2 then (fX1_falls_30 v4_1 T4) else (bf_c (bf_in v4_2 5) <| bf_l ((v4_1 + (T4.1 1 v4_2.toNatClampNeg 1))) fun x1_3 => bf_l (v4_2 + 1) fun x2_4 => k4 x1_3 x2_4 T4)
def fX1_falls_4  : Nat → Int32 → Int32 → bf_CS → Option (bf_CS)
  | 0, _, _, _ => none
  | n + 1, v4_1, v4_2, T4 => fX1_falls_4b (fX1_falls_4 n) v4_1 v4_2 T4
def fX1_falls (T : bf_CS) : Option (bf_CS) := fX1_falls_4 bf_fuel 0 0 T
set_option maxHeartbeats 4000000 in
theorem mX1_falls (l : Launch) (G : bf_G) (ν : bf_V) (c : Nat) (q : Nat → Nat) (T : bf_CS) {T' : bf_CS} (hf : fX1_falls T = some T') : bf_MV l G yX1_falls cX1_falls 6 (bf_rm 1) [.ref c] (bf_pC G ν c q T) (fun σ' => σ' = bf_pC G ν c q T') := by
  refine bf_MV.of rfl (Nat.le_of_ble_eq_true rfl) ?_
  intro p e s m below meth c' Q X hlk hnm kret hd ls hl
  have hx := X.1
  have hb := X.2.1
  have hml := X.2.2.1
  have hown := X.2.2.2.1
  have hts := X.2.2.2.2
  have hl : lv_has ls 6 [(0, .ref c)] := hl
  have L100 : ∀ (u100_1 : Int32) (n100 : Nat) (v100_2 : Int32) (v100_3 : Int32) (T100 : bf_CS) (H : Heap) (locs : List Loc) (ls : Array Slot), fX1_falls_100 u100_1 n100 v100_2 v100_3 T100 = some T' → bf_Dy G s H locs (bf_pC G ν c q T100) → lv_has ls 6 [(0, .ref c), (1, .int u100_1), (2, .int v100_2), (3, .int v100_3)] → W p l e (bf_rm 1) s m ([.ref c] : List Value).toArray below meth c' H locs 0 0 Q (F0 m 100 ls []) := by
    intro u100_1 n100
    induction n100 with
    | zero =>
      intro v100_2 v100_3 T100 H locs ls hf hd hl
      exact absurd (show (none : Option (bf_CS)) = some T' from hf) (by intro h; cases h)
    | succ n100 ih100 =>
      intro v100_2 v100_3 T100 H locs ls hf hd hl
      have hf : fX1_falls_100b u100_1 (fX1_falls_100 u100_1 n100) v100_2 v100_3 T100 = some T' := hf
      unfold fX1_falls_100b at hf
      have J156 : ∀ (w156_2 : Int32) (w156_3 : Int32) (w156_4 : Int32) (T156 : bf_CS) (H : Heap) (locs : List Loc) (ls : Array Slot), fX1_falls_156 (fX1_falls_100 u100_1 n100) u100_1 w156_2 w156_3 w156_4 T156 = some T' → bf_Dy G s H locs (bf_pC G ν c q T156) → lv_has ls 6 [(0, .ref c), (1, .int u100_1), (2, .int w156_2), (3, .int w156_3), (4, .int w156_4)] → W p l e (bf_rm 1) s m ([.ref c] : List Value).toArray below meth c' H locs 0 0 Q (F0 m 156 ls []) := by
        intro w156_2 w156_3 w156_4 T156 H locs ls hf hd hl
        unfold fX1_falls_156 at hf
        refine lv_iload_n hx hb dX1_falls_156 rfl (lv_at hl 3 rfl) ?_
        refine lv_iconst (v := 1) hx hb dX1_falls_157 (by decide) ?_
        refine lv_iload hx hb dX1_falls_158 (lv_at hl 4 rfl) ?_
        refine lv_ishl hx hb dX1_falls_160 ?_
        refine lv_ior hx hb dX1_falls_161 ?_
        obtain ⟨x3_27, ex3_27, hf⟩ := bf_l_e hf
        refine bf_top ex3_27 ?_
        refine lv_istore_n (lv' := [(3, .int x3_27), (0, .ref c), (1, .int u100_1), (2, .int w156_2), (4, .int w156_4)]) hx hb dX1_falls_162 rfl hl (by decide) rfl (fun ls hl => ?_)
        refine lv_aload_n hx hb dX1_falls_163 rfl (lv_at hl 1 rfl) ?_
        refine bf_rC (v := .ref (c + 1)) X hd (bf_pC_hC G ν c q T156) 0 (by decide) (Or.inl q299) rfl dX1_falls_164 ?_
        refine lv_iload hx hb dX1_falls_167 (lv_at hl 4 rfl) ?_
        obtain ⟨g_28, hf⟩ := bf_c_some hf
        refine bf_aald (v := .ref (c + 161 + w156_4.toNatClampNeg)) X hd (bf_c1 (bf_pC_hC G ν c q T156)) 2 rfl rfl g_28 rfl dX1_falls_169 ?_
        refine lv_dup hx hb dX1_falls_170 rfl ?_
        refine bf_rP X hd (bf_pC_hC G ν c q T156) (bf_in_lt g_28) 2 (by decide) (Or.inr ⟨_, q247⟩) dX1_falls_171 ?_
        refine lv_iconst (v := 1) hx hb dX1_falls_174 (by decide) ?_
        refine lv_iadd hx hb dX1_falls_175 ?_
        refine bf_xP X hd (bf_in_lt g_28) 2 (by decide) (Or.inr ⟨_, q247⟩) dX1_falls_176 (fun H locs hd => ?_)
        obtain ⟨T_29, eT_29, hf⟩ := bf_l_e hf
        have hd := hd.of (congrArg (bf_pC G ν c q) eT_29.symm)
        obtain ⟨x2_30, ex2_30, hf⟩ := bf_l_e hf
        refine lv_iinc (v := x2_30) (lv' := [(2, .int x2_30), (3, .int x3_27), (0, .ref c), (1, .int u100_1), (4, .int w156_4)]) hx hb dX1_falls_179 hl (k := 3) rfl (by rw [ex2_30]; rfl) (by decide) rfl (fun ls hl => ?_)
        refine lv_goto (tgt := 100) hx hb dX1_falls_182 (by decide) ?_
        exact ih100 x2_30 x3_27 T_29 _ _ _ hf hd (lv_sub hl [2, 3, 0, 1] rfl)
      have L110 : ∀ (u110_2 : Int32) (u110_3 : Int32) (n110 : Nat) (v110_4 : Int32) (v110_5 : Int32) (T110 : bf_CS) (H : Heap) (locs : List Loc) (ls : Array Slot), fX1_falls_110 (fX1_falls_100 u100_1 n100) u100_1 u110_2 u110_3 n110 v110_4 v110_5 T110 = some T' → bf_Dy G s H locs (bf_pC G ν c q T110) → lv_has ls 6 [(0, .ref c), (1, .int u100_1), (2, .int u110_2), (3, .int u110_3), (4, .int v110_4), (5, .int v110_5)] → W p l e (bf_rm 1) s m ([.ref c] : List Value).toArray below meth c' H locs 0 0 Q (F0 m 110 ls []) := by
        intro u110_2 u110_3 n110
        induction n110 with
        | zero =>
          intro v110_4 v110_5 T110 H locs ls hf hd hl
          exact absurd (show (none : Option (bf_CS)) = some T' from hf) (by intro h; cases h)
        | succ n110 ih110 =>
          intro v110_4 v110_5 T110 H locs ls hf hd hl
          have hf : fX1_falls_110b (fX1_falls_100 u100_1 n100) u100_1 u110_2 u110_3 (fX1_falls_110 (fX1_falls_100 u100_1 n100) u100_1 u110_2 u110_3 n110) v110_4 v110_5 T110 = some T' := hf
          unfold fX1_falls_110b at hf
          have J150 : ∀ (w150_4 : Int32) (w150_5 : Int32) (T150 : bf_CS) (H : Heap) (locs : List Loc) (ls : Array Slot), fX1_falls_150 (fX1_falls_100 u100_1 n100) (fX1_falls_110 (fX1_falls_100 u100_1 n100) u100_1 u110_2 u110_3 n110) u100_1 u110_2 u110_3 w150_4 w150_5 T150 = some T' → bf_Dy G s H locs (bf_pC G ν c q T150) → lv_has ls 6 [(0, .ref c), (1, .int u100_1), (2, .int u110_2), (3, .int u110_3), (4, .int w150_4), (5, .int w150_5)] → W p l e (bf_rm 1) s m ([.ref c] : List Value).toArray below meth c' H locs 0 0 Q (F0 m 150 ls []) := by
            intro w150_4 w150_5 T150 H locs ls hf hd hl
            unfold fX1_falls_150 at hf
            obtain ⟨x5_31, ex5_31, hf⟩ := bf_l_e hf
            refine lv_iinc (v := x5_31) (lv' := [(5, .int x5_31), (0, .ref c), (1, .int u100_1), (2, .int u110_2), (3, .int u110_3), (4, .int w150_4)]) hx hb dX1_falls_150 hl (k := 5) rfl (by rw [ex5_31]; rfl) (by decide) rfl (fun ls hl => ?_)
            refine lv_goto (tgt := 110) hx hb dX1_falls_153 (by decide) ?_
            exact ih110 w150_4 x5_31 T150 _ _ _ hf hd (lv_sub hl [1, 2, 3, 4, 5, 0] rfl)
          have J146 : ∀ (w146_5 : Int32) (T146 : bf_CS) (H : Heap) (locs : List Loc) (ls : Array Slot), fX1_falls_146 (fX1_falls_100 u100_1 n100) (fX1_falls_110 (fX1_falls_100 u100_1 n100) u100_1 u110_2 u110_3 n110) u100_1 u110_2 u110_3 w146_5 T146 = some T' → bf_Dy G s H locs (bf_pC G ν c q T146) → lv_has ls 6 [(0, .ref c), (1, .int u100_1), (2, .int u110_2), (3, .int u110_3), (5, .int w146_5)] → W p l e (bf_rm 1) s m ([.ref c] : List Value).toArray below meth c' H locs 0 0 Q (F0 m 146 ls []) := by
            intro w146_5 T146 H locs ls hf hd hl
            unfold fX1_falls_146 at hf
            refine lv_iload hx hb dX1_falls_146 (lv_at hl 4 rfl) ?_
            refine lv_istore (lv' := [(4, .int w146_5), (0, .ref c), (1, .int u100_1), (2, .int u110_2), (3, .int u110_3), (5, .int w146_5)]) hx hb dX1_falls_148 hl (by decide) rfl (fun ls hl => ?_)
            exact J150 w146_5 w146_5 T146 _ _ _ hf hd (lv_sub hl [1, 2, 3, 4, 0, 5] rfl)
          refine lv_iload hx hb dX1_falls_110 (lv_at hl 5 rfl) ?_
          refine lv_aload_n hx hb dX1_falls_112 rfl (lv_at hl 0 rfl) ?_
          refine bf_rC X hd (bf_pC_hC G ν c q T110) 10 (by decide) (Or.inl q320) rfl dX1_falls_113 ?_
          refine lv_icmp_ge (tgt := 156) hx hb dX1_falls_116 (by decide) (fun c_32 => ?_) (fun c_32 => ?_)
          · have hf := bf_it hf c_32
            exact J156 u110_2 u110_3 v110_4 T110 _ _ _ hf hd (lv_sub hl [0, 1, 2, 3, 4] rfl)
          · have hf := bf_ie hf c_32
            refine lv_iload_n hx hb dX1_falls_119 rfl (lv_at hl 3 rfl) ?_
            refine lv_iload hx hb dX1_falls_120 (lv_at hl 5 rfl) ?_
            refine lv_ishr hx hb dX1_falls_122 ?_
            refine lv_iconst (v := 1) hx hb dX1_falls_123 (by decide) ?_
            refine lv_iand hx hb dX1_falls_124 ?_
            refine lv_if_ne (tgt := 150) hx hb dX1_falls_125 (by decide) (fun c_33 => ?_) (fun c_33 => ?_)
            · have hf := bf_ie hf c_33
              exact J150 v110_4 v110_5 T110 _ _ _ hf hd (lv_sub hl [0, 1, 2, 3, 4, 5] rfl)
            · have hf := bf_it hf c_33
              refine lv_iload hx hb dX1_falls_128 (lv_at hl 4 rfl) ?_
              refine lv_iconst (v := (-1)) hx hb dX1_falls_130 (by decide) ?_
              refine lv_icmp_eq (tgt := 146) hx hb dX1_falls_131 (by decide) (fun c_34 => ?_) (fun c_34 => ?_)
              · have hf := bf_it hf c_34
                exact J146 v110_5 T110 _ _ _ hf hd (lv_sub hl [0, 1, 2, 3, 5] rfl)
              · have hf := bf_ie hf c_34
                refine lv_aload_n hx hb dX1_falls_134 rfl (lv_at hl 0 rfl) ?_
                refine lv_iload hx hb dX1_falls_135 (lv_at hl 5 rfl) ?_
                refine lv_iload hx hb dX1_falls_137 (lv_at hl 4 rfl) ?_
                refine lv_iload_n hx hb dX1_falls_139 rfl (lv_at hl 1 rfl) ?_
                obtain ⟨r_35, er_35, hf⟩ := bf_b_some hf
                refine bf_ccz (n := 3) (As := [.int v110_5, .int v110_4, .int u100_1]) (rest := []) X hd (mX1_isAhead l G ν c q T110 v110_5 v110_4 u100_1 er_35) (lw_V q1223 q1225 qs45 q149 q1226) (by decide +kernel) ⟨Nat.le_of_ble_eq_true rfl, Nat.le_of_ble_eq_true rfl⟩ rfl hl.1 rfl (Nat.le_of_ble_eq_true rfl) dX1_falls_140 ⟨Nat.le_of_ble_eq_true rfl, Nat.le_of_ble_eq_true rfl⟩ (fun H locs z_36 hd => ?_)
                refine lv_if_eq (tgt := 150) hx hb dX1_falls_143 (by decide) (fun c_37 => ?_) (fun c_37 => ?_)
                · have hf := bf_it hf c_37
                  exact J150 v110_4 v110_5 T110 _ _ _ hf hd (lv_sub hl [0, 1, 2, 3, 4, 5] rfl)
                · have hf := bf_ie hf c_37
                  exact J146 v110_5 T110 _ _ _ hf hd (lv_sub hl [0, 1, 2, 3, 5] rfl)
      refine lv_iload_n hx hb dX1_falls_100 rfl (lv_at hl 2 rfl) ?_
      refine lv_if_le (tgt := 185) hx hb dX1_falls_101 (by decide) (fun c_38 => ?_) (fun c_38 => ?_)
      · have hf := bf_it hf c_38
        exact kret _ _ _ _ _ (congrArg (bf_pC G ν c q) (bf_so hf)) hd dX1_falls_185
      · have hf := bf_ie hf c_38
        refine lv_iconst (v := (-1)) hx hb dX1_falls_104 (by decide) ?_
        refine lv_istore (lv' := [(4, .int (-1)), (0, .ref c), (1, .int u100_1), (2, .int v100_2), (3, .int v100_3)]) hx hb dX1_falls_105 hl (by decide) rfl (fun ls hl => ?_)
        refine lv_iconst (v := 0) hx hb dX1_falls_107 (by decide) ?_
        refine lv_istore (lv' := [(5, .int 0), (4, .int (-1)), (0, .ref c), (1, .int u100_1), (2, .int v100_2), (3, .int v100_3)]) hx hb dX1_falls_108 hl (by decide) rfl (fun ls hl => ?_)
        exact L110 v100_2 v100_3 bf_fuel (-1) 0 T100 _ _ _ hf hd (lv_sub hl [2, 3, 4, 5, 1, 0] rfl)
  have L45 : ∀ (u45_1 : Int32) (u45_3 : Int32) (n45 : Nat) (v45_2 : Int32) (v45_4 : Int32) (T45 : bf_CS) (H : Heap) (locs : List Loc) (ls : Array Slot), fX1_falls_45 u45_1 u45_3 n45 v45_2 v45_4 T45 = some T' → bf_Dy G s H locs (bf_pC G ν c q T45) → lv_has ls 6 [(0, .ref c), (1, .int u45_1), (2, .int v45_2), (3, .int u45_3), (4, .int v45_4)] → W p l e (bf_rm 1) s m ([.ref c] : List Value).toArray below meth c' H locs 0 0 Q (F0 m 45 ls []) := by
    intro u45_1 u45_3 n45
    induction n45 with
    | zero =>
      intro v45_2 v45_4 T45 H locs ls hf hd hl
      exact absurd (show (none : Option (bf_CS)) = some T' from hf) (by intro h; cases h)
    | succ n45 ih45 =>
      intro v45_2 v45_4 T45 H locs ls hf hd hl
      have hf : fX1_falls_45b u45_1 u45_3 (fX1_falls_45 u45_1 u45_3 n45) v45_2 v45_4 T45 = some T' := hf
      unfold fX1_falls_45b at hf
      refine lv_iload hx hb dX1_falls_45 (lv_at hl 4 rfl) ?_
      refine lv_aload_n hx hb dX1_falls_47 rfl (lv_at hl 0 rfl) ?_
      refine bf_rC X hd (bf_pC_hC G ν c q T45) 10 (by decide) (Or.inl q320) rfl dX1_falls_48 ?_
      refine lv_icmp_ge (tgt := 100) hx hb dX1_falls_51 (by decide) (fun c_39 => ?_) (fun c_39 => ?_)
      · have hf := bf_it hf c_39
        exact L100 u45_1 bf_fuel v45_2 u45_3 T45 _ _ _ hf hd (lv_sub hl [0, 1, 2, 3] rfl)
      · have hf := bf_ie hf c_39
        refine lv_aload_n hx hb dX1_falls_54 rfl (lv_at hl 0 rfl) ?_
        refine bf_rC (v := .ref (c + 1)) X hd (bf_pC_hC G ν c q T45) 0 (by decide) (Or.inl q299) rfl dX1_falls_55 ?_
        refine lv_iload hx hb dX1_falls_58 (lv_at hl 4 rfl) ?_
        obtain ⟨g_40, hf⟩ := bf_c_some hf
        refine bf_aald (v := .ref (c + 161 + v45_4.toNatClampNeg)) X hd (bf_c1 (bf_pC_hC G ν c q T45)) 2 rfl rfl g_40 rfl dX1_falls_60 ?_
        refine lv_aload_n hx hb dX1_falls_61 rfl (lv_at hl 0 rfl) ?_
        refine bf_rC (v := .ref (c + 1)) X hd (bf_pC_hC G ν c q T45) 0 (by decide) (Or.inl q299) rfl dX1_falls_62 ?_
        refine lv_iload hx hb dX1_falls_65 (lv_at hl 4 rfl) ?_
        obtain ⟨g_41, hf⟩ := bf_c_some hf
        refine bf_aald (v := .ref (c + 161 + v45_4.toNatClampNeg)) X hd (bf_c1 (bf_pC_hC G ν c q T45)) 2 rfl rfl g_41 rfl dX1_falls_67 ?_
        refine bf_rP X hd (bf_pC_hC G ν c q T45) (bf_in_lt g_41) 1 (by decide) (Or.inr ⟨_, q245⟩) dX1_falls_68 ?_
        refine lv_aload_n hx hb dX1_falls_71 rfl (lv_at hl 0 rfl) ?_
        refine bf_rC X hd (bf_pC_hC G ν c q T45) 15 (by decide) (Or.inl q333) rfl dX1_falls_72 ?_
        refine lv_imul hx hb dX1_falls_75 ?_
        refine lv_iload_n hx hb dX1_falls_76 rfl (lv_at hl 1 rfl) ?_
        obtain ⟨g_42, hf⟩ := bf_c_some hf
        refine lv_idiv hx hb dX1_falls_77 (bf_nz_t g_42) ?_
        refine bf_xP X hd (bf_in_lt g_40) 2 (by decide) (Or.inr ⟨_, q247⟩) dX1_falls_78 (fun H locs hd => ?_)
        obtain ⟨T_43, eT_43, hf⟩ := bf_l_e hf
        have hd := hd.of (congrArg (bf_pC G ν c q) eT_43.symm)
        refine lv_iload_n hx hb dX1_falls_81 rfl (lv_at hl 2 rfl) ?_
        refine lv_aload_n hx hb dX1_falls_82 rfl (lv_at hl 0 rfl) ?_
        refine bf_rC (v := .ref (c + 1)) X hd (bf_pC_hC G ν c q T_43) 0 (by decide) (Or.inl q299) rfl dX1_falls_83 ?_
        refine lv_iload hx hb dX1_falls_86 (lv_at hl 4 rfl) ?_
        obtain ⟨g_44, hf⟩ := bf_c_some hf
        refine bf_aald (v := .ref (c + 161 + v45_4.toNatClampNeg)) X hd (bf_c1 (bf_pC_hC G ν c q T_43)) 2 rfl rfl g_44 rfl dX1_falls_88 ?_
        refine bf_rP X hd (bf_pC_hC G ν c q T_43) (bf_in_lt g_44) 2 (by decide) (Or.inr ⟨_, q247⟩) dX1_falls_89 ?_
        refine lv_isub hx hb dX1_falls_92 ?_
        obtain ⟨x2_45, ex2_45, hf⟩ := bf_l_e hf
        refine bf_top ex2_45 ?_
        refine lv_istore_n (lv' := [(2, .int x2_45), (0, .ref c), (1, .int u45_1), (3, .int u45_3), (4, .int v45_4)]) hx hb dX1_falls_93 rfl hl (by decide) rfl (fun ls hl => ?_)
        obtain ⟨x4_46, ex4_46, hf⟩ := bf_l_e hf
        refine lv_iinc (v := x4_46) (lv' := [(4, .int x4_46), (2, .int x2_45), (0, .ref c), (1, .int u45_1), (3, .int u45_3)]) hx hb dX1_falls_94 hl (k := 4) rfl (by rw [ex4_46]; rfl) (by decide) rfl (fun ls hl => ?_)
        refine lv_goto (tgt := 45) hx hb dX1_falls_97 (by decide) ?_
        exact ih45 x2_45 x4_46 T_43 _ _ _ hf hd (lv_sub hl [2, 3, 1, 4, 0] rfl)
  have J30 : ∀ (w30_1 : Int32) (T30 : bf_CS) (H : Heap) (locs : List Loc) (ls : Array Slot), fX1_falls_30 w30_1 T30 = some T' → bf_Dy G s H locs (bf_pC G ν c q T30) → lv_has ls 6 [(0, .ref c), (1, .int w30_1)] → W p l e (bf_rm 1) s m ([.ref c] : List Value).toArray below meth c' H locs 0 0 Q (F0 m 30 ls []) := by
    intro w30_1 T30 H locs ls hf hd hl
    unfold fX1_falls_30 at hf
    refine lv_iload_n hx hb dX1_falls_30 rfl (lv_at hl 1 rfl) ?_
    refine lv_if_ne (tgt := 35) hx hb dX1_falls_31 (by decide) (fun c_47 => ?_) (fun c_47 => ?_)
    · have hf := bf_ie hf c_47
      refine lv_aload_n hx hb dX1_falls_35 rfl (lv_at hl 0 rfl) ?_
      refine bf_rC X hd (bf_pC_hC G ν c q T30) 15 (by decide) (Or.inl q333) rfl dX1_falls_36 ?_
      obtain ⟨x2_48, ex2_48, hf⟩ := bf_l_e hf
      refine bf_top ex2_48 ?_
      refine lv_istore_n (lv' := [(2, .int x2_48), (0, .ref c), (1, .int w30_1)]) hx hb dX1_falls_39 rfl hl (by decide) rfl (fun ls hl => ?_)
      refine lv_iconst (v := 0) hx hb dX1_falls_40 (by decide) ?_
      refine lv_istore_n (lv' := [(3, .int 0), (2, .int x2_48), (0, .ref c), (1, .int w30_1)]) hx hb dX1_falls_41 rfl hl (by decide) rfl (fun ls hl => ?_)
      refine lv_iconst (v := 0) hx hb dX1_falls_42 (by decide) ?_
      refine lv_istore (lv' := [(4, .int 0), (3, .int 0), (2, .int x2_48), (0, .ref c), (1, .int w30_1)]) hx hb dX1_falls_43 hl (by decide) rfl (fun ls hl => ?_)
      exact L45 w30_1 0 bf_fuel x2_48 0 T30 _ _ _ hf hd (lv_sub hl [3, 4, 2, 1, 0] rfl)
    · have hf := bf_it hf c_47
      exact kret _ _ _ _ _ (congrArg (bf_pC G ν c q) (bf_so hf)) hd dX1_falls_34
  have L4 : ∀ (n4 : Nat) (v4_1 : Int32) (v4_2 : Int32) (T4 : bf_CS) (H : Heap) (locs : List Loc) (ls : Array Slot), fX1_falls_4 n4 v4_1 v4_2 T4 = some T' → bf_Dy G s H locs (bf_pC G ν c q T4) → lv_has ls 6 [(0, .ref c), (1, .int v4_1), (2, .int v4_2)] → W p l e (bf_rm 1) s m ([.ref c] : List Value).toArray below meth c' H locs 0 0 Q (F0 m 4 ls []) := by
    intro n4
    induction n4 with
    | zero =>
      intro v4_1 v4_2 T4 H locs ls hf hd hl
      exact absurd (show (none : Option (bf_CS)) = some T' from hf) (by intro h; cases h)
    | succ n4 ih4 =>
      intro v4_1 v4_2 T4 H locs ls hf hd hl
      have hf : fX1_falls_4b (fX1_falls_4 n4) v4_1 v4_2 T4 = some T' := hf
      unfold fX1_falls_4b at hf
      refine lv_iload_n hx hb dX1_falls_4 rfl (lv_at hl 2 rfl) ?_
      refine lv_aload_n hx hb dX1_falls_5 rfl (lv_at hl 0 rfl) ?_
      refine bf_rC X hd (bf_pC_hC G ν c q T4) 10 (by decide) (Or.inl q320) rfl dX1_falls_6 ?_
      refine lv_icmp_ge (tgt := 30) hx hb dX1_falls_9 (by decide) (fun c_49 => ?_) (fun c_49 => ?_)
      · have hf := bf_it hf c_49
        exact J30 v4_1 T4 _ _ _ hf hd (lv_sub hl [0, 1] rfl)
      · have hf := bf_ie hf c_49
        refine lv_iload_n hx hb dX1_falls_12 rfl (lv_at hl 1 rfl) ?_
        refine lv_aload_n hx hb dX1_falls_13 rfl (lv_at hl 0 rfl) ?_
        refine bf_rC (v := .ref (c + 1)) X hd (bf_pC_hC G ν c q T4) 0 (by decide) (Or.inl q299) rfl dX1_falls_14 ?_
        refine lv_iload_n hx hb dX1_falls_17 rfl (lv_at hl 2 rfl) ?_
        obtain ⟨g_50, hf⟩ := bf_c_some hf
        refine bf_aald (v := .ref (c + 161 + v4_2.toNatClampNeg)) X hd (bf_c1 (bf_pC_hC G ν c q T4)) 2 rfl rfl g_50 rfl dX1_falls_18 ?_
        refine bf_rP X hd (bf_pC_hC G ν c q T4) (bf_in_lt g_50) 1 (by decide) (Or.inr ⟨_, q245⟩) dX1_falls_19 ?_
        refine lv_iadd hx hb dX1_falls_22 ?_
        obtain ⟨x1_51, ex1_51, hf⟩ := bf_l_e hf
        refine bf_top ex1_51 ?_
        refine lv_istore_n (lv' := [(1, .int x1_51), (0, .ref c), (2, .int v4_2)]) hx hb dX1_falls_23 rfl hl (by decide) rfl (fun ls hl => ?_)
        obtain ⟨x2_52, ex2_52, hf⟩ := bf_l_e hf
        refine lv_iinc (v := x2_52) (lv' := [(2, .int x2_52), (1, .int x1_51), (0, .ref c)]) hx hb dX1_falls_24 hl (k := 2) rfl (by rw [ex2_52]; rfl) (by decide) rfl (fun ls hl => ?_)
        refine lv_goto (tgt := 4) hx hb dX1_falls_27 (by decide) ?_
        exact ih4 x1_51 x2_52 T4 _ _ _ hf hd (lv_sub hl [2, 1, 0] rfl)
  unfold fX1_falls at hf
  refine lv_iconst (v := 0) hx hb dX1_falls_0 (by decide) ?_
  refine lv_istore_n (lv' := [(1, .int 0), (0, .ref c)]) hx hb dX1_falls_1 rfl hl (by decide) rfl (fun ls hl => ?_)
  refine lv_iconst (v := 0) hx hb dX1_falls_2 (by decide) ?_
  refine lv_istore_n (lv' := [(2, .int 0), (1, .int 0), (0, .ref c)]) hx hb dX1_falls_3 rfl hl (by decide) rfl (fun ls hl => ?_)
  exact L4 bf_fuel 0 0 T _ _ _ hf hd (lv_sub hl [2, 1, 0] rfl)
def fX1_seats_72 (t72_0 : Int32) (t72_1 : Int32) (t72_2 : Int32) (T72 : bf_CS) : Option (bf_CS) := bf_b (fX1_notes T72 t72_2 t72_1 t72_0) fun T_8 => some T_8
def fX1_seats_45 (T45 : bf_CS) : Option (bf_CS) := bf_b (fX1_mostSeated T45) fun r_5 => if r_5 = (-1) then (fX1_seats_72 0 r_5 7 T45) else (bf_c (bf_in r_5 5) <| fX1_seats_72 (T45.1 1 r_5.toNatClampNeg 2) r_5 7 T45)
def fX1_seats_21b (k21 : Int32 → bf_CS → Option (bf_CS)) (v21_1 : Int32) (T21 : bf_CS) : Option (bf_CS) := if (T21.1 0 10 0) ≤ v21_1 then (fX1_seats_45 T21) else (bf_c (bf_in v21_1 5) <| bf_l (bf_u3 T21 1 v21_1.toNatClampNeg 1 0) fun T_3 => bf_l (v21_1 + 1) fun x1_4 => k21 x1_4 T_3)
def fX1_seats_21  : Nat → Int32 → bf_CS → Option (bf_CS)
  | 0, _, _ => none
  | n + 1, v21_1, T21 => fX1_seats_21b (fX1_seats_21 n) v21_1 T21
def fX1_seats (T : bf_CS) : Option (bf_CS) := bf_c (bf_nz (T.1 0 16 0)) <| if (((T.1 0 18 0) + 1) - ((T.1 0 18 0) + 1) / (T.1 0 16 0) * (T.1 0 16 0)) = 0 then (bf_b (fX1_falls T) fun T_11 => fX1_seats_21 bf_fuel 0 T_11) else (some T)
set_option maxHeartbeats 4000000 in
theorem mX1_seats (l : Launch) (G : bf_G) (ν : bf_V) (c : Nat) (q : Nat → Nat) (T : bf_CS) {T' : bf_CS} (hf : fX1_seats T = some T') : bf_MV l G yX1_seats cX1_seats 2 (bf_rm 2) [.ref c] (bf_pC G ν c q T) (fun σ' => σ' = bf_pC G ν c q T') := by
  refine bf_MV.of rfl (Nat.le_of_ble_eq_true rfl) ?_
  intro p e s m below meth c' Q X hlk hnm kret hd ls hl
  have hx := X.1
  have hb := X.2.1
  have hml := X.2.2.1
  have hown := X.2.2.2.1
  have hts := X.2.2.2.2
  have hl : lv_has ls 2 [(0, .ref c)] := hl
  have J72 : ∀ (t72_0 : Int32) (t72_1 : Int32) (t72_2 : Int32) (T72 : bf_CS) (H : Heap) (locs : List Loc) (ls : Array Slot), fX1_seats_72 t72_0 t72_1 t72_2 T72 = some T' → bf_Dy G s H locs (bf_pC G ν c q T72) → lv_has ls 2 [] → W p l e (bf_rm 2) s m ([.ref c] : List Value).toArray below meth c' H locs 0 0 Q (F0 m 72 ls [.int t72_0, .int t72_1, .int t72_2, .ref c]) := by
    intro t72_0 t72_1 t72_2 T72 H locs ls hf hd hl
    unfold fX1_seats_72 at hf
    obtain ⟨T_12, eT_12, hf⟩ := bf_b_some hf
    refine bf_ccv (n := 3) (As := [.int t72_2, .int t72_1, .int t72_0]) (rest := []) X hd (mX1_notes l G ν c q T72 t72_2 t72_1 t72_0 eT_12) (lw_V q1041 q1043 qs33 q149 q1044) (by decide +kernel) ⟨Nat.le_of_ble_eq_true rfl, Nat.le_of_ble_eq_true rfl⟩ rfl hl.1 rfl (Nat.le_of_ble_eq_true rfl) dX1_seats_72 ⟨Nat.le_of_ble_eq_true rfl, Nat.le_of_ble_eq_true rfl⟩ (fun H locs hd => ?_)
    exact kret _ _ _ _ _ (congrArg (bf_pC G ν c q) (bf_so hf)) hd dX1_seats_75
  have J45 : ∀ (T45 : bf_CS) (H : Heap) (locs : List Loc) (ls : Array Slot), fX1_seats_45 T45 = some T' → bf_Dy G s H locs (bf_pC G ν c q T45) → lv_has ls 2 [(0, .ref c)] → W p l e (bf_rm 2) s m ([.ref c] : List Value).toArray below meth c' H locs 0 0 Q (F0 m 45 ls []) := by
    intro T45 H locs ls hf hd hl
    unfold fX1_seats_45 at hf
    refine lv_aload_n hx hb dX1_seats_45 rfl (lv_at hl 0 rfl) ?_
    obtain ⟨r_13, er_13, hf⟩ := bf_b_some hf
    refine bf_cci (n := 0) (As := []) (rest := []) X hd (mX1_mostSeated l G ν c q T45 er_13) (lw_V q1227 q1228 q1229 q149 q1230) (by decide +kernel) ⟨Nat.le_of_ble_eq_true rfl, Nat.le_of_ble_eq_true rfl⟩ rfl hl.1 rfl (Nat.le_of_ble_eq_true rfl) dX1_seats_46 ⟨Nat.le_of_ble_eq_true rfl, Nat.le_of_ble_eq_true rfl⟩ (fun H locs hd => ?_)
    refine lv_istore_n (lv' := [(1, .int r_13), (0, .ref c)]) hx hb dX1_seats_49 rfl hl (by decide) rfl (fun ls hl => ?_)
    refine lv_aload_n hx hb dX1_seats_50 rfl (lv_at hl 1 rfl) ?_
    refine lv_bipush (v := 7) hx hb dX1_seats_51 (by decide) ?_
    refine lv_iload_n hx hb dX1_seats_53 rfl (lv_at hl 0 rfl) ?_
    refine lv_iload_n hx hb dX1_seats_54 rfl (lv_at hl 0 rfl) ?_
    refine lv_iconst (v := (-1)) hx hb dX1_seats_55 (by decide) ?_
    refine lv_icmp_ne (tgt := 63) hx hb dX1_seats_56 (by decide) (fun c_14 => ?_) (fun c_14 => ?_)
    · have hf := bf_ie hf c_14
      refine lv_aload_n hx hb dX1_seats_63 rfl (lv_at hl 1 rfl) ?_
      refine bf_rC (v := .ref (c + 1)) X hd (bf_pC_hC G ν c q T45) 0 (by decide) (Or.inl q299) rfl dX1_seats_64 ?_
      refine lv_iload_n hx hb dX1_seats_67 rfl (lv_at hl 0 rfl) ?_
      obtain ⟨g_15, hf⟩ := bf_c_some hf
      refine bf_aald (v := .ref (c + 161 + r_13.toNatClampNeg)) X hd (bf_c1 (bf_pC_hC G ν c q T45)) 2 rfl rfl g_15 rfl dX1_seats_68 ?_
      refine bf_rP X hd (bf_pC_hC G ν c q T45) (bf_in_lt g_15) 2 (by decide) (Or.inr ⟨_, q247⟩) dX1_seats_69 ?_
      exact J72 (T45.1 1 r_13.toNatClampNeg 2) r_13 7 T45 _ _ _ hf hd (lv_sub hl [] rfl)
    · have hf := bf_it hf c_14
      refine lv_iconst (v := 0) hx hb dX1_seats_59 (by decide) ?_
      refine lv_goto (tgt := 72) hx hb dX1_seats_60 (by decide) ?_
      exact J72 0 r_13 7 T45 _ _ _ hf hd (lv_sub hl [] rfl)
  have L21 : ∀ (n21 : Nat) (v21_1 : Int32) (T21 : bf_CS) (H : Heap) (locs : List Loc) (ls : Array Slot), fX1_seats_21 n21 v21_1 T21 = some T' → bf_Dy G s H locs (bf_pC G ν c q T21) → lv_has ls 2 [(0, .ref c), (1, .int v21_1)] → W p l e (bf_rm 2) s m ([.ref c] : List Value).toArray below meth c' H locs 0 0 Q (F0 m 21 ls []) := by
    intro n21
    induction n21 with
    | zero =>
      intro v21_1 T21 H locs ls hf hd hl
      exact absurd (show (none : Option (bf_CS)) = some T' from hf) (by intro h; cases h)
    | succ n21 ih21 =>
      intro v21_1 T21 H locs ls hf hd hl
      have hf : fX1_seats_21b (fX1_seats_21 n21) v21_1 T21 = some T' := hf
      unfold fX1_seats_21b at hf
      refine lv_iload_n hx hb dX1_seats_21 rfl (lv_at hl 1 rfl) ?_
      refine lv_aload_n hx hb dX1_seats_22 rfl (lv_at hl 0 rfl) ?_
      refine bf_rC X hd (bf_pC_hC G ν c q T21) 10 (by decide) (Or.inl q320) rfl dX1_seats_23 ?_
      refine lv_icmp_ge (tgt := 45) hx hb dX1_seats_26 (by decide) (fun c_16 => ?_) (fun c_16 => ?_)
      · have hf := bf_it hf c_16
        exact J45 T21 _ _ _ hf hd (lv_sub hl [0] rfl)
      · have hf := bf_ie hf c_16
        refine lv_aload_n hx hb dX1_seats_29 rfl (lv_at hl 0 rfl) ?_
        refine bf_rC (v := .ref (c + 1)) X hd (bf_pC_hC G ν c q T21) 0 (by decide) (Or.inl q299) rfl dX1_seats_30 ?_
        refine lv_iload_n hx hb dX1_seats_33 rfl (lv_at hl 1 rfl) ?_
        obtain ⟨g_17, hf⟩ := bf_c_some hf
        refine bf_aald (v := .ref (c + 161 + v21_1.toNatClampNeg)) X hd (bf_c1 (bf_pC_hC G ν c q T21)) 2 rfl rfl g_17 rfl dX1_seats_34 ?_
        refine lv_iconst (v := 0) hx hb dX1_seats_35 (by decide) ?_
        refine bf_xP X hd (bf_in_lt g_17) 1 (by decide) (Or.inr ⟨_, q245⟩) dX1_seats_36 (fun H locs hd => ?_)
        obtain ⟨T_18, eT_18, hf⟩ := bf_l_e hf
        have hd := hd.of (congrArg (bf_pC G ν c q) eT_18.symm)
        obtain ⟨x1_19, ex1_19, hf⟩ := bf_l_e hf
        refine lv_iinc (v := x1_19) (lv' := [(1, .int x1_19), (0, .ref c)]) hx hb dX1_seats_39 hl (k := 1) rfl (by rw [ex1_19]; rfl) (by decide) rfl (fun ls hl => ?_)
        refine lv_goto (tgt := 21) hx hb dX1_seats_42 (by decide) ?_
        exact ih21 x1_19 T_18 _ _ _ hf hd (lv_sub hl [1, 0] rfl)
  unfold fX1_seats at hf
  refine lv_aload_n hx hb dX1_seats_0 rfl (lv_at hl 0 rfl) ?_
  refine bf_rC X hd (bf_pC_hC G ν c q T) 18 (by decide) (Or.inl q339) rfl dX1_seats_1 ?_
  refine lv_iconst (v := 1) hx hb dX1_seats_4 (by decide) ?_
  refine lv_iadd hx hb dX1_seats_5 ?_
  refine lv_aload_n hx hb dX1_seats_6 rfl (lv_at hl 0 rfl) ?_
  refine bf_rC X hd (bf_pC_hC G ν c q T) 16 (by decide) (Or.inl q335) rfl dX1_seats_7 ?_
  obtain ⟨g_20, hf⟩ := bf_c_some hf
  refine lv_irem hx hb dX1_seats_10 (bf_nz_t g_20) ?_
  refine lv_if_eq (tgt := 15) hx hb dX1_seats_11 (by decide) (fun c_21 => ?_) (fun c_21 => ?_)
  · have hf := bf_it hf c_21
    refine lv_aload_n hx hb dX1_seats_15 rfl (lv_at hl 0 rfl) ?_
    obtain ⟨T_22, eT_22, hf⟩ := bf_b_some hf
    refine bf_ccv (n := 0) (As := []) (rest := []) X hd (mX1_falls l G ν c q T eT_22) (lw_V q1219 q1220 q1221 q149 q1222) (by decide +kernel) ⟨Nat.le_of_ble_eq_true rfl, Nat.le_of_ble_eq_true rfl⟩ rfl hl.1 rfl (Nat.le_of_ble_eq_true rfl) dX1_seats_16 ⟨Nat.le_of_ble_eq_true rfl, Nat.le_of_ble_eq_true rfl⟩ (fun H locs hd => ?_)
    refine lv_iconst (v := 0) hx hb dX1_seats_19 (by decide) ?_
    refine lv_istore_n (lv' := [(1, .int 0), (0, .ref c)]) hx hb dX1_seats_20 rfl hl (by decide) rfl (fun ls hl => ?_)
    exact L21 bf_fuel 0 T_22 _ _ _ hf hd (lv_sub hl [1, 0] rfl)
  · have hf := bf_ie hf c_21
    exact kret _ _ _ _ _ (congrArg (bf_pC G ν c q) (bf_so hf)) hd dX1_seats_14
