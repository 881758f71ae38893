set_option maxRecDepth 100000
def fX5_takesLaw_171 (x1 : Int32) (T171 : bf_TS) : Option (bf_TS) := bf_c (bf_in (T171 27 0) 2) <| bf_l (bf_u2 T171 20 (T171 27 0).toNatClampNeg x1) fun T_24 => some T_24
def fX5_takesLaw_107b (x1 : Int32) (k107 : Int32 → bf_TS → Option (bf_TS)) (v107_2 : Int32) (T107 : bf_TS) : Option (bf_TS) := if (T107 28 0) ≤ v107_2 then (fX5_takesLaw_171 x1 T107) else (bf_c (bf_in (800 + v107_2) 1200) <| bf_c (bf_in ((400 * (T107 27 0)) + v107_2) 1200) <| bf_l (bf_u2 T107 25 ((400 * (T107 27 0)) + v107_2).toNatClampNeg (T107 25 (800 + v107_2).toNatClampNeg)) fun T_18 => bf_c (bf_in (800 + v107_2) 1200) <| bf_c (bf_in ((400 * (T_18 27 0)) + v107_2) 1200) <| bf_l (bf_u2 T_18 26 ((400 * (T_18 27 0)) + v107_2).toNatClampNeg (T_18 26 (800 + v107_2).toNatClampNeg)) fun T_21 => bf_l (v107_2 + 1) fun x2_22 => k107 x2_22 T_21)
def fX5_takesLaw_107 (x1 : Int32) : Nat → Int32 → bf_TS → Option (bf_TS)
  | 0, _, _ => none
  | n + 1, v107_2, T107 => fX5_takesLaw_107b x1 (fX5_takesLaw_107 x1 n) v107_2 T107
def fX5_takesLaw_105 (x1 : Int32) (T105 : bf_TS) : Option (bf_TS) := fX5_takesLaw_107 x1 bf_fuel 0 T105
def fX5_takesLaw_2b (x1 : Int32) (k2 : Int32 → bf_TS → Option (bf_TS)) (v2_2 : Int32) (T2 : bf_TS) : Option (bf_TS) := if x1 ≤ v2_2 then (fX5_takesLaw_105 x1 T2) else (bf_c (bf_in (32 + v2_2) 48) <| bf_c (bf_in ((16 * (T2 27 0)) + v2_2) 48) <| bf_l (bf_u2 T2 21 ((16 * (T2 27 0)) + v2_2).toNatClampNeg (T2 21 (32 + v2_2).toNatClampNeg)) fun T_4 => bf_c (bf_in (32 + v2_2) 48) <| bf_c (bf_in ((16 * (T_4 27 0)) + v2_2) 48) <| bf_l (bf_u2 T_4 22 ((16 * (T_4 27 0)) + v2_2).toNatClampNeg (T_4 22 (32 + v2_2).toNatClampNeg)) fun T_7 => bf_c (bf_in (32 + v2_2) 48) <| bf_c (bf_in ((16 * (T_7 27 0)) + v2_2) 48) <| bf_l (bf_u2 T_7 23 ((16 * (T_7 27 0)) + v2_2).toNatClampNeg (T_7 23 (32 + v2_2).toNatClampNeg)) fun T_10 => bf_c (bf_in (32 + v2_2) 48) <| bf_c (bf_in ((16 * (T_10 27 0)) + v2_2) 48) <| bf_l (bf_u2 T_10 24 ((16 * (T_10 27 0)) + v2_2).toNatClampNeg (T_10 24 (32 + v2_2).toNatClampNeg)) fun T_13 => bf_l (v2_2 + 1) fun x2_14 => k2 x2_14 T_13)
def fX5_takesLaw_2 (x1 : Int32) : Nat → Int32 → bf_TS → Option (bf_TS)
  | 0, _, _ => none
  | n + 1, v2_2, T2 => fX5_takesLaw_2b x1 (fX5_takesLaw_2 x1 n) v2_2 T2
def fX5_takesLaw (T : bf_TS) (x1 : Int32) : Option (bf_TS) := fX5_takesLaw_2 x1 bf_fuel 0 T
set_option maxHeartbeats 4000000 in
theorem mX5_takesLaw (l : Launch) (G : bf_G) (σ : bf_V) (o : Nat) (T : bf_TS) (x1 : Int32) {T' : bf_TS} (hf : fX5_takesLaw T x1 = some T') : bf_MV l G yX5_takesLaw cX5_takesLaw 3 (bf_rm 0) [.ref o, .int x1] (bf_pT G σ o T) (fun σ' => σ' = bf_pT G σ o T') := by
  refine bf_MV.of rfl (Nat.le_of_ble_eq_true rfl) ?_
  intro p e s m below meth c Q X hlk hnm kret hd ls hl
  have hx := X.1
  have hb := X.2.1
  have hown := X.2.2.2.1
  have hts := X.2.2.2.2
  have hl : lv_has ls 3 [(0, .ref o), (1, .int x1)] := hl
  have J171 : ∀ (T171 : bf_TS) (H : Heap) (locs : List Loc) (ls : Array Slot), fX5_takesLaw_171 x1 T171 = some T' → bf_Dy G s H locs (bf_pT G σ o T171) → lv_has ls 3 [(0, .ref o), (1, .int x1)] → W p l e (bf_rm 0) s m ([.ref o, .int x1] : List Value).toArray below meth c H locs 0 0 Q (F0 m 171 ls []) := by
    intro T171 H locs ls hf hd hl
    unfold fX5_takesLaw_171 at hf
    refine lv_aload_n hx hb dX5_takesLaw_171 rfl (lv_at hl 0 rfl) ?_
    refine bf_tga X hd 20 (by decide) (by decide) q1403 dX5_takesLaw_172 ?_
    refine lv_aload_n hx hb dX5_takesLaw_175 rfl (lv_at hl 0 rfl) ?_
    refine bf_tgi X hd 27 (by decide) rfl q1410 dX5_takesLaw_176 ?_
    refine lv_iload_n hx hb dX5_takesLaw_179 rfl (lv_at hl 1 rfl) ?_
    obtain ⟨g_25, hf⟩ := bf_c_some hf
    refine bf_tst X hd 20 (by decide) g_25 dX5_takesLaw_180 (fun H locs hd => ?_)
    obtain ⟨T_26, eT_26, hf⟩ := bf_l_e hf
    have hd := hd.of (congrArg (bf_pT G σ o) eT_26.symm)
    exact kret _ _ _ _ _ (congrArg (bf_pT G σ o) (bf_so hf)) hd dX5_takesLaw_181
  have L107 : ∀ (n107 : Nat) (v107_2 : Int32) (T107 : bf_TS) (H : Heap) (locs : List Loc) (ls : Array Slot), fX5_takesLaw_107 x1 n107 v107_2 T107 = some T' → bf_Dy G s H locs (bf_pT G σ o T107) → lv_has ls 3 [(0, .ref o), (1, .int x1), (2, .int v107_2)] → W p l e (bf_rm 0) s m ([.ref o, .int x1] : List Value).toArray below meth c H locs 0 0 Q (F0 m 107 ls []) := by
    intro n107
    induction n107 with
    | zero =>
      intro v107_2 T107 H locs ls hf hd hl
      exact absurd (show (none : Option (bf_TS)) = some T' from hf) (by intro h; cases h)
    | succ n107 ih107 =>
      intro v107_2 T107 H locs ls hf hd hl
      have hf : fX5_takesLaw_107b x1 (fX5_takesLaw_107 x1 n107) v107_2 T107 = some T' := hf
      unfold fX5_takesLaw_107b at hf
      refine lv_iload_n hx hb dX5_takesLaw_107 rfl (lv_at hl 2 rfl) ?_
      refine lv_aload_n hx hb dX5_takesLaw_108 rfl (lv_at hl 0 rfl) ?_
      refine bf_tgi X hd 28 (by decide) rfl q1411 dX5_takesLaw_109 ?_
      refine lv_icmp_ge (tgt := 171) hx hb dX5_takesLaw_112 (by decide) (fun c_27 => ?_) (fun c_27 => ?_)
      · have hf := bf_it hf c_27
        exact J171 T107 _ _ _ hf hd (lv_sub hl [0, 1] rfl)
      · have hf := bf_ie hf c_27
        refine lv_aload_n hx hb dX5_takesLaw_115 rfl (lv_at hl 0 rfl) ?_
        refine bf_tga X hd 25 (by decide) (by decide) q1408 dX5_takesLaw_116 ?_
        refine lv_sipush (v := 400) hx hb dX5_takesLaw_119 (by decide) ?_
        refine lv_aload_n hx hb dX5_takesLaw_122 rfl (lv_at hl 0 rfl) ?_
        refine bf_tgi X hd 27 (by decide) rfl q1410 dX5_takesLaw_123 ?_
        refine lv_imul hx hb dX5_takesLaw_126 ?_
        refine lv_iload_n hx hb dX5_takesLaw_127 rfl (lv_at hl 2 rfl) ?_
        refine lv_iadd hx hb dX5_takesLaw_128 ?_
        refine lv_aload_n hx hb dX5_takesLaw_129 rfl (lv_at hl 0 rfl) ?_
        refine bf_tga X hd 25 (by decide) (by decide) q1408 dX5_takesLaw_130 ?_
        refine lv_sipush (v := 800) hx hb dX5_takesLaw_133 (by decide) ?_
        refine lv_iload_n hx hb dX5_takesLaw_136 rfl (lv_at hl 2 rfl) ?_
        refine lv_iadd hx hb dX5_takesLaw_137 ?_
        obtain ⟨g_28, hf⟩ := bf_c_some hf
        refine bf_tld X hd 25 (by decide) g_28 dX5_takesLaw_138 ?_
        obtain ⟨g_29, hf⟩ := bf_c_some hf
        refine bf_tst X hd 25 (by decide) g_29 dX5_takesLaw_139 (fun H locs hd => ?_)
        obtain ⟨T_30, eT_30, hf⟩ := bf_l_e hf
        have hd := hd.of (congrArg (bf_pT G σ o) eT_30.symm)
        refine lv_aload_n hx hb dX5_takesLaw_140 rfl (lv_at hl 0 rfl) ?_
        refine bf_tga X hd 26 (by decide) (by decide) q1409 dX5_takesLaw_141 ?_
        refine lv_sipush (v := 400) hx hb dX5_takesLaw_144 (by decide) ?_
        refine lv_aload_n hx hb dX5_takesLaw_147 rfl (lv_at hl 0 rfl) ?_
        refine bf_tgi X hd 27 (by decide) rfl q1410 dX5_takesLaw_148 ?_
        refine lv_imul hx hb dX5_takesLaw_151 ?_
        refine lv_iload_n hx hb dX5_takesLaw_152 rfl (lv_at hl 2 rfl) ?_
        refine lv_iadd hx hb dX5_takesLaw_153 ?_
        refine lv_aload_n hx hb dX5_takesLaw_154 rfl (lv_at hl 0 rfl) ?_
        refine bf_tga X hd 26 (by decide) (by decide) q1409 dX5_takesLaw_155 ?_
        refine lv_sipush (v := 800) hx hb dX5_takesLaw_158 (by decide) ?_
        refine lv_iload_n hx hb dX5_takesLaw_161 rfl (lv_at hl 2 rfl) ?_
        refine lv_iadd hx hb dX5_takesLaw_162 ?_
        obtain ⟨g_31, hf⟩ := bf_c_some hf
        refine bf_tld X hd 26 (by decide) g_31 dX5_takesLaw_163 ?_
        obtain ⟨g_32, hf⟩ := bf_c_some hf
        refine bf_tst X hd 26 (by decide) g_32 dX5_takesLaw_164 (fun H locs hd => ?_)
        obtain ⟨T_33, eT_33, hf⟩ := bf_l_e hf
        have hd := hd.of (congrArg (bf_pT G σ o) eT_33.symm)
        obtain ⟨x2_34, ex2_34, hf⟩ := bf_l_e hf
        refine lv_iinc (v := x2_34) (lv' := [(2, .int x2_34), (0, .ref o), (1, .int x1)]) hx hb dX5_takesLaw_165 hl (k := 2) rfl (by rw [ex2_34]; rfl) (by decide) rfl (fun ls hl => ?_)
        refine lv_goto (tgt := 107) hx hb dX5_takesLaw_168 (by decide) ?_
        exact ih107 x2_34 T_33 _ _ _ hf hd (lv_sub hl [1, 2, 0] rfl)
  have J105 : ∀ (T105 : bf_TS) (H : Heap) (locs : List Loc) (ls : Array Slot), fX5_takesLaw_105 x1 T105 = some T' → bf_Dy G s H locs (bf_pT G σ o T105) → lv_has ls 3 [(0, .ref o), (1, .int x1)] → W p l e (bf_rm 0) s m ([.ref o, .int x1] : List Value).toArray below meth c H locs 0 0 Q (F0 m 105 ls []) := by
    intro T105 H locs ls hf hd hl
    unfold fX5_takesLaw_105 at hf
    refine lv_iconst (v := 0) hx hb dX5_takesLaw_105 (by decide) ?_
    refine lv_istore_n (lv' := [(2, .int 0), (0, .ref o), (1, .int x1)]) hx hb dX5_takesLaw_106 rfl hl (by decide) rfl (fun ls hl => ?_)
    exact L107 bf_fuel 0 T105 _ _ _ hf hd (lv_sub hl [1, 2, 0] rfl)
  have L2 : ∀ (n2 : Nat) (v2_2 : Int32) (T2 : bf_TS) (H : Heap) (locs : List Loc) (ls : Array Slot), fX5_takesLaw_2 x1 n2 v2_2 T2 = some T' → bf_Dy G s H locs (bf_pT G σ o T2) → lv_has ls 3 [(0, .ref o), (1, .int x1), (2, .int v2_2)] → W p l e (bf_rm 0) s m ([.ref o, .int x1] : List Value).toArray below meth c H locs 0 0 Q (F0 m 2 ls []) := by
    intro n2
    induction n2 with
    | zero =>
      intro v2_2 T2 H locs ls hf hd hl
      exact absurd (show (none : Option (bf_TS)) = some T' from hf) (by intro h; cases h)
    | succ n2 ih2 =>
      intro v2_2 T2 H locs ls hf hd hl
      have hf : fX5_takesLaw_2b x1 (fX5_takesLaw_2 x1 n2) v2_2 T2 = some T' := hf
      unfold fX5_takesLaw_2b at hf
      refine lv_iload_n hx hb dX5_takesLaw_2 rfl (lv_at hl 2 rfl) ?_
      refine lv_iload_n hx hb dX5_takesLaw_3 rfl (lv_at hl 1 rfl) ?_
      refine lv_icmp_ge (tgt := 105) hx hb dX5_takesLaw_4 (by decide) (fun c_35 => ?_) (fun c_35 => ?_)
      · have hf := bf_it hf c_35
        exact J105 T2 _ _ _ hf hd (lv_sub hl [0, 1] rfl)
      · have hf := bf_ie hf c_35
        refine lv_aload_n hx hb dX5_takesLaw_7 rfl (lv_at hl 0 rfl) ?_
        refine bf_tga X hd 21 (by decide) (by decide) q1404 dX5_takesLaw_8 ?_
        refine lv_bipush (v := 16) hx hb dX5_takesLaw_11 (by decide) ?_
        refine lv_aload_n hx hb dX5_takesLaw_13 rfl (lv_at hl 0 rfl) ?_
        refine bf_tgi X hd 27 (by decide) rfl q1410 dX5_takesLaw_14 ?_
        refine lv_imul hx hb dX5_takesLaw_17 ?_
        refine lv_iload_n hx hb dX5_takesLaw_18 rfl (lv_at hl 2 rfl) ?_
        refine lv_iadd hx hb dX5_takesLaw_19 ?_
        refine lv_aload_n hx hb dX5_takesLaw_20 rfl (lv_at hl 0 rfl) ?_
        refine bf_tga X hd 21 (by decide) (by decide) q1404 dX5_takesLaw_21 ?_
        refine lv_bipush (v := 32) hx hb dX5_takesLaw_24 (by decide) ?_
        refine lv_iload_n hx hb dX5_takesLaw_26 rfl (lv_at hl 2 rfl) ?_
        refine lv_iadd hx hb dX5_takesLaw_27 ?_
        obtain ⟨g_36, hf⟩ := bf_c_some hf
        refine bf_tld X hd 21 (by decide) g_36 dX5_takesLaw_28 ?_
        obtain ⟨g_37, hf⟩ := bf_c_some hf
        refine bf_tst X hd 21 (by decide) g_37 dX5_takesLaw_29 (fun H locs hd => ?_)
        obtain ⟨T_38, eT_38, hf⟩ := bf_l_e hf
        have hd := hd.of (congrArg (bf_pT G σ o) eT_38.symm)
        refine lv_aload_n hx hb dX5_takesLaw_30 rfl (lv_at hl 0 rfl) ?_
        refine bf_tga X hd 22 (by decide) (by decide) q1405 dX5_takesLaw_31 ?_
        refine lv_bipush (v := 16) hx hb dX5_takesLaw_34 (by decide) ?_
        refine lv_aload_n hx hb dX5_takesLaw_36 rfl (lv_at hl 0 rfl) ?_
        refine bf_tgi X hd 27 (by decide) rfl q1410 dX5_takesLaw_37 ?_
        refine lv_imul hx hb dX5_takesLaw_40 ?_
        refine lv_iload_n hx hb dX5_takesLaw_41 rfl (lv_at hl 2 rfl) ?_
        refine lv_iadd hx hb dX5_takesLaw_42 ?_
        refine lv_aload_n hx hb dX5_takesLaw_43 rfl (lv_at hl 0 rfl) ?_
        refine bf_tga X hd 22 (by decide) (by decide) q1405 dX5_takesLaw_44 ?_
        refine lv_bipush (v := 32) hx hb dX5_takesLaw_47 (by decide) ?_
        refine lv_iload_n hx hb dX5_takesLaw_49 rfl (lv_at hl 2 rfl) ?_
        refine lv_iadd hx hb dX5_takesLaw_50 ?_
        obtain ⟨g_39, hf⟩ := bf_c_some hf
        refine bf_tld X hd 22 (by decide) g_39 dX5_takesLaw_51 ?_
        obtain ⟨g_40, hf⟩ := bf_c_some hf
        refine bf_tst X hd 22 (by decide) g_40 dX5_takesLaw_52 (fun H locs hd => ?_)
        obtain ⟨T_41, eT_41, hf⟩ := bf_l_e hf
        have hd := hd.of (congrArg (bf_pT G σ o) eT_41.symm)
        refine lv_aload_n hx hb dX5_takesLaw_53 rfl (lv_at hl 0 rfl) ?_
        refine bf_tga X hd 23 (by decide) (by decide) q1406 dX5_takesLaw_54 ?_
        refine lv_bipush (v := 16) hx hb dX5_takesLaw_57 (by decide) ?_
        refine lv_aload_n hx hb dX5_takesLaw_59 rfl (lv_at hl 0 rfl) ?_
        refine bf_tgi X hd 27 (by decide) rfl q1410 dX5_takesLaw_60 ?_
        refine lv_imul hx hb dX5_takesLaw_63 ?_
        refine lv_iload_n hx hb dX5_takesLaw_64 rfl (lv_at hl 2 rfl) ?_
        refine lv_iadd hx hb dX5_takesLaw_65 ?_
        refine lv_aload_n hx hb dX5_takesLaw_66 rfl (lv_at hl 0 rfl) ?_
        refine bf_tga X hd 23 (by decide) (by decide) q1406 dX5_takesLaw_67 ?_
        refine lv_bipush (v := 32) hx hb dX5_takesLaw_70 (by decide) ?_
        refine lv_iload_n hx hb dX5_takesLaw_72 rfl (lv_at hl 2 rfl) ?_
        refine lv_iadd hx hb dX5_takesLaw_73 ?_
        obtain ⟨g_42, hf⟩ := bf_c_some hf
        refine bf_tld X hd 23 (by decide) g_42 dX5_takesLaw_74 ?_
        obtain ⟨g_43, hf⟩ := bf_c_some hf
        refine bf_tst X hd 23 (by decide) g_43 dX5_takesLaw_75 (fun H locs hd => ?_)
        obtain ⟨T_44, eT_44, hf⟩ := bf_l_e hf
        have hd := hd.of (congrArg (bf_pT G σ o) eT_44.symm)
        refine lv_aload_n hx hb dX5_takesLaw_76 rfl (lv_at hl 0 rfl) ?_
        refine bf_tga X hd 24 (by decide) (by decide) q1407 dX5_takesLaw_77 ?_
        refine lv_bipush (v := 16) hx hb dX5_takesLaw_80 (by decide) ?_
        refine lv_aload_n hx hb dX5_takesLaw_82 rfl (lv_at hl 0 rfl) ?_
        refine bf_tgi X hd 27 (by decide) rfl q1410 dX5_takesLaw_83 ?_
        refine lv_imul hx hb dX5_takesLaw_86 ?_
        refine lv_iload_n hx hb dX5_takesLaw_87 rfl (lv_at hl 2 rfl) ?_
        refine lv_iadd hx hb dX5_takesLaw_88 ?_
        refine lv_aload_n hx hb dX5_takesLaw_89 rfl (lv_at hl 0 rfl) ?_
        refine bf_tga X hd 24 (by decide) (by decide) q1407 dX5_takesLaw_90 ?_
        refine lv_bipush (v := 32) hx hb dX5_takesLaw_93 (by decide) ?_
        refine lv_iload_n hx hb dX5_takesLaw_95 rfl (lv_at hl 2 rfl) ?_
        refine lv_iadd hx hb dX5_takesLaw_96 ?_
        obtain ⟨g_45, hf⟩ := bf_c_some hf
        refine bf_tld X hd 24 (by decide) g_45 dX5_takesLaw_97 ?_
        obtain ⟨g_46, hf⟩ := bf_c_some hf
        refine bf_tst X hd 24 (by decide) g_46 dX5_takesLaw_98 (fun H locs hd => ?_)
        obtain ⟨T_47, eT_47, hf⟩ := bf_l_e hf
        have hd := hd.of (congrArg (bf_pT G σ o) eT_47.symm)
        obtain ⟨x2_48, ex2_48, hf⟩ := bf_l_e hf
        refine lv_iinc (v := x2_48) (lv' := [(2, .int x2_48), (0, .ref o), (1, .int x1)]) hx hb dX5_takesLaw_99 hl (k := 2) rfl (by rw [ex2_48]; rfl) (by decide) rfl (fun ls hl => ?_)
        refine lv_goto (tgt := 2) hx hb dX5_takesLaw_102 (by decide) ?_
        exact ih2 x2_48 T_47 _ _ _ hf hd (lv_sub hl [1, 2, 0] rfl)
  unfold fX5_takesLaw at hf
  refine lv_iconst (v := 0) hx hb dX5_takesLaw_0 (by decide) ?_
  refine lv_istore_n (lv' := [(2, .int 0), (0, .ref o), (1, .int x1)]) hx hb dX5_takesLaw_1 rfl hl (by decide) rfl (fun ls hl => ?_)
  exact L2 bf_fuel 0 T _ _ _ hf hd (lv_sub hl [1, 2, 0] rfl)
def fX5_readNumber (T : bf_TS) (x1 x2 : Int32) : Option (Int32 × bf_TS) := if (T 17 0) = 3 then (if (fX5_isIn (T 18 0) x1 x2) = 0 then (bf_b2 (fX5_errs T 2) fun r_7 T_6 => some (r_7, T_6)) else (bf_l ((T 18 0)) fun x3_4 => bf_b (fX5_reads T) fun T_5 => some (x3_4, T_5))) else (bf_b2 (fX5_errs T 1) fun r_9 T_8 => some (r_9, T_8))
set_option maxHeartbeats 4000000 in
theorem mX5_readNumber (l : Launch) (G : bf_G) (σ : bf_V) (o : Nat) (T : bf_TS) (x1 x2 : Int32) {r : Int32} {T' : bf_TS} (hf : fX5_readNumber T x1 x2 = some (r, T')) : bf_MI l G yX5_readNumber cX5_readNumber 4 (bf_rm 3) [.ref o, .int x1, .int x2] (bf_pT G σ o T) (fun v σ' => v = r ∧ σ' = bf_pT G σ o T') := by
  refine bf_MI.of rfl (Nat.le_of_ble_eq_true rfl) ?_
  intro p e s m below meth c Q X hlk hnm kret hd ls hl
  have hx := X.1
  have hb := X.2.1
  have hown := X.2.2.2.1
  have hts := X.2.2.2.2
  have hl : lv_has ls 4 [(0, .ref o), (1, .int x1), (2, .int x2)] := hl
  unfold fX5_readNumber at hf
  refine lv_aload_n hx hb dX5_readNumber_0 rfl (lv_at hl 0 rfl) ?_
  refine bf_tgi X hd 17 (by decide) rfl q1400 dX5_readNumber_1 ?_
  refine lv_iconst (v := 3) hx hb dX5_readNumber_4 (by decide) ?_
  refine lv_icmp_eq (tgt := 14) hx hb dX5_readNumber_5 (by decide) (fun c_10 => ?_) (fun c_10 => ?_)
  · have hf := bf_it hf c_10
    refine lv_aload_n hx hb dX5_readNumber_14 rfl (lv_at hl 0 rfl) ?_
    refine lv_aload_n hx hb dX5_readNumber_15 rfl (lv_at hl 0 rfl) ?_
    refine bf_tgi X hd 18 (by decide) rfl q1401 dX5_readNumber_16 ?_
    refine lv_iload_n hx hb dX5_readNumber_19 rfl (lv_at hl 1 rfl) ?_
    refine lv_iload_n hx hb dX5_readNumber_20 rfl (lv_at hl 2 rfl) ?_
    refine bf_tcz (n := 3) (As := [.int (T 18 0), .int x1, .int x2]) (rest := []) X hd (mX5_isIn l G σ o T (T 18 0) x1 x2 rfl) (lw_V q1564 q1566 qs56 q156 q1567) (by decide +kernel) ⟨Nat.le_of_ble_eq_true rfl, Nat.le_of_ble_eq_true rfl⟩ rfl hl.1 rfl (Nat.le_of_ble_eq_true rfl) dX5_readNumber_21 ⟨Nat.le_of_ble_eq_true rfl, Nat.le_of_ble_eq_true rfl⟩ (fun H locs z_11 hd => ?_)
    refine lv_if_ne (tgt := 33) hx hb dX5_readNumber_24 (by decide) (fun c_12 => ?_) (fun c_12 => ?_)
    · have hf := bf_ie hf c_12
      refine lv_aload_n hx hb dX5_readNumber_33 rfl (lv_at hl 0 rfl) ?_
      refine bf_tgi X hd 18 (by decide) rfl q1401 dX5_readNumber_34 ?_
      obtain ⟨x3_13, ex3_13, hf⟩ := bf_l_e hf
      refine bf_top ex3_13 ?_
      refine lv_istore_n (lv' := [(3, .int x3_13), (0, .ref o), (1, .int x1), (2, .int x2)]) hx hb dX5_readNumber_37 rfl hl (by decide) rfl (fun ls hl => ?_)
      refine lv_aload_n hx hb dX5_readNumber_38 rfl (lv_at hl 1 rfl) ?_
      obtain ⟨T_14, eT_14, hf⟩ := bf_b_some hf
      refine bf_tcv (n := 0) (As := []) (rest := []) X hd (mX5_reads l G σ o T eT_14) (lw_V q1624 q1626 qs65 q156 q1627) (by decide +kernel) ⟨Nat.le_of_ble_eq_true rfl, Nat.le_of_ble_eq_true rfl⟩ rfl hl.1 rfl (Nat.le_of_ble_eq_true rfl) dX5_readNumber_39 ⟨Nat.le_of_ble_eq_true rfl, Nat.le_of_ble_eq_true rfl⟩ (fun H locs hd => ?_)
      refine lv_iload_n hx hb dX5_readNumber_42 rfl (lv_at hl 0 rfl) ?_
      exact kret _ _ _ _ _ _ ⟨(bf_pr hf).1, congrArg (bf_pT G σ o) (bf_pr hf).2⟩ hd dX5_readNumber_43
    · have hf := bf_it hf c_12
      refine lv_aload_n hx hb dX5_readNumber_27 rfl (lv_at hl 0 rfl) ?_
      refine lv_iconst (v := 2) hx hb dX5_readNumber_28 (by decide) ?_
      obtain ⟨r_16, T_15, er_16, hf⟩ := bf_b2_some hf
      refine bf_tci (n := 1) (As := [.int 2]) (rest := []) X hd (mX5_errs l G σ o T 2 er_16) (lw_V q1656 q1658 qs73 q156 q1659) (by decide +kernel) ⟨Nat.le_of_ble_eq_true rfl, Nat.le_of_ble_eq_true rfl⟩ rfl hl.1 rfl (Nat.le_of_ble_eq_true rfl) dX5_readNumber_29 ⟨Nat.le_of_ble_eq_true rfl, Nat.le_of_ble_eq_true rfl⟩ (fun H locs hd => ?_)
      exact kret _ _ _ _ _ _ ⟨(bf_pr hf).1, congrArg (bf_pT G σ o) (bf_pr hf).2⟩ hd dX5_readNumber_32
  · have hf := bf_ie hf c_10
    refine lv_aload_n hx hb dX5_readNumber_8 rfl (lv_at hl 0 rfl) ?_
    refine lv_iconst (v := 1) hx hb dX5_readNumber_9 (by decide) ?_
    obtain ⟨r_18, T_17, er_18, hf⟩ := bf_b2_some hf
    refine bf_tci (n := 1) (As := [.int 1]) (rest := []) X hd (mX5_errs l G σ o T 1 er_18) (lw_V q1656 q1658 qs73 q156 q1659) (by decide +kernel) ⟨Nat.le_of_ble_eq_true rfl, Nat.le_of_ble_eq_true rfl⟩ rfl hl.1 rfl (Nat.le_of_ble_eq_true rfl) dX5_readNumber_10 ⟨Nat.le_of_ble_eq_true rfl, Nat.le_of_ble_eq_true rfl⟩ (fun H locs hd => ?_)
    exact kret _ _ _ _ _ _ ⟨(bf_pr hf).1, congrArg (bf_pT G σ o) (bf_pr hf).2⟩ hd dX5_readNumber_13
def fX5_readMark (T : bf_TS) (x1 : Int32) : Option (Int32 × bf_TS) := if (fX5_isSign T x1) = 0 then (bf_b2 (fX5_errs T 1) fun r_5 T_4 => some (r_5, T_4)) else (bf_b (fX5_reads T) fun T_3 => some (0, T_3))
set_option maxHeartbeats 4000000 in
theorem mX5_readMark (l : Launch) (G : bf_G) (σ : bf_V) (o : Nat) (T : bf_TS) (x1 : Int32) {r : Int32} {T' : bf_TS} (hf : fX5_readMark T x1 = some (r, T')) : bf_MI l G yX5_readMark cX5_readMark 2 (bf_rm 3) [.ref o, .int x1] (bf_pT G σ o T) (fun v σ' => v = r ∧ σ' = bf_pT G σ o T') := by
  refine bf_MI.of rfl (Nat.le_of_ble_eq_true rfl) ?_
  intro p e s m below meth c Q X hlk hnm kret hd ls hl
  have hx := X.1
  have hb := X.2.1
  have hown := X.2.2.2.1
  have hts := X.2.2.2.2
  have hl : lv_has ls 2 [(0, .ref o), (1, .int x1)] := hl
  unfold fX5_readMark at hf
  refine lv_aload_n hx hb dX5_readMark_0 rfl (lv_at hl 0 rfl) ?_
  refine lv_iload_n hx hb dX5_readMark_1 rfl (lv_at hl 1 rfl) ?_
  refine bf_tcz (n := 1) (As := [.int x1]) (rest := []) X hd (mX5_isSign l G σ o T x1 rfl) (lw_V q1676 q1678 qs78 q156 q1679) (by decide +kernel) ⟨Nat.le_of_ble_eq_true rfl, Nat.le_of_ble_eq_true rfl⟩ rfl hl.1 rfl (Nat.le_of_ble_eq_true rfl) dX5_readMark_2 ⟨Nat.le_of_ble_eq_true rfl, Nat.le_of_ble_eq_true rfl⟩ (fun H locs z_6 hd => ?_)
  refine lv_if_ne (tgt := 14) hx hb dX5_readMark_5 (by decide) (fun c_7 => ?_) (fun c_7 => ?_)
  · have hf := bf_ie hf c_7
    refine lv_aload_n hx hb dX5_readMark_14 rfl (lv_at hl 0 rfl) ?_
    obtain ⟨T_8, eT_8, hf⟩ := bf_b_some hf
    refine bf_tcv (n := 0) (As := []) (rest := []) X hd (mX5_reads l G σ o T eT_8) (lw_V q1624 q1626 qs65 q156 q1627) (by decide +kernel) ⟨Nat.le_of_ble_eq_true rfl, Nat.le_of_ble_eq_true rfl⟩ rfl hl.1 rfl (Nat.le_of_ble_eq_true rfl) dX5_readMark_15 ⟨Nat.le_of_ble_eq_true rfl, Nat.le_of_ble_eq_true rfl⟩ (fun H locs hd => ?_)
    refine lv_iconst (v := 0) hx hb dX5_readMark_18 (by decide) ?_
    exact kret _ _ _ _ _ _ ⟨(bf_pr hf).1, congrArg (bf_pT G σ o) (bf_pr hf).2⟩ hd dX5_readMark_19
  · have hf := bf_it hf c_7
    refine lv_aload_n hx hb dX5_readMark_8 rfl (lv_at hl 0 rfl) ?_
    refine lv_iconst (v := 1) hx hb dX5_readMark_9 (by decide) ?_
    obtain ⟨r_10, T_9, er_10, hf⟩ := bf_b2_some hf
    refine bf_tci (n := 1) (As := [.int 1]) (rest := []) X hd (mX5_errs l G σ o T 1 er_10) (lw_V q1656 q1658 qs73 q156 q1659) (by decide +kernel) ⟨Nat.le_of_ble_eq_true rfl, Nat.le_of_ble_eq_true rfl⟩ rfl hl.1 rfl (Nat.le_of_ble_eq_true rfl) dX5_readMark_10 ⟨Nat.le_of_ble_eq_true rfl, Nat.le_of_ble_eq_true rfl⟩ (fun H locs hd => ?_)
    exact kret _ _ _ _ _ _ ⟨(bf_pr hf).1, congrArg (bf_pT G σ o) (bf_pr hf).2⟩ hd dX5_readMark_13
def fX5_readTold (T : bf_TS) (x1 x2 x3 : Int32) : Option (Int32 × bf_TS) := if (fX5_isWord T x1) = 0 then (bf_b2 (fX5_errs T 1) fun r_7 T_6 => some (r_7, T_6)) else (bf_b (fX5_reads T) fun T_3 => bf_b2 (fX5_readNumber T_3 x2 x3) fun r_5 T_4 => some (r_5, T_4))
set_option maxHeartbeats 4000000 in
theorem mX5_readTold (l : Launch) (G : bf_G) (σ : bf_V) (o : Nat) (T : bf_TS) (x1 x2 x3 : Int32) {r : Int32} {T' : bf_TS} (hf : fX5_readTold T x1 x2 x3 = some (r, T')) : bf_MI l G yX5_readTold cX5_readTold 4 (bf_rm 4) [.ref o, .int x1, .int x2, .int x3] (bf_pT G σ o T) (fun v σ' => v = r ∧ σ' = bf_pT G σ o T') := by
  refine bf_MI.of rfl (Nat.le_of_ble_eq_true rfl) ?_
  intro p e s m below meth c Q X hlk hnm kret hd ls hl
  have hx := X.1
  have hb := X.2.1
  have hown := X.2.2.2.1
  have hts := X.2.2.2.2
  have hl : lv_has ls 4 [(0, .ref o), (1, .int x1), (2, .int x2), (3, .int x3)] := hl
  unfold fX5_readTold at hf
  refine lv_aload_n hx hb dX5_readTold_0 rfl (lv_at hl 0 rfl) ?_
  refine lv_iload_n hx hb dX5_readTold_1 rfl (lv_at hl 1 rfl) ?_
  refine bf_tcz (n := 1) (As := [.int x1]) (rest := []) X hd (mX5_isWord l G σ o T x1 rfl) (lw_V q1652 q1654 qs72 q156 q1655) (by decide +kernel) ⟨Nat.le_of_ble_eq_true rfl, Nat.le_of_ble_eq_true rfl⟩ rfl hl.1 rfl (Nat.le_of_ble_eq_true rfl) dX5_readTold_2 ⟨Nat.le_of_ble_eq_true rfl, Nat.le_of_ble_eq_true rfl⟩ (fun H locs z_8 hd => ?_)
  refine lv_if_ne (tgt := 14) hx hb dX5_readTold_5 (by decide) (fun c_9 => ?_) (fun c_9 => ?_)
  · have hf := bf_ie hf c_9
    refine lv_aload_n hx hb dX5_readTold_14 rfl (lv_at hl 0 rfl) ?_
    obtain ⟨T_10, eT_10, hf⟩ := bf_b_some hf
    refine bf_tcv (n := 0) (As := []) (rest := []) X hd (mX5_reads l G σ o T eT_10) (lw_V q1624 q1626 qs65 q156 q1627) (by decide +kernel) ⟨Nat.le_of_ble_eq_true rfl, Nat.le_of_ble_eq_true rfl⟩ rfl hl.1 rfl (Nat.le_of_ble_eq_true rfl) dX5_readTold_15 ⟨Nat.le_of_ble_eq_true rfl, Nat.le_of_ble_eq_true rfl⟩ (fun H locs hd => ?_)
    refine lv_aload_n hx hb dX5_readTold_18 rfl (lv_at hl 0 rfl) ?_
    refine lv_iload_n hx hb dX5_readTold_19 rfl (lv_at hl 2 rfl) ?_
    refine lv_iload_n hx hb dX5_readTold_20 rfl (lv_at hl 3 rfl) ?_
    obtain ⟨r_12, T_11, er_12, hf⟩ := bf_b2_some hf
    refine bf_tci (n := 2) (As := [.int x2, .int x3]) (rest := []) X hd (mX5_readNumber l G σ o T_10 x2 x3 er_12) (lw_V q1668 q1670 qs76 q156 q1671) (by decide +kernel) ⟨Nat.le_of_ble_eq_true rfl, Nat.le_of_ble_eq_true rfl⟩ rfl hl.1 rfl (Nat.le_of_ble_eq_true rfl) dX5_readTold_21 ⟨Nat.le_of_ble_eq_true rfl, Nat.le_of_ble_eq_true rfl⟩ (fun H locs hd => ?_)
    exact kret _ _ _ _ _ _ ⟨(bf_pr hf).1, congrArg (bf_pT G σ o) (bf_pr hf).2⟩ hd dX5_readTold_24
  · have hf := bf_it hf c_9
    refine lv_aload_n hx hb dX5_readTold_8 rfl (lv_at hl 0 rfl) ?_
    refine lv_iconst (v := 1) hx hb dX5_readTold_9 (by decide) ?_
    obtain ⟨r_14, T_13, er_14, hf⟩ := bf_b2_some hf
    refine bf_tci (n := 1) (As := [.int 1]) (rest := []) X hd (mX5_errs l G σ o T 1 er_14) (lw_V q1656 q1658 qs73 q156 q1659) (by decide +kernel) ⟨Nat.le_of_ble_eq_true rfl, Nat.le_of_ble_eq_true rfl⟩ rfl hl.1 rfl (Nat.le_of_ble_eq_true rfl) dX5_readTold_10 ⟨Nat.le_of_ble_eq_true rfl, Nat.le_of_ble_eq_true rfl⟩ (fun H locs hd => ?_)
    exact kret _ _ _ _ _ _ ⟨(bf_pr hf).1, congrArg (bf_pT G σ o) (bf_pr hf).2⟩ hd dX5_readTold_13
def fX5_readPath_106 (k55 : bf_TS → Option (Int32 × bf_TS)) (u55_2 : Int32) (T106 : bf_TS) : Option (Int32 × bf_TS) := bf_b2 (fX5_readNumber T106 0 9) fun r_13 T_12 => if r_13 = (-1) then (some ((-1), T_12)) else (bf_c (bf_in u55_2 180) <| bf_c (bf_in u55_2 180) <| bf_l (bf_u2 T_12 37 (u55_2).toNatClampNeg ((T_12 37 (u55_2).toNatClampNeg) + 1)) fun T_17 => bf_c (bf_in u55_2 180) <| bf_c (bf_in (u55_2 + (T_17 37 (u55_2).toNatClampNeg)) 180) <| bf_l (bf_u2 T_17 37 (u55_2 + (T_17 37 (u55_2).toNatClampNeg)).toNatClampNeg r_13) fun T_20 => k55 T_20)
def fX5_readPath_100 (T100 : bf_TS) : Option (Int32 × bf_TS) := bf_b2 (fX5_errs T100 3) fun r_11 T_10 => some (r_11, T_10)
def fX5_readPath_72 (k55 : bf_TS → Option (Int32 × bf_TS)) (u55_2 : Int32) (T72 : bf_TS) : Option (Int32 × bf_TS) := if (T72 17 0) = 3 then (if 10 ≤ (T72 18 0) then (fX5_readPath_106 k55 u55_2 T72) else (bf_c (bf_in u55_2 180) <| if (T72 37 (u55_2).toNatClampNeg) = 8 then (fX5_readPath_100 T72) else (fX5_readPath_106 k55 u55_2 T72))) else (fX5_readPath_106 k55 u55_2 T72)
def fX5_readPath_152 (T152 : bf_TS) : Option (Int32 × bf_TS) := bf_b2 (fX5_readMark T152 59) fun r_5 T_4 => some (r_5, T_4)
def fX5_readPath_55b (u55_2 : Int32) (k55 : bf_TS → Option (Int32 × bf_TS)) (T55 : bf_TS) : Option (Int32 × bf_TS) := bf_c (bf_in u55_2 180) <| if (T55 37 (u55_2).toNatClampNeg) = 0 then (fX5_readPath_72 k55 u55_2 T55) else (if (T55 17 0) = 3 then (fX5_readPath_72 k55 u55_2 T55) else (fX5_readPath_152 T55))
def fX5_readPath_55 (u55_2 : Int32) : Nat → bf_TS → Option (Int32 × bf_TS)
  | 0, _ => none
  | n + 1, T55 => fX5_readPath_55b u55_2 (fX5_readPath_55 u55_2 n) T55
def fX5_readPath (T : bf_TS) : Option (Int32 × bf_TS) := bf_b2 (fX5_readTold T 16 0 ((T 7 0) - 1)) fun r_22 T_21 => if r_22 = (-1) then (some ((-1), T_21)) else (if (fX5_isWord T_21 17) = 0 then (bf_b2 (fX5_errs T_21 1) fun r_31 T_30 => some (r_31, T_30)) else (bf_b (fX5_reads T_21) fun T_26 => bf_l ((90 + (9 * r_22))) fun x2_27 => bf_c (bf_in x2_27 180) <| bf_l (bf_u2 T_26 37 (x2_27).toNatClampNeg 0) fun T_29 => fX5_readPath_55 x2_27 bf_fuel T_29))
set_option maxHeartbeats 4000000 in
theorem mX5_readPath (l : Launch) (G : bf_G) (σ : bf_V) (o : Nat) (T : bf_TS) {r : Int32} {T' : bf_TS} (hf : fX5_readPath T = some (r, T')) : bf_MI l G yX5_readPath cX5_readPath 4 (bf_rm 5) [.ref o] (bf_pT G σ o T) (fun v σ' => v = r ∧ σ' = bf_pT G σ o T') := by
  refine bf_MI.of rfl (Nat.le_of_ble_eq_true rfl) ?_
  intro p e s m below meth c Q X hlk hnm kret hd ls hl
  have hx := X.1
  have hb := X.2.1
  have hown := X.2.2.2.1
  have hts := X.2.2.2.2
  have hl : lv_has ls 4 [(0, .ref o)] := hl
  have J100 : ∀ (T100 : bf_TS) (H : Heap) (locs : List Loc) (ls : Array Slot), fX5_readPath_100 T100 = some (r, T') → bf_Dy G s H locs (bf_pT G σ o T100) → lv_has ls 4 [(0, .ref o)] → W p l e (bf_rm 5) s m ([.ref o] : List Value).toArray below meth c H locs 0 0 Q (F0 m 100 ls []) := by
    intro T100 H locs ls hf hd hl
    unfold fX5_readPath_100 at hf
    refine lv_aload_n hx hb dX5_readPath_100 rfl (lv_at hl 0 rfl) ?_
    refine lv_iconst (v := 3) hx hb dX5_readPath_101 (by decide) ?_
    obtain ⟨r_33, T_32, er_33, hf⟩ := bf_b2_some hf
    refine bf_tci (n := 1) (As := [.int 3]) (rest := []) X hd (mX5_errs l G σ o T100 3 er_33) (lw_V q1656 q1658 qs73 q156 q1659) (by decide +kernel) ⟨Nat.le_of_ble_eq_true rfl, Nat.le_of_ble_eq_true rfl⟩ rfl hl.1 rfl (Nat.le_of_ble_eq_true rfl) dX5_readPath_102 ⟨Nat.le_of_ble_eq_true rfl, Nat.le_of_ble_eq_true rfl⟩ (fun H locs hd => ?_)
    exact kret _ _ _ _ _ _ ⟨(bf_pr hf).1, congrArg (bf_pT G σ o) (bf_pr hf).2⟩ hd dX5_readPath_105
  have J152 : ∀ (T152 : bf_TS) (H : Heap) (locs : List Loc) (ls : Array Slot), fX5_readPath_152 T152 = some (r, T') → bf_Dy G s H locs (bf_pT G σ o T152) → lv_has ls 4 [(0, .ref o)] → W p l e (bf_rm 5) s m ([.ref o] : List Value).toArray below meth c H locs 0 0 Q (F0 m 152 ls []) := by
    intro T152 H locs ls hf hd hl
    unfold fX5_readPath_152 at hf
    refine lv_aload_n hx hb dX5_readPath_152 rfl (lv_at hl 0 rfl) ?_
    refine lv_bipush (v := 59) hx hb dX5_readPath_153 (by decide) ?_
    obtain ⟨r_35, T_34, er_35, hf⟩ := bf_b2_some hf
    refine bf_tci (n := 1) (As := [.int 59]) (rest := []) X hd (mX5_readMark l G σ o T152 59 er_35) (lw_V q1672 q1674 qs77 q156 q1675) (by decide +kernel) ⟨Nat.le_of_ble_eq_true rfl, Nat.le_of_ble_eq_true rfl⟩ rfl hl.1 rfl (Nat.le_of_ble_eq_true rfl) dX5_readPath_155 ⟨Nat.le_of_ble_eq_true rfl, Nat.le_of_ble_eq_true rfl⟩ (fun H locs hd => ?_)
    exact kret _ _ _ _ _ _ ⟨(bf_pr hf).1, congrArg (bf_pT G σ o) (bf_pr hf).2⟩ hd dX5_readPath_158
  have L55 : ∀ (u55_2 : Int32) (n55 : Nat) (T55 : bf_TS) (H : Heap) (locs : List Loc) (ls : Array Slot), fX5_readPath_55 u55_2 n55 T55 = some (r, T') → bf_Dy G s H locs (bf_pT G σ o T55) → lv_has ls 4 [(0, .ref o), (2, .int u55_2)] → W p l e (bf_rm 5) s m ([.ref o] : List Value).toArray below meth c H locs 0 0 Q (F0 m 55 ls []) := by
    intro u55_2 n55
    induction n55 with
    | zero =>
      intro T55 H locs ls hf hd hl
      exact absurd (show (none : Option (Int32 × bf_TS)) = some (r, T') from hf) (by intro h; cases h)
    | succ n55 ih55 =>
      intro T55 H locs ls hf hd hl
      have hf : fX5_readPath_55b u55_2 (fX5_readPath_55 u55_2 n55) T55 = some (r, T') := hf
      unfold fX5_readPath_55b at hf
      have J106 : ∀ (T106 : bf_TS) (H : Heap) (locs : List Loc) (ls : Array Slot), fX5_readPath_106 (fX5_readPath_55 u55_2 n55) u55_2 T106 = some (r, T') → bf_Dy G s H locs (bf_pT G σ o T106) → lv_has ls 4 [(0, .ref o), (2, .int u55_2)] → W p l e (bf_rm 5) s m ([.ref o] : List Value).toArray below meth c H locs 0 0 Q (F0 m 106 ls []) := by
        intro T106 H locs ls hf hd hl
        unfold fX5_readPath_106 at hf
        refine lv_aload_n hx hb dX5_readPath_106 rfl (lv_at hl 0 rfl) ?_
        refine lv_iconst (v := 0) hx hb dX5_readPath_107 (by decide) ?_
        refine lv_bipush (v := 9) hx hb dX5_readPath_108 (by decide) ?_
        obtain ⟨r_37, T_36, er_37, hf⟩ := bf_b2_some hf
        refine bf_tci (n := 2) (As := [.int 0, .int 9]) (rest := []) X hd (mX5_readNumber l G σ o T106 0 9 er_37) (lw_V q1668 q1670 qs76 q156 q1671) (by decide +kernel) ⟨Nat.le_of_ble_eq_true rfl, Nat.le_of_ble_eq_true rfl⟩ rfl hl.1 rfl (Nat.le_of_ble_eq_true rfl) dX5_readPath_110 ⟨Nat.le_of_ble_eq_true rfl, Nat.le_of_ble_eq_true rfl⟩ (fun H locs hd => ?_)
        refine lv_istore_n (lv' := [(3, .int r_37), (0, .ref o), (2, .int u55_2)]) hx hb dX5_readPath_113 rfl hl (by decide) rfl (fun ls hl => ?_)
        refine lv_iload_n hx hb dX5_readPath_114 rfl (lv_at hl 0 rfl) ?_
        refine lv_iconst (v := (-1)) hx hb dX5_readPath_115 (by decide) ?_
        refine lv_icmp_ne (tgt := 121) hx hb dX5_readPath_116 (by decide) (fun c_38 => ?_) (fun c_38 => ?_)
        · have hf := bf_ie hf c_38
          refine lv_aload_n hx hb dX5_readPath_121 rfl (lv_at hl 1 rfl) ?_
          refine bf_tga X hd 37 (by decide) (by decide) q1420 dX5_readPath_122 ?_
          refine lv_iload_n hx hb dX5_readPath_125 rfl (lv_at hl 2 rfl) ?_
          refine lv_aload_n hx hb dX5_readPath_126 rfl (lv_at hl 1 rfl) ?_
          refine bf_tga X hd 37 (by decide) (by decide) q1420 dX5_readPath_127 ?_
          refine lv_iload_n hx hb dX5_readPath_130 rfl (lv_at hl 2 rfl) ?_
          obtain ⟨g_39, hf⟩ := bf_c_some hf
          refine bf_tld X hd 37 (by decide) g_39 dX5_readPath_131 ?_
          refine lv_iconst (v := 1) hx hb dX5_readPath_132 (by decide) ?_
          refine lv_iadd hx hb dX5_readPath_133 ?_
          obtain ⟨g_40, hf⟩ := bf_c_some hf
          refine bf_tst X hd 37 (by decide) g_40 dX5_readPath_134 (fun H locs hd => ?_)
          obtain ⟨T_41, eT_41, hf⟩ := bf_l_e hf
          have hd := hd.of (congrArg (bf_pT G σ o) eT_41.symm)
          refine lv_aload_n hx hb dX5_readPath_135 rfl (lv_at hl 1 rfl) ?_
          refine bf_tga X hd 37 (by decide) (by decide) q1420 dX5_readPath_136 ?_
          refine lv_iload_n hx hb dX5_readPath_139 rfl (lv_at hl 2 rfl) ?_
          refine lv_aload_n hx hb dX5_readPath_140 rfl (lv_at hl 1 rfl) ?_
          refine bf_tga X hd 37 (by decide) (by decide) q1420 dX5_readPath_141 ?_
          refine lv_iload_n hx hb dX5_readPath_144 rfl (lv_at hl 2 rfl) ?_
          obtain ⟨g_42, hf⟩ := bf_c_some hf
          refine bf_tld X hd 37 (by decide) g_42 dX5_readPath_145 ?_
          refine lv_iadd hx hb dX5_readPath_146 ?_
          refine lv_iload_n hx hb dX5_readPath_147 rfl (lv_at hl 0 rfl) ?_
          obtain ⟨g_43, hf⟩ := bf_c_some hf
          refine bf_tst X hd 37 (by decide) g_43 dX5_readPath_148 (fun H locs hd => ?_)
          obtain ⟨T_44, eT_44, hf⟩ := bf_l_e hf
          have hd := hd.of (congrArg (bf_pT G σ o) eT_44.symm)
          refine lv_goto (tgt := 55) hx hb dX5_readPath_149 (by decide) ?_
          exact ih55 T_44 _ _ _ hf hd (lv_sub hl [1, 2] rfl)
        · have hf := bf_it hf c_38
          refine lv_iconst (v := (-1)) hx hb dX5_readPath_119 (by decide) ?_
          exact kret _ _ _ _ _ _ ⟨(bf_pr hf).1, congrArg (bf_pT G σ o) (bf_pr hf).2⟩ hd dX5_readPath_120
      have J72 : ∀ (T72 : bf_TS) (H : Heap) (locs : List Loc) (ls : Array Slot), fX5_readPath_72 (fX5_readPath_55 u55_2 n55) u55_2 T72 = some (r, T') → bf_Dy G s H locs (bf_pT G σ o T72) → lv_has ls 4 [(0, .ref o), (2, .int u55_2)] → W p l e (bf_rm 5) s m ([.ref o] : List Value).toArray below meth c H locs 0 0 Q (F0 m 72 ls []) := by
        intro T72 H locs ls hf hd hl
        unfold fX5_readPath_72 at hf
        refine lv_aload_n hx hb dX5_readPath_72 rfl (lv_at hl 0 rfl) ?_
        refine bf_tgi X hd 17 (by decide) rfl q1400 dX5_readPath_73 ?_
        refine lv_iconst (v := 3) hx hb dX5_readPath_76 (by decide) ?_
        refine lv_icmp_ne (tgt := 106) hx hb dX5_readPath_77 (by decide) (fun c_45 => ?_) (fun c_45 => ?_)
        · have hf := bf_ie hf c_45
          exact J106 T72 _ _ _ hf hd (lv_sub hl [0, 1] rfl)
        · have hf := bf_it hf c_45
          refine lv_aload_n hx hb dX5_readPath_80 rfl (lv_at hl 0 rfl) ?_
          refine bf_tgi X hd 18 (by decide) rfl q1401 dX5_readPath_81 ?_
          refine lv_bipush (v := 10) hx hb dX5_readPath_84 (by decide) ?_
          refine lv_icmp_ge (tgt := 106) hx hb dX5_readPath_86 (by decide) (fun c_46 => ?_) (fun c_46 => ?_)
          · have hf := bf_it hf c_46
            exact J106 T72 _ _ _ hf hd (lv_sub hl [0, 1] rfl)
          · have hf := bf_ie hf c_46
            refine lv_aload_n hx hb dX5_readPath_89 rfl (lv_at hl 0 rfl) ?_
            refine bf_tga X hd 37 (by decide) (by decide) q1420 dX5_readPath_90 ?_
            refine lv_iload_n hx hb dX5_readPath_93 rfl (lv_at hl 1 rfl) ?_
            obtain ⟨g_47, hf⟩ := bf_c_some hf
            refine bf_tld X hd 37 (by decide) g_47 dX5_readPath_94 ?_
            refine lv_bipush (v := 8) hx hb dX5_readPath_95 (by decide) ?_
            refine lv_icmp_ne (tgt := 106) hx hb dX5_readPath_97 (by decide) (fun c_48 => ?_) (fun c_48 => ?_)
            · have hf := bf_ie hf c_48
              exact J106 T72 _ _ _ hf hd (lv_sub hl [0, 1] rfl)
            · have hf := bf_it hf c_48
              exact J100 T72 _ _ _ hf hd (lv_sub hl [0] rfl)
      refine lv_aload_n hx hb dX5_readPath_55 rfl (lv_at hl 0 rfl) ?_
      refine bf_tga X hd 37 (by decide) (by decide) q1420 dX5_readPath_56 ?_
      refine lv_iload_n hx hb dX5_readPath_59 rfl (lv_at hl 1 rfl) ?_
      obtain ⟨g_49, hf⟩ := bf_c_some hf
      refine bf_tld X hd 37 (by decide) g_49 dX5_readPath_60 ?_
      refine lv_if_eq (tgt := 72) hx hb dX5_readPath_61 (by decide) (fun c_50 => ?_) (fun c_50 => ?_)
      · have hf := bf_it hf c_50
        exact J72 T55 _ _ _ hf hd (lv_sub hl [0, 1] rfl)
      · have hf := bf_ie hf c_50
        refine lv_aload_n hx hb dX5_readPath_64 rfl (lv_at hl 0 rfl) ?_
        refine bf_tgi X hd 17 (by decide) rfl q1400 dX5_readPath_65 ?_
        refine lv_iconst (v := 3) hx hb dX5_readPath_68 (by decide) ?_
        refine lv_icmp_ne (tgt := 152) hx hb dX5_readPath_69 (by decide) (fun c_51 => ?_) (fun c_51 => ?_)
        · have hf := bf_ie hf c_51
          exact J152 T55 _ _ _ hf hd (lv_sub hl [0] rfl)
        · have hf := bf_it hf c_51
          exact J72 T55 _ _ _ hf hd (lv_sub hl [0, 1] rfl)
  unfold fX5_readPath at hf
  refine lv_aload_n hx hb dX5_readPath_0 rfl (lv_at hl 0 rfl) ?_
  refine lv_bipush (v := 16) hx hb dX5_readPath_1 (by decide) ?_
  refine lv_iconst (v := 0) hx hb dX5_readPath_3 (by decide) ?_
  refine lv_aload_n hx hb dX5_readPath_4 rfl (lv_at hl 0 rfl) ?_
  refine bf_tgi X hd 7 (by decide) rfl q1390 dX5_readPath_5 ?_
  refine lv_iconst (v := 1) hx hb dX5_readPath_8 (by decide) ?_
  refine lv_isub hx hb dX5_readPath_9 ?_
  obtain ⟨r_53, T_52, er_53, hf⟩ := bf_b2_some hf
  refine bf_tci (n := 3) (As := [.int 16, .int 0, .int ((T 7 0) - 1)]) (rest := []) X hd (mX5_readTold l G σ o T 16 0 ((T 7 0) - 1) er_53) (lw_V q1664 q1666 qs75 q156 q1667) (by decide +kernel) ⟨Nat.le_of_ble_eq_true rfl, Nat.le_of_ble_eq_true rfl⟩ rfl hl.1 rfl (Nat.le_of_ble_eq_true rfl) dX5_readPath_10 ⟨Nat.le_of_ble_eq_true rfl, Nat.le_of_ble_eq_true rfl⟩ (fun H locs hd => ?_)
  refine lv_istore_n (lv' := [(1, .int r_53), (0, .ref o)]) hx hb dX5_readPath_13 rfl hl (by decide) rfl (fun ls hl => ?_)
  refine lv_iload_n hx hb dX5_readPath_14 rfl (lv_at hl 0 rfl) ?_
  refine lv_iconst (v := (-1)) hx hb dX5_readPath_15 (by decide) ?_
  refine lv_icmp_ne (tgt := 21) hx hb dX5_readPath_16 (by decide) (fun c_54 => ?_) (fun c_54 => ?_)
  · have hf := bf_ie hf c_54
    refine lv_aload_n hx hb dX5_readPath_21 rfl (lv_at hl 1 rfl) ?_
    refine lv_bipush (v := 17) hx hb dX5_readPath_22 (by decide) ?_
    refine bf_tcz (n := 1) (As := [.int 17]) (rest := []) X hd (mX5_isWord l G σ o T_52 17 rfl) (lw_V q1652 q1654 qs72 q156 q1655) (by decide +kernel) ⟨Nat.le_of_ble_eq_true rfl, Nat.le_of_ble_eq_true rfl⟩ rfl hl.1 rfl (Nat.le_of_ble_eq_true rfl) dX5_readPath_24 ⟨Nat.le_of_ble_eq_true rfl, Nat.le_of_ble_eq_true rfl⟩ (fun H locs z_55 hd => ?_)
    refine lv_if_ne (tgt := 36) hx hb dX5_readPath_27 (by decide) (fun c_56 => ?_) (fun c_56 => ?_)
    · have hf := bf_ie hf c_56
      refine lv_aload_n hx hb dX5_readPath_36 rfl (lv_at hl 1 rfl) ?_
      obtain ⟨T_57, eT_57, hf⟩ := bf_b_some hf
      refine bf_tcv (n := 0) (As := []) (rest := []) X hd (mX5_reads l G σ o T_52 eT_57) (lw_V q1624 q1626 qs65 q156 q1627) (by decide +kernel) ⟨Nat.le_of_ble_eq_true rfl, Nat.le_of_ble_eq_true rfl⟩ rfl hl.1 rfl (Nat.le_of_ble_eq_true rfl) dX5_readPath_37 ⟨Nat.le_of_ble_eq_true rfl, Nat.le_of_ble_eq_true rfl⟩ (fun H locs hd => ?_)
      refine lv_bipush (v := 90) hx hb dX5_readPath_40 (by decide) ?_
      refine lv_bipush (v := 9) hx hb dX5_readPath_42 (by decide) ?_
      refine lv_iload_n hx hb dX5_readPath_44 rfl (lv_at hl 0 rfl) ?_
      refine lv_imul hx hb dX5_readPath_45 ?_
      refine lv_iadd hx hb dX5_readPath_46 ?_
      obtain ⟨x2_58, ex2_58, hf⟩ := bf_l_e hf
      refine bf_top ex2_58 ?_
      refine lv_istore_n (lv' := [(2, .int x2_58), (1, .int r_53), (0, .ref o)]) hx hb dX5_readPath_47 rfl hl (by decide) rfl (fun ls hl => ?_)
      refine lv_aload_n hx hb dX5_readPath_48 rfl (lv_at hl 2 rfl) ?_
      refine bf_tga X hd 37 (by decide) (by decide) q1420 dX5_readPath_49 ?_
      refine lv_iload_n hx hb dX5_readPath_52 rfl (lv_at hl 0 rfl) ?_
      refine lv_iconst (v := 0) hx hb dX5_readPath_53 (by decide) ?_
      obtain ⟨g_59, hf⟩ := bf_c_some hf
      refine bf_tst X hd 37 (by decide) g_59 dX5_readPath_54 (fun H locs hd => ?_)
      obtain ⟨T_60, eT_60, hf⟩ := bf_l_e hf
      have hd := hd.of (congrArg (bf_pT G σ o) eT_60.symm)
      exact L55 x2_58 bf_fuel T_60 _ _ _ hf hd (lv_sub hl [2, 0] rfl)
    · have hf := bf_it hf c_56
      refine lv_aload_n hx hb dX5_readPath_30 rfl (lv_at hl 1 rfl) ?_
      refine lv_iconst (v := 1) hx hb dX5_readPath_31 (by decide) ?_
      obtain ⟨r_62, T_61, er_62, hf⟩ := bf_b2_some hf
      refine bf_tci (n := 1) (As := [.int 1]) (rest := []) X hd (mX5_errs l G σ o T_52 1 er_62) (lw_V q1656 q1658 qs73 q156 q1659) (by decide +kernel) ⟨Nat.le_of_ble_eq_true rfl, Nat.le_of_ble_eq_true rfl⟩ rfl hl.1 rfl (Nat.le_of_ble_eq_true rfl) dX5_readPath_32 ⟨Nat.le_of_ble_eq_true rfl, Nat.le_of_ble_eq_true rfl⟩ (fun H locs hd => ?_)
      exact kret _ _ _ _ _ _ ⟨(bf_pr hf).1, congrArg (bf_pT G σ o) (bf_pr hf).2⟩ hd dX5_readPath_35
  · have hf := bf_it hf c_54
    refine lv_iconst (v := (-1)) hx hb dX5_readPath_19 (by decide) ?_
    exact kret _ _ _ _ _ _ ⟨(bf_pr hf).1, congrArg (bf_pT G σ o) (bf_pr hf).2⟩ hd dX5_readPath_20
def fX5_readPaths_67 (w67_1 : Int32) (T67 : bf_TS) : Option (Int32 × bf_TS) := if (T67 17 0) = 0 then (some (w67_1, T67)) else (bf_b2 (fX5_errs T67 1) fun r_16 T_15 => some (r_16, T_15))
def fX5_readPaths_44 (T44 : bf_TS) : Option (Int32 × bf_TS) := bf_b2 (fX5_errs T44 3) fun r_13 T_12 => some (r_13, T_12)
def fX5_readPaths_29b (k29 : Int32 → bf_TS → Option (Int32 × bf_TS)) (v29_1 : Int32) (T29 : bf_TS) : Option (Int32 × bf_TS) := if (fX5_isWord T29 16) = 0 then (fX5_readPaths_67 v29_1 T29) else (if v29_1 = 16 then (fX5_readPaths_44 T29) else (bf_b2 (fX5_readPath T29) fun r_9 T_8 => if r_9 = (-1) then (some ((-1), T_8)) else (bf_l ((v29_1 + 1)) fun x1_11 => k29 x1_11 T_8)))
def fX5_readPaths_29  : Nat → Int32 → bf_TS → Option (Int32 × bf_TS)
  | 0, _, _ => none
  | n + 1, v29_1, T29 => fX5_readPaths_29b (fX5_readPaths_29 n) v29_1 T29
def fX5_readPaths_27 (T27 : bf_TS) : Option (Int32 × bf_TS) := fX5_readPaths_29 bf_fuel 0 T27
def fX5_readPaths_2b (k2 : Int32 → bf_TS → Option (Int32 × bf_TS)) (v2_1 : Int32) (T2 : bf_TS) : Option (Int32 × bf_TS) := if 10 ≤ v2_1 then (fX5_readPaths_27 T2) else (bf_c (bf_in (90 + (9 * v2_1)) 180) <| bf_l (bf_u2 T2 37 (90 + (9 * v2_1)).toNatClampNeg 0) fun T_3 => bf_l (v2_1 + 1) fun x1_4 => k2 x1_4 T_3)
def fX5_readPaths_2  : Nat → Int32 → bf_TS → Option (Int32 × bf_TS)
  | 0, _, _ => none
  | n + 1, v2_1, T2 => fX5_readPaths_2b (fX5_readPaths_2 n) v2_1 T2
def fX5_readPaths (T : bf_TS) : Option (Int32 × bf_TS) := fX5_readPaths_2 bf_fuel 0 T
set_option maxHeartbeats 4000000 in
theorem mX5_readPaths (l : Launch) (G : bf_G) (σ : bf_V) (o : Nat) (T : bf_TS) {r : Int32} {T' : bf_TS} (hf : fX5_readPaths T = some (r, T')) : bf_MI l G yX5_readPaths cX5_readPaths 2 (bf_rm 6) [.ref o] (bf_pT G σ o T) (fun v σ' => v = r ∧ σ' = bf_pT G σ o T') := by
  refine bf_MI.of rfl (Nat.le_of_ble_eq_true rfl) ?_
  intro p e s m below meth c Q X hlk hnm kret hd ls hl
  have hx := X.1
  have hb := X.2.1
  have hown := X.2.2.2.1
  have hts := X.2.2.2.2
  have hl : lv_has ls 2 [(0, .ref o)] := hl
  have J67 : ∀ (w67_1 : Int32) (T67 : bf_TS) (H : Heap) (locs : List Loc) (ls : Array Slot), fX5_readPaths_67 w67_1 T67 = some (r, T') → bf_Dy G s H locs (bf_pT G σ o T67) → lv_has ls 2 [(0, .ref o), (1, .int w67_1)] → W p l e (bf_rm 6) s m ([.ref o] : List Value).toArray below meth c H locs 0 0 Q (F0 m 67 ls []) := by
    intro w67_1 T67 H locs ls hf hd hl
    unfold fX5_readPaths_67 at hf
    refine lv_aload_n hx hb dX5_readPaths_67 rfl (lv_at hl 0 rfl) ?_
    refine bf_tgi X hd 17 (by decide) rfl q1400 dX5_readPaths_68 ?_
    refine lv_if_ne (tgt := 78) hx hb dX5_readPaths_71 (by decide) (fun c_17 => ?_) (fun c_17 => ?_)
    · have hf := bf_ie hf c_17
      refine lv_aload_n hx hb dX5_readPaths_78 rfl (lv_at hl 0 rfl) ?_
      refine lv_iconst (v := 1) hx hb dX5_readPaths_79 (by decide) ?_
      obtain ⟨r_19, T_18, er_19, hf⟩ := bf_b2_some hf
      refine bf_tci (n := 1) (As := [.int 1]) (rest := []) X hd (mX5_errs l G σ o T67 1 er_19) (lw_V q1656 q1658 qs73 q156 q1659) (by decide +kernel) ⟨Nat.le_of_ble_eq_true rfl, Nat.le_of_ble_eq_true rfl⟩ rfl hl.1 rfl (Nat.le_of_ble_eq_true rfl) dX5_readPaths_80 ⟨Nat.le_of_ble_eq_true rfl, Nat.le_of_ble_eq_true rfl⟩ (fun H locs hd => ?_)
      exact kret _ _ _ _ _ _ ⟨(bf_pr hf).1, congrArg (bf_pT G σ o) (bf_pr hf).2⟩ hd dX5_readPaths_83
    · have hf := bf_it hf c_17
      refine lv_iload_n hx hb dX5_readPaths_74 rfl (lv_at hl 1 rfl) ?_
      refine lv_goto (tgt := 83) hx hb dX5_readPaths_75 (by decide) ?_
      exact kret _ _ _ _ _ _ ⟨(bf_pr hf).1, congrArg (bf_pT G σ o) (bf_pr hf).2⟩ hd dX5_readPaths_83
  have J44 : ∀ (T44 : bf_TS) (H : Heap) (locs : List Loc) (ls : Array Slot), fX5_readPaths_44 T44 = some (r, T') → bf_Dy G s H locs (bf_pT G σ o T44) → lv_has ls 2 [(0, .ref o)] → W p l e (bf_rm 6) s m ([.ref o] : List Value).toArray below meth c H locs 0 0 Q (F0 m 44 ls []) := by
    intro T44 H locs ls hf hd hl
    unfold fX5_readPaths_44 at hf
    refine lv_aload_n hx hb dX5_readPaths_44 rfl (lv_at hl 0 rfl) ?_
    refine lv_iconst (v := 3) hx hb dX5_readPaths_45 (by decide) ?_
    obtain ⟨r_21, T_20, er_21, hf⟩ := bf_b2_some hf
    refine bf_tci (n := 1) (As := [.int 3]) (rest := []) X hd (mX5_errs l G σ o T44 3 er_21) (lw_V q1656 q1658 qs73 q156 q1659) (by decide +kernel) ⟨Nat.le_of_ble_eq_true rfl, Nat.le_of_ble_eq_true rfl⟩ rfl hl.1 rfl (Nat.le_of_ble_eq_true rfl) dX5_readPaths_46 ⟨Nat.le_of_ble_eq_true rfl, Nat.le_of_ble_eq_true rfl⟩ (fun H locs hd => ?_)
    exact kret _ _ _ _ _ _ ⟨(bf_pr hf).1, congrArg (bf_pT G σ o) (bf_pr hf).2⟩ hd dX5_readPaths_49
  have L29 : ∀ (n29 : Nat) (v29_1 : Int32) (T29 : bf_TS) (H : Heap) (locs : List Loc) (ls : Array Slot), fX5_readPaths_29 n29 v29_1 T29 = some (r, T') → bf_Dy G s H locs (bf_pT G σ o T29) → lv_has ls 2 [(0, .ref o), (1, .int v29_1)] → W p l e (bf_rm 6) s m ([.ref o] : List Value).toArray below meth c H locs 0 0 Q (F0 m 29 ls []) := by
    intro n29
    induction n29 with
    | zero =>
      intro v29_1 T29 H locs ls hf hd hl
      exact absurd (show (none : Option (Int32 × bf_TS)) = some (r, T') from hf) (by intro h; cases h)
    | succ n29 ih29 =>
      intro v29_1 T29 H locs ls hf hd hl
      have hf : fX5_readPaths_29b (fX5_readPaths_29 n29) v29_1 T29 = some (r, T') := hf
      unfold fX5_readPaths_29b at hf
      refine lv_aload_n hx hb dX5_readPaths_29 rfl (lv_at hl 0 rfl) ?_
      refine lv_bipush (v := 16) hx hb dX5_readPaths_30 (by decide) ?_
      refine bf_tcz (n := 1) (As := [.int 16]) (rest := []) X hd (mX5_isWord l G σ o T29 16 rfl) (lw_V q1652 q1654 qs72 q156 q1655) (by decide +kernel) ⟨Nat.le_of_ble_eq_true rfl, Nat.le_of_ble_eq_true rfl⟩ rfl hl.1 rfl (Nat.le_of_ble_eq_true rfl) dX5_readPaths_32 ⟨Nat.le_of_ble_eq_true rfl, Nat.le_of_ble_eq_true rfl⟩ (fun H locs z_22 hd => ?_)
      refine lv_if_eq (tgt := 67) hx hb dX5_readPaths_35 (by decide) (fun c_23 => ?_) (fun c_23 => ?_)
      · have hf := bf_it hf c_23
        exact J67 v29_1 T29 _ _ _ hf hd (lv_sub hl [0, 1] rfl)
      · have hf := bf_ie hf c_23
        refine lv_iload_n hx hb dX5_readPaths_38 rfl (lv_at hl 1 rfl) ?_
        refine lv_bipush (v := 16) hx hb dX5_readPaths_39 (by decide) ?_
        refine lv_icmp_ne (tgt := 50) hx hb dX5_readPaths_41 (by decide) (fun c_24 => ?_) (fun c_24 => ?_)
        · have hf := bf_ie hf c_24
          refine lv_aload_n hx hb dX5_readPaths_50 rfl (lv_at hl 0 rfl) ?_
          obtain ⟨r_26, T_25, er_26, hf⟩ := bf_b2_some hf
          refine bf_tci (n := 0) (As := []) (rest := []) X hd (mX5_readPath l G σ o T29 er_26) (lw_V q1660 q1662 qs74 q156 q1663) (by decide +kernel) ⟨Nat.le_of_ble_eq_true rfl, Nat.le_of_ble_eq_true rfl⟩ rfl hl.1 rfl (Nat.le_of_ble_eq_true rfl) dX5_readPaths_51 ⟨Nat.le_of_ble_eq_true rfl, Nat.le_of_ble_eq_true rfl⟩ (fun H locs hd => ?_)
          refine lv_iconst (v := (-1)) hx hb dX5_readPaths_54 (by decide) ?_
          refine lv_icmp_ne (tgt := 60) hx hb dX5_readPaths_55 (by decide) (fun c_27 => ?_) (fun c_27 => ?_)
          · have hf := bf_ie hf c_27
            refine lv_iload_n hx hb dX5_readPaths_60 rfl (lv_at hl 1 rfl) ?_
            refine lv_iconst (v := 1) hx hb dX5_readPaths_61 (by decide) ?_
            refine lv_iadd hx hb dX5_readPaths_62 ?_
            obtain ⟨x1_28, ex1_28, hf⟩ := bf_l_e hf
            refine bf_top ex1_28 ?_
            refine lv_istore_n (lv' := [(1, .int x1_28), (0, .ref o)]) hx hb dX5_readPaths_63 rfl hl (by decide) rfl (fun ls hl => ?_)
            refine lv_goto (tgt := 29) hx hb dX5_readPaths_64 (by decide) ?_
            exact ih29 x1_28 T_25 _ _ _ hf hd (lv_sub hl [1, 0] rfl)
          · have hf := bf_it hf c_27
            refine lv_iconst (v := (-1)) hx hb dX5_readPaths_58 (by decide) ?_
            exact kret _ _ _ _ _ _ ⟨(bf_pr hf).1, congrArg (bf_pT G σ o) (bf_pr hf).2⟩ hd dX5_readPaths_59
        · have hf := bf_it hf c_24
          exact J44 T29 _ _ _ hf hd (lv_sub hl [0] rfl)
  have J27 : ∀ (T27 : bf_TS) (H : Heap) (locs : List Loc) (ls : Array Slot), fX5_readPaths_27 T27 = some (r, T') → bf_Dy G s H locs (bf_pT G σ o T27) → lv_has ls 2 [(0, .ref o)] → W p l e (bf_rm 6) s m ([.ref o] : List Value).toArray below meth c H locs 0 0 Q (F0 m 27 ls []) := by
    intro T27 H locs ls hf hd hl
    unfold fX5_readPaths_27 at hf
    refine lv_iconst (v := 0) hx hb dX5_readPaths_27 (by decide) ?_
    refine lv_istore_n (lv' := [(1, .int 0), (0, .ref o)]) hx hb dX5_readPaths_28 rfl hl (by decide) rfl (fun ls hl => ?_)
    exact L29 bf_fuel 0 T27 _ _ _ hf hd (lv_sub hl [1, 0] rfl)
  have L2 : ∀ (n2 : Nat) (v2_1 : Int32) (T2 : bf_TS) (H : Heap) (locs : List Loc) (ls : Array Slot), fX5_readPaths_2 n2 v2_1 T2 = some (r, T') → bf_Dy G s H locs (bf_pT G σ o T2) → lv_has ls 2 [(0, .ref o), (1, .int v2_1)] → W p l e (bf_rm 6) s m ([.ref o] : List Value).toArray below meth c H locs 0 0 Q (F0 m 2 ls []) := by
    intro n2
    induction n2 with
    | zero =>
      intro v2_1 T2 H locs ls hf hd hl
      exact absurd (show (none : Option (Int32 × bf_TS)) = some (r, T') from hf) (by intro h; cases h)
    | succ n2 ih2 =>
      intro v2_1 T2 H locs ls hf hd hl
      have hf : fX5_readPaths_2b (fX5_readPaths_2 n2) v2_1 T2 = some (r, T') := hf
      unfold fX5_readPaths_2b at hf
      refine lv_iload_n hx hb dX5_readPaths_2 rfl (lv_at hl 1 rfl) ?_
      refine lv_bipush (v := 10) hx hb dX5_readPaths_3 (by decide) ?_
      refine lv_icmp_ge (tgt := 27) hx hb dX5_readPaths_5 (by decide) (fun c_29 => ?_) (fun c_29 => ?_)
      · have hf := bf_it hf c_29
        exact J27 T2 _ _ _ hf hd (lv_sub hl [0] rfl)
      · have hf := bf_ie hf c_29
        refine lv_aload_n hx hb dX5_readPaths_8 rfl (lv_at hl 0 rfl) ?_
        refine bf_tga X hd 37 (by decide) (by decide) q1420 dX5_readPaths_9 ?_
        refine lv_bipush (v := 90) hx hb dX5_readPaths_12 (by decide) ?_
        refine lv_bipush (v := 9) hx hb dX5_readPaths_14 (by decide) ?_
        refine lv_iload_n hx hb dX5_readPaths_16 rfl (lv_at hl 1 rfl) ?_
        refine lv_imul hx hb dX5_readPaths_17 ?_
        refine lv_iadd hx hb dX5_readPaths_18 ?_
        refine lv_iconst (v := 0) hx hb dX5_readPaths_19 (by decide) ?_
        obtain ⟨g_30, hf⟩ := bf_c_some hf
        refine bf_tst X hd 37 (by decide) g_30 dX5_readPaths_20 (fun H locs hd => ?_)
        obtain ⟨T_31, eT_31, hf⟩ := bf_l_e hf
        have hd := hd.of (congrArg (bf_pT G σ o) eT_31.symm)
        obtain ⟨x1_32, ex1_32, hf⟩ := bf_l_e hf
        refine lv_iinc (v := x1_32) (lv' := [(1, .int x1_32), (0, .ref o)]) hx hb dX5_readPaths_21 hl (k := 1) rfl (by rw [ex1_32]; rfl) (by decide) rfl (fun ls hl => ?_)
        refine lv_goto (tgt := 2) hx hb dX5_readPaths_24 (by decide) ?_
        exact ih2 x1_32 T_31 _ _ _ hf hd (lv_sub hl [1, 0] rfl)
  unfold fX5_readPaths at hf
  refine lv_iconst (v := 0) hx hb dX5_readPaths_0 (by decide) ?_
  refine lv_istore_n (lv' := [(1, .int 0), (0, .ref o)]) hx hb dX5_readPaths_1 rfl hl (by decide) rfl (fun ls hl => ?_)
  exact L2 bf_fuel 0 T _ _ _ hf hd (lv_sub hl [1, 0] rfl)
def fX5_readDeed_120 (x1 : Int32) (t120_0 : Int32) (t120_1 : Int32) (T120 : bf_TS) : Option (Int32 × bf_TS) := bf_c (bf_in t120_1 128) <| bf_l (bf_u2 T120 39 (t120_1).toNatClampNeg t120_0) fun T_18 => bf_c (bf_in (x1 + 3) 128) <| some ((T_18 39 (x1 + 3).toNatClampNeg), T_18)
def fX5_readDeed_64 (x1 : Int32) (x2 : Int32) (T64 : bf_TS) : Option (Int32 × bf_TS) := bf_c (bf_in (x1 + 2) 128) <| if (T64 39 (x1 + 2).toNatClampNeg) = (-1) then (some ((-1), T64)) else (if x2 = 19 then (bf_b2 (fX5_readTold T64 20 0 9) fun r_16 T_15 => fX5_readDeed_120 x1 r_16 (x1 + 3) T_15) else (if x2 = 23 then (bf_b2 (fX5_readNumber T64 1 99) fun r_14 T_13 => fX5_readDeed_120 x1 r_14 (x1 + 3) T_13) else (fX5_readDeed_120 x1 0 (x1 + 3) T64)))
def fX5_readDeed_12 (x1 : Int32) (x2 : Int32) (T12 : bf_TS) : Option (Int32 × bf_TS) := bf_b2 (fX5_readNumber T12 0 ((T12 6 0) - 1)) fun r_6 T_5 => bf_c (bf_in (x1 + 2) 128) <| bf_l (bf_u2 T_5 39 (x1 + 2).toNatClampNeg r_6) fun T_8 => fX5_readDeed_64 x1 x2 T_8
def fX5_readDeed_60 (x1 : Int32) (x2 : Int32) (t60_0 : Int32) (t60_1 : Int32) (t60_3 : Int32) (T60 : bf_TS) : Option (Int32 × bf_TS) := bf_b2 (fX5_readNumber T60 t60_1 t60_0) fun r_2 T_1 => bf_c (bf_in t60_3 128) <| bf_l (bf_u2 T_1 39 (t60_3).toNatClampNeg r_2) fun T_4 => fX5_readDeed_64 x1 x2 T_4
def fX5_readDeed (T : bf_TS) (x1 x2 : Int32) : Option (Int32 × bf_TS) := if x2 = 19 then (fX5_readDeed_12 x1 x2 T) else (if x2 = 23 then (fX5_readDeed_12 x1 x2 T) else (if x2 = 24 then (fX5_readDeed_60 x1 x2 ((T 7 0) - 1) 0 (x1 + 2) T) else (fX5_readDeed_60 x1 x2 9 0 (x1 + 2) T)))
set_option maxHeartbeats 4000000 in
theorem mX5_readDeed (l : Launch) (G : bf_G) (σ : bf_V) (o : Nat) (T : bf_TS) (x1 x2 : Int32) {r : Int32} {T' : bf_TS} (hf : fX5_readDeed T x1 x2 = some (r, T')) : bf_MI l G yX5_readDeed cX5_readDeed 3 (bf_rm 5) [.ref o, .int x1, .int x2] (bf_pT G σ o T) (fun v σ' => v = r ∧ σ' = bf_pT G σ o T') := by
  refine bf_MI.of rfl (Nat.le_of_ble_eq_true rfl) ?_
  intro p e s m below meth c Q X hlk hnm kret hd ls hl
  have hx := X.1
  have hb := X.2.1
  have hown := X.2.2.2.1
  have hts := X.2.2.2.2
  have hl : lv_has ls 3 [(0, .ref o), (1, .int x1), (2, .int x2)] := hl
  have J120 : ∀ (t120_0 : Int32) (t120_1 : Int32) (T120 : bf_TS) (H : Heap) (locs : List Loc) (ls : Array Slot), fX5_readDeed_120 x1 t120_0 t120_1 T120 = some (r, T') → bf_Dy G s H locs (bf_pT G σ o T120) → lv_has ls 3 [(0, .ref o), (1, .int x1)] → W p l e (bf_rm 5) s m ([.ref o, .int x1, .int x2] : List Value).toArray below meth c H locs 0 0 Q (F0 m 120 ls [.int t120_0, .int t120_1, .ref (o + bf_to 39)]) := by
    intro t120_0 t120_1 T120 H locs ls hf hd hl
    unfold fX5_readDeed_120 at hf
    obtain ⟨g_23, hf⟩ := bf_c_some hf
    refine bf_tst X hd 39 (by decide) g_23 dX5_readDeed_120 (fun H locs hd => ?_)
    obtain ⟨T_24, eT_24, hf⟩ := bf_l_e hf
    have hd := hd.of (congrArg (bf_pT G σ o) eT_24.symm)
    refine lv_aload_n hx hb dX5_readDeed_121 rfl (lv_at hl 0 rfl) ?_
    refine bf_tga X hd 39 (by decide) (by decide) q1422 dX5_readDeed_122 ?_
    refine lv_iload_n hx hb dX5_readDeed_125 rfl (lv_at hl 1 rfl) ?_
    refine lv_iconst (v := 3) hx hb dX5_readDeed_126 (by decide) ?_
    refine lv_iadd hx hb dX5_readDeed_127 ?_
    obtain ⟨g_25, hf⟩ := bf_c_some hf
    refine bf_tld X hd 39 (by decide) g_25 dX5_readDeed_128 ?_
    exact kret _ _ _ _ _ _ ⟨(bf_pr hf).1, congrArg (bf_pT G σ o) (bf_pr hf).2⟩ hd dX5_readDeed_129
  have J64 : ∀ (T64 : bf_TS) (H : Heap) (locs : List Loc) (ls : Array Slot), fX5_readDeed_64 x1 x2 T64 = some (r, T') → bf_Dy G s H locs (bf_pT G σ o T64) → lv_has ls 3 [(0, .ref o), (1, .int x1), (2, .int x2)] → W p l e (bf_rm 5) s m ([.ref o, .int x1, .int x2] : List Value).toArray below meth c H locs 0 0 Q (F0 m 64 ls []) := by
    intro T64 H locs ls hf hd hl
    unfold fX5_readDeed_64 at hf
    refine lv_aload_n hx hb dX5_readDeed_64 rfl (lv_at hl 0 rfl) ?_
    refine bf_tga X hd 39 (by decide) (by decide) q1422 dX5_readDeed_65 ?_
    refine lv_iload_n hx hb dX5_readDeed_68 rfl (lv_at hl 1 rfl) ?_
    refine lv_iconst (v := 2) hx hb dX5_readDeed_69 (by decide) ?_
    refine lv_iadd hx hb dX5_readDeed_70 ?_
    obtain ⟨g_26, hf⟩ := bf_c_some hf
    refine bf_tld X hd 39 (by decide) g_26 dX5_readDeed_71 ?_
    refine lv_iconst (v := (-1)) hx hb dX5_readDeed_72 (by decide) ?_
    refine lv_icmp_ne (tgt := 78) hx hb dX5_readDeed_73 (by decide) (fun c_27 => ?_) (fun c_27 => ?_)
    · have hf := bf_ie hf c_27
      refine lv_aload_n hx hb dX5_readDeed_78 rfl (lv_at hl 0 rfl) ?_
      refine bf_tga X hd 39 (by decide) (by decide) q1422 dX5_readDeed_79 ?_
      refine lv_iload_n hx hb dX5_readDeed_82 rfl (lv_at hl 1 rfl) ?_
      refine lv_iconst (v := 3) hx hb dX5_readDeed_83 (by decide) ?_
      refine lv_iadd hx hb dX5_readDeed_84 ?_
      refine lv_iload_n hx hb dX5_readDeed_85 rfl (lv_at hl 2 rfl) ?_
      refine lv_bipush (v := 19) hx hb dX5_readDeed_86 (by decide) ?_
      refine lv_icmp_ne (tgt := 103) hx hb dX5_readDeed_88 (by decide) (fun c_28 => ?_) (fun c_28 => ?_)
      · have hf := bf_ie hf c_28
        refine lv_iload_n hx hb dX5_readDeed_103 rfl (lv_at hl 2 rfl) ?_
        refine lv_bipush (v := 23) hx hb dX5_readDeed_104 (by decide) ?_
        refine lv_icmp_ne (tgt := 119) hx hb dX5_readDeed_106 (by decide) (fun c_29 => ?_) (fun c_29 => ?_)
        · have hf := bf_ie hf c_29
          refine lv_iconst (v := 0) hx hb dX5_readDeed_119 (by decide) ?_
          exact J120 0 (x1 + 3) T64 _ _ _ hf hd (lv_sub hl [0, 1] rfl)
        · have hf := bf_it hf c_29
          refine lv_aload_n hx hb dX5_readDeed_109 rfl (lv_at hl 0 rfl) ?_
          refine lv_iconst (v := 1) hx hb dX5_readDeed_110 (by decide) ?_
          refine lv_bipush (v := 99) hx hb dX5_readDeed_111 (by decide) ?_
          obtain ⟨r_31, T_30, er_31, hf⟩ := bf_b2_some hf
          refine bf_tci (n := 2) (As := [.int 1, .int 99]) (rest := [.int (x1 + 3), .ref (o + bf_to 39)]) X hd (mX5_readNumber l G σ o T64 1 99 er_31) (lw_V q1668 q1670 qs76 q156 q1671) (by decide +kernel) ⟨Nat.le_of_ble_eq_true rfl, Nat.le_of_ble_eq_true rfl⟩ rfl hl.1 rfl (Nat.le_of_ble_eq_true rfl) dX5_readDeed_113 ⟨Nat.le_of_ble_eq_true rfl, Nat.le_of_ble_eq_true rfl⟩ (fun H locs hd => ?_)
          refine lv_goto (tgt := 120) hx hb dX5_readDeed_116 (by decide) ?_
          exact J120 r_31 (x1 + 3) T_30 _ _ _ hf hd (lv_sub hl [0, 1] rfl)
      · have hf := bf_it hf c_28
        refine lv_aload_n hx hb dX5_readDeed_91 rfl (lv_at hl 0 rfl) ?_
        refine lv_bipush (v := 20) hx hb dX5_readDeed_92 (by decide) ?_
        refine lv_iconst (v := 0) hx hb dX5_readDeed_94 (by decide) ?_
        refine lv_bipush (v := 9) hx hb dX5_readDeed_95 (by decide) ?_
        obtain ⟨r_33, T_32, er_33, hf⟩ := bf_b2_some hf
        refine bf_tci (n := 3) (As := [.int 20, .int 0, .int 9]) (rest := [.int (x1 + 3), .ref (o + bf_to 39)]) X hd (mX5_readTold l G σ o T64 20 0 9 er_33) (lw_V q1664 q1666 qs75 q156 q1667) (by decide +kernel) ⟨Nat.le_of_ble_eq_true rfl, Nat.le_of_ble_eq_true rfl⟩ rfl hl.1 rfl (Nat.le_of_ble_eq_true rfl) dX5_readDeed_97 ⟨Nat.le_of_ble_eq_true rfl, Nat.le_of_ble_eq_true rfl⟩ (fun H locs hd => ?_)
        refine lv_goto (tgt := 120) hx hb dX5_readDeed_100 (by decide) ?_
        exact J120 r_33 (x1 + 3) T_32 _ _ _ hf hd (lv_sub hl [0, 1] rfl)
    · have hf := bf_it hf c_27
      refine lv_iconst (v := (-1)) hx hb dX5_readDeed_76 (by decide) ?_
      exact kret _ _ _ _ _ _ ⟨(bf_pr hf).1, congrArg (bf_pT G σ o) (bf_pr hf).2⟩ hd dX5_readDeed_77
  have J12 : ∀ (T12 : bf_TS) (H : Heap) (locs : List Loc) (ls : Array Slot), fX5_readDeed_12 x1 x2 T12 = some (r, T') → bf_Dy G s H locs (bf_pT G σ o T12) → lv_has ls 3 [(0, .ref o), (1, .int x1), (2, .int x2)] → W p l e (bf_rm 5) s m ([.ref o, .int x1, .int x2] : List Value).toArray below meth c H locs 0 0 Q (F0 m 12 ls []) := by
    intro T12 H locs ls hf hd hl
    unfold fX5_readDeed_12 at hf
    refine lv_aload_n hx hb dX5_readDeed_12 rfl (lv_at hl 0 rfl) ?_
    refine bf_tga X hd 39 (by decide) (by decide) q1422 dX5_readDeed_13 ?_
    refine lv_iload_n hx hb dX5_readDeed_16 rfl (lv_at hl 1 rfl) ?_
    refine lv_iconst (v := 2) hx hb dX5_readDeed_17 (by decide) ?_
    refine lv_iadd hx hb dX5_readDeed_18 ?_
    refine lv_aload_n hx hb dX5_readDeed_19 rfl (lv_at hl 0 rfl) ?_
    refine lv_iconst (v := 0) hx hb dX5_readDeed_20 (by decide) ?_
    refine lv_aload_n hx hb dX5_readDeed_21 rfl (lv_at hl 0 rfl) ?_
    refine bf_tgi X hd 6 (by decide) rfl q1389 dX5_readDeed_22 ?_
    refine lv_iconst (v := 1) hx hb dX5_readDeed_25 (by decide) ?_
    refine lv_isub hx hb dX5_readDeed_26 ?_
    obtain ⟨r_35, T_34, er_35, hf⟩ := bf_b2_some hf
    refine bf_tci (n := 2) (As := [.int 0, .int ((T12 6 0) - 1)]) (rest := [.int (x1 + 2), .ref (o + bf_to 39)]) X hd (mX5_readNumber l G σ o T12 0 ((T12 6 0) - 1) er_35) (lw_V q1668 q1670 qs76 q156 q1671) (by decide +kernel) ⟨Nat.le_of_ble_eq_true rfl, Nat.le_of_ble_eq_true rfl⟩ rfl hl.1 rfl (Nat.le_of_ble_eq_true rfl) dX5_readDeed_27 ⟨Nat.le_of_ble_eq_true rfl, Nat.le_of_ble_eq_true rfl⟩ (fun H locs hd => ?_)
    obtain ⟨g_36, hf⟩ := bf_c_some hf
    refine bf_tst X hd 39 (by decide) g_36 dX5_readDeed_30 (fun H locs hd => ?_)
    obtain ⟨T_37, eT_37, hf⟩ := bf_l_e hf
    have hd := hd.of (congrArg (bf_pT G σ o) eT_37.symm)
    refine lv_goto (tgt := 64) hx hb dX5_readDeed_31 (by decide) ?_
    exact J64 T_37 _ _ _ hf hd (lv_sub hl [0, 1, 2] rfl)
  have J60 : ∀ (t60_0 : Int32) (t60_1 : Int32) (t60_3 : Int32) (T60 : bf_TS) (H : Heap) (locs : List Loc) (ls : Array Slot), fX5_readDeed_60 x1 x2 t60_0 t60_1 t60_3 T60 = some (r, T') → bf_Dy G s H locs (bf_pT G σ o T60) → lv_has ls 3 [(0, .ref o), (1, .int x1), (2, .int x2)] → W p l e (bf_rm 5) s m ([.ref o, .int x1, .int x2] : List Value).toArray below meth c H locs 0 0 Q (F0 m 60 ls [.int t60_0, .int t60_1, .ref o, .int t60_3, .ref (o + bf_to 39)]) := by
    intro t60_0 t60_1 t60_3 T60 H locs ls hf hd hl
    unfold fX5_readDeed_60 at hf
    obtain ⟨r_39, T_38, er_39, hf⟩ := bf_b2_some hf
    refine bf_tci (n := 2) (As := [.int t60_1, .int t60_0]) (rest := [.int t60_3, .ref (o + bf_to 39)]) X hd (mX5_readNumber l G σ o T60 t60_1 t60_0 er_39) (lw_V q1668 q1670 qs76 q156 q1671) (by decide +kernel) ⟨Nat.le_of_ble_eq_true rfl, Nat.le_of_ble_eq_true rfl⟩ rfl hl.1 rfl (Nat.le_of_ble_eq_true rfl) dX5_readDeed_60 ⟨Nat.le_of_ble_eq_true rfl, Nat.le_of_ble_eq_true rfl⟩ (fun H locs hd => ?_)
    obtain ⟨g_40, hf⟩ := bf_c_some hf
    refine bf_tst X hd 39 (by decide) g_40 dX5_readDeed_63 (fun H locs hd => ?_)
    obtain ⟨T_41, eT_41, hf⟩ := bf_l_e hf
    have hd := hd.of (congrArg (bf_pT G σ o) eT_41.symm)
    exact J64 T_41 _ _ _ hf hd (lv_sub hl [0, 1, 2] rfl)
  unfold fX5_readDeed at hf
  refine lv_iload_n hx hb dX5_readDeed_0 rfl (lv_at hl 2 rfl) ?_
  refine lv_bipush (v := 19) hx hb dX5_readDeed_1 (by decide) ?_
  refine lv_icmp_eq (tgt := 12) hx hb dX5_readDeed_3 (by decide) (fun c_42 => ?_) (fun c_42 => ?_)
  · have hf := bf_it hf c_42
    exact J12 T _ _ _ hf hd (lv_sub hl [0, 1, 2] rfl)
  · have hf := bf_ie hf c_42
    refine lv_iload_n hx hb dX5_readDeed_6 rfl (lv_at hl 2 rfl) ?_
    refine lv_bipush (v := 23) hx hb dX5_readDeed_7 (by decide) ?_
    refine lv_icmp_ne (tgt := 34) hx hb dX5_readDeed_9 (by decide) (fun c_43 => ?_) (fun c_43 => ?_)
    · have hf := bf_ie hf c_43
      refine lv_aload_n hx hb dX5_readDeed_34 rfl (lv_at hl 0 rfl) ?_
      refine bf_tga X hd 39 (by decide) (by decide) q1422 dX5_readDeed_35 ?_
      refine lv_iload_n hx hb dX5_readDeed_38 rfl (lv_at hl 1 rfl) ?_
      refine lv_iconst (v := 2) hx hb dX5_readDeed_39 (by decide) ?_
      refine lv_iadd hx hb dX5_readDeed_40 ?_
      refine lv_aload_n hx hb dX5_readDeed_41 rfl (lv_at hl 0 rfl) ?_
      refine lv_iconst (v := 0) hx hb dX5_readDeed_42 (by decide) ?_
      refine lv_iload_n hx hb dX5_readDeed_43 rfl (lv_at hl 2 rfl) ?_
      refine lv_bipush (v := 24) hx hb dX5_readDeed_44 (by decide) ?_
      refine lv_icmp_ne (tgt := 58) hx hb dX5_readDeed_46 (by decide) (fun c_44 => ?_) (fun c_44 => ?_)
      · have hf := bf_ie hf c_44
        refine lv_bipush (v := 9) hx hb dX5_readDeed_58 (by decide) ?_
        exact J60 9 0 (x1 + 2) T _ _ _ hf hd (lv_sub hl [0, 1, 2] rfl)
      · have hf := bf_it hf c_44
        refine lv_aload_n hx hb dX5_readDeed_49 rfl (lv_at hl 0 rfl) ?_
        refine bf_tgi X hd 7 (by decide) rfl q1390 dX5_readDeed_50 ?_
        refine lv_iconst (v := 1) hx hb dX5_readDeed_53 (by decide) ?_
        refine lv_isub hx hb dX5_readDeed_54 ?_
        refine lv_goto (tgt := 60) hx hb dX5_readDeed_55 (by decide) ?_
        exact J60 ((T 7 0) - 1) 0 (x1 + 2) T _ _ _ hf hd (lv_sub hl [0, 1, 2] rfl)
    · have hf := bf_it hf c_43
      exact J12 T _ _ _ hf hd (lv_sub hl [0, 1, 2] rfl)
def fX5_readPlanLine_96 (x1 : Int32) (w96_2 : Int32) (t96_0 : Int32) (t96_1 : Int32) (T96 : bf_TS) : Option (Int32 × bf_TS) := bf_c (bf_in t96_1 128) <| bf_l (bf_u2 T96 39 (t96_1).toNatClampNeg t96_0) fun T_9 => bf_b2 (fX5_readDeed T_9 x1 w96_2) fun r_11 T_10 => if r_11 = (-1) then (some ((-1), T_10)) else (bf_b2 (fX5_readMark T_10 59) fun r_14 T_13 => some (r_14, T_13))
def fX5_readPlanLine_69 (x1 : Int32) (w69_2 : Int32) (T69 : bf_TS) : Option (Int32 × bf_TS) := bf_b (fX5_reads T69) fun T_6 => if w69_2 = 19 then (fX5_readPlanLine_96 x1 w69_2 0 (x1 + 1) T_6) else (fX5_readPlanLine_96 x1 w69_2 ((1 + w69_2) - 21) (x1 + 1) T_6)
def fX5_readPlanLine_44 (x1 : Int32) (t44_0 : Int32) (T44 : bf_TS) : Option (Int32 × bf_TS) := if t44_0 = 19 then (fX5_readPlanLine_69 x1 t44_0 T44) else (if (fX5_isIn t44_0 21 24) = 0 then (bf_b2 (fX5_errs T44 1) fun r_5 T_4 => some (r_5, T_4)) else (fX5_readPlanLine_69 x1 t44_0 T44))
def fX5_readPlanLine (T : bf_TS) (x1 : Int32) : Option (Int32 × bf_TS) := bf_b2 (fX5_readTold T 18 0 999) fun r_16 T_15 => bf_c (bf_in x1 128) <| bf_l (bf_u2 T_15 39 (x1).toNatClampNeg r_16) fun T_18 => bf_c (bf_in x1 128) <| if (T_18 39 (x1).toNatClampNeg) = (-1) then (some ((-1), T_18)) else (if (T_18 17 0) = 2 then (fX5_readPlanLine_44 x1 (T_18 18 0) T_18) else (fX5_readPlanLine_44 x1 (-1) T_18))
set_option maxHeartbeats 4000000 in
theorem mX5_readPlanLine (l : Launch) (G : bf_G) (σ : bf_V) (o : Nat) (T : bf_TS) (x1 : Int32) {r : Int32} {T' : bf_TS} (hf : fX5_readPlanLine T x1 = some (r, T')) : bf_MI l G yX5_readPlanLine cX5_readPlanLine 3 (bf_rm 6) [.ref o, .int x1] (bf_pT G σ o T) (fun v σ' => v = r ∧ σ' = bf_pT G σ o T') := by
  refine bf_MI.of rfl (Nat.le_of_ble_eq_true rfl) ?_
  intro p e s m below meth c Q X hlk hnm kret hd ls hl
  have hx := X.1
  have hb := X.2.1
  have hown := X.2.2.2.1
  have hts := X.2.2.2.2
  have hl : lv_has ls 3 [(0, .ref o), (1, .int x1)] := hl
  have J96 : ∀ (w96_2 : Int32) (t96_0 : Int32) (t96_1 : Int32) (T96 : bf_TS) (H : Heap) (locs : List Loc) (ls : Array Slot), fX5_readPlanLine_96 x1 w96_2 t96_0 t96_1 T96 = some (r, T') → bf_Dy G s H locs (bf_pT G σ o T96) → lv_has ls 3 [(0, .ref o), (1, .int x1), (2, .int w96_2)] → W p l e (bf_rm 6) s m ([.ref o, .int x1] : List Value).toArray below meth c H locs 0 0 Q (F0 m 96 ls [.int t96_0, .int t96_1, .ref (o + bf_to 39)]) := by
    intro w96_2 t96_0 t96_1 T96 H locs ls hf hd hl
    unfold fX5_readPlanLine_96 at hf
    obtain ⟨g_22, hf⟩ := bf_c_some hf
    refine bf_tst X hd 39 (by decide) g_22 dX5_readPlanLine_96 (fun H locs hd => ?_)
    obtain ⟨T_23, eT_23, hf⟩ := bf_l_e hf
    have hd := hd.of (congrArg (bf_pT G σ o) eT_23.symm)
    refine lv_aload_n hx hb dX5_readPlanLine_97 rfl (lv_at hl 0 rfl) ?_
    refine lv_iload_n hx hb dX5_readPlanLine_98 rfl (lv_at hl 1 rfl) ?_
    refine lv_iload_n hx hb dX5_readPlanLine_99 rfl (lv_at hl 2 rfl) ?_
    obtain ⟨r_25, T_24, er_25, hf⟩ := bf_b2_some hf
    refine bf_tci (n := 2) (As := [.int x1, .int w96_2]) (rest := []) X hd (mX5_readDeed l G σ o T_23 x1 w96_2 er_25) (lw_V q1688 q1690 qs81 q156 q1691) (by decide +kernel) ⟨Nat.le_of_ble_eq_true rfl, Nat.le_of_ble_eq_true rfl⟩ rfl hl.1 rfl (Nat.le_of_ble_eq_true rfl) dX5_readPlanLine_100 ⟨Nat.le_of_ble_eq_true rfl, Nat.le_of_ble_eq_true rfl⟩ (fun H locs hd => ?_)
    refine lv_iconst (v := (-1)) hx hb dX5_readPlanLine_103 (by decide) ?_
    refine lv_icmp_ne (tgt := 111) hx hb dX5_readPlanLine_104 (by decide) (fun c_26 => ?_) (fun c_26 => ?_)
    · have hf := bf_ie hf c_26
      refine lv_aload_n hx hb dX5_readPlanLine_111 rfl (lv_at hl 0 rfl) ?_
      refine lv_bipush (v := 59) hx hb dX5_readPlanLine_112 (by decide) ?_
      obtain ⟨r_28, T_27, er_28, hf⟩ := bf_b2_some hf
      refine bf_tci (n := 1) (As := [.int 59]) (rest := []) X hd (mX5_readMark l G σ o T_24 59 er_28) (lw_V q1672 q1674 qs77 q156 q1675) (by decide +kernel) ⟨Nat.le_of_ble_eq_true rfl, Nat.le_of_ble_eq_true rfl⟩ rfl hl.1 rfl (Nat.le_of_ble_eq_true rfl) dX5_readPlanLine_114 ⟨Nat.le_of_ble_eq_true rfl, Nat.le_of_ble_eq_true rfl⟩ (fun H locs hd => ?_)
      exact kret _ _ _ _ _ _ ⟨(bf_pr hf).1, congrArg (bf_pT G σ o) (bf_pr hf).2⟩ hd dX5_readPlanLine_117
    · have hf := bf_it hf c_26
      refine lv_iconst (v := (-1)) hx hb dX5_readPlanLine_107 (by decide) ?_
      refine lv_goto (tgt := 117) hx hb dX5_readPlanLine_108 (by decide) ?_
      exact kret _ _ _ _ _ _ ⟨(bf_pr hf).1, congrArg (bf_pT G σ o) (bf_pr hf).2⟩ hd dX5_readPlanLine_117
  have J69 : ∀ (w69_2 : Int32) (T69 : bf_TS) (H : Heap) (locs : List Loc) (ls : Array Slot), fX5_readPlanLine_69 x1 w69_2 T69 = some (r, T') → bf_Dy G s H locs (bf_pT G σ o T69) → lv_has ls 3 [(0, .ref o), (1, .int x1), (2, .int w69_2)] → W p l e (bf_rm 6) s m ([.ref o, .int x1] : List Value).toArray below meth c H locs 0 0 Q (F0 m 69 ls []) := by
    intro w69_2 T69 H locs ls hf hd hl
    unfold fX5_readPlanLine_69 at hf
    refine lv_aload_n hx hb dX5_readPlanLine_69 rfl (lv_at hl 0 rfl) ?_
    obtain ⟨T_29, eT_29, hf⟩ := bf_b_some hf
    refine bf_tcv (n := 0) (As := []) (rest := []) X hd (mX5_reads l G σ o T69 eT_29) (lw_V q1624 q1626 qs65 q156 q1627) (by decide +kernel) ⟨Nat.le_of_ble_eq_true rfl, Nat.le_of_ble_eq_true rfl⟩ rfl hl.1 rfl (Nat.le_of_ble_eq_true rfl) dX5_readPlanLine_70 ⟨Nat.le_of_ble_eq_true rfl, Nat.le_of_ble_eq_true rfl⟩ (fun H locs hd => ?_)
    refine lv_aload_n hx hb dX5_readPlanLine_73 rfl (lv_at hl 0 rfl) ?_
    refine bf_tga X hd 39 (by decide) (by decide) q1422 dX5_readPlanLine_74 ?_
    refine lv_iload_n hx hb dX5_readPlanLine_77 rfl (lv_at hl 1 rfl) ?_
    refine lv_iconst (v := 1) hx hb dX5_readPlanLine_78 (by decide) ?_
    refine lv_iadd hx hb dX5_readPlanLine_79 ?_
    refine lv_iload_n hx hb dX5_readPlanLine_80 rfl (lv_at hl 2 rfl) ?_
    refine lv_bipush (v := 19) hx hb dX5_readPlanLine_81 (by decide) ?_
    refine lv_icmp_ne (tgt := 90) hx hb dX5_readPlanLine_83 (by decide) (fun c_30 => ?_) (fun c_30 => ?_)
    · have hf := bf_ie hf c_30
      refine lv_iconst (v := 1) hx hb dX5_readPlanLine_90 (by decide) ?_
      refine lv_iload_n hx hb dX5_readPlanLine_91 rfl (lv_at hl 2 rfl) ?_
      refine lv_iadd hx hb dX5_readPlanLine_92 ?_
      refine lv_bipush (v := 21) hx hb dX5_readPlanLine_93 (by decide) ?_
      refine lv_isub hx hb dX5_readPlanLine_95 ?_
      exact J96 w69_2 ((1 + w69_2) - 21) (x1 + 1) T_29 _ _ _ hf hd (lv_sub hl [0, 1, 2] rfl)
    · have hf := bf_it hf c_30
      refine lv_iconst (v := 0) hx hb dX5_readPlanLine_86 (by decide) ?_
      refine lv_goto (tgt := 96) hx hb dX5_readPlanLine_87 (by decide) ?_
      exact J96 w69_2 0 (x1 + 1) T_29 _ _ _ hf hd (lv_sub hl [0, 1, 2] rfl)
  have J44 : ∀ (t44_0 : Int32) (T44 : bf_TS) (H : Heap) (locs : List Loc) (ls : Array Slot), fX5_readPlanLine_44 x1 t44_0 T44 = some (r, T') → bf_Dy G s H locs (bf_pT G σ o T44) → lv_has ls 3 [(0, .ref o), (1, .int x1)] → W p l e (bf_rm 6) s m ([.ref o, .int x1] : List Value).toArray below meth c H locs 0 0 Q (F0 m 44 ls [.int t44_0]) := by
    intro t44_0 T44 H locs ls hf hd hl
    unfold fX5_readPlanLine_44 at hf
    refine lv_istore_n (lv' := [(2, .int t44_0), (0, .ref o), (1, .int x1)]) hx hb dX5_readPlanLine_44 rfl hl (by decide) rfl (fun ls hl => ?_)
    refine lv_iload_n hx hb dX5_readPlanLine_45 rfl (lv_at hl 0 rfl) ?_
    refine lv_bipush (v := 19) hx hb dX5_readPlanLine_46 (by decide) ?_
    refine lv_icmp_eq (tgt := 69) hx hb dX5_readPlanLine_48 (by decide) (fun c_31 => ?_) (fun c_31 => ?_)
    · have hf := bf_it hf c_31
      exact J69 t44_0 T44 _ _ _ hf hd (lv_sub hl [1, 2, 0] rfl)
    · have hf := bf_ie hf c_31
      refine lv_aload_n hx hb dX5_readPlanLine_51 rfl (lv_at hl 1 rfl) ?_
      refine lv_iload_n hx hb dX5_readPlanLine_52 rfl (lv_at hl 0 rfl) ?_
      refine lv_bipush (v := 21) hx hb dX5_readPlanLine_53 (by decide) ?_
      refine lv_bipush (v := 24) hx hb dX5_readPlanLine_55 (by decide) ?_
      refine bf_tcz (n := 3) (As := [.int t44_0, .int 21, .int 24]) (rest := []) X hd (mX5_isIn l G σ o T44 t44_0 21 24 rfl) (lw_V q1564 q1566 qs56 q156 q1567) (by decide +kernel) ⟨Nat.le_of_ble_eq_true rfl, Nat.le_of_ble_eq_true rfl⟩ rfl hl.1 rfl (Nat.le_of_ble_eq_true rfl) dX5_readPlanLine_57 ⟨Nat.le_of_ble_eq_true rfl, Nat.le_of_ble_eq_true rfl⟩ (fun H locs z_32 hd => ?_)
      refine lv_if_ne (tgt := 69) hx hb dX5_readPlanLine_60 (by decide) (fun c_33 => ?_) (fun c_33 => ?_)
      · have hf := bf_ie hf c_33
        exact J69 t44_0 T44 _ _ _ hf hd (lv_sub hl [1, 2, 0] rfl)
      · have hf := bf_it hf c_33
        refine lv_aload_n hx hb dX5_readPlanLine_63 rfl (lv_at hl 1 rfl) ?_
        refine lv_iconst (v := 1) hx hb dX5_readPlanLine_64 (by decide) ?_
        obtain ⟨r_35, T_34, er_35, hf⟩ := bf_b2_some hf
        refine bf_tci (n := 1) (As := [.int 1]) (rest := []) X hd (mX5_errs l G σ o T44 1 er_35) (lw_V q1656 q1658 qs73 q156 q1659) (by decide +kernel) ⟨Nat.le_of_ble_eq_true rfl, Nat.le_of_ble_eq_true rfl⟩ rfl hl.1 rfl (Nat.le_of_ble_eq_true rfl) dX5_readPlanLine_65 ⟨Nat.le_of_ble_eq_true rfl, Nat.le_of_ble_eq_true rfl⟩ (fun H locs hd => ?_)
        exact kret _ _ _ _ _ _ ⟨(bf_pr hf).1, congrArg (bf_pT G σ o) (bf_pr hf).2⟩ hd dX5_readPlanLine_68
  unfold fX5_readPlanLine at hf
  refine lv_aload_n hx hb dX5_readPlanLine_0 rfl (lv_at hl 0 rfl) ?_
  refine bf_tga X hd 39 (by decide) (by decide) q1422 dX5_readPlanLine_1 ?_
  refine lv_iload_n hx hb dX5_readPlanLine_4 rfl (lv_at hl 1 rfl) ?_
  refine lv_aload_n hx hb dX5_readPlanLine_5 rfl (lv_at hl 0 rfl) ?_
  refine lv_bipush (v := 18) hx hb dX5_readPlanLine_6 (by decide) ?_
  refine lv_iconst (v := 0) hx hb dX5_readPlanLine_8 (by decide) ?_
  refine lv_sipush (v := 999) hx hb dX5_readPlanLine_9 (by decide) ?_
  obtain ⟨r_37, T_36, er_37, hf⟩ := bf_b2_some hf
  refine bf_tci (n := 3) (As := [.int 18, .int 0, .int 999]) (rest := [.int x1, .ref (o + bf_to 39)]) X hd (mX5_readTold l G σ o T 18 0 999 er_37) (lw_V q1664 q1666 qs75 q156 q1667) (by decide +kernel) ⟨Nat.le_of_ble_eq_true rfl, Nat.le_of_ble_eq_true rfl⟩ rfl hl.1 rfl (Nat.le_of_ble_eq_true rfl) dX5_readPlanLine_12 ⟨Nat.le_of_ble_eq_true rfl, Nat.le_of_ble_eq_true rfl⟩ (fun H locs hd => ?_)
  obtain ⟨g_38, hf⟩ := bf_c_some hf
  refine bf_tst X hd 39 (by decide) g_38 dX5_readPlanLine_15 (fun H locs hd => ?_)
  obtain ⟨T_39, eT_39, hf⟩ := bf_l_e hf
  have hd := hd.of (congrArg (bf_pT G σ o) eT_39.symm)
  refine lv_aload_n hx hb dX5_readPlanLine_16 rfl (lv_at hl 0 rfl) ?_
  refine bf_tga X hd 39 (by decide) (by decide) q1422 dX5_readPlanLine_17 ?_
  refine lv_iload_n hx hb dX5_readPlanLine_20 rfl (lv_at hl 1 rfl) ?_
  obtain ⟨g_40, hf⟩ := bf_c_some hf
  refine bf_tld X hd 39 (by decide) g_40 dX5_readPlanLine_21 ?_
  refine lv_iconst (v := (-1)) hx hb dX5_readPlanLine_22 (by decide) ?_
  refine lv_icmp_ne (tgt := 28) hx hb dX5_readPlanLine_23 (by decide) (fun c_41 => ?_) (fun c_41 => ?_)
  · have hf := bf_ie hf c_41
    refine lv_aload_n hx hb dX5_readPlanLine_28 rfl (lv_at hl 0 rfl) ?_
    refine bf_tgi X hd 17 (by decide) rfl q1400 dX5_readPlanLine_29 ?_
    refine lv_iconst (v := 2) hx hb dX5_readPlanLine_32 (by decide) ?_
    refine lv_icmp_ne (tgt := 43) hx hb dX5_readPlanLine_33 (by decide) (fun c_42 => ?_) (fun c_42 => ?_)
    · have hf := bf_ie hf c_42
      refine lv_iconst (v := (-1)) hx hb dX5_readPlanLine_43 (by decide) ?_
      exact J44 (-1) T_39 _ _ _ hf hd (lv_sub hl [0, 1] rfl)
    · have hf := bf_it hf c_42
      refine lv_aload_n hx hb dX5_readPlanLine_36 rfl (lv_at hl 0 rfl) ?_
      refine bf_tgi X hd 18 (by decide) rfl q1401 dX5_readPlanLine_37 ?_
      refine lv_goto (tgt := 44) hx hb dX5_readPlanLine_40 (by decide) ?_
      exact J44 (T_39 18 0) T_39 _ _ _ hf hd (lv_sub hl [0, 1] rfl)
  · have hf := bf_it hf c_41
    refine lv_iconst (v := (-1)) hx hb dX5_readPlanLine_26 (by decide) ?_
    exact kret _ _ _ _ _ _ ⟨(bf_pr hf).1, congrArg (bf_pT G σ o) (bf_pr hf).2⟩ hd dX5_readPlanLine_27
def fX5_readPlan_46 (w46_1 : Int32) (T46 : bf_TS) : Option (Int32 × bf_TS) := if (T46 17 0) = 0 then (some (w46_1, T46)) else (bf_b2 (fX5_errs T46 1) fun r_12 T_11 => some (r_12, T_11))
def fX5_readPlan_17 (T17 : bf_TS) : Option (Int32 × bf_TS) := bf_b2 (fX5_errs T17 3) fun r_9 T_8 => some (r_9, T_8)
def fX5_readPlan_2b (k2 : Int32 → bf_TS → Option (Int32 × bf_TS)) (v2_1 : Int32) (T2 : bf_TS) : Option (Int32 × bf_TS) := if (fX5_isWord T2 18) = 0 then (fX5_readPlan_46 v2_1 T2) else (if v2_1 = 16 then (fX5_readPlan_17 T2) else (bf_b2 (fX5_readPlanLine T2 (64 + (4 * v2_1))) fun r_5 T_4 => if r_5 = (-1) then (some ((-1), T_4)) else (bf_l ((v2_1 + 1)) fun x1_7 => k2 x1_7 T_4)))
def fX5_readPlan_2  : Nat → Int32 → bf_TS → Option (Int32 × bf_TS)
  | 0, _, _ => none
  | n + 1, v2_1, T2 => fX5_readPlan_2b (fX5_readPlan_2 n) v2_1 T2
def fX5_readPlan (T : bf_TS) : Option (Int32 × bf_TS) := fX5_readPlan_2 bf_fuel 0 T
set_option maxHeartbeats 4000000 in
theorem mX5_readPlan (l : Launch) (G : bf_G) (σ : bf_V) (o : Nat) (T : bf_TS) {r : Int32} {T' : bf_TS} (hf : fX5_readPlan T = some (r, T')) : bf_MI l G yX5_readPlan cX5_readPlan 2 (bf_rm 7) [.ref o] (bf_pT G σ o T) (fun v σ' => v = r ∧ σ' = bf_pT G σ o T') := by
  refine bf_MI.of rfl (Nat.le_of_ble_eq_true rfl) ?_
  intro p e s m below meth c Q X hlk hnm kret hd ls hl
  have hx := X.1
  have hb := X.2.1
  have hown := X.2.2.2.1
  have hts := X.2.2.2.2
  have hl : lv_has ls 2 [(0, .ref o)] := hl
  have J46 : ∀ (w46_1 : Int32) (T46 : bf_TS) (H : Heap) (locs : List Loc) (ls : Array Slot), fX5_readPlan_46 w46_1 T46 = some (r, T') → bf_Dy G s H locs (bf_pT G σ o T46) → lv_has ls 2 [(0, .ref o), (1, .int w46_1)] → W p l e (bf_rm 7) s m ([.ref o] : List Value).toArray below meth c H locs 0 0 Q (F0 m 46 ls []) := by
    intro w46_1 T46 H locs ls hf hd hl
    unfold fX5_readPlan_46 at hf
    refine lv_aload_n hx hb dX5_readPlan_46 rfl (lv_at hl 0 rfl) ?_
    refine bf_tgi X hd 17 (by decide) rfl q1400 dX5_readPlan_47 ?_
    refine lv_if_ne (tgt := 57) hx hb dX5_readPlan_50 (by decide) (fun c_13 => ?_) (fun c_13 => ?_)
    · have hf := bf_ie hf c_13
      refine lv_aload_n hx hb dX5_readPlan_57 rfl (lv_at hl 0 rfl) ?_
      refine lv_iconst (v := 1) hx hb dX5_readPlan_58 (by decide) ?_
      obtain ⟨r_15, T_14, er_15, hf⟩ := bf_b2_some hf
      refine bf_tci (n := 1) (As := [.int 1]) (rest := []) X hd (mX5_errs l G σ o T46 1 er_15) (lw_V q1656 q1658 qs73 q156 q1659) (by decide +kernel) ⟨Nat.le_of_ble_eq_true rfl, Nat.le_of_ble_eq_true rfl⟩ rfl hl.1 rfl (Nat.le_of_ble_eq_true rfl) dX5_readPlan_59 ⟨Nat.le_of_ble_eq_true rfl, Nat.le_of_ble_eq_true rfl⟩ (fun H locs hd => ?_)
      exact kret _ _ _ _ _ _ ⟨(bf_pr hf).1, congrArg (bf_pT G σ o) (bf_pr hf).2⟩ hd dX5_readPlan_62
    · have hf := bf_it hf c_13
      refine lv_iload_n hx hb dX5_readPlan_53 rfl (lv_at hl 1 rfl) ?_
      refine lv_goto (tgt := 62) hx hb dX5_readPlan_54 (by decide) ?_
      exact kret _ _ _ _ _ _ ⟨(bf_pr hf).1, congrArg (bf_pT G σ o) (bf_pr hf).2⟩ hd dX5_readPlan_62
  have J17 : ∀ (T17 : bf_TS) (H : Heap) (locs : List Loc) (ls : Array Slot), fX5_readPlan_17 T17 = some (r, T') → bf_Dy G s H locs (bf_pT G σ o T17) → lv_has ls 2 [(0, .ref o)] → W p l e (bf_rm 7) s m ([.ref o] : List Value).toArray below meth c H locs 0 0 Q (F0 m 17 ls []) := by
    intro T17 H locs ls hf hd hl
    unfold fX5_readPlan_17 at hf
    refine lv_aload_n hx hb dX5_readPlan_17 rfl (lv_at hl 0 rfl) ?_
    refine lv_iconst (v := 3) hx hb dX5_readPlan_18 (by decide) ?_
    obtain ⟨r_17, T_16, er_17, hf⟩ := bf_b2_some hf
    refine bf_tci (n := 1) (As := [.int 3]) (rest := []) X hd (mX5_errs l G σ o T17 3 er_17) (lw_V q1656 q1658 qs73 q156 q1659) (by decide +kernel) ⟨Nat.le_of_ble_eq_true rfl, Nat.le_of_ble_eq_true rfl⟩ rfl hl.1 rfl (Nat.le_of_ble_eq_true rfl) dX5_readPlan_19 ⟨Nat.le_of_ble_eq_true rfl, Nat.le_of_ble_eq_true rfl⟩ (fun H locs hd => ?_)
    exact kret _ _ _ _ _ _ ⟨(bf_pr hf).1, congrArg (bf_pT G σ o) (bf_pr hf).2⟩ hd dX5_readPlan_22
  have L2 : ∀ (n2 : Nat) (v2_1 : Int32) (T2 : bf_TS) (H : Heap) (locs : List Loc) (ls : Array Slot), fX5_readPlan_2 n2 v2_1 T2 = some (r, T') → bf_Dy G s H locs (bf_pT G σ o T2) → lv_has ls 2 [(0, .ref o), (1, .int v2_1)] → W p l e (bf_rm 7) s m ([.ref o] : List Value).toArray below meth c H locs 0 0 Q (F0 m 2 ls []) := by
    intro n2
    induction n2 with
    | zero =>
      intro v2_1 T2 H locs ls hf hd hl
      exact absurd (show (none : Option (Int32 × bf_TS)) = some (r, T') from hf) (by intro h; cases h)
    | succ n2 ih2 =>
      intro v2_1 T2 H locs ls hf hd hl
      have hf : fX5_readPlan_2b (fX5_readPlan_2 n2) v2_1 T2 = some (r, T') := hf
      unfold fX5_readPlan_2b at hf
      refine lv_aload_n hx hb dX5_readPlan_2 rfl (lv_at hl 0 rfl) ?_
      refine lv_bipush (v := 18) hx hb dX5_readPlan_3 (by decide) ?_
      refine bf_tcz (n := 1) (As := [.int 18]) (rest := []) X hd (mX5_isWord l G σ o T2 18 rfl) (lw_V q1652 q1654 qs72 q156 q1655) (by decide +kernel) ⟨Nat.le_of_ble_eq_true rfl, Nat.le_of_ble_eq_true rfl⟩ rfl hl.1 rfl (Nat.le_of_ble_eq_true rfl) dX5_readPlan_5 ⟨Nat.le_of_ble_eq_true rfl, Nat.le_of_ble_eq_true rfl⟩ (fun H locs z_18 hd => ?_)
      refine lv_if_eq (tgt := 46) hx hb dX5_readPlan_8 (by decide) (fun c_19 => ?_) (fun c_19 => ?_)
      · have hf := bf_it hf c_19
        exact J46 v2_1 T2 _ _ _ hf hd (lv_sub hl [0, 1] rfl)
      · have hf := bf_ie hf c_19
        refine lv_iload_n hx hb dX5_readPlan_11 rfl (lv_at hl 1 rfl) ?_
        refine lv_bipush (v := 16) hx hb dX5_readPlan_12 (by decide) ?_
        refine lv_icmp_ne (tgt := 23) hx hb dX5_readPlan_14 (by decide) (fun c_20 => ?_) (fun c_20 => ?_)
        · have hf := bf_ie hf c_20
          refine lv_aload_n hx hb dX5_readPlan_23 rfl (lv_at hl 0 rfl) ?_
          refine lv_bipush (v := 64) hx hb dX5_readPlan_24 (by decide) ?_
          refine lv_iconst (v := 4) hx hb dX5_readPlan_26 (by decide) ?_
          refine lv_iload_n hx hb dX5_readPlan_27 rfl (lv_at hl 1 rfl) ?_
          refine lv_imul hx hb dX5_readPlan_28 ?_
          refine lv_iadd hx hb dX5_readPlan_29 ?_
          obtain ⟨r_22, T_21, er_22, hf⟩ := bf_b2_some hf
          refine bf_tci (n := 1) (As := [.int (64 + (4 * v2_1))]) (rest := []) X hd (mX5_readPlanLine l G σ o T2 (64 + (4 * v2_1)) er_22) (lw_V q1684 q1686 qs80 q156 q1687) (by decide +kernel) ⟨Nat.le_of_ble_eq_true rfl, Nat.le_of_ble_eq_true rfl⟩ rfl hl.1 rfl (Nat.le_of_ble_eq_true rfl) dX5_readPlan_30 ⟨Nat.le_of_ble_eq_true rfl, Nat.le_of_ble_eq_true rfl⟩ (fun H locs hd => ?_)
          refine lv_iconst (v := (-1)) hx hb dX5_readPlan_33 (by decide) ?_
          refine lv_icmp_ne (tgt := 39) hx hb dX5_readPlan_34 (by decide) (fun c_23 => ?_) (fun c_23 => ?_)
          · have hf := bf_ie hf c_23
            refine lv_iload_n hx hb dX5_readPlan_39 rfl (lv_at hl 1 rfl) ?_
            refine lv_iconst (v := 1) hx hb dX5_readPlan_40 (by decide) ?_
            refine lv_iadd hx hb dX5_readPlan_41 ?_
            obtain ⟨x1_24, ex1_24, hf⟩ := bf_l_e hf
            refine bf_top ex1_24 ?_
            refine lv_istore_n (lv' := [(1, .int x1_24), (0, .ref o)]) hx hb dX5_readPlan_42 rfl hl (by decide) rfl (fun ls hl => ?_)
            refine lv_goto (tgt := 2) hx hb dX5_readPlan_43 (by decide) ?_
            exact ih2 x1_24 T_21 _ _ _ hf hd (lv_sub hl [1, 0] rfl)
          · have hf := bf_it hf c_23
            refine lv_iconst (v := (-1)) hx hb dX5_readPlan_37 (by decide) ?_
            exact kret _ _ _ _ _ _ ⟨(bf_pr hf).1, congrArg (bf_pT G σ o) (bf_pr hf).2⟩ hd dX5_readPlan_38
        · have hf := bf_it hf c_20
          exact J17 T2 _ _ _ hf hd (lv_sub hl [0] rfl)
  unfold fX5_readPlan at hf
  refine lv_iconst (v := 0) hx hb dX5_readPlan_0 (by decide) ?_
  refine lv_istore_n (lv' := [(1, .int 0), (0, .ref o)]) hx hb dX5_readPlan_1 rfl hl (by decide) rfl (fun ls hl => ?_)
  exact L2 bf_fuel 0 T _ _ _ hf hd (lv_sub hl [1, 0] rfl)
def fX5_readsText (T : bf_TS) (x1 : Int32) : Option (Int32 × bf_TS) := bf_l (bf_u2 T 27 0 0) fun T_1 => bf_b (fX5_reads T_1) fun T_2 => if x1 = 1 then (bf_b2 (fX5_readPaths T_2) fun r_10 T_9 => some (r_10, T_9)) else (if x1 = 2 then (bf_b2 (fX5_readPlan T_2) fun r_8 T_7 => some (r_8, T_7)) else (bf_b2 (fX5_readLaw T_2) fun r_6 T_5 => some (r_6, T_5)))
set_option maxHeartbeats 4000000 in
theorem mX5_readsText (l : Launch) (G : bf_G) (σ : bf_V) (o : Nat) (T : bf_TS) (x1 : Int32) {r : Int32} {T' : bf_TS} (hf : fX5_readsText T x1 = some (r, T')) : bf_MI l G yX5_readsText cX5_readsText 2 (bf_rm 9) [.ref o, .int x1] (bf_pT G σ o T) (fun v σ' => v = r ∧ σ' = bf_pT G σ o T') := by
  refine bf_MI.of rfl (Nat.le_of_ble_eq_true rfl) ?_
  intro p e s m below meth c Q X hlk hnm kret hd ls hl
  have hx := X.1
  have hb := X.2.1
  have hown := X.2.2.2.1
  have hts := X.2.2.2.2
  have hl : lv_has ls 2 [(0, .ref o), (1, .int x1)] := hl
  unfold fX5_readsText at hf
  refine lv_aload_n hx hb dX5_readsText_0 rfl (lv_at hl 0 rfl) ?_
  refine lv_iconst (v := 0) hx hb dX5_readsText_1 (by decide) ?_
  refine bf_tpi X hd 27 (by decide) ⟨rfl, rfl, rfl⟩ q1410 dX5_readsText_2 (fun H locs hd => ?_)
  obtain ⟨T_11, eT_11, hf⟩ := bf_l_e hf
  have hd := hd.of (congrArg (bf_pT G σ o) eT_11.symm)
  refine lv_aload_n hx hb dX5_readsText_5 rfl (lv_at hl 0 rfl) ?_
  obtain ⟨T_12, eT_12, hf⟩ := bf_b_some hf
  refine bf_tcv (n := 0) (As := []) (rest := []) X hd (mX5_reads l G σ o T_11 eT_12) (lw_V q1624 q1626 qs65 q156 q1627) (by decide +kernel) ⟨Nat.le_of_ble_eq_true rfl, Nat.le_of_ble_eq_true rfl⟩ rfl hl.1 rfl (Nat.le_of_ble_eq_true rfl) dX5_readsText_6 ⟨Nat.le_of_ble_eq_true rfl, Nat.le_of_ble_eq_true rfl⟩ (fun H locs hd => ?_)
  refine lv_iload_n hx hb dX5_readsText_9 rfl (lv_at hl 1 rfl) ?_
  refine lv_iconst (v := 1) hx hb dX5_readsText_10 (by decide) ?_
  refine lv_icmp_ne (tgt := 19) hx hb dX5_readsText_11 (by decide) (fun c_13 => ?_) (fun c_13 => ?_)
  · have hf := bf_ie hf c_13
    refine lv_iload_n hx hb dX5_readsText_19 rfl (lv_at hl 1 rfl) ?_
    refine lv_iconst (v := 2) hx hb dX5_readsText_20 (by decide) ?_
    refine lv_icmp_ne (tgt := 31) hx hb dX5_readsText_21 (by decide) (fun c_14 => ?_) (fun c_14 => ?_)
    · have hf := bf_ie hf c_14
      refine lv_aload_n hx hb dX5_readsText_31 rfl (lv_at hl 0 rfl) ?_
      obtain ⟨r_16, T_15, er_16, hf⟩ := bf_b2_some hf
      refine bf_tci (n := 0) (As := []) (rest := []) X hd (mX5_readLaw l G σ o T_12 er_16) (lw_V q1692 q1694 qs82 q156 q1695) (by decide +kernel) ⟨Nat.le_of_ble_eq_true rfl, Nat.le_of_ble_eq_true rfl⟩ rfl hl.1 rfl (Nat.le_of_ble_eq_true rfl) dX5_readsText_32 ⟨Nat.le_of_ble_eq_true rfl, Nat.le_of_ble_eq_true rfl⟩ (fun H locs hd => ?_)
      exact kret _ _ _ _ _ _ ⟨(bf_pr hf).1, congrArg (bf_pT G σ o) (bf_pr hf).2⟩ hd dX5_readsText_35
    · have hf := bf_it hf c_14
      refine lv_aload_n hx hb dX5_readsText_24 rfl (lv_at hl 0 rfl) ?_
      obtain ⟨r_18, T_17, er_18, hf⟩ := bf_b2_some hf
      refine bf_tci (n := 0) (As := []) (rest := []) X hd (mX5_readPlan l G σ o T_12 er_18) (lw_V q1680 q1682 qs79 q156 q1683) (by decide +kernel) ⟨Nat.le_of_ble_eq_true rfl, Nat.le_of_ble_eq_true rfl⟩ rfl hl.1 rfl (Nat.le_of_ble_eq_true rfl) dX5_readsText_25 ⟨Nat.le_of_ble_eq_true rfl, Nat.le_of_ble_eq_true rfl⟩ (fun H locs hd => ?_)
      refine lv_goto (tgt := 35) hx hb dX5_readsText_28 (by decide) ?_
      exact kret _ _ _ _ _ _ ⟨(bf_pr hf).1, congrArg (bf_pT G σ o) (bf_pr hf).2⟩ hd dX5_readsText_35
  · have hf := bf_it hf c_13
    refine lv_aload_n hx hb dX5_readsText_14 rfl (lv_at hl 0 rfl) ?_
    obtain ⟨r_20, T_19, er_20, hf⟩ := bf_b2_some hf
    refine bf_tci (n := 0) (As := []) (rest := []) X hd (mX5_readPaths l G σ o T_12 er_20) (lw_V q1648 q1650 qs71 q156 q1651) (by decide +kernel) ⟨Nat.le_of_ble_eq_true rfl, Nat.le_of_ble_eq_true rfl⟩ rfl hl.1 rfl (Nat.le_of_ble_eq_true rfl) dX5_readsText_15 ⟨Nat.le_of_ble_eq_true rfl, Nat.le_of_ble_eq_true rfl⟩ (fun H locs hd => ?_)
    exact kret _ _ _ _ _ _ ⟨(bf_pr hf).1, congrArg (bf_pT G σ o) (bf_pr hf).2⟩ hd dX5_readsText_18
def fX5_takesOther_77 (T77 : bf_TS) : Option (bf_TS) := bf_l (bf_u2 T77 3 0 0) fun T_13 => some T_13
def fX5_takesOther_72 (x2 : Int32) (T72 : bf_TS) : Option (bf_TS) := bf_l (bf_u2 T72 38 0 x2) fun T_12 => fX5_takesOther_77 T_12
def fX5_takesOther_44b (x2 : Int32) (k44 : Int32 → bf_TS → Option (bf_TS)) (v44_3 : Int32) (T44 : bf_TS) : Option (bf_TS) := if (4 * x2) ≤ v44_3 then (fX5_takesOther_72 x2 T44) else (bf_c (bf_in (64 + v44_3) 128) <| bf_c (bf_in v44_3 128) <| bf_l (bf_u2 T44 39 (v44_3).toNatClampNeg (T44 39 (64 + v44_3).toNatClampNeg)) fun T_10 => bf_l (v44_3 + 1) fun x3_11 => k44 x3_11 T_10)
def fX5_takesOther_44 (x2 : Int32) : Nat → Int32 → bf_TS → Option (bf_TS)
  | 0, _, _ => none
  | n + 1, v44_3, T44 => fX5_takesOther_44b x2 (fX5_takesOther_44 x2 n) v44_3 T44
def fX5_takesOther_34 (x2 : Int32) (T34 : bf_TS) : Option (bf_TS) := bf_l (bf_u2 T34 36 0 x2) fun T_6 => fX5_takesOther_77 T_6
def fX5_takesOther_7b (x2 : Int32) (k7 : Int32 → bf_TS → Option (bf_TS)) (v7_3 : Int32) (T7 : bf_TS) : Option (bf_TS) := if 90 ≤ v7_3 then (fX5_takesOther_34 x2 T7) else (bf_c (bf_in (90 + v7_3) 180) <| bf_c (bf_in v7_3 180) <| bf_l (bf_u2 T7 37 (v7_3).toNatClampNeg (T7 37 (90 + v7_3).toNatClampNeg)) fun T_4 => bf_l (v7_3 + 1) fun x3_5 => k7 x3_5 T_4)
def fX5_takesOther_7 (x2 : Int32) : Nat → Int32 → bf_TS → Option (bf_TS)
  | 0, _, _ => none
  | n + 1, v7_3, T7 => fX5_takesOther_7b x2 (fX5_takesOther_7 x2 n) v7_3 T7
def fX5_takesOther (T : bf_TS) (x1 x2 : Int32) : Option (bf_TS) := if x1 = 1 then (fX5_takesOther_7 x2 bf_fuel 0 T) else (fX5_takesOther_44 x2 bf_fuel 0 T)
set_option maxHeartbeats 4000000 in
theorem mX5_takesOther (l : Launch) (G : bf_G) (σ : bf_V) (o : Nat) (T : bf_TS) (x1 x2 : Int32) {T' : bf_TS} (hf : fX5_takesOther T x1 x2 = some T') : bf_MV l G yX5_takesOther cX5_takesOther 4 (bf_rm 0) [.ref o, .int x1, .int x2] (bf_pT G σ o T) (fun σ' => σ' = bf_pT G σ o T') := by
  refine bf_MV.of rfl (Nat.le_of_ble_eq_true rfl) ?_
  intro p e s m below meth c Q X hlk hnm kret hd ls hl
  have hx := X.1
  have hb := X.2.1
  have hown := X.2.2.2.1
  have hts := X.2.2.2.2
  have hl : lv_has ls 4 [(0, .ref o), (1, .int x1), (2, .int x2)] := hl
  have J77 : ∀ (T77 : bf_TS) (H : Heap) (locs : List Loc) (ls : Array Slot), fX5_takesOther_77 T77 = some T' → bf_Dy G s H locs (bf_pT G σ o T77) → lv_has ls 4 [(0, .ref o)] → W p l e (bf_rm 0) s m ([.ref o, .int x1, .int x2] : List Value).toArray below meth c H locs 0 0 Q (F0 m 77 ls []) := by
    intro T77 H locs ls hf hd hl
    unfold fX5_takesOther_77 at hf
    refine lv_aload_n hx hb dX5_takesOther_77 rfl (lv_at hl 0 rfl) ?_
    refine lv_iconst (v := 0) hx hb dX5_takesOther_78 (by decide) ?_
    refine bf_tpi X hd 3 (by decide) ⟨rfl, rfl, rfl⟩ q1386 dX5_takesOther_79 (fun H locs hd => ?_)
    obtain ⟨T_15, eT_15, hf⟩ := bf_l_e hf
    have hd := hd.of (congrArg (bf_pT G σ o) eT_15.symm)
    exact kret _ _ _ _ _ (congrArg (bf_pT G σ o) (bf_so hf)) hd dX5_takesOther_82
  have J72 : ∀ (T72 : bf_TS) (H : Heap) (locs : List Loc) (ls : Array Slot), fX5_takesOther_72 x2 T72 = some T' → bf_Dy G s H locs (bf_pT G σ o T72) → lv_has ls 4 [(0, .ref o), (2, .int x2)] → W p l e (bf_rm 0) s m ([.ref o, .int x1, .int x2] : List Value).toArray below meth c H locs 0 0 Q (F0 m 72 ls []) := by
    intro T72 H locs ls hf hd hl
    unfold fX5_takesOther_72 at hf
    refine lv_aload_n hx hb dX5_takesOther_72 rfl (lv_at hl 0 rfl) ?_
    refine lv_iload_n hx hb dX5_takesOther_73 rfl (lv_at hl 1 rfl) ?_
    refine bf_tpi X hd 38 (by decide) ⟨rfl, rfl, rfl⟩ q1421 dX5_takesOther_74 (fun H locs hd => ?_)
    obtain ⟨T_16, eT_16, hf⟩ := bf_l_e hf
    have hd := hd.of (congrArg (bf_pT G σ o) eT_16.symm)
    exact J77 T_16 _ _ _ hf hd (lv_sub hl [0] rfl)
  have L44 : ∀ (n44 : Nat) (v44_3 : Int32) (T44 : bf_TS) (H : Heap) (locs : List Loc) (ls : Array Slot), fX5_takesOther_44 x2 n44 v44_3 T44 = some T' → bf_Dy G s H locs (bf_pT G σ o T44) → lv_has ls 4 [(0, .ref o), (2, .int x2), (3, .int v44_3)] → W p l e (bf_rm 0) s m ([.ref o, .int x1, .int x2] : List Value).toArray below meth c H locs 0 0 Q (F0 m 44 ls []) := by
    intro n44
    induction n44 with
    | zero =>
      intro v44_3 T44 H locs ls hf hd hl
      exact absurd (show (none : Option (bf_TS)) = some T' from hf) (by intro h; cases h)
    | succ n44 ih44 =>
      intro v44_3 T44 H locs ls hf hd hl
      have hf : fX5_takesOther_44b x2 (fX5_takesOther_44 x2 n44) v44_3 T44 = some T' := hf
      unfold fX5_takesOther_44b at hf
      refine lv_iload_n hx hb dX5_takesOther_44 rfl (lv_at hl 2 rfl) ?_
      refine lv_iconst (v := 4) hx hb dX5_takesOther_45 (by decide) ?_
      refine lv_iload_n hx hb dX5_takesOther_46 rfl (lv_at hl 1 rfl) ?_
      refine lv_imul hx hb dX5_takesOther_47 ?_
      refine lv_icmp_ge (tgt := 72) hx hb dX5_takesOther_48 (by decide) (fun c_17 => ?_) (fun c_17 => ?_)
      · have hf := bf_it hf c_17
        exact J72 T44 _ _ _ hf hd (lv_sub hl [0, 1] rfl)
      · have hf := bf_ie hf c_17
        refine lv_aload_n hx hb dX5_takesOther_51 rfl (lv_at hl 0 rfl) ?_
        refine bf_tga X hd 39 (by decide) (by decide) q1422 dX5_takesOther_52 ?_
        refine lv_iload_n hx hb dX5_takesOther_55 rfl (lv_at hl 2 rfl) ?_
        refine lv_aload_n hx hb dX5_takesOther_56 rfl (lv_at hl 0 rfl) ?_
        refine bf_tga X hd 39 (by decide) (by decide) q1422 dX5_takesOther_57 ?_
        refine lv_bipush (v := 64) hx hb dX5_takesOther_60 (by decide) ?_
        refine lv_iload_n hx hb dX5_takesOther_62 rfl (lv_at hl 2 rfl) ?_
        refine lv_iadd hx hb dX5_takesOther_63 ?_
        obtain ⟨g_18, hf⟩ := bf_c_some hf
        refine bf_tld X hd 39 (by decide) g_18 dX5_takesOther_64 ?_
        obtain ⟨g_19, hf⟩ := bf_c_some hf
        refine bf_tst X hd 39 (by decide) g_19 dX5_takesOther_65 (fun H locs hd => ?_)
        obtain ⟨T_20, eT_20, hf⟩ := bf_l_e hf
        have hd := hd.of (congrArg (bf_pT G σ o) eT_20.symm)
        obtain ⟨x3_21, ex3_21, hf⟩ := bf_l_e hf
        refine lv_iinc (v := x3_21) (lv' := [(3, .int x3_21), (0, .ref o), (2, .int x2)]) hx hb dX5_takesOther_66 hl (k := 2) rfl (by rw [ex3_21]; rfl) (by decide) rfl (fun ls hl => ?_)
        refine lv_goto (tgt := 44) hx hb dX5_takesOther_69 (by decide) ?_
        exact ih44 x3_21 T_20 _ _ _ hf hd (lv_sub hl [1, 2, 0] rfl)
  have J34 : ∀ (T34 : bf_TS) (H : Heap) (locs : List Loc) (ls : Array Slot), fX5_takesOther_34 x2 T34 = some T' → bf_Dy G s H locs (bf_pT G σ o T34) → lv_has ls 4 [(0, .ref o), (2, .int x2)] → W p l e (bf_rm 0) s m ([.ref o, .int x1, .int x2] : List Value).toArray below meth c H locs 0 0 Q (F0 m 34 ls []) := by
    intro T34 H locs ls hf hd hl
    unfold fX5_takesOther_34 at hf
    refine lv_aload_n hx hb dX5_takesOther_34 rfl (lv_at hl 0 rfl) ?_
    refine lv_iload_n hx hb dX5_takesOther_35 rfl (lv_at hl 1 rfl) ?_
    refine bf_tpi X hd 36 (by decide) ⟨rfl, rfl, rfl⟩ q1419 dX5_takesOther_36 (fun H locs hd => ?_)
    obtain ⟨T_22, eT_22, hf⟩ := bf_l_e hf
    have hd := hd.of (congrArg (bf_pT G σ o) eT_22.symm)
    refine lv_goto (tgt := 77) hx hb dX5_takesOther_39 (by decide) ?_
    exact J77 T_22 _ _ _ hf hd (lv_sub hl [0] rfl)
  have L7 : ∀ (n7 : Nat) (v7_3 : Int32) (T7 : bf_TS) (H : Heap) (locs : List Loc) (ls : Array Slot), fX5_takesOther_7 x2 n7 v7_3 T7 = some T' → bf_Dy G s H locs (bf_pT G σ o T7) → lv_has ls 4 [(0, .ref o), (2, .int x2), (3, .int v7_3)] → W p l e (bf_rm 0) s m ([.ref o, .int x1, .int x2] : List Value).toArray below meth c H locs 0 0 Q (F0 m 7 ls []) := by
    intro n7
    induction n7 with
    | zero =>
      intro v7_3 T7 H locs ls hf hd hl
      exact absurd (show (none : Option (bf_TS)) = some T' from hf) (by intro h; cases h)
    | succ n7 ih7 =>
      intro v7_3 T7 H locs ls hf hd hl
      have hf : fX5_takesOther_7b x2 (fX5_takesOther_7 x2 n7) v7_3 T7 = some T' := hf
      unfold fX5_takesOther_7b at hf
      refine lv_iload_n hx hb dX5_takesOther_7 rfl (lv_at hl 2 rfl) ?_
      refine lv_bipush (v := 90) hx hb dX5_takesOther_8 (by decide) ?_
      refine lv_icmp_ge (tgt := 34) hx hb dX5_takesOther_10 (by decide) (fun c_23 => ?_) (fun c_23 => ?_)
      · have hf := bf_it hf c_23
        exact J34 T7 _ _ _ hf hd (lv_sub hl [0, 1] rfl)
      · have hf := bf_ie hf c_23
        refine lv_aload_n hx hb dX5_takesOther_13 rfl (lv_at hl 0 rfl) ?_
        refine bf_tga X hd 37 (by decide) (by decide) q1420 dX5_takesOther_14 ?_
        refine lv_iload_n hx hb dX5_takesOther_17 rfl (lv_at hl 2 rfl) ?_
        refine lv_aload_n hx hb dX5_takesOther_18 rfl (lv_at hl 0 rfl) ?_
        refine bf_tga X hd 37 (by decide) (by decide) q1420 dX5_takesOther_19 ?_
        refine lv_bipush (v := 90) hx hb dX5_takesOther_22 (by decide) ?_
        refine lv_iload_n hx hb dX5_takesOther_24 rfl (lv_at hl 2 rfl) ?_
        refine lv_iadd hx hb dX5_takesOther_25 ?_
        obtain ⟨g_24, hf⟩ := bf_c_some hf
        refine bf_tld X hd 37 (by decide) g_24 dX5_takesOther_26 ?_
        obtain ⟨g_25, hf⟩ := bf_c_some hf
        refine bf_tst X hd 37 (by decide) g_25 dX5_takesOther_27 (fun H locs hd => ?_)
        obtain ⟨T_26, eT_26, hf⟩ := bf_l_e hf
        have hd := hd.of (congrArg (bf_pT G σ o) eT_26.symm)
        obtain ⟨x3_27, ex3_27, hf⟩ := bf_l_e hf
        refine lv_iinc (v := x3_27) (lv' := [(3, .int x3_27), (0, .ref o), (2, .int x2)]) hx hb dX5_takesOther_28 hl (k := 2) rfl (by rw [ex3_27]; rfl) (by decide) rfl (fun ls hl => ?_)
        refine lv_goto (tgt := 7) hx hb dX5_takesOther_31 (by decide) ?_
        exact ih7 x3_27 T_26 _ _ _ hf hd (lv_sub hl [1, 2, 0] rfl)
  unfold fX5_takesOther at hf
  refine lv_iload_n hx hb dX5_takesOther_0 rfl (lv_at hl 1 rfl) ?_
  refine lv_iconst (v := 1) hx hb dX5_takesOther_1 (by decide) ?_
  refine lv_icmp_ne (tgt := 42) hx hb dX5_takesOther_2 (by decide) (fun c_28 => ?_) (fun c_28 => ?_)
  · have hf := bf_ie hf c_28
    refine lv_iconst (v := 0) hx hb dX5_takesOther_42 (by decide) ?_
    refine lv_istore_n (lv' := [(3, .int 0), (0, .ref o), (1, .int x1), (2, .int x2)]) hx hb dX5_takesOther_43 rfl hl (by decide) rfl (fun ls hl => ?_)
    exact L44 bf_fuel 0 T _ _ _ hf hd (lv_sub hl [1, 3, 0] rfl)
  · have hf := bf_it hf c_28
    refine lv_iconst (v := 0) hx hb dX5_takesOther_5 (by decide) ?_
    refine lv_istore_n (lv' := [(3, .int 0), (0, .ref o), (1, .int x1), (2, .int x2)]) hx hb dX5_takesOther_6 rfl hl (by decide) rfl (fun ls hl => ?_)
    exact L7 bf_fuel 0 T _ _ _ hf hd (lv_sub hl [1, 3, 0] rfl)
def fX5_text_69 (x1 : Int32) (w69_2 : Int32) (T69 : bf_TS) : Option (Int32 × bf_TS) := bf_l (bf_u2 T69 14 0 0) fun T_1 => if w69_2 = (-1) then (some ((-1), T_1)) else (if x1 = 0 then (bf_b (fX5_takesLaw T_1 w69_2) fun T_5 => some (w69_2, T_5)) else (bf_b (fX5_takesOther T_1 x1 w69_2) fun T_4 => some (w69_2, T_4)))
def fX5_text (T : bf_TS) (x1 : Int32) : Option (Int32 × bf_TS) := bf_l (bf_u2 T 0 0 0) fun T_6 => bf_l (bf_u2 T_6 34 0 0) fun T_7 => bf_l (bf_u2 T_7 35 0 (-1)) fun T_8 => bf_l (bf_u2 T_8 15 0 0) fun T_9 => bf_l (bf_u2 T_9 28 0 0) fun T_10 => bf_l (bf_u2 T_10 29 0 0) fun T_11 => if (fX5_isIn x1 0 2) = 0 then (fX5_text_69 x1 (-1) T_11) else (bf_b2 (fX5_readsText T_11 x1) fun r_15 T_14 => if r_15 = (-1) then (bf_l (bf_u2 T_14 34 0 (T_14 32 0)) fun T_17 => bf_l (bf_u2 T_17 35 0 (T_17 33 0)) fun T_18 => fX5_text_69 x1 r_15 T_18) else (fX5_text_69 x1 r_15 T_14))
set_option maxHeartbeats 4000000 in
theorem mX5_text (l : Launch) (G : bf_G) (σ : bf_V) (o : Nat) (T : bf_TS) (x1 : Int32) {r : Int32} {T' : bf_TS} (hf : fX5_text T x1 = some (r, T')) : bf_MI l G yX5_text cX5_text 3 (bf_rm 10) [.ref o, .int x1] (bf_pT G σ o T) (fun v σ' => v = r ∧ σ' = bf_pT G σ o T') := by
  refine bf_MI.of rfl (Nat.le_of_ble_eq_true rfl) ?_
  intro p e s m below meth c Q X hlk hnm kret hd ls hl
  have hx := X.1
  have hb := X.2.1
  have hown := X.2.2.2.1
  have hts := X.2.2.2.2
  have hl : lv_has ls 3 [(0, .ref o), (1, .int x1)] := hl
  have J69 : ∀ (w69_2 : Int32) (T69 : bf_TS) (H : Heap) (locs : List Loc) (ls : Array Slot), fX5_text_69 x1 w69_2 T69 = some (r, T') → bf_Dy G s H locs (bf_pT G σ o T69) → lv_has ls 3 [(0, .ref o), (1, .int x1), (2, .int w69_2)] → W p l e (bf_rm 10) s m ([.ref o, .int x1] : List Value).toArray below meth c H locs 0 0 Q (F0 m 69 ls []) := by
    intro w69_2 T69 H locs ls hf hd hl
    unfold fX5_text_69 at hf
    refine lv_aload_n hx hb dX5_text_69 rfl (lv_at hl 0 rfl) ?_
    refine lv_iconst (v := 0) hx hb dX5_text_70 (by decide) ?_
    refine bf_tpi X hd 14 (by decide) ⟨rfl, rfl, rfl⟩ q1397 dX5_text_71 (fun H locs hd => ?_)
    obtain ⟨T_19, eT_19, hf⟩ := bf_l_e hf
    have hd := hd.of (congrArg (bf_pT G σ o) eT_19.symm)
    refine lv_iload_n hx hb dX5_text_74 rfl (lv_at hl 2 rfl) ?_
    refine lv_iconst (v := (-1)) hx hb dX5_text_75 (by decide) ?_
    refine lv_icmp_ne (tgt := 81) hx hb dX5_text_76 (by decide) (fun c_20 => ?_) (fun c_20 => ?_)
    · have hf := bf_ie hf c_20
      refine lv_iload_n hx hb dX5_text_81 rfl (lv_at hl 1 rfl) ?_
      refine lv_if_ne (tgt := 93) hx hb dX5_text_82 (by decide) (fun c_21 => ?_) (fun c_21 => ?_)
      · have hf := bf_ie hf c_21
        refine lv_aload_n hx hb dX5_text_93 rfl (lv_at hl 0 rfl) ?_
        refine lv_iload_n hx hb dX5_text_94 rfl (lv_at hl 1 rfl) ?_
        refine lv_iload_n hx hb dX5_text_95 rfl (lv_at hl 2 rfl) ?_
        obtain ⟨T_22, eT_22, hf⟩ := bf_b_some hf
        refine bf_tcv (n := 2) (As := [.int x1, .int w69_2]) (rest := []) X hd (mX5_takesOther l G σ o T_19 x1 w69_2 eT_22) (lw_V q1740 q1742 qs94 q156 q1743) (by decide +kernel) ⟨Nat.le_of_ble_eq_true rfl, Nat.le_of_ble_eq_true rfl⟩ rfl hl.1 rfl (Nat.le_of_ble_eq_true rfl) dX5_text_96 ⟨Nat.le_of_ble_eq_true rfl, Nat.le_of_ble_eq_true rfl⟩ (fun H locs hd => ?_)
        refine lv_iload_n hx hb dX5_text_99 rfl (lv_at hl 2 rfl) ?_
        exact kret _ _ _ _ _ _ ⟨(bf_pr hf).1, congrArg (bf_pT G σ o) (bf_pr hf).2⟩ hd dX5_text_100
      · have hf := bf_it hf c_21
        refine lv_aload_n hx hb dX5_text_85 rfl (lv_at hl 0 rfl) ?_
        refine lv_iload_n hx hb dX5_text_86 rfl (lv_at hl 2 rfl) ?_
        obtain ⟨T_23, eT_23, hf⟩ := bf_b_some hf
        refine bf_tcv (n := 1) (As := [.int w69_2]) (rest := []) X hd (mX5_takesLaw l G σ o T_19 w69_2 eT_23) (lw_V q1736 q1738 qs93 q156 q1739) (by decide +kernel) ⟨Nat.le_of_ble_eq_true rfl, Nat.le_of_ble_eq_true rfl⟩ rfl hl.1 rfl (Nat.le_of_ble_eq_true rfl) dX5_text_87 ⟨Nat.le_of_ble_eq_true rfl, Nat.le_of_ble_eq_true rfl⟩ (fun H locs hd => ?_)
        refine lv_goto (tgt := 99) hx hb dX5_text_90 (by decide) ?_
        refine lv_iload_n hx hb dX5_text_99 rfl (lv_at hl 2 rfl) ?_
        exact kret _ _ _ _ _ _ ⟨(bf_pr hf).1, congrArg (bf_pT G σ o) (bf_pr hf).2⟩ hd dX5_text_100
    · have hf := bf_it hf c_20
      refine lv_iconst (v := (-1)) hx hb dX5_text_79 (by decide) ?_
      exact kret _ _ _ _ _ _ ⟨(bf_pr hf).1, congrArg (bf_pT G σ o) (bf_pr hf).2⟩ hd dX5_text_80
  unfold fX5_text at hf
  refine lv_aload_n hx hb dX5_text_0 rfl (lv_at hl 0 rfl) ?_
  refine lv_iconst (v := 0) hx hb dX5_text_1 (by decide) ?_
  refine bf_tpi X hd 0 (by decide) ⟨rfl, rfl, rfl⟩ q1383 dX5_text_2 (fun H locs hd => ?_)
  obtain ⟨T_24, eT_24, hf⟩ := bf_l_e hf
  have hd := hd.of (congrArg (bf_pT G σ o) eT_24.symm)
  refine lv_aload_n hx hb dX5_text_5 rfl (lv_at hl 0 rfl) ?_
  refine lv_iconst (v := 0) hx hb dX5_text_6 (by decide) ?_
  refine bf_tpi X hd 34 (by decide) ⟨rfl, rfl, rfl⟩ q1417 dX5_text_7 (fun H locs hd => ?_)
  obtain ⟨T_25, eT_25, hf⟩ := bf_l_e hf
  have hd := hd.of (congrArg (bf_pT G σ o) eT_25.symm)
  refine lv_aload_n hx hb dX5_text_10 rfl (lv_at hl 0 rfl) ?_
  refine lv_iconst (v := (-1)) hx hb dX5_text_11 (by decide) ?_
  refine bf_tpi X hd 35 (by decide) ⟨rfl, rfl, rfl⟩ q1418 dX5_text_12 (fun H locs hd => ?_)
  obtain ⟨T_26, eT_26, hf⟩ := bf_l_e hf
  have hd := hd.of (congrArg (bf_pT G σ o) eT_26.symm)
  refine lv_aload_n hx hb dX5_text_15 rfl (lv_at hl 0 rfl) ?_
  refine lv_iconst (v := 0) hx hb dX5_text_16 (by decide) ?_
  refine bf_tpi X hd 15 (by decide) ⟨rfl, rfl, rfl⟩ q1398 dX5_text_17 (fun H locs hd => ?_)
  obtain ⟨T_27, eT_27, hf⟩ := bf_l_e hf
  have hd := hd.of (congrArg (bf_pT G σ o) eT_27.symm)
  refine lv_aload_n hx hb dX5_text_20 rfl (lv_at hl 0 rfl) ?_
  refine lv_iconst (v := 0) hx hb dX5_text_21 (by decide) ?_
  refine bf_tpi X hd 28 (by decide) ⟨rfl, rfl, rfl⟩ q1411 dX5_text_22 (fun H locs hd => ?_)
  obtain ⟨T_28, eT_28, hf⟩ := bf_l_e hf
  have hd := hd.of (congrArg (bf_pT G σ o) eT_28.symm)
  refine lv_aload_n hx hb dX5_text_25 rfl (lv_at hl 0 rfl) ?_
  refine lv_iconst (v := 0) hx hb dX5_text_26 (by decide) ?_
  refine bf_tpi X hd 29 (by decide) ⟨rfl, rfl, rfl⟩ q1412 dX5_text_27 (fun H locs hd => ?_)
  obtain ⟨T_29, eT_29, hf⟩ := bf_l_e hf
  have hd := hd.of (congrArg (bf_pT G σ o) eT_29.symm)
  refine lv_iconst (v := (-1)) hx hb dX5_text_30 (by decide) ?_
  refine lv_istore_n (lv' := [(2, .int (-1)), (0, .ref o), (1, .int x1)]) hx hb dX5_text_31 rfl hl (by decide) rfl (fun ls hl => ?_)
  refine lv_aload_n hx hb dX5_text_32 rfl (lv_at hl 1 rfl) ?_
  refine lv_iload_n hx hb dX5_text_33 rfl (lv_at hl 2 rfl) ?_
  refine lv_iconst (v := 0) hx hb dX5_text_34 (by decide) ?_
  refine lv_iconst (v := 2) hx hb dX5_text_35 (by decide) ?_
  refine bf_tcz (n := 3) (As := [.int x1, .int 0, .int 2]) (rest := []) X hd (mX5_isIn l G σ o T_29 x1 0 2 rfl) (lw_V q1564 q1566 qs56 q156 q1567) (by decide +kernel) ⟨Nat.le_of_ble_eq_true rfl, Nat.le_of_ble_eq_true rfl⟩ rfl hl.1 rfl (Nat.le_of_ble_eq_true rfl) dX5_text_36 ⟨Nat.le_of_ble_eq_true rfl, Nat.le_of_ble_eq_true rfl⟩ (fun H locs z_30 hd => ?_)
  refine lv_if_eq (tgt := 69) hx hb dX5_text_39 (by decide) (fun c_31 => ?_) (fun c_31 => ?_)
  · have hf := bf_it hf c_31
    exact J69 (-1) T_29 _ _ _ hf hd (lv_sub hl [1, 2, 0] rfl)
  · have hf := bf_ie hf c_31
    refine lv_aload_n hx hb dX5_text_42 rfl (lv_at hl 1 rfl) ?_
    refine lv_iload_n hx hb dX5_text_43 rfl (lv_at hl 2 rfl) ?_
    obtain ⟨r_33, T_32, er_33, hf⟩ := bf_b2_some hf
    refine bf_tci (n := 1) (As := [.int x1]) (rest := []) X hd (mX5_readsText l G σ o T_29 x1 er_33) (lw_V q1620 q1622 qs64 q156 q1623) (by decide +kernel) ⟨Nat.le_of_ble_eq_true rfl, Nat.le_of_ble_eq_true rfl⟩ rfl hl.1 rfl (Nat.le_of_ble_eq_true rfl) dX5_text_44 ⟨Nat.le_of_ble_eq_true rfl, Nat.le_of_ble_eq_true rfl⟩ (fun H locs hd => ?_)
    refine lv_istore_n (lv' := [(2, .int r_33), (0, .ref o), (1, .int x1)]) hx hb dX5_text_47 rfl hl (by decide) rfl (fun ls hl => ?_)
    refine lv_iload_n hx hb dX5_text_48 rfl (lv_at hl 0 rfl) ?_
    refine lv_iconst (v := (-1)) hx hb dX5_text_49 (by decide) ?_
    refine lv_icmp_ne (tgt := 69) hx hb dX5_text_50 (by decide) (fun c_34 => ?_) (fun c_34 => ?_)
    · have hf := bf_ie hf c_34
      exact J69 r_33 T_32 _ _ _ hf hd (lv_sub hl [1, 2, 0] rfl)
    · have hf := bf_it hf c_34
      refine lv_aload_n hx hb dX5_text_53 rfl (lv_at hl 1 rfl) ?_
      refine lv_aload_n hx hb dX5_text_54 rfl (lv_at hl 1 rfl) ?_
      refine bf_tgi X hd 32 (by decide) rfl q1415 dX5_text_55 ?_
      refine bf_tpi X hd 34 (by decide) ⟨rfl, rfl, rfl⟩ q1417 dX5_text_58 (fun H locs hd => ?_)
      obtain ⟨T_35, eT_35, hf⟩ := bf_l_e hf
      have hd := hd.of (congrArg (bf_pT G σ o) eT_35.symm)
      refine lv_aload_n hx hb dX5_text_61 rfl (lv_at hl 1 rfl) ?_
      refine lv_aload_n hx hb dX5_text_62 rfl (lv_at hl 1 rfl) ?_
      refine bf_tgi X hd 33 (by decide) rfl q1416 dX5_text_63 ?_
      refine bf_tpi X hd 35 (by decide) ⟨rfl, rfl, rfl⟩ q1418 dX5_text_66 (fun H locs hd => ?_)
      obtain ⟨T_36, eT_36, hf⟩ := bf_l_e hf
      have hd := hd.of (congrArg (bf_pT G σ o) eT_36.symm)
      exact J69 r_33 T_36 _ _ _ hf hd (lv_sub hl [1, 2, 0] rfl)
def fX5_fault (T : bf_TS) (x1 : Int32) : Option (Int32 × bf_TS) := bf_l (bf_u2 T 0 0 0) fun T_1 => if x1 = 0 then (some ((T_1 34 0), T_1)) else (if x1 = 1 then (some ((T_1 35 0), T_1)) else (some ((-1), T_1)))
set_option maxHeartbeats 4000000 in
theorem mX5_fault (l : Launch) (G : bf_G) (σ : bf_V) (o : Nat) (T : bf_TS) (x1 : Int32) {r : Int32} {T' : bf_TS} (hf : fX5_fault T x1 = some (r, T')) : bf_MI l G yX5_fault cX5_fault 2 (bf_rm 0) [.ref o, .int x1] (bf_pT G σ o T) (fun v σ' => v = r ∧ σ' = bf_pT G σ o T') := by
  refine bf_MI.of rfl (Nat.le_of_ble_eq_true rfl) ?_
  intro p e s m below meth c Q X hlk hnm kret hd ls hl
  have hx := X.1
  have hb := X.2.1
  have hown := X.2.2.2.1
  have hts := X.2.2.2.2
  have hl : lv_has ls 2 [(0, .ref o), (1, .int x1)] := hl
  unfold fX5_fault at hf
  refine lv_aload_n hx hb dX5_fault_0 rfl (lv_at hl 0 rfl) ?_
  refine lv_iconst (v := 0) hx hb dX5_fault_1 (by decide) ?_
  refine bf_tpi X hd 0 (by decide) ⟨rfl, rfl, rfl⟩ q1383 dX5_fault_2 (fun H locs hd => ?_)
  obtain ⟨T_4, eT_4, hf⟩ := bf_l_e hf
  have hd := hd.of (congrArg (bf_pT G σ o) eT_4.symm)
  refine lv_iload_n hx hb dX5_fault_5 rfl (lv_at hl 1 rfl) ?_
  refine lv_if_ne (tgt := 16) hx hb dX5_fault_6 (by decide) (fun c_5 => ?_) (fun c_5 => ?_)
  · have hf := bf_ie hf c_5
    refine lv_iload_n hx hb dX5_fault_16 rfl (lv_at hl 1 rfl) ?_
    refine lv_iconst (v := 1) hx hb dX5_fault_17 (by decide) ?_
    refine lv_icmp_ne (tgt := 28) hx hb dX5_fault_18 (by decide) (fun c_6 => ?_) (fun c_6 => ?_)
    · have hf := bf_ie hf c_6
      refine lv_iconst (v := (-1)) hx hb dX5_fault_28 (by decide) ?_
      exact kret _ _ _ _ _ _ ⟨(bf_pr hf).1, congrArg (bf_pT G σ o) (bf_pr hf).2⟩ hd dX5_fault_29
    · have hf := bf_it hf c_6
      refine lv_aload_n hx hb dX5_fault_21 rfl (lv_at hl 0 rfl) ?_
      refine bf_tgi X hd 35 (by decide) rfl q1418 dX5_fault_22 ?_
      refine lv_goto (tgt := 29) hx hb dX5_fault_25 (by decide) ?_
      exact kret _ _ _ _ _ _ ⟨(bf_pr hf).1, congrArg (bf_pT G σ o) (bf_pr hf).2⟩ hd dX5_fault_29
  · have hf := bf_it hf c_5
    refine lv_aload_n hx hb dX5_fault_9 rfl (lv_at hl 0 rfl) ?_
    refine bf_tgi X hd 34 (by decide) rfl q1417 dX5_fault_10 ?_
    refine lv_goto (tgt := 29) hx hb dX5_fault_13 (by decide) ?_
    exact kret _ _ _ _ _ _ ⟨(bf_pr hf).1, congrArg (bf_pT G σ o) (bf_pr hf).2⟩ hd dX5_fault_29
def fX5_twoOf (x1 x2 x3 : Int32) : Option (Int32) := if x1 = 2 then (some (x2 + x3)) else (if x1 = 3 then (some (x2 - x3)) else (if x1 = 4 then (some (x2 * x3)) else (if x1 = 5 then (bf_c (bf_nz x3) <| some (x2 / x3)) else (if x1 = 6 then (if x3 ≤ x2 then (some 0) else (some 1)) else (if x1 = 7 then (if x2 = x3 then (some 1) else (some 0)) else (if x1 = 8 then (if x2 ≤ x3 then (some 0) else (some 1)) else (if x1 = 10 then (some (x2 * x3)) else (if (x2 + x3) ≤ 0 then (some 0) else (some 1)))))))))
set_option maxHeartbeats 4000000 in
theorem mX5_twoOf (l : Launch) (G : bf_G) (σ : bf_V) (o : Nat) (T : bf_TS) (x1 x2 x3 : Int32) {r : Int32} (hf : fX5_twoOf x1 x2 x3 = some r) : bf_MI l G yX5_twoOf cX5_twoOf 4 (bf_rm 0) [.ref o, .int x1, .int x2, .int x3] (bf_pT G σ o T) (fun v σ' => v = r ∧ σ' = bf_pT G σ o T) := by
  refine bf_MI.of rfl (Nat.le_of_ble_eq_true rfl) ?_
  intro p e s m below meth c Q X hlk hnm kret hd ls hl
  have hx := X.1
  have hb := X.2.1
  have hown := X.2.2.2.1
  have hts := X.2.2.2.2
  have hl : lv_has ls 4 [(0, .ref o), (1, .int x1), (2, .int x2), (3, .int x3)] := hl
  unfold fX5_twoOf at hf
  refine lv_iload_n hx hb dX5_twoOf_0 rfl (lv_at hl 1 rfl) ?_
  refine lv_iconst (v := 2) hx hb dX5_twoOf_1 (by decide) ?_
  refine lv_icmp_ne (tgt := 9) hx hb dX5_twoOf_2 (by decide) (fun c_14 => ?_) (fun c_14 => ?_)
  · have hf := bf_ie hf c_14
    refine lv_iload_n hx hb dX5_twoOf_9 rfl (lv_at hl 1 rfl) ?_
    refine lv_iconst (v := 3) hx hb dX5_twoOf_10 (by decide) ?_
    refine lv_icmp_ne (tgt := 18) hx hb dX5_twoOf_11 (by decide) (fun c_15 => ?_) (fun c_15 => ?_)
    · have hf := bf_ie hf c_15
      refine lv_iload_n hx hb dX5_twoOf_18 rfl (lv_at hl 1 rfl) ?_
      refine lv_iconst (v := 4) hx hb dX5_twoOf_19 (by decide) ?_
      refine lv_icmp_ne (tgt := 27) hx hb dX5_twoOf_20 (by decide) (fun c_16 => ?_) (fun c_16 => ?_)
      · have hf := bf_ie hf c_16
        refine lv_iload_n hx hb dX5_twoOf_27 rfl (lv_at hl 1 rfl) ?_
        refine lv_iconst (v := 5) hx hb dX5_twoOf_28 (by decide) ?_
        refine lv_icmp_ne (tgt := 36) hx hb dX5_twoOf_29 (by decide) (fun c_17 => ?_) (fun c_17 => ?_)
        · have hf := bf_ie hf c_17
          refine lv_iload_n hx hb dX5_twoOf_36 rfl (lv_at hl 1 rfl) ?_
          refine lv_bipush (v := 6) hx hb dX5_twoOf_37 (by decide) ?_
          refine lv_icmp_ne (tgt := 53) hx hb dX5_twoOf_39 (by decide) (fun c_18 => ?_) (fun c_18 => ?_)
          · have hf := bf_ie hf c_18
            refine lv_iload_n hx hb dX5_twoOf_53 rfl (lv_at hl 1 rfl) ?_
            refine lv_bipush (v := 7) hx hb dX5_twoOf_54 (by decide) ?_
            refine lv_icmp_ne (tgt := 70) hx hb dX5_twoOf_56 (by decide) (fun c_19 => ?_) (fun c_19 => ?_)
            · have hf := bf_ie hf c_19
              refine lv_iload_n hx hb dX5_twoOf_70 rfl (lv_at hl 1 rfl) ?_
              refine lv_bipush (v := 8) hx hb dX5_twoOf_71 (by decide) ?_
              refine lv_icmp_ne (tgt := 87) hx hb dX5_twoOf_73 (by decide) (fun c_20 => ?_) (fun c_20 => ?_)
              · have hf := bf_ie hf c_20
                refine lv_iload_n hx hb dX5_twoOf_87 rfl (lv_at hl 1 rfl) ?_
                refine lv_bipush (v := 10) hx hb dX5_twoOf_88 (by decide) ?_
                refine lv_icmp_ne (tgt := 99) hx hb dX5_twoOf_90 (by decide) (fun c_21 => ?_) (fun c_21 => ?_)
                · have hf := bf_ie hf c_21
                  refine lv_iload_n hx hb dX5_twoOf_99 rfl (lv_at hl 2 rfl) ?_
                  refine lv_iload_n hx hb dX5_twoOf_100 rfl (lv_at hl 3 rfl) ?_
                  refine lv_iadd hx hb dX5_twoOf_101 ?_
                  refine lv_if_le (tgt := 109) hx hb dX5_twoOf_102 (by decide) (fun c_22 => ?_) (fun c_22 => ?_)
                  · have hf := bf_it hf c_22
                    refine lv_iconst (v := 0) hx hb dX5_twoOf_109 (by decide) ?_
                    exact kret _ _ _ _ _ _ ⟨bf_so hf, rfl⟩ hd dX5_twoOf_110
                  · have hf := bf_ie hf c_22
                    refine lv_iconst (v := 1) hx hb dX5_twoOf_105 (by decide) ?_
                    refine lv_goto (tgt := 110) hx hb dX5_twoOf_106 (by decide) ?_
                    exact kret _ _ _ _ _ _ ⟨bf_so hf, rfl⟩ hd dX5_twoOf_110
                · have hf := bf_it hf c_21
                  refine lv_iload_n hx hb dX5_twoOf_93 rfl (lv_at hl 2 rfl) ?_
                  refine lv_iload_n hx hb dX5_twoOf_94 rfl (lv_at hl 3 rfl) ?_
                  refine lv_imul hx hb dX5_twoOf_95 ?_
                  refine lv_goto (tgt := 110) hx hb dX5_twoOf_96 (by decide) ?_
                  exact kret _ _ _ _ _ _ ⟨bf_so hf, rfl⟩ hd dX5_twoOf_110
              · have hf := bf_it hf c_20
                refine lv_iload_n hx hb dX5_twoOf_76 rfl (lv_at hl 2 rfl) ?_
                refine lv_iload_n hx hb dX5_twoOf_77 rfl (lv_at hl 3 rfl) ?_
                refine lv_icmp_le (tgt := 85) hx hb dX5_twoOf_78 (by decide) (fun c_23 => ?_) (fun c_23 => ?_)
                · have hf := bf_it hf c_23
                  refine lv_iconst (v := 0) hx hb dX5_twoOf_85 (by decide) ?_
                  exact kret _ _ _ _ _ _ ⟨bf_so hf, rfl⟩ hd dX5_twoOf_86
                · have hf := bf_ie hf c_23
                  refine lv_iconst (v := 1) hx hb dX5_twoOf_81 (by decide) ?_
                  refine lv_goto (tgt := 86) hx hb dX5_twoOf_82 (by decide) ?_
                  exact kret _ _ _ _ _ _ ⟨bf_so hf, rfl⟩ hd dX5_twoOf_86
            · have hf := bf_it hf c_19
              refine lv_iload_n hx hb dX5_twoOf_59 rfl (lv_at hl 2 rfl) ?_
              refine lv_iload_n hx hb dX5_twoOf_60 rfl (lv_at hl 3 rfl) ?_
              refine lv_icmp_ne (tgt := 68) hx hb dX5_twoOf_61 (by decide) (fun c_24 => ?_) (fun c_24 => ?_)
              · have hf := bf_ie hf c_24
                refine lv_iconst (v := 0) hx hb dX5_twoOf_68 (by decide) ?_
                exact kret _ _ _ _ _ _ ⟨bf_so hf, rfl⟩ hd dX5_twoOf_69
              · have hf := bf_it hf c_24
                refine lv_iconst (v := 1) hx hb dX5_twoOf_64 (by decide) ?_
                refine lv_goto (tgt := 69) hx hb dX5_twoOf_65 (by decide) ?_
                exact kret _ _ _ _ _ _ ⟨bf_so hf, rfl⟩ hd dX5_twoOf_69
          · have hf := bf_it hf c_18
            refine lv_iload_n hx hb dX5_twoOf_42 rfl (lv_at hl 2 rfl) ?_
            refine lv_iload_n hx hb dX5_twoOf_43 rfl (lv_at hl 3 rfl) ?_
            refine lv_icmp_ge (tgt := 51) hx hb dX5_twoOf_44 (by decide) (fun c_25 => ?_) (fun c_25 => ?_)
            · have hf := bf_it hf c_25
              refine lv_iconst (v := 0) hx hb dX5_twoOf_51 (by decide) ?_
              exact kret _ _ _ _ _ _ ⟨bf_so hf, rfl⟩ hd dX5_twoOf_52
            · have hf := bf_ie hf c_25
              refine lv_iconst (v := 1) hx hb dX5_twoOf_47 (by decide) ?_
              refine lv_goto (tgt := 52) hx hb dX5_twoOf_48 (by decide) ?_
              exact kret _ _ _ _ _ _ ⟨bf_so hf, rfl⟩ hd dX5_twoOf_52
        · have hf := bf_it hf c_17
          refine lv_iload_n hx hb dX5_twoOf_32 rfl (lv_at hl 2 rfl) ?_
          refine lv_iload_n hx hb dX5_twoOf_33 rfl (lv_at hl 3 rfl) ?_
          obtain ⟨g_26, hf⟩ := bf_c_some hf
          refine lv_idiv hx hb dX5_twoOf_34 (bf_nz_t g_26) ?_
          exact kret _ _ _ _ _ _ ⟨bf_so hf, rfl⟩ hd dX5_twoOf_35
      · have hf := bf_it hf c_16
        refine lv_iload_n hx hb dX5_twoOf_23 rfl (lv_at hl 2 rfl) ?_
        refine lv_iload_n hx hb dX5_twoOf_24 rfl (lv_at hl 3 rfl) ?_
        refine lv_imul hx hb dX5_twoOf_25 ?_
        exact kret _ _ _ _ _ _ ⟨bf_so hf, rfl⟩ hd dX5_twoOf_26
    · have hf := bf_it hf c_15
      refine lv_iload_n hx hb dX5_twoOf_14 rfl (lv_at hl 2 rfl) ?_
      refine lv_iload_n hx hb dX5_twoOf_15 rfl (lv_at hl 3 rfl) ?_
      refine lv_isub hx hb dX5_twoOf_16 ?_
      exact kret _ _ _ _ _ _ ⟨bf_so hf, rfl⟩ hd dX5_twoOf_17
  · have hf := bf_it hf c_14
    refine lv_iload_n hx hb dX5_twoOf_5 rfl (lv_at hl 2 rfl) ?_
    refine lv_iload_n hx hb dX5_twoOf_6 rfl (lv_at hl 3 rfl) ?_
    refine lv_iadd hx hb dX5_twoOf_7 ?_
    exact kret _ _ _ _ _ _ ⟨bf_so hf, rfl⟩ hd dX5_twoOf_8
def fX5_runs_176 (T176 : bf_TS) : Option (Int32 × bf_TS) := some ((T176 41 0), T176)
def fX5_runs_170 (k12 : Int32 → Int32 → bf_TS → Option (Int32 × bf_TS)) (x1 : Int32) (x3 : Int32) (w170_4 : Int32) (w170_5 : Int32) (T170 : bf_TS) : Option (Int32 × bf_TS) := bf_l (w170_5 + 1) fun x5_26 => k12 w170_4 x5_26 T170
def fX5_runs_83 (k12 : Int32 → Int32 → bf_TS → Option (Int32 × bf_TS)) (x1 : Int32) (x3 : Int32) (w83_4 : Int32) (w83_5 : Int32) (t83_0 : Int32) (t83_1 : Int32) (T83 : bf_TS) : Option (Int32 × bf_TS) := bf_c (bf_in t83_1 420) <| bf_l (bf_u2 T83 41 (t83_1).toNatClampNeg t83_0) fun T_24 => bf_l ((w83_4 + 1)) fun x4_25 => fX5_runs_170 k12 x1 x3 x4_25 w83_5 T_24
def fX5_runs_45 (k12 : Int32 → Int32 → bf_TS → Option (Int32 × bf_TS)) (x1 : Int32) (x3 : Int32) (w45_4 : Int32) (w45_5 : Int32) (T45 : bf_TS) : Option (Int32 × bf_TS) := bf_c (bf_in w45_5 1200) <| if (T45 25 (w45_5).toNatClampNeg) = 0 then (bf_c (bf_in w45_5 1200) <| fX5_runs_83 k12 x1 x3 w45_4 w45_5 (T45 26 (w45_5).toNatClampNeg) w45_4 T45) else (bf_c (bf_in w45_5 1200) <| bf_c (bf_in (T45 26 (w45_5).toNatClampNeg) 9) <| fX5_runs_83 k12 x1 x3 w45_4 w45_5 (T45 40 (T45 26 (w45_5).toNatClampNeg).toNatClampNeg) w45_4 T45)
def fX5_runs_12b (x1 : Int32) (x3 : Int32) (k12 : Int32 → Int32 → bf_TS → Option (Int32 × bf_TS)) (v12_4 : Int32) (v12_5 : Int32) (T12 : bf_TS) : Option (Int32 × bf_TS) := if ((400 * x1) + x3) ≤ v12_5 then (fX5_runs_176 T12) else (bf_c (bf_in v12_5 1200) <| if (T12 25 (v12_5).toNatClampNeg) = 0 then (fX5_runs_45 k12 x1 x3 v12_4 v12_5 T12) else (bf_c (bf_in v12_5 1200) <| if (T12 25 (v12_5).toNatClampNeg) = 1 then (fX5_runs_45 k12 x1 x3 v12_4 v12_5 T12) else (bf_c (bf_in v12_5 1200) <| if (T12 25 (v12_5).toNatClampNeg) = 9 then (bf_c (bf_in (v12_4 - 1) 420) <| bf_c (bf_in (v12_4 - 1) 420) <| bf_l (bf_u2 T12 41 (v12_4 - 1).toNatClampNeg (1 - (T12 41 (v12_4 - 1).toNatClampNeg))) fun T_17 => fX5_runs_170 k12 x1 x3 v12_4 v12_5 T_17) else (bf_l ((v12_4 - 1)) fun x4_8 => bf_c (bf_in v12_5 1200) <| bf_c (bf_in (x4_8 - 1) 420) <| bf_c (bf_in x4_8 420) <| bf_b (fX5_twoOf (T12 25 (v12_5).toNatClampNeg) (T12 41 (x4_8 - 1).toNatClampNeg) (T12 41 (x4_8).toNatClampNeg)) fun r_12 => bf_c (bf_in (x4_8 - 1) 420) <| bf_l (bf_u2 T12 41 (x4_8 - 1).toNatClampNeg r_12) fun T_14 => fX5_runs_170 k12 x1 x3 x4_8 v12_5 T_14))))
def fX5_runs_12 (x1 : Int32) (x3 : Int32) : Nat → Int32 → Int32 → bf_TS → Option (Int32 × bf_TS)
  | 0, _, _, _ => none
  | n + 1, v12_4, v12_5, T12 => fX5_runs_12b x1 x3 (fX5_runs_12 x1 x3 n) v12_4 v12_5 T12
def fX5_runs (T : bf_TS) (x1 x2 x3 : Int32) : Option (Int32 × bf_TS) := bf_l (((400 * x1) + x2)) fun x5_27 => fX5_runs_12 x1 x3 bf_fuel 0 x5_27 T
set_option maxHeartbeats 4000000 in
theorem mX5_runs (l : Launch) (G : bf_G) (σ : bf_V) (o : Nat) (T : bf_TS) (x1 x2 x3 : Int32) {r : Int32} {T' : bf_TS} (hf : fX5_runs T x1 x2 x3 = some (r, T')) : bf_MI l G yX5_runs cX5_runs 6 (bf_rm 1) [.ref o, .int x1, .int x2, .int x3] (bf_pT G σ o T) (fun v σ' => v = r ∧ σ' = bf_pT G σ o T') := by
  refine bf_MI.of rfl (Nat.le_of_ble_eq_true rfl) ?_
  intro p e s m below meth c Q X hlk hnm kret hd ls hl
  have hx := X.1
  have hb := X.2.1
  have hown := X.2.2.2.1
  have hts := X.2.2.2.2
  have hl : lv_has ls 6 [(0, .ref o), (1, .int x1), (2, .int x2), (3, .int x3)] := hl
  have J176 : ∀ (T176 : bf_TS) (H : Heap) (locs : List Loc) (ls : Array Slot), fX5_runs_176 T176 = some (r, T') → bf_Dy G s H locs (bf_pT G σ o T176) → lv_has ls 6 [(0, .ref o)] → W p l e (bf_rm 1) s m ([.ref o, .int x1, .int x2, .int x3] : List Value).toArray below meth c H locs 0 0 Q (F0 m 176 ls []) := by
    intro T176 H locs ls hf hd hl
    unfold fX5_runs_176 at hf
    refine lv_aload_n hx hb dX5_runs_176 rfl (lv_at hl 0 rfl) ?_
    refine bf_tga X hd 41 (by decide) (by decide) q1424 dX5_runs_177 ?_
    refine lv_iconst (v := 0) hx hb dX5_runs_180 (by decide) ?_
    refine bf_tld X hd 41 (by decide) (by decide) dX5_runs_181 ?_
    exact kret _ _ _ _ _ _ ⟨(bf_pr hf).1, congrArg (bf_pT G σ o) (bf_pr hf).2⟩ hd dX5_runs_182
  have L12 : ∀ (n12 : Nat) (v12_4 : Int32) (v12_5 : Int32) (T12 : bf_TS) (H : Heap) (locs : List Loc) (ls : Array Slot), fX5_runs_12 x1 x3 n12 v12_4 v12_5 T12 = some (r, T') → bf_Dy G s H locs (bf_pT G σ o T12) → lv_has ls 6 [(0, .ref o), (1, .int x1), (3, .int x3), (4, .int v12_4), (5, .int v12_5)] → W p l e (bf_rm 1) s m ([.ref o, .int x1, .int x2, .int x3] : List Value).toArray below meth c H locs 0 0 Q (F0 m 12 ls []) := by
    intro n12
    induction n12 with
    | zero =>
      intro v12_4 v12_5 T12 H locs ls hf hd hl
      exact absurd (show (none : Option (Int32 × bf_TS)) = some (r, T') from hf) (by intro h; cases h)
    | succ n12 ih12 =>
      intro v12_4 v12_5 T12 H locs ls hf hd hl
      have hf : fX5_runs_12b x1 x3 (fX5_runs_12 x1 x3 n12) v12_4 v12_5 T12 = some (r, T') := hf
      unfold fX5_runs_12b at hf
      have J170 : ∀ (w170_4 : Int32) (w170_5 : Int32) (T170 : bf_TS) (H : Heap) (locs : List Loc) (ls : Array Slot), fX5_runs_170 (fX5_runs_12 x1 x3 n12) x1 x3 w170_4 w170_5 T170 = some (r, T') → bf_Dy G s H locs (bf_pT G σ o T170) → lv_has ls 6 [(0, .ref o), (1, .int x1), (3, .int x3), (4, .int w170_4), (5, .int w170_5)] → W p l e (bf_rm 1) s m ([.ref o, .int x1, .int x2, .int x3] : List Value).toArray below meth c H locs 0 0 Q (F0 m 170 ls []) := by
        intro w170_4 w170_5 T170 H locs ls hf hd hl
        unfold fX5_runs_170 at hf
        obtain ⟨x5_28, ex5_28, hf⟩ := bf_l_e hf
        refine lv_iinc (v := x5_28) (lv' := [(5, .int x5_28), (0, .ref o), (1, .int x1), (3, .int x3), (4, .int w170_4)]) hx hb dX5_runs_170 hl (k := 4) rfl (by rw [ex5_28]; rfl) (by decide) rfl (fun ls hl => ?_)
        refine lv_goto (tgt := 12) hx hb dX5_runs_173 (by decide) ?_
        exact ih12 w170_4 x5_28 T170 _ _ _ hf hd (lv_sub hl [1, 2, 3, 4, 0] rfl)
      have J83 : ∀ (w83_4 : Int32) (w83_5 : Int32) (t83_0 : Int32) (t83_1 : Int32) (T83 : bf_TS) (H : Heap) (locs : List Loc) (ls : Array Slot), fX5_runs_83 (fX5_runs_12 x1 x3 n12) x1 x3 w83_4 w83_5 t83_0 t83_1 T83 = some (r, T') → bf_Dy G s H locs (bf_pT G σ o T83) → lv_has ls 6 [(0, .ref o), (1, .int x1), (3, .int x3), (4, .int w83_4), (5, .int w83_5)] → W p l e (bf_rm 1) s m ([.ref o, .int x1, .int x2, .int x3] : List Value).toArray below meth c H locs 0 0 Q (F0 m 83 ls [.int t83_0, .int t83_1, .ref (o + bf_to 41)]) := by
        intro w83_4 w83_5 t83_0 t83_1 T83 H locs ls hf hd hl
        unfold fX5_runs_83 at hf
        obtain ⟨g_29, hf⟩ := bf_c_some hf
        refine bf_tst X hd 41 (by decide) g_29 dX5_runs_83 (fun H locs hd => ?_)
        obtain ⟨T_30, eT_30, hf⟩ := bf_l_e hf
        have hd := hd.of (congrArg (bf_pT G σ o) eT_30.symm)
        refine lv_iload hx hb dX5_runs_84 (lv_at hl 3 rfl) ?_
        refine lv_iconst (v := 1) hx hb dX5_runs_86 (by decide) ?_
        refine lv_iadd hx hb dX5_runs_87 ?_
        obtain ⟨x4_31, ex4_31, hf⟩ := bf_l_e hf
        refine bf_top ex4_31 ?_
        refine lv_istore (lv' := [(4, .int x4_31), (0, .ref o), (1, .int x1), (3, .int x3), (5, .int w83_5)]) hx hb dX5_runs_88 hl (by decide) rfl (fun ls hl => ?_)
        refine lv_goto (tgt := 170) hx hb dX5_runs_90 (by decide) ?_
        exact J170 x4_31 w83_5 T_30 _ _ _ hf hd (lv_sub hl [1, 2, 3, 0, 4] rfl)
      have J45 : ∀ (w45_4 : Int32) (w45_5 : Int32) (T45 : bf_TS) (H : Heap) (locs : List Loc) (ls : Array Slot), fX5_runs_45 (fX5_runs_12 x1 x3 n12) x1 x3 w45_4 w45_5 T45 = some (r, T') → bf_Dy G s H locs (bf_pT G σ o T45) → lv_has ls 6 [(0, .ref o), (1, .int x1), (3, .int x3), (4, .int w45_4), (5, .int w45_5)] → W p l e (bf_rm 1) s m ([.ref o, .int x1, .int x2, .int x3] : List Value).toArray below meth c H locs 0 0 Q (F0 m 45 ls []) := by
        intro w45_4 w45_5 T45 H locs ls hf hd hl
        unfold fX5_runs_45 at hf
        refine lv_aload_n hx hb dX5_runs_45 rfl (lv_at hl 0 rfl) ?_
        refine bf_tga X hd 41 (by decide) (by decide) q1424 dX5_runs_46 ?_
        refine lv_iload hx hb dX5_runs_49 (lv_at hl 3 rfl) ?_
        refine lv_aload_n hx hb dX5_runs_51 rfl (lv_at hl 0 rfl) ?_
        refine bf_tga X hd 25 (by decide) (by decide) q1408 dX5_runs_52 ?_
        refine lv_iload hx hb dX5_runs_55 (lv_at hl 4 rfl) ?_
        obtain ⟨g_32, hf⟩ := bf_c_some hf
        refine bf_tld X hd 25 (by decide) g_32 dX5_runs_57 ?_
        refine lv_if_ne (tgt := 71) hx hb dX5_runs_58 (by decide) (fun c_33 => ?_) (fun c_33 => ?_)
        · have hf := bf_ie hf c_33
          refine lv_aload_n hx hb dX5_runs_71 rfl (lv_at hl 0 rfl) ?_
          refine bf_tga X hd 40 (by decide) (by decide) q1423 dX5_runs_72 ?_
          refine lv_aload_n hx hb dX5_runs_75 rfl (lv_at hl 0 rfl) ?_
          refine bf_tga X hd 26 (by decide) (by decide) q1409 dX5_runs_76 ?_
          refine lv_iload hx hb dX5_runs_79 (lv_at hl 4 rfl) ?_
          obtain ⟨g_34, hf⟩ := bf_c_some hf
          refine bf_tld X hd 26 (by decide) g_34 dX5_runs_81 ?_
          obtain ⟨g_35, hf⟩ := bf_c_some hf
          refine bf_tld X hd 40 (by decide) g_35 dX5_runs_82 ?_
          exact J83 w45_4 w45_5 (T45 40 (T45 26 (w45_5).toNatClampNeg).toNatClampNeg) w45_4 T45 _ _ _ hf hd (lv_sub hl [0, 1, 2, 3, 4] rfl)
        · have hf := bf_it hf c_33
          refine lv_aload_n hx hb dX5_runs_61 rfl (lv_at hl 0 rfl) ?_
          refine bf_tga X hd 26 (by decide) (by decide) q1409 dX5_runs_62 ?_
          refine lv_iload hx hb dX5_runs_65 (lv_at hl 4 rfl) ?_
          obtain ⟨g_36, hf⟩ := bf_c_some hf
          refine bf_tld X hd 26 (by decide) g_36 dX5_runs_67 ?_
          refine lv_goto (tgt := 83) hx hb dX5_runs_68 (by decide) ?_
          exact J83 w45_4 w45_5 (T45 26 (w45_5).toNatClampNeg) w45_4 T45 _ _ _ hf hd (lv_sub hl [0, 1, 2, 3, 4] rfl)
      refine lv_iload hx hb dX5_runs_12 (lv_at hl 4 rfl) ?_
      refine lv_sipush (v := 400) hx hb dX5_runs_14 (by decide) ?_
      refine lv_iload_n hx hb dX5_runs_17 rfl (lv_at hl 1 rfl) ?_
      refine lv_imul hx hb dX5_runs_18 ?_
      refine lv_iload_n hx hb dX5_runs_19 rfl (lv_at hl 2 rfl) ?_
      refine lv_iadd hx hb dX5_runs_20 ?_
      refine lv_icmp_ge (tgt := 176) hx hb dX5_runs_21 (by decide) (fun c_37 => ?_) (fun c_37 => ?_)
      · have hf := bf_it hf c_37
        exact J176 T12 _ _ _ hf hd (lv_sub hl [0] rfl)
      · have hf := bf_ie hf c_37
        refine lv_aload_n hx hb dX5_runs_24 rfl (lv_at hl 0 rfl) ?_
        refine bf_tga X hd 25 (by decide) (by decide) q1408 dX5_runs_25 ?_
        refine lv_iload hx hb dX5_runs_28 (lv_at hl 4 rfl) ?_
        obtain ⟨g_38, hf⟩ := bf_c_some hf
        refine bf_tld X hd 25 (by decide) g_38 dX5_runs_30 ?_
        refine lv_if_eq (tgt := 45) hx hb dX5_runs_31 (by decide) (fun c_39 => ?_) (fun c_39 => ?_)
        · have hf := bf_it hf c_39
          exact J45 v12_4 v12_5 T12 _ _ _ hf hd (lv_sub hl [0, 1, 2, 3, 4] rfl)
        · have hf := bf_ie hf c_39
          refine lv_aload_n hx hb dX5_runs_34 rfl (lv_at hl 0 rfl) ?_
          refine bf_tga X hd 25 (by decide) (by decide) q1408 dX5_runs_35 ?_
          refine lv_iload hx hb dX5_runs_38 (lv_at hl 4 rfl) ?_
          obtain ⟨g_40, hf⟩ := bf_c_some hf
          refine bf_tld X hd 25 (by decide) g_40 dX5_runs_40 ?_
          refine lv_iconst (v := 1) hx hb dX5_runs_41 (by decide) ?_
          refine lv_icmp_ne (tgt := 93) hx hb dX5_runs_42 (by decide) (fun c_41 => ?_) (fun c_41 => ?_)
          · have hf := bf_ie hf c_41
            refine lv_aload_n hx hb dX5_runs_93 rfl (lv_at hl 0 rfl) ?_
            refine bf_tga X hd 25 (by decide) (by decide) q1408 dX5_runs_94 ?_
            refine lv_iload hx hb dX5_runs_97 (lv_at hl 4 rfl) ?_
            obtain ⟨g_42, hf⟩ := bf_c_some hf
            refine bf_tld X hd 25 (by decide) g_42 dX5_runs_99 ?_
            refine lv_bipush (v := 9) hx hb dX5_runs_100 (by decide) ?_
            refine lv_icmp_ne (tgt := 128) hx hb dX5_runs_102 (by decide) (fun c_43 => ?_) (fun c_43 => ?_)
            · have hf := bf_ie hf c_43
              refine lv_iload hx hb dX5_runs_128 (lv_at hl 3 rfl) ?_
              refine lv_iconst (v := 1) hx hb dX5_runs_130 (by decide) ?_
              refine lv_isub hx hb dX5_runs_131 ?_
              obtain ⟨x4_44, ex4_44, hf⟩ := bf_l_e hf
              refine bf_top ex4_44 ?_
              refine lv_istore (lv' := [(4, .int x4_44), (0, .ref o), (1, .int x1), (3, .int x3), (5, .int v12_5)]) hx hb dX5_runs_132 hl (by decide) rfl (fun ls hl => ?_)
              refine lv_aload_n hx hb dX5_runs_134 rfl (lv_at hl 1 rfl) ?_
              refine bf_tga X hd 41 (by decide) (by decide) q1424 dX5_runs_135 ?_
              refine lv_iload hx hb dX5_runs_138 (lv_at hl 0 rfl) ?_
              refine lv_iconst (v := 1) hx hb dX5_runs_140 (by decide) ?_
              refine lv_isub hx hb dX5_runs_141 ?_
              refine lv_aload_n hx hb dX5_runs_142 rfl (lv_at hl 1 rfl) ?_
              refine lv_aload_n hx hb dX5_runs_143 rfl (lv_at hl 1 rfl) ?_
              refine bf_tga X hd 25 (by decide) (by decide) q1408 dX5_runs_144 ?_
              refine lv_iload hx hb dX5_runs_147 (lv_at hl 4 rfl) ?_
              obtain ⟨g_45, hf⟩ := bf_c_some hf
              refine bf_tld X hd 25 (by decide) g_45 dX5_runs_149 ?_
              refine lv_aload_n hx hb dX5_runs_150 rfl (lv_at hl 1 rfl) ?_
              refine bf_tga X hd 41 (by decide) (by decide) q1424 dX5_runs_151 ?_
              refine lv_iload hx hb dX5_runs_154 (lv_at hl 0 rfl) ?_
              refine lv_iconst (v := 1) hx hb dX5_runs_156 (by decide) ?_
              refine lv_isub hx hb dX5_runs_157 ?_
              obtain ⟨g_46, hf⟩ := bf_c_some hf
              refine bf_tld X hd 41 (by decide) g_46 dX5_runs_158 ?_
              refine lv_aload_n hx hb dX5_runs_159 rfl (lv_at hl 1 rfl) ?_
              refine bf_tga X hd 41 (by decide) (by decide) q1424 dX5_runs_160 ?_
              refine lv_iload hx hb dX5_runs_163 (lv_at hl 0 rfl) ?_
              obtain ⟨g_47, hf⟩ := bf_c_some hf
              refine bf_tld X hd 41 (by decide) g_47 dX5_runs_165 ?_
              obtain ⟨r_48, er_48, hf⟩ := bf_b_some hf
              refine bf_tci (n := 3) (As := [.int (T12 25 (v12_5).toNatClampNeg), .int (T12 41 (x4_44 - 1).toNatClampNeg), .int (T12 41 (x4_44).toNatClampNeg)]) (rest := [.int (x4_44 - 1), .ref (o + bf_to 41)]) X hd (mX5_twoOf l G σ o T12 (T12 25 (v12_5).toNatClampNeg) (T12 41 (x4_44 - 1).toNatClampNeg) (T12 41 (x4_44).toNatClampNeg) er_48) (lw_V q1828 q1830 qs111 q156 q1831) (by decide +kernel) ⟨Nat.le_of_ble_eq_true rfl, Nat.le_of_ble_eq_true rfl⟩ rfl hl.1 rfl (Nat.le_of_ble_eq_true rfl) dX5_runs_166 ⟨Nat.le_of_ble_eq_true rfl, Nat.le_of_ble_eq_true rfl⟩ (fun H locs hd => ?_)
              obtain ⟨g_49, hf⟩ := bf_c_some hf
              refine bf_tst X hd 41 (by decide) g_49 dX5_runs_169 (fun H locs hd => ?_)
              obtain ⟨T_50, eT_50, hf⟩ := bf_l_e hf
              have hd := hd.of (congrArg (bf_pT G σ o) eT_50.symm)
              exact J170 x4_44 v12_5 T_50 _ _ _ hf hd (lv_sub hl [1, 2, 3, 0, 4] rfl)
            · have hf := bf_it hf c_43
              refine lv_aload_n hx hb dX5_runs_105 rfl (lv_at hl 0 rfl) ?_
              refine bf_tga X hd 41 (by decide) (by decide) q1424 dX5_runs_106 ?_
              refine lv_iload hx hb dX5_runs_109 (lv_at hl 3 rfl) ?_
              refine lv_iconst (v := 1) hx hb dX5_runs_111 (by decide) ?_
              refine lv_isub hx hb dX5_runs_112 ?_
              refine lv_iconst (v := 1) hx hb dX5_runs_113 (by decide) ?_
              refine lv_aload_n hx hb dX5_runs_114 rfl (lv_at hl 0 rfl) ?_
              refine bf_tga X hd 41 (by decide) (by decide) q1424 dX5_runs_115 ?_
              refine lv_iload hx hb dX5_runs_118 (lv_at hl 3 rfl) ?_
              refine lv_iconst (v := 1) hx hb dX5_runs_120 (by decide) ?_
              refine lv_isub hx hb dX5_runs_121 ?_
              obtain ⟨g_51, hf⟩ := bf_c_some hf
              refine bf_tld X hd 41 (by decide) g_51 dX5_runs_122 ?_
              refine lv_isub hx hb dX5_runs_123 ?_
              obtain ⟨g_52, hf⟩ := bf_c_some hf
              refine bf_tst X hd 41 (by decide) g_52 dX5_runs_124 (fun H locs hd => ?_)
              obtain ⟨T_53, eT_53, hf⟩ := bf_l_e hf
              have hd := hd.of (congrArg (bf_pT G σ o) eT_53.symm)
              refine lv_goto (tgt := 170) hx hb dX5_runs_125 (by decide) ?_
              exact J170 v12_4 v12_5 T_53 _ _ _ hf hd (lv_sub hl [0, 1, 2, 3, 4] rfl)
          · have hf := bf_it hf c_41
            exact J45 v12_4 v12_5 T12 _ _ _ hf hd (lv_sub hl [0, 1, 2, 3, 4] rfl)
  unfold fX5_runs at hf
  refine lv_iconst (v := 0) hx hb dX5_runs_0 (by decide) ?_
  refine lv_istore (lv' := [(4, .int 0), (0, .ref o), (1, .int x1), (2, .int x2), (3, .int x3)]) hx hb dX5_runs_1 hl (by decide) rfl (fun ls hl => ?_)
  refine lv_sipush (v := 400) hx hb dX5_runs_3 (by decide) ?_
  refine lv_iload_n hx hb dX5_runs_6 rfl (lv_at hl 2 rfl) ?_
  refine lv_imul hx hb dX5_runs_7 ?_
  refine lv_iload_n hx hb dX5_runs_8 rfl (lv_at hl 3 rfl) ?_
  refine lv_iadd hx hb dX5_runs_9 ?_
  obtain ⟨x5_54, ex5_54, hf⟩ := bf_l_e hf
  refine bf_top ex5_54 ?_
  refine lv_istore (lv' := [(5, .int x5_54), (4, .int 0), (0, .ref o), (1, .int x1), (2, .int x2), (3, .int x3)]) hx hb dX5_runs_10 hl (by decide) rfl (fun ls hl => ?_)
  exact L12 bf_fuel 0 x5_54 T _ _ _ hf hd (lv_sub hl [2, 3, 5, 1, 0] rfl)
