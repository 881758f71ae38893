set_option maxRecDepth 100000
def fX5_votesInAll_4b (T : bf_TS) (k4 : Int32 → Int32 → Option (Int32)) (v4_1 : Int32) (v4_2 : Int32) : Option (Int32) := if (T 6 0) ≤ v4_2 then (some v4_1) else (bf_c (bf_in (5 + v4_2) 136) <| bf_l ((v4_1 + (T 1 (5 + v4_2).toNatClampNeg))) fun x1_3 => bf_l (v4_2 + 1) fun x2_4 => k4 x1_3 x2_4)
def fX5_votesInAll_4 (T : bf_TS) : Nat → Int32 → Int32 → Option (Int32)
  | 0, _, _ => none
  | n + 1, v4_1, v4_2 => fX5_votesInAll_4b T (fX5_votesInAll_4 T n) v4_1 v4_2
def fX5_votesInAll (T : bf_TS) : Option (Int32) := fX5_votesInAll_4 T bf_fuel 0 0
set_option maxHeartbeats 4000000 in
theorem mX5_votesInAll (l : Launch) (G : bf_G) (σ : bf_V) (o : Nat) (T : bf_TS) {r : Int32} (hf : fX5_votesInAll T = some r) : bf_MI l G yX5_votesInAll cX5_votesInAll 3 (bf_rm 0) [.ref o] (bf_pT G σ o T) (fun v σ' => v = r ∧ σ' = bf_pT G σ o T) := by
  refine bf_MI.of rfl (Nat.le_of_ble_eq_true rfl) ?_
  intro p e s m below meth c Q X hlk hnm kret hd ls hl
  have hx := X.1
  have hb := X.2.1
  have hown := X.2.2.2.1
  have hts := X.2.2.2.2
  have hl : lv_has ls 3 [(0, .ref o)] := hl
  have L4 : ∀ (n4 : Nat) (v4_1 : Int32) (v4_2 : Int32) (H : Heap) (locs : List Loc) (ls : Array Slot), fX5_votesInAll_4 T n4 v4_1 v4_2 = some r → bf_Dy G s H locs (bf_pT G σ o T) → lv_has ls 3 [(0, .ref o), (1, .int v4_1), (2, .int v4_2)] → W p l e (bf_rm 0) s m ([.ref o] : List Value).toArray below meth c H locs 0 0 Q (F0 m 4 ls []) := by
    intro n4
    induction n4 with
    | zero =>
      intro v4_1 v4_2 H locs ls hf hd hl
      exact absurd (show (none : Option (Int32)) = some r from hf) (by intro h; cases h)
    | succ n4 ih4 =>
      intro v4_1 v4_2 H locs ls hf hd hl
      have hf : fX5_votesInAll_4b T (fX5_votesInAll_4 T n4) v4_1 v4_2 = some r := hf
      unfold fX5_votesInAll_4b at hf
      refine lv_iload_n hx hb dX5_votesInAll_4 rfl (lv_at hl 2 rfl) ?_
      refine lv_aload_n hx hb dX5_votesInAll_5 rfl (lv_at hl 0 rfl) ?_
      refine bf_tgi X hd 6 (by decide) rfl q1389 dX5_votesInAll_6 ?_
      refine lv_icmp_ge (tgt := 29) hx hb dX5_votesInAll_9 (by decide) (fun c_5 => ?_) (fun c_5 => ?_)
      · have hf := bf_it hf c_5
        refine lv_iload_n hx hb dX5_votesInAll_29 rfl (lv_at hl 1 rfl) ?_
        exact kret _ _ _ _ _ _ ⟨bf_so hf, rfl⟩ hd dX5_votesInAll_30
      · have hf := bf_ie hf c_5
        refine lv_iload_n hx hb dX5_votesInAll_12 rfl (lv_at hl 1 rfl) ?_
        refine lv_aload_n hx hb dX5_votesInAll_13 rfl (lv_at hl 0 rfl) ?_
        refine bf_tga X hd 1 (by decide) (by decide) q1384 dX5_votesInAll_14 ?_
        refine lv_iconst (v := 5) hx hb dX5_votesInAll_17 (by decide) ?_
        refine lv_iload_n hx hb dX5_votesInAll_18 rfl (lv_at hl 2 rfl) ?_
        refine lv_iadd hx hb dX5_votesInAll_19 ?_
        obtain ⟨g_6, hf⟩ := bf_c_some hf
        refine bf_tld X hd 1 (by decide) g_6 dX5_votesInAll_20 ?_
        refine lv_iadd hx hb dX5_votesInAll_21 ?_
        obtain ⟨x1_7, ex1_7, hf⟩ := bf_l_e hf
        refine bf_top ex1_7 ?_
        refine lv_istore_n (lv' := [(1, .int x1_7), (0, .ref o), (2, .int v4_2)]) hx hb dX5_votesInAll_22 rfl hl (by decide) rfl (fun ls hl => ?_)
        obtain ⟨x2_8, ex2_8, hf⟩ := bf_l_e hf
        refine lv_iinc (v := x2_8) (lv' := [(2, .int x2_8), (1, .int x1_7), (0, .ref o)]) hx hb dX5_votesInAll_23 hl (k := 2) rfl (by rw [ex2_8]; rfl) (by decide) rfl (fun ls hl => ?_)
        refine lv_goto (tgt := 4) hx hb dX5_votesInAll_26 (by decide) ?_
        exact ih4 x1_7 x2_8 _ _ _ hf hd (lv_sub hl [2, 1, 0] rfl)
  unfold fX5_votesInAll at hf
  refine lv_iconst (v := 0) hx hb dX5_votesInAll_0 (by decide) ?_
  refine lv_istore_n (lv' := [(1, .int 0), (0, .ref o)]) hx hb dX5_votesInAll_1 rfl hl (by decide) rfl (fun ls hl => ?_)
  refine lv_iconst (v := 0) hx hb dX5_votesInAll_2 (by decide) ?_
  refine lv_istore_n (lv' := [(2, .int 0), (1, .int 0), (0, .ref o)]) hx hb dX5_votesInAll_3 rfl hl (by decide) rfl (fun ls hl => ?_)
  exact L4 bf_fuel 0 0 _ _ _ hf hd (lv_sub hl [2, 1, 0] rfl)
def fX5_isAhead (T : bf_TS) (x1 x2 : Int32) : Option (Int32) := bf_c (bf_in x1 5) <| bf_c (bf_in x2 5) <| if (T 47 (x2).toNatClampNeg) < (T 47 (x1).toNatClampNeg) then (some 1) else (bf_c (bf_in x1 5) <| bf_c (bf_in x2 5) <| if (T 47 (x1).toNatClampNeg) = (T 47 (x2).toNatClampNeg) then (bf_c (bf_in x1 5) <| bf_c (bf_in x2 5) <| if (T 46 (x1).toNatClampNeg) ≤ (T 46 (x2).toNatClampNeg) then (some 0) else (some 1)) else (some 0))
set_option maxHeartbeats 4000000 in
theorem mX5_isAhead (l : Launch) (G : bf_G) (σ : bf_V) (o : Nat) (T : bf_TS) (x1 x2 : Int32) {r : Int32} (hf : fX5_isAhead T x1 x2 = some r) : bf_MZ l G yX5_isAhead cX5_isAhead 3 (bf_rm 0) [.ref o, .int x1, .int x2] (bf_pT G σ o T) (fun v σ' => v = r ∧ σ' = bf_pT G σ o T) := by
  refine bf_MZ.of rfl (Nat.le_of_ble_eq_true rfl) ?_
  intro p e s m below meth c Q X hlk hnm kret hd ls hl
  have hx := X.1
  have hb := X.2.1
  have hown := X.2.2.2.1
  have hts := X.2.2.2.2
  have hl : lv_has ls 3 [(0, .ref o), (1, .int x1), (2, .int x2)] := hl
  unfold fX5_isAhead at hf
  refine lv_aload_n hx hb dX5_isAhead_0 rfl (lv_at hl 0 rfl) ?_
  refine bf_tga X hd 47 (by decide) (by decide) q1430 dX5_isAhead_1 ?_
  refine lv_iload_n hx hb dX5_isAhead_4 rfl (lv_at hl 1 rfl) ?_
  obtain ⟨g_10, hf⟩ := bf_c_some hf
  refine bf_tld X hd 47 (by decide) g_10 dX5_isAhead_5 ?_
  refine lv_aload_n hx hb dX5_isAhead_6 rfl (lv_at hl 0 rfl) ?_
  refine bf_tga X hd 47 (by decide) (by decide) q1430 dX5_isAhead_7 ?_
  refine lv_iload_n hx hb dX5_isAhead_10 rfl (lv_at hl 2 rfl) ?_
  obtain ⟨g_11, hf⟩ := bf_c_some hf
  refine bf_tld X hd 47 (by decide) g_11 dX5_isAhead_11 ?_
  refine lv_icmp_gt (tgt := 45) hx hb dX5_isAhead_12 (by decide) (fun c_12 => ?_) (fun c_12 => ?_)
  · have hf := bf_it hf c_12
    refine lv_iconst (v := 1) hx hb dX5_isAhead_45 (by decide) ?_
    refine lv_goto (tgt := 50) hx hb dX5_isAhead_46 (by decide) ?_
    exact kret _ _ _ _ _ _ ⟨bf_so hf, rfl⟩ (Or.inr rfl) hd dX5_isAhead_50
  · have hf := bf_ie hf c_12
    refine lv_aload_n hx hb dX5_isAhead_15 rfl (lv_at hl 0 rfl) ?_
    refine bf_tga X hd 47 (by decide) (by decide) q1430 dX5_isAhead_16 ?_
    refine lv_iload_n hx hb dX5_isAhead_19 rfl (lv_at hl 1 rfl) ?_
    obtain ⟨g_13, hf⟩ := bf_c_some hf
    refine bf_tld X hd 47 (by decide) g_13 dX5_isAhead_20 ?_
    refine lv_aload_n hx hb dX5_isAhead_21 rfl (lv_at hl 0 rfl) ?_
    refine bf_tga X hd 47 (by decide) (by decide) q1430 dX5_isAhead_22 ?_
    refine lv_iload_n hx hb dX5_isAhead_25 rfl (lv_at hl 2 rfl) ?_
    obtain ⟨g_14, hf⟩ := bf_c_some hf
    refine bf_tld X hd 47 (by decide) g_14 dX5_isAhead_26 ?_
    refine lv_icmp_ne (tgt := 49) hx hb dX5_isAhead_27 (by decide) (fun c_15 => ?_) (fun c_15 => ?_)
    · have hf := bf_ie hf c_15
      refine lv_iconst (v := 0) hx hb dX5_isAhead_49 (by decide) ?_
      exact kret _ _ _ _ _ _ ⟨bf_so hf, rfl⟩ (Or.inl rfl) hd dX5_isAhead_50
    · have hf := bf_it hf c_15
      refine lv_aload_n hx hb dX5_isAhead_30 rfl (lv_at hl 0 rfl) ?_
      refine bf_tga X hd 46 (by decide) (by decide) q1429 dX5_isAhead_31 ?_
      refine lv_iload_n hx hb dX5_isAhead_34 rfl (lv_at hl 1 rfl) ?_
      obtain ⟨g_16, hf⟩ := bf_c_some hf
      refine bf_tld X hd 46 (by decide) g_16 dX5_isAhead_35 ?_
      refine lv_aload_n hx hb dX5_isAhead_36 rfl (lv_at hl 0 rfl) ?_
      refine bf_tga X hd 46 (by decide) (by decide) q1429 dX5_isAhead_37 ?_
      refine lv_iload_n hx hb dX5_isAhead_40 rfl (lv_at hl 2 rfl) ?_
      obtain ⟨g_17, hf⟩ := bf_c_some hf
      refine bf_tld X hd 46 (by decide) g_17 dX5_isAhead_41 ?_
      refine lv_icmp_le (tgt := 49) hx hb dX5_isAhead_42 (by decide) (fun c_18 => ?_) (fun c_18 => ?_)
      · have hf := bf_it hf c_18
        refine lv_iconst (v := 0) hx hb dX5_isAhead_49 (by decide) ?_
        exact kret _ _ _ _ _ _ ⟨bf_so hf, rfl⟩ (Or.inl rfl) hd dX5_isAhead_50
      · have hf := bf_ie hf c_18
        refine lv_iconst (v := 1) hx hb dX5_isAhead_45 (by decide) ?_
        refine lv_goto (tgt := 50) hx hb dX5_isAhead_46 (by decide) ?_
        exact kret _ _ _ _ _ _ ⟨bf_so hf, rfl⟩ (Or.inr rfl) hd dX5_isAhead_50
def fX5_findsGiven_225 (k190 : Int32 → bf_TS → Option (bf_TS)) (u190_3 : Int32) (w225_4 : Int32) (T225 : bf_TS) : Option (bf_TS) := bf_l (w225_4 + 1) fun x4_35 => k190 x4_35 T225
def fX5_findsGiven_190b (u190_3 : Int32) (k190 : Int32 → bf_TS → Option (bf_TS)) (v190_4 : Int32) (T190 : bf_TS) : Option (bf_TS) := if (T190 6 0) ≤ v190_4 then (some T190) else (if (fX5_has u190_3 v190_4) = 0 then (fX5_findsGiven_225 k190 u190_3 v190_4 T190) else (bf_c (bf_in v190_4 5) <| bf_c (bf_in v190_4 5) <| bf_l (bf_u2 T190 46 (v190_4).toNatClampNeg ((T190 46 (v190_4).toNatClampNeg) + 1)) fun T_34 => fX5_findsGiven_225 k190 u190_3 v190_4 T_34))
def fX5_findsGiven_190 (u190_3 : Int32) : Nat → Int32 → bf_TS → Option (bf_TS)
  | 0, _, _ => none
  | n + 1, v190_4, T190 => fX5_findsGiven_190b u190_3 (fX5_findsGiven_190 u190_3 n) v190_4 T190
def fX5_findsGiven_187 (w187_3 : Int32) (T187 : bf_TS) : Option (bf_TS) := fX5_findsGiven_190 w187_3 bf_fuel 0 T187
def fX5_findsGiven_181 (k106 : Int32 → Int32 → bf_TS → Option (bf_TS)) (u106_1 : Int32) (u106_2 : Int32) (w181_3 : Int32) (w181_4 : Int32) (T181 : bf_TS) : Option (bf_TS) := bf_l (w181_4 + 1) fun x4_28 => k106 w181_3 x4_28 T181
def fX5_findsGiven_168 (k106 : Int32 → Int32 → bf_TS → Option (bf_TS)) (u106_1 : Int32) (u106_2 : Int32) (w168_3 : Int32) (w168_4 : Int32) (w168_5 : Int32) (T168 : bf_TS) : Option (bf_TS) := if w168_5 = (-1) then (fX5_findsGiven_181 k106 u106_1 u106_2 w168_3 w168_4 T168) else (bf_l ((w168_3 ||| (1 <<< (w168_5 &&& 31)))) fun x3_27 => fX5_findsGiven_181 k106 u106_1 u106_2 x3_27 w168_4 T168)
def fX5_findsGiven_162 (k106 : Int32 → Int32 → bf_TS → Option (bf_TS)) (k122 : Int32 → Int32 → bf_TS → Option (bf_TS)) (u106_1 : Int32) (u106_2 : Int32) (u122_3 : Int32) (u122_4 : Int32) (w162_5 : Int32) (w162_6 : Int32) (T162 : bf_TS) : Option (bf_TS) := bf_l (w162_6 + 1) fun x6_25 => k122 w162_5 x6_25 T162
def fX5_findsGiven_158 (k106 : Int32 → Int32 → bf_TS → Option (bf_TS)) (k122 : Int32 → Int32 → bf_TS → Option (bf_TS)) (u106_1 : Int32) (u106_2 : Int32) (u122_3 : Int32) (u122_4 : Int32) (w158_6 : Int32) (T158 : bf_TS) : Option (bf_TS) := fX5_findsGiven_162 k106 k122 u106_1 u106_2 u122_3 u122_4 w158_6 w158_6 T158
def fX5_findsGiven_122b (k106 : Int32 → Int32 → bf_TS → Option (bf_TS)) (u106_1 : Int32) (u106_2 : Int32) (u122_3 : Int32) (u122_4 : Int32) (k122 : Int32 → Int32 → bf_TS → Option (bf_TS)) (v122_5 : Int32) (v122_6 : Int32) (T122 : bf_TS) : Option (bf_TS) := if (T122 6 0) ≤ v122_6 then (fX5_findsGiven_168 k106 u106_1 u106_2 u122_3 u122_4 v122_5 T122) else (if (fX5_has u122_3 v122_6) = 0 then (if v122_5 = (-1) then (fX5_findsGiven_158 k106 k122 u106_1 u106_2 u122_3 u122_4 v122_6 T122) else (bf_b (fX5_isAhead T122 v122_6 v122_5) fun r_22 => if r_22 = 0 then (fX5_findsGiven_162 k106 k122 u106_1 u106_2 u122_3 u122_4 v122_5 v122_6 T122) else (fX5_findsGiven_158 k106 k122 u106_1 u106_2 u122_3 u122_4 v122_6 T122))) else (fX5_findsGiven_162 k106 k122 u106_1 u106_2 u122_3 u122_4 v122_5 v122_6 T122))
def fX5_findsGiven_122 (k106 : Int32 → Int32 → bf_TS → Option (bf_TS)) (u106_1 : Int32) (u106_2 : Int32) (u122_3 : Int32) (u122_4 : Int32) : Nat → Int32 → Int32 → bf_TS → Option (bf_TS)
  | 0, _, _, _ => none
  | n + 1, v122_5, v122_6, T122 => fX5_findsGiven_122b k106 u106_1 u106_2 u122_3 u122_4 (fX5_findsGiven_122 k106 u106_1 u106_2 u122_3 u122_4 n) v122_5 v122_6 T122
def fX5_findsGiven_106b (u106_1 : Int32) (u106_2 : Int32) (k106 : Int32 → Int32 → bf_TS → Option (bf_TS)) (v106_3 : Int32) (v106_4 : Int32) (T106 : bf_TS) : Option (bf_TS) := if u106_2 ≤ v106_4 then (fX5_findsGiven_187 v106_3 T106) else (if u106_1 ≤ 0 then (fX5_findsGiven_187 v106_3 T106) else (fX5_findsGiven_122 k106 u106_1 u106_2 v106_3 v106_4 bf_fuel (-1) 0 T106))
def fX5_findsGiven_106 (u106_1 : Int32) (u106_2 : Int32) : Nat → Int32 → Int32 → bf_TS → Option (bf_TS)
  | 0, _, _, _ => none
  | n + 1, v106_3, v106_4, T106 => fX5_findsGiven_106b u106_1 u106_2 (fX5_findsGiven_106 u106_1 u106_2 n) v106_3 v106_4 T106
def fX5_findsGiven_101 (w101_1 : Int32) (w101_2 : Int32) (T101 : bf_TS) : Option (bf_TS) := fX5_findsGiven_106 w101_1 w101_2 bf_fuel 0 0 T101
def fX5_findsGiven_85 (k12 : Int32 → Int32 → bf_TS → Option (bf_TS)) (u12_1 : Int32) (w85_2 : Int32) (w85_3 : Int32) (t85_0 : Int32) (t85_1 : Int32) (T85 : bf_TS) : Option (bf_TS) := bf_c (bf_in t85_1 5) <| bf_l (bf_u2 T85 47 (t85_1).toNatClampNeg t85_0) fun T_12 => bf_c (bf_in w85_3 5) <| bf_l ((w85_2 - (T_12 46 (w85_3).toNatClampNeg))) fun x2_14 => bf_l (w85_3 + 1) fun x3_15 => k12 x2_14 x3_15 T_12
def fX5_findsGiven_56 (k12 : Int32 → Int32 → bf_TS → Option (bf_TS)) (u12_1 : Int32) (w56_2 : Int32) (w56_3 : Int32) (t56_0 : Int32) (t56_1 : Int32) (T56 : bf_TS) : Option (bf_TS) := bf_c (bf_in t56_1 5) <| bf_l (bf_u2 T56 46 (t56_1).toNatClampNeg t56_0) fun T_7 => if u12_1 = 0 then (fX5_findsGiven_85 k12 u12_1 w56_2 w56_3 0 w56_3 T_7) else (bf_c (bf_in (5 + w56_3) 136) <| bf_c (bf_nz u12_1) <| fX5_findsGiven_85 k12 u12_1 w56_2 w56_3 (((T_7 1 (5 + w56_3).toNatClampNeg) * (fX5_chairs T_7)) - ((T_7 1 (5 + w56_3).toNatClampNeg) * (fX5_chairs T_7)) / u12_1 * u12_1) w56_3 T_7)
def fX5_findsGiven_12b (u12_1 : Int32) (k12 : Int32 → Int32 → bf_TS → Option (bf_TS)) (v12_2 : Int32) (v12_3 : Int32) (T12 : bf_TS) : Option (bf_TS) := if (T12 6 0) ≤ v12_3 then (fX5_findsGiven_101 u12_1 v12_2 T12) else (if u12_1 = 0 then (bf_c (bf_in (10 + v12_3) 136) <| fX5_findsGiven_56 k12 u12_1 v12_2 v12_3 (T12 1 (10 + v12_3).toNatClampNeg) v12_3 T12) else (bf_c (bf_in (5 + v12_3) 136) <| bf_c (bf_nz u12_1) <| fX5_findsGiven_56 k12 u12_1 v12_2 v12_3 (((T12 1 (5 + v12_3).toNatClampNeg) * (fX5_chairs T12)) / u12_1) v12_3 T12))
def fX5_findsGiven_12 (u12_1 : Int32) : Nat → Int32 → Int32 → bf_TS → Option (bf_TS)
  | 0, _, _, _ => none
  | n + 1, v12_2, v12_3, T12 => fX5_findsGiven_12b u12_1 (fX5_findsGiven_12 u12_1 n) v12_2 v12_3 T12
def fX5_findsGiven (T : bf_TS) : Option (bf_TS) := bf_b (fX5_votesInAll T) fun r_36 => bf_l ((fX5_chairs T)) fun x2_37 => fX5_findsGiven_12 r_36 bf_fuel x2_37 0 T
set_option maxHeartbeats 4000000 in
theorem mX5_findsGiven (l : Launch) (G : bf_G) (σ : bf_V) (o : Nat) (T : bf_TS) {T' : bf_TS} (hf : fX5_findsGiven T = some T') : bf_MV l G yX5_findsGiven cX5_findsGiven 7 (bf_rm 1) [.ref o] (bf_pT G σ o T) (fun σ' => σ' = bf_pT G σ o T') := by
  refine bf_MV.of rfl (Nat.le_of_ble_eq_true rfl) ?_
  intro p e s m below meth c Q X hlk hnm kret hd ls hl
  have hx := X.1
  have hb := X.2.1
  have hown := X.2.2.2.1
  have hts := X.2.2.2.2
  have hl : lv_has ls 7 [(0, .ref o)] := hl
  have L190 : ∀ (u190_3 : Int32) (n190 : Nat) (v190_4 : Int32) (T190 : bf_TS) (H : Heap) (locs : List Loc) (ls : Array Slot), fX5_findsGiven_190 u190_3 n190 v190_4 T190 = some T' → bf_Dy G s H locs (bf_pT G σ o T190) → lv_has ls 7 [(0, .ref o), (3, .int u190_3), (4, .int v190_4)] → W p l e (bf_rm 1) s m ([.ref o] : List Value).toArray below meth c H locs 0 0 Q (F0 m 190 ls []) := by
    intro u190_3 n190
    induction n190 with
    | zero =>
      intro v190_4 T190 H locs ls hf hd hl
      exact absurd (show (none : Option (bf_TS)) = some T' from hf) (by intro h; cases h)
    | succ n190 ih190 =>
      intro v190_4 T190 H locs ls hf hd hl
      have hf : fX5_findsGiven_190b u190_3 (fX5_findsGiven_190 u190_3 n190) v190_4 T190 = some T' := hf
      unfold fX5_findsGiven_190b at hf
      have J225 : ∀ (w225_4 : Int32) (T225 : bf_TS) (H : Heap) (locs : List Loc) (ls : Array Slot), fX5_findsGiven_225 (fX5_findsGiven_190 u190_3 n190) u190_3 w225_4 T225 = some T' → bf_Dy G s H locs (bf_pT G σ o T225) → lv_has ls 7 [(0, .ref o), (3, .int u190_3), (4, .int w225_4)] → W p l e (bf_rm 1) s m ([.ref o] : List Value).toArray below meth c H locs 0 0 Q (F0 m 225 ls []) := by
        intro w225_4 T225 H locs ls hf hd hl
        unfold fX5_findsGiven_225 at hf
        obtain ⟨x4_38, ex4_38, hf⟩ := bf_l_e hf
        refine lv_iinc (v := x4_38) (lv' := [(4, .int x4_38), (0, .ref o), (3, .int u190_3)]) hx hb dX5_findsGiven_225 hl (k := 2) rfl (by rw [ex4_38]; rfl) (by decide) rfl (fun ls hl => ?_)
        refine lv_goto (tgt := 190) hx hb dX5_findsGiven_228 (by decide) ?_
        exact ih190 x4_38 T225 _ _ _ hf hd (lv_sub hl [1, 2, 0] rfl)
      refine lv_iload hx hb dX5_findsGiven_190 (lv_at hl 2 rfl) ?_
      refine lv_aload_n hx hb dX5_findsGiven_192 rfl (lv_at hl 0 rfl) ?_
      refine bf_tgi X hd 6 (by decide) rfl q1389 dX5_findsGiven_193 ?_
      refine lv_icmp_ge (tgt := 231) hx hb dX5_findsGiven_196 (by decide) (fun c_39 => ?_) (fun c_39 => ?_)
      · have hf := bf_it hf c_39
        exact kret _ _ _ _ _ (congrArg (bf_pT G σ o) (bf_so hf)) hd dX5_findsGiven_231
      · have hf := bf_ie hf c_39
        refine lv_aload_n hx hb dX5_findsGiven_199 rfl (lv_at hl 0 rfl) ?_
        refine lv_iload_n hx hb dX5_findsGiven_200 rfl (lv_at hl 1 rfl) ?_
        refine lv_iload hx hb dX5_findsGiven_201 (lv_at hl 2 rfl) ?_
        refine bf_tcz (n := 2) (As := [.int u190_3, .int v190_4]) (rest := []) X hd (mX5_has l G σ o T190 u190_3 v190_4 rfl) (lw_V q1776 q1778 qs100 q156 q1779) (by decide +kernel) ⟨Nat.le_of_ble_eq_true rfl, Nat.le_of_ble_eq_true rfl⟩ rfl hl.1 rfl (Nat.le_of_ble_eq_true rfl) dX5_findsGiven_203 ⟨Nat.le_of_ble_eq_true rfl, Nat.le_of_ble_eq_true rfl⟩ (fun H locs z_40 hd => ?_)
        refine lv_if_eq (tgt := 225) hx hb dX5_findsGiven_206 (by decide) (fun c_41 => ?_) (fun c_41 => ?_)
        · have hf := bf_it hf c_41
          exact J225 v190_4 T190 _ _ _ hf hd (lv_sub hl [0, 1, 2] rfl)
        · have hf := bf_ie hf c_41
          refine lv_aload_n hx hb dX5_findsGiven_209 rfl (lv_at hl 0 rfl) ?_
          refine bf_tga X hd 46 (by decide) (by decide) q1429 dX5_findsGiven_210 ?_
          refine lv_iload hx hb dX5_findsGiven_213 (lv_at hl 2 rfl) ?_
          refine lv_aload_n hx hb dX5_findsGiven_215 rfl (lv_at hl 0 rfl) ?_
          refine bf_tga X hd 46 (by decide) (by decide) q1429 dX5_findsGiven_216 ?_
          refine lv_iload hx hb dX5_findsGiven_219 (lv_at hl 2 rfl) ?_
          obtain ⟨g_42, hf⟩ := bf_c_some hf
          refine bf_tld X hd 46 (by decide) g_42 dX5_findsGiven_221 ?_
          refine lv_iconst (v := 1) hx hb dX5_findsGiven_222 (by decide) ?_
          refine lv_iadd hx hb dX5_findsGiven_223 ?_
          obtain ⟨g_43, hf⟩ := bf_c_some hf
          refine bf_tst X hd 46 (by decide) g_43 dX5_findsGiven_224 (fun H locs hd => ?_)
          obtain ⟨T_44, eT_44, hf⟩ := bf_l_e hf
          have hd := hd.of (congrArg (bf_pT G σ o) eT_44.symm)
          exact J225 v190_4 T_44 _ _ _ hf hd (lv_sub hl [0, 1, 2] rfl)
  have J187 : ∀ (w187_3 : Int32) (T187 : bf_TS) (H : Heap) (locs : List Loc) (ls : Array Slot), fX5_findsGiven_187 w187_3 T187 = some T' → bf_Dy G s H locs (bf_pT G σ o T187) → lv_has ls 7 [(0, .ref o), (3, .int w187_3)] → W p l e (bf_rm 1) s m ([.ref o] : List Value).toArray below meth c H locs 0 0 Q (F0 m 187 ls []) := by
    intro w187_3 T187 H locs ls hf hd hl
    unfold fX5_findsGiven_187 at hf
    refine lv_iconst (v := 0) hx hb dX5_findsGiven_187 (by decide) ?_
    refine lv_istore (lv' := [(4, .int 0), (0, .ref o), (3, .int w187_3)]) hx hb dX5_findsGiven_188 hl (by decide) rfl (fun ls hl => ?_)
    exact L190 w187_3 bf_fuel 0 T187 _ _ _ hf hd (lv_sub hl [1, 2, 0] rfl)
  have L106 : ∀ (u106_1 : Int32) (u106_2 : Int32) (n106 : Nat) (v106_3 : Int32) (v106_4 : Int32) (T106 : bf_TS) (H : Heap) (locs : List Loc) (ls : Array Slot), fX5_findsGiven_106 u106_1 u106_2 n106 v106_3 v106_4 T106 = some T' → bf_Dy G s H locs (bf_pT G σ o T106) → lv_has ls 7 [(0, .ref o), (1, .int u106_1), (2, .int u106_2), (3, .int v106_3), (4, .int v106_4)] → W p l e (bf_rm 1) s m ([.ref o] : List Value).toArray below meth c H locs 0 0 Q (F0 m 106 ls []) := by
    intro u106_1 u106_2 n106
    induction n106 with
    | zero =>
      intro v106_3 v106_4 T106 H locs ls hf hd hl
      exact absurd (show (none : Option (bf_TS)) = some T' from hf) (by intro h; cases h)
    | succ n106 ih106 =>
      intro v106_3 v106_4 T106 H locs ls hf hd hl
      have hf : fX5_findsGiven_106b u106_1 u106_2 (fX5_findsGiven_106 u106_1 u106_2 n106) v106_3 v106_4 T106 = some T' := hf
      unfold fX5_findsGiven_106b at hf
      have J181 : ∀ (w181_3 : Int32) (w181_4 : Int32) (T181 : bf_TS) (H : Heap) (locs : List Loc) (ls : Array Slot), fX5_findsGiven_181 (fX5_findsGiven_106 u106_1 u106_2 n106) u106_1 u106_2 w181_3 w181_4 T181 = some T' → bf_Dy G s H locs (bf_pT G σ o T181) → lv_has ls 7 [(0, .ref o), (1, .int u106_1), (2, .int u106_2), (3, .int w181_3), (4, .int w181_4)] → W p l e (bf_rm 1) s m ([.ref o] : List Value).toArray below meth c H locs 0 0 Q (F0 m 181 ls []) := by
        intro w181_3 w181_4 T181 H locs ls hf hd hl
        unfold fX5_findsGiven_181 at hf
        obtain ⟨x4_45, ex4_45, hf⟩ := bf_l_e hf
        refine lv_iinc (v := x4_45) (lv' := [(4, .int x4_45), (0, .ref o), (1, .int u106_1), (2, .int u106_2), (3, .int w181_3)]) hx hb dX5_findsGiven_181 hl (k := 4) rfl (by rw [ex4_45]; rfl) (by decide) rfl (fun ls hl => ?_)
        refine lv_goto (tgt := 106) hx hb dX5_findsGiven_184 (by decide) ?_
        exact ih106 w181_3 x4_45 T181 _ _ _ hf hd (lv_sub hl [1, 2, 3, 4, 0] rfl)
      have J168 : ∀ (w168_3 : Int32) (w168_4 : Int32) (w168_5 : Int32) (T168 : bf_TS) (H : Heap) (locs : List Loc) (ls : Array Slot), fX5_findsGiven_168 (fX5_findsGiven_106 u106_1 u106_2 n106) u106_1 u106_2 w168_3 w168_4 w168_5 T168 = some T' → bf_Dy G s H locs (bf_pT G σ o T168) → lv_has ls 7 [(0, .ref o), (1, .int u106_1), (2, .int u106_2), (3, .int w168_3), (4, .int w168_4), (5, .int w168_5)] → W p l e (bf_rm 1) s m ([.ref o] : List Value).toArray below meth c H locs 0 0 Q (F0 m 168 ls []) := by
        intro w168_3 w168_4 w168_5 T168 H locs ls hf hd hl
        unfold fX5_findsGiven_168 at hf
        refine lv_iload hx hb dX5_findsGiven_168 (lv_at hl 5 rfl) ?_
        refine lv_iconst (v := (-1)) hx hb dX5_findsGiven_170 (by decide) ?_
        refine lv_icmp_eq (tgt := 181) hx hb dX5_findsGiven_171 (by decide) (fun c_46 => ?_) (fun c_46 => ?_)
        · have hf := bf_it hf c_46
          exact J181 w168_3 w168_4 T168 _ _ _ hf hd (lv_sub hl [0, 1, 2, 3, 4] rfl)
        · have hf := bf_ie hf c_46
          refine lv_iload_n hx hb dX5_findsGiven_174 rfl (lv_at hl 3 rfl) ?_
          refine lv_iconst (v := 1) hx hb dX5_findsGiven_175 (by decide) ?_
          refine lv_iload hx hb dX5_findsGiven_176 (lv_at hl 5 rfl) ?_
          refine lv_ishl hx hb dX5_findsGiven_178 ?_
          refine lv_ior hx hb dX5_findsGiven_179 ?_
          obtain ⟨x3_47, ex3_47, hf⟩ := bf_l_e hf
          refine bf_top ex3_47 ?_
          refine lv_istore_n (lv' := [(3, .int x3_47), (0, .ref o), (1, .int u106_1), (2, .int u106_2), (4, .int w168_4), (5, .int w168_5)]) hx hb dX5_findsGiven_180 rfl hl (by decide) rfl (fun ls hl => ?_)
          exact J181 x3_47 w168_4 T168 _ _ _ hf hd (lv_sub hl [1, 2, 3, 0, 4] rfl)
      have L122 : ∀ (u122_3 : Int32) (u122_4 : Int32) (n122 : Nat) (v122_5 : Int32) (v122_6 : Int32) (T122 : bf_TS) (H : Heap) (locs : List Loc) (ls : Array Slot), fX5_findsGiven_122 (fX5_findsGiven_106 u106_1 u106_2 n106) u106_1 u106_2 u122_3 u122_4 n122 v122_5 v122_6 T122 = some T' → bf_Dy G s H locs (bf_pT G σ o T122) → lv_has ls 7 [(0, .ref o), (1, .int u106_1), (2, .int u106_2), (3, .int u122_3), (4, .int u122_4), (5, .int v122_5), (6, .int v122_6)] → W p l e (bf_rm 1) s m ([.ref o] : List Value).toArray below meth c H locs 0 0 Q (F0 m 122 ls []) := by
        intro u122_3 u122_4 n122
        induction n122 with
        | zero =>
          intro v122_5 v122_6 T122 H locs ls hf hd hl
          exact absurd (show (none : Option (bf_TS)) = some T' from hf) (by intro h; cases h)
        | succ n122 ih122 =>
          intro v122_5 v122_6 T122 H locs ls hf hd hl
          have hf : fX5_findsGiven_122b (fX5_findsGiven_106 u106_1 u106_2 n106) u106_1 u106_2 u122_3 u122_4 (fX5_findsGiven_122 (fX5_findsGiven_106 u106_1 u106_2 n106) u106_1 u106_2 u122_3 u122_4 n122) v122_5 v122_6 T122 = some T' := hf
          unfold fX5_findsGiven_122b at hf
          have J162 : ∀ (w162_5 : Int32) (w162_6 : Int32) (T162 : bf_TS) (H : Heap) (locs : List Loc) (ls : Array Slot), fX5_findsGiven_162 (fX5_findsGiven_106 u106_1 u106_2 n106) (fX5_findsGiven_122 (fX5_findsGiven_106 u106_1 u106_2 n106) u106_1 u106_2 u122_3 u122_4 n122) u106_1 u106_2 u122_3 u122_4 w162_5 w162_6 T162 = some T' → bf_Dy G s H locs (bf_pT G σ o T162) → lv_has ls 7 [(0, .ref o), (1, .int u106_1), (2, .int u106_2), (3, .int u122_3), (4, .int u122_4), (5, .int w162_5), (6, .int w162_6)] → W p l e (bf_rm 1) s m ([.ref o] : List Value).toArray below meth c H locs 0 0 Q (F0 m 162 ls []) := by
            intro w162_5 w162_6 T162 H locs ls hf hd hl
            unfold fX5_findsGiven_162 at hf
            obtain ⟨x6_48, ex6_48, hf⟩ := bf_l_e hf
            refine lv_iinc (v := x6_48) (lv' := [(6, .int x6_48), (0, .ref o), (1, .int u106_1), (2, .int u106_2), (3, .int u122_3), (4, .int u122_4), (5, .int w162_5)]) hx hb dX5_findsGiven_162 hl (k := 6) rfl (by rw [ex6_48]; rfl) (by decide) rfl (fun ls hl => ?_)
            refine lv_goto (tgt := 122) hx hb dX5_findsGiven_165 (by decide) ?_
            exact ih122 w162_5 x6_48 T162 _ _ _ hf hd (lv_sub hl [1, 2, 3, 4, 5, 6, 0] rfl)
          have J158 : ∀ (w158_6 : Int32) (T158 : bf_TS) (H : Heap) (locs : List Loc) (ls : Array Slot), fX5_findsGiven_158 (fX5_findsGiven_106 u106_1 u106_2 n106) (fX5_findsGiven_122 (fX5_findsGiven_106 u106_1 u106_2 n106) u106_1 u106_2 u122_3 u122_4 n122) u106_1 u106_2 u122_3 u122_4 w158_6 T158 = some T' → bf_Dy G s H locs (bf_pT G σ o T158) → lv_has ls 7 [(0, .ref o), (1, .int u106_1), (2, .int u106_2), (3, .int u122_3), (4, .int u122_4), (6, .int w158_6)] → W p l e (bf_rm 1) s m ([.ref o] : List Value).toArray below meth c H locs 0 0 Q (F0 m 158 ls []) := by
            intro w158_6 T158 H locs ls hf hd hl
            unfold fX5_findsGiven_158 at hf
            refine lv_iload hx hb dX5_findsGiven_158 (lv_at hl 5 rfl) ?_
            refine lv_istore (lv' := [(5, .int w158_6), (0, .ref o), (1, .int u106_1), (2, .int u106_2), (3, .int u122_3), (4, .int u122_4), (6, .int w158_6)]) hx hb dX5_findsGiven_160 hl (by decide) rfl (fun ls hl => ?_)
            exact J162 w158_6 w158_6 T158 _ _ _ hf hd (lv_sub hl [1, 2, 3, 4, 5, 0, 6] rfl)
          refine lv_iload hx hb dX5_findsGiven_122 (lv_at hl 6 rfl) ?_
          refine lv_aload_n hx hb dX5_findsGiven_124 rfl (lv_at hl 0 rfl) ?_
          refine bf_tgi X hd 6 (by decide) rfl q1389 dX5_findsGiven_125 ?_
          refine lv_icmp_ge (tgt := 168) hx hb dX5_findsGiven_128 (by decide) (fun c_49 => ?_) (fun c_49 => ?_)
          · have hf := bf_it hf c_49
            exact J168 u122_3 u122_4 v122_5 T122 _ _ _ hf hd (lv_sub hl [0, 1, 2, 3, 4, 5] rfl)
          · have hf := bf_ie hf c_49
            refine lv_aload_n hx hb dX5_findsGiven_131 rfl (lv_at hl 0 rfl) ?_
            refine lv_iload_n hx hb dX5_findsGiven_132 rfl (lv_at hl 3 rfl) ?_
            refine lv_iload hx hb dX5_findsGiven_133 (lv_at hl 6 rfl) ?_
            refine bf_tcz (n := 2) (As := [.int u122_3, .int v122_6]) (rest := []) X hd (mX5_has l G σ o T122 u122_3 v122_6 rfl) (lw_V q1776 q1778 qs100 q156 q1779) (by decide +kernel) ⟨Nat.le_of_ble_eq_true rfl, Nat.le_of_ble_eq_true rfl⟩ rfl hl.1 rfl (Nat.le_of_ble_eq_true rfl) dX5_findsGiven_135 ⟨Nat.le_of_ble_eq_true rfl, Nat.le_of_ble_eq_true rfl⟩ (fun H locs z_50 hd => ?_)
            refine lv_if_ne (tgt := 162) hx hb dX5_findsGiven_138 (by decide) (fun c_51 => ?_) (fun c_51 => ?_)
            · have hf := bf_ie hf c_51
              exact J162 v122_5 v122_6 T122 _ _ _ hf hd (lv_sub hl [0, 1, 2, 3, 4, 5, 6] rfl)
            · have hf := bf_it hf c_51
              refine lv_iload hx hb dX5_findsGiven_141 (lv_at hl 5 rfl) ?_
              refine lv_iconst (v := (-1)) hx hb dX5_findsGiven_143 (by decide) ?_
              refine lv_icmp_eq (tgt := 158) hx hb dX5_findsGiven_144 (by decide) (fun c_52 => ?_) (fun c_52 => ?_)
              · have hf := bf_it hf c_52
                exact J158 v122_6 T122 _ _ _ hf hd (lv_sub hl [0, 1, 2, 3, 4, 6] rfl)
              · have hf := bf_ie hf c_52
                refine lv_aload_n hx hb dX5_findsGiven_147 rfl (lv_at hl 0 rfl) ?_
                refine lv_iload hx hb dX5_findsGiven_148 (lv_at hl 6 rfl) ?_
                refine lv_iload hx hb dX5_findsGiven_150 (lv_at hl 5 rfl) ?_
                obtain ⟨r_53, er_53, hf⟩ := bf_b_some hf
                refine bf_tcz (n := 2) (As := [.int v122_6, .int v122_5]) (rest := []) X hd (mX5_isAhead l G σ o T122 v122_6 v122_5 er_53) (lw_V q1902 q1904 qs129 q156 q1905) (by decide +kernel) ⟨Nat.le_of_ble_eq_true rfl, Nat.le_of_ble_eq_true rfl⟩ rfl hl.1 rfl (Nat.le_of_ble_eq_true rfl) dX5_findsGiven_152 ⟨Nat.le_of_ble_eq_true rfl, Nat.le_of_ble_eq_true rfl⟩ (fun H locs z_54 hd => ?_)
                refine lv_if_eq (tgt := 162) hx hb dX5_findsGiven_155 (by decide) (fun c_55 => ?_) (fun c_55 => ?_)
                · have hf := bf_it hf c_55
                  exact J162 v122_5 v122_6 T122 _ _ _ hf hd (lv_sub hl [0, 1, 2, 3, 4, 5, 6] rfl)
                · have hf := bf_ie hf c_55
                  exact J158 v122_6 T122 _ _ _ hf hd (lv_sub hl [0, 1, 2, 3, 4, 6] rfl)
      refine lv_iload hx hb dX5_findsGiven_106 (lv_at hl 4 rfl) ?_
      refine lv_iload_n hx hb dX5_findsGiven_108 rfl (lv_at hl 2 rfl) ?_
      refine lv_icmp_ge (tgt := 187) hx hb dX5_findsGiven_109 (by decide) (fun c_56 => ?_) (fun c_56 => ?_)
      · have hf := bf_it hf c_56
        exact J187 v106_3 T106 _ _ _ hf hd (lv_sub hl [0, 3] rfl)
      · have hf := bf_ie hf c_56
        refine lv_iload_n hx hb dX5_findsGiven_112 rfl (lv_at hl 1 rfl) ?_
        refine lv_if_le (tgt := 187) hx hb dX5_findsGiven_113 (by decide) (fun c_57 => ?_) (fun c_57 => ?_)
        · have hf := bf_it hf c_57
          exact J187 v106_3 T106 _ _ _ hf hd (lv_sub hl [0, 3] rfl)
        · have hf := bf_ie hf c_57
          refine lv_iconst (v := (-1)) hx hb dX5_findsGiven_116 (by decide) ?_
          refine lv_istore (lv' := [(5, .int (-1)), (0, .ref o), (1, .int u106_1), (2, .int u106_2), (3, .int v106_3), (4, .int v106_4)]) hx hb dX5_findsGiven_117 hl (by decide) rfl (fun ls hl => ?_)
          refine lv_iconst (v := 0) hx hb dX5_findsGiven_119 (by decide) ?_
          refine lv_istore (lv' := [(6, .int 0), (5, .int (-1)), (0, .ref o), (1, .int u106_1), (2, .int u106_2), (3, .int v106_3), (4, .int v106_4)]) hx hb dX5_findsGiven_120 hl (by decide) rfl (fun ls hl => ?_)
          exact L122 v106_3 v106_4 bf_fuel (-1) 0 T106 _ _ _ hf hd (lv_sub hl [2, 3, 4, 5, 6, 1, 0] rfl)
  have J101 : ∀ (w101_1 : Int32) (w101_2 : Int32) (T101 : bf_TS) (H : Heap) (locs : List Loc) (ls : Array Slot), fX5_findsGiven_101 w101_1 w101_2 T101 = some T' → bf_Dy G s H locs (bf_pT G σ o T101) → lv_has ls 7 [(0, .ref o), (1, .int w101_1), (2, .int w101_2)] → W p l e (bf_rm 1) s m ([.ref o] : List Value).toArray below meth c H locs 0 0 Q (F0 m 101 ls []) := by
    intro w101_1 w101_2 T101 H locs ls hf hd hl
    unfold fX5_findsGiven_101 at hf
    refine lv_iconst (v := 0) hx hb dX5_findsGiven_101 (by decide) ?_
    refine lv_istore_n (lv' := [(3, .int 0), (0, .ref o), (1, .int w101_1), (2, .int w101_2)]) hx hb dX5_findsGiven_102 rfl hl (by decide) rfl (fun ls hl => ?_)
    refine lv_iconst (v := 0) hx hb dX5_findsGiven_103 (by decide) ?_
    refine lv_istore (lv' := [(4, .int 0), (3, .int 0), (0, .ref o), (1, .int w101_1), (2, .int w101_2)]) hx hb dX5_findsGiven_104 hl (by decide) rfl (fun ls hl => ?_)
    exact L106 w101_1 w101_2 bf_fuel 0 0 T101 _ _ _ hf hd (lv_sub hl [2, 3, 4, 1, 0] rfl)
  have L12 : ∀ (u12_1 : Int32) (n12 : Nat) (v12_2 : Int32) (v12_3 : Int32) (T12 : bf_TS) (H : Heap) (locs : List Loc) (ls : Array Slot), fX5_findsGiven_12 u12_1 n12 v12_2 v12_3 T12 = some T' → bf_Dy G s H locs (bf_pT G σ o T12) → lv_has ls 7 [(0, .ref o), (1, .int u12_1), (2, .int v12_2), (3, .int v12_3)] → W p l e (bf_rm 1) s m ([.ref o] : List Value).toArray below meth c H locs 0 0 Q (F0 m 12 ls []) := by
    intro u12_1 n12
    induction n12 with
    | zero =>
      intro v12_2 v12_3 T12 H locs ls hf hd hl
      exact absurd (show (none : Option (bf_TS)) = some T' from hf) (by intro h; cases h)
    | succ n12 ih12 =>
      intro v12_2 v12_3 T12 H locs ls hf hd hl
      have hf : fX5_findsGiven_12b u12_1 (fX5_findsGiven_12 u12_1 n12) v12_2 v12_3 T12 = some T' := hf
      unfold fX5_findsGiven_12b at hf
      have J85 : ∀ (w85_2 : Int32) (w85_3 : Int32) (t85_0 : Int32) (t85_1 : Int32) (T85 : bf_TS) (H : Heap) (locs : List Loc) (ls : Array Slot), fX5_findsGiven_85 (fX5_findsGiven_12 u12_1 n12) u12_1 w85_2 w85_3 t85_0 t85_1 T85 = some T' → bf_Dy G s H locs (bf_pT G σ o T85) → lv_has ls 7 [(0, .ref o), (1, .int u12_1), (2, .int w85_2), (3, .int w85_3)] → W p l e (bf_rm 1) s m ([.ref o] : List Value).toArray below meth c H locs 0 0 Q (F0 m 85 ls [.int t85_0, .int t85_1, .ref (o + bf_to 47)]) := by
        intro w85_2 w85_3 t85_0 t85_1 T85 H locs ls hf hd hl
        unfold fX5_findsGiven_85 at hf
        obtain ⟨g_58, hf⟩ := bf_c_some hf
        refine bf_tst X hd 47 (by decide) g_58 dX5_findsGiven_85 (fun H locs hd => ?_)
        obtain ⟨T_59, eT_59, hf⟩ := bf_l_e hf
        have hd := hd.of (congrArg (bf_pT G σ o) eT_59.symm)
        refine lv_iload_n hx hb dX5_findsGiven_86 rfl (lv_at hl 2 rfl) ?_
        refine lv_aload_n hx hb dX5_findsGiven_87 rfl (lv_at hl 0 rfl) ?_
        refine bf_tga X hd 46 (by decide) (by decide) q1429 dX5_findsGiven_88 ?_
        refine lv_iload_n hx hb dX5_findsGiven_91 rfl (lv_at hl 3 rfl) ?_
        obtain ⟨g_60, hf⟩ := bf_c_some hf
        refine bf_tld X hd 46 (by decide) g_60 dX5_findsGiven_92 ?_
        refine lv_isub hx hb dX5_findsGiven_93 ?_
        obtain ⟨x2_61, ex2_61, hf⟩ := bf_l_e hf
        refine bf_top ex2_61 ?_
        refine lv_istore_n (lv' := [(2, .int x2_61), (0, .ref o), (1, .int u12_1), (3, .int w85_3)]) hx hb dX5_findsGiven_94 rfl hl (by decide) rfl (fun ls hl => ?_)
        obtain ⟨x3_62, ex3_62, hf⟩ := bf_l_e hf
        refine lv_iinc (v := x3_62) (lv' := [(3, .int x3_62), (2, .int x2_61), (0, .ref o), (1, .int u12_1)]) hx hb dX5_findsGiven_95 hl (k := 3) rfl (by rw [ex3_62]; rfl) (by decide) rfl (fun ls hl => ?_)
        refine lv_goto (tgt := 12) hx hb dX5_findsGiven_98 (by decide) ?_
        exact ih12 x2_61 x3_62 T_59 _ _ _ hf hd (lv_sub hl [2, 3, 1, 0] rfl)
      have J56 : ∀ (w56_2 : Int32) (w56_3 : Int32) (t56_0 : Int32) (t56_1 : Int32) (T56 : bf_TS) (H : Heap) (locs : List Loc) (ls : Array Slot), fX5_findsGiven_56 (fX5_findsGiven_12 u12_1 n12) u12_1 w56_2 w56_3 t56_0 t56_1 T56 = some T' → bf_Dy G s H locs (bf_pT G σ o T56) → lv_has ls 7 [(0, .ref o), (1, .int u12_1), (2, .int w56_2), (3, .int w56_3)] → W p l e (bf_rm 1) s m ([.ref o] : List Value).toArray below meth c H locs 0 0 Q (F0 m 56 ls [.int t56_0, .int t56_1, .ref (o + bf_to 46)]) := by
        intro w56_2 w56_3 t56_0 t56_1 T56 H locs ls hf hd hl
        unfold fX5_findsGiven_56 at hf
        obtain ⟨g_63, hf⟩ := bf_c_some hf
        refine bf_tst X hd 46 (by decide) g_63 dX5_findsGiven_56 (fun H locs hd => ?_)
        obtain ⟨T_64, eT_64, hf⟩ := bf_l_e hf
        have hd := hd.of (congrArg (bf_pT G σ o) eT_64.symm)
        refine lv_aload_n hx hb dX5_findsGiven_57 rfl (lv_at hl 0 rfl) ?_
        refine bf_tga X hd 47 (by decide) (by decide) q1430 dX5_findsGiven_58 ?_
        refine lv_iload_n hx hb dX5_findsGiven_61 rfl (lv_at hl 3 rfl) ?_
        refine lv_iload_n hx hb dX5_findsGiven_62 rfl (lv_at hl 1 rfl) ?_
        refine lv_if_ne (tgt := 70) hx hb dX5_findsGiven_63 (by decide) (fun c_65 => ?_) (fun c_65 => ?_)
        · have hf := bf_ie hf c_65
          refine lv_aload_n hx hb dX5_findsGiven_70 rfl (lv_at hl 0 rfl) ?_
          refine bf_tga X hd 1 (by decide) (by decide) q1384 dX5_findsGiven_71 ?_
          refine lv_iconst (v := 5) hx hb dX5_findsGiven_74 (by decide) ?_
          refine lv_iload_n hx hb dX5_findsGiven_75 rfl (lv_at hl 3 rfl) ?_
          refine lv_iadd hx hb dX5_findsGiven_76 ?_
          obtain ⟨g_66, hf⟩ := bf_c_some hf
          refine bf_tld X hd 1 (by decide) g_66 dX5_findsGiven_77 ?_
          refine lv_aload_n hx hb dX5_findsGiven_78 rfl (lv_at hl 0 rfl) ?_
          refine bf_tci (n := 0) (As := []) (rest := [.int (T_64 1 (5 + w56_3).toNatClampNeg), .int w56_3, .ref (o + bf_to 47)]) X hd (mX5_chairs l G σ o T_64 rfl) (lw_V q1898 q1900 qs128 q156 q1901) (by decide +kernel) ⟨Nat.le_of_ble_eq_true rfl, Nat.le_of_ble_eq_true rfl⟩ rfl hl.1 rfl (Nat.le_of_ble_eq_true rfl) dX5_findsGiven_79 ⟨Nat.le_of_ble_eq_true rfl, Nat.le_of_ble_eq_true rfl⟩ (fun H locs hd => ?_)
          refine lv_imul hx hb dX5_findsGiven_82 ?_
          refine lv_iload_n hx hb dX5_findsGiven_83 rfl (lv_at hl 1 rfl) ?_
          obtain ⟨g_67, hf⟩ := bf_c_some hf
          refine lv_irem hx hb dX5_findsGiven_84 (bf_nz_t g_67) ?_
          exact J85 w56_2 w56_3 (((T_64 1 (5 + w56_3).toNatClampNeg) * (fX5_chairs T_64)) - ((T_64 1 (5 + w56_3).toNatClampNeg) * (fX5_chairs T_64)) / u12_1 * u12_1) w56_3 T_64 _ _ _ hf hd (lv_sub hl [0, 1, 2, 3] rfl)
        · have hf := bf_it hf c_65
          refine lv_iconst (v := 0) hx hb dX5_findsGiven_66 (by decide) ?_
          refine lv_goto (tgt := 85) hx hb dX5_findsGiven_67 (by decide) ?_
          exact J85 w56_2 w56_3 0 w56_3 T_64 _ _ _ hf hd (lv_sub hl [0, 1, 2, 3] rfl)
      refine lv_iload_n hx hb dX5_findsGiven_12 rfl (lv_at hl 3 rfl) ?_
      refine lv_aload_n hx hb dX5_findsGiven_13 rfl (lv_at hl 0 rfl) ?_
      refine bf_tgi X hd 6 (by decide) rfl q1389 dX5_findsGiven_14 ?_
      refine lv_icmp_ge (tgt := 101) hx hb dX5_findsGiven_17 (by decide) (fun c_68 => ?_) (fun c_68 => ?_)
      · have hf := bf_it hf c_68
        exact J101 u12_1 v12_2 T12 _ _ _ hf hd (lv_sub hl [0, 1, 2] rfl)
      · have hf := bf_ie hf c_68
        refine lv_aload_n hx hb dX5_findsGiven_20 rfl (lv_at hl 0 rfl) ?_
        refine bf_tga X hd 46 (by decide) (by decide) q1429 dX5_findsGiven_21 ?_
        refine lv_iload_n hx hb dX5_findsGiven_24 rfl (lv_at hl 3 rfl) ?_
        refine lv_iload_n hx hb dX5_findsGiven_25 rfl (lv_at hl 1 rfl) ?_
        refine lv_if_ne (tgt := 41) hx hb dX5_findsGiven_26 (by decide) (fun c_69 => ?_) (fun c_69 => ?_)
        · have hf := bf_ie hf c_69
          refine lv_aload_n hx hb dX5_findsGiven_41 rfl (lv_at hl 0 rfl) ?_
          refine bf_tga X hd 1 (by decide) (by decide) q1384 dX5_findsGiven_42 ?_
          refine lv_iconst (v := 5) hx hb dX5_findsGiven_45 (by decide) ?_
          refine lv_iload_n hx hb dX5_findsGiven_46 rfl (lv_at hl 3 rfl) ?_
          refine lv_iadd hx hb dX5_findsGiven_47 ?_
          obtain ⟨g_70, hf⟩ := bf_c_some hf
          refine bf_tld X hd 1 (by decide) g_70 dX5_findsGiven_48 ?_
          refine lv_aload_n hx hb dX5_findsGiven_49 rfl (lv_at hl 0 rfl) ?_
          refine bf_tci (n := 0) (As := []) (rest := [.int (T12 1 (5 + v12_3).toNatClampNeg), .int v12_3, .ref (o + bf_to 46)]) X hd (mX5_chairs l G σ o T12 rfl) (lw_V q1898 q1900 qs128 q156 q1901) (by decide +kernel) ⟨Nat.le_of_ble_eq_true rfl, Nat.le_of_ble_eq_true rfl⟩ rfl hl.1 rfl (Nat.le_of_ble_eq_true rfl) dX5_findsGiven_50 ⟨Nat.le_of_ble_eq_true rfl, Nat.le_of_ble_eq_true rfl⟩ (fun H locs hd => ?_)
          refine lv_imul hx hb dX5_findsGiven_53 ?_
          refine lv_iload_n hx hb dX5_findsGiven_54 rfl (lv_at hl 1 rfl) ?_
          obtain ⟨g_71, hf⟩ := bf_c_some hf
          refine lv_idiv hx hb dX5_findsGiven_55 (bf_nz_t g_71) ?_
          exact J56 v12_2 v12_3 (((T12 1 (5 + v12_3).toNatClampNeg) * (fX5_chairs T12)) / u12_1) v12_3 T12 _ _ _ hf hd (lv_sub hl [0, 1, 2, 3] rfl)
        · have hf := bf_it hf c_69
          refine lv_aload_n hx hb dX5_findsGiven_29 rfl (lv_at hl 0 rfl) ?_
          refine bf_tga X hd 1 (by decide) (by decide) q1384 dX5_findsGiven_30 ?_
          refine lv_bipush (v := 10) hx hb dX5_findsGiven_33 (by decide) ?_
          refine lv_iload_n hx hb dX5_findsGiven_35 rfl (lv_at hl 3 rfl) ?_
          refine lv_iadd hx hb dX5_findsGiven_36 ?_
          obtain ⟨g_72, hf⟩ := bf_c_some hf
          refine bf_tld X hd 1 (by decide) g_72 dX5_findsGiven_37 ?_
          refine lv_goto (tgt := 56) hx hb dX5_findsGiven_38 (by decide) ?_
          exact J56 v12_2 v12_3 (T12 1 (10 + v12_3).toNatClampNeg) v12_3 T12 _ _ _ hf hd (lv_sub hl [0, 1, 2, 3] rfl)
  unfold fX5_findsGiven at hf
  refine lv_aload_n hx hb dX5_findsGiven_0 rfl (lv_at hl 0 rfl) ?_
  obtain ⟨r_73, er_73, hf⟩ := bf_b_some hf
  refine bf_tci (n := 0) (As := []) (rest := []) X hd (mX5_votesInAll l G σ o T er_73) (lw_V q1894 q1896 qs127 q156 q1897) (by decide +kernel) ⟨Nat.le_of_ble_eq_true rfl, Nat.le_of_ble_eq_true rfl⟩ rfl hl.1 rfl (Nat.le_of_ble_eq_true rfl) dX5_findsGiven_1 ⟨Nat.le_of_ble_eq_true rfl, Nat.le_of_ble_eq_true rfl⟩ (fun H locs hd => ?_)
  refine lv_istore_n (lv' := [(1, .int r_73), (0, .ref o)]) hx hb dX5_findsGiven_4 rfl hl (by decide) rfl (fun ls hl => ?_)
  refine lv_aload_n hx hb dX5_findsGiven_5 rfl (lv_at hl 1 rfl) ?_
  refine bf_tci (n := 0) (As := []) (rest := []) X hd (mX5_chairs l G σ o T rfl) (lw_V q1898 q1900 qs128 q156 q1901) (by decide +kernel) ⟨Nat.le_of_ble_eq_true rfl, Nat.le_of_ble_eq_true rfl⟩ rfl hl.1 rfl (Nat.le_of_ble_eq_true rfl) dX5_findsGiven_6 ⟨Nat.le_of_ble_eq_true rfl, Nat.le_of_ble_eq_true rfl⟩ (fun H locs hd => ?_)
  obtain ⟨x2_74, ex2_74, hf⟩ := bf_l_e hf
  refine bf_top ex2_74 ?_
  refine lv_istore_n (lv' := [(2, .int x2_74), (1, .int r_73), (0, .ref o)]) hx hb dX5_findsGiven_9 rfl hl (by decide) rfl (fun ls hl => ?_)
  refine lv_iconst (v := 0) hx hb dX5_findsGiven_10 (by decide) ?_
  refine lv_istore_n (lv' := [(3, .int 0), (2, .int x2_74), (1, .int r_73), (0, .ref o)]) hx hb dX5_findsGiven_11 rfl hl (by decide) rfl (fun ls hl => ?_)
  exact L12 r_73 bf_fuel x2_74 0 T _ _ _ hf hd (lv_sub hl [3, 2, 1, 0] rfl)
def fX5_strongest_46 (T : bf_TS) (k15 : Int32 → Int32 → Option (Int32)) (w46_1 : Int32) (w46_2 : Int32) : Option (Int32) := bf_l (w46_2 + 1) fun x2_5 => k15 w46_1 x2_5
def fX5_strongest_15b (T : bf_TS) (k15 : Int32 → Int32 → Option (Int32)) (v15_1 : Int32) (v15_2 : Int32) : Option (Int32) := if (T 6 0) ≤ v15_2 then (some v15_1) else (bf_c (bf_in (10 + v15_2) 136) <| bf_c (bf_in (10 + v15_1) 136) <| if (T 1 (10 + v15_2).toNatClampNeg) ≤ (T 1 (10 + v15_1).toNatClampNeg) then (fX5_strongest_46 T k15 v15_1 v15_2) else (fX5_strongest_46 T k15 v15_2 v15_2))
def fX5_strongest_15 (T : bf_TS) : Nat → Int32 → Int32 → Option (Int32)
  | 0, _, _ => none
  | n + 1, v15_1, v15_2 => fX5_strongest_15b T (fX5_strongest_15 T n) v15_1 v15_2
def fX5_strongest_12 (T : bf_TS) (t12_0 : Int32) : Option (Int32) := fX5_strongest_15 T bf_fuel t12_0 1
def fX5_strongest (T : bf_TS) : Option (Int32) := if (T 6 0) ≤ 0 then (fX5_strongest_12 T (-1)) else (fX5_strongest_12 T 0)
set_option maxHeartbeats 4000000 in
theorem mX5_strongest (l : Launch) (G : bf_G) (σ : bf_V) (o : Nat) (T : bf_TS) {r : Int32} (hf : fX5_strongest T = some r) : bf_MI l G yX5_strongest cX5_strongest 3 (bf_rm 0) [.ref o] (bf_pT G σ o T) (fun v σ' => v = r ∧ σ' = bf_pT G σ o T) := by
  refine bf_MI.of rfl (Nat.le_of_ble_eq_true rfl) ?_
  intro p e s m below meth c Q X hlk hnm kret hd ls hl
  have hx := X.1
  have hb := X.2.1
  have hown := X.2.2.2.1
  have hts := X.2.2.2.2
  have hl : lv_has ls 3 [(0, .ref o)] := hl
  have L15 : ∀ (n15 : Nat) (v15_1 : Int32) (v15_2 : Int32) (H : Heap) (locs : List Loc) (ls : Array Slot), fX5_strongest_15 T n15 v15_1 v15_2 = some r → bf_Dy G s H locs (bf_pT G σ o T) → lv_has ls 3 [(0, .ref o), (1, .int v15_1), (2, .int v15_2)] → W p l e (bf_rm 0) s m ([.ref o] : List Value).toArray below meth c H locs 0 0 Q (F0 m 15 ls []) := by
    intro n15
    induction n15 with
    | zero =>
      intro v15_1 v15_2 H locs ls hf hd hl
      exact absurd (show (none : Option (Int32)) = some r from hf) (by intro h; cases h)
    | succ n15 ih15 =>
      intro v15_1 v15_2 H locs ls hf hd hl
      have hf : fX5_strongest_15b T (fX5_strongest_15 T n15) v15_1 v15_2 = some r := hf
      unfold fX5_strongest_15b at hf
      have J46 : ∀ (w46_1 : Int32) (w46_2 : Int32) (H : Heap) (locs : List Loc) (ls : Array Slot), fX5_strongest_46 T (fX5_strongest_15 T n15) w46_1 w46_2 = some r → bf_Dy G s H locs (bf_pT G σ o T) → lv_has ls 3 [(0, .ref o), (1, .int w46_1), (2, .int w46_2)] → W p l e (bf_rm 0) s m ([.ref o] : List Value).toArray below meth c H locs 0 0 Q (F0 m 46 ls []) := by
        intro w46_1 w46_2 H locs ls hf hd hl
        unfold fX5_strongest_46 at hf
        obtain ⟨x2_7, ex2_7, hf⟩ := bf_l_e hf
        refine lv_iinc (v := x2_7) (lv' := [(2, .int x2_7), (0, .ref o), (1, .int w46_1)]) hx hb dX5_strongest_46 hl (k := 2) rfl (by rw [ex2_7]; rfl) (by decide) rfl (fun ls hl => ?_)
        refine lv_goto (tgt := 15) hx hb dX5_strongest_49 (by decide) ?_
        exact ih15 w46_1 x2_7 _ _ _ hf hd (lv_sub hl [1, 2, 0] rfl)
      refine lv_iload_n hx hb dX5_strongest_15 rfl (lv_at hl 2 rfl) ?_
      refine lv_aload_n hx hb dX5_strongest_16 rfl (lv_at hl 0 rfl) ?_
      refine bf_tgi X hd 6 (by decide) rfl q1389 dX5_strongest_17 ?_
      refine lv_icmp_ge (tgt := 52) hx hb dX5_strongest_20 (by decide) (fun c_8 => ?_) (fun c_8 => ?_)
      · have hf := bf_it hf c_8
        refine lv_iload_n hx hb dX5_strongest_52 rfl (lv_at hl 1 rfl) ?_
        exact kret _ _ _ _ _ _ ⟨bf_so hf, rfl⟩ hd dX5_strongest_53
      · have hf := bf_ie hf c_8
        refine lv_aload_n hx hb dX5_strongest_23 rfl (lv_at hl 0 rfl) ?_
        refine bf_tga X hd 1 (by decide) (by decide) q1384 dX5_strongest_24 ?_
        refine lv_bipush (v := 10) hx hb dX5_strongest_27 (by decide) ?_
        refine lv_iload_n hx hb dX5_strongest_29 rfl (lv_at hl 2 rfl) ?_
        refine lv_iadd hx hb dX5_strongest_30 ?_
        obtain ⟨g_9, hf⟩ := bf_c_some hf
        refine bf_tld X hd 1 (by decide) g_9 dX5_strongest_31 ?_
        refine lv_aload_n hx hb dX5_strongest_32 rfl (lv_at hl 0 rfl) ?_
        refine bf_tga X hd 1 (by decide) (by decide) q1384 dX5_strongest_33 ?_
        refine lv_bipush (v := 10) hx hb dX5_strongest_36 (by decide) ?_
        refine lv_iload_n hx hb dX5_strongest_38 rfl (lv_at hl 1 rfl) ?_
        refine lv_iadd hx hb dX5_strongest_39 ?_
        obtain ⟨g_10, hf⟩ := bf_c_some hf
        refine bf_tld X hd 1 (by decide) g_10 dX5_strongest_40 ?_
        refine lv_icmp_le (tgt := 46) hx hb dX5_strongest_41 (by decide) (fun c_11 => ?_) (fun c_11 => ?_)
        · have hf := bf_it hf c_11
          exact J46 v15_1 v15_2 _ _ _ hf hd (lv_sub hl [0, 1, 2] rfl)
        · have hf := bf_ie hf c_11
          refine lv_iload_n hx hb dX5_strongest_44 rfl (lv_at hl 2 rfl) ?_
          refine lv_istore_n (lv' := [(1, .int v15_2), (0, .ref o), (2, .int v15_2)]) hx hb dX5_strongest_45 rfl hl (by decide) rfl (fun ls hl => ?_)
          exact J46 v15_2 v15_2 _ _ _ hf hd (lv_sub hl [1, 0, 2] rfl)
  have J12 : ∀ (t12_0 : Int32) (H : Heap) (locs : List Loc) (ls : Array Slot), fX5_strongest_12 T t12_0 = some r → bf_Dy G s H locs (bf_pT G σ o T) → lv_has ls 3 [(0, .ref o)] → W p l e (bf_rm 0) s m ([.ref o] : List Value).toArray below meth c H locs 0 0 Q (F0 m 12 ls [.int t12_0]) := by
    intro t12_0 H locs ls hf hd hl
    unfold fX5_strongest_12 at hf
    refine lv_istore_n (lv' := [(1, .int t12_0), (0, .ref o)]) hx hb dX5_strongest_12 rfl hl (by decide) rfl (fun ls hl => ?_)
    refine lv_iconst (v := 1) hx hb dX5_strongest_13 (by decide) ?_
    refine lv_istore_n (lv' := [(2, .int 1), (1, .int t12_0), (0, .ref o)]) hx hb dX5_strongest_14 rfl hl (by decide) rfl (fun ls hl => ?_)
    exact L15 bf_fuel t12_0 1 _ _ _ hf hd (lv_sub hl [2, 1, 0] rfl)
  unfold fX5_strongest at hf
  refine lv_aload_n hx hb dX5_strongest_0 rfl (lv_at hl 0 rfl) ?_
  refine bf_tgi X hd 6 (by decide) rfl q1389 dX5_strongest_1 ?_
  refine lv_if_le (tgt := 11) hx hb dX5_strongest_4 (by decide) (fun c_12 => ?_) (fun c_12 => ?_)
  · have hf := bf_it hf c_12
    refine lv_iconst (v := (-1)) hx hb dX5_strongest_11 (by decide) ?_
    exact J12 (-1) _ _ _ hf hd (lv_sub hl [0] rfl)
  · have hf := bf_ie hf c_12
    refine lv_iconst (v := 0) hx hb dX5_strongest_7 (by decide) ?_
    refine lv_goto (tgt := 12) hx hb dX5_strongest_8 (by decide) ?_
    exact J12 0 _ _ _ hf hd (lv_sub hl [0] rfl)
def fX5_elects_71 (t71_0 : Int32) (t71_1 : Int32) (t71_2 : Int32) (T71 : bf_TS) : Option (bf_TS) := bf_b (fX5_notes T71 t71_2 t71_1 t71_0) fun T_11 => some T_11
def fX5_elects_44 (T44 : bf_TS) : Option (bf_TS) := bf_b (fX5_strongest T44) fun r_8 => if r_8 = (-1) then (fX5_elects_71 0 r_8 7 T44) else (bf_c (bf_in (10 + r_8) 136) <| fX5_elects_71 (T44 1 (10 + r_8).toNatClampNeg) r_8 7 T44)
def fX5_elects_6b (k6 : Int32 → bf_TS → Option (bf_TS)) (v6_1 : Int32) (T6 : bf_TS) : Option (bf_TS) := if (T6 6 0) ≤ v6_1 then (fX5_elects_44 T6) else (bf_c (bf_in v6_1 5) <| bf_c (bf_in (10 + v6_1) 136) <| bf_l (bf_u2 T6 1 (10 + v6_1).toNatClampNeg (T6 46 (v6_1).toNatClampNeg)) fun T_4 => bf_c (bf_in (5 + v6_1) 136) <| bf_l (bf_u2 T_4 1 (5 + v6_1).toNatClampNeg 0) fun T_6 => bf_l (v6_1 + 1) fun x1_7 => k6 x1_7 T_6)
def fX5_elects_6  : Nat → Int32 → bf_TS → Option (bf_TS)
  | 0, _, _ => none
  | n + 1, v6_1, T6 => fX5_elects_6b (fX5_elects_6 n) v6_1 T6
def fX5_elects (T : bf_TS) : Option (bf_TS) := bf_b (fX5_findsGiven T) fun T_12 => fX5_elects_6 bf_fuel 0 T_12
set_option maxHeartbeats 4000000 in
theorem mX5_elects (l : Launch) (G : bf_G) (σ : bf_V) (o : Nat) (T : bf_TS) {T' : bf_TS} (hf : fX5_elects T = some T') : bf_MV l G yX5_elects cX5_elects 2 (bf_rm 2) [.ref o] (bf_pT G σ o T) (fun σ' => σ' = bf_pT G σ o T') := by
  refine bf_MV.of rfl (Nat.le_of_ble_eq_true rfl) ?_
  intro p e s m below meth c Q X hlk hnm kret hd ls hl
  have hx := X.1
  have hb := X.2.1
  have hown := X.2.2.2.1
  have hts := X.2.2.2.2
  have hl : lv_has ls 2 [(0, .ref o)] := hl
  have J71 : ∀ (t71_0 : Int32) (t71_1 : Int32) (t71_2 : Int32) (T71 : bf_TS) (H : Heap) (locs : List Loc) (ls : Array Slot), fX5_elects_71 t71_0 t71_1 t71_2 T71 = some T' → bf_Dy G s H locs (bf_pT G σ o T71) → lv_has ls 2 [] → W p l e (bf_rm 2) s m ([.ref o] : List Value).toArray below meth c H locs 0 0 Q (F0 m 71 ls [.int t71_0, .int t71_1, .int t71_2, .ref o]) := by
    intro t71_0 t71_1 t71_2 T71 H locs ls hf hd hl
    unfold fX5_elects_71 at hf
    obtain ⟨T_13, eT_13, hf⟩ := bf_b_some hf
    refine bf_tcv (n := 3) (As := [.int t71_2, .int t71_1, .int t71_0]) (rest := []) X hd (mX5_notes l G σ o T71 t71_2 t71_1 t71_0 eT_13) (lw_V q1764 q1766 qs98 q156 q1767) (by decide +kernel) ⟨Nat.le_of_ble_eq_true rfl, Nat.le_of_ble_eq_true rfl⟩ rfl hl.1 rfl (Nat.le_of_ble_eq_true rfl) dX5_elects_71 ⟨Nat.le_of_ble_eq_true rfl, Nat.le_of_ble_eq_true rfl⟩ (fun H locs hd => ?_)
    exact kret _ _ _ _ _ (congrArg (bf_pT G σ o) (bf_so hf)) hd dX5_elects_74
  have J44 : ∀ (T44 : bf_TS) (H : Heap) (locs : List Loc) (ls : Array Slot), fX5_elects_44 T44 = some T' → bf_Dy G s H locs (bf_pT G σ o T44) → lv_has ls 2 [(0, .ref o)] → W p l e (bf_rm 2) s m ([.ref o] : List Value).toArray below meth c H locs 0 0 Q (F0 m 44 ls []) := by
    intro T44 H locs ls hf hd hl
    unfold fX5_elects_44 at hf
    refine lv_aload_n hx hb dX5_elects_44 rfl (lv_at hl 0 rfl) ?_
    obtain ⟨r_14, er_14, hf⟩ := bf_b_some hf
    refine bf_tci (n := 0) (As := []) (rest := []) X hd (mX5_strongest l G σ o T44 er_14) (lw_V q1906 q1908 qs130 q156 q1909) (by decide +kernel) ⟨Nat.le_of_ble_eq_true rfl, Nat.le_of_ble_eq_true rfl⟩ rfl hl.1 rfl (Nat.le_of_ble_eq_true rfl) dX5_elects_45 ⟨Nat.le_of_ble_eq_true rfl, Nat.le_of_ble_eq_true rfl⟩ (fun H locs hd => ?_)
    refine lv_istore_n (lv' := [(1, .int r_14), (0, .ref o)]) hx hb dX5_elects_48 rfl hl (by decide) rfl (fun ls hl => ?_)
    refine lv_aload_n hx hb dX5_elects_49 rfl (lv_at hl 1 rfl) ?_
    refine lv_bipush (v := 7) hx hb dX5_elects_50 (by decide) ?_
    refine lv_iload_n hx hb dX5_elects_52 rfl (lv_at hl 0 rfl) ?_
    refine lv_iload_n hx hb dX5_elects_53 rfl (lv_at hl 0 rfl) ?_
    refine lv_iconst (v := (-1)) hx hb dX5_elects_54 (by decide) ?_
    refine lv_icmp_ne (tgt := 62) hx hb dX5_elects_55 (by decide) (fun c_15 => ?_) (fun c_15 => ?_)
    · have hf := bf_ie hf c_15
      refine lv_aload_n hx hb dX5_elects_62 rfl (lv_at hl 1 rfl) ?_
      refine bf_tga X hd 1 (by decide) (by decide) q1384 dX5_elects_63 ?_
      refine lv_bipush (v := 10) hx hb dX5_elects_66 (by decide) ?_
      refine lv_iload_n hx hb dX5_elects_68 rfl (lv_at hl 0 rfl) ?_
      refine lv_iadd hx hb dX5_elects_69 ?_
      obtain ⟨g_16, hf⟩ := bf_c_some hf
      refine bf_tld X hd 1 (by decide) g_16 dX5_elects_70 ?_
      exact J71 (T44 1 (10 + r_14).toNatClampNeg) r_14 7 T44 _ _ _ hf hd (lv_sub hl [] rfl)
    · have hf := bf_it hf c_15
      refine lv_iconst (v := 0) hx hb dX5_elects_58 (by decide) ?_
      refine lv_goto (tgt := 71) hx hb dX5_elects_59 (by decide) ?_
      exact J71 0 r_14 7 T44 _ _ _ hf hd (lv_sub hl [] rfl)
  have L6 : ∀ (n6 : Nat) (v6_1 : Int32) (T6 : bf_TS) (H : Heap) (locs : List Loc) (ls : Array Slot), fX5_elects_6 n6 v6_1 T6 = some T' → bf_Dy G s H locs (bf_pT G σ o T6) → lv_has ls 2 [(0, .ref o), (1, .int v6_1)] → W p l e (bf_rm 2) s m ([.ref o] : List Value).toArray below meth c H locs 0 0 Q (F0 m 6 ls []) := by
    intro n6
    induction n6 with
    | zero =>
      intro v6_1 T6 H locs ls hf hd hl
      exact absurd (show (none : Option (bf_TS)) = some T' from hf) (by intro h; cases h)
    | succ n6 ih6 =>
      intro v6_1 T6 H locs ls hf hd hl
      have hf : fX5_elects_6b (fX5_elects_6 n6) v6_1 T6 = some T' := hf
      unfold fX5_elects_6b at hf
      refine lv_iload_n hx hb dX5_elects_6 rfl (lv_at hl 1 rfl) ?_
      refine lv_aload_n hx hb dX5_elects_7 rfl (lv_at hl 0 rfl) ?_
      refine bf_tgi X hd 6 (by decide) rfl q1389 dX5_elects_8 ?_
      refine lv_icmp_ge (tgt := 44) hx hb dX5_elects_11 (by decide) (fun c_17 => ?_) (fun c_17 => ?_)
      · have hf := bf_it hf c_17
        exact J44 T6 _ _ _ hf hd (lv_sub hl [0] rfl)
      · have hf := bf_ie hf c_17
        refine lv_aload_n hx hb dX5_elects_14 rfl (lv_at hl 0 rfl) ?_
        refine bf_tga X hd 1 (by decide) (by decide) q1384 dX5_elects_15 ?_
        refine lv_bipush (v := 10) hx hb dX5_elects_18 (by decide) ?_
        refine lv_iload_n hx hb dX5_elects_20 rfl (lv_at hl 1 rfl) ?_
        refine lv_iadd hx hb dX5_elects_21 ?_
        refine lv_aload_n hx hb dX5_elects_22 rfl (lv_at hl 0 rfl) ?_
        refine bf_tga X hd 46 (by decide) (by decide) q1429 dX5_elects_23 ?_
        refine lv_iload_n hx hb dX5_elects_26 rfl (lv_at hl 1 rfl) ?_
        obtain ⟨g_18, hf⟩ := bf_c_some hf
        refine bf_tld X hd 46 (by decide) g_18 dX5_elects_27 ?_
        obtain ⟨g_19, hf⟩ := bf_c_some hf
        refine bf_tst X hd 1 (by decide) g_19 dX5_elects_28 (fun H locs hd => ?_)
        obtain ⟨T_20, eT_20, hf⟩ := bf_l_e hf
        have hd := hd.of (congrArg (bf_pT G σ o) eT_20.symm)
        refine lv_aload_n hx hb dX5_elects_29 rfl (lv_at hl 0 rfl) ?_
        refine bf_tga X hd 1 (by decide) (by decide) q1384 dX5_elects_30 ?_
        refine lv_iconst (v := 5) hx hb dX5_elects_33 (by decide) ?_
        refine lv_iload_n hx hb dX5_elects_34 rfl (lv_at hl 1 rfl) ?_
        refine lv_iadd hx hb dX5_elects_35 ?_
        refine lv_iconst (v := 0) hx hb dX5_elects_36 (by decide) ?_
        obtain ⟨g_21, hf⟩ := bf_c_some hf
        refine bf_tst X hd 1 (by decide) g_21 dX5_elects_37 (fun H locs hd => ?_)
        obtain ⟨T_22, eT_22, hf⟩ := bf_l_e hf
        have hd := hd.of (congrArg (bf_pT G σ o) eT_22.symm)
        obtain ⟨x1_23, ex1_23, hf⟩ := bf_l_e hf
        refine lv_iinc (v := x1_23) (lv' := [(1, .int x1_23), (0, .ref o)]) hx hb dX5_elects_38 hl (k := 1) rfl (by rw [ex1_23]; rfl) (by decide) rfl (fun ls hl => ?_)
        refine lv_goto (tgt := 6) hx hb dX5_elects_41 (by decide) ?_
        exact ih6 x1_23 T_22 _ _ _ hf hd (lv_sub hl [1, 0] rfl)
  unfold fX5_elects at hf
  refine lv_aload_n hx hb dX5_elects_0 rfl (lv_at hl 0 rfl) ?_
  obtain ⟨T_24, eT_24, hf⟩ := bf_b_some hf
  refine bf_tcv (n := 0) (As := []) (rest := []) X hd (mX5_findsGiven l G σ o T eT_24) (lw_V q1890 q1892 qs126 q156 q1893) (by decide +kernel) ⟨Nat.le_of_ble_eq_true rfl, Nat.le_of_ble_eq_true rfl⟩ rfl hl.1 rfl (Nat.le_of_ble_eq_true rfl) dX5_elects_1 ⟨Nat.le_of_ble_eq_true rfl, Nat.le_of_ble_eq_true rfl⟩ (fun H locs hd => ?_)
  refine lv_iconst (v := 0) hx hb dX5_elects_4 (by decide) ?_
  refine lv_istore_n (lv' := [(1, .int 0), (0, .ref o)]) hx hb dX5_elects_5 rfl hl (by decide) rfl (fun ls hl => ?_)
  exact L6 bf_fuel 0 T_24 _ _ _ hf hd (lv_sub hl [1, 0] rfl)
def fX5_does_124 (x1 : Int32) (w124_2 : Int32) (T124 : bf_TS) : Option (bf_TS) := bf_c (bf_in (x1 + 1) 128) <| if (T124 39 (x1 + 1).toNatClampNeg) = 4 then (bf_c (bf_in (76 + w124_2) 136) <| bf_c (bf_in (76 + w124_2) 136) <| bf_l (bf_u2 T124 1 (76 + w124_2).toNatClampNeg (fX5_held (2 * (T124 1 (76 + w124_2).toNatClampNeg)) 0 20)) fun T_20 => some T_20) else (some T124)
def fX5_does_98 (x1 : Int32) (w98_2 : Int32) (T98 : bf_TS) : Option (bf_TS) := bf_c (bf_in (x1 + 1) 128) <| if (T98 39 (x1 + 1).toNatClampNeg) = 3 then (bf_c (bf_in (x1 + 3) 128) <| bf_b2 (fX5_boils T98 w98_2 (T98 39 (x1 + 3).toNatClampNeg)) fun r_15 T_14 => fX5_does_124 x1 w98_2 T_14) else (fX5_does_124 x1 w98_2 T98)
def fX5_does_72 (x1 : Int32) (w72_2 : Int32) (T72 : bf_TS) : Option (bf_TS) := bf_c (bf_in (x1 + 1) 128) <| if (T72 39 (x1 + 1).toNatClampNeg) = 2 then (if (fX5_isFenced T72 w72_2) = 0 then (fX5_does_98 x1 w72_2 T72) else (bf_b (fX5_fences T72 w72_2 0) fun T_10 => fX5_does_98 x1 w72_2 T_10)) else (fX5_does_98 x1 w72_2 T72)
def fX5_does_46 (x1 : Int32) (w46_2 : Int32) (T46 : bf_TS) : Option (bf_TS) := bf_c (bf_in (x1 + 1) 128) <| if (T46 39 (x1 + 1).toNatClampNeg) = 1 then (if (fX5_isFenced T46 w46_2) = 0 then (bf_b (fX5_fences T46 w46_2 1) fun T_5 => fX5_does_72 x1 w46_2 T_5) else (fX5_does_72 x1 w46_2 T46)) else (fX5_does_72 x1 w46_2 T46)
def fX5_does (T : bf_TS) (x1 : Int32) : Option (bf_TS) := bf_c (bf_in (x1 + 2) 128) <| bf_l ((T 39 (x1 + 2).toNatClampNeg)) fun x2_22 => bf_c (bf_in (x1 + 1) 128) <| if (T 39 (x1 + 1).toNatClampNeg) = 0 then (if 14 ≤ (T 1 4) then (fX5_does_46 x1 x2_22 T) else (bf_c (bf_in (x1 + 3) 128) <| bf_b2 (fX5_plants T x2_22 (T 39 (x1 + 3).toNatClampNeg) 0) fun r_28 T_27 => fX5_does_46 x1 x2_22 T_27)) else (fX5_does_46 x1 x2_22 T)
set_option maxHeartbeats 4000000 in
theorem mX5_does (l : Launch) (G : bf_G) (σ : bf_V) (o : Nat) (T : bf_TS) (x1 : Int32) {T' : bf_TS} (hf : fX5_does T x1 = some T') : bf_MV l G yX5_does cX5_does 3 (bf_rm 2) [.ref o, .int x1] (bf_pT G σ o T) (fun σ' => σ' = bf_pT G σ o T') := by
  refine bf_MV.of rfl (Nat.le_of_ble_eq_true rfl) ?_
  intro p e s m below meth c Q X hlk hnm kret hd ls hl
  have hx := X.1
  have hb := X.2.1
  have hown := X.2.2.2.1
  have hts := X.2.2.2.2
  have hl : lv_has ls 3 [(0, .ref o), (1, .int x1)] := hl
  have J124 : ∀ (w124_2 : Int32) (T124 : bf_TS) (H : Heap) (locs : List Loc) (ls : Array Slot), fX5_does_124 x1 w124_2 T124 = some T' → bf_Dy G s H locs (bf_pT G σ o T124) → lv_has ls 3 [(0, .ref o), (1, .int x1), (2, .int w124_2)] → W p l e (bf_rm 2) s m ([.ref o, .int x1] : List Value).toArray below meth c H locs 0 0 Q (F0 m 124 ls []) := by
    intro w124_2 T124 H locs ls hf hd hl
    unfold fX5_does_124 at hf
    refine lv_aload_n hx hb dX5_does_124 rfl (lv_at hl 0 rfl) ?_
    refine bf_tga X hd 39 (by decide) (by decide) q1422 dX5_does_125 ?_
    refine lv_iload_n hx hb dX5_does_128 rfl (lv_at hl 1 rfl) ?_
    refine lv_iconst (v := 1) hx hb dX5_does_129 (by decide) ?_
    refine lv_iadd hx hb dX5_does_130 ?_
    obtain ⟨g_29, hf⟩ := bf_c_some hf
    refine bf_tld X hd 39 (by decide) g_29 dX5_does_131 ?_
    refine lv_iconst (v := 4) hx hb dX5_does_132 (by decide) ?_
    refine lv_icmp_ne (tgt := 163) hx hb dX5_does_133 (by decide) (fun c_30 => ?_) (fun c_30 => ?_)
    · have hf := bf_ie hf c_30
      exact kret _ _ _ _ _ (congrArg (bf_pT G σ o) (bf_so hf)) hd dX5_does_163
    · have hf := bf_it hf c_30
      refine lv_aload_n hx hb dX5_does_136 rfl (lv_at hl 0 rfl) ?_
      refine bf_tga X hd 1 (by decide) (by decide) q1384 dX5_does_137 ?_
      refine lv_bipush (v := 76) hx hb dX5_does_140 (by decide) ?_
      refine lv_iload_n hx hb dX5_does_142 rfl (lv_at hl 2 rfl) ?_
      refine lv_iadd hx hb dX5_does_143 ?_
      refine lv_aload_n hx hb dX5_does_144 rfl (lv_at hl 0 rfl) ?_
      refine lv_iconst (v := 2) hx hb dX5_does_145 (by decide) ?_
      refine lv_aload_n hx hb dX5_does_146 rfl (lv_at hl 0 rfl) ?_
      refine bf_tga X hd 1 (by decide) (by decide) q1384 dX5_does_147 ?_
      refine lv_bipush (v := 76) hx hb dX5_does_150 (by decide) ?_
      refine lv_iload_n hx hb dX5_does_152 rfl (lv_at hl 2 rfl) ?_
      refine lv_iadd hx hb dX5_does_153 ?_
      obtain ⟨g_31, hf⟩ := bf_c_some hf
      refine bf_tld X hd 1 (by decide) g_31 dX5_does_154 ?_
      refine lv_imul hx hb dX5_does_155 ?_
      refine lv_iconst (v := 0) hx hb dX5_does_156 (by decide) ?_
      refine lv_bipush (v := 20) hx hb dX5_does_157 (by decide) ?_
      refine bf_tci (n := 3) (As := [.int (2 * (T124 1 (76 + w124_2).toNatClampNeg)), .int 0, .int 20]) (rest := [.int (76 + w124_2), .ref (o + bf_to 1)]) X hd (mX5_held l G σ o T124 (2 * (T124 1 (76 + w124_2).toNatClampNeg)) 0 20 rfl) (lw_V q1588 q1590 qs60 q156 q1591) (by decide +kernel) ⟨Nat.le_of_ble_eq_true rfl, Nat.le_of_ble_eq_true rfl⟩ rfl hl.1 rfl (Nat.le_of_ble_eq_true rfl) dX5_does_159 ⟨Nat.le_of_ble_eq_true rfl, Nat.le_of_ble_eq_true rfl⟩ (fun H locs hd => ?_)
      obtain ⟨g_32, hf⟩ := bf_c_some hf
      refine bf_tst X hd 1 (by decide) g_32 dX5_does_162 (fun H locs hd => ?_)
      obtain ⟨T_33, eT_33, hf⟩ := bf_l_e hf
      have hd := hd.of (congrArg (bf_pT G σ o) eT_33.symm)
      exact kret _ _ _ _ _ (congrArg (bf_pT G σ o) (bf_so hf)) hd dX5_does_163
  have J98 : ∀ (w98_2 : Int32) (T98 : bf_TS) (H : Heap) (locs : List Loc) (ls : Array Slot), fX5_does_98 x1 w98_2 T98 = some T' → bf_Dy G s H locs (bf_pT G σ o T98) → lv_has ls 3 [(0, .ref o), (1, .int x1), (2, .int w98_2)] → W p l e (bf_rm 2) s m ([.ref o, .int x1] : List Value).toArray below meth c H locs 0 0 Q (F0 m 98 ls []) := by
    intro w98_2 T98 H locs ls hf hd hl
    unfold fX5_does_98 at hf
    refine lv_aload_n hx hb dX5_does_98 rfl (lv_at hl 0 rfl) ?_
    refine bf_tga X hd 39 (by decide) (by decide) q1422 dX5_does_99 ?_
    refine lv_iload_n hx hb dX5_does_102 rfl (lv_at hl 1 rfl) ?_
    refine lv_iconst (v := 1) hx hb dX5_does_103 (by decide) ?_
    refine lv_iadd hx hb dX5_does_104 ?_
    obtain ⟨g_34, hf⟩ := bf_c_some hf
    refine bf_tld X hd 39 (by decide) g_34 dX5_does_105 ?_
    refine lv_iconst (v := 3) hx hb dX5_does_106 (by decide) ?_
    refine lv_icmp_ne (tgt := 124) hx hb dX5_does_107 (by decide) (fun c_35 => ?_) (fun c_35 => ?_)
    · have hf := bf_ie hf c_35
      exact J124 w98_2 T98 _ _ _ hf hd (lv_sub hl [0, 1, 2] rfl)
    · have hf := bf_it hf c_35
      refine lv_aload_n hx hb dX5_does_110 rfl (lv_at hl 0 rfl) ?_
      refine lv_iload_n hx hb dX5_does_111 rfl (lv_at hl 2 rfl) ?_
      refine lv_aload_n hx hb dX5_does_112 rfl (lv_at hl 0 rfl) ?_
      refine bf_tga X hd 39 (by decide) (by decide) q1422 dX5_does_113 ?_
      refine lv_iload_n hx hb dX5_does_116 rfl (lv_at hl 1 rfl) ?_
      refine lv_iconst (v := 3) hx hb dX5_does_117 (by decide) ?_
      refine lv_iadd hx hb dX5_does_118 ?_
      obtain ⟨g_36, hf⟩ := bf_c_some hf
      refine bf_tld X hd 39 (by decide) g_36 dX5_does_119 ?_
      obtain ⟨r_38, T_37, er_38, hf⟩ := bf_b2_some hf
      refine bf_tci (n := 2) (As := [.int w98_2, .int (T98 39 (x1 + 3).toNatClampNeg)]) (rest := []) X hd (mX5_boils l G σ o T98 w98_2 (T98 39 (x1 + 3).toNatClampNeg) er_38) (lw_V q1788 q1790 qs102 q156 q1791) (by decide +kernel) ⟨Nat.le_of_ble_eq_true rfl, Nat.le_of_ble_eq_true rfl⟩ rfl hl.1 rfl (Nat.le_of_ble_eq_true rfl) dX5_does_120 ⟨Nat.le_of_ble_eq_true rfl, Nat.le_of_ble_eq_true rfl⟩ (fun H locs hd => ?_)
      refine lv_pop hx hb dX5_does_123 rfl ?_
      exact J124 w98_2 T_37 _ _ _ hf hd (lv_sub hl [0, 1, 2] rfl)
  have J72 : ∀ (w72_2 : Int32) (T72 : bf_TS) (H : Heap) (locs : List Loc) (ls : Array Slot), fX5_does_72 x1 w72_2 T72 = some T' → bf_Dy G s H locs (bf_pT G σ o T72) → lv_has ls 3 [(0, .ref o), (1, .int x1), (2, .int w72_2)] → W p l e (bf_rm 2) s m ([.ref o, .int x1] : List Value).toArray below meth c H locs 0 0 Q (F0 m 72 ls []) := by
    intro w72_2 T72 H locs ls hf hd hl
    unfold fX5_does_72 at hf
    refine lv_aload_n hx hb dX5_does_72 rfl (lv_at hl 0 rfl) ?_
    refine bf_tga X hd 39 (by decide) (by decide) q1422 dX5_does_73 ?_
    refine lv_iload_n hx hb dX5_does_76 rfl (lv_at hl 1 rfl) ?_
    refine lv_iconst (v := 1) hx hb dX5_does_77 (by decide) ?_
    refine lv_iadd hx hb dX5_does_78 ?_
    obtain ⟨g_39, hf⟩ := bf_c_some hf
    refine bf_tld X hd 39 (by decide) g_39 dX5_does_79 ?_
    refine lv_iconst (v := 2) hx hb dX5_does_80 (by decide) ?_
    refine lv_icmp_ne (tgt := 98) hx hb dX5_does_81 (by decide) (fun c_40 => ?_) (fun c_40 => ?_)
    · have hf := bf_ie hf c_40
      exact J98 w72_2 T72 _ _ _ hf hd (lv_sub hl [0, 1, 2] rfl)
    · have hf := bf_it hf c_40
      refine lv_aload_n hx hb dX5_does_84 rfl (lv_at hl 0 rfl) ?_
      refine lv_iload_n hx hb dX5_does_85 rfl (lv_at hl 2 rfl) ?_
      refine bf_tcz (n := 1) (As := [.int w72_2]) (rest := []) X hd (mX5_isFenced l G σ o T72 w72_2 rfl) (lw_V q1772 q1774 qs99 q156 q1775) (by decide +kernel) ⟨Nat.le_of_ble_eq_true rfl, Nat.le_of_ble_eq_true rfl⟩ rfl hl.1 rfl (Nat.le_of_ble_eq_true rfl) dX5_does_86 ⟨Nat.le_of_ble_eq_true rfl, Nat.le_of_ble_eq_true rfl⟩ (fun H locs z_41 hd => ?_)
      refine lv_if_eq (tgt := 98) hx hb dX5_does_89 (by decide) (fun c_42 => ?_) (fun c_42 => ?_)
      · have hf := bf_it hf c_42
        exact J98 w72_2 T72 _ _ _ hf hd (lv_sub hl [0, 1, 2] rfl)
      · have hf := bf_ie hf c_42
        refine lv_aload_n hx hb dX5_does_92 rfl (lv_at hl 0 rfl) ?_
        refine lv_iload_n hx hb dX5_does_93 rfl (lv_at hl 2 rfl) ?_
        refine lv_iconst (v := 0) hx hb dX5_does_94 (by decide) ?_
        obtain ⟨T_43, eT_43, hf⟩ := bf_b_some hf
        refine bf_tcv (n := 2) (As := [.int w72_2, .int 0]) (rest := []) X hd (mX5_fences l G σ o T72 w72_2 0 eT_43) (lw_V q1780 q1782 qs101 q156 q1783) (by decide +kernel) ⟨Nat.le_of_ble_eq_true rfl, Nat.le_of_ble_eq_true rfl⟩ rfl hl.1 rfl (Nat.le_of_ble_eq_true rfl) dX5_does_95 ⟨Nat.le_of_ble_eq_true rfl, Nat.le_of_ble_eq_true rfl⟩ (fun H locs hd => ?_)
        exact J98 w72_2 T_43 _ _ _ hf hd (lv_sub hl [0, 1, 2] rfl)
  have J46 : ∀ (w46_2 : Int32) (T46 : bf_TS) (H : Heap) (locs : List Loc) (ls : Array Slot), fX5_does_46 x1 w46_2 T46 = some T' → bf_Dy G s H locs (bf_pT G σ o T46) → lv_has ls 3 [(0, .ref o), (1, .int x1), (2, .int w46_2)] → W p l e (bf_rm 2) s m ([.ref o, .int x1] : List Value).toArray below meth c H locs 0 0 Q (F0 m 46 ls []) := by
    intro w46_2 T46 H locs ls hf hd hl
    unfold fX5_does_46 at hf
    refine lv_aload_n hx hb dX5_does_46 rfl (lv_at hl 0 rfl) ?_
    refine bf_tga X hd 39 (by decide) (by decide) q1422 dX5_does_47 ?_
    refine lv_iload_n hx hb dX5_does_50 rfl (lv_at hl 1 rfl) ?_
    refine lv_iconst (v := 1) hx hb dX5_does_51 (by decide) ?_
    refine lv_iadd hx hb dX5_does_52 ?_
    obtain ⟨g_44, hf⟩ := bf_c_some hf
    refine bf_tld X hd 39 (by decide) g_44 dX5_does_53 ?_
    refine lv_iconst (v := 1) hx hb dX5_does_54 (by decide) ?_
    refine lv_icmp_ne (tgt := 72) hx hb dX5_does_55 (by decide) (fun c_45 => ?_) (fun c_45 => ?_)
    · have hf := bf_ie hf c_45
      exact J72 w46_2 T46 _ _ _ hf hd (lv_sub hl [0, 1, 2] rfl)
    · have hf := bf_it hf c_45
      refine lv_aload_n hx hb dX5_does_58 rfl (lv_at hl 0 rfl) ?_
      refine lv_iload_n hx hb dX5_does_59 rfl (lv_at hl 2 rfl) ?_
      refine bf_tcz (n := 1) (As := [.int w46_2]) (rest := []) X hd (mX5_isFenced l G σ o T46 w46_2 rfl) (lw_V q1772 q1774 qs99 q156 q1775) (by decide +kernel) ⟨Nat.le_of_ble_eq_true rfl, Nat.le_of_ble_eq_true rfl⟩ rfl hl.1 rfl (Nat.le_of_ble_eq_true rfl) dX5_does_60 ⟨Nat.le_of_ble_eq_true rfl, Nat.le_of_ble_eq_true rfl⟩ (fun H locs z_46 hd => ?_)
      refine lv_if_ne (tgt := 72) hx hb dX5_does_63 (by decide) (fun c_47 => ?_) (fun c_47 => ?_)
      · have hf := bf_ie hf c_47
        exact J72 w46_2 T46 _ _ _ hf hd (lv_sub hl [0, 1, 2] rfl)
      · have hf := bf_it hf c_47
        refine lv_aload_n hx hb dX5_does_66 rfl (lv_at hl 0 rfl) ?_
        refine lv_iload_n hx hb dX5_does_67 rfl (lv_at hl 2 rfl) ?_
        refine lv_iconst (v := 1) hx hb dX5_does_68 (by decide) ?_
        obtain ⟨T_48, eT_48, hf⟩ := bf_b_some hf
        refine bf_tcv (n := 2) (As := [.int w46_2, .int 1]) (rest := []) X hd (mX5_fences l G σ o T46 w46_2 1 eT_48) (lw_V q1780 q1782 qs101 q156 q1783) (by decide +kernel) ⟨Nat.le_of_ble_eq_true rfl, Nat.le_of_ble_eq_true rfl⟩ rfl hl.1 rfl (Nat.le_of_ble_eq_true rfl) dX5_does_69 ⟨Nat.le_of_ble_eq_true rfl, Nat.le_of_ble_eq_true rfl⟩ (fun H locs hd => ?_)
        exact J72 w46_2 T_48 _ _ _ hf hd (lv_sub hl [0, 1, 2] rfl)
  unfold fX5_does at hf
  refine lv_aload_n hx hb dX5_does_0 rfl (lv_at hl 0 rfl) ?_
  refine bf_tga X hd 39 (by decide) (by decide) q1422 dX5_does_1 ?_
  refine lv_iload_n hx hb dX5_does_4 rfl (lv_at hl 1 rfl) ?_
  refine lv_iconst (v := 2) hx hb dX5_does_5 (by decide) ?_
  refine lv_iadd hx hb dX5_does_6 ?_
  obtain ⟨g_49, hf⟩ := bf_c_some hf
  refine bf_tld X hd 39 (by decide) g_49 dX5_does_7 ?_
  obtain ⟨x2_50, ex2_50, hf⟩ := bf_l_e hf
  refine bf_top ex2_50 ?_
  refine lv_istore_n (lv' := [(2, .int x2_50), (0, .ref o), (1, .int x1)]) hx hb dX5_does_8 rfl hl (by decide) rfl (fun ls hl => ?_)
  refine lv_aload_n hx hb dX5_does_9 rfl (lv_at hl 1 rfl) ?_
  refine bf_tga X hd 39 (by decide) (by decide) q1422 dX5_does_10 ?_
  refine lv_iload_n hx hb dX5_does_13 rfl (lv_at hl 2 rfl) ?_
  refine lv_iconst (v := 1) hx hb dX5_does_14 (by decide) ?_
  refine lv_iadd hx hb dX5_does_15 ?_
  obtain ⟨g_51, hf⟩ := bf_c_some hf
  refine bf_tld X hd 39 (by decide) g_51 dX5_does_16 ?_
  refine lv_if_ne (tgt := 46) hx hb dX5_does_17 (by decide) (fun c_52 => ?_) (fun c_52 => ?_)
  · have hf := bf_ie hf c_52
    exact J46 x2_50 T _ _ _ hf hd (lv_sub hl [1, 2, 0] rfl)
  · have hf := bf_it hf c_52
    refine lv_aload_n hx hb dX5_does_20 rfl (lv_at hl 1 rfl) ?_
    refine bf_tga X hd 1 (by decide) (by decide) q1384 dX5_does_21 ?_
    refine lv_iconst (v := 4) hx hb dX5_does_24 (by decide) ?_
    refine bf_tld X hd 1 (by decide) (by decide) dX5_does_25 ?_
    refine lv_bipush (v := 14) hx hb dX5_does_26 (by decide) ?_
    refine lv_icmp_ge (tgt := 46) hx hb dX5_does_28 (by decide) (fun c_53 => ?_) (fun c_53 => ?_)
    · have hf := bf_it hf c_53
      exact J46 x2_50 T _ _ _ hf hd (lv_sub hl [1, 2, 0] rfl)
    · have hf := bf_ie hf c_53
      refine lv_aload_n hx hb dX5_does_31 rfl (lv_at hl 1 rfl) ?_
      refine lv_iload_n hx hb dX5_does_32 rfl (lv_at hl 0 rfl) ?_
      refine lv_aload_n hx hb dX5_does_33 rfl (lv_at hl 1 rfl) ?_
      refine bf_tga X hd 39 (by decide) (by decide) q1422 dX5_does_34 ?_
      refine lv_iload_n hx hb dX5_does_37 rfl (lv_at hl 2 rfl) ?_
      refine lv_iconst (v := 3) hx hb dX5_does_38 (by decide) ?_
      refine lv_iadd hx hb dX5_does_39 ?_
      obtain ⟨g_54, hf⟩ := bf_c_some hf
      refine bf_tld X hd 39 (by decide) g_54 dX5_does_40 ?_
      refine lv_iconst (v := 0) hx hb dX5_does_41 (by decide) ?_
      obtain ⟨r_56, T_55, er_56, hf⟩ := bf_b2_some hf
      refine bf_tci (n := 3) (As := [.int x2_50, .int (T 39 (x1 + 3).toNatClampNeg), .int 0]) (rest := []) X hd (mX5_plants l G σ o T x2_50 (T 39 (x1 + 3).toNatClampNeg) 0 er_56) (lw_V q1760 q1762 qs97 q156 q1763) (by decide +kernel) ⟨Nat.le_of_ble_eq_true rfl, Nat.le_of_ble_eq_true rfl⟩ rfl hl.1 rfl (Nat.le_of_ble_eq_true rfl) dX5_does_42 ⟨Nat.le_of_ble_eq_true rfl, Nat.le_of_ble_eq_true rfl⟩ (fun H locs hd => ?_)
      refine lv_pop hx hb dX5_does_45 rfl ?_
      exact J46 x2_50 T_55 _ _ _ hf hd (lv_sub hl [1, 2, 0] rfl)
def fX5_stings_99 (k17 : Int32 → bf_TS → Option (bf_TS)) (w99_1 : Int32) (T99 : bf_TS) : Option (bf_TS) := bf_l (w99_1 + 1) fun x1_13 => k17 x1_13 T99
def fX5_stings_17b (k17 : Int32 → bf_TS → Option (bf_TS)) (v17_1 : Int32) (T17 : bf_TS) : Option (bf_TS) := if (T17 1 4) ≤ v17_1 then (some T17) else (bf_c (bf_in (62 + v17_1) 136) <| if (T17 1 (62 + v17_1).toNatClampNeg) < 10 then (fX5_stings_99 k17 v17_1 T17) else (bf_b2 (fX5_draw T17 1000) fun r_5 T_4 => if r_5 < (T_4 9 0) then (bf_c (bf_in (62 + v17_1) 136) <| bf_l (((T_4 1 (62 + v17_1).toNatClampNeg) / 10)) fun x2_8 => bf_c (bf_in (62 + v17_1) 136) <| bf_c (bf_in (62 + v17_1) 136) <| bf_l (bf_u2 T_4 1 (62 + v17_1).toNatClampNeg ((T_4 1 (62 + v17_1).toNatClampNeg) - x2_8)) fun T_11 => bf_b (fX5_notes T_11 6 v17_1 x2_8) fun T_12 => fX5_stings_99 k17 v17_1 T_12) else (fX5_stings_99 k17 v17_1 T_4)))
def fX5_stings_17  : Nat → Int32 → bf_TS → Option (bf_TS)
  | 0, _, _ => none
  | n + 1, v17_1, T17 => fX5_stings_17b (fX5_stings_17 n) v17_1 T17
def fX5_stings (T : bf_TS) : Option (bf_TS) := if (T 5 0) = 0 then (if (T 9 0) = 0 then (some T) else (fX5_stings_17 bf_fuel 0 T)) else (some T)
set_option maxHeartbeats 4000000 in
theorem mX5_stings (l : Launch) (G : bf_G) (σ : bf_V) (o : Nat) (T : bf_TS) {T' : bf_TS} (hf : fX5_stings T = some T') : bf_MV l G yX5_stings cX5_stings 3 (bf_rm 1) [.ref o] (bf_pT G σ o T) (fun σ' => σ' = bf_pT G σ o T') := by
  refine bf_MV.of rfl (Nat.le_of_ble_eq_true rfl) ?_
  intro p e s m below meth c Q X hlk hnm kret hd ls hl
  have hx := X.1
  have hb := X.2.1
  have hown := X.2.2.2.1
  have hts := X.2.2.2.2
  have hl : lv_has ls 3 [(0, .ref o)] := hl
  have L17 : ∀ (n17 : Nat) (v17_1 : Int32) (T17 : bf_TS) (H : Heap) (locs : List Loc) (ls : Array Slot), fX5_stings_17 n17 v17_1 T17 = some T' → bf_Dy G s H locs (bf_pT G σ o T17) → lv_has ls 3 [(0, .ref o), (1, .int v17_1)] → W p l e (bf_rm 1) s m ([.ref o] : List Value).toArray below meth c H locs 0 0 Q (F0 m 17 ls []) := by
    intro n17
    induction n17 with
    | zero =>
      intro v17_1 T17 H locs ls hf hd hl
      exact absurd (show (none : Option (bf_TS)) = some T' from hf) (by intro h; cases h)
    | succ n17 ih17 =>
      intro v17_1 T17 H locs ls hf hd hl
      have hf : fX5_stings_17b (fX5_stings_17 n17) v17_1 T17 = some T' := hf
      unfold fX5_stings_17b at hf
      have J99 : ∀ (w99_1 : Int32) (T99 : bf_TS) (H : Heap) (locs : List Loc) (ls : Array Slot), fX5_stings_99 (fX5_stings_17 n17) w99_1 T99 = some T' → bf_Dy G s H locs (bf_pT G σ o T99) → lv_has ls 3 [(0, .ref o), (1, .int w99_1)] → W p l e (bf_rm 1) s m ([.ref o] : List Value).toArray below meth c H locs 0 0 Q (F0 m 99 ls []) := by
        intro w99_1 T99 H locs ls hf hd hl
        unfold fX5_stings_99 at hf
        obtain ⟨x1_16, ex1_16, hf⟩ := bf_l_e hf
        refine lv_iinc (v := x1_16) (lv' := [(1, .int x1_16), (0, .ref o)]) hx hb dX5_stings_99 hl (k := 1) rfl (by rw [ex1_16]; rfl) (by decide) rfl (fun ls hl => ?_)
        refine lv_goto (tgt := 17) hx hb dX5_stings_102 (by decide) ?_
        exact ih17 x1_16 T99 _ _ _ hf hd (lv_sub hl [1, 0] rfl)
      refine lv_iload_n hx hb dX5_stings_17 rfl (lv_at hl 1 rfl) ?_
      refine lv_aload_n hx hb dX5_stings_18 rfl (lv_at hl 0 rfl) ?_
      refine bf_tga X hd 1 (by decide) (by decide) q1384 dX5_stings_19 ?_
      refine lv_iconst (v := 4) hx hb dX5_stings_22 (by decide) ?_
      refine bf_tld X hd 1 (by decide) (by decide) dX5_stings_23 ?_
      refine lv_icmp_ge (tgt := 105) hx hb dX5_stings_24 (by decide) (fun c_17 => ?_) (fun c_17 => ?_)
      · have hf := bf_it hf c_17
        exact kret _ _ _ _ _ (congrArg (bf_pT G σ o) (bf_so hf)) hd dX5_stings_105
      · have hf := bf_ie hf c_17
        refine lv_aload_n hx hb dX5_stings_27 rfl (lv_at hl 0 rfl) ?_
        refine bf_tga X hd 1 (by decide) (by decide) q1384 dX5_stings_28 ?_
        refine lv_bipush (v := 62) hx hb dX5_stings_31 (by decide) ?_
        refine lv_iload_n hx hb dX5_stings_33 rfl (lv_at hl 1 rfl) ?_
        refine lv_iadd hx hb dX5_stings_34 ?_
        obtain ⟨g_18, hf⟩ := bf_c_some hf
        refine bf_tld X hd 1 (by decide) g_18 dX5_stings_35 ?_
        refine lv_bipush (v := 10) hx hb dX5_stings_36 (by decide) ?_
        refine lv_icmp_lt (tgt := 99) hx hb dX5_stings_38 (by decide) (fun c_19 => ?_) (fun c_19 => ?_)
        · have hf := bf_it hf c_19
          exact J99 v17_1 T17 _ _ _ hf hd (lv_sub hl [0, 1] rfl)
        · have hf := bf_ie hf c_19
          refine lv_aload_n hx hb dX5_stings_41 rfl (lv_at hl 0 rfl) ?_
          refine lv_sipush (v := 1000) hx hb dX5_stings_42 (by decide) ?_
          obtain ⟨r_21, T_20, er_21, hf⟩ := bf_b2_some hf
          refine bf_tci (n := 1) (As := [.int 1000]) (rest := []) X hd (mX5_draw l G σ o T17 1000 er_21) (lw_V q1868 q1870 qs121 q156 q1871) (by decide +kernel) ⟨Nat.le_of_ble_eq_true rfl, Nat.le_of_ble_eq_true rfl⟩ rfl hl.1 rfl (Nat.le_of_ble_eq_true rfl) dX5_stings_45 ⟨Nat.le_of_ble_eq_true rfl, Nat.le_of_ble_eq_true rfl⟩ (fun H locs hd => ?_)
          refine lv_aload_n hx hb dX5_stings_48 rfl (lv_at hl 0 rfl) ?_
          refine bf_tgi X hd 9 (by decide) rfl q1392 dX5_stings_49 ?_
          refine lv_icmp_lt (tgt := 58) hx hb dX5_stings_52 (by decide) (fun c_22 => ?_) (fun c_22 => ?_)
          · have hf := bf_it hf c_22
            refine lv_aload_n hx hb dX5_stings_58 rfl (lv_at hl 0 rfl) ?_
            refine bf_tga X hd 1 (by decide) (by decide) q1384 dX5_stings_59 ?_
            refine lv_bipush (v := 62) hx hb dX5_stings_62 (by decide) ?_
            refine lv_iload_n hx hb dX5_stings_64 rfl (lv_at hl 1 rfl) ?_
            refine lv_iadd hx hb dX5_stings_65 ?_
            obtain ⟨g_23, hf⟩ := bf_c_some hf
            refine bf_tld X hd 1 (by decide) g_23 dX5_stings_66 ?_
            refine lv_bipush (v := 10) hx hb dX5_stings_67 (by decide) ?_
            refine lv_idiv hx hb dX5_stings_69 (by decide) ?_
            obtain ⟨x2_24, ex2_24, hf⟩ := bf_l_e hf
            refine bf_top ex2_24 ?_
            refine lv_istore_n (lv' := [(2, .int x2_24), (0, .ref o), (1, .int v17_1)]) hx hb dX5_stings_70 rfl hl (by decide) rfl (fun ls hl => ?_)
            refine lv_aload_n hx hb dX5_stings_71 rfl (lv_at hl 1 rfl) ?_
            refine bf_tga X hd 1 (by decide) (by decide) q1384 dX5_stings_72 ?_
            refine lv_bipush (v := 62) hx hb dX5_stings_75 (by decide) ?_
            refine lv_iload_n hx hb dX5_stings_77 rfl (lv_at hl 2 rfl) ?_
            refine lv_iadd hx hb dX5_stings_78 ?_
            refine lv_aload_n hx hb dX5_stings_79 rfl (lv_at hl 1 rfl) ?_
            refine bf_tga X hd 1 (by decide) (by decide) q1384 dX5_stings_80 ?_
            refine lv_bipush (v := 62) hx hb dX5_stings_83 (by decide) ?_
            refine lv_iload_n hx hb dX5_stings_85 rfl (lv_at hl 2 rfl) ?_
            refine lv_iadd hx hb dX5_stings_86 ?_
            obtain ⟨g_25, hf⟩ := bf_c_some hf
            refine bf_tld X hd 1 (by decide) g_25 dX5_stings_87 ?_
            refine lv_iload_n hx hb dX5_stings_88 rfl (lv_at hl 0 rfl) ?_
            refine lv_isub hx hb dX5_stings_89 ?_
            obtain ⟨g_26, hf⟩ := bf_c_some hf
            refine bf_tst X hd 1 (by decide) g_26 dX5_stings_90 (fun H locs hd => ?_)
            obtain ⟨T_27, eT_27, hf⟩ := bf_l_e hf
            have hd := hd.of (congrArg (bf_pT G σ o) eT_27.symm)
            refine lv_aload_n hx hb dX5_stings_91 rfl (lv_at hl 1 rfl) ?_
            refine lv_bipush (v := 6) hx hb dX5_stings_92 (by decide) ?_
            refine lv_iload_n hx hb dX5_stings_94 rfl (lv_at hl 2 rfl) ?_
            refine lv_iload_n hx hb dX5_stings_95 rfl (lv_at hl 0 rfl) ?_
            obtain ⟨T_28, eT_28, hf⟩ := bf_b_some hf
            refine bf_tcv (n := 3) (As := [.int 6, .int v17_1, .int x2_24]) (rest := []) X hd (mX5_notes l G σ o T_27 6 v17_1 x2_24 eT_28) (lw_V q1764 q1766 qs98 q156 q1767) (by decide +kernel) ⟨Nat.le_of_ble_eq_true rfl, Nat.le_of_ble_eq_true rfl⟩ rfl hl.1 rfl (Nat.le_of_ble_eq_true rfl) dX5_stings_96 ⟨Nat.le_of_ble_eq_true rfl, Nat.le_of_ble_eq_true rfl⟩ (fun H locs hd => ?_)
            exact J99 v17_1 T_28 _ _ _ hf hd (lv_sub hl [1, 2] rfl)
          · have hf := bf_ie hf c_22
            refine lv_goto (tgt := 99) hx hb dX5_stings_55 (by decide) ?_
            exact J99 v17_1 T_20 _ _ _ hf hd (lv_sub hl [0, 1] rfl)
  unfold fX5_stings at hf
  refine lv_aload_n hx hb dX5_stings_0 rfl (lv_at hl 0 rfl) ?_
  refine bf_tgi X hd 5 (by decide) rfl q1388 dX5_stings_1 ?_
  refine lv_if_ne (tgt := 14) hx hb dX5_stings_4 (by decide) (fun c_29 => ?_) (fun c_29 => ?_)
  · have hf := bf_ie hf c_29
    exact kret _ _ _ _ _ (congrArg (bf_pT G σ o) (bf_so hf)) hd dX5_stings_14
  · have hf := bf_it hf c_29
    refine lv_aload_n hx hb dX5_stings_7 rfl (lv_at hl 0 rfl) ?_
    refine bf_tgi X hd 9 (by decide) rfl q1392 dX5_stings_8 ?_
    refine lv_if_ne (tgt := 15) hx hb dX5_stings_11 (by decide) (fun c_30 => ?_) (fun c_30 => ?_)
    · have hf := bf_ie hf c_30
      refine lv_iconst (v := 0) hx hb dX5_stings_15 (by decide) ?_
      refine lv_istore_n (lv' := [(1, .int 0), (0, .ref o)]) hx hb dX5_stings_16 rfl hl (by decide) rfl (fun ls hl => ?_)
      exact L17 bf_fuel 0 T _ _ _ hf hd (lv_sub hl [1, 0] rfl)
    · have hf := bf_it hf c_30
      exact kret _ _ _ _ _ (congrArg (bf_pT G σ o) (bf_so hf)) hd dX5_stings_14
def fX5_eats_53 (k4 : Int32 → Int32 → bf_TS → Option (Int32 × bf_TS)) (w53_1 : Int32) (w53_2 : Int32) (T53 : bf_TS) : Option (Int32 × bf_TS) := bf_l (w53_2 + 1) fun x2_10 => k4 w53_1 x2_10 T53
def fX5_eats_4b (k4 : Int32 → Int32 → bf_TS → Option (Int32 × bf_TS)) (v4_1 : Int32) (v4_2 : Int32) (T4 : bf_TS) : Option (Int32 × bf_TS) := if (T4 7 0) ≤ v4_2 then (some (v4_1, T4)) else (bf_b2 (fX5_isHungry T4 v4_2) fun r_3 T_2 => if r_3 = 0 then (fX5_eats_53 k4 v4_1 v4_2 T_2) else (bf_l ((v4_1 + 1)) fun x1_6 => if (T_2 44 0) = (-1) then (bf_l (bf_u2 T_2 44 0 v4_2) fun T_8 => bf_l (bf_u2 T_8 45 0 (T_8 1 0)) fun T_9 => fX5_eats_53 k4 x1_6 v4_2 T_9) else (fX5_eats_53 k4 x1_6 v4_2 T_2)))
def fX5_eats_4  : Nat → Int32 → Int32 → bf_TS → Option (Int32 × bf_TS)
  | 0, _, _, _ => none
  | n + 1, v4_1, v4_2, T4 => fX5_eats_4b (fX5_eats_4 n) v4_1 v4_2 T4
def fX5_eats (T : bf_TS) : Option (Int32 × bf_TS) := fX5_eats_4 bf_fuel 0 0 T
set_option maxHeartbeats 4000000 in
theorem mX5_eats (l : Launch) (G : bf_G) (σ : bf_V) (o : Nat) (T : bf_TS) {r : Int32} {T' : bf_TS} (hf : fX5_eats T = some (r, T')) : bf_MI l G yX5_eats cX5_eats 3 (bf_rm 8) [.ref o] (bf_pT G σ o T) (fun v σ' => v = r ∧ σ' = bf_pT G σ o T') := by
  refine bf_MI.of rfl (Nat.le_of_ble_eq_true rfl) ?_
  intro p e s m below meth c Q X hlk hnm kret hd ls hl
  have hx := X.1
  have hb := X.2.1
  have hown := X.2.2.2.1
  have hts := X.2.2.2.2
  have hl : lv_has ls 3 [(0, .ref o)] := hl
  have L4 : ∀ (n4 : Nat) (v4_1 : Int32) (v4_2 : Int32) (T4 : bf_TS) (H : Heap) (locs : List Loc) (ls : Array Slot), fX5_eats_4 n4 v4_1 v4_2 T4 = some (r, T') → bf_Dy G s H locs (bf_pT G σ o T4) → lv_has ls 3 [(0, .ref o), (1, .int v4_1), (2, .int v4_2)] → W p l e (bf_rm 8) s m ([.ref o] : List Value).toArray below meth c H locs 0 0 Q (F0 m 4 ls []) := by
    intro n4
    induction n4 with
    | zero =>
      intro v4_1 v4_2 T4 H locs ls hf hd hl
      exact absurd (show (none : Option (Int32 × bf_TS)) = some (r, T') from hf) (by intro h; cases h)
    | succ n4 ih4 =>
      intro v4_1 v4_2 T4 H locs ls hf hd hl
      have hf : fX5_eats_4b (fX5_eats_4 n4) v4_1 v4_2 T4 = some (r, T') := hf
      unfold fX5_eats_4b at hf
      have J53 : ∀ (w53_1 : Int32) (w53_2 : Int32) (T53 : bf_TS) (H : Heap) (locs : List Loc) (ls : Array Slot), fX5_eats_53 (fX5_eats_4 n4) w53_1 w53_2 T53 = some (r, T') → bf_Dy G s H locs (bf_pT G σ o T53) → lv_has ls 3 [(0, .ref o), (1, .int w53_1), (2, .int w53_2)] → W p l e (bf_rm 8) s m ([.ref o] : List Value).toArray below meth c H locs 0 0 Q (F0 m 53 ls []) := by
        intro w53_1 w53_2 T53 H locs ls hf hd hl
        unfold fX5_eats_53 at hf
        obtain ⟨x2_11, ex2_11, hf⟩ := bf_l_e hf
        refine lv_iinc (v := x2_11) (lv' := [(2, .int x2_11), (0, .ref o), (1, .int w53_1)]) hx hb dX5_eats_53 hl (k := 2) rfl (by rw [ex2_11]; rfl) (by decide) rfl (fun ls hl => ?_)
        refine lv_goto (tgt := 4) hx hb dX5_eats_56 (by decide) ?_
        exact ih4 w53_1 x2_11 T53 _ _ _ hf hd (lv_sub hl [1, 2, 0] rfl)
      refine lv_iload_n hx hb dX5_eats_4 rfl (lv_at hl 2 rfl) ?_
      refine lv_aload_n hx hb dX5_eats_5 rfl (lv_at hl 0 rfl) ?_
      refine bf_tgi X hd 7 (by decide) rfl q1390 dX5_eats_6 ?_
      refine lv_icmp_ge (tgt := 59) hx hb dX5_eats_9 (by decide) (fun c_12 => ?_) (fun c_12 => ?_)
      · have hf := bf_it hf c_12
        refine lv_iload_n hx hb dX5_eats_59 rfl (lv_at hl 1 rfl) ?_
        exact kret _ _ _ _ _ _ ⟨(bf_pr hf).1, congrArg (bf_pT G σ o) (bf_pr hf).2⟩ hd dX5_eats_60
      · have hf := bf_ie hf c_12
        refine lv_aload_n hx hb dX5_eats_12 rfl (lv_at hl 0 rfl) ?_
        refine lv_iload_n hx hb dX5_eats_13 rfl (lv_at hl 2 rfl) ?_
        obtain ⟨r_14, T_13, er_14, hf⟩ := bf_b2_some hf
        refine bf_tcz (n := 1) (As := [.int v4_2]) (rest := []) X hd (mX5_isHungry l G σ o T4 v4_2 er_14) (lw_V q1836 q1838 qs113 q156 q1839) (by decide +kernel) ⟨Nat.le_of_ble_eq_true rfl, Nat.le_of_ble_eq_true rfl⟩ rfl hl.1 rfl (Nat.le_of_ble_eq_true rfl) dX5_eats_14 ⟨Nat.le_of_ble_eq_true rfl, Nat.le_of_ble_eq_true rfl⟩ (fun H locs z_15 hd => ?_)
        refine lv_if_ne (tgt := 23) hx hb dX5_eats_17 (by decide) (fun c_16 => ?_) (fun c_16 => ?_)
        · have hf := bf_ie hf c_16
          refine lv_iload_n hx hb dX5_eats_23 rfl (lv_at hl 1 rfl) ?_
          refine lv_iconst (v := 1) hx hb dX5_eats_24 (by decide) ?_
          refine lv_iadd hx hb dX5_eats_25 ?_
          obtain ⟨x1_17, ex1_17, hf⟩ := bf_l_e hf
          refine bf_top ex1_17 ?_
          refine lv_istore_n (lv' := [(1, .int x1_17), (0, .ref o), (2, .int v4_2)]) hx hb dX5_eats_26 rfl hl (by decide) rfl (fun ls hl => ?_)
          refine lv_aload_n hx hb dX5_eats_27 rfl (lv_at hl 1 rfl) ?_
          refine bf_tgi X hd 44 (by decide) rfl q1427 dX5_eats_28 ?_
          refine lv_iconst (v := (-1)) hx hb dX5_eats_31 (by decide) ?_
          refine lv_icmp_eq (tgt := 38) hx hb dX5_eats_32 (by decide) (fun c_18 => ?_) (fun c_18 => ?_)
          · have hf := bf_it hf c_18
            refine lv_aload_n hx hb dX5_eats_38 rfl (lv_at hl 1 rfl) ?_
            refine lv_iload_n hx hb dX5_eats_39 rfl (lv_at hl 2 rfl) ?_
            refine bf_tpi X hd 44 (by decide) ⟨rfl, rfl, rfl⟩ q1427 dX5_eats_40 (fun H locs hd => ?_)
            obtain ⟨T_19, eT_19, hf⟩ := bf_l_e hf
            have hd := hd.of (congrArg (bf_pT G σ o) eT_19.symm)
            refine lv_aload_n hx hb dX5_eats_43 rfl (lv_at hl 1 rfl) ?_
            refine lv_aload_n hx hb dX5_eats_44 rfl (lv_at hl 1 rfl) ?_
            refine bf_tga X hd 1 (by decide) (by decide) q1384 dX5_eats_45 ?_
            refine lv_iconst (v := 0) hx hb dX5_eats_48 (by decide) ?_
            refine bf_tld X hd 1 (by decide) (by decide) dX5_eats_49 ?_
            refine bf_tpi X hd 45 (by decide) ⟨rfl, rfl, rfl⟩ q1428 dX5_eats_50 (fun H locs hd => ?_)
            obtain ⟨T_20, eT_20, hf⟩ := bf_l_e hf
            have hd := hd.of (congrArg (bf_pT G σ o) eT_20.symm)
            exact J53 x1_17 v4_2 T_20 _ _ _ hf hd (lv_sub hl [1, 0, 2] rfl)
          · have hf := bf_ie hf c_18
            refine lv_goto (tgt := 53) hx hb dX5_eats_35 (by decide) ?_
            exact J53 x1_17 v4_2 T_13 _ _ _ hf hd (lv_sub hl [1, 0, 2] rfl)
        · have hf := bf_it hf c_16
          refine lv_goto (tgt := 53) hx hb dX5_eats_20 (by decide) ?_
          exact J53 v4_1 v4_2 T_13 _ _ _ hf hd (lv_sub hl [0, 1, 2] rfl)
  unfold fX5_eats at hf
  refine lv_iconst (v := 0) hx hb dX5_eats_0 (by decide) ?_
  refine lv_istore_n (lv' := [(1, .int 0), (0, .ref o)]) hx hb dX5_eats_1 rfl hl (by decide) rfl (fun ls hl => ?_)
  refine lv_iconst (v := 0) hx hb dX5_eats_2 (by decide) ?_
  refine lv_istore_n (lv' := [(2, .int 0), (1, .int 0), (0, .ref o)]) hx hb dX5_eats_3 rfl hl (by decide) rfl (fun ls hl => ?_)
  exact L4 bf_fuel 0 0 T _ _ _ hf hd (lv_sub hl [2, 1, 0] rfl)
def fX5_goesBy_134b (u134_1 : Int32) (k134 : Int32 → bf_TS → Option (Int32 × bf_TS)) (v134_2 : Int32) (T134 : bf_TS) : Option (Int32 × bf_TS) := if (T134 1 4) ≤ v134_2 then (some (u134_1, T134)) else (if ((T134 1 0) - (T134 1 0) / 52 * 52) = 0 then (bf_c (bf_in (48 + v134_2) 136) <| bf_c (bf_in (48 + v134_2) 136) <| bf_l (bf_u2 T134 1 (48 + v134_2).toNatClampNeg (fX5_held ((T134 1 (48 + v134_2).toNatClampNeg) + 1) 0 99)) fun T_24 => bf_l (v134_2 + 1) fun x2_25 => k134 x2_25 T_24) else (some (u134_1, T134)))
def fX5_goesBy_134 (u134_1 : Int32) : Nat → Int32 → bf_TS → Option (Int32 × bf_TS)
  | 0, _, _ => none
  | n + 1, v134_2, T134 => fX5_goesBy_134b u134_1 (fX5_goesBy_134 u134_1 n) v134_2 T134
def fX5_goesBy_118 (w118_1 : Int32) (T118 : bf_TS) : Option (Int32 × bf_TS) := bf_l (bf_u2 T118 1 0 ((T118 1 0) + 1)) fun T_19 => fX5_goesBy_134 w118_1 bf_fuel 0 T_19
def fX5_goesBy_89 (T89 : bf_TS) : Option (Int32 × bf_TS) := bf_b2 (fX5_eats T89) fun r_14 T_13 => bf_b (fX5_stings T_13) fun T_15 => bf_c (bf_nz (fX5_every T_15)) <| if (((T_15 1 0) + 1) - ((T_15 1 0) + 1) / (fX5_every T_15) * (fX5_every T_15)) = 0 then (bf_b (fX5_elects T_15) fun T_18 => fX5_goesBy_118 r_14 T_18) else (fX5_goesBy_118 r_14 T_15)
def fX5_goesBy_42b (k42 : Int32 → bf_TS → Option (Int32 × bf_TS)) (v42_1 : Int32) (T42 : bf_TS) : Option (Int32 × bf_TS) := if (T42 1 4) ≤ v42_1 then (fX5_goesBy_89 T42) else (bf_c (bf_in (62 + v42_1) 136) <| bf_b2 (fX5_bearOf T42 v42_1) fun r_9 T_8 => bf_c (bf_in (62 + v42_1) 136) <| bf_l (bf_u2 T_8 1 (62 + v42_1).toNatClampNeg (fX5_held ((T42 1 (62 + v42_1).toNatClampNeg) + r_9) 0 99)) fun T_11 => bf_l (v42_1 + 1) fun x1_12 => k42 x1_12 T_11)
def fX5_goesBy_42  : Nat → Int32 → bf_TS → Option (Int32 × bf_TS)
  | 0, _, _ => none
  | n + 1, v42_1, T42 => fX5_goesBy_42b (fX5_goesBy_42 n) v42_1 T42
def fX5_goesBy_40 (T40 : bf_TS) : Option (Int32 × bf_TS) := fX5_goesBy_42 bf_fuel 0 T40
def fX5_goesBy_34 (k2 : Int32 → bf_TS → Option (Int32 × bf_TS)) (w34_1 : Int32) (T34 : bf_TS) : Option (Int32 × bf_TS) := bf_l (w34_1 + 1) fun x1_5 => k2 x1_5 T34
def fX5_goesBy_2b (k2 : Int32 → bf_TS → Option (Int32 × bf_TS)) (v2_1 : Int32) (T2 : bf_TS) : Option (Int32 × bf_TS) := if (T2 38 0) ≤ v2_1 then (fX5_goesBy_40 T2) else (bf_c (bf_in (4 * v2_1) 128) <| if (T2 39 (4 * v2_1).toNatClampNeg) = (T2 1 0) then (bf_b (fX5_does T2 (4 * v2_1)) fun T_4 => fX5_goesBy_34 k2 v2_1 T_4) else (fX5_goesBy_34 k2 v2_1 T2))
def fX5_goesBy_2  : Nat → Int32 → bf_TS → Option (Int32 × bf_TS)
  | 0, _, _ => none
  | n + 1, v2_1, T2 => fX5_goesBy_2b (fX5_goesBy_2 n) v2_1 T2
def fX5_goesBy (T : bf_TS) : Option (Int32 × bf_TS) := fX5_goesBy_2 bf_fuel 0 T
set_option maxHeartbeats 4000000 in
theorem mX5_goesBy (l : Launch) (G : bf_G) (σ : bf_V) (o : Nat) (T : bf_TS) {r : Int32} {T' : bf_TS} (hf : fX5_goesBy T = some (r, T')) : bf_MI l G yX5_goesBy cX5_goesBy 3 (bf_rm 9) [.ref o] (bf_pT G σ o T) (fun v σ' => v = r ∧ σ' = bf_pT G σ o T') := by
  refine bf_MI.of rfl (Nat.le_of_ble_eq_true rfl) ?_
  intro p e s m below meth c Q X hlk hnm kret hd ls hl
  have hx := X.1
  have hb := X.2.1
  have hown := X.2.2.2.1
  have hts := X.2.2.2.2
  have hl : lv_has ls 3 [(0, .ref o)] := hl
  have L134 : ∀ (u134_1 : Int32) (n134 : Nat) (v134_2 : Int32) (T134 : bf_TS) (H : Heap) (locs : List Loc) (ls : Array Slot), fX5_goesBy_134 u134_1 n134 v134_2 T134 = some (r, T') → bf_Dy G s H locs (bf_pT G σ o T134) → lv_has ls 3 [(0, .ref o), (1, .int u134_1), (2, .int v134_2)] → W p l e (bf_rm 9) s m ([.ref o] : List Value).toArray below meth c H locs 0 0 Q (F0 m 134 ls []) := by
    intro u134_1 n134
    induction n134 with
    | zero =>
      intro v134_2 T134 H locs ls hf hd hl
      exact absurd (show (none : Option (Int32 × bf_TS)) = some (r, T') from hf) (by intro h; cases h)
    | succ n134 ih134 =>
      intro v134_2 T134 H locs ls hf hd hl
      have hf : fX5_goesBy_134b u134_1 (fX5_goesBy_134 u134_1 n134) v134_2 T134 = some (r, T') := hf
      unfold fX5_goesBy_134b at hf
      refine lv_iload_n hx hb dX5_goesBy_134 rfl (lv_at hl 2 rfl) ?_
      refine lv_aload_n hx hb dX5_goesBy_135 rfl (lv_at hl 0 rfl) ?_
      refine bf_tga X hd 1 (by decide) (by decide) q1384 dX5_goesBy_136 ?_
      refine lv_iconst (v := 4) hx hb dX5_goesBy_139 (by decide) ?_
      refine bf_tld X hd 1 (by decide) (by decide) dX5_goesBy_140 ?_
      refine lv_icmp_ge (tgt := 189) hx hb dX5_goesBy_141 (by decide) (fun c_26 => ?_) (fun c_26 => ?_)
      · have hf := bf_it hf c_26
        refine lv_iload_n hx hb dX5_goesBy_189 rfl (lv_at hl 1 rfl) ?_
        exact kret _ _ _ _ _ _ ⟨(bf_pr hf).1, congrArg (bf_pT G σ o) (bf_pr hf).2⟩ hd dX5_goesBy_190
      · have hf := bf_ie hf c_26
        refine lv_aload_n hx hb dX5_goesBy_144 rfl (lv_at hl 0 rfl) ?_
        refine bf_tga X hd 1 (by decide) (by decide) q1384 dX5_goesBy_145 ?_
        refine lv_iconst (v := 0) hx hb dX5_goesBy_148 (by decide) ?_
        refine bf_tld X hd 1 (by decide) (by decide) dX5_goesBy_149 ?_
        refine lv_bipush (v := 52) hx hb dX5_goesBy_150 (by decide) ?_
        refine lv_irem hx hb dX5_goesBy_152 (by decide) ?_
        refine lv_if_ne (tgt := 189) hx hb dX5_goesBy_153 (by decide) (fun c_27 => ?_) (fun c_27 => ?_)
        · have hf := bf_ie hf c_27
          refine lv_iload_n hx hb dX5_goesBy_189 rfl (lv_at hl 1 rfl) ?_
          exact kret _ _ _ _ _ _ ⟨(bf_pr hf).1, congrArg (bf_pT G σ o) (bf_pr hf).2⟩ hd dX5_goesBy_190
        · have hf := bf_it hf c_27
          refine lv_aload_n hx hb dX5_goesBy_156 rfl (lv_at hl 0 rfl) ?_
          refine bf_tga X hd 1 (by decide) (by decide) q1384 dX5_goesBy_157 ?_
          refine lv_bipush (v := 48) hx hb dX5_goesBy_160 (by decide) ?_
          refine lv_iload_n hx hb dX5_goesBy_162 rfl (lv_at hl 2 rfl) ?_
          refine lv_iadd hx hb dX5_goesBy_163 ?_
          refine lv_aload_n hx hb dX5_goesBy_164 rfl (lv_at hl 0 rfl) ?_
          refine lv_aload_n hx hb dX5_goesBy_165 rfl (lv_at hl 0 rfl) ?_
          refine bf_tga X hd 1 (by decide) (by decide) q1384 dX5_goesBy_166 ?_
          refine lv_bipush (v := 48) hx hb dX5_goesBy_169 (by decide) ?_
          refine lv_iload_n hx hb dX5_goesBy_171 rfl (lv_at hl 2 rfl) ?_
          refine lv_iadd hx hb dX5_goesBy_172 ?_
          obtain ⟨g_28, hf⟩ := bf_c_some hf
          refine bf_tld X hd 1 (by decide) g_28 dX5_goesBy_173 ?_
          refine lv_iconst (v := 1) hx hb dX5_goesBy_174 (by decide) ?_
          refine lv_iadd hx hb dX5_goesBy_175 ?_
          refine lv_iconst (v := 0) hx hb dX5_goesBy_176 (by decide) ?_
          refine lv_bipush (v := 99) hx hb dX5_goesBy_177 (by decide) ?_
          refine bf_tci (n := 3) (As := [.int ((T134 1 (48 + v134_2).toNatClampNeg) + 1), .int 0, .int 99]) (rest := [.int (48 + v134_2), .ref (o + bf_to 1)]) X hd (mX5_held l G σ o T134 ((T134 1 (48 + v134_2).toNatClampNeg) + 1) 0 99 rfl) (lw_V q1588 q1590 qs60 q156 q1591) (by decide +kernel) ⟨Nat.le_of_ble_eq_true rfl, Nat.le_of_ble_eq_true rfl⟩ rfl hl.1 rfl (Nat.le_of_ble_eq_true rfl) dX5_goesBy_179 ⟨Nat.le_of_ble_eq_true rfl, Nat.le_of_ble_eq_true rfl⟩ (fun H locs hd => ?_)
          obtain ⟨g_29, hf⟩ := bf_c_some hf
          refine bf_tst X hd 1 (by decide) g_29 dX5_goesBy_182 (fun H locs hd => ?_)
          obtain ⟨T_30, eT_30, hf⟩ := bf_l_e hf
          have hd := hd.of (congrArg (bf_pT G σ o) eT_30.symm)
          obtain ⟨x2_31, ex2_31, hf⟩ := bf_l_e hf
          refine lv_iinc (v := x2_31) (lv' := [(2, .int x2_31), (0, .ref o), (1, .int u134_1)]) hx hb dX5_goesBy_183 hl (k := 2) rfl (by rw [ex2_31]; rfl) (by decide) rfl (fun ls hl => ?_)
          refine lv_goto (tgt := 134) hx hb dX5_goesBy_186 (by decide) ?_
          exact ih134 x2_31 T_30 _ _ _ hf hd (lv_sub hl [1, 2, 0] rfl)
  have J118 : ∀ (w118_1 : Int32) (T118 : bf_TS) (H : Heap) (locs : List Loc) (ls : Array Slot), fX5_goesBy_118 w118_1 T118 = some (r, T') → bf_Dy G s H locs (bf_pT G σ o T118) → lv_has ls 3 [(0, .ref o), (1, .int w118_1)] → W p l e (bf_rm 9) s m ([.ref o] : List Value).toArray below meth c H locs 0 0 Q (F0 m 118 ls []) := by
    intro w118_1 T118 H locs ls hf hd hl
    unfold fX5_goesBy_118 at hf
    refine lv_aload_n hx hb dX5_goesBy_118 rfl (lv_at hl 0 rfl) ?_
    refine bf_tga X hd 1 (by decide) (by decide) q1384 dX5_goesBy_119 ?_
    refine lv_iconst (v := 0) hx hb dX5_goesBy_122 (by decide) ?_
    refine lv_aload_n hx hb dX5_goesBy_123 rfl (lv_at hl 0 rfl) ?_
    refine bf_tga X hd 1 (by decide) (by decide) q1384 dX5_goesBy_124 ?_
    refine lv_iconst (v := 0) hx hb dX5_goesBy_127 (by decide) ?_
    refine bf_tld X hd 1 (by decide) (by decide) dX5_goesBy_128 ?_
    refine lv_iconst (v := 1) hx hb dX5_goesBy_129 (by decide) ?_
    refine lv_iadd hx hb dX5_goesBy_130 ?_
    refine bf_tst X hd 1 (by decide) (by decide) dX5_goesBy_131 (fun H locs hd => ?_)
    obtain ⟨T_32, eT_32, hf⟩ := bf_l_e hf
    have hd := hd.of (congrArg (bf_pT G σ o) eT_32.symm)
    refine lv_iconst (v := 0) hx hb dX5_goesBy_132 (by decide) ?_
    refine lv_istore_n (lv' := [(2, .int 0), (0, .ref o), (1, .int w118_1)]) hx hb dX5_goesBy_133 rfl hl (by decide) rfl (fun ls hl => ?_)
    exact L134 w118_1 bf_fuel 0 T_32 _ _ _ hf hd (lv_sub hl [1, 2, 0] rfl)
  have J89 : ∀ (T89 : bf_TS) (H : Heap) (locs : List Loc) (ls : Array Slot), fX5_goesBy_89 T89 = some (r, T') → bf_Dy G s H locs (bf_pT G σ o T89) → lv_has ls 3 [(0, .ref o)] → W p l e (bf_rm 9) s m ([.ref o] : List Value).toArray below meth c H locs 0 0 Q (F0 m 89 ls []) := by
    intro T89 H locs ls hf hd hl
    unfold fX5_goesBy_89 at hf
    refine lv_aload_n hx hb dX5_goesBy_89 rfl (lv_at hl 0 rfl) ?_
    obtain ⟨r_34, T_33, er_34, hf⟩ := bf_b2_some hf
    refine bf_tci (n := 0) (As := []) (rest := []) X hd (mX5_eats l G σ o T89 er_34) (lw_V q1832 q1834 qs112 q156 q1835) (by decide +kernel) ⟨Nat.le_of_ble_eq_true rfl, Nat.le_of_ble_eq_true rfl⟩ rfl hl.1 rfl (Nat.le_of_ble_eq_true rfl) dX5_goesBy_90 ⟨Nat.le_of_ble_eq_true rfl, Nat.le_of_ble_eq_true rfl⟩ (fun H locs hd => ?_)
    refine lv_istore_n (lv' := [(1, .int r_34), (0, .ref o)]) hx hb dX5_goesBy_93 rfl hl (by decide) rfl (fun ls hl => ?_)
    refine lv_aload_n hx hb dX5_goesBy_94 rfl (lv_at hl 1 rfl) ?_
    obtain ⟨T_35, eT_35, hf⟩ := bf_b_some hf
    refine bf_tcv (n := 0) (As := []) (rest := []) X hd (mX5_stings l G σ o T_33 eT_35) (lw_V q1878 q1880 qs123 q156 q1881) (by decide +kernel) ⟨Nat.le_of_ble_eq_true rfl, Nat.le_of_ble_eq_true rfl⟩ rfl hl.1 rfl (Nat.le_of_ble_eq_true rfl) dX5_goesBy_95 ⟨Nat.le_of_ble_eq_true rfl, Nat.le_of_ble_eq_true rfl⟩ (fun H locs hd => ?_)
    refine lv_aload_n hx hb dX5_goesBy_98 rfl (lv_at hl 1 rfl) ?_
    refine bf_tga X hd 1 (by decide) (by decide) q1384 dX5_goesBy_99 ?_
    refine lv_iconst (v := 0) hx hb dX5_goesBy_102 (by decide) ?_
    refine bf_tld X hd 1 (by decide) (by decide) dX5_goesBy_103 ?_
    refine lv_iconst (v := 1) hx hb dX5_goesBy_104 (by decide) ?_
    refine lv_iadd hx hb dX5_goesBy_105 ?_
    refine lv_aload_n hx hb dX5_goesBy_106 rfl (lv_at hl 1 rfl) ?_
    refine bf_tci (n := 0) (As := []) (rest := [.int ((T_35 1 0) + 1)]) X hd (mX5_every l G σ o T_35 rfl) (lw_V q1882 q1884 qs124 q156 q1885) (by decide +kernel) ⟨Nat.le_of_ble_eq_true rfl, Nat.le_of_ble_eq_true rfl⟩ rfl hl.1 rfl (Nat.le_of_ble_eq_true rfl) dX5_goesBy_107 ⟨Nat.le_of_ble_eq_true rfl, Nat.le_of_ble_eq_true rfl⟩ (fun H locs hd => ?_)
    obtain ⟨g_36, hf⟩ := bf_c_some hf
    refine lv_irem hx hb dX5_goesBy_110 (bf_nz_t g_36) ?_
    refine lv_if_ne (tgt := 118) hx hb dX5_goesBy_111 (by decide) (fun c_37 => ?_) (fun c_37 => ?_)
    · have hf := bf_ie hf c_37
      exact J118 r_34 T_35 _ _ _ hf hd (lv_sub hl [1, 0] rfl)
    · have hf := bf_it hf c_37
      refine lv_aload_n hx hb dX5_goesBy_114 rfl (lv_at hl 1 rfl) ?_
      obtain ⟨T_38, eT_38, hf⟩ := bf_b_some hf
      refine bf_tcv (n := 0) (As := []) (rest := []) X hd (mX5_elects l G σ o T_35 eT_38) (lw_V q1886 q1888 qs125 q156 q1889) (by decide +kernel) ⟨Nat.le_of_ble_eq_true rfl, Nat.le_of_ble_eq_true rfl⟩ rfl hl.1 rfl (Nat.le_of_ble_eq_true rfl) dX5_goesBy_115 ⟨Nat.le_of_ble_eq_true rfl, Nat.le_of_ble_eq_true rfl⟩ (fun H locs hd => ?_)
      exact J118 r_34 T_38 _ _ _ hf hd (lv_sub hl [1, 0] rfl)
  have L42 : ∀ (n42 : Nat) (v42_1 : Int32) (T42 : bf_TS) (H : Heap) (locs : List Loc) (ls : Array Slot), fX5_goesBy_42 n42 v42_1 T42 = some (r, T') → bf_Dy G s H locs (bf_pT G σ o T42) → lv_has ls 3 [(0, .ref o), (1, .int v42_1)] → W p l e (bf_rm 9) s m ([.ref o] : List Value).toArray below meth c H locs 0 0 Q (F0 m 42 ls []) := by
    intro n42
    induction n42 with
    | zero =>
      intro v42_1 T42 H locs ls hf hd hl
      exact absurd (show (none : Option (Int32 × bf_TS)) = some (r, T') from hf) (by intro h; cases h)
    | succ n42 ih42 =>
      intro v42_1 T42 H locs ls hf hd hl
      have hf : fX5_goesBy_42b (fX5_goesBy_42 n42) v42_1 T42 = some (r, T') := hf
      unfold fX5_goesBy_42b at hf
      refine lv_iload_n hx hb dX5_goesBy_42 rfl (lv_at hl 1 rfl) ?_
      refine lv_aload_n hx hb dX5_goesBy_43 rfl (lv_at hl 0 rfl) ?_
      refine bf_tga X hd 1 (by decide) (by decide) q1384 dX5_goesBy_44 ?_
      refine lv_iconst (v := 4) hx hb dX5_goesBy_47 (by decide) ?_
      refine bf_tld X hd 1 (by decide) (by decide) dX5_goesBy_48 ?_
      refine lv_icmp_ge (tgt := 89) hx hb dX5_goesBy_49 (by decide) (fun c_39 => ?_) (fun c_39 => ?_)
      · have hf := bf_it hf c_39
        exact J89 T42 _ _ _ hf hd (lv_sub hl [0] rfl)
      · have hf := bf_ie hf c_39
        refine lv_aload_n hx hb dX5_goesBy_52 rfl (lv_at hl 0 rfl) ?_
        refine bf_tga X hd 1 (by decide) (by decide) q1384 dX5_goesBy_53 ?_
        refine lv_bipush (v := 62) hx hb dX5_goesBy_56 (by decide) ?_
        refine lv_iload_n hx hb dX5_goesBy_58 rfl (lv_at hl 1 rfl) ?_
        refine lv_iadd hx hb dX5_goesBy_59 ?_
        refine lv_aload_n hx hb dX5_goesBy_60 rfl (lv_at hl 0 rfl) ?_
        refine lv_aload_n hx hb dX5_goesBy_61 rfl (lv_at hl 0 rfl) ?_
        refine bf_tga X hd 1 (by decide) (by decide) q1384 dX5_goesBy_62 ?_
        refine lv_bipush (v := 62) hx hb dX5_goesBy_65 (by decide) ?_
        refine lv_iload_n hx hb dX5_goesBy_67 rfl (lv_at hl 1 rfl) ?_
        refine lv_iadd hx hb dX5_goesBy_68 ?_
        obtain ⟨g_40, hf⟩ := bf_c_some hf
        refine bf_tld X hd 1 (by decide) g_40 dX5_goesBy_69 ?_
        refine lv_aload_n hx hb dX5_goesBy_70 rfl (lv_at hl 0 rfl) ?_
        refine lv_iload_n hx hb dX5_goesBy_71 rfl (lv_at hl 1 rfl) ?_
        obtain ⟨r_42, T_41, er_42, hf⟩ := bf_b2_some hf
        refine bf_tci (n := 1) (As := [.int v42_1]) (rest := [.int (T42 1 (62 + v42_1).toNatClampNeg), .ref o, .int (62 + v42_1), .ref (o + bf_to 1)]) X hd (mX5_bearOf l G σ o T42 v42_1 er_42) (lw_V q1808 q1810 qs106 q156 q1811) (by decide +kernel) ⟨Nat.le_of_ble_eq_true rfl, Nat.le_of_ble_eq_true rfl⟩ rfl hl.1 rfl (Nat.le_of_ble_eq_true rfl) dX5_goesBy_72 ⟨Nat.le_of_ble_eq_true rfl, Nat.le_of_ble_eq_true rfl⟩ (fun H locs hd => ?_)
        refine lv_iadd hx hb dX5_goesBy_75 ?_
        refine lv_iconst (v := 0) hx hb dX5_goesBy_76 (by decide) ?_
        refine lv_bipush (v := 99) hx hb dX5_goesBy_77 (by decide) ?_
        refine bf_tci (n := 3) (As := [.int ((T42 1 (62 + v42_1).toNatClampNeg) + r_42), .int 0, .int 99]) (rest := [.int (62 + v42_1), .ref (o + bf_to 1)]) X hd (mX5_held l G σ o T_41 ((T42 1 (62 + v42_1).toNatClampNeg) + r_42) 0 99 rfl) (lw_V q1588 q1590 qs60 q156 q1591) (by decide +kernel) ⟨Nat.le_of_ble_eq_true rfl, Nat.le_of_ble_eq_true rfl⟩ rfl hl.1 rfl (Nat.le_of_ble_eq_true rfl) dX5_goesBy_79 ⟨Nat.le_of_ble_eq_true rfl, Nat.le_of_ble_eq_true rfl⟩ (fun H locs hd => ?_)
        obtain ⟨g_43, hf⟩ := bf_c_some hf
        refine bf_tst X hd 1 (by decide) g_43 dX5_goesBy_82 (fun H locs hd => ?_)
        obtain ⟨T_44, eT_44, hf⟩ := bf_l_e hf
        have hd := hd.of (congrArg (bf_pT G σ o) eT_44.symm)
        obtain ⟨x1_45, ex1_45, hf⟩ := bf_l_e hf
        refine lv_iinc (v := x1_45) (lv' := [(1, .int x1_45), (0, .ref o)]) hx hb dX5_goesBy_83 hl (k := 1) rfl (by rw [ex1_45]; rfl) (by decide) rfl (fun ls hl => ?_)
        refine lv_goto (tgt := 42) hx hb dX5_goesBy_86 (by decide) ?_
        exact ih42 x1_45 T_44 _ _ _ hf hd (lv_sub hl [1, 0] rfl)
  have J40 : ∀ (T40 : bf_TS) (H : Heap) (locs : List Loc) (ls : Array Slot), fX5_goesBy_40 T40 = some (r, T') → bf_Dy G s H locs (bf_pT G σ o T40) → lv_has ls 3 [(0, .ref o)] → W p l e (bf_rm 9) s m ([.ref o] : List Value).toArray below meth c H locs 0 0 Q (F0 m 40 ls []) := by
    intro T40 H locs ls hf hd hl
    unfold fX5_goesBy_40 at hf
    refine lv_iconst (v := 0) hx hb dX5_goesBy_40 (by decide) ?_
    refine lv_istore_n (lv' := [(1, .int 0), (0, .ref o)]) hx hb dX5_goesBy_41 rfl hl (by decide) rfl (fun ls hl => ?_)
    exact L42 bf_fuel 0 T40 _ _ _ hf hd (lv_sub hl [1, 0] rfl)
  have L2 : ∀ (n2 : Nat) (v2_1 : Int32) (T2 : bf_TS) (H : Heap) (locs : List Loc) (ls : Array Slot), fX5_goesBy_2 n2 v2_1 T2 = some (r, T') → bf_Dy G s H locs (bf_pT G σ o T2) → lv_has ls 3 [(0, .ref o), (1, .int v2_1)] → W p l e (bf_rm 9) s m ([.ref o] : List Value).toArray below meth c H locs 0 0 Q (F0 m 2 ls []) := by
    intro n2
    induction n2 with
    | zero =>
      intro v2_1 T2 H locs ls hf hd hl
      exact absurd (show (none : Option (Int32 × bf_TS)) = some (r, T') from hf) (by intro h; cases h)
    | succ n2 ih2 =>
      intro v2_1 T2 H locs ls hf hd hl
      have hf : fX5_goesBy_2b (fX5_goesBy_2 n2) v2_1 T2 = some (r, T') := hf
      unfold fX5_goesBy_2b at hf
      have J34 : ∀ (w34_1 : Int32) (T34 : bf_TS) (H : Heap) (locs : List Loc) (ls : Array Slot), fX5_goesBy_34 (fX5_goesBy_2 n2) w34_1 T34 = some (r, T') → bf_Dy G s H locs (bf_pT G σ o T34) → lv_has ls 3 [(0, .ref o), (1, .int w34_1)] → W p l e (bf_rm 9) s m ([.ref o] : List Value).toArray below meth c H locs 0 0 Q (F0 m 34 ls []) := by
        intro w34_1 T34 H locs ls hf hd hl
        unfold fX5_goesBy_34 at hf
        obtain ⟨x1_46, ex1_46, hf⟩ := bf_l_e hf
        refine lv_iinc (v := x1_46) (lv' := [(1, .int x1_46), (0, .ref o)]) hx hb dX5_goesBy_34 hl (k := 1) rfl (by rw [ex1_46]; rfl) (by decide) rfl (fun ls hl => ?_)
        refine lv_goto (tgt := 2) hx hb dX5_goesBy_37 (by decide) ?_
        exact ih2 x1_46 T34 _ _ _ hf hd (lv_sub hl [1, 0] rfl)
      refine lv_iload_n hx hb dX5_goesBy_2 rfl (lv_at hl 1 rfl) ?_
      refine lv_aload_n hx hb dX5_goesBy_3 rfl (lv_at hl 0 rfl) ?_
      refine bf_tgi X hd 38 (by decide) rfl q1421 dX5_goesBy_4 ?_
      refine lv_icmp_ge (tgt := 40) hx hb dX5_goesBy_7 (by decide) (fun c_47 => ?_) (fun c_47 => ?_)
      · have hf := bf_it hf c_47
        exact J40 T2 _ _ _ hf hd (lv_sub hl [0] rfl)
      · have hf := bf_ie hf c_47
        refine lv_aload_n hx hb dX5_goesBy_10 rfl (lv_at hl 0 rfl) ?_
        refine bf_tga X hd 39 (by decide) (by decide) q1422 dX5_goesBy_11 ?_
        refine lv_iconst (v := 4) hx hb dX5_goesBy_14 (by decide) ?_
        refine lv_iload_n hx hb dX5_goesBy_15 rfl (lv_at hl 1 rfl) ?_
        refine lv_imul hx hb dX5_goesBy_16 ?_
        obtain ⟨g_48, hf⟩ := bf_c_some hf
        refine bf_tld X hd 39 (by decide) g_48 dX5_goesBy_17 ?_
        refine lv_aload_n hx hb dX5_goesBy_18 rfl (lv_at hl 0 rfl) ?_
        refine bf_tga X hd 1 (by decide) (by decide) q1384 dX5_goesBy_19 ?_
        refine lv_iconst (v := 0) hx hb dX5_goesBy_22 (by decide) ?_
        refine bf_tld X hd 1 (by decide) (by decide) dX5_goesBy_23 ?_
        refine lv_icmp_ne (tgt := 34) hx hb dX5_goesBy_24 (by decide) (fun c_49 => ?_) (fun c_49 => ?_)
        · have hf := bf_ie hf c_49
          exact J34 v2_1 T2 _ _ _ hf hd (lv_sub hl [0, 1] rfl)
        · have hf := bf_it hf c_49
          refine lv_aload_n hx hb dX5_goesBy_27 rfl (lv_at hl 0 rfl) ?_
          refine lv_iconst (v := 4) hx hb dX5_goesBy_28 (by decide) ?_
          refine lv_iload_n hx hb dX5_goesBy_29 rfl (lv_at hl 1 rfl) ?_
          refine lv_imul hx hb dX5_goesBy_30 ?_
          obtain ⟨T_50, eT_50, hf⟩ := bf_b_some hf
          refine bf_tcv (n := 1) (As := [.int (4 * v2_1)]) (rest := []) X hd (mX5_does l G σ o T2 (4 * v2_1) eT_50) (lw_V q1804 q1806 qs105 q156 q1807) (by decide +kernel) ⟨Nat.le_of_ble_eq_true rfl, Nat.le_of_ble_eq_true rfl⟩ rfl hl.1 rfl (Nat.le_of_ble_eq_true rfl) dX5_goesBy_31 ⟨Nat.le_of_ble_eq_true rfl, Nat.le_of_ble_eq_true rfl⟩ (fun H locs hd => ?_)
          exact J34 v2_1 T_50 _ _ _ hf hd (lv_sub hl [0, 1] rfl)
  unfold fX5_goesBy at hf
  refine lv_iconst (v := 0) hx hb dX5_goesBy_0 (by decide) ?_
  refine lv_istore_n (lv' := [(1, .int 0), (0, .ref o)]) hx hb dX5_goesBy_1 rfl hl (by decide) rfl (fun ls hl => ?_)
  exact L2 bf_fuel 0 T _ _ _ hf hd (lv_sub hl [1, 0] rfl)
def fX5_goesFor_2b (x1 : Int32) (k2 : Int32 → bf_TS → Option (bf_TS)) (v2_2 : Int32) (T2 : bf_TS) : Option (bf_TS) := if x1 ≤ v2_2 then (some T2) else (bf_b2 (fX5_goesBy T2) fun r_3 T_2 => bf_l (v2_2 + 1) fun x2_4 => k2 x2_4 T_2)
def fX5_goesFor_2 (x1 : Int32) : Nat → Int32 → bf_TS → Option (bf_TS)
  | 0, _, _ => none
  | n + 1, v2_2, T2 => fX5_goesFor_2b x1 (fX5_goesFor_2 x1 n) v2_2 T2
def fX5_goesFor (T : bf_TS) (x1 : Int32) : Option (bf_TS) := fX5_goesFor_2 x1 bf_fuel 0 T
set_option maxHeartbeats 4000000 in
theorem mX5_goesFor (l : Launch) (G : bf_G) (σ : bf_V) (o : Nat) (T : bf_TS) (x1 : Int32) {T' : bf_TS} (hf : fX5_goesFor T x1 = some T') : bf_MV l G yX5_goesFor cX5_goesFor 3 (bf_rm 10) [.ref o, .int x1] (bf_pT G σ o T) (fun σ' => σ' = bf_pT G σ o T') := by
  refine bf_MV.of rfl (Nat.le_of_ble_eq_true rfl) ?_
  intro p e s m below meth c Q X hlk hnm kret hd ls hl
  have hx := X.1
  have hb := X.2.1
  have hown := X.2.2.2.1
  have hts := X.2.2.2.2
  have hl : lv_has ls 3 [(0, .ref o), (1, .int x1)] := hl
  have L2 : ∀ (n2 : Nat) (v2_2 : Int32) (T2 : bf_TS) (H : Heap) (locs : List Loc) (ls : Array Slot), fX5_goesFor_2 x1 n2 v2_2 T2 = some T' → bf_Dy G s H locs (bf_pT G σ o T2) → lv_has ls 3 [(0, .ref o), (1, .int x1), (2, .int v2_2)] → W p l e (bf_rm 10) s m ([.ref o, .int x1] : List Value).toArray below meth c H locs 0 0 Q (F0 m 2 ls []) := by
    intro n2
    induction n2 with
    | zero =>
      intro v2_2 T2 H locs ls hf hd hl
      exact absurd (show (none : Option (bf_TS)) = some T' from hf) (by intro h; cases h)
    | succ n2 ih2 =>
      intro v2_2 T2 H locs ls hf hd hl
      have hf : fX5_goesFor_2b x1 (fX5_goesFor_2 x1 n2) v2_2 T2 = some T' := hf
      unfold fX5_goesFor_2b at hf
      refine lv_iload_n hx hb dX5_goesFor_2 rfl (lv_at hl 2 rfl) ?_
      refine lv_iload_n hx hb dX5_goesFor_3 rfl (lv_at hl 1 rfl) ?_
      refine lv_icmp_ge (tgt := 18) hx hb dX5_goesFor_4 (by decide) (fun c_5 => ?_) (fun c_5 => ?_)
      · have hf := bf_it hf c_5
        exact kret _ _ _ _ _ (congrArg (bf_pT G σ o) (bf_so hf)) hd dX5_goesFor_18
      · have hf := bf_ie hf c_5
        refine lv_aload_n hx hb dX5_goesFor_7 rfl (lv_at hl 0 rfl) ?_
        obtain ⟨r_7, T_6, er_7, hf⟩ := bf_b2_some hf
        refine bf_tci (n := 0) (As := []) (rest := []) X hd (mX5_goesBy l G σ o T2 er_7) (lw_V q1800 q1802 qs104 q156 q1803) (by decide +kernel) ⟨Nat.le_of_ble_eq_true rfl, Nat.le_of_ble_eq_true rfl⟩ rfl hl.1 rfl (Nat.le_of_ble_eq_true rfl) dX5_goesFor_8 ⟨Nat.le_of_ble_eq_true rfl, Nat.le_of_ble_eq_true rfl⟩ (fun H locs hd => ?_)
        refine lv_pop hx hb dX5_goesFor_11 rfl ?_
        obtain ⟨x2_8, ex2_8, hf⟩ := bf_l_e hf
        refine lv_iinc (v := x2_8) (lv' := [(2, .int x2_8), (0, .ref o), (1, .int x1)]) hx hb dX5_goesFor_12 hl (k := 2) rfl (by rw [ex2_8]; rfl) (by decide) rfl (fun ls hl => ?_)
        refine lv_goto (tgt := 2) hx hb dX5_goesFor_15 (by decide) ?_
        exact ih2 x2_8 T_6 _ _ _ hf hd (lv_sub hl [1, 2, 0] rfl)
  unfold fX5_goesFor at hf
  refine lv_iconst (v := 0) hx hb dX5_goesFor_0 (by decide) ?_
  refine lv_istore_n (lv' := [(2, .int 0), (0, .ref o), (1, .int x1)]) hx hb dX5_goesFor_1 rfl hl (by decide) rfl (fun ls hl => ?_)
  exact L2 bf_fuel 0 T _ _ _ hf hd (lv_sub hl [1, 2, 0] rfl)
def fX5_weeks_36b (x1 : Int32) (k36 : Int32 → Int32 → bf_TS → Option (Int32 × bf_TS)) (v36_2 : Int32) (v36_3 : Int32) (T36 : bf_TS) : Option (Int32 × bf_TS) := if x1 ≤ v36_3 then (some (v36_2, T36)) else (bf_b (fX5_keepsAhead T36) fun T_2 => bf_b2 (fX5_goesBy T_2) fun r_4 T_3 => bf_l ((v36_2 + r_4)) fun x2_5 => bf_l (v36_3 + 1) fun x3_6 => k36 x2_5 x3_6 T_3)
def fX5_weeks_36 (x1 : Int32) : Nat → Int32 → Int32 → bf_TS → Option (Int32 × bf_TS)
  | 0, _, _, _ => none
  | n + 1, v36_2, v36_3, T36 => fX5_weeks_36b x1 (fX5_weeks_36 x1 n) v36_2 v36_3 T36
def fX5_weeks (T : bf_TS) (x1 : Int32) : Option (Int32 × bf_TS) := bf_l (bf_u2 T 0 0 0) fun T_7 => if (fX5_isIn x1 1 60) = 0 then (some ((-1), T_7)) else (if ((T_7 1 0) + x1) ≤ 9999 then (fX5_weeks_36 x1 bf_fuel 0 0 T_7) else (some ((-1), T_7)))
set_option maxHeartbeats 4000000 in
theorem mX5_weeks (l : Launch) (G : bf_G) (σ : bf_V) (o : Nat) (T : bf_TS) (x1 : Int32) {r : Int32} {T' : bf_TS} (hf : fX5_weeks T x1 = some (r, T')) : bf_MI l G yX5_weeks cX5_weeks 4 (bf_rm 10) [.ref o, .int x1] (bf_pT G σ o T) (fun v σ' => v = r ∧ σ' = bf_pT G σ o T') := by
  refine bf_MI.of rfl (Nat.le_of_ble_eq_true rfl) ?_
  intro p e s m below meth c Q X hlk hnm kret hd ls hl
  have hx := X.1
  have hb := X.2.1
  have hown := X.2.2.2.1
  have hts := X.2.2.2.2
  have hl : lv_has ls 4 [(0, .ref o), (1, .int x1)] := hl
  have L36 : ∀ (n36 : Nat) (v36_2 : Int32) (v36_3 : Int32) (T36 : bf_TS) (H : Heap) (locs : List Loc) (ls : Array Slot), fX5_weeks_36 x1 n36 v36_2 v36_3 T36 = some (r, T') → bf_Dy G s H locs (bf_pT G σ o T36) → lv_has ls 4 [(0, .ref o), (1, .int x1), (2, .int v36_2), (3, .int v36_3)] → W p l e (bf_rm 10) s m ([.ref o, .int x1] : List Value).toArray below meth c H locs 0 0 Q (F0 m 36 ls []) := by
    intro n36
    induction n36 with
    | zero =>
      intro v36_2 v36_3 T36 H locs ls hf hd hl
      exact absurd (show (none : Option (Int32 × bf_TS)) = some (r, T') from hf) (by intro h; cases h)
    | succ n36 ih36 =>
      intro v36_2 v36_3 T36 H locs ls hf hd hl
      have hf : fX5_weeks_36b x1 (fX5_weeks_36 x1 n36) v36_2 v36_3 T36 = some (r, T') := hf
      unfold fX5_weeks_36b at hf
      refine lv_iload_n hx hb dX5_weeks_36 rfl (lv_at hl 3 rfl) ?_
      refine lv_iload_n hx hb dX5_weeks_37 rfl (lv_at hl 1 rfl) ?_
      refine lv_icmp_ge (tgt := 58) hx hb dX5_weeks_38 (by decide) (fun c_11 => ?_) (fun c_11 => ?_)
      · have hf := bf_it hf c_11
        refine lv_iload_n hx hb dX5_weeks_58 rfl (lv_at hl 2 rfl) ?_
        exact kret _ _ _ _ _ _ ⟨(bf_pr hf).1, congrArg (bf_pT G σ o) (bf_pr hf).2⟩ hd dX5_weeks_59
      · have hf := bf_ie hf c_11
        refine lv_aload_n hx hb dX5_weeks_41 rfl (lv_at hl 0 rfl) ?_
        obtain ⟨T_12, eT_12, hf⟩ := bf_b_some hf
        refine bf_tcv (n := 0) (As := []) (rest := []) X hd (mX5_keepsAhead l G σ o T36 eT_12) (lw_V q1756 q1758 qs96 q156 q1759) (by decide +kernel) ⟨Nat.le_of_ble_eq_true rfl, Nat.le_of_ble_eq_true rfl⟩ rfl hl.1 rfl (Nat.le_of_ble_eq_true rfl) dX5_weeks_42 ⟨Nat.le_of_ble_eq_true rfl, Nat.le_of_ble_eq_true rfl⟩ (fun H locs hd => ?_)
        refine lv_iload_n hx hb dX5_weeks_45 rfl (lv_at hl 2 rfl) ?_
        refine lv_aload_n hx hb dX5_weeks_46 rfl (lv_at hl 0 rfl) ?_
        obtain ⟨r_14, T_13, er_14, hf⟩ := bf_b2_some hf
        refine bf_tci (n := 0) (As := []) (rest := [.int v36_2]) X hd (mX5_goesBy l G σ o T_12 er_14) (lw_V q1800 q1802 qs104 q156 q1803) (by decide +kernel) ⟨Nat.le_of_ble_eq_true rfl, Nat.le_of_ble_eq_true rfl⟩ rfl hl.1 rfl (Nat.le_of_ble_eq_true rfl) dX5_weeks_47 ⟨Nat.le_of_ble_eq_true rfl, Nat.le_of_ble_eq_true rfl⟩ (fun H locs hd => ?_)
        refine lv_iadd hx hb dX5_weeks_50 ?_
        obtain ⟨x2_15, ex2_15, hf⟩ := bf_l_e hf
        refine bf_top ex2_15 ?_
        refine lv_istore_n (lv' := [(2, .int x2_15), (0, .ref o), (1, .int x1), (3, .int v36_3)]) hx hb dX5_weeks_51 rfl hl (by decide) rfl (fun ls hl => ?_)
        obtain ⟨x3_16, ex3_16, hf⟩ := bf_l_e hf
        refine lv_iinc (v := x3_16) (lv' := [(3, .int x3_16), (2, .int x2_15), (0, .ref o), (1, .int x1)]) hx hb dX5_weeks_52 hl (k := 3) rfl (by rw [ex3_16]; rfl) (by decide) rfl (fun ls hl => ?_)
        refine lv_goto (tgt := 36) hx hb dX5_weeks_55 (by decide) ?_
        exact ih36 x2_15 x3_16 T_13 _ _ _ hf hd (lv_sub hl [2, 3, 1, 0] rfl)
  unfold fX5_weeks at hf
  refine lv_aload_n hx hb dX5_weeks_0 rfl (lv_at hl 0 rfl) ?_
  refine lv_iconst (v := 0) hx hb dX5_weeks_1 (by decide) ?_
  refine bf_tpi X hd 0 (by decide) ⟨rfl, rfl, rfl⟩ q1383 dX5_weeks_2 (fun H locs hd => ?_)
  obtain ⟨T_17, eT_17, hf⟩ := bf_l_e hf
  have hd := hd.of (congrArg (bf_pT G σ o) eT_17.symm)
  refine lv_aload_n hx hb dX5_weeks_5 rfl (lv_at hl 0 rfl) ?_
  refine lv_iload_n hx hb dX5_weeks_6 rfl (lv_at hl 1 rfl) ?_
  refine lv_iconst (v := 1) hx hb dX5_weeks_7 (by decide) ?_
  refine lv_bipush (v := 60) hx hb dX5_weeks_8 (by decide) ?_
  refine bf_tcz (n := 3) (As := [.int x1, .int 1, .int 60]) (rest := []) X hd (mX5_isIn l G σ o T_17 x1 1 60 rfl) (lw_V q1564 q1566 qs56 q156 q1567) (by decide +kernel) ⟨Nat.le_of_ble_eq_true rfl, Nat.le_of_ble_eq_true rfl⟩ rfl hl.1 rfl (Nat.le_of_ble_eq_true rfl) dX5_weeks_10 ⟨Nat.le_of_ble_eq_true rfl, Nat.le_of_ble_eq_true rfl⟩ (fun H locs z_18 hd => ?_)
  refine lv_if_eq (tgt := 30) hx hb dX5_weeks_13 (by decide) (fun c_19 => ?_) (fun c_19 => ?_)
  · have hf := bf_it hf c_19
    refine lv_iconst (v := (-1)) hx hb dX5_weeks_30 (by decide) ?_
    exact kret _ _ _ _ _ _ ⟨(bf_pr hf).1, congrArg (bf_pT G σ o) (bf_pr hf).2⟩ hd dX5_weeks_31
  · have hf := bf_ie hf c_19
    refine lv_aload_n hx hb dX5_weeks_16 rfl (lv_at hl 0 rfl) ?_
    refine bf_tga X hd 1 (by decide) (by decide) q1384 dX5_weeks_17 ?_
    refine lv_iconst (v := 0) hx hb dX5_weeks_20 (by decide) ?_
    refine bf_tld X hd 1 (by decide) (by decide) dX5_weeks_21 ?_
    refine lv_iload_n hx hb dX5_weeks_22 rfl (lv_at hl 1 rfl) ?_
    refine lv_iadd hx hb dX5_weeks_23 ?_
    refine lv_sipush (v := 9999) hx hb dX5_weeks_24 (by decide) ?_
    refine lv_icmp_le (tgt := 32) hx hb dX5_weeks_27 (by decide) (fun c_20 => ?_) (fun c_20 => ?_)
    · have hf := bf_it hf c_20
      refine lv_iconst (v := 0) hx hb dX5_weeks_32 (by decide) ?_
      refine lv_istore_n (lv' := [(2, .int 0), (0, .ref o), (1, .int x1)]) hx hb dX5_weeks_33 rfl hl (by decide) rfl (fun ls hl => ?_)
      refine lv_iconst (v := 0) hx hb dX5_weeks_34 (by decide) ?_
      refine lv_istore_n (lv' := [(3, .int 0), (2, .int 0), (0, .ref o), (1, .int x1)]) hx hb dX5_weeks_35 rfl hl (by decide) rfl (fun ls hl => ?_)
      exact L36 bf_fuel 0 0 T_17 _ _ _ hf hd (lv_sub hl [2, 3, 1, 0] rfl)
    · have hf := bf_ie hf c_20
      refine lv_iconst (v := (-1)) hx hb dX5_weeks_30 (by decide) ?_
      exact kret _ _ _ _ _ _ ⟨(bf_pr hf).1, congrArg (bf_pT G σ o) (bf_pr hf).2⟩ hd dX5_weeks_31
def fX5_of_101 (k63 : Int32 → Int32 → bf_TS → Option (Int32 × bf_TS)) (x1 : Int32) (w101_3 : Int32) (w101_4 : Int32) (T101 : bf_TS) : Option (Int32 × bf_TS) := bf_l (w101_4 + 1) fun x4_7 => k63 w101_3 x4_7 T101
def fX5_of_63b (x1 : Int32) (k63 : Int32 → Int32 → bf_TS → Option (Int32 × bf_TS)) (v63_3 : Int32) (v63_4 : Int32) (T63 : bf_TS) : Option (Int32 × bf_TS) := if (T63 1 4) ≤ v63_4 then (some (v63_3, T63)) else (bf_c (bf_in (20 + v63_4) 136) <| if (T63 1 (20 + v63_4).toNatClampNeg) = x1 then (bf_c (bf_in (62 + v63_4) 136) <| bf_l ((v63_3 + (T63 1 (62 + v63_4).toNatClampNeg))) fun x3_6 => fX5_of_101 k63 x1 x3_6 v63_4 T63) else (fX5_of_101 k63 x1 v63_3 v63_4 T63))
def fX5_of_63 (x1 : Int32) : Nat → Int32 → Int32 → bf_TS → Option (Int32 × bf_TS)
  | 0, _, _, _ => none
  | n + 1, v63_3, v63_4, T63 => fX5_of_63b x1 (fX5_of_63 x1 n) v63_3 v63_4 T63
def fX5_of_55 (t55_0 : Int32) (t55_1 : Int32) (T55 : bf_TS) : Option (Int32 × bf_TS) := bf_c (bf_in (t55_1 + t55_0) 136) <| some ((T55 1 (t55_1 + t55_0).toNatClampNeg), T55)
def fX5_of (T : bf_TS) (x1 x2 : Int32) : Option (Int32 × bf_TS) := bf_l (bf_u2 T 0 0 0) fun T_8 => if (fX5_isParty T_8 x1) = 0 then (some ((-1), T_8)) else (if (fX5_isIn x2 0 3) = 0 then (some ((-1), T_8)) else (if 3 ≤ x2 then (fX5_of_63 x1 bf_fuel 0 0 T_8) else (if x2 = 0 then (fX5_of_55 15 x1 T_8) else (if x2 = 1 then (fX5_of_55 5 x1 T_8) else (fX5_of_55 10 x1 T_8)))))
set_option maxHeartbeats 4000000 in
theorem mX5_of (l : Launch) (G : bf_G) (σ : bf_V) (o : Nat) (T : bf_TS) (x1 x2 : Int32) {r : Int32} {T' : bf_TS} (hf : fX5_of T x1 x2 = some (r, T')) : bf_MI l G yX5_of cX5_of 5 (bf_rm 1) [.ref o, .int x1, .int x2] (bf_pT G σ o T) (fun v σ' => v = r ∧ σ' = bf_pT G σ o T') := by
  refine bf_MI.of rfl (Nat.le_of_ble_eq_true rfl) ?_
  intro p e s m below meth c Q X hlk hnm kret hd ls hl
  have hx := X.1
  have hb := X.2.1
  have hown := X.2.2.2.1
  have hts := X.2.2.2.2
  have hl : lv_has ls 5 [(0, .ref o), (1, .int x1), (2, .int x2)] := hl
  have L63 : ∀ (n63 : Nat) (v63_3 : Int32) (v63_4 : Int32) (T63 : bf_TS) (H : Heap) (locs : List Loc) (ls : Array Slot), fX5_of_63 x1 n63 v63_3 v63_4 T63 = some (r, T') → bf_Dy G s H locs (bf_pT G σ o T63) → lv_has ls 5 [(0, .ref o), (1, .int x1), (3, .int v63_3), (4, .int v63_4)] → W p l e (bf_rm 1) s m ([.ref o, .int x1, .int x2] : List Value).toArray below meth c H locs 0 0 Q (F0 m 63 ls []) := by
    intro n63
    induction n63 with
    | zero =>
      intro v63_3 v63_4 T63 H locs ls hf hd hl
      exact absurd (show (none : Option (Int32 × bf_TS)) = some (r, T') from hf) (by intro h; cases h)
    | succ n63 ih63 =>
      intro v63_3 v63_4 T63 H locs ls hf hd hl
      have hf : fX5_of_63b x1 (fX5_of_63 x1 n63) v63_3 v63_4 T63 = some (r, T') := hf
      unfold fX5_of_63b at hf
      have J101 : ∀ (w101_3 : Int32) (w101_4 : Int32) (T101 : bf_TS) (H : Heap) (locs : List Loc) (ls : Array Slot), fX5_of_101 (fX5_of_63 x1 n63) x1 w101_3 w101_4 T101 = some (r, T') → bf_Dy G s H locs (bf_pT G σ o T101) → lv_has ls 5 [(0, .ref o), (1, .int x1), (3, .int w101_3), (4, .int w101_4)] → W p l e (bf_rm 1) s m ([.ref o, .int x1, .int x2] : List Value).toArray below meth c H locs 0 0 Q (F0 m 101 ls []) := by
        intro w101_3 w101_4 T101 H locs ls hf hd hl
        unfold fX5_of_101 at hf
        obtain ⟨x4_16, ex4_16, hf⟩ := bf_l_e hf
        refine lv_iinc (v := x4_16) (lv' := [(4, .int x4_16), (0, .ref o), (1, .int x1), (3, .int w101_3)]) hx hb dX5_of_101 hl (k := 3) rfl (by rw [ex4_16]; rfl) (by decide) rfl (fun ls hl => ?_)
        refine lv_goto (tgt := 63) hx hb dX5_of_104 (by decide) ?_
        exact ih63 w101_3 x4_16 T101 _ _ _ hf hd (lv_sub hl [1, 2, 3, 0] rfl)
      refine lv_iload hx hb dX5_of_63 (lv_at hl 3 rfl) ?_
      refine lv_aload_n hx hb dX5_of_65 rfl (lv_at hl 0 rfl) ?_
      refine bf_tga X hd 1 (by decide) (by decide) q1384 dX5_of_66 ?_
      refine lv_iconst (v := 4) hx hb dX5_of_69 (by decide) ?_
      refine bf_tld X hd 1 (by decide) (by decide) dX5_of_70 ?_
      refine lv_icmp_ge (tgt := 107) hx hb dX5_of_71 (by decide) (fun c_17 => ?_) (fun c_17 => ?_)
      · have hf := bf_it hf c_17
        refine lv_iload_n hx hb dX5_of_107 rfl (lv_at hl 2 rfl) ?_
        exact kret _ _ _ _ _ _ ⟨(bf_pr hf).1, congrArg (bf_pT G σ o) (bf_pr hf).2⟩ hd dX5_of_108
      · have hf := bf_ie hf c_17
        refine lv_aload_n hx hb dX5_of_74 rfl (lv_at hl 0 rfl) ?_
        refine bf_tga X hd 1 (by decide) (by decide) q1384 dX5_of_75 ?_
        refine lv_bipush (v := 20) hx hb dX5_of_78 (by decide) ?_
        refine lv_iload hx hb dX5_of_80 (lv_at hl 3 rfl) ?_
        refine lv_iadd hx hb dX5_of_82 ?_
        obtain ⟨g_18, hf⟩ := bf_c_some hf
        refine bf_tld X hd 1 (by decide) g_18 dX5_of_83 ?_
        refine lv_iload_n hx hb dX5_of_84 rfl (lv_at hl 1 rfl) ?_
        refine lv_icmp_ne (tgt := 101) hx hb dX5_of_85 (by decide) (fun c_19 => ?_) (fun c_19 => ?_)
        · have hf := bf_ie hf c_19
          exact J101 v63_3 v63_4 T63 _ _ _ hf hd (lv_sub hl [0, 1, 2, 3] rfl)
        · have hf := bf_it hf c_19
          refine lv_iload_n hx hb dX5_of_88 rfl (lv_at hl 2 rfl) ?_
          refine lv_aload_n hx hb dX5_of_89 rfl (lv_at hl 0 rfl) ?_
          refine bf_tga X hd 1 (by decide) (by decide) q1384 dX5_of_90 ?_
          refine lv_bipush (v := 62) hx hb dX5_of_93 (by decide) ?_
          refine lv_iload hx hb dX5_of_95 (lv_at hl 3 rfl) ?_
          refine lv_iadd hx hb dX5_of_97 ?_
          obtain ⟨g_20, hf⟩ := bf_c_some hf
          refine bf_tld X hd 1 (by decide) g_20 dX5_of_98 ?_
          refine lv_iadd hx hb dX5_of_99 ?_
          obtain ⟨x3_21, ex3_21, hf⟩ := bf_l_e hf
          refine bf_top ex3_21 ?_
          refine lv_istore_n (lv' := [(3, .int x3_21), (0, .ref o), (1, .int x1), (4, .int v63_4)]) hx hb dX5_of_100 rfl hl (by decide) rfl (fun ls hl => ?_)
          exact J101 x3_21 v63_4 T63 _ _ _ hf hd (lv_sub hl [1, 2, 0, 3] rfl)
  have J55 : ∀ (t55_0 : Int32) (t55_1 : Int32) (T55 : bf_TS) (H : Heap) (locs : List Loc) (ls : Array Slot), fX5_of_55 t55_0 t55_1 T55 = some (r, T') → bf_Dy G s H locs (bf_pT G σ o T55) → lv_has ls 5 [] → W p l e (bf_rm 1) s m ([.ref o, .int x1, .int x2] : List Value).toArray below meth c H locs 0 0 Q (F0 m 55 ls [.int t55_0, .int t55_1, .ref (o + bf_to 1)]) := by
    intro t55_0 t55_1 T55 H locs ls hf hd hl
    unfold fX5_of_55 at hf
    refine lv_iadd hx hb dX5_of_55 ?_
    obtain ⟨g_22, hf⟩ := bf_c_some hf
    refine bf_tld X hd 1 (by decide) g_22 dX5_of_56 ?_
    exact kret _ _ _ _ _ _ ⟨(bf_pr hf).1, congrArg (bf_pT G σ o) (bf_pr hf).2⟩ hd dX5_of_57
  unfold fX5_of at hf
  refine lv_aload_n hx hb dX5_of_0 rfl (lv_at hl 0 rfl) ?_
  refine lv_iconst (v := 0) hx hb dX5_of_1 (by decide) ?_
  refine bf_tpi X hd 0 (by decide) ⟨rfl, rfl, rfl⟩ q1383 dX5_of_2 (fun H locs hd => ?_)
  obtain ⟨T_23, eT_23, hf⟩ := bf_l_e hf
  have hd := hd.of (congrArg (bf_pT G σ o) eT_23.symm)
  refine lv_aload_n hx hb dX5_of_5 rfl (lv_at hl 0 rfl) ?_
  refine lv_iload_n hx hb dX5_of_6 rfl (lv_at hl 1 rfl) ?_
  refine bf_tcz (n := 1) (As := [.int x1]) (rest := []) X hd (mX5_isParty l G σ o T_23 x1 rfl) (lw_V q1580 q1582 qs58 q156 q1583) (by decide +kernel) ⟨Nat.le_of_ble_eq_true rfl, Nat.le_of_ble_eq_true rfl⟩ rfl hl.1 rfl (Nat.le_of_ble_eq_true rfl) dX5_of_7 ⟨Nat.le_of_ble_eq_true rfl, Nat.le_of_ble_eq_true rfl⟩ (fun H locs z_24 hd => ?_)
  refine lv_if_eq (tgt := 23) hx hb dX5_of_10 (by decide) (fun c_25 => ?_) (fun c_25 => ?_)
  · have hf := bf_it hf c_25
    refine lv_iconst (v := (-1)) hx hb dX5_of_23 (by decide) ?_
    exact kret _ _ _ _ _ _ ⟨(bf_pr hf).1, congrArg (bf_pT G σ o) (bf_pr hf).2⟩ hd dX5_of_24
  · have hf := bf_ie hf c_25
    refine lv_aload_n hx hb dX5_of_13 rfl (lv_at hl 0 rfl) ?_
    refine lv_iload_n hx hb dX5_of_14 rfl (lv_at hl 2 rfl) ?_
    refine lv_iconst (v := 0) hx hb dX5_of_15 (by decide) ?_
    refine lv_iconst (v := 3) hx hb dX5_of_16 (by decide) ?_
    refine bf_tcz (n := 3) (As := [.int x2, .int 0, .int 3]) (rest := []) X hd (mX5_isIn l G σ o T_23 x2 0 3 rfl) (lw_V q1564 q1566 qs56 q156 q1567) (by decide +kernel) ⟨Nat.le_of_ble_eq_true rfl, Nat.le_of_ble_eq_true rfl⟩ rfl hl.1 rfl (Nat.le_of_ble_eq_true rfl) dX5_of_17 ⟨Nat.le_of_ble_eq_true rfl, Nat.le_of_ble_eq_true rfl⟩ (fun H locs z_26 hd => ?_)
    refine lv_if_ne (tgt := 25) hx hb dX5_of_20 (by decide) (fun c_27 => ?_) (fun c_27 => ?_)
    · have hf := bf_ie hf c_27
      refine lv_iload_n hx hb dX5_of_25 rfl (lv_at hl 2 rfl) ?_
      refine lv_iconst (v := 3) hx hb dX5_of_26 (by decide) ?_
      refine lv_icmp_ge (tgt := 58) hx hb dX5_of_27 (by decide) (fun c_28 => ?_) (fun c_28 => ?_)
      · have hf := bf_it hf c_28
        refine lv_iconst (v := 0) hx hb dX5_of_58 (by decide) ?_
        refine lv_istore_n (lv' := [(3, .int 0), (0, .ref o), (1, .int x1), (2, .int x2)]) hx hb dX5_of_59 rfl hl (by decide) rfl (fun ls hl => ?_)
        refine lv_iconst (v := 0) hx hb dX5_of_60 (by decide) ?_
        refine lv_istore (lv' := [(4, .int 0), (3, .int 0), (0, .ref o), (1, .int x1), (2, .int x2)]) hx hb dX5_of_61 hl (by decide) rfl (fun ls hl => ?_)
        exact L63 bf_fuel 0 0 T_23 _ _ _ hf hd (lv_sub hl [2, 3, 1, 0] rfl)
      · have hf := bf_ie hf c_28
        refine lv_aload_n hx hb dX5_of_30 rfl (lv_at hl 0 rfl) ?_
        refine bf_tga X hd 1 (by decide) (by decide) q1384 dX5_of_31 ?_
        refine lv_iload_n hx hb dX5_of_34 rfl (lv_at hl 1 rfl) ?_
        refine lv_iload_n hx hb dX5_of_35 rfl (lv_at hl 2 rfl) ?_
        refine lv_if_ne (tgt := 44) hx hb dX5_of_36 (by decide) (fun c_29 => ?_) (fun c_29 => ?_)
        · have hf := bf_ie hf c_29
          refine lv_iload_n hx hb dX5_of_44 rfl (lv_at hl 2 rfl) ?_
          refine lv_iconst (v := 1) hx hb dX5_of_45 (by decide) ?_
          refine lv_icmp_ne (tgt := 53) hx hb dX5_of_46 (by decide) (fun c_30 => ?_) (fun c_30 => ?_)
          · have hf := bf_ie hf c_30
            refine lv_bipush (v := 10) hx hb dX5_of_53 (by decide) ?_
            exact J55 10 x1 T_23 _ _ _ hf hd (lv_sub hl [] rfl)
          · have hf := bf_it hf c_30
            refine lv_iconst (v := 5) hx hb dX5_of_49 (by decide) ?_
            refine lv_goto (tgt := 55) hx hb dX5_of_50 (by decide) ?_
            exact J55 5 x1 T_23 _ _ _ hf hd (lv_sub hl [] rfl)
        · have hf := bf_it hf c_29
          refine lv_bipush (v := 15) hx hb dX5_of_39 (by decide) ?_
          refine lv_goto (tgt := 55) hx hb dX5_of_41 (by decide) ?_
          exact J55 15 x1 T_23 _ _ _ hf hd (lv_sub hl [] rfl)
    · have hf := bf_it hf c_27
      refine lv_iconst (v := (-1)) hx hb dX5_of_23 (by decide) ?_
      exact kret _ _ _ _ _ _ ⟨(bf_pr hf).1, congrArg (bf_pT G σ o) (bf_pr hf).2⟩ hd dX5_of_24
def fX5_tree (T : bf_TS) (x1 x2 : Int32) : Option (Int32 × bf_TS) := bf_l (bf_u2 T 0 0 0) fun T_1 => if (fX5_isTree T_1 x1) = 0 then (some ((-1), T_1)) else (if (fX5_isIn x2 0 4) = 0 then (some ((-1), T_1)) else (if x2 = 4 then (bf_b2 (fX5_bearOf T_1 x1) fun r_9 T_8 => some (r_9, T_8)) else (bf_c (bf_in ((20 + (14 * x2)) + x1) 136) <| some ((T_1 1 ((20 + (14 * x2)) + x1).toNatClampNeg), T_1))))
set_option maxHeartbeats 4000000 in
theorem mX5_tree (l : Launch) (G : bf_G) (σ : bf_V) (o : Nat) (T : bf_TS) (x1 x2 : Int32) {r : Int32} {T' : bf_TS} (hf : fX5_tree T x1 x2 = some (r, T')) : bf_MI l G yX5_tree cX5_tree 3 (bf_rm 5) [.ref o, .int x1, .int x2] (bf_pT G σ o T) (fun v σ' => v = r ∧ σ' = bf_pT G σ o T') := by
  refine bf_MI.of rfl (Nat.le_of_ble_eq_true rfl) ?_
  intro p e s m below meth c Q X hlk hnm kret hd ls hl
  have hx := X.1
  have hb := X.2.1
  have hown := X.2.2.2.1
  have hts := X.2.2.2.2
  have hl : lv_has ls 3 [(0, .ref o), (1, .int x1), (2, .int x2)] := hl
  unfold fX5_tree at hf
  refine lv_aload_n hx hb dX5_tree_0 rfl (lv_at hl 0 rfl) ?_
  refine lv_iconst (v := 0) hx hb dX5_tree_1 (by decide) ?_
  refine bf_tpi X hd 0 (by decide) ⟨rfl, rfl, rfl⟩ q1383 dX5_tree_2 (fun H locs hd => ?_)
  obtain ⟨T_10, eT_10, hf⟩ := bf_l_e hf
  have hd := hd.of (congrArg (bf_pT G σ o) eT_10.symm)
  refine lv_aload_n hx hb dX5_tree_5 rfl (lv_at hl 0 rfl) ?_
  refine lv_iload_n hx hb dX5_tree_6 rfl (lv_at hl 1 rfl) ?_
  refine bf_tcz (n := 1) (As := [.int x1]) (rest := []) X hd (mX5_isTree l G σ o T_10 x1 rfl) (lw_V q1600 q1602 qs62 q156 q1603) (by decide +kernel) ⟨Nat.le_of_ble_eq_true rfl, Nat.le_of_ble_eq_true rfl⟩ rfl hl.1 rfl (Nat.le_of_ble_eq_true rfl) dX5_tree_7 ⟨Nat.le_of_ble_eq_true rfl, Nat.le_of_ble_eq_true rfl⟩ (fun H locs z_11 hd => ?_)
  refine lv_if_eq (tgt := 23) hx hb dX5_tree_10 (by decide) (fun c_12 => ?_) (fun c_12 => ?_)
  · have hf := bf_it hf c_12
    refine lv_iconst (v := (-1)) hx hb dX5_tree_23 (by decide) ?_
    exact kret _ _ _ _ _ _ ⟨(bf_pr hf).1, congrArg (bf_pT G σ o) (bf_pr hf).2⟩ hd dX5_tree_24
  · have hf := bf_ie hf c_12
    refine lv_aload_n hx hb dX5_tree_13 rfl (lv_at hl 0 rfl) ?_
    refine lv_iload_n hx hb dX5_tree_14 rfl (lv_at hl 2 rfl) ?_
    refine lv_iconst (v := 0) hx hb dX5_tree_15 (by decide) ?_
    refine lv_iconst (v := 4) hx hb dX5_tree_16 (by decide) ?_
    refine bf_tcz (n := 3) (As := [.int x2, .int 0, .int 4]) (rest := []) X hd (mX5_isIn l G σ o T_10 x2 0 4 rfl) (lw_V q1564 q1566 qs56 q156 q1567) (by decide +kernel) ⟨Nat.le_of_ble_eq_true rfl, Nat.le_of_ble_eq_true rfl⟩ rfl hl.1 rfl (Nat.le_of_ble_eq_true rfl) dX5_tree_17 ⟨Nat.le_of_ble_eq_true rfl, Nat.le_of_ble_eq_true rfl⟩ (fun H locs z_13 hd => ?_)
    refine lv_if_ne (tgt := 25) hx hb dX5_tree_20 (by decide) (fun c_14 => ?_) (fun c_14 => ?_)
    · have hf := bf_ie hf c_14
      refine lv_iload_n hx hb dX5_tree_25 rfl (lv_at hl 2 rfl) ?_
      refine lv_iconst (v := 4) hx hb dX5_tree_26 (by decide) ?_
      refine lv_icmp_ne (tgt := 38) hx hb dX5_tree_27 (by decide) (fun c_15 => ?_) (fun c_15 => ?_)
      · have hf := bf_ie hf c_15
        refine lv_aload_n hx hb dX5_tree_38 rfl (lv_at hl 0 rfl) ?_
        refine bf_tga X hd 1 (by decide) (by decide) q1384 dX5_tree_39 ?_
        refine lv_bipush (v := 20) hx hb dX5_tree_42 (by decide) ?_
        refine lv_bipush (v := 14) hx hb dX5_tree_44 (by decide) ?_
        refine lv_iload_n hx hb dX5_tree_46 rfl (lv_at hl 2 rfl) ?_
        refine lv_imul hx hb dX5_tree_47 ?_
        refine lv_iadd hx hb dX5_tree_48 ?_
        refine lv_iload_n hx hb dX5_tree_49 rfl (lv_at hl 1 rfl) ?_
        refine lv_iadd hx hb dX5_tree_50 ?_
        obtain ⟨g_16, hf⟩ := bf_c_some hf
        refine bf_tld X hd 1 (by decide) g_16 dX5_tree_51 ?_
        exact kret _ _ _ _ _ _ ⟨(bf_pr hf).1, congrArg (bf_pT G σ o) (bf_pr hf).2⟩ hd dX5_tree_52
      · have hf := bf_it hf c_15
        refine lv_aload_n hx hb dX5_tree_30 rfl (lv_at hl 0 rfl) ?_
        refine lv_iload_n hx hb dX5_tree_31 rfl (lv_at hl 1 rfl) ?_
        obtain ⟨r_18, T_17, er_18, hf⟩ := bf_b2_some hf
        refine bf_tci (n := 1) (As := [.int x1]) (rest := []) X hd (mX5_bearOf l G σ o T_10 x1 er_18) (lw_V q1808 q1810 qs106 q156 q1811) (by decide +kernel) ⟨Nat.le_of_ble_eq_true rfl, Nat.le_of_ble_eq_true rfl⟩ rfl hl.1 rfl (Nat.le_of_ble_eq_true rfl) dX5_tree_32 ⟨Nat.le_of_ble_eq_true rfl, Nat.le_of_ble_eq_true rfl⟩ (fun H locs hd => ?_)
        refine lv_goto (tgt := 52) hx hb dX5_tree_35 (by decide) ?_
        exact kret _ _ _ _ _ _ ⟨(bf_pr hf).1, congrArg (bf_pT G σ o) (bf_pr hf).2⟩ hd dX5_tree_52
    · have hf := bf_it hf c_14
      refine lv_iconst (v := (-1)) hx hb dX5_tree_23 (by decide) ?_
      exact kret _ _ _ _ _ _ ⟨(bf_pr hf).1, congrArg (bf_pT G σ o) (bf_pr hf).2⟩ hd dX5_tree_24
def fX5_who (T : bf_TS) (x1 x2 : Int32) : Option (Int32 × bf_TS) := bf_l (bf_u2 T 0 0 0) fun T_1 => if (fX5_isEater T_1 x1) = 0 then (some ((-1), T_1)) else (bf_c (bf_in (9 * x1) 180) <| bf_l ((T_1 37 (9 * x1).toNatClampNeg)) fun x3_5 => if x2 = 0 then (bf_c (bf_in (76 + x1) 136) <| some ((T_1 1 (76 + x1).toNatClampNeg), T_1)) else (if x2 = 1 then (bf_b2 (fX5_wantOf T_1 x1) fun r_16 T_15 => some (r_16, T_15)) else (if x2 = 2 then (some (x3_5, T_1)) else (if (fX5_isIn x2 10 (9 + x3_5)) = 0 then (if (fX5_isIn x2 20 (19 + (T_1 6 0))) = 0 then (some ((-1), T_1)) else (bf_b (fX5_tasteOf T_1 x1 (x2 - 20)) fun r_13 => some (r_13, T_1))) else (bf_c (bf_in (((9 * x1) + x2) - 9) 180) <| some ((T_1 37 (((9 * x1) + x2) - 9).toNatClampNeg), T_1))))))
set_option maxHeartbeats 4000000 in
theorem mX5_who (l : Launch) (G : bf_G) (σ : bf_V) (o : Nat) (T : bf_TS) (x1 x2 : Int32) {r : Int32} {T' : bf_TS} (hf : fX5_who T x1 x2 = some (r, T')) : bf_MI l G yX5_who cX5_who 4 (bf_rm 5) [.ref o, .int x1, .int x2] (bf_pT G σ o T) (fun v σ' => v = r ∧ σ' = bf_pT G σ o T') := by
  refine bf_MI.of rfl (Nat.le_of_ble_eq_true rfl) ?_
  intro p e s m below meth c Q X hlk hnm kret hd ls hl
  have hx := X.1
  have hb := X.2.1
  have hown := X.2.2.2.1
  have hts := X.2.2.2.2
  have hl : lv_has ls 4 [(0, .ref o), (1, .int x1), (2, .int x2)] := hl
  unfold fX5_who at hf
  refine lv_aload_n hx hb dX5_who_0 rfl (lv_at hl 0 rfl) ?_
  refine lv_iconst (v := 0) hx hb dX5_who_1 (by decide) ?_
  refine bf_tpi X hd 0 (by decide) ⟨rfl, rfl, rfl⟩ q1383 dX5_who_2 (fun H locs hd => ?_)
  obtain ⟨T_18, eT_18, hf⟩ := bf_l_e hf
  have hd := hd.of (congrArg (bf_pT G σ o) eT_18.symm)
  refine lv_aload_n hx hb dX5_who_5 rfl (lv_at hl 0 rfl) ?_
  refine lv_iload_n hx hb dX5_who_6 rfl (lv_at hl 1 rfl) ?_
  refine bf_tcz (n := 1) (As := [.int x1]) (rest := []) X hd (mX5_isEater l G σ o T_18 x1 rfl) (lw_V q1576 q1578 qs57 q156 q1579) (by decide +kernel) ⟨Nat.le_of_ble_eq_true rfl, Nat.le_of_ble_eq_true rfl⟩ rfl hl.1 rfl (Nat.le_of_ble_eq_true rfl) dX5_who_7 ⟨Nat.le_of_ble_eq_true rfl, Nat.le_of_ble_eq_true rfl⟩ (fun H locs z_19 hd => ?_)
  refine lv_if_ne (tgt := 15) hx hb dX5_who_10 (by decide) (fun c_20 => ?_) (fun c_20 => ?_)
  · have hf := bf_ie hf c_20
    refine lv_aload_n hx hb dX5_who_15 rfl (lv_at hl 0 rfl) ?_
    refine bf_tga X hd 37 (by decide) (by decide) q1420 dX5_who_16 ?_
    refine lv_bipush (v := 9) hx hb dX5_who_19 (by decide) ?_
    refine lv_iload_n hx hb dX5_who_21 rfl (lv_at hl 1 rfl) ?_
    refine lv_imul hx hb dX5_who_22 ?_
    obtain ⟨g_21, hf⟩ := bf_c_some hf
    refine bf_tld X hd 37 (by decide) g_21 dX5_who_23 ?_
    obtain ⟨x3_22, ex3_22, hf⟩ := bf_l_e hf
    refine bf_top ex3_22 ?_
    refine lv_istore_n (lv' := [(3, .int x3_22), (0, .ref o), (1, .int x1), (2, .int x2)]) hx hb dX5_who_24 rfl hl (by decide) rfl (fun ls hl => ?_)
    refine lv_iload_n hx hb dX5_who_25 rfl (lv_at hl 3 rfl) ?_
    refine lv_if_ne (tgt := 39) hx hb dX5_who_26 (by decide) (fun c_23 => ?_) (fun c_23 => ?_)
    · have hf := bf_ie hf c_23
      refine lv_iload_n hx hb dX5_who_39 rfl (lv_at hl 3 rfl) ?_
      refine lv_iconst (v := 1) hx hb dX5_who_40 (by decide) ?_
      refine lv_icmp_ne (tgt := 50) hx hb dX5_who_41 (by decide) (fun c_24 => ?_) (fun c_24 => ?_)
      · have hf := bf_ie hf c_24
        refine lv_iload_n hx hb dX5_who_50 rfl (lv_at hl 3 rfl) ?_
        refine lv_iconst (v := 2) hx hb dX5_who_51 (by decide) ?_
        refine lv_icmp_ne (tgt := 57) hx hb dX5_who_52 (by decide) (fun c_25 => ?_) (fun c_25 => ?_)
        · have hf := bf_ie hf c_25
          refine lv_aload_n hx hb dX5_who_57 rfl (lv_at hl 1 rfl) ?_
          refine lv_iload_n hx hb dX5_who_58 rfl (lv_at hl 3 rfl) ?_
          refine lv_bipush (v := 10) hx hb dX5_who_59 (by decide) ?_
          refine lv_bipush (v := 9) hx hb dX5_who_61 (by decide) ?_
          refine lv_iload_n hx hb dX5_who_63 rfl (lv_at hl 0 rfl) ?_
          refine lv_iadd hx hb dX5_who_64 ?_
          refine bf_tcz (n := 3) (As := [.int x2, .int 10, .int (9 + x3_22)]) (rest := []) X hd (mX5_isIn l G σ o T_18 x2 10 (9 + x3_22) rfl) (lw_V q1564 q1566 qs56 q156 q1567) (by decide +kernel) ⟨Nat.le_of_ble_eq_true rfl, Nat.le_of_ble_eq_true rfl⟩ rfl hl.1 rfl (Nat.le_of_ble_eq_true rfl) dX5_who_65 ⟨Nat.le_of_ble_eq_true rfl, Nat.le_of_ble_eq_true rfl⟩ (fun H locs z_26 hd => ?_)
          refine lv_if_eq (tgt := 86) hx hb dX5_who_68 (by decide) (fun c_27 => ?_) (fun c_27 => ?_)
          · have hf := bf_it hf c_27
            refine lv_aload_n hx hb dX5_who_86 rfl (lv_at hl 1 rfl) ?_
            refine lv_iload_n hx hb dX5_who_87 rfl (lv_at hl 3 rfl) ?_
            refine lv_bipush (v := 20) hx hb dX5_who_88 (by decide) ?_
            refine lv_bipush (v := 19) hx hb dX5_who_90 (by decide) ?_
            refine lv_aload_n hx hb dX5_who_92 rfl (lv_at hl 1 rfl) ?_
            refine bf_tgi X hd 6 (by decide) rfl q1389 dX5_who_93 ?_
            refine lv_iadd hx hb dX5_who_96 ?_
            refine bf_tcz (n := 3) (As := [.int x2, .int 20, .int (19 + (T_18 6 0))]) (rest := []) X hd (mX5_isIn l G σ o T_18 x2 20 (19 + (T_18 6 0)) rfl) (lw_V q1564 q1566 qs56 q156 q1567) (by decide +kernel) ⟨Nat.le_of_ble_eq_true rfl, Nat.le_of_ble_eq_true rfl⟩ rfl hl.1 rfl (Nat.le_of_ble_eq_true rfl) dX5_who_97 ⟨Nat.le_of_ble_eq_true rfl, Nat.le_of_ble_eq_true rfl⟩ (fun H locs z_28 hd => ?_)
            refine lv_if_eq (tgt := 115) hx hb dX5_who_100 (by decide) (fun c_29 => ?_) (fun c_29 => ?_)
            · have hf := bf_it hf c_29
              refine lv_iconst (v := (-1)) hx hb dX5_who_115 (by decide) ?_
              exact kret _ _ _ _ _ _ ⟨(bf_pr hf).1, congrArg (bf_pT G σ o) (bf_pr hf).2⟩ hd dX5_who_116
            · have hf := bf_ie hf c_29
              refine lv_aload_n hx hb dX5_who_103 rfl (lv_at hl 1 rfl) ?_
              refine lv_iload_n hx hb dX5_who_104 rfl (lv_at hl 2 rfl) ?_
              refine lv_iload_n hx hb dX5_who_105 rfl (lv_at hl 3 rfl) ?_
              refine lv_bipush (v := 20) hx hb dX5_who_106 (by decide) ?_
              refine lv_isub hx hb dX5_who_108 ?_
              obtain ⟨r_30, er_30, hf⟩ := bf_b_some hf
              refine bf_tci (n := 2) (As := [.int x1, .int (x2 - 20)]) (rest := []) X hd (mX5_tasteOf l G σ o T_18 x1 (x2 - 20) er_30) (lw_V q1852 q1854 qs117 q156 q1855) (by decide +kernel) ⟨Nat.le_of_ble_eq_true rfl, Nat.le_of_ble_eq_true rfl⟩ rfl hl.1 rfl (Nat.le_of_ble_eq_true rfl) dX5_who_109 ⟨Nat.le_of_ble_eq_true rfl, Nat.le_of_ble_eq_true rfl⟩ (fun H locs hd => ?_)
              refine lv_goto (tgt := 116) hx hb dX5_who_112 (by decide) ?_
              exact kret _ _ _ _ _ _ ⟨(bf_pr hf).1, congrArg (bf_pT G σ o) (bf_pr hf).2⟩ hd dX5_who_116
          · have hf := bf_ie hf c_27
            refine lv_aload_n hx hb dX5_who_71 rfl (lv_at hl 1 rfl) ?_
            refine bf_tga X hd 37 (by decide) (by decide) q1420 dX5_who_72 ?_
            refine lv_bipush (v := 9) hx hb dX5_who_75 (by decide) ?_
            refine lv_iload_n hx hb dX5_who_77 rfl (lv_at hl 2 rfl) ?_
            refine lv_imul hx hb dX5_who_78 ?_
            refine lv_iload_n hx hb dX5_who_79 rfl (lv_at hl 3 rfl) ?_
            refine lv_iadd hx hb dX5_who_80 ?_
            refine lv_bipush (v := 9) hx hb dX5_who_81 (by decide) ?_
            refine lv_isub hx hb dX5_who_83 ?_
            obtain ⟨g_31, hf⟩ := bf_c_some hf
            refine bf_tld X hd 37 (by decide) g_31 dX5_who_84 ?_
            exact kret _ _ _ _ _ _ ⟨(bf_pr hf).1, congrArg (bf_pT G σ o) (bf_pr hf).2⟩ hd dX5_who_85
        · have hf := bf_it hf c_25
          refine lv_iload_n hx hb dX5_who_55 rfl (lv_at hl 0 rfl) ?_
          exact kret _ _ _ _ _ _ ⟨(bf_pr hf).1, congrArg (bf_pT G σ o) (bf_pr hf).2⟩ hd dX5_who_56
      · have hf := bf_it hf c_24
        refine lv_aload_n hx hb dX5_who_44 rfl (lv_at hl 1 rfl) ?_
        refine lv_iload_n hx hb dX5_who_45 rfl (lv_at hl 2 rfl) ?_
        obtain ⟨r_33, T_32, er_33, hf⟩ := bf_b2_some hf
        refine bf_tci (n := 1) (As := [.int x1]) (rest := []) X hd (mX5_wantOf l G σ o T_18 x1 er_33) (lw_V q1840 q1842 qs114 q156 q1843) (by decide +kernel) ⟨Nat.le_of_ble_eq_true rfl, Nat.le_of_ble_eq_true rfl⟩ rfl hl.1 rfl (Nat.le_of_ble_eq_true rfl) dX5_who_46 ⟨Nat.le_of_ble_eq_true rfl, Nat.le_of_ble_eq_true rfl⟩ (fun H locs hd => ?_)
        exact kret _ _ _ _ _ _ ⟨(bf_pr hf).1, congrArg (bf_pT G σ o) (bf_pr hf).2⟩ hd dX5_who_49
    · have hf := bf_it hf c_23
      refine lv_aload_n hx hb dX5_who_29 rfl (lv_at hl 1 rfl) ?_
      refine bf_tga X hd 1 (by decide) (by decide) q1384 dX5_who_30 ?_
      refine lv_bipush (v := 76) hx hb dX5_who_33 (by decide) ?_
      refine lv_iload_n hx hb dX5_who_35 rfl (lv_at hl 2 rfl) ?_
      refine lv_iadd hx hb dX5_who_36 ?_
      obtain ⟨g_34, hf⟩ := bf_c_some hf
      refine bf_tld X hd 1 (by decide) g_34 dX5_who_37 ?_
      exact kret _ _ _ _ _ _ ⟨(bf_pr hf).1, congrArg (bf_pT G σ o) (bf_pr hf).2⟩ hd dX5_who_38
  · have hf := bf_it hf c_20
    refine lv_iconst (v := (-1)) hx hb dX5_who_13 (by decide) ?_
    exact kret _ _ _ _ _ _ ⟨(bf_pr hf).1, congrArg (bf_pT G σ o) (bf_pr hf).2⟩ hd dX5_who_14
