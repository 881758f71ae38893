set_option maxRecDepth 100000
def fX5_lineOf_59 (k2 : Int32 → bf_TS → Option (Int32 × bf_TS)) (x1 : Int32) (w59_2 : Int32) (T59 : bf_TS) : Option (Int32 × bf_TS) := bf_l (w59_2 + 1) fun x2_12 => k2 x2_12 T59
def fX5_lineOf_2b (x1 : Int32) (k2 : Int32 → bf_TS → Option (Int32 × bf_TS)) (v2_2 : Int32) (T2 : bf_TS) : Option (Int32 × bf_TS) := if (T2 20 0) ≤ v2_2 then (some ((-1), T2)) else (bf_c (bf_in v2_2 48) <| if (T2 21 (v2_2).toNatClampNeg) = x1 then (bf_c (bf_in v2_2 48) <| bf_c (bf_in v2_2 48) <| if (T2 23 (v2_2).toNatClampNeg) = (T2 24 (v2_2).toNatClampNeg) then (some (v2_2, T2)) else (bf_c (bf_in v2_2 48) <| bf_c (bf_in v2_2 48) <| bf_b2 (fX5_runs T2 0 (T2 23 (v2_2).toNatClampNeg) (T2 24 (v2_2).toNatClampNeg)) fun r_10 T_9 => if r_10 = 0 then (fX5_lineOf_59 k2 x1 v2_2 T_9) else (some (v2_2, T_9)))) else (fX5_lineOf_59 k2 x1 v2_2 T2))
def fX5_lineOf_2 (x1 : Int32) : Nat → Int32 → bf_TS → Option (Int32 × bf_TS)
  | 0, _, _ => none
  | n + 1, v2_2, T2 => fX5_lineOf_2b x1 (fX5_lineOf_2 x1 n) v2_2 T2
def fX5_lineOf (T : bf_TS) (x1 : Int32) : Option (Int32 × bf_TS) := fX5_lineOf_2 x1 bf_fuel 0 T
set_option maxHeartbeats 4000000 in
theorem mX5_lineOf (l : Launch) (G : bf_G) (σ : bf_V) (o : Nat) (T : bf_TS) (x1 : Int32) {r : Int32} {T' : bf_TS} (hf : fX5_lineOf T x1 = some (r, T')) : bf_MI l G yX5_lineOf cX5_lineOf 3 (bf_rm 2) [.ref o, .int x1] (bf_pT G σ o T) (fun v σ' => v = r ∧ σ' = bf_pT G σ o T') := by
  refine bf_MI.of rfl (Nat.le_of_ble_eq_true rfl) ?_
  intro p e s m below meth c Q X hlk hnm kret hd ls hl
  have hx := X.1
  have hb := X.2.1
  have hown := X.2.2.2.1
  have hts := X.2.2.2.2
  have hl : lv_has ls 3 [(0, .ref o), (1, .int x1)] := hl
  have L2 : ∀ (n2 : Nat) (v2_2 : Int32) (T2 : bf_TS) (H : Heap) (locs : List Loc) (ls : Array Slot), fX5_lineOf_2 x1 n2 v2_2 T2 = some (r, T') → bf_Dy G s H locs (bf_pT G σ o T2) → lv_has ls 3 [(0, .ref o), (1, .int x1), (2, .int v2_2)] → W p l e (bf_rm 2) s m ([.ref o, .int x1] : List Value).toArray below meth c H locs 0 0 Q (F0 m 2 ls []) := by
    intro n2
    induction n2 with
    | zero =>
      intro v2_2 T2 H locs ls hf hd hl
      exact absurd (show (none : Option (Int32 × bf_TS)) = some (r, T') from hf) (by intro h; cases h)
    | succ n2 ih2 =>
      intro v2_2 T2 H locs ls hf hd hl
      have hf : fX5_lineOf_2b x1 (fX5_lineOf_2 x1 n2) v2_2 T2 = some (r, T') := hf
      unfold fX5_lineOf_2b at hf
      have J59 : ∀ (w59_2 : Int32) (T59 : bf_TS) (H : Heap) (locs : List Loc) (ls : Array Slot), fX5_lineOf_59 (fX5_lineOf_2 x1 n2) x1 w59_2 T59 = some (r, T') → bf_Dy G s H locs (bf_pT G σ o T59) → lv_has ls 3 [(0, .ref o), (1, .int x1), (2, .int w59_2)] → W p l e (bf_rm 2) s m ([.ref o, .int x1] : List Value).toArray below meth c H locs 0 0 Q (F0 m 59 ls []) := by
        intro w59_2 T59 H locs ls hf hd hl
        unfold fX5_lineOf_59 at hf
        obtain ⟨x2_13, ex2_13, hf⟩ := bf_l_e hf
        refine lv_iinc (v := x2_13) (lv' := [(2, .int x2_13), (0, .ref o), (1, .int x1)]) hx hb dX5_lineOf_59 hl (k := 2) rfl (by rw [ex2_13]; rfl) (by decide) rfl (fun ls hl => ?_)
        refine lv_goto (tgt := 2) hx hb dX5_lineOf_62 (by decide) ?_
        exact ih2 x2_13 T59 _ _ _ hf hd (lv_sub hl [1, 2, 0] rfl)
      refine lv_iload_n hx hb dX5_lineOf_2 rfl (lv_at hl 2 rfl) ?_
      refine lv_aload_n hx hb dX5_lineOf_3 rfl (lv_at hl 0 rfl) ?_
      refine bf_tga X hd 20 (by decide) (by decide) q1403 dX5_lineOf_4 ?_
      refine lv_iconst (v := 0) hx hb dX5_lineOf_7 (by decide) ?_
      refine bf_tld X hd 20 (by decide) (by decide) dX5_lineOf_8 ?_
      refine lv_icmp_ge (tgt := 65) hx hb dX5_lineOf_9 (by decide) (fun c_14 => ?_) (fun c_14 => ?_)
      · have hf := bf_it hf c_14
        refine lv_iconst (v := (-1)) hx hb dX5_lineOf_65 (by decide) ?_
        exact kret _ _ _ _ _ _ ⟨(bf_pr hf).1, congrArg (bf_pT G σ o) (bf_pr hf).2⟩ hd dX5_lineOf_66
      · have hf := bf_ie hf c_14
        refine lv_aload_n hx hb dX5_lineOf_12 rfl (lv_at hl 0 rfl) ?_
        refine bf_tga X hd 21 (by decide) (by decide) q1404 dX5_lineOf_13 ?_
        refine lv_iload_n hx hb dX5_lineOf_16 rfl (lv_at hl 2 rfl) ?_
        obtain ⟨g_15, hf⟩ := bf_c_some hf
        refine bf_tld X hd 21 (by decide) g_15 dX5_lineOf_17 ?_
        refine lv_iload_n hx hb dX5_lineOf_18 rfl (lv_at hl 1 rfl) ?_
        refine lv_icmp_ne (tgt := 59) hx hb dX5_lineOf_19 (by decide) (fun c_16 => ?_) (fun c_16 => ?_)
        · have hf := bf_ie hf c_16
          exact J59 v2_2 T2 _ _ _ hf hd (lv_sub hl [0, 1, 2] rfl)
        · have hf := bf_it hf c_16
          refine lv_aload_n hx hb dX5_lineOf_22 rfl (lv_at hl 0 rfl) ?_
          refine bf_tga X hd 23 (by decide) (by decide) q1406 dX5_lineOf_23 ?_
          refine lv_iload_n hx hb dX5_lineOf_26 rfl (lv_at hl 2 rfl) ?_
          obtain ⟨g_17, hf⟩ := bf_c_some hf
          refine bf_tld X hd 23 (by decide) g_17 dX5_lineOf_27 ?_
          refine lv_aload_n hx hb dX5_lineOf_28 rfl (lv_at hl 0 rfl) ?_
          refine bf_tga X hd 24 (by decide) (by decide) q1407 dX5_lineOf_29 ?_
          refine lv_iload_n hx hb dX5_lineOf_32 rfl (lv_at hl 2 rfl) ?_
          obtain ⟨g_18, hf⟩ := bf_c_some hf
          refine bf_tld X hd 24 (by decide) g_18 dX5_lineOf_33 ?_
          refine lv_icmp_eq (tgt := 57) hx hb dX5_lineOf_34 (by decide) (fun c_19 => ?_) (fun c_19 => ?_)
          · have hf := bf_it hf c_19
            refine lv_iload_n hx hb dX5_lineOf_57 rfl (lv_at hl 2 rfl) ?_
            exact kret _ _ _ _ _ _ ⟨(bf_pr hf).1, congrArg (bf_pT G σ o) (bf_pr hf).2⟩ hd dX5_lineOf_58
          · have hf := bf_ie hf c_19
            refine lv_aload_n hx hb dX5_lineOf_37 rfl (lv_at hl 0 rfl) ?_
            refine lv_iconst (v := 0) hx hb dX5_lineOf_38 (by decide) ?_
            refine lv_aload_n hx hb dX5_lineOf_39 rfl (lv_at hl 0 rfl) ?_
            refine bf_tga X hd 23 (by decide) (by decide) q1406 dX5_lineOf_40 ?_
            refine lv_iload_n hx hb dX5_lineOf_43 rfl (lv_at hl 2 rfl) ?_
            obtain ⟨g_20, hf⟩ := bf_c_some hf
            refine bf_tld X hd 23 (by decide) g_20 dX5_lineOf_44 ?_
            refine lv_aload_n hx hb dX5_lineOf_45 rfl (lv_at hl 0 rfl) ?_
            refine bf_tga X hd 24 (by decide) (by decide) q1407 dX5_lineOf_46 ?_
            refine lv_iload_n hx hb dX5_lineOf_49 rfl (lv_at hl 2 rfl) ?_
            obtain ⟨g_21, hf⟩ := bf_c_some hf
            refine bf_tld X hd 24 (by decide) g_21 dX5_lineOf_50 ?_
            obtain ⟨r_23, T_22, er_23, hf⟩ := bf_b2_some hf
            refine bf_tci (n := 3) (As := [.int 0, .int (T2 23 (v2_2).toNatClampNeg), .int (T2 24 (v2_2).toNatClampNeg)]) (rest := []) X hd (mX5_runs l G σ o T2 0 (T2 23 (v2_2).toNatClampNeg) (T2 24 (v2_2).toNatClampNeg) er_23) (lw_V q1824 q1826 qs110 q156 q1827) (by decide +kernel) ⟨Nat.le_of_ble_eq_true rfl, Nat.le_of_ble_eq_true rfl⟩ rfl hl.1 rfl (Nat.le_of_ble_eq_true rfl) dX5_lineOf_51 ⟨Nat.le_of_ble_eq_true rfl, Nat.le_of_ble_eq_true rfl⟩ (fun H locs hd => ?_)
            refine lv_if_eq (tgt := 59) hx hb dX5_lineOf_54 (by decide) (fun c_24 => ?_) (fun c_24 => ?_)
            · have hf := bf_it hf c_24
              exact J59 v2_2 T_22 _ _ _ hf hd (lv_sub hl [0, 1, 2] rfl)
            · have hf := bf_ie hf c_24
              refine lv_iload_n hx hb dX5_lineOf_57 rfl (lv_at hl 2 rfl) ?_
              exact kret _ _ _ _ _ _ ⟨(bf_pr hf).1, congrArg (bf_pT G σ o) (bf_pr hf).2⟩ hd dX5_lineOf_58
  unfold fX5_lineOf at hf
  refine lv_iconst (v := 0) hx hb dX5_lineOf_0 (by decide) ?_
  refine lv_istore_n (lv' := [(2, .int 0), (0, .ref o), (1, .int x1)]) hx hb dX5_lineOf_1 rfl hl (by decide) rfl (fun ls hl => ?_)
  exact L2 bf_fuel 0 T _ _ _ hf hd (lv_sub hl [1, 2, 0] rfl)
def fX5_asks (T : bf_TS) (x1 x2 x3 x4 : Int32) : Option (bf_TS) := bf_l (bf_u2 T 40 0 ((T 1 0) - (T 1 0) / 52 * 52)) fun T_1 => bf_l (bf_u2 T_1 40 1 x1) fun T_2 => bf_l (bf_u2 T_2 40 2 x2) fun T_3 => bf_l (bf_u2 T_3 40 3 x3) fun T_4 => bf_l (bf_u2 T_4 40 4 x4) fun T_5 => bf_l (bf_u2 T_5 40 5 0) fun T_6 => bf_l (bf_u2 T_6 40 6 0) fun T_7 => bf_l (bf_u2 T_7 40 7 0) fun T_8 => bf_l (bf_u2 T_8 40 8 0) fun T_9 => some T_9
set_option maxHeartbeats 4000000 in
theorem mX5_asks (l : Launch) (G : bf_G) (σ : bf_V) (o : Nat) (T : bf_TS) (x1 x2 x3 x4 : Int32) {T' : bf_TS} (hf : fX5_asks T x1 x2 x3 x4 = some T') : bf_MV l G yX5_asks cX5_asks 5 (bf_rm 0) [.ref o, .int x1, .int x2, .int x3, .int x4] (bf_pT G σ o T) (fun σ' => σ' = bf_pT G σ o T') := by
  refine bf_MV.of rfl (Nat.le_of_ble_eq_true rfl) ?_
  intro p e s m below meth c Q X hlk hnm kret hd ls hl
  have hx := X.1
  have hb := X.2.1
  have hown := X.2.2.2.1
  have hts := X.2.2.2.2
  have hl : lv_has ls 5 [(0, .ref o), (1, .int x1), (2, .int x2), (3, .int x3), (4, .int x4)] := hl
  unfold fX5_asks at hf
  refine lv_aload_n hx hb dX5_asks_0 rfl (lv_at hl 0 rfl) ?_
  refine bf_tga X hd 40 (by decide) (by decide) q1423 dX5_asks_1 ?_
  refine lv_iconst (v := 0) hx hb dX5_asks_4 (by decide) ?_
  refine lv_aload_n hx hb dX5_asks_5 rfl (lv_at hl 0 rfl) ?_
  refine bf_tga X hd 1 (by decide) (by decide) q1384 dX5_asks_6 ?_
  refine lv_iconst (v := 0) hx hb dX5_asks_9 (by decide) ?_
  refine bf_tld X hd 1 (by decide) (by decide) dX5_asks_10 ?_
  refine lv_bipush (v := 52) hx hb dX5_asks_11 (by decide) ?_
  refine lv_irem hx hb dX5_asks_13 (by decide) ?_
  refine bf_tst X hd 40 (by decide) (by decide) dX5_asks_14 (fun H locs hd => ?_)
  obtain ⟨T_10, eT_10, hf⟩ := bf_l_e hf
  have hd := hd.of (congrArg (bf_pT G σ o) eT_10.symm)
  refine lv_aload_n hx hb dX5_asks_15 rfl (lv_at hl 0 rfl) ?_
  refine bf_tga X hd 40 (by decide) (by decide) q1423 dX5_asks_16 ?_
  refine lv_iconst (v := 1) hx hb dX5_asks_19 (by decide) ?_
  refine lv_iload_n hx hb dX5_asks_20 rfl (lv_at hl 1 rfl) ?_
  refine bf_tst X hd 40 (by decide) (by decide) dX5_asks_21 (fun H locs hd => ?_)
  obtain ⟨T_11, eT_11, hf⟩ := bf_l_e hf
  have hd := hd.of (congrArg (bf_pT G σ o) eT_11.symm)
  refine lv_aload_n hx hb dX5_asks_22 rfl (lv_at hl 0 rfl) ?_
  refine bf_tga X hd 40 (by decide) (by decide) q1423 dX5_asks_23 ?_
  refine lv_iconst (v := 2) hx hb dX5_asks_26 (by decide) ?_
  refine lv_iload_n hx hb dX5_asks_27 rfl (lv_at hl 2 rfl) ?_
  refine bf_tst X hd 40 (by decide) (by decide) dX5_asks_28 (fun H locs hd => ?_)
  obtain ⟨T_12, eT_12, hf⟩ := bf_l_e hf
  have hd := hd.of (congrArg (bf_pT G σ o) eT_12.symm)
  refine lv_aload_n hx hb dX5_asks_29 rfl (lv_at hl 0 rfl) ?_
  refine bf_tga X hd 40 (by decide) (by decide) q1423 dX5_asks_30 ?_
  refine lv_iconst (v := 3) hx hb dX5_asks_33 (by decide) ?_
  refine lv_iload_n hx hb dX5_asks_34 rfl (lv_at hl 3 rfl) ?_
  refine bf_tst X hd 40 (by decide) (by decide) dX5_asks_35 (fun H locs hd => ?_)
  obtain ⟨T_13, eT_13, hf⟩ := bf_l_e hf
  have hd := hd.of (congrArg (bf_pT G σ o) eT_13.symm)
  refine lv_aload_n hx hb dX5_asks_36 rfl (lv_at hl 0 rfl) ?_
  refine bf_tga X hd 40 (by decide) (by decide) q1423 dX5_asks_37 ?_
  refine lv_iconst (v := 4) hx hb dX5_asks_40 (by decide) ?_
  refine lv_iload hx hb dX5_asks_41 (lv_at hl 4 rfl) ?_
  refine bf_tst X hd 40 (by decide) (by decide) dX5_asks_43 (fun H locs hd => ?_)
  obtain ⟨T_14, eT_14, hf⟩ := bf_l_e hf
  have hd := hd.of (congrArg (bf_pT G σ o) eT_14.symm)
  refine lv_aload_n hx hb dX5_asks_44 rfl (lv_at hl 0 rfl) ?_
  refine bf_tga X hd 40 (by decide) (by decide) q1423 dX5_asks_45 ?_
  refine lv_iconst (v := 5) hx hb dX5_asks_48 (by decide) ?_
  refine lv_iconst (v := 0) hx hb dX5_asks_49 (by decide) ?_
  refine bf_tst X hd 40 (by decide) (by decide) dX5_asks_50 (fun H locs hd => ?_)
  obtain ⟨T_15, eT_15, hf⟩ := bf_l_e hf
  have hd := hd.of (congrArg (bf_pT G σ o) eT_15.symm)
  refine lv_aload_n hx hb dX5_asks_51 rfl (lv_at hl 0 rfl) ?_
  refine bf_tga X hd 40 (by decide) (by decide) q1423 dX5_asks_52 ?_
  refine lv_bipush (v := 6) hx hb dX5_asks_55 (by decide) ?_
  refine lv_iconst (v := 0) hx hb dX5_asks_57 (by decide) ?_
  refine bf_tst X hd 40 (by decide) (by decide) dX5_asks_58 (fun H locs hd => ?_)
  obtain ⟨T_16, eT_16, hf⟩ := bf_l_e hf
  have hd := hd.of (congrArg (bf_pT G σ o) eT_16.symm)
  refine lv_aload_n hx hb dX5_asks_59 rfl (lv_at hl 0 rfl) ?_
  refine bf_tga X hd 40 (by decide) (by decide) q1423 dX5_asks_60 ?_
  refine lv_bipush (v := 7) hx hb dX5_asks_63 (by decide) ?_
  refine lv_iconst (v := 0) hx hb dX5_asks_65 (by decide) ?_
  refine bf_tst X hd 40 (by decide) (by decide) dX5_asks_66 (fun H locs hd => ?_)
  obtain ⟨T_17, eT_17, hf⟩ := bf_l_e hf
  have hd := hd.of (congrArg (bf_pT G σ o) eT_17.symm)
  refine lv_aload_n hx hb dX5_asks_67 rfl (lv_at hl 0 rfl) ?_
  refine bf_tga X hd 40 (by decide) (by decide) q1423 dX5_asks_68 ?_
  refine lv_bipush (v := 8) hx hb dX5_asks_71 (by decide) ?_
  refine lv_iconst (v := 0) hx hb dX5_asks_73 (by decide) ?_
  refine bf_tst X hd 40 (by decide) (by decide) dX5_asks_74 (fun H locs hd => ?_)
  obtain ⟨T_18, eT_18, hf⟩ := bf_l_e hf
  have hd := hd.of (congrArg (bf_pT G σ o) eT_18.symm)
  exact kret _ _ _ _ _ (congrArg (bf_pT G σ o) (bf_so hf)) hd dX5_asks_75
def fX5_lawTells_37 (x3 : Int32) (t37_0 : Int32) (T37 : bf_TS) : Option (Int32 × bf_TS) := some ((fX5_held t37_0 0 x3), T37)
def fX5_lawTells (T : bf_TS) (x1 x2 x3 : Int32) : Option (Int32 × bf_TS) := bf_b2 (fX5_lineOf T x1) fun r_2 T_1 => if r_2 = (-1) then (fX5_lawTells_37 x3 x2 T_1) else (bf_c (bf_in r_2 48) <| bf_c (bf_in r_2 48) <| bf_b2 (fX5_runs T_1 0 (T_1 22 (r_2).toNatClampNeg) (T_1 23 (r_2).toNatClampNeg)) fun r_7 T_6 => fX5_lawTells_37 x3 r_7 T_6)
set_option maxHeartbeats 4000000 in
theorem mX5_lawTells (l : Launch) (G : bf_G) (σ : bf_V) (o : Nat) (T : bf_TS) (x1 x2 x3 : Int32) {r : Int32} {T' : bf_TS} (hf : fX5_lawTells T x1 x2 x3 = some (r, T')) : bf_MI l G yX5_lawTells cX5_lawTells 5 (bf_rm 3) [.ref o, .int x1, .int x2, .int x3] (bf_pT G σ o T) (fun v σ' => v = r ∧ σ' = bf_pT G σ o T') := by
  refine bf_MI.of rfl (Nat.le_of_ble_eq_true rfl) ?_
  intro p e s m below meth c Q X hlk hnm kret hd ls hl
  have hx := X.1
  have hb := X.2.1
  have hown := X.2.2.2.1
  have hts := X.2.2.2.2
  have hl : lv_has ls 5 [(0, .ref o), (1, .int x1), (2, .int x2), (3, .int x3)] := hl
  have J37 : ∀ (t37_0 : Int32) (T37 : bf_TS) (H : Heap) (locs : List Loc) (ls : Array Slot), fX5_lawTells_37 x3 t37_0 T37 = some (r, T') → bf_Dy G s H locs (bf_pT G σ o T37) → lv_has ls 5 [(3, .int x3)] → W p l e (bf_rm 3) s m ([.ref o, .int x1, .int x2, .int x3] : List Value).toArray below meth c H locs 0 0 Q (F0 m 37 ls [.int t37_0, .ref o]) := by
    intro t37_0 T37 H locs ls hf hd hl
    unfold fX5_lawTells_37 at hf
    refine lv_iconst (v := 0) hx hb dX5_lawTells_37 (by decide) ?_
    refine lv_iload_n hx hb dX5_lawTells_38 rfl (lv_at hl 0 rfl) ?_
    refine bf_tci (n := 3) (As := [.int t37_0, .int 0, .int x3]) (rest := []) X hd (mX5_held l G σ o T37 t37_0 0 x3 rfl) (lw_V q1588 q1590 qs60 q156 q1591) (by decide +kernel) ⟨Nat.le_of_ble_eq_true rfl, Nat.le_of_ble_eq_true rfl⟩ rfl hl.1 rfl (Nat.le_of_ble_eq_true rfl) dX5_lawTells_39 ⟨Nat.le_of_ble_eq_true rfl, Nat.le_of_ble_eq_true rfl⟩ (fun H locs hd => ?_)
    exact kret _ _ _ _ _ _ ⟨(bf_pr hf).1, congrArg (bf_pT G σ o) (bf_pr hf).2⟩ hd dX5_lawTells_42
  unfold fX5_lawTells at hf
  refine lv_aload_n hx hb dX5_lawTells_0 rfl (lv_at hl 0 rfl) ?_
  refine lv_iload_n hx hb dX5_lawTells_1 rfl (lv_at hl 1 rfl) ?_
  obtain ⟨r_9, T_8, er_9, hf⟩ := bf_b2_some hf
  refine bf_tci (n := 1) (As := [.int x1]) (rest := []) X hd (mX5_lineOf l G σ o T x1 er_9) (lw_V q1820 q1822 qs109 q156 q1823) (by decide +kernel) ⟨Nat.le_of_ble_eq_true rfl, Nat.le_of_ble_eq_true rfl⟩ rfl hl.1 rfl (Nat.le_of_ble_eq_true rfl) dX5_lawTells_2 ⟨Nat.le_of_ble_eq_true rfl, Nat.le_of_ble_eq_true rfl⟩ (fun H locs hd => ?_)
  refine lv_istore (lv' := [(4, .int r_9), (0, .ref o), (1, .int x1), (2, .int x2), (3, .int x3)]) hx hb dX5_lawTells_5 hl (by decide) rfl (fun ls hl => ?_)
  refine lv_aload_n hx hb dX5_lawTells_7 rfl (lv_at hl 1 rfl) ?_
  refine lv_iload hx hb dX5_lawTells_8 (lv_at hl 0 rfl) ?_
  refine lv_iconst (v := (-1)) hx hb dX5_lawTells_10 (by decide) ?_
  refine lv_icmp_ne (tgt := 18) hx hb dX5_lawTells_11 (by decide) (fun c_10 => ?_) (fun c_10 => ?_)
  · have hf := bf_ie hf c_10
    refine lv_aload_n hx hb dX5_lawTells_18 rfl (lv_at hl 1 rfl) ?_
    refine lv_iconst (v := 0) hx hb dX5_lawTells_19 (by decide) ?_
    refine lv_aload_n hx hb dX5_lawTells_20 rfl (lv_at hl 1 rfl) ?_
    refine bf_tga X hd 22 (by decide) (by decide) q1405 dX5_lawTells_21 ?_
    refine lv_iload hx hb dX5_lawTells_24 (lv_at hl 0 rfl) ?_
    obtain ⟨g_11, hf⟩ := bf_c_some hf
    refine bf_tld X hd 22 (by decide) g_11 dX5_lawTells_26 ?_
    refine lv_aload_n hx hb dX5_lawTells_27 rfl (lv_at hl 1 rfl) ?_
    refine bf_tga X hd 23 (by decide) (by decide) q1406 dX5_lawTells_28 ?_
    refine lv_iload hx hb dX5_lawTells_31 (lv_at hl 0 rfl) ?_
    obtain ⟨g_12, hf⟩ := bf_c_some hf
    refine bf_tld X hd 23 (by decide) g_12 dX5_lawTells_33 ?_
    obtain ⟨r_14, T_13, er_14, hf⟩ := bf_b2_some hf
    refine bf_tci (n := 3) (As := [.int 0, .int (T_8 22 (r_9).toNatClampNeg), .int (T_8 23 (r_9).toNatClampNeg)]) (rest := [.ref o]) X hd (mX5_runs l G σ o T_8 0 (T_8 22 (r_9).toNatClampNeg) (T_8 23 (r_9).toNatClampNeg) er_14) (lw_V q1824 q1826 qs110 q156 q1827) (by decide +kernel) ⟨Nat.le_of_ble_eq_true rfl, Nat.le_of_ble_eq_true rfl⟩ rfl hl.1 rfl (Nat.le_of_ble_eq_true rfl) dX5_lawTells_34 ⟨Nat.le_of_ble_eq_true rfl, Nat.le_of_ble_eq_true rfl⟩ (fun H locs hd => ?_)
    exact J37 r_14 T_13 _ _ _ hf hd (lv_sub hl [4] rfl)
  · have hf := bf_it hf c_10
    refine lv_iload_n hx hb dX5_lawTells_14 rfl (lv_at hl 3 rfl) ?_
    refine lv_goto (tgt := 37) hx hb dX5_lawTells_15 (by decide) ?_
    exact J37 x2 T_8 _ _ _ hf hd (lv_sub hl [4] rfl)
def fX5_bearOf (T : bf_TS) (x1 : Int32) : Option (Int32 × bf_TS) := bf_c (bf_in (20 + x1) 136) <| bf_c (bf_in (34 + x1) 136) <| bf_c (bf_in (48 + x1) 136) <| bf_c (bf_in (62 + x1) 136) <| bf_b (fX5_asks T (T 1 (20 + x1).toNatClampNeg) (T 1 (34 + x1).toNatClampNeg) (T 1 (48 + x1).toNatClampNeg) (T 1 (62 + x1).toNatClampNeg)) fun T_5 => bf_c (bf_in (20 + x1) 136) <| bf_c (bf_in (10 + (T_5 1 (20 + x1).toNatClampNeg)) 136) <| bf_l (bf_u2 T_5 40 8 (T_5 1 (10 + (T_5 1 (20 + x1).toNatClampNeg)).toNatClampNeg)) fun T_8 => bf_c (bf_in (48 + x1) 136) <| bf_b2 (fX5_lawTells T_8 0 ((T_8 1 (48 + x1).toNatClampNeg) / 5) 99) fun r_11 T_10 => some (r_11, T_10)
set_option maxHeartbeats 4000000 in
theorem mX5_bearOf (l : Launch) (G : bf_G) (σ : bf_V) (o : Nat) (T : bf_TS) (x1 : Int32) {r : Int32} {T' : bf_TS} (hf : fX5_bearOf T x1 = some (r, T')) : bf_MI l G yX5_bearOf cX5_bearOf 2 (bf_rm 4) [.ref o, .int x1] (bf_pT G σ o T) (fun v σ' => v = r ∧ σ' = bf_pT G σ o T') := by
  refine bf_MI.of rfl (Nat.le_of_ble_eq_true rfl) ?_
  intro p e s m below meth c Q X hlk hnm kret hd ls hl
  have hx := X.1
  have hb := X.2.1
  have hown := X.2.2.2.1
  have hts := X.2.2.2.2
  have hl : lv_has ls 2 [(0, .ref o), (1, .int x1)] := hl
  unfold fX5_bearOf at hf
  refine lv_aload_n hx hb dX5_bearOf_0 rfl (lv_at hl 0 rfl) ?_
  refine lv_aload_n hx hb dX5_bearOf_1 rfl (lv_at hl 0 rfl) ?_
  refine bf_tga X hd 1 (by decide) (by decide) q1384 dX5_bearOf_2 ?_
  refine lv_bipush (v := 20) hx hb dX5_bearOf_5 (by decide) ?_
  refine lv_iload_n hx hb dX5_bearOf_7 rfl (lv_at hl 1 rfl) ?_
  refine lv_iadd hx hb dX5_bearOf_8 ?_
  obtain ⟨g_12, hf⟩ := bf_c_some hf
  refine bf_tld X hd 1 (by decide) g_12 dX5_bearOf_9 ?_
  refine lv_aload_n hx hb dX5_bearOf_10 rfl (lv_at hl 0 rfl) ?_
  refine bf_tga X hd 1 (by decide) (by decide) q1384 dX5_bearOf_11 ?_
  refine lv_bipush (v := 34) hx hb dX5_bearOf_14 (by decide) ?_
  refine lv_iload_n hx hb dX5_bearOf_16 rfl (lv_at hl 1 rfl) ?_
  refine lv_iadd hx hb dX5_bearOf_17 ?_
  obtain ⟨g_13, hf⟩ := bf_c_some hf
  refine bf_tld X hd 1 (by decide) g_13 dX5_bearOf_18 ?_
  refine lv_aload_n hx hb dX5_bearOf_19 rfl (lv_at hl 0 rfl) ?_
  refine bf_tga X hd 1 (by decide) (by decide) q1384 dX5_bearOf_20 ?_
  refine lv_bipush (v := 48) hx hb dX5_bearOf_23 (by decide) ?_
  refine lv_iload_n hx hb dX5_bearOf_25 rfl (lv_at hl 1 rfl) ?_
  refine lv_iadd hx hb dX5_bearOf_26 ?_
  obtain ⟨g_14, hf⟩ := bf_c_some hf
  refine bf_tld X hd 1 (by decide) g_14 dX5_bearOf_27 ?_
  refine lv_aload_n hx hb dX5_bearOf_28 rfl (lv_at hl 0 rfl) ?_
  refine bf_tga X hd 1 (by decide) (by decide) q1384 dX5_bearOf_29 ?_
  refine lv_bipush (v := 62) hx hb dX5_bearOf_32 (by decide) ?_
  refine lv_iload_n hx hb dX5_bearOf_34 rfl (lv_at hl 1 rfl) ?_
  refine lv_iadd hx hb dX5_bearOf_35 ?_
  obtain ⟨g_15, hf⟩ := bf_c_some hf
  refine bf_tld X hd 1 (by decide) g_15 dX5_bearOf_36 ?_
  obtain ⟨T_16, eT_16, hf⟩ := bf_b_some hf
  refine bf_tcv (n := 4) (As := [.int (T 1 (20 + x1).toNatClampNeg), .int (T 1 (34 + x1).toNatClampNeg), .int (T 1 (48 + x1).toNatClampNeg), .int (T 1 (62 + x1).toNatClampNeg)]) (rest := []) X hd (mX5_asks l G σ o T (T 1 (20 + x1).toNatClampNeg) (T 1 (34 + x1).toNatClampNeg) (T 1 (48 + x1).toNatClampNeg) (T 1 (62 + x1).toNatClampNeg) eT_16) (lw_V q1812 q1814 qs107 q156 q1815) (by decide +kernel) ⟨Nat.le_of_ble_eq_true rfl, Nat.le_of_ble_eq_true rfl⟩ rfl hl.1 rfl (Nat.le_of_ble_eq_true rfl) dX5_bearOf_37 ⟨Nat.le_of_ble_eq_true rfl, Nat.le_of_ble_eq_true rfl⟩ (fun H locs hd => ?_)
  refine lv_aload_n hx hb dX5_bearOf_40 rfl (lv_at hl 0 rfl) ?_
  refine bf_tga X hd 40 (by decide) (by decide) q1423 dX5_bearOf_41 ?_
  refine lv_bipush (v := 8) hx hb dX5_bearOf_44 (by decide) ?_
  refine lv_aload_n hx hb dX5_bearOf_46 rfl (lv_at hl 0 rfl) ?_
  refine bf_tga X hd 1 (by decide) (by decide) q1384 dX5_bearOf_47 ?_
  refine lv_bipush (v := 10) hx hb dX5_bearOf_50 (by decide) ?_
  refine lv_aload_n hx hb dX5_bearOf_52 rfl (lv_at hl 0 rfl) ?_
  refine bf_tga X hd 1 (by decide) (by decide) q1384 dX5_bearOf_53 ?_
  refine lv_bipush (v := 20) hx hb dX5_bearOf_56 (by decide) ?_
  refine lv_iload_n hx hb dX5_bearOf_58 rfl (lv_at hl 1 rfl) ?_
  refine lv_iadd hx hb dX5_bearOf_59 ?_
  obtain ⟨g_17, hf⟩ := bf_c_some hf
  refine bf_tld X hd 1 (by decide) g_17 dX5_bearOf_60 ?_
  refine lv_iadd hx hb dX5_bearOf_61 ?_
  obtain ⟨g_18, hf⟩ := bf_c_some hf
  refine bf_tld X hd 1 (by decide) g_18 dX5_bearOf_62 ?_
  refine bf_tst X hd 40 (by decide) (by decide) dX5_bearOf_63 (fun H locs hd => ?_)
  obtain ⟨T_19, eT_19, hf⟩ := bf_l_e hf
  have hd := hd.of (congrArg (bf_pT G σ o) eT_19.symm)
  refine lv_aload_n hx hb dX5_bearOf_64 rfl (lv_at hl 0 rfl) ?_
  refine lv_iconst (v := 0) hx hb dX5_bearOf_65 (by decide) ?_
  refine lv_aload_n hx hb dX5_bearOf_66 rfl (lv_at hl 0 rfl) ?_
  refine bf_tga X hd 1 (by decide) (by decide) q1384 dX5_bearOf_67 ?_
  refine lv_bipush (v := 48) hx hb dX5_bearOf_70 (by decide) ?_
  refine lv_iload_n hx hb dX5_bearOf_72 rfl (lv_at hl 1 rfl) ?_
  refine lv_iadd hx hb dX5_bearOf_73 ?_
  obtain ⟨g_20, hf⟩ := bf_c_some hf
  refine bf_tld X hd 1 (by decide) g_20 dX5_bearOf_74 ?_
  refine lv_iconst (v := 5) hx hb dX5_bearOf_75 (by decide) ?_
  refine lv_idiv hx hb dX5_bearOf_76 (by decide) ?_
  refine lv_bipush (v := 99) hx hb dX5_bearOf_77 (by decide) ?_
  obtain ⟨r_22, T_21, er_22, hf⟩ := bf_b2_some hf
  refine bf_tci (n := 3) (As := [.int 0, .int ((T_19 1 (48 + x1).toNatClampNeg) / 5), .int 99]) (rest := []) X hd (mX5_lawTells l G σ o T_19 0 ((T_19 1 (48 + x1).toNatClampNeg) / 5) 99 er_22) (lw_V q1816 q1818 qs108 q156 q1819) (by decide +kernel) ⟨Nat.le_of_ble_eq_true rfl, Nat.le_of_ble_eq_true rfl⟩ rfl hl.1 rfl (Nat.le_of_ble_eq_true rfl) dX5_bearOf_79 ⟨Nat.le_of_ble_eq_true rfl, Nat.le_of_ble_eq_true rfl⟩ (fun H locs hd => ?_)
  exact kret _ _ _ _ _ _ ⟨(bf_pr hf).1, congrArg (bf_pT G σ o) (bf_pr hf).2⟩ hd dX5_bearOf_82
def fX5_wantOf (T : bf_TS) (x1 : Int32) : Option (Int32 × bf_TS) := bf_b (fX5_asks T 0 0 0 0) fun T_1 => bf_c (bf_in (76 + x1) 136) <| bf_l (bf_u2 T_1 40 5 (T_1 1 (76 + x1).toNatClampNeg)) fun T_3 => bf_c (bf_in (76 + x1) 136) <| bf_b2 (fX5_lawTells T_3 1 (T_3 1 (76 + x1).toNatClampNeg) 20) fun r_6 T_5 => some (r_6, T_5)
set_option maxHeartbeats 4000000 in
theorem mX5_wantOf (l : Launch) (G : bf_G) (σ : bf_V) (o : Nat) (T : bf_TS) (x1 : Int32) {r : Int32} {T' : bf_TS} (hf : fX5_wantOf T x1 = some (r, T')) : bf_MI l G yX5_wantOf cX5_wantOf 2 (bf_rm 4) [.ref o, .int x1] (bf_pT G σ o T) (fun v σ' => v = r ∧ σ' = bf_pT G σ o T') := by
  refine bf_MI.of rfl (Nat.le_of_ble_eq_true rfl) ?_
  intro p e s m below meth c Q X hlk hnm kret hd ls hl
  have hx := X.1
  have hb := X.2.1
  have hown := X.2.2.2.1
  have hts := X.2.2.2.2
  have hl : lv_has ls 2 [(0, .ref o), (1, .int x1)] := hl
  unfold fX5_wantOf at hf
  refine lv_aload_n hx hb dX5_wantOf_0 rfl (lv_at hl 0 rfl) ?_
  refine lv_iconst (v := 0) hx hb dX5_wantOf_1 (by decide) ?_
  refine lv_iconst (v := 0) hx hb dX5_wantOf_2 (by decide) ?_
  refine lv_iconst (v := 0) hx hb dX5_wantOf_3 (by decide) ?_
  refine lv_iconst (v := 0) hx hb dX5_wantOf_4 (by decide) ?_
  obtain ⟨T_7, eT_7, hf⟩ := bf_b_some hf
  refine bf_tcv (n := 4) (As := [.int 0, .int 0, .int 0, .int 0]) (rest := []) X hd (mX5_asks l G σ o T 0 0 0 0 eT_7) (lw_V q1812 q1814 qs107 q156 q1815) (by decide +kernel) ⟨Nat.le_of_ble_eq_true rfl, Nat.le_of_ble_eq_true rfl⟩ rfl hl.1 rfl (Nat.le_of_ble_eq_true rfl) dX5_wantOf_5 ⟨Nat.le_of_ble_eq_true rfl, Nat.le_of_ble_eq_true rfl⟩ (fun H locs hd => ?_)
  refine lv_aload_n hx hb dX5_wantOf_8 rfl (lv_at hl 0 rfl) ?_
  refine bf_tga X hd 40 (by decide) (by decide) q1423 dX5_wantOf_9 ?_
  refine lv_iconst (v := 5) hx hb dX5_wantOf_12 (by decide) ?_
  refine lv_aload_n hx hb dX5_wantOf_13 rfl (lv_at hl 0 rfl) ?_
  refine bf_tga X hd 1 (by decide) (by decide) q1384 dX5_wantOf_14 ?_
  refine lv_bipush (v := 76) hx hb dX5_wantOf_17 (by decide) ?_
  refine lv_iload_n hx hb dX5_wantOf_19 rfl (lv_at hl 1 rfl) ?_
  refine lv_iadd hx hb dX5_wantOf_20 ?_
  obtain ⟨g_8, hf⟩ := bf_c_some hf
  refine bf_tld X hd 1 (by decide) g_8 dX5_wantOf_21 ?_
  refine bf_tst X hd 40 (by decide) (by decide) dX5_wantOf_22 (fun H locs hd => ?_)
  obtain ⟨T_9, eT_9, hf⟩ := bf_l_e hf
  have hd := hd.of (congrArg (bf_pT G σ o) eT_9.symm)
  refine lv_aload_n hx hb dX5_wantOf_23 rfl (lv_at hl 0 rfl) ?_
  refine lv_iconst (v := 1) hx hb dX5_wantOf_24 (by decide) ?_
  refine lv_aload_n hx hb dX5_wantOf_25 rfl (lv_at hl 0 rfl) ?_
  refine bf_tga X hd 1 (by decide) (by decide) q1384 dX5_wantOf_26 ?_
  refine lv_bipush (v := 76) hx hb dX5_wantOf_29 (by decide) ?_
  refine lv_iload_n hx hb dX5_wantOf_31 rfl (lv_at hl 1 rfl) ?_
  refine lv_iadd hx hb dX5_wantOf_32 ?_
  obtain ⟨g_10, hf⟩ := bf_c_some hf
  refine bf_tld X hd 1 (by decide) g_10 dX5_wantOf_33 ?_
  refine lv_bipush (v := 20) hx hb dX5_wantOf_34 (by decide) ?_
  obtain ⟨r_12, T_11, er_12, hf⟩ := bf_b2_some hf
  refine bf_tci (n := 3) (As := [.int 1, .int (T_9 1 (76 + x1).toNatClampNeg), .int 20]) (rest := []) X hd (mX5_lawTells l G σ o T_9 1 (T_9 1 (76 + x1).toNatClampNeg) 20 er_12) (lw_V q1816 q1818 qs108 q156 q1819) (by decide +kernel) ⟨Nat.le_of_ble_eq_true rfl, Nat.le_of_ble_eq_true rfl⟩ rfl hl.1 rfl (Nat.le_of_ble_eq_true rfl) dX5_wantOf_36 ⟨Nat.le_of_ble_eq_true rfl, Nat.le_of_ble_eq_true rfl⟩ (fun H locs hd => ?_)
  exact kret _ _ _ _ _ _ ⟨(bf_pr hf).1, congrArg (bf_pT G σ o) (bf_pr hf).2⟩ hd dX5_wantOf_39
def fX5_countOf_92 (x2 : Int32) (t92_0 : Int32) (t92_1 : Int32) (T92 : bf_TS) : Option (Int32 × bf_TS) := bf_c (bf_in t92_1 9) <| bf_l (bf_u2 T92 40 (t92_1).toNatClampNeg t92_0) fun T_7 => bf_c (bf_in (10 + x2) 136) <| bf_l (bf_u2 T_7 40 8 (T_7 1 (10 + x2).toNatClampNeg)) fun T_9 => bf_b2 (fX5_lawTells T_9 2 1 9) fun r_11 T_10 => some (r_11, T_10)
def fX5_countOf_48 (x1 : Int32) (x2 : Int32) (x3 : Int32) (T48 : bf_TS) : Option (Int32 × bf_TS) := bf_c (bf_in (76 + x1) 136) <| bf_l (bf_u2 T48 40 5 (T48 1 (76 + x1).toNatClampNeg)) fun T_2 => bf_b (fX5_tasteOf T_2 x1 x2) fun r_3 => bf_l (bf_u2 T_2 40 6 r_3) fun T_4 => if x3 = (-1) then (fX5_countOf_92 x2 1 7 T_4) else (fX5_countOf_92 x2 0 7 T_4)
def fX5_countOf (T : bf_TS) (x1 x2 x3 : Int32) : Option (Int32 × bf_TS) := if x3 = (-1) then (bf_b (fX5_asks T x2 0 0 0) fun T_17 => fX5_countOf_48 x1 x2 x3 T_17) else (bf_c (bf_in (34 + x3) 136) <| bf_c (bf_in (48 + x3) 136) <| bf_c (bf_in (62 + x3) 136) <| bf_b (fX5_asks T x2 (T 1 (34 + x3).toNatClampNeg) (T 1 (48 + x3).toNatClampNeg) (T 1 (62 + x3).toNatClampNeg)) fun T_16 => fX5_countOf_48 x1 x2 x3 T_16)
set_option maxHeartbeats 4000000 in
theorem mX5_countOf (l : Launch) (G : bf_G) (σ : bf_V) (o : Nat) (T : bf_TS) (x1 x2 x3 : Int32) {r : Int32} {T' : bf_TS} (hf : fX5_countOf T x1 x2 x3 = some (r, T')) : bf_MI l G yX5_countOf cX5_countOf 4 (bf_rm 4) [.ref o, .int x1, .int x2, .int x3] (bf_pT G σ o T) (fun v σ' => v = r ∧ σ' = bf_pT G σ o T') := by
  refine bf_MI.of rfl (Nat.le_of_ble_eq_true rfl) ?_
  intro p e s m below meth c Q X hlk hnm kret hd ls hl
  have hx := X.1
  have hb := X.2.1
  have hown := X.2.2.2.1
  have hts := X.2.2.2.2
  have hl : lv_has ls 4 [(0, .ref o), (1, .int x1), (2, .int x2), (3, .int x3)] := hl
  have J92 : ∀ (t92_0 : Int32) (t92_1 : Int32) (T92 : bf_TS) (H : Heap) (locs : List Loc) (ls : Array Slot), fX5_countOf_92 x2 t92_0 t92_1 T92 = some (r, T') → bf_Dy G s H locs (bf_pT G σ o T92) → lv_has ls 4 [(0, .ref o), (2, .int x2)] → W p l e (bf_rm 4) s m ([.ref o, .int x1, .int x2, .int x3] : List Value).toArray below meth c H locs 0 0 Q (F0 m 92 ls [.int t92_0, .int t92_1, .ref (o + bf_to 40)]) := by
    intro t92_0 t92_1 T92 H locs ls hf hd hl
    unfold fX5_countOf_92 at hf
    obtain ⟨g_18, hf⟩ := bf_c_some hf
    refine bf_tst X hd 40 (by decide) g_18 dX5_countOf_92 (fun H locs hd => ?_)
    obtain ⟨T_19, eT_19, hf⟩ := bf_l_e hf
    have hd := hd.of (congrArg (bf_pT G σ o) eT_19.symm)
    refine lv_aload_n hx hb dX5_countOf_93 rfl (lv_at hl 0 rfl) ?_
    refine bf_tga X hd 40 (by decide) (by decide) q1423 dX5_countOf_94 ?_
    refine lv_bipush (v := 8) hx hb dX5_countOf_97 (by decide) ?_
    refine lv_aload_n hx hb dX5_countOf_99 rfl (lv_at hl 0 rfl) ?_
    refine bf_tga X hd 1 (by decide) (by decide) q1384 dX5_countOf_100 ?_
    refine lv_bipush (v := 10) hx hb dX5_countOf_103 (by decide) ?_
    refine lv_iload_n hx hb dX5_countOf_105 rfl (lv_at hl 1 rfl) ?_
    refine lv_iadd hx hb dX5_countOf_106 ?_
    obtain ⟨g_20, hf⟩ := bf_c_some hf
    refine bf_tld X hd 1 (by decide) g_20 dX5_countOf_107 ?_
    refine bf_tst X hd 40 (by decide) (by decide) dX5_countOf_108 (fun H locs hd => ?_)
    obtain ⟨T_21, eT_21, hf⟩ := bf_l_e hf
    have hd := hd.of (congrArg (bf_pT G σ o) eT_21.symm)
    refine lv_aload_n hx hb dX5_countOf_109 rfl (lv_at hl 0 rfl) ?_
    refine lv_iconst (v := 2) hx hb dX5_countOf_110 (by decide) ?_
    refine lv_iconst (v := 1) hx hb dX5_countOf_111 (by decide) ?_
    refine lv_bipush (v := 9) hx hb dX5_countOf_112 (by decide) ?_
    obtain ⟨r_23, T_22, er_23, hf⟩ := bf_b2_some hf
    refine bf_tci (n := 3) (As := [.int 2, .int 1, .int 9]) (rest := []) X hd (mX5_lawTells l G σ o T_21 2 1 9 er_23) (lw_V q1816 q1818 qs108 q156 q1819) (by decide +kernel) ⟨Nat.le_of_ble_eq_true rfl, Nat.le_of_ble_eq_true rfl⟩ rfl hl.1 rfl (Nat.le_of_ble_eq_true rfl) dX5_countOf_114 ⟨Nat.le_of_ble_eq_true rfl, Nat.le_of_ble_eq_true rfl⟩ (fun H locs hd => ?_)
    exact kret _ _ _ _ _ _ ⟨(bf_pr hf).1, congrArg (bf_pT G σ o) (bf_pr hf).2⟩ hd dX5_countOf_117
  have J48 : ∀ (T48 : bf_TS) (H : Heap) (locs : List Loc) (ls : Array Slot), fX5_countOf_48 x1 x2 x3 T48 = some (r, T') → bf_Dy G s H locs (bf_pT G σ o T48) → lv_has ls 4 [(0, .ref o), (1, .int x1), (2, .int x2), (3, .int x3)] → W p l e (bf_rm 4) s m ([.ref o, .int x1, .int x2, .int x3] : List Value).toArray below meth c H locs 0 0 Q (F0 m 48 ls []) := by
    intro T48 H locs ls hf hd hl
    unfold fX5_countOf_48 at hf
    refine lv_aload_n hx hb dX5_countOf_48 rfl (lv_at hl 0 rfl) ?_
    refine bf_tga X hd 40 (by decide) (by decide) q1423 dX5_countOf_49 ?_
    refine lv_iconst (v := 5) hx hb dX5_countOf_52 (by decide) ?_
    refine lv_aload_n hx hb dX5_countOf_53 rfl (lv_at hl 0 rfl) ?_
    refine bf_tga X hd 1 (by decide) (by decide) q1384 dX5_countOf_54 ?_
    refine lv_bipush (v := 76) hx hb dX5_countOf_57 (by decide) ?_
    refine lv_iload_n hx hb dX5_countOf_59 rfl (lv_at hl 1 rfl) ?_
    refine lv_iadd hx hb dX5_countOf_60 ?_
    obtain ⟨g_24, hf⟩ := bf_c_some hf
    refine bf_tld X hd 1 (by decide) g_24 dX5_countOf_61 ?_
    refine bf_tst X hd 40 (by decide) (by decide) dX5_countOf_62 (fun H locs hd => ?_)
    obtain ⟨T_25, eT_25, hf⟩ := bf_l_e hf
    have hd := hd.of (congrArg (bf_pT G σ o) eT_25.symm)
    refine lv_aload_n hx hb dX5_countOf_63 rfl (lv_at hl 0 rfl) ?_
    refine bf_tga X hd 40 (by decide) (by decide) q1423 dX5_countOf_64 ?_
    refine lv_bipush (v := 6) hx hb dX5_countOf_67 (by decide) ?_
    refine lv_aload_n hx hb dX5_countOf_69 rfl (lv_at hl 0 rfl) ?_
    refine lv_iload_n hx hb dX5_countOf_70 rfl (lv_at hl 1 rfl) ?_
    refine lv_iload_n hx hb dX5_countOf_71 rfl (lv_at hl 2 rfl) ?_
    obtain ⟨r_26, er_26, hf⟩ := bf_b_some hf
    refine bf_tci (n := 2) (As := [.int x1, .int x2]) (rest := [.int 6, .ref (o + bf_to 40)]) X hd (mX5_tasteOf l G σ o T_25 x1 x2 er_26) (lw_V q1852 q1854 qs117 q156 q1855) (by decide +kernel) ⟨Nat.le_of_ble_eq_true rfl, Nat.le_of_ble_eq_true rfl⟩ rfl hl.1 rfl (Nat.le_of_ble_eq_true rfl) dX5_countOf_72 ⟨Nat.le_of_ble_eq_true rfl, Nat.le_of_ble_eq_true rfl⟩ (fun H locs hd => ?_)
    refine bf_tst X hd 40 (by decide) (by decide) dX5_countOf_75 (fun H locs hd => ?_)
    obtain ⟨T_27, eT_27, hf⟩ := bf_l_e hf
    have hd := hd.of (congrArg (bf_pT G σ o) eT_27.symm)
    refine lv_aload_n hx hb dX5_countOf_76 rfl (lv_at hl 0 rfl) ?_
    refine bf_tga X hd 40 (by decide) (by decide) q1423 dX5_countOf_77 ?_
    refine lv_bipush (v := 7) hx hb dX5_countOf_80 (by decide) ?_
    refine lv_iload_n hx hb dX5_countOf_82 rfl (lv_at hl 3 rfl) ?_
    refine lv_iconst (v := (-1)) hx hb dX5_countOf_83 (by decide) ?_
    refine lv_icmp_ne (tgt := 91) hx hb dX5_countOf_84 (by decide) (fun c_28 => ?_) (fun c_28 => ?_)
    · have hf := bf_ie hf c_28
      refine lv_iconst (v := 0) hx hb dX5_countOf_91 (by decide) ?_
      exact J92 0 7 T_27 _ _ _ hf hd (lv_sub hl [0, 2] rfl)
    · have hf := bf_it hf c_28
      refine lv_iconst (v := 1) hx hb dX5_countOf_87 (by decide) ?_
      refine lv_goto (tgt := 92) hx hb dX5_countOf_88 (by decide) ?_
      exact J92 1 7 T_27 _ _ _ hf hd (lv_sub hl [0, 2] rfl)
  unfold fX5_countOf at hf
  refine lv_iload_n hx hb dX5_countOf_0 rfl (lv_at hl 3 rfl) ?_
  refine lv_iconst (v := (-1)) hx hb dX5_countOf_1 (by decide) ?_
  refine lv_icmp_ne (tgt := 16) hx hb dX5_countOf_2 (by decide) (fun c_29 => ?_) (fun c_29 => ?_)
  · have hf := bf_ie hf c_29
    refine lv_aload_n hx hb dX5_countOf_16 rfl (lv_at hl 0 rfl) ?_
    refine lv_iload_n hx hb dX5_countOf_17 rfl (lv_at hl 2 rfl) ?_
    refine lv_aload_n hx hb dX5_countOf_18 rfl (lv_at hl 0 rfl) ?_
    refine bf_tga X hd 1 (by decide) (by decide) q1384 dX5_countOf_19 ?_
    refine lv_bipush (v := 34) hx hb dX5_countOf_22 (by decide) ?_
    refine lv_iload_n hx hb dX5_countOf_24 rfl (lv_at hl 3 rfl) ?_
    refine lv_iadd hx hb dX5_countOf_25 ?_
    obtain ⟨g_30, hf⟩ := bf_c_some hf
    refine bf_tld X hd 1 (by decide) g_30 dX5_countOf_26 ?_
    refine lv_aload_n hx hb dX5_countOf_27 rfl (lv_at hl 0 rfl) ?_
    refine bf_tga X hd 1 (by decide) (by decide) q1384 dX5_countOf_28 ?_
    refine lv_bipush (v := 48) hx hb dX5_countOf_31 (by decide) ?_
    refine lv_iload_n hx hb dX5_countOf_33 rfl (lv_at hl 3 rfl) ?_
    refine lv_iadd hx hb dX5_countOf_34 ?_
    obtain ⟨g_31, hf⟩ := bf_c_some hf
    refine bf_tld X hd 1 (by decide) g_31 dX5_countOf_35 ?_
    refine lv_aload_n hx hb dX5_countOf_36 rfl (lv_at hl 0 rfl) ?_
    refine bf_tga X hd 1 (by decide) (by decide) q1384 dX5_countOf_37 ?_
    refine lv_bipush (v := 62) hx hb dX5_countOf_40 (by decide) ?_
    refine lv_iload_n hx hb dX5_countOf_42 rfl (lv_at hl 3 rfl) ?_
    refine lv_iadd hx hb dX5_countOf_43 ?_
    obtain ⟨g_32, hf⟩ := bf_c_some hf
    refine bf_tld X hd 1 (by decide) g_32 dX5_countOf_44 ?_
    obtain ⟨T_33, eT_33, hf⟩ := bf_b_some hf
    refine bf_tcv (n := 4) (As := [.int x2, .int (T 1 (34 + x3).toNatClampNeg), .int (T 1 (48 + x3).toNatClampNeg), .int (T 1 (62 + x3).toNatClampNeg)]) (rest := []) X hd (mX5_asks l G σ o T x2 (T 1 (34 + x3).toNatClampNeg) (T 1 (48 + x3).toNatClampNeg) (T 1 (62 + x3).toNatClampNeg) eT_33) (lw_V q1812 q1814 qs107 q156 q1815) (by decide +kernel) ⟨Nat.le_of_ble_eq_true rfl, Nat.le_of_ble_eq_true rfl⟩ rfl hl.1 rfl (Nat.le_of_ble_eq_true rfl) dX5_countOf_45 ⟨Nat.le_of_ble_eq_true rfl, Nat.le_of_ble_eq_true rfl⟩ (fun H locs hd => ?_)
    exact J48 T_33 _ _ _ hf hd (lv_sub hl [0, 1, 2, 3] rfl)
  · have hf := bf_it hf c_29
    refine lv_aload_n hx hb dX5_countOf_5 rfl (lv_at hl 0 rfl) ?_
    refine lv_iload_n hx hb dX5_countOf_6 rfl (lv_at hl 2 rfl) ?_
    refine lv_iconst (v := 0) hx hb dX5_countOf_7 (by decide) ?_
    refine lv_iconst (v := 0) hx hb dX5_countOf_8 (by decide) ?_
    refine lv_iconst (v := 0) hx hb dX5_countOf_9 (by decide) ?_
    obtain ⟨T_34, eT_34, hf⟩ := bf_b_some hf
    refine bf_tcv (n := 4) (As := [.int x2, .int 0, .int 0, .int 0]) (rest := []) X hd (mX5_asks l G σ o T x2 0 0 0 eT_34) (lw_V q1812 q1814 qs107 q156 q1815) (by decide +kernel) ⟨Nat.le_of_ble_eq_true rfl, Nat.le_of_ble_eq_true rfl⟩ rfl hl.1 rfl (Nat.le_of_ble_eq_true rfl) dX5_countOf_10 ⟨Nat.le_of_ble_eq_true rfl, Nat.le_of_ble_eq_true rfl⟩ (fun H locs hd => ?_)
    refine lv_goto (tgt := 48) hx hb dX5_countOf_13 (by decide) ?_
    exact J48 T_34 _ _ _ hf hd (lv_sub hl [0, 1, 2, 3] rfl)
def fX5_notes (T : bf_TS) (x1 x2 x3 : Int32) : Option (bf_TS) := if (T 5 0) = 0 then (if (T 1 2) = 150 then (some T) else (bf_l ((4 * (T 1 2))) fun x4_3 => bf_c (bf_in x4_3 600) <| bf_l (bf_u2 T 12 (x4_3).toNatClampNeg (T 1 0)) fun T_5 => bf_c (bf_in (x4_3 + 1) 600) <| bf_l (bf_u2 T_5 12 (x4_3 + 1).toNatClampNeg x1) fun T_7 => bf_c (bf_in (x4_3 + 2) 600) <| bf_l (bf_u2 T_7 12 (x4_3 + 2).toNatClampNeg x2) fun T_9 => bf_c (bf_in (x4_3 + 3) 600) <| bf_l (bf_u2 T_9 12 (x4_3 + 3).toNatClampNeg x3) fun T_11 => bf_l (bf_u2 T_11 1 2 ((T_11 1 2) + 1)) fun T_12 => some T_12)) else (some T)
set_option maxHeartbeats 4000000 in
theorem mX5_notes (l : Launch) (G : bf_G) (σ : bf_V) (o : Nat) (T : bf_TS) (x1 x2 x3 : Int32) {T' : bf_TS} (hf : fX5_notes T x1 x2 x3 = some T') : bf_MV l G yX5_notes cX5_notes 5 (bf_rm 0) [.ref o, .int x1, .int x2, .int x3] (bf_pT G σ o T) (fun σ' => σ' = bf_pT G σ o T') := by
  refine bf_MV.of rfl (Nat.le_of_ble_eq_true rfl) ?_
  intro p e s m below meth c Q X hlk hnm kret hd ls hl
  have hx := X.1
  have hb := X.2.1
  have hown := X.2.2.2.1
  have hts := X.2.2.2.2
  have hl : lv_has ls 5 [(0, .ref o), (1, .int x1), (2, .int x2), (3, .int x3)] := hl
  unfold fX5_notes at hf
  refine lv_aload_n hx hb dX5_notes_0 rfl (lv_at hl 0 rfl) ?_
  refine bf_tgi X hd 5 (by decide) rfl q1388 dX5_notes_1 ?_
  refine lv_if_ne (tgt := 19) hx hb dX5_notes_4 (by decide) (fun c_13 => ?_) (fun c_13 => ?_)
  · have hf := bf_ie hf c_13
    exact kret _ _ _ _ _ (congrArg (bf_pT G σ o) (bf_so hf)) hd dX5_notes_19
  · have hf := bf_it hf c_13
    refine lv_aload_n hx hb dX5_notes_7 rfl (lv_at hl 0 rfl) ?_
    refine bf_tga X hd 1 (by decide) (by decide) q1384 dX5_notes_8 ?_
    refine lv_iconst (v := 2) hx hb dX5_notes_11 (by decide) ?_
    refine bf_tld X hd 1 (by decide) (by decide) dX5_notes_12 ?_
    refine lv_sipush (v := 150) hx hb dX5_notes_13 (by decide) ?_
    refine lv_icmp_ne (tgt := 20) hx hb dX5_notes_16 (by decide) (fun c_14 => ?_) (fun c_14 => ?_)
    · have hf := bf_ie hf c_14
      refine lv_iconst (v := 4) hx hb dX5_notes_20 (by decide) ?_
      refine lv_aload_n hx hb dX5_notes_21 rfl (lv_at hl 0 rfl) ?_
      refine bf_tga X hd 1 (by decide) (by decide) q1384 dX5_notes_22 ?_
      refine lv_iconst (v := 2) hx hb dX5_notes_25 (by decide) ?_
      refine bf_tld X hd 1 (by decide) (by decide) dX5_notes_26 ?_
      refine lv_imul hx hb dX5_notes_27 ?_
      obtain ⟨x4_15, ex4_15, hf⟩ := bf_l_e hf
      refine bf_top ex4_15 ?_
      refine lv_istore (lv' := [(4, .int x4_15), (0, .ref o), (1, .int x1), (2, .int x2), (3, .int x3)]) hx hb dX5_notes_28 hl (by decide) rfl (fun ls hl => ?_)
      refine lv_aload_n hx hb dX5_notes_30 rfl (lv_at hl 1 rfl) ?_
      refine bf_tga X hd 12 (by decide) (by decide) q1395 dX5_notes_31 ?_
      refine lv_iload hx hb dX5_notes_34 (lv_at hl 0 rfl) ?_
      refine lv_aload_n hx hb dX5_notes_36 rfl (lv_at hl 1 rfl) ?_
      refine bf_tga X hd 1 (by decide) (by decide) q1384 dX5_notes_37 ?_
      refine lv_iconst (v := 0) hx hb dX5_notes_40 (by decide) ?_
      refine bf_tld X hd 1 (by decide) (by decide) dX5_notes_41 ?_
      obtain ⟨g_16, hf⟩ := bf_c_some hf
      refine bf_tst X hd 12 (by decide) g_16 dX5_notes_42 (fun H locs hd => ?_)
      obtain ⟨T_17, eT_17, hf⟩ := bf_l_e hf
      have hd := hd.of (congrArg (bf_pT G σ o) eT_17.symm)
      refine lv_aload_n hx hb dX5_notes_43 rfl (lv_at hl 1 rfl) ?_
      refine bf_tga X hd 12 (by decide) (by decide) q1395 dX5_notes_44 ?_
      refine lv_iload hx hb dX5_notes_47 (lv_at hl 0 rfl) ?_
      refine lv_iconst (v := 1) hx hb dX5_notes_49 (by decide) ?_
      refine lv_iadd hx hb dX5_notes_50 ?_
      refine lv_iload_n hx hb dX5_notes_51 rfl (lv_at hl 2 rfl) ?_
      obtain ⟨g_18, hf⟩ := bf_c_some hf
      refine bf_tst X hd 12 (by decide) g_18 dX5_notes_52 (fun H locs hd => ?_)
      obtain ⟨T_19, eT_19, hf⟩ := bf_l_e hf
      have hd := hd.of (congrArg (bf_pT G σ o) eT_19.symm)
      refine lv_aload_n hx hb dX5_notes_53 rfl (lv_at hl 1 rfl) ?_
      refine bf_tga X hd 12 (by decide) (by decide) q1395 dX5_notes_54 ?_
      refine lv_iload hx hb dX5_notes_57 (lv_at hl 0 rfl) ?_
      refine lv_iconst (v := 2) hx hb dX5_notes_59 (by decide) ?_
      refine lv_iadd hx hb dX5_notes_60 ?_
      refine lv_iload_n hx hb dX5_notes_61 rfl (lv_at hl 3 rfl) ?_
      obtain ⟨g_20, hf⟩ := bf_c_some hf
      refine bf_tst X hd 12 (by decide) g_20 dX5_notes_62 (fun H locs hd => ?_)
      obtain ⟨T_21, eT_21, hf⟩ := bf_l_e hf
      have hd := hd.of (congrArg (bf_pT G σ o) eT_21.symm)
      refine lv_aload_n hx hb dX5_notes_63 rfl (lv_at hl 1 rfl) ?_
      refine bf_tga X hd 12 (by decide) (by decide) q1395 dX5_notes_64 ?_
      refine lv_iload hx hb dX5_notes_67 (lv_at hl 0 rfl) ?_
      refine lv_iconst (v := 3) hx hb dX5_notes_69 (by decide) ?_
      refine lv_iadd hx hb dX5_notes_70 ?_
      refine lv_iload_n hx hb dX5_notes_71 rfl (lv_at hl 4 rfl) ?_
      obtain ⟨g_22, hf⟩ := bf_c_some hf
      refine bf_tst X hd 12 (by decide) g_22 dX5_notes_72 (fun H locs hd => ?_)
      obtain ⟨T_23, eT_23, hf⟩ := bf_l_e hf
      have hd := hd.of (congrArg (bf_pT G σ o) eT_23.symm)
      refine lv_aload_n hx hb dX5_notes_73 rfl (lv_at hl 1 rfl) ?_
      refine bf_tga X hd 1 (by decide) (by decide) q1384 dX5_notes_74 ?_
      refine lv_iconst (v := 2) hx hb dX5_notes_77 (by decide) ?_
      refine lv_aload_n hx hb dX5_notes_78 rfl (lv_at hl 1 rfl) ?_
      refine bf_tga X hd 1 (by decide) (by decide) q1384 dX5_notes_79 ?_
      refine lv_iconst (v := 2) hx hb dX5_notes_82 (by decide) ?_
      refine bf_tld X hd 1 (by decide) (by decide) dX5_notes_83 ?_
      refine lv_iconst (v := 1) hx hb dX5_notes_84 (by decide) ?_
      refine lv_iadd hx hb dX5_notes_85 ?_
      refine bf_tst X hd 1 (by decide) (by decide) dX5_notes_86 (fun H locs hd => ?_)
      obtain ⟨T_24, eT_24, hf⟩ := bf_l_e hf
      have hd := hd.of (congrArg (bf_pT G σ o) eT_24.symm)
      exact kret _ _ _ _ _ (congrArg (bf_pT G σ o) (bf_so hf)) hd dX5_notes_87
    · have hf := bf_it hf c_14
      exact kret _ _ _ _ _ (congrArg (bf_pT G σ o) (bf_so hf)) hd dX5_notes_19
def fX5_plants (T : bf_TS) (x1 x2 x3 : Int32) : Option (Int32 × bf_TS) := bf_l ((T 1 4)) fun x4_1 => bf_c (bf_in (20 + x4_1) 136) <| bf_l (bf_u2 T 1 (20 + x4_1).toNatClampNeg x1) fun T_3 => bf_c (bf_in (34 + x4_1) 136) <| bf_l (bf_u2 T_3 1 (34 + x4_1).toNatClampNeg x2) fun T_5 => bf_c (bf_in (48 + x4_1) 136) <| bf_l (bf_u2 T_5 1 (48 + x4_1).toNatClampNeg x3) fun T_7 => bf_c (bf_in (62 + x4_1) 136) <| bf_l (bf_u2 T_7 1 (62 + x4_1).toNatClampNeg 0) fun T_9 => bf_l (bf_u2 T_9 1 4 (x4_1 + 1)) fun T_10 => bf_b (fX5_notes T_10 0 x4_1 0) fun T_11 => some (x4_1, T_11)
set_option maxHeartbeats 4000000 in
theorem mX5_plants (l : Launch) (G : bf_G) (σ : bf_V) (o : Nat) (T : bf_TS) (x1 x2 x3 : Int32) {r : Int32} {T' : bf_TS} (hf : fX5_plants T x1 x2 x3 = some (r, T')) : bf_MI l G yX5_plants cX5_plants 5 (bf_rm 1) [.ref o, .int x1, .int x2, .int x3] (bf_pT G σ o T) (fun v σ' => v = r ∧ σ' = bf_pT G σ o T') := by
  refine bf_MI.of rfl (Nat.le_of_ble_eq_true rfl) ?_
  intro p e s m below meth c Q X hlk hnm kret hd ls hl
  have hx := X.1
  have hb := X.2.1
  have hown := X.2.2.2.1
  have hts := X.2.2.2.2
  have hl : lv_has ls 5 [(0, .ref o), (1, .int x1), (2, .int x2), (3, .int x3)] := hl
  unfold fX5_plants at hf
  refine lv_aload_n hx hb dX5_plants_0 rfl (lv_at hl 0 rfl) ?_
  refine bf_tga X hd 1 (by decide) (by decide) q1384 dX5_plants_1 ?_
  refine lv_iconst (v := 4) hx hb dX5_plants_4 (by decide) ?_
  refine bf_tld X hd 1 (by decide) (by decide) dX5_plants_5 ?_
  obtain ⟨x4_12, ex4_12, hf⟩ := bf_l_e hf
  refine bf_top ex4_12 ?_
  refine lv_istore (lv' := [(4, .int x4_12), (0, .ref o), (1, .int x1), (2, .int x2), (3, .int x3)]) hx hb dX5_plants_6 hl (by decide) rfl (fun ls hl => ?_)
  refine lv_aload_n hx hb dX5_plants_8 rfl (lv_at hl 1 rfl) ?_
  refine bf_tga X hd 1 (by decide) (by decide) q1384 dX5_plants_9 ?_
  refine lv_bipush (v := 20) hx hb dX5_plants_12 (by decide) ?_
  refine lv_iload hx hb dX5_plants_14 (lv_at hl 0 rfl) ?_
  refine lv_iadd hx hb dX5_plants_16 ?_
  refine lv_iload_n hx hb dX5_plants_17 rfl (lv_at hl 2 rfl) ?_
  obtain ⟨g_13, hf⟩ := bf_c_some hf
  refine bf_tst X hd 1 (by decide) g_13 dX5_plants_18 (fun H locs hd => ?_)
  obtain ⟨T_14, eT_14, hf⟩ := bf_l_e hf
  have hd := hd.of (congrArg (bf_pT G σ o) eT_14.symm)
  refine lv_aload_n hx hb dX5_plants_19 rfl (lv_at hl 1 rfl) ?_
  refine bf_tga X hd 1 (by decide) (by decide) q1384 dX5_plants_20 ?_
  refine lv_bipush (v := 34) hx hb dX5_plants_23 (by decide) ?_
  refine lv_iload hx hb dX5_plants_25 (lv_at hl 0 rfl) ?_
  refine lv_iadd hx hb dX5_plants_27 ?_
  refine lv_iload_n hx hb dX5_plants_28 rfl (lv_at hl 3 rfl) ?_
  obtain ⟨g_15, hf⟩ := bf_c_some hf
  refine bf_tst X hd 1 (by decide) g_15 dX5_plants_29 (fun H locs hd => ?_)
  obtain ⟨T_16, eT_16, hf⟩ := bf_l_e hf
  have hd := hd.of (congrArg (bf_pT G σ o) eT_16.symm)
  refine lv_aload_n hx hb dX5_plants_30 rfl (lv_at hl 1 rfl) ?_
  refine bf_tga X hd 1 (by decide) (by decide) q1384 dX5_plants_31 ?_
  refine lv_bipush (v := 48) hx hb dX5_plants_34 (by decide) ?_
  refine lv_iload hx hb dX5_plants_36 (lv_at hl 0 rfl) ?_
  refine lv_iadd hx hb dX5_plants_38 ?_
  refine lv_iload_n hx hb dX5_plants_39 rfl (lv_at hl 4 rfl) ?_
  obtain ⟨g_17, hf⟩ := bf_c_some hf
  refine bf_tst X hd 1 (by decide) g_17 dX5_plants_40 (fun H locs hd => ?_)
  obtain ⟨T_18, eT_18, hf⟩ := bf_l_e hf
  have hd := hd.of (congrArg (bf_pT G σ o) eT_18.symm)
  refine lv_aload_n hx hb dX5_plants_41 rfl (lv_at hl 1 rfl) ?_
  refine bf_tga X hd 1 (by decide) (by decide) q1384 dX5_plants_42 ?_
  refine lv_bipush (v := 62) hx hb dX5_plants_45 (by decide) ?_
  refine lv_iload hx hb dX5_plants_47 (lv_at hl 0 rfl) ?_
  refine lv_iadd hx hb dX5_plants_49 ?_
  refine lv_iconst (v := 0) hx hb dX5_plants_50 (by decide) ?_
  obtain ⟨g_19, hf⟩ := bf_c_some hf
  refine bf_tst X hd 1 (by decide) g_19 dX5_plants_51 (fun H locs hd => ?_)
  obtain ⟨T_20, eT_20, hf⟩ := bf_l_e hf
  have hd := hd.of (congrArg (bf_pT G σ o) eT_20.symm)
  refine lv_aload_n hx hb dX5_plants_52 rfl (lv_at hl 1 rfl) ?_
  refine bf_tga X hd 1 (by decide) (by decide) q1384 dX5_plants_53 ?_
  refine lv_iconst (v := 4) hx hb dX5_plants_56 (by decide) ?_
  refine lv_iload hx hb dX5_plants_57 (lv_at hl 0 rfl) ?_
  refine lv_iconst (v := 1) hx hb dX5_plants_59 (by decide) ?_
  refine lv_iadd hx hb dX5_plants_60 ?_
  refine bf_tst X hd 1 (by decide) (by decide) dX5_plants_61 (fun H locs hd => ?_)
  obtain ⟨T_21, eT_21, hf⟩ := bf_l_e hf
  have hd := hd.of (congrArg (bf_pT G σ o) eT_21.symm)
  refine lv_aload_n hx hb dX5_plants_62 rfl (lv_at hl 1 rfl) ?_
  refine lv_iconst (v := 0) hx hb dX5_plants_63 (by decide) ?_
  refine lv_iload hx hb dX5_plants_64 (lv_at hl 0 rfl) ?_
  refine lv_iconst (v := 0) hx hb dX5_plants_66 (by decide) ?_
  obtain ⟨T_22, eT_22, hf⟩ := bf_b_some hf
  refine bf_tcv (n := 3) (As := [.int 0, .int x4_12, .int 0]) (rest := []) X hd (mX5_notes l G σ o T_21 0 x4_12 0 eT_22) (lw_V q1764 q1766 qs98 q156 q1767) (by decide +kernel) ⟨Nat.le_of_ble_eq_true rfl, Nat.le_of_ble_eq_true rfl⟩ rfl hl.1 rfl (Nat.le_of_ble_eq_true rfl) dX5_plants_67 ⟨Nat.le_of_ble_eq_true rfl, Nat.le_of_ble_eq_true rfl⟩ (fun H locs hd => ?_)
  refine lv_iload hx hb dX5_plants_70 (lv_at hl 0 rfl) ?_
  exact kret _ _ _ _ _ _ ⟨(bf_pr hf).1, congrArg (bf_pT G σ o) (bf_pr hf).2⟩ hd dX5_plants_72
def fX5_isFenced (T : bf_TS) (x1 : Int32) : Int32 := (fX5_has (T 1 3) x1)
set_option maxHeartbeats 4000000 in
theorem mX5_isFenced (l : Launch) (G : bf_G) (σ : bf_V) (o : Nat) (T : bf_TS) (x1 : Int32) {r : Int32} (hf : fX5_isFenced T x1 = r) : bf_MZ l G yX5_isFenced cX5_isFenced 2 (bf_rm 1) [.ref o, .int x1] (bf_pT G σ o T) (fun v σ' => v = r ∧ σ' = bf_pT G σ o T) := by
  refine bf_MZ.of rfl (Nat.le_of_ble_eq_true rfl) ?_
  intro p e s m below meth c Q X hlk hnm kret hd ls hl
  have hx := X.1
  have hb := X.2.1
  have hown := X.2.2.2.1
  have hts := X.2.2.2.2
  have hl : lv_has ls 2 [(0, .ref o), (1, .int x1)] := hl
  unfold fX5_isFenced at hf
  refine lv_aload_n hx hb dX5_isFenced_0 rfl (lv_at hl 0 rfl) ?_
  refine lv_aload_n hx hb dX5_isFenced_1 rfl (lv_at hl 0 rfl) ?_
  refine bf_tga X hd 1 (by decide) (by decide) q1384 dX5_isFenced_2 ?_
  refine lv_iconst (v := 3) hx hb dX5_isFenced_5 (by decide) ?_
  refine bf_tld X hd 1 (by decide) (by decide) dX5_isFenced_6 ?_
  refine lv_iload_n hx hb dX5_isFenced_7 rfl (lv_at hl 1 rfl) ?_
  refine bf_tcz (n := 2) (As := [.int (T 1 3), .int x1]) (rest := []) X hd (mX5_has l G σ o T (T 1 3) x1 rfl) (lw_V q1776 q1778 qs100 q156 q1779) (by decide +kernel) ⟨Nat.le_of_ble_eq_true rfl, Nat.le_of_ble_eq_true rfl⟩ rfl hl.1 rfl (Nat.le_of_ble_eq_true rfl) dX5_isFenced_8 ⟨Nat.le_of_ble_eq_true rfl, Nat.le_of_ble_eq_true rfl⟩ (fun H locs z_2 hd => ?_)
  exact kret _ _ _ _ _ _ ⟨hf, rfl⟩ z_2 hd dX5_isFenced_11
def fX5_fences_45 (x1 : Int32) (t45_0 : Int32) (T45 : bf_TS) : Option (bf_TS) := bf_b (fX5_notes T45 t45_0 x1 0) fun T_4 => some T_4
def fX5_fences_34 (x1 : Int32) (x2 : Int32) (t34_0 : Int32) (t34_1 : Int32) (T34 : bf_TS) : Option (bf_TS) := bf_c (bf_in t34_1 136) <| bf_l (bf_u2 T34 1 (t34_1).toNatClampNeg t34_0) fun T_2 => if x2 = 0 then (fX5_fences_45 x1 2 T_2) else (fX5_fences_45 x1 1 T_2)
def fX5_fences (T : bf_TS) (x1 x2 : Int32) : Option (bf_TS) := if x2 = 0 then (fX5_fences_34 x1 x2 ((T 1 3) &&& ((1 <<< (x1 &&& 31)) ^^^ (-1))) 3 T) else (fX5_fences_34 x1 x2 ((T 1 3) ||| (1 <<< (x1 &&& 31))) 3 T)
set_option maxHeartbeats 4000000 in
theorem mX5_fences (l : Launch) (G : bf_G) (σ : bf_V) (o : Nat) (T : bf_TS) (x1 x2 : Int32) {T' : bf_TS} (hf : fX5_fences T x1 x2 = some T') : bf_MV l G yX5_fences cX5_fences 3 (bf_rm 1) [.ref o, .int x1, .int x2] (bf_pT G σ o T) (fun σ' => σ' = bf_pT G σ o T') := by
  refine bf_MV.of rfl (Nat.le_of_ble_eq_true rfl) ?_
  intro p e s m below meth c Q X hlk hnm kret hd ls hl
  have hx := X.1
  have hb := X.2.1
  have hown := X.2.2.2.1
  have hts := X.2.2.2.2
  have hl : lv_has ls 3 [(0, .ref o), (1, .int x1), (2, .int x2)] := hl
  have J45 : ∀ (t45_0 : Int32) (T45 : bf_TS) (H : Heap) (locs : List Loc) (ls : Array Slot), fX5_fences_45 x1 t45_0 T45 = some T' → bf_Dy G s H locs (bf_pT G σ o T45) → lv_has ls 3 [(1, .int x1)] → W p l e (bf_rm 1) s m ([.ref o, .int x1, .int x2] : List Value).toArray below meth c H locs 0 0 Q (F0 m 45 ls [.int t45_0, .ref o]) := by
    intro t45_0 T45 H locs ls hf hd hl
    unfold fX5_fences_45 at hf
    refine lv_iload_n hx hb dX5_fences_45 rfl (lv_at hl 0 rfl) ?_
    refine lv_iconst (v := 0) hx hb dX5_fences_46 (by decide) ?_
    obtain ⟨T_6, eT_6, hf⟩ := bf_b_some hf
    refine bf_tcv (n := 3) (As := [.int t45_0, .int x1, .int 0]) (rest := []) X hd (mX5_notes l G σ o T45 t45_0 x1 0 eT_6) (lw_V q1764 q1766 qs98 q156 q1767) (by decide +kernel) ⟨Nat.le_of_ble_eq_true rfl, Nat.le_of_ble_eq_true rfl⟩ rfl hl.1 rfl (Nat.le_of_ble_eq_true rfl) dX5_fences_47 ⟨Nat.le_of_ble_eq_true rfl, Nat.le_of_ble_eq_true rfl⟩ (fun H locs hd => ?_)
    exact kret _ _ _ _ _ (congrArg (bf_pT G σ o) (bf_so hf)) hd dX5_fences_50
  have J34 : ∀ (t34_0 : Int32) (t34_1 : Int32) (T34 : bf_TS) (H : Heap) (locs : List Loc) (ls : Array Slot), fX5_fences_34 x1 x2 t34_0 t34_1 T34 = some T' → bf_Dy G s H locs (bf_pT G σ o T34) → lv_has ls 3 [(0, .ref o), (1, .int x1), (2, .int x2)] → W p l e (bf_rm 1) s m ([.ref o, .int x1, .int x2] : List Value).toArray below meth c H locs 0 0 Q (F0 m 34 ls [.int t34_0, .int t34_1, .ref (o + bf_to 1)]) := by
    intro t34_0 t34_1 T34 H locs ls hf hd hl
    unfold fX5_fences_34 at hf
    obtain ⟨g_7, hf⟩ := bf_c_some hf
    refine bf_tst X hd 1 (by decide) g_7 dX5_fences_34 (fun H locs hd => ?_)
    obtain ⟨T_8, eT_8, hf⟩ := bf_l_e hf
    have hd := hd.of (congrArg (bf_pT G σ o) eT_8.symm)
    refine lv_aload_n hx hb dX5_fences_35 rfl (lv_at hl 0 rfl) ?_
    refine lv_iload_n hx hb dX5_fences_36 rfl (lv_at hl 2 rfl) ?_
    refine lv_if_eq (tgt := 44) hx hb dX5_fences_37 (by decide) (fun c_9 => ?_) (fun c_9 => ?_)
    · have hf := bf_it hf c_9
      refine lv_iconst (v := 2) hx hb dX5_fences_44 (by decide) ?_
      exact J45 2 T_8 _ _ _ hf hd (lv_sub hl [1] rfl)
    · have hf := bf_ie hf c_9
      refine lv_iconst (v := 1) hx hb dX5_fences_40 (by decide) ?_
      refine lv_goto (tgt := 45) hx hb dX5_fences_41 (by decide) ?_
      exact J45 1 T_8 _ _ _ hf hd (lv_sub hl [1] rfl)
  unfold fX5_fences at hf
  refine lv_aload_n hx hb dX5_fences_0 rfl (lv_at hl 0 rfl) ?_
  refine bf_tga X hd 1 (by decide) (by decide) q1384 dX5_fences_1 ?_
  refine lv_iconst (v := 3) hx hb dX5_fences_4 (by decide) ?_
  refine lv_iload_n hx hb dX5_fences_5 rfl (lv_at hl 2 rfl) ?_
  refine lv_if_eq (tgt := 22) hx hb dX5_fences_6 (by decide) (fun c_10 => ?_) (fun c_10 => ?_)
  · have hf := bf_it hf c_10
    refine lv_aload_n hx hb dX5_fences_22 rfl (lv_at hl 0 rfl) ?_
    refine bf_tga X hd 1 (by decide) (by decide) q1384 dX5_fences_23 ?_
    refine lv_iconst (v := 3) hx hb dX5_fences_26 (by decide) ?_
    refine bf_tld X hd 1 (by decide) (by decide) dX5_fences_27 ?_
    refine lv_iconst (v := 1) hx hb dX5_fences_28 (by decide) ?_
    refine lv_iload_n hx hb dX5_fences_29 rfl (lv_at hl 1 rfl) ?_
    refine lv_ishl hx hb dX5_fences_30 ?_
    refine lv_iconst (v := (-1)) hx hb dX5_fences_31 (by decide) ?_
    refine lv_ixor hx hb dX5_fences_32 ?_
    refine lv_iand hx hb dX5_fences_33 ?_
    exact J34 ((T 1 3) &&& ((1 <<< (x1 &&& 31)) ^^^ (-1))) 3 T _ _ _ hf hd (lv_sub hl [0, 1, 2] rfl)
  · have hf := bf_ie hf c_10
    refine lv_aload_n hx hb dX5_fences_9 rfl (lv_at hl 0 rfl) ?_
    refine bf_tga X hd 1 (by decide) (by decide) q1384 dX5_fences_10 ?_
    refine lv_iconst (v := 3) hx hb dX5_fences_13 (by decide) ?_
    refine bf_tld X hd 1 (by decide) (by decide) dX5_fences_14 ?_
    refine lv_iconst (v := 1) hx hb dX5_fences_15 (by decide) ?_
    refine lv_iload_n hx hb dX5_fences_16 rfl (lv_at hl 1 rfl) ?_
    refine lv_ishl hx hb dX5_fences_17 ?_
    refine lv_ior hx hb dX5_fences_18 ?_
    refine lv_goto (tgt := 34) hx hb dX5_fences_19 (by decide) ?_
    exact J34 ((T 1 3) ||| (1 <<< (x1 &&& 31))) 3 T _ _ _ hf hd (lv_sub hl [0, 1, 2] rfl)
def fX5_boils_84 (x1 : Int32) (x2 : Int32) (w84_3 : Int32) (T84 : bf_TS) : Option (Int32 × bf_TS) := bf_c (bf_in (15 + x1) 136) <| bf_c (bf_in (15 + x1) 136) <| bf_l (bf_u2 T84 1 (15 + x1).toNatClampNeg (fX5_held (((T84 1 (15 + x1).toNatClampNeg) + x2) - w84_3) 0 999)) fun T_13 => bf_b (fX5_notes T_13 3 x1 (x2 - w84_3)) fun T_14 => some ((x2 - w84_3), T_14)
def fX5_boils_78 (k5 : Int32 → Int32 → bf_TS → Option (Int32 × bf_TS)) (x1 : Int32) (x2 : Int32) (w78_3 : Int32) (w78_4 : Int32) (T78 : bf_TS) : Option (Int32 × bf_TS) := bf_l (w78_4 + 1) fun x4_10 => k5 w78_3 x4_10 T78
def fX5_boils_5b (x1 : Int32) (x2 : Int32) (k5 : Int32 → Int32 → bf_TS → Option (Int32 × bf_TS)) (v5_3 : Int32) (v5_4 : Int32) (T5 : bf_TS) : Option (Int32 × bf_TS) := if (T5 1 4) ≤ v5_4 then (fX5_boils_84 x1 x2 v5_3 T5) else (bf_c (bf_in (20 + v5_4) 136) <| if (T5 1 (20 + v5_4).toNatClampNeg) = x1 then (bf_c (bf_in (62 + v5_4) 136) <| bf_l ((fX5_lesser v5_3 (T5 1 (62 + v5_4).toNatClampNeg))) fun x5_5 => bf_c (bf_in (62 + v5_4) 136) <| bf_c (bf_in (62 + v5_4) 136) <| bf_l (bf_u2 T5 1 (62 + v5_4).toNatClampNeg ((T5 1 (62 + v5_4).toNatClampNeg) - x5_5)) fun T_8 => bf_l ((v5_3 - x5_5)) fun x3_9 => fX5_boils_78 k5 x1 x2 x3_9 v5_4 T_8) else (fX5_boils_78 k5 x1 x2 v5_3 v5_4 T5))
def fX5_boils_5 (x1 : Int32) (x2 : Int32) : Nat → Int32 → Int32 → bf_TS → Option (Int32 × bf_TS)
  | 0, _, _, _ => none
  | n + 1, v5_3, v5_4, T5 => fX5_boils_5b x1 x2 (fX5_boils_5 x1 x2 n) v5_3 v5_4 T5
def fX5_boils (T : bf_TS) (x1 x2 : Int32) : Option (Int32 × bf_TS) := fX5_boils_5 x1 x2 bf_fuel x2 0 T
set_option maxHeartbeats 4000000 in
theorem mX5_boils (l : Launch) (G : bf_G) (σ : bf_V) (o : Nat) (T : bf_TS) (x1 x2 : Int32) {r : Int32} {T' : bf_TS} (hf : fX5_boils T x1 x2 = some (r, T')) : bf_MI l G yX5_boils cX5_boils 6 (bf_rm 1) [.ref o, .int x1, .int x2] (bf_pT G σ o T) (fun v σ' => v = r ∧ σ' = bf_pT G σ o T') := by
  refine bf_MI.of rfl (Nat.le_of_ble_eq_true rfl) ?_
  intro p e s m below meth c Q X hlk hnm kret hd ls hl
  have hx := X.1
  have hb := X.2.1
  have hown := X.2.2.2.1
  have hts := X.2.2.2.2
  have hl : lv_has ls 6 [(0, .ref o), (1, .int x1), (2, .int x2)] := hl
  have J84 : ∀ (w84_3 : Int32) (T84 : bf_TS) (H : Heap) (locs : List Loc) (ls : Array Slot), fX5_boils_84 x1 x2 w84_3 T84 = some (r, T') → bf_Dy G s H locs (bf_pT G σ o T84) → lv_has ls 6 [(0, .ref o), (1, .int x1), (2, .int x2), (3, .int w84_3)] → W p l e (bf_rm 1) s m ([.ref o, .int x1, .int x2] : List Value).toArray below meth c H locs 0 0 Q (F0 m 84 ls []) := by
    intro w84_3 T84 H locs ls hf hd hl
    unfold fX5_boils_84 at hf
    refine lv_aload_n hx hb dX5_boils_84 rfl (lv_at hl 0 rfl) ?_
    refine bf_tga X hd 1 (by decide) (by decide) q1384 dX5_boils_85 ?_
    refine lv_bipush (v := 15) hx hb dX5_boils_88 (by decide) ?_
    refine lv_iload_n hx hb dX5_boils_90 rfl (lv_at hl 1 rfl) ?_
    refine lv_iadd hx hb dX5_boils_91 ?_
    refine lv_aload_n hx hb dX5_boils_92 rfl (lv_at hl 0 rfl) ?_
    refine lv_aload_n hx hb dX5_boils_93 rfl (lv_at hl 0 rfl) ?_
    refine bf_tga X hd 1 (by decide) (by decide) q1384 dX5_boils_94 ?_
    refine lv_bipush (v := 15) hx hb dX5_boils_97 (by decide) ?_
    refine lv_iload_n hx hb dX5_boils_99 rfl (lv_at hl 1 rfl) ?_
    refine lv_iadd hx hb dX5_boils_100 ?_
    obtain ⟨g_15, hf⟩ := bf_c_some hf
    refine bf_tld X hd 1 (by decide) g_15 dX5_boils_101 ?_
    refine lv_iload_n hx hb dX5_boils_102 rfl (lv_at hl 2 rfl) ?_
    refine lv_iadd hx hb dX5_boils_103 ?_
    refine lv_iload_n hx hb dX5_boils_104 rfl (lv_at hl 3 rfl) ?_
    refine lv_isub hx hb dX5_boils_105 ?_
    refine lv_iconst (v := 0) hx hb dX5_boils_106 (by decide) ?_
    refine lv_sipush (v := 999) hx hb dX5_boils_107 (by decide) ?_
    refine bf_tci (n := 3) (As := [.int (((T84 1 (15 + x1).toNatClampNeg) + x2) - w84_3), .int 0, .int 999]) (rest := [.int (15 + x1), .ref (o + bf_to 1)]) X hd (mX5_held l G σ o T84 (((T84 1 (15 + x1).toNatClampNeg) + x2) - w84_3) 0 999 rfl) (lw_V q1588 q1590 qs60 q156 q1591) (by decide +kernel) ⟨Nat.le_of_ble_eq_true rfl, Nat.le_of_ble_eq_true rfl⟩ rfl hl.1 rfl (Nat.le_of_ble_eq_true rfl) dX5_boils_110 ⟨Nat.le_of_ble_eq_true rfl, Nat.le_of_ble_eq_true rfl⟩ (fun H locs hd => ?_)
    obtain ⟨g_16, hf⟩ := bf_c_some hf
    refine bf_tst X hd 1 (by decide) g_16 dX5_boils_113 (fun H locs hd => ?_)
    obtain ⟨T_17, eT_17, hf⟩ := bf_l_e hf
    have hd := hd.of (congrArg (bf_pT G σ o) eT_17.symm)
    refine lv_aload_n hx hb dX5_boils_114 rfl (lv_at hl 0 rfl) ?_
    refine lv_iconst (v := 3) hx hb dX5_boils_115 (by decide) ?_
    refine lv_iload_n hx hb dX5_boils_116 rfl (lv_at hl 1 rfl) ?_
    refine lv_iload_n hx hb dX5_boils_117 rfl (lv_at hl 2 rfl) ?_
    refine lv_iload_n hx hb dX5_boils_118 rfl (lv_at hl 3 rfl) ?_
    refine lv_isub hx hb dX5_boils_119 ?_
    obtain ⟨T_18, eT_18, hf⟩ := bf_b_some hf
    refine bf_tcv (n := 3) (As := [.int 3, .int x1, .int (x2 - w84_3)]) (rest := []) X hd (mX5_notes l G σ o T_17 3 x1 (x2 - w84_3) eT_18) (lw_V q1764 q1766 qs98 q156 q1767) (by decide +kernel) ⟨Nat.le_of_ble_eq_true rfl, Nat.le_of_ble_eq_true rfl⟩ rfl hl.1 rfl (Nat.le_of_ble_eq_true rfl) dX5_boils_120 ⟨Nat.le_of_ble_eq_true rfl, Nat.le_of_ble_eq_true rfl⟩ (fun H locs hd => ?_)
    refine lv_iload_n hx hb dX5_boils_123 rfl (lv_at hl 2 rfl) ?_
    refine lv_iload_n hx hb dX5_boils_124 rfl (lv_at hl 3 rfl) ?_
    refine lv_isub hx hb dX5_boils_125 ?_
    exact kret _ _ _ _ _ _ ⟨(bf_pr hf).1, congrArg (bf_pT G σ o) (bf_pr hf).2⟩ hd dX5_boils_126
  have L5 : ∀ (n5 : Nat) (v5_3 : Int32) (v5_4 : Int32) (T5 : bf_TS) (H : Heap) (locs : List Loc) (ls : Array Slot), fX5_boils_5 x1 x2 n5 v5_3 v5_4 T5 = some (r, T') → bf_Dy G s H locs (bf_pT G σ o T5) → lv_has ls 6 [(0, .ref o), (1, .int x1), (2, .int x2), (3, .int v5_3), (4, .int v5_4)] → W p l e (bf_rm 1) s m ([.ref o, .int x1, .int x2] : List Value).toArray below meth c H locs 0 0 Q (F0 m 5 ls []) := by
    intro n5
    induction n5 with
    | zero =>
      intro v5_3 v5_4 T5 H locs ls hf hd hl
      exact absurd (show (none : Option (Int32 × bf_TS)) = some (r, T') from hf) (by intro h; cases h)
    | succ n5 ih5 =>
      intro v5_3 v5_4 T5 H locs ls hf hd hl
      have hf : fX5_boils_5b x1 x2 (fX5_boils_5 x1 x2 n5) v5_3 v5_4 T5 = some (r, T') := hf
      unfold fX5_boils_5b at hf
      have J78 : ∀ (w78_3 : Int32) (w78_4 : Int32) (T78 : bf_TS) (H : Heap) (locs : List Loc) (ls : Array Slot), fX5_boils_78 (fX5_boils_5 x1 x2 n5) x1 x2 w78_3 w78_4 T78 = some (r, T') → bf_Dy G s H locs (bf_pT G σ o T78) → lv_has ls 6 [(0, .ref o), (1, .int x1), (2, .int x2), (3, .int w78_3), (4, .int w78_4)] → W p l e (bf_rm 1) s m ([.ref o, .int x1, .int x2] : List Value).toArray below meth c H locs 0 0 Q (F0 m 78 ls []) := by
        intro w78_3 w78_4 T78 H locs ls hf hd hl
        unfold fX5_boils_78 at hf
        obtain ⟨x4_19, ex4_19, hf⟩ := bf_l_e hf
        refine lv_iinc (v := x4_19) (lv' := [(4, .int x4_19), (0, .ref o), (1, .int x1), (2, .int x2), (3, .int w78_3)]) hx hb dX5_boils_78 hl (k := 4) rfl (by rw [ex4_19]; rfl) (by decide) rfl (fun ls hl => ?_)
        refine lv_goto (tgt := 5) hx hb dX5_boils_81 (by decide) ?_
        exact ih5 w78_3 x4_19 T78 _ _ _ hf hd (lv_sub hl [1, 2, 3, 4, 0] rfl)
      refine lv_iload hx hb dX5_boils_5 (lv_at hl 4 rfl) ?_
      refine lv_aload_n hx hb dX5_boils_7 rfl (lv_at hl 0 rfl) ?_
      refine bf_tga X hd 1 (by decide) (by decide) q1384 dX5_boils_8 ?_
      refine lv_iconst (v := 4) hx hb dX5_boils_11 (by decide) ?_
      refine bf_tld X hd 1 (by decide) (by decide) dX5_boils_12 ?_
      refine lv_icmp_ge (tgt := 84) hx hb dX5_boils_13 (by decide) (fun c_20 => ?_) (fun c_20 => ?_)
      · have hf := bf_it hf c_20
        exact J84 v5_3 T5 _ _ _ hf hd (lv_sub hl [0, 1, 2, 3] rfl)
      · have hf := bf_ie hf c_20
        refine lv_aload_n hx hb dX5_boils_16 rfl (lv_at hl 0 rfl) ?_
        refine bf_tga X hd 1 (by decide) (by decide) q1384 dX5_boils_17 ?_
        refine lv_bipush (v := 20) hx hb dX5_boils_20 (by decide) ?_
        refine lv_iload hx hb dX5_boils_22 (lv_at hl 4 rfl) ?_
        refine lv_iadd hx hb dX5_boils_24 ?_
        obtain ⟨g_21, hf⟩ := bf_c_some hf
        refine bf_tld X hd 1 (by decide) g_21 dX5_boils_25 ?_
        refine lv_iload_n hx hb dX5_boils_26 rfl (lv_at hl 1 rfl) ?_
        refine lv_icmp_eq (tgt := 33) hx hb dX5_boils_27 (by decide) (fun c_22 => ?_) (fun c_22 => ?_)
        · have hf := bf_it hf c_22
          refine lv_aload_n hx hb dX5_boils_33 rfl (lv_at hl 0 rfl) ?_
          refine lv_iload_n hx hb dX5_boils_34 rfl (lv_at hl 3 rfl) ?_
          refine lv_aload_n hx hb dX5_boils_35 rfl (lv_at hl 0 rfl) ?_
          refine bf_tga X hd 1 (by decide) (by decide) q1384 dX5_boils_36 ?_
          refine lv_bipush (v := 62) hx hb dX5_boils_39 (by decide) ?_
          refine lv_iload hx hb dX5_boils_41 (lv_at hl 4 rfl) ?_
          refine lv_iadd hx hb dX5_boils_43 ?_
          obtain ⟨g_23, hf⟩ := bf_c_some hf
          refine bf_tld X hd 1 (by decide) g_23 dX5_boils_44 ?_
          refine bf_tci (n := 2) (As := [.int v5_3, .int (T5 1 (62 + v5_4).toNatClampNeg)]) (rest := []) X hd (mX5_lesser l G σ o T5 v5_3 (T5 1 (62 + v5_4).toNatClampNeg) rfl) (lw_V q1792 q1794 qs103 q156 q1795) (by decide +kernel) ⟨Nat.le_of_ble_eq_true rfl, Nat.le_of_ble_eq_true rfl⟩ rfl hl.1 rfl (Nat.le_of_ble_eq_true rfl) dX5_boils_45 ⟨Nat.le_of_ble_eq_true rfl, Nat.le_of_ble_eq_true rfl⟩ (fun H locs hd => ?_)
          obtain ⟨x5_24, ex5_24, hf⟩ := bf_l_e hf
          refine bf_top ex5_24 ?_
          refine lv_istore (lv' := [(5, .int x5_24), (0, .ref o), (1, .int x1), (2, .int x2), (3, .int v5_3), (4, .int v5_4)]) hx hb dX5_boils_48 hl (by decide) rfl (fun ls hl => ?_)
          refine lv_aload_n hx hb dX5_boils_50 rfl (lv_at hl 1 rfl) ?_
          refine bf_tga X hd 1 (by decide) (by decide) q1384 dX5_boils_51 ?_
          refine lv_bipush (v := 62) hx hb dX5_boils_54 (by decide) ?_
          refine lv_iload hx hb dX5_boils_56 (lv_at hl 5 rfl) ?_
          refine lv_iadd hx hb dX5_boils_58 ?_
          refine lv_aload_n hx hb dX5_boils_59 rfl (lv_at hl 1 rfl) ?_
          refine bf_tga X hd 1 (by decide) (by decide) q1384 dX5_boils_60 ?_
          refine lv_bipush (v := 62) hx hb dX5_boils_63 (by decide) ?_
          refine lv_iload hx hb dX5_boils_65 (lv_at hl 5 rfl) ?_
          refine lv_iadd hx hb dX5_boils_67 ?_
          obtain ⟨g_25, hf⟩ := bf_c_some hf
          refine bf_tld X hd 1 (by decide) g_25 dX5_boils_68 ?_
          refine lv_iload hx hb dX5_boils_69 (lv_at hl 0 rfl) ?_
          refine lv_isub hx hb dX5_boils_71 ?_
          obtain ⟨g_26, hf⟩ := bf_c_some hf
          refine bf_tst X hd 1 (by decide) g_26 dX5_boils_72 (fun H locs hd => ?_)
          obtain ⟨T_27, eT_27, hf⟩ := bf_l_e hf
          have hd := hd.of (congrArg (bf_pT G σ o) eT_27.symm)
          refine lv_iload_n hx hb dX5_boils_73 rfl (lv_at hl 4 rfl) ?_
          refine lv_iload hx hb dX5_boils_74 (lv_at hl 0 rfl) ?_
          refine lv_isub hx hb dX5_boils_76 ?_
          obtain ⟨x3_28, ex3_28, hf⟩ := bf_l_e hf
          refine bf_top ex3_28 ?_
          refine lv_istore_n (lv' := [(3, .int x3_28), (5, .int x5_24), (0, .ref o), (1, .int x1), (2, .int x2), (4, .int v5_4)]) hx hb dX5_boils_77 rfl hl (by decide) rfl (fun ls hl => ?_)
          exact J78 x3_28 v5_4 T_27 _ _ _ hf hd (lv_sub hl [2, 3, 4, 0, 5] rfl)
        · have hf := bf_ie hf c_22
          refine lv_goto (tgt := 78) hx hb dX5_boils_30 (by decide) ?_
          exact J78 v5_3 v5_4 T5 _ _ _ hf hd (lv_sub hl [0, 1, 2, 3, 4] rfl)
  unfold fX5_boils at hf
  refine lv_iload_n hx hb dX5_boils_0 rfl (lv_at hl 2 rfl) ?_
  refine lv_istore_n (lv' := [(3, .int x2), (0, .ref o), (1, .int x1), (2, .int x2)]) hx hb dX5_boils_1 rfl hl (by decide) rfl (fun ls hl => ?_)
  refine lv_iconst (v := 0) hx hb dX5_boils_2 (by decide) ?_
  refine lv_istore (lv' := [(4, .int 0), (3, .int x2), (0, .ref o), (1, .int x1), (2, .int x2)]) hx hb dX5_boils_3 hl (by decide) rfl (fun ls hl => ?_)
  exact L5 bf_fuel x2 0 T _ _ _ hf hd (lv_sub hl [2, 3, 4, 1, 0] rfl)
def fX5_plant (T : bf_TS) (x1 x2 x3 : Int32) : Option (Int32 × bf_TS) := bf_l (bf_u2 T 0 0 0) fun T_1 => if (fX5_isParty T_1 x1) = 0 then (some ((-1), T_1)) else (if (fX5_isPlace x2) = 0 then (some ((-1), T_1)) else (if (fX5_isIn x3 0 99) = 0 then (some ((-1), T_1)) else (if (T_1 1 4) = 14 then (some ((-1), T_1)) else (bf_b (fX5_keepsAhead T_1) fun T_9 => bf_b2 (fX5_plants T_9 x1 x2 x3) fun r_11 T_10 => some (r_11, T_10)))))
set_option maxHeartbeats 4000000 in
theorem mX5_plant (l : Launch) (G : bf_G) (σ : bf_V) (o : Nat) (T : bf_TS) (x1 x2 x3 : Int32) {r : Int32} {T' : bf_TS} (hf : fX5_plant T x1 x2 x3 = some (r, T')) : bf_MI l G yX5_plant cX5_plant 4 (bf_rm 2) [.ref o, .int x1, .int x2, .int x3] (bf_pT G σ o T) (fun v σ' => v = r ∧ σ' = bf_pT G σ o T') := by
  refine bf_MI.of rfl (Nat.le_of_ble_eq_true rfl) ?_
  intro p e s m below meth c Q X hlk hnm kret hd ls hl
  have hx := X.1
  have hb := X.2.1
  have hown := X.2.2.2.1
  have hts := X.2.2.2.2
  have hl : lv_has ls 4 [(0, .ref o), (1, .int x1), (2, .int x2), (3, .int x3)] := hl
  unfold fX5_plant at hf
  refine lv_aload_n hx hb dX5_plant_0 rfl (lv_at hl 0 rfl) ?_
  refine lv_iconst (v := 0) hx hb dX5_plant_1 (by decide) ?_
  refine bf_tpi X hd 0 (by decide) ⟨rfl, rfl, rfl⟩ q1383 dX5_plant_2 (fun H locs hd => ?_)
  obtain ⟨T_12, eT_12, hf⟩ := bf_l_e hf
  have hd := hd.of (congrArg (bf_pT G σ o) eT_12.symm)
  refine lv_aload_n hx hb dX5_plant_5 rfl (lv_at hl 0 rfl) ?_
  refine lv_iload_n hx hb dX5_plant_6 rfl (lv_at hl 1 rfl) ?_
  refine bf_tcz (n := 1) (As := [.int x1]) (rest := []) X hd (mX5_isParty l G σ o T_12 x1 rfl) (lw_V q1580 q1582 qs58 q156 q1583) (by decide +kernel) ⟨Nat.le_of_ble_eq_true rfl, Nat.le_of_ble_eq_true rfl⟩ rfl hl.1 rfl (Nat.le_of_ble_eq_true rfl) dX5_plant_7 ⟨Nat.le_of_ble_eq_true rfl, Nat.le_of_ble_eq_true rfl⟩ (fun H locs z_13 hd => ?_)
  refine lv_if_eq (tgt := 43) hx hb dX5_plant_10 (by decide) (fun c_14 => ?_) (fun c_14 => ?_)
  · have hf := bf_it hf c_14
    refine lv_iconst (v := (-1)) hx hb dX5_plant_43 (by decide) ?_
    exact kret _ _ _ _ _ _ ⟨(bf_pr hf).1, congrArg (bf_pT G σ o) (bf_pr hf).2⟩ hd dX5_plant_44
  · have hf := bf_ie hf c_14
    refine lv_aload_n hx hb dX5_plant_13 rfl (lv_at hl 0 rfl) ?_
    refine lv_iload_n hx hb dX5_plant_14 rfl (lv_at hl 2 rfl) ?_
    refine bf_tcz (n := 1) (As := [.int x2]) (rest := []) X hd (mX5_isPlace l G σ o T_12 x2 rfl) (lw_V q1752 q1754 qs95 q156 q1755) (by decide +kernel) ⟨Nat.le_of_ble_eq_true rfl, Nat.le_of_ble_eq_true rfl⟩ rfl hl.1 rfl (Nat.le_of_ble_eq_true rfl) dX5_plant_15 ⟨Nat.le_of_ble_eq_true rfl, Nat.le_of_ble_eq_true rfl⟩ (fun H locs z_15 hd => ?_)
    refine lv_if_eq (tgt := 43) hx hb dX5_plant_18 (by decide) (fun c_16 => ?_) (fun c_16 => ?_)
    · have hf := bf_it hf c_16
      refine lv_iconst (v := (-1)) hx hb dX5_plant_43 (by decide) ?_
      exact kret _ _ _ _ _ _ ⟨(bf_pr hf).1, congrArg (bf_pT G σ o) (bf_pr hf).2⟩ hd dX5_plant_44
    · have hf := bf_ie hf c_16
      refine lv_aload_n hx hb dX5_plant_21 rfl (lv_at hl 0 rfl) ?_
      refine lv_iload_n hx hb dX5_plant_22 rfl (lv_at hl 3 rfl) ?_
      refine lv_iconst (v := 0) hx hb dX5_plant_23 (by decide) ?_
      refine lv_bipush (v := 99) hx hb dX5_plant_24 (by decide) ?_
      refine bf_tcz (n := 3) (As := [.int x3, .int 0, .int 99]) (rest := []) X hd (mX5_isIn l G σ o T_12 x3 0 99 rfl) (lw_V q1564 q1566 qs56 q156 q1567) (by decide +kernel) ⟨Nat.le_of_ble_eq_true rfl, Nat.le_of_ble_eq_true rfl⟩ rfl hl.1 rfl (Nat.le_of_ble_eq_true rfl) dX5_plant_26 ⟨Nat.le_of_ble_eq_true rfl, Nat.le_of_ble_eq_true rfl⟩ (fun H locs z_17 hd => ?_)
      refine lv_if_eq (tgt := 43) hx hb dX5_plant_29 (by decide) (fun c_18 => ?_) (fun c_18 => ?_)
      · have hf := bf_it hf c_18
        refine lv_iconst (v := (-1)) hx hb dX5_plant_43 (by decide) ?_
        exact kret _ _ _ _ _ _ ⟨(bf_pr hf).1, congrArg (bf_pT G σ o) (bf_pr hf).2⟩ hd dX5_plant_44
      · have hf := bf_ie hf c_18
        refine lv_aload_n hx hb dX5_plant_32 rfl (lv_at hl 0 rfl) ?_
        refine bf_tga X hd 1 (by decide) (by decide) q1384 dX5_plant_33 ?_
        refine lv_iconst (v := 4) hx hb dX5_plant_36 (by decide) ?_
        refine bf_tld X hd 1 (by decide) (by decide) dX5_plant_37 ?_
        refine lv_bipush (v := 14) hx hb dX5_plant_38 (by decide) ?_
        refine lv_icmp_ne (tgt := 45) hx hb dX5_plant_40 (by decide) (fun c_19 => ?_) (fun c_19 => ?_)
        · have hf := bf_ie hf c_19
          refine lv_aload_n hx hb dX5_plant_45 rfl (lv_at hl 0 rfl) ?_
          obtain ⟨T_20, eT_20, hf⟩ := bf_b_some hf
          refine bf_tcv (n := 0) (As := []) (rest := []) X hd (mX5_keepsAhead l G σ o T_12 eT_20) (lw_V q1756 q1758 qs96 q156 q1759) (by decide +kernel) ⟨Nat.le_of_ble_eq_true rfl, Nat.le_of_ble_eq_true rfl⟩ rfl hl.1 rfl (Nat.le_of_ble_eq_true rfl) dX5_plant_46 ⟨Nat.le_of_ble_eq_true rfl, Nat.le_of_ble_eq_true rfl⟩ (fun H locs hd => ?_)
          refine lv_aload_n hx hb dX5_plant_49 rfl (lv_at hl 0 rfl) ?_
          refine lv_iload_n hx hb dX5_plant_50 rfl (lv_at hl 1 rfl) ?_
          refine lv_iload_n hx hb dX5_plant_51 rfl (lv_at hl 2 rfl) ?_
          refine lv_iload_n hx hb dX5_plant_52 rfl (lv_at hl 3 rfl) ?_
          obtain ⟨r_22, T_21, er_22, hf⟩ := bf_b2_some hf
          refine bf_tci (n := 3) (As := [.int x1, .int x2, .int x3]) (rest := []) X hd (mX5_plants l G σ o T_20 x1 x2 x3 er_22) (lw_V q1760 q1762 qs97 q156 q1763) (by decide +kernel) ⟨Nat.le_of_ble_eq_true rfl, Nat.le_of_ble_eq_true rfl⟩ rfl hl.1 rfl (Nat.le_of_ble_eq_true rfl) dX5_plant_53 ⟨Nat.le_of_ble_eq_true rfl, Nat.le_of_ble_eq_true rfl⟩ (fun H locs hd => ?_)
          exact kret _ _ _ _ _ _ ⟨(bf_pr hf).1, congrArg (bf_pT G σ o) (bf_pr hf).2⟩ hd dX5_plant_56
        · have hf := bf_it hf c_19
          refine lv_iconst (v := (-1)) hx hb dX5_plant_43 (by decide) ?_
          exact kret _ _ _ _ _ _ ⟨(bf_pr hf).1, congrArg (bf_pT G σ o) (bf_pr hf).2⟩ hd dX5_plant_44
def fX5_fence (T : bf_TS) (x1 x2 : Int32) : Option (Int32 × bf_TS) := bf_l (bf_u2 T 0 0 0) fun T_1 => if (fX5_isPlace x1) = 0 then (some (0, T_1)) else (if (fX5_isFenced T_1 x1) = x2 then (some (0, T_1)) else (bf_b (fX5_keepsAhead T_1) fun T_6 => bf_b (fX5_fences T_6 x1 x2) fun T_7 => some (1, T_7)))
set_option maxHeartbeats 4000000 in
theorem mX5_fence (l : Launch) (G : bf_G) (σ : bf_V) (o : Nat) (T : bf_TS) (x1 x2 : Int32) {r : Int32} {T' : bf_TS} (hf : fX5_fence T x1 x2 = some (r, T')) : bf_MZ l G yX5_fence cX5_fence 3 (bf_rm 2) [.ref o, .int x1, .int x2] (bf_pT G σ o T) (fun v σ' => v = r ∧ σ' = bf_pT G σ o T') := by
  refine bf_MZ.of rfl (Nat.le_of_ble_eq_true rfl) ?_
  intro p e s m below meth c Q X hlk hnm kret hd ls hl
  have hx := X.1
  have hb := X.2.1
  have hown := X.2.2.2.1
  have hts := X.2.2.2.2
  have hl : lv_has ls 3 [(0, .ref o), (1, .int x1), (2, .int x2)] := hl
  unfold fX5_fence at hf
  refine lv_aload_n hx hb dX5_fence_0 rfl (lv_at hl 0 rfl) ?_
  refine lv_iconst (v := 0) hx hb dX5_fence_1 (by decide) ?_
  refine bf_tpi X hd 0 (by decide) ⟨rfl, rfl, rfl⟩ q1383 dX5_fence_2 (fun H locs hd => ?_)
  obtain ⟨T_8, eT_8, hf⟩ := bf_l_e hf
  have hd := hd.of (congrArg (bf_pT G σ o) eT_8.symm)
  refine lv_aload_n hx hb dX5_fence_5 rfl (lv_at hl 0 rfl) ?_
  refine lv_iload_n hx hb dX5_fence_6 rfl (lv_at hl 1 rfl) ?_
  refine bf_tcz (n := 1) (As := [.int x1]) (rest := []) X hd (mX5_isPlace l G σ o T_8 x1 rfl) (lw_V q1752 q1754 qs95 q156 q1755) (by decide +kernel) ⟨Nat.le_of_ble_eq_true rfl, Nat.le_of_ble_eq_true rfl⟩ rfl hl.1 rfl (Nat.le_of_ble_eq_true rfl) dX5_fence_7 ⟨Nat.le_of_ble_eq_true rfl, Nat.le_of_ble_eq_true rfl⟩ (fun H locs z_9 hd => ?_)
  refine lv_if_eq (tgt := 22) hx hb dX5_fence_10 (by decide) (fun c_10 => ?_) (fun c_10 => ?_)
  · have hf := bf_it hf c_10
    refine lv_iconst (v := 0) hx hb dX5_fence_22 (by decide) ?_
    exact kret _ _ _ _ _ _ ⟨(bf_pr hf).1, congrArg (bf_pT G σ o) (bf_pr hf).2⟩ (Or.inl rfl) hd dX5_fence_23
  · have hf := bf_ie hf c_10
    refine lv_aload_n hx hb dX5_fence_13 rfl (lv_at hl 0 rfl) ?_
    refine lv_iload_n hx hb dX5_fence_14 rfl (lv_at hl 1 rfl) ?_
    refine bf_tcz (n := 1) (As := [.int x1]) (rest := []) X hd (mX5_isFenced l G σ o T_8 x1 rfl) (lw_V q1772 q1774 qs99 q156 q1775) (by decide +kernel) ⟨Nat.le_of_ble_eq_true rfl, Nat.le_of_ble_eq_true rfl⟩ rfl hl.1 rfl (Nat.le_of_ble_eq_true rfl) dX5_fence_15 ⟨Nat.le_of_ble_eq_true rfl, Nat.le_of_ble_eq_true rfl⟩ (fun H locs z_11 hd => ?_)
    refine lv_iload_n hx hb dX5_fence_18 rfl (lv_at hl 2 rfl) ?_
    refine lv_icmp_ne (tgt := 24) hx hb dX5_fence_19 (by decide) (fun c_12 => ?_) (fun c_12 => ?_)
    · have hf := bf_ie hf c_12
      refine lv_aload_n hx hb dX5_fence_24 rfl (lv_at hl 0 rfl) ?_
      obtain ⟨T_13, eT_13, hf⟩ := bf_b_some hf
      refine bf_tcv (n := 0) (As := []) (rest := []) X hd (mX5_keepsAhead l G σ o T_8 eT_13) (lw_V q1756 q1758 qs96 q156 q1759) (by decide +kernel) ⟨Nat.le_of_ble_eq_true rfl, Nat.le_of_ble_eq_true rfl⟩ rfl hl.1 rfl (Nat.le_of_ble_eq_true rfl) dX5_fence_25 ⟨Nat.le_of_ble_eq_true rfl, Nat.le_of_ble_eq_true rfl⟩ (fun H locs hd => ?_)
      refine lv_aload_n hx hb dX5_fence_28 rfl (lv_at hl 0 rfl) ?_
      refine lv_iload_n hx hb dX5_fence_29 rfl (lv_at hl 1 rfl) ?_
      refine lv_iload_n hx hb dX5_fence_30 rfl (lv_at hl 2 rfl) ?_
      obtain ⟨T_14, eT_14, hf⟩ := bf_b_some hf
      refine bf_tcv (n := 2) (As := [.int x1, .int x2]) (rest := []) X hd (mX5_fences l G σ o T_13 x1 x2 eT_14) (lw_V q1780 q1782 qs101 q156 q1783) (by decide +kernel) ⟨Nat.le_of_ble_eq_true rfl, Nat.le_of_ble_eq_true rfl⟩ rfl hl.1 rfl (Nat.le_of_ble_eq_true rfl) dX5_fence_31 ⟨Nat.le_of_ble_eq_true rfl, Nat.le_of_ble_eq_true rfl⟩ (fun H locs hd => ?_)
      refine lv_iconst (v := 1) hx hb dX5_fence_34 (by decide) ?_
      exact kret _ _ _ _ _ _ ⟨(bf_pr hf).1, congrArg (bf_pT G σ o) (bf_pr hf).2⟩ (Or.inr rfl) hd dX5_fence_35
    · have hf := bf_it hf c_12
      refine lv_iconst (v := 0) hx hb dX5_fence_22 (by decide) ?_
      exact kret _ _ _ _ _ _ ⟨(bf_pr hf).1, congrArg (bf_pT G σ o) (bf_pr hf).2⟩ (Or.inl rfl) hd dX5_fence_23
def fX5_boil (T : bf_TS) (x1 x2 : Int32) : Option (Int32 × bf_TS) := bf_l (bf_u2 T 0 0 0) fun T_1 => if (fX5_isParty T_1 x1) = 0 then (some ((-1), T_1)) else (if (fX5_isIn x2 1 99) = 0 then (some ((-1), T_1)) else (bf_b (fX5_keepsAhead T_1) fun T_6 => bf_b2 (fX5_boils T_6 x1 x2) fun r_8 T_7 => some (r_8, T_7)))
set_option maxHeartbeats 4000000 in
theorem mX5_boil (l : Launch) (G : bf_G) (σ : bf_V) (o : Nat) (T : bf_TS) (x1 x2 : Int32) {r : Int32} {T' : bf_TS} (hf : fX5_boil T x1 x2 = some (r, T')) : bf_MI l G yX5_boil cX5_boil 3 (bf_rm 2) [.ref o, .int x1, .int x2] (bf_pT G σ o T) (fun v σ' => v = r ∧ σ' = bf_pT G σ o T') := by
  refine bf_MI.of rfl (Nat.le_of_ble_eq_true rfl) ?_
  intro p e s m below meth c Q X hlk hnm kret hd ls hl
  have hx := X.1
  have hb := X.2.1
  have hown := X.2.2.2.1
  have hts := X.2.2.2.2
  have hl : lv_has ls 3 [(0, .ref o), (1, .int x1), (2, .int x2)] := hl
  unfold fX5_boil at hf
  refine lv_aload_n hx hb dX5_boil_0 rfl (lv_at hl 0 rfl) ?_
  refine lv_iconst (v := 0) hx hb dX5_boil_1 (by decide) ?_
  refine bf_tpi X hd 0 (by decide) ⟨rfl, rfl, rfl⟩ q1383 dX5_boil_2 (fun H locs hd => ?_)
  obtain ⟨T_9, eT_9, hf⟩ := bf_l_e hf
  have hd := hd.of (congrArg (bf_pT G σ o) eT_9.symm)
  refine lv_aload_n hx hb dX5_boil_5 rfl (lv_at hl 0 rfl) ?_
  refine lv_iload_n hx hb dX5_boil_6 rfl (lv_at hl 1 rfl) ?_
  refine bf_tcz (n := 1) (As := [.int x1]) (rest := []) X hd (mX5_isParty l G σ o T_9 x1 rfl) (lw_V q1580 q1582 qs58 q156 q1583) (by decide +kernel) ⟨Nat.le_of_ble_eq_true rfl, Nat.le_of_ble_eq_true rfl⟩ rfl hl.1 rfl (Nat.le_of_ble_eq_true rfl) dX5_boil_7 ⟨Nat.le_of_ble_eq_true rfl, Nat.le_of_ble_eq_true rfl⟩ (fun H locs z_10 hd => ?_)
  refine lv_if_eq (tgt := 24) hx hb dX5_boil_10 (by decide) (fun c_11 => ?_) (fun c_11 => ?_)
  · have hf := bf_it hf c_11
    refine lv_iconst (v := (-1)) hx hb dX5_boil_24 (by decide) ?_
    exact kret _ _ _ _ _ _ ⟨(bf_pr hf).1, congrArg (bf_pT G σ o) (bf_pr hf).2⟩ hd dX5_boil_25
  · have hf := bf_ie hf c_11
    refine lv_aload_n hx hb dX5_boil_13 rfl (lv_at hl 0 rfl) ?_
    refine lv_iload_n hx hb dX5_boil_14 rfl (lv_at hl 2 rfl) ?_
    refine lv_iconst (v := 1) hx hb dX5_boil_15 (by decide) ?_
    refine lv_bipush (v := 99) hx hb dX5_boil_16 (by decide) ?_
    refine bf_tcz (n := 3) (As := [.int x2, .int 1, .int 99]) (rest := []) X hd (mX5_isIn l G σ o T_9 x2 1 99 rfl) (lw_V q1564 q1566 qs56 q156 q1567) (by decide +kernel) ⟨Nat.le_of_ble_eq_true rfl, Nat.le_of_ble_eq_true rfl⟩ rfl hl.1 rfl (Nat.le_of_ble_eq_true rfl) dX5_boil_18 ⟨Nat.le_of_ble_eq_true rfl, Nat.le_of_ble_eq_true rfl⟩ (fun H locs z_12 hd => ?_)
    refine lv_if_ne (tgt := 26) hx hb dX5_boil_21 (by decide) (fun c_13 => ?_) (fun c_13 => ?_)
    · have hf := bf_ie hf c_13
      refine lv_aload_n hx hb dX5_boil_26 rfl (lv_at hl 0 rfl) ?_
      obtain ⟨T_14, eT_14, hf⟩ := bf_b_some hf
      refine bf_tcv (n := 0) (As := []) (rest := []) X hd (mX5_keepsAhead l G σ o T_9 eT_14) (lw_V q1756 q1758 qs96 q156 q1759) (by decide +kernel) ⟨Nat.le_of_ble_eq_true rfl, Nat.le_of_ble_eq_true rfl⟩ rfl hl.1 rfl (Nat.le_of_ble_eq_true rfl) dX5_boil_27 ⟨Nat.le_of_ble_eq_true rfl, Nat.le_of_ble_eq_true rfl⟩ (fun H locs hd => ?_)
      refine lv_aload_n hx hb dX5_boil_30 rfl (lv_at hl 0 rfl) ?_
      refine lv_iload_n hx hb dX5_boil_31 rfl (lv_at hl 1 rfl) ?_
      refine lv_iload_n hx hb dX5_boil_32 rfl (lv_at hl 2 rfl) ?_
      obtain ⟨r_16, T_15, er_16, hf⟩ := bf_b2_some hf
      refine bf_tci (n := 2) (As := [.int x1, .int x2]) (rest := []) X hd (mX5_boils l G σ o T_14 x1 x2 er_16) (lw_V q1788 q1790 qs102 q156 q1791) (by decide +kernel) ⟨Nat.le_of_ble_eq_true rfl, Nat.le_of_ble_eq_true rfl⟩ rfl hl.1 rfl (Nat.le_of_ble_eq_true rfl) dX5_boil_33 ⟨Nat.le_of_ble_eq_true rfl, Nat.le_of_ble_eq_true rfl⟩ (fun H locs hd => ?_)
      exact kret _ _ _ _ _ _ ⟨(bf_pr hf).1, congrArg (bf_pT G σ o) (bf_pr hf).2⟩ hd dX5_boil_36
    · have hf := bf_it hf c_13
      refine lv_iconst (v := (-1)) hx hb dX5_boil_24 (by decide) ?_
      exact kret _ _ _ _ _ _ ⟨(bf_pr hf).1, congrArg (bf_pT G σ o) (bf_pr hf).2⟩ hd dX5_boil_25
def fX5_counts (T : bf_TS) (x1 x2 : Int32) : Option (bf_TS) := bf_c (bf_in (5 + x1) 136) <| bf_l ((T 1 (5 + x1).toNatClampNeg)) fun x3_2 => bf_c (bf_in (5 + x1) 136) <| bf_l (bf_u2 T 1 (5 + x1).toNatClampNeg (fX5_held (x3_2 + x2) 0 9999)) fun T_4 => if x1 = (T_4 43 0) then (bf_c (bf_in (5 + x1) 136) <| bf_l (bf_u2 T_4 42 0 (((T_4 42 0) + (T_4 1 (5 + x1).toNatClampNeg)) - x3_2)) fun T_7 => some T_7) else (some T_4)
set_option maxHeartbeats 4000000 in
theorem mX5_counts (l : Launch) (G : bf_G) (σ : bf_V) (o : Nat) (T : bf_TS) (x1 x2 : Int32) {T' : bf_TS} (hf : fX5_counts T x1 x2 = some T') : bf_MV l G yX5_counts cX5_counts 4 (bf_rm 1) [.ref o, .int x1, .int x2] (bf_pT G σ o T) (fun σ' => σ' = bf_pT G σ o T') := by
  refine bf_MV.of rfl (Nat.le_of_ble_eq_true rfl) ?_
  intro p e s m below meth c Q X hlk hnm kret hd ls hl
  have hx := X.1
  have hb := X.2.1
  have hown := X.2.2.2.1
  have hts := X.2.2.2.2
  have hl : lv_has ls 4 [(0, .ref o), (1, .int x1), (2, .int x2)] := hl
  unfold fX5_counts at hf
  refine lv_aload_n hx hb dX5_counts_0 rfl (lv_at hl 0 rfl) ?_
  refine bf_tga X hd 1 (by decide) (by decide) q1384 dX5_counts_1 ?_
  refine lv_iconst (v := 5) hx hb dX5_counts_4 (by decide) ?_
  refine lv_iload_n hx hb dX5_counts_5 rfl (lv_at hl 1 rfl) ?_
  refine lv_iadd hx hb dX5_counts_6 ?_
  obtain ⟨g_8, hf⟩ := bf_c_some hf
  refine bf_tld X hd 1 (by decide) g_8 dX5_counts_7 ?_
  obtain ⟨x3_9, ex3_9, hf⟩ := bf_l_e hf
  refine bf_top ex3_9 ?_
  refine lv_istore_n (lv' := [(3, .int x3_9), (0, .ref o), (1, .int x1), (2, .int x2)]) hx hb dX5_counts_8 rfl hl (by decide) rfl (fun ls hl => ?_)
  refine lv_aload_n hx hb dX5_counts_9 rfl (lv_at hl 1 rfl) ?_
  refine bf_tga X hd 1 (by decide) (by decide) q1384 dX5_counts_10 ?_
  refine lv_iconst (v := 5) hx hb dX5_counts_13 (by decide) ?_
  refine lv_iload_n hx hb dX5_counts_14 rfl (lv_at hl 2 rfl) ?_
  refine lv_iadd hx hb dX5_counts_15 ?_
  refine lv_aload_n hx hb dX5_counts_16 rfl (lv_at hl 1 rfl) ?_
  refine lv_iload_n hx hb dX5_counts_17 rfl (lv_at hl 0 rfl) ?_
  refine lv_iload_n hx hb dX5_counts_18 rfl (lv_at hl 3 rfl) ?_
  refine lv_iadd hx hb dX5_counts_19 ?_
  refine lv_iconst (v := 0) hx hb dX5_counts_20 (by decide) ?_
  refine lv_sipush (v := 9999) hx hb dX5_counts_21 (by decide) ?_
  refine bf_tci (n := 3) (As := [.int (x3_9 + x2), .int 0, .int 9999]) (rest := [.int (5 + x1), .ref (o + bf_to 1)]) X hd (mX5_held l G σ o T (x3_9 + x2) 0 9999 rfl) (lw_V q1588 q1590 qs60 q156 q1591) (by decide +kernel) ⟨Nat.le_of_ble_eq_true rfl, Nat.le_of_ble_eq_true rfl⟩ rfl hl.1 rfl (Nat.le_of_ble_eq_true rfl) dX5_counts_24 ⟨Nat.le_of_ble_eq_true rfl, Nat.le_of_ble_eq_true rfl⟩ (fun H locs hd => ?_)
  obtain ⟨g_10, hf⟩ := bf_c_some hf
  refine bf_tst X hd 1 (by decide) g_10 dX5_counts_27 (fun H locs hd => ?_)
  obtain ⟨T_11, eT_11, hf⟩ := bf_l_e hf
  have hd := hd.of (congrArg (bf_pT G σ o) eT_11.symm)
  refine lv_iload_n hx hb dX5_counts_28 rfl (lv_at hl 2 rfl) ?_
  refine lv_aload_n hx hb dX5_counts_29 rfl (lv_at hl 1 rfl) ?_
  refine bf_tgi X hd 43 (by decide) rfl q1426 dX5_counts_30 ?_
  refine lv_icmp_ne (tgt := 55) hx hb dX5_counts_33 (by decide) (fun c_12 => ?_) (fun c_12 => ?_)
  · have hf := bf_ie hf c_12
    exact kret _ _ _ _ _ (congrArg (bf_pT G σ o) (bf_so hf)) hd dX5_counts_55
  · have hf := bf_it hf c_12
    refine lv_aload_n hx hb dX5_counts_36 rfl (lv_at hl 1 rfl) ?_
    refine lv_aload_n hx hb dX5_counts_37 rfl (lv_at hl 1 rfl) ?_
    refine bf_tgi X hd 42 (by decide) rfl q1425 dX5_counts_38 ?_
    refine lv_aload_n hx hb dX5_counts_41 rfl (lv_at hl 1 rfl) ?_
    refine bf_tga X hd 1 (by decide) (by decide) q1384 dX5_counts_42 ?_
    refine lv_iconst (v := 5) hx hb dX5_counts_45 (by decide) ?_
    refine lv_iload_n hx hb dX5_counts_46 rfl (lv_at hl 2 rfl) ?_
    refine lv_iadd hx hb dX5_counts_47 ?_
    obtain ⟨g_13, hf⟩ := bf_c_some hf
    refine bf_tld X hd 1 (by decide) g_13 dX5_counts_48 ?_
    refine lv_iadd hx hb dX5_counts_49 ?_
    refine lv_iload_n hx hb dX5_counts_50 rfl (lv_at hl 0 rfl) ?_
    refine lv_isub hx hb dX5_counts_51 ?_
    refine bf_tpi X hd 42 (by decide) ⟨rfl, rfl, rfl⟩ q1425 dX5_counts_52 (fun H locs hd => ?_)
    obtain ⟨T_14, eT_14, hf⟩ := bf_l_e hf
    have hd := hd.of (congrArg (bf_pT G σ o) eT_14.symm)
    exact kret _ _ _ _ _ (congrArg (bf_pT G σ o) (bf_so hf)) hd dX5_counts_55
def fX5_treeFor_104 (T : bf_TS) (k5 : Int32 → Int32 → Option (Int32)) (x1 : Int32) (x2 : Int32) (w104_3 : Int32) (w104_4 : Int32) : Option (Int32) := bf_l (w104_4 + 1) fun x4_15 => k5 w104_3 x4_15
def fX5_treeFor_101 (T : bf_TS) (k5 : Int32 → Int32 → Option (Int32)) (x1 : Int32) (x2 : Int32) (w101_4 : Int32) : Option (Int32) := fX5_treeFor_104 T k5 x1 x2 w101_4 w101_4
def fX5_treeFor_5b (T : bf_TS) (x1 : Int32) (x2 : Int32) (k5 : Int32 → Int32 → Option (Int32)) (v5_3 : Int32) (v5_4 : Int32) : Option (Int32) := if (T 1 4) ≤ v5_4 then (some v5_3) else (bf_c (bf_in (34 + v5_4) 136) <| if (T 1 (34 + v5_4).toNatClampNeg) = x2 then (bf_c (bf_in (62 + v5_4) 136) <| if (T 1 (62 + v5_4).toNatClampNeg) = 0 then (fX5_treeFor_104 T k5 x1 x2 v5_3 v5_4) else (bf_c (bf_in (20 + v5_4) 136) <| bf_b (fX5_tasteOf T x1 (T 1 (20 + v5_4).toNatClampNeg)) fun r_7 => if r_7 = 0 then (fX5_treeFor_104 T k5 x1 x2 v5_3 v5_4) else (if v5_3 = (-1) then (fX5_treeFor_101 T k5 x1 x2 v5_4) else (bf_c (bf_in (20 + v5_4) 136) <| bf_b (fX5_tasteOf T x1 (T 1 (20 + v5_4).toNatClampNeg)) fun r_11 => bf_c (bf_in (20 + v5_3) 136) <| bf_b (fX5_tasteOf T x1 (T 1 (20 + v5_3).toNatClampNeg)) fun r_13 => if r_11 ≤ r_13 then (fX5_treeFor_104 T k5 x1 x2 v5_3 v5_4) else (fX5_treeFor_101 T k5 x1 x2 v5_4))))) else (fX5_treeFor_104 T k5 x1 x2 v5_3 v5_4))
def fX5_treeFor_5 (T : bf_TS) (x1 : Int32) (x2 : Int32) : Nat → Int32 → Int32 → Option (Int32)
  | 0, _, _ => none
  | n + 1, v5_3, v5_4 => fX5_treeFor_5b T x1 x2 (fX5_treeFor_5 T x1 x2 n) v5_3 v5_4
def fX5_treeFor (T : bf_TS) (x1 x2 : Int32) : Option (Int32) := fX5_treeFor_5 T x1 x2 bf_fuel (-1) 0
set_option maxHeartbeats 4000000 in
theorem mX5_treeFor (l : Launch) (G : bf_G) (σ : bf_V) (o : Nat) (T : bf_TS) (x1 x2 : Int32) {r : Int32} (hf : fX5_treeFor T x1 x2 = some r) : bf_MI l G yX5_treeFor cX5_treeFor 5 (bf_rm 1) [.ref o, .int x1, .int x2] (bf_pT G σ o T) (fun v σ' => v = r ∧ σ' = bf_pT G σ o T) := by
  refine bf_MI.of rfl (Nat.le_of_ble_eq_true rfl) ?_
  intro p e s m below meth c Q X hlk hnm kret hd ls hl
  have hx := X.1
  have hb := X.2.1
  have hown := X.2.2.2.1
  have hts := X.2.2.2.2
  have hl : lv_has ls 5 [(0, .ref o), (1, .int x1), (2, .int x2)] := hl
  have L5 : ∀ (n5 : Nat) (v5_3 : Int32) (v5_4 : Int32) (H : Heap) (locs : List Loc) (ls : Array Slot), fX5_treeFor_5 T x1 x2 n5 v5_3 v5_4 = some r → bf_Dy G s H locs (bf_pT G σ o T) → lv_has ls 5 [(0, .ref o), (1, .int x1), (2, .int x2), (3, .int v5_3), (4, .int v5_4)] → W p l e (bf_rm 1) s m ([.ref o, .int x1, .int x2] : List Value).toArray below meth c H locs 0 0 Q (F0 m 5 ls []) := by
    intro n5
    induction n5 with
    | zero =>
      intro v5_3 v5_4 H locs ls hf hd hl
      exact absurd (show (none : Option (Int32)) = some r from hf) (by intro h; cases h)
    | succ n5 ih5 =>
      intro v5_3 v5_4 H locs ls hf hd hl
      have hf : fX5_treeFor_5b T x1 x2 (fX5_treeFor_5 T x1 x2 n5) v5_3 v5_4 = some r := hf
      unfold fX5_treeFor_5b at hf
      have J104 : ∀ (w104_3 : Int32) (w104_4 : Int32) (H : Heap) (locs : List Loc) (ls : Array Slot), fX5_treeFor_104 T (fX5_treeFor_5 T x1 x2 n5) x1 x2 w104_3 w104_4 = some r → bf_Dy G s H locs (bf_pT G σ o T) → lv_has ls 5 [(0, .ref o), (1, .int x1), (2, .int x2), (3, .int w104_3), (4, .int w104_4)] → W p l e (bf_rm 1) s m ([.ref o, .int x1, .int x2] : List Value).toArray below meth c H locs 0 0 Q (F0 m 104 ls []) := by
        intro w104_3 w104_4 H locs ls hf hd hl
        unfold fX5_treeFor_104 at hf
        obtain ⟨x4_16, ex4_16, hf⟩ := bf_l_e hf
        refine lv_iinc (v := x4_16) (lv' := [(4, .int x4_16), (0, .ref o), (1, .int x1), (2, .int x2), (3, .int w104_3)]) hx hb dX5_treeFor_104 hl (k := 4) rfl (by rw [ex4_16]; rfl) (by decide) rfl (fun ls hl => ?_)
        refine lv_goto (tgt := 5) hx hb dX5_treeFor_107 (by decide) ?_
        exact ih5 w104_3 x4_16 _ _ _ hf hd (lv_sub hl [1, 2, 3, 4, 0] rfl)
      have J101 : ∀ (w101_4 : Int32) (H : Heap) (locs : List Loc) (ls : Array Slot), fX5_treeFor_101 T (fX5_treeFor_5 T x1 x2 n5) x1 x2 w101_4 = some r → bf_Dy G s H locs (bf_pT G σ o T) → lv_has ls 5 [(0, .ref o), (1, .int x1), (2, .int x2), (4, .int w101_4)] → W p l e (bf_rm 1) s m ([.ref o, .int x1, .int x2] : List Value).toArray below meth c H locs 0 0 Q (F0 m 101 ls []) := by
        intro w101_4 H locs ls hf hd hl
        unfold fX5_treeFor_101 at hf
        refine lv_iload hx hb dX5_treeFor_101 (lv_at hl 3 rfl) ?_
        refine lv_istore_n (lv' := [(3, .int w101_4), (0, .ref o), (1, .int x1), (2, .int x2), (4, .int w101_4)]) hx hb dX5_treeFor_103 rfl hl (by decide) rfl (fun ls hl => ?_)
        exact J104 w101_4 w101_4 _ _ _ hf hd (lv_sub hl [1, 2, 3, 0, 4] rfl)
      refine lv_iload hx hb dX5_treeFor_5 (lv_at hl 4 rfl) ?_
      refine lv_aload_n hx hb dX5_treeFor_7 rfl (lv_at hl 0 rfl) ?_
      refine bf_tga X hd 1 (by decide) (by decide) q1384 dX5_treeFor_8 ?_
      refine lv_iconst (v := 4) hx hb dX5_treeFor_11 (by decide) ?_
      refine bf_tld X hd 1 (by decide) (by decide) dX5_treeFor_12 ?_
      refine lv_icmp_ge (tgt := 110) hx hb dX5_treeFor_13 (by decide) (fun c_17 => ?_) (fun c_17 => ?_)
      · have hf := bf_it hf c_17
        refine lv_iload_n hx hb dX5_treeFor_110 rfl (lv_at hl 3 rfl) ?_
        exact kret _ _ _ _ _ _ ⟨bf_so hf, rfl⟩ hd dX5_treeFor_111
      · have hf := bf_ie hf c_17
        refine lv_aload_n hx hb dX5_treeFor_16 rfl (lv_at hl 0 rfl) ?_
        refine bf_tga X hd 1 (by decide) (by decide) q1384 dX5_treeFor_17 ?_
        refine lv_bipush (v := 34) hx hb dX5_treeFor_20 (by decide) ?_
        refine lv_iload hx hb dX5_treeFor_22 (lv_at hl 4 rfl) ?_
        refine lv_iadd hx hb dX5_treeFor_24 ?_
        obtain ⟨g_18, hf⟩ := bf_c_some hf
        refine bf_tld X hd 1 (by decide) g_18 dX5_treeFor_25 ?_
        refine lv_iload_n hx hb dX5_treeFor_26 rfl (lv_at hl 2 rfl) ?_
        refine lv_icmp_ne (tgt := 104) hx hb dX5_treeFor_27 (by decide) (fun c_19 => ?_) (fun c_19 => ?_)
        · have hf := bf_ie hf c_19
          exact J104 v5_3 v5_4 _ _ _ hf hd (lv_sub hl [0, 1, 2, 3, 4] rfl)
        · have hf := bf_it hf c_19
          refine lv_aload_n hx hb dX5_treeFor_30 rfl (lv_at hl 0 rfl) ?_
          refine bf_tga X hd 1 (by decide) (by decide) q1384 dX5_treeFor_31 ?_
          refine lv_bipush (v := 62) hx hb dX5_treeFor_34 (by decide) ?_
          refine lv_iload hx hb dX5_treeFor_36 (lv_at hl 4 rfl) ?_
          refine lv_iadd hx hb dX5_treeFor_38 ?_
          obtain ⟨g_20, hf⟩ := bf_c_some hf
          refine bf_tld X hd 1 (by decide) g_20 dX5_treeFor_39 ?_
          refine lv_if_eq (tgt := 104) hx hb dX5_treeFor_40 (by decide) (fun c_21 => ?_) (fun c_21 => ?_)
          · have hf := bf_it hf c_21
            exact J104 v5_3 v5_4 _ _ _ hf hd (lv_sub hl [0, 1, 2, 3, 4] rfl)
          · have hf := bf_ie hf c_21
            refine lv_aload_n hx hb dX5_treeFor_43 rfl (lv_at hl 0 rfl) ?_
            refine lv_iload_n hx hb dX5_treeFor_44 rfl (lv_at hl 1 rfl) ?_
            refine lv_aload_n hx hb dX5_treeFor_45 rfl (lv_at hl 0 rfl) ?_
            refine bf_tga X hd 1 (by decide) (by decide) q1384 dX5_treeFor_46 ?_
            refine lv_bipush (v := 20) hx hb dX5_treeFor_49 (by decide) ?_
            refine lv_iload hx hb dX5_treeFor_51 (lv_at hl 4 rfl) ?_
            refine lv_iadd hx hb dX5_treeFor_53 ?_
            obtain ⟨g_22, hf⟩ := bf_c_some hf
            refine bf_tld X hd 1 (by decide) g_22 dX5_treeFor_54 ?_
            obtain ⟨r_23, er_23, hf⟩ := bf_b_some hf
            refine bf_tci (n := 2) (As := [.int x1, .int (T 1 (20 + v5_4).toNatClampNeg)]) (rest := []) X hd (mX5_tasteOf l G σ o T x1 (T 1 (20 + v5_4).toNatClampNeg) er_23) (lw_V q1852 q1854 qs117 q156 q1855) (by decide +kernel) ⟨Nat.le_of_ble_eq_true rfl, Nat.le_of_ble_eq_true rfl⟩ rfl hl.1 rfl (Nat.le_of_ble_eq_true rfl) dX5_treeFor_55 ⟨Nat.le_of_ble_eq_true rfl, Nat.le_of_ble_eq_true rfl⟩ (fun H locs hd => ?_)
            refine lv_if_ne (tgt := 64) hx hb dX5_treeFor_58 (by decide) (fun c_24 => ?_) (fun c_24 => ?_)
            · have hf := bf_ie hf c_24
              refine lv_iload_n hx hb dX5_treeFor_64 rfl (lv_at hl 3 rfl) ?_
              refine lv_iconst (v := (-1)) hx hb dX5_treeFor_65 (by decide) ?_
              refine lv_icmp_eq (tgt := 101) hx hb dX5_treeFor_66 (by decide) (fun c_25 => ?_) (fun c_25 => ?_)
              · have hf := bf_it hf c_25
                exact J101 v5_4 _ _ _ hf hd (lv_sub hl [0, 1, 2, 4] rfl)
              · have hf := bf_ie hf c_25
                refine lv_aload_n hx hb dX5_treeFor_69 rfl (lv_at hl 0 rfl) ?_
                refine lv_iload_n hx hb dX5_treeFor_70 rfl (lv_at hl 1 rfl) ?_
                refine lv_aload_n hx hb dX5_treeFor_71 rfl (lv_at hl 0 rfl) ?_
                refine bf_tga X hd 1 (by decide) (by decide) q1384 dX5_treeFor_72 ?_
                refine lv_bipush (v := 20) hx hb dX5_treeFor_75 (by decide) ?_
                refine lv_iload hx hb dX5_treeFor_77 (lv_at hl 4 rfl) ?_
                refine lv_iadd hx hb dX5_treeFor_79 ?_
                obtain ⟨g_26, hf⟩ := bf_c_some hf
                refine bf_tld X hd 1 (by decide) g_26 dX5_treeFor_80 ?_
                obtain ⟨r_27, er_27, hf⟩ := bf_b_some hf
                refine bf_tci (n := 2) (As := [.int x1, .int (T 1 (20 + v5_4).toNatClampNeg)]) (rest := []) X hd (mX5_tasteOf l G σ o T x1 (T 1 (20 + v5_4).toNatClampNeg) er_27) (lw_V q1852 q1854 qs117 q156 q1855) (by decide +kernel) ⟨Nat.le_of_ble_eq_true rfl, Nat.le_of_ble_eq_true rfl⟩ rfl hl.1 rfl (Nat.le_of_ble_eq_true rfl) dX5_treeFor_81 ⟨Nat.le_of_ble_eq_true rfl, Nat.le_of_ble_eq_true rfl⟩ (fun H locs hd => ?_)
                refine lv_aload_n hx hb dX5_treeFor_84 rfl (lv_at hl 0 rfl) ?_
                refine lv_iload_n hx hb dX5_treeFor_85 rfl (lv_at hl 1 rfl) ?_
                refine lv_aload_n hx hb dX5_treeFor_86 rfl (lv_at hl 0 rfl) ?_
                refine bf_tga X hd 1 (by decide) (by decide) q1384 dX5_treeFor_87 ?_
                refine lv_bipush (v := 20) hx hb dX5_treeFor_90 (by decide) ?_
                refine lv_iload_n hx hb dX5_treeFor_92 rfl (lv_at hl 3 rfl) ?_
                refine lv_iadd hx hb dX5_treeFor_93 ?_
                obtain ⟨g_28, hf⟩ := bf_c_some hf
                refine bf_tld X hd 1 (by decide) g_28 dX5_treeFor_94 ?_
                obtain ⟨r_29, er_29, hf⟩ := bf_b_some hf
                refine bf_tci (n := 2) (As := [.int x1, .int (T 1 (20 + v5_3).toNatClampNeg)]) (rest := [.int r_27]) X hd (mX5_tasteOf l G σ o T x1 (T 1 (20 + v5_3).toNatClampNeg) er_29) (lw_V q1852 q1854 qs117 q156 q1855) (by decide +kernel) ⟨Nat.le_of_ble_eq_true rfl, Nat.le_of_ble_eq_true rfl⟩ rfl hl.1 rfl (Nat.le_of_ble_eq_true rfl) dX5_treeFor_95 ⟨Nat.le_of_ble_eq_true rfl, Nat.le_of_ble_eq_true rfl⟩ (fun H locs hd => ?_)
                refine lv_icmp_le (tgt := 104) hx hb dX5_treeFor_98 (by decide) (fun c_30 => ?_) (fun c_30 => ?_)
                · have hf := bf_it hf c_30
                  exact J104 v5_3 v5_4 _ _ _ hf hd (lv_sub hl [0, 1, 2, 3, 4] rfl)
                · have hf := bf_ie hf c_30
                  exact J101 v5_4 _ _ _ hf hd (lv_sub hl [0, 1, 2, 4] rfl)
            · have hf := bf_it hf c_24
              refine lv_goto (tgt := 104) hx hb dX5_treeFor_61 (by decide) ?_
              exact J104 v5_3 v5_4 _ _ _ hf hd (lv_sub hl [0, 1, 2, 3, 4] rfl)
  unfold fX5_treeFor at hf
  refine lv_iconst (v := (-1)) hx hb dX5_treeFor_0 (by decide) ?_
  refine lv_istore_n (lv' := [(3, .int (-1)), (0, .ref o), (1, .int x1), (2, .int x2)]) hx hb dX5_treeFor_1 rfl hl (by decide) rfl (fun ls hl => ?_)
  refine lv_iconst (v := 0) hx hb dX5_treeFor_2 (by decide) ?_
  refine lv_istore (lv' := [(4, .int 0), (3, .int (-1)), (0, .ref o), (1, .int x1), (2, .int x2)]) hx hb dX5_treeFor_3 hl (by decide) rfl (fun ls hl => ?_)
  exact L5 bf_fuel (-1) 0 _ _ _ hf hd (lv_sub hl [2, 3, 4, 1, 0] rfl)
def fX5_jamFor_55 (T : bf_TS) (k4 : Int32 → Int32 → Option (Int32)) (x1 : Int32) (w55_2 : Int32) (w55_3 : Int32) : Option (Int32) := bf_l (w55_3 + 1) fun x3_10 => k4 w55_2 x3_10
def fX5_jamFor_53 (T : bf_TS) (k4 : Int32 → Int32 → Option (Int32)) (x1 : Int32) (w53_3 : Int32) : Option (Int32) := fX5_jamFor_55 T k4 x1 w53_3 w53_3
def fX5_jamFor_4b (T : bf_TS) (x1 : Int32) (k4 : Int32 → Int32 → Option (Int32)) (v4_2 : Int32) (v4_3 : Int32) : Option (Int32) := if (T 6 0) ≤ v4_3 then (some v4_2) else (bf_c (bf_in (15 + v4_3) 136) <| if (T 1 (15 + v4_3).toNatClampNeg) ≤ 0 then (fX5_jamFor_55 T k4 x1 v4_2 v4_3) else (bf_b (fX5_tasteOf T x1 v4_3) fun r_4 => if r_4 ≤ 0 then (fX5_jamFor_55 T k4 x1 v4_2 v4_3) else (if v4_2 = (-1) then (fX5_jamFor_53 T k4 x1 v4_3) else (bf_b (fX5_tasteOf T x1 v4_3) fun r_7 => bf_b (fX5_tasteOf T x1 v4_2) fun r_8 => if r_7 ≤ r_8 then (fX5_jamFor_55 T k4 x1 v4_2 v4_3) else (fX5_jamFor_53 T k4 x1 v4_3)))))
def fX5_jamFor_4 (T : bf_TS) (x1 : Int32) : Nat → Int32 → Int32 → Option (Int32)
  | 0, _, _ => none
  | n + 1, v4_2, v4_3 => fX5_jamFor_4b T x1 (fX5_jamFor_4 T x1 n) v4_2 v4_3
def fX5_jamFor (T : bf_TS) (x1 : Int32) : Option (Int32) := fX5_jamFor_4 T x1 bf_fuel (-1) 0
set_option maxHeartbeats 4000000 in
theorem mX5_jamFor (l : Launch) (G : bf_G) (σ : bf_V) (o : Nat) (T : bf_TS) (x1 : Int32) {r : Int32} (hf : fX5_jamFor T x1 = some r) : bf_MI l G yX5_jamFor cX5_jamFor 4 (bf_rm 1) [.ref o, .int x1] (bf_pT G σ o T) (fun v σ' => v = r ∧ σ' = bf_pT G σ o T) := by
  refine bf_MI.of rfl (Nat.le_of_ble_eq_true rfl) ?_
  intro p e s m below meth c Q X hlk hnm kret hd ls hl
  have hx := X.1
  have hb := X.2.1
  have hown := X.2.2.2.1
  have hts := X.2.2.2.2
  have hl : lv_has ls 4 [(0, .ref o), (1, .int x1)] := hl
  have L4 : ∀ (n4 : Nat) (v4_2 : Int32) (v4_3 : Int32) (H : Heap) (locs : List Loc) (ls : Array Slot), fX5_jamFor_4 T x1 n4 v4_2 v4_3 = some r → bf_Dy G s H locs (bf_pT G σ o T) → lv_has ls 4 [(0, .ref o), (1, .int x1), (2, .int v4_2), (3, .int v4_3)] → W p l e (bf_rm 1) s m ([.ref o, .int x1] : List Value).toArray below meth c H locs 0 0 Q (F0 m 4 ls []) := by
    intro n4
    induction n4 with
    | zero =>
      intro v4_2 v4_3 H locs ls hf hd hl
      exact absurd (show (none : Option (Int32)) = some r from hf) (by intro h; cases h)
    | succ n4 ih4 =>
      intro v4_2 v4_3 H locs ls hf hd hl
      have hf : fX5_jamFor_4b T x1 (fX5_jamFor_4 T x1 n4) v4_2 v4_3 = some r := hf
      unfold fX5_jamFor_4b at hf
      have J55 : ∀ (w55_2 : Int32) (w55_3 : Int32) (H : Heap) (locs : List Loc) (ls : Array Slot), fX5_jamFor_55 T (fX5_jamFor_4 T x1 n4) x1 w55_2 w55_3 = some r → bf_Dy G s H locs (bf_pT G σ o T) → lv_has ls 4 [(0, .ref o), (1, .int x1), (2, .int w55_2), (3, .int w55_3)] → W p l e (bf_rm 1) s m ([.ref o, .int x1] : List Value).toArray below meth c H locs 0 0 Q (F0 m 55 ls []) := by
        intro w55_2 w55_3 H locs ls hf hd hl
        unfold fX5_jamFor_55 at hf
        obtain ⟨x3_11, ex3_11, hf⟩ := bf_l_e hf
        refine lv_iinc (v := x3_11) (lv' := [(3, .int x3_11), (0, .ref o), (1, .int x1), (2, .int w55_2)]) hx hb dX5_jamFor_55 hl (k := 3) rfl (by rw [ex3_11]; rfl) (by decide) rfl (fun ls hl => ?_)
        refine lv_goto (tgt := 4) hx hb dX5_jamFor_58 (by decide) ?_
        exact ih4 w55_2 x3_11 _ _ _ hf hd (lv_sub hl [1, 2, 3, 0] rfl)
      have J53 : ∀ (w53_3 : Int32) (H : Heap) (locs : List Loc) (ls : Array Slot), fX5_jamFor_53 T (fX5_jamFor_4 T x1 n4) x1 w53_3 = some r → bf_Dy G s H locs (bf_pT G σ o T) → lv_has ls 4 [(0, .ref o), (1, .int x1), (3, .int w53_3)] → W p l e (bf_rm 1) s m ([.ref o, .int x1] : List Value).toArray below meth c H locs 0 0 Q (F0 m 53 ls []) := by
        intro w53_3 H locs ls hf hd hl
        unfold fX5_jamFor_53 at hf
        refine lv_iload_n hx hb dX5_jamFor_53 rfl (lv_at hl 2 rfl) ?_
        refine lv_istore_n (lv' := [(2, .int w53_3), (0, .ref o), (1, .int x1), (3, .int w53_3)]) hx hb dX5_jamFor_54 rfl hl (by decide) rfl (fun ls hl => ?_)
        exact J55 w53_3 w53_3 _ _ _ hf hd (lv_sub hl [1, 2, 0, 3] rfl)
      refine lv_iload_n hx hb dX5_jamFor_4 rfl (lv_at hl 3 rfl) ?_
      refine lv_aload_n hx hb dX5_jamFor_5 rfl (lv_at hl 0 rfl) ?_
      refine bf_tgi X hd 6 (by decide) rfl q1389 dX5_jamFor_6 ?_
      refine lv_icmp_ge (tgt := 61) hx hb dX5_jamFor_9 (by decide) (fun c_12 => ?_) (fun c_12 => ?_)
      · have hf := bf_it hf c_12
        refine lv_iload_n hx hb dX5_jamFor_61 rfl (lv_at hl 2 rfl) ?_
        exact kret _ _ _ _ _ _ ⟨bf_so hf, rfl⟩ hd dX5_jamFor_62
      · have hf := bf_ie hf c_12
        refine lv_aload_n hx hb dX5_jamFor_12 rfl (lv_at hl 0 rfl) ?_
        refine bf_tga X hd 1 (by decide) (by decide) q1384 dX5_jamFor_13 ?_
        refine lv_bipush (v := 15) hx hb dX5_jamFor_16 (by decide) ?_
        refine lv_iload_n hx hb dX5_jamFor_18 rfl (lv_at hl 3 rfl) ?_
        refine lv_iadd hx hb dX5_jamFor_19 ?_
        obtain ⟨g_13, hf⟩ := bf_c_some hf
        refine bf_tld X hd 1 (by decide) g_13 dX5_jamFor_20 ?_
        refine lv_if_le (tgt := 55) hx hb dX5_jamFor_21 (by decide) (fun c_14 => ?_) (fun c_14 => ?_)
        · have hf := bf_it hf c_14
          exact J55 v4_2 v4_3 _ _ _ hf hd (lv_sub hl [0, 1, 2, 3] rfl)
        · have hf := bf_ie hf c_14
          refine lv_aload_n hx hb dX5_jamFor_24 rfl (lv_at hl 0 rfl) ?_
          refine lv_iload_n hx hb dX5_jamFor_25 rfl (lv_at hl 1 rfl) ?_
          refine lv_iload_n hx hb dX5_jamFor_26 rfl (lv_at hl 3 rfl) ?_
          obtain ⟨r_15, er_15, hf⟩ := bf_b_some hf
          refine bf_tci (n := 2) (As := [.int x1, .int v4_3]) (rest := []) X hd (mX5_tasteOf l G σ o T x1 v4_3 er_15) (lw_V q1852 q1854 qs117 q156 q1855) (by decide +kernel) ⟨Nat.le_of_ble_eq_true rfl, Nat.le_of_ble_eq_true rfl⟩ rfl hl.1 rfl (Nat.le_of_ble_eq_true rfl) dX5_jamFor_27 ⟨Nat.le_of_ble_eq_true rfl, Nat.le_of_ble_eq_true rfl⟩ (fun H locs hd => ?_)
          refine lv_if_le (tgt := 55) hx hb dX5_jamFor_30 (by decide) (fun c_16 => ?_) (fun c_16 => ?_)
          · have hf := bf_it hf c_16
            exact J55 v4_2 v4_3 _ _ _ hf hd (lv_sub hl [0, 1, 2, 3] rfl)
          · have hf := bf_ie hf c_16
            refine lv_iload_n hx hb dX5_jamFor_33 rfl (lv_at hl 2 rfl) ?_
            refine lv_iconst (v := (-1)) hx hb dX5_jamFor_34 (by decide) ?_
            refine lv_icmp_eq (tgt := 53) hx hb dX5_jamFor_35 (by decide) (fun c_17 => ?_) (fun c_17 => ?_)
            · have hf := bf_it hf c_17
              exact J53 v4_3 _ _ _ hf hd (lv_sub hl [0, 1, 3] rfl)
            · have hf := bf_ie hf c_17
              refine lv_aload_n hx hb dX5_jamFor_38 rfl (lv_at hl 0 rfl) ?_
              refine lv_iload_n hx hb dX5_jamFor_39 rfl (lv_at hl 1 rfl) ?_
              refine lv_iload_n hx hb dX5_jamFor_40 rfl (lv_at hl 3 rfl) ?_
              obtain ⟨r_18, er_18, hf⟩ := bf_b_some hf
              refine bf_tci (n := 2) (As := [.int x1, .int v4_3]) (rest := []) X hd (mX5_tasteOf l G σ o T x1 v4_3 er_18) (lw_V q1852 q1854 qs117 q156 q1855) (by decide +kernel) ⟨Nat.le_of_ble_eq_true rfl, Nat.le_of_ble_eq_true rfl⟩ rfl hl.1 rfl (Nat.le_of_ble_eq_true rfl) dX5_jamFor_41 ⟨Nat.le_of_ble_eq_true rfl, Nat.le_of_ble_eq_true rfl⟩ (fun H locs hd => ?_)
              refine lv_aload_n hx hb dX5_jamFor_44 rfl (lv_at hl 0 rfl) ?_
              refine lv_iload_n hx hb dX5_jamFor_45 rfl (lv_at hl 1 rfl) ?_
              refine lv_iload_n hx hb dX5_jamFor_46 rfl (lv_at hl 2 rfl) ?_
              obtain ⟨r_19, er_19, hf⟩ := bf_b_some hf
              refine bf_tci (n := 2) (As := [.int x1, .int v4_2]) (rest := [.int r_18]) X hd (mX5_tasteOf l G σ o T x1 v4_2 er_19) (lw_V q1852 q1854 qs117 q156 q1855) (by decide +kernel) ⟨Nat.le_of_ble_eq_true rfl, Nat.le_of_ble_eq_true rfl⟩ rfl hl.1 rfl (Nat.le_of_ble_eq_true rfl) dX5_jamFor_47 ⟨Nat.le_of_ble_eq_true rfl, Nat.le_of_ble_eq_true rfl⟩ (fun H locs hd => ?_)
              refine lv_icmp_le (tgt := 55) hx hb dX5_jamFor_50 (by decide) (fun c_20 => ?_) (fun c_20 => ?_)
              · have hf := bf_it hf c_20
                exact J55 v4_2 v4_3 _ _ _ hf hd (lv_sub hl [0, 1, 2, 3] rfl)
              · have hf := bf_ie hf c_20
                exact J53 v4_3 _ _ _ hf hd (lv_sub hl [0, 1, 3] rfl)
  unfold fX5_jamFor at hf
  refine lv_iconst (v := (-1)) hx hb dX5_jamFor_0 (by decide) ?_
  refine lv_istore_n (lv' := [(2, .int (-1)), (0, .ref o), (1, .int x1)]) hx hb dX5_jamFor_1 rfl hl (by decide) rfl (fun ls hl => ?_)
  refine lv_iconst (v := 0) hx hb dX5_jamFor_2 (by decide) ?_
  refine lv_istore_n (lv' := [(3, .int 0), (2, .int (-1)), (0, .ref o), (1, .int x1)]) hx hb dX5_jamFor_3 rfl hl (by decide) rfl (fun ls hl => ?_)
  exact L4 bf_fuel (-1) 0 _ _ _ hf hd (lv_sub hl [2, 3, 1, 0] rfl)
def fX5_isGood (T : bf_TS) (x1 x2 : Int32) : Option (Int32 × bf_TS) := bf_c (bf_in (20 + x2) 136) <| bf_l ((T 1 (20 + x2).toNatClampNeg)) fun x3_2 => bf_b2 (fX5_countOf T x1 x3_2 x2) fun r_4 T_3 => bf_b (fX5_counts T_3 x3_2 r_4) fun T_5 => bf_c (bf_in (62 + x2) 136) <| bf_c (bf_in (62 + x2) 136) <| bf_l (bf_u2 T_5 1 (62 + x2).toNatClampNeg ((T_5 1 (62 + x2).toNatClampNeg) - 1)) fun T_8 => if (T_8 5 0) = 0 then (if (T_8 8 0) = 0 then (some (1, T_8)) else (bf_b2 (fX5_draw T_8 1000) fun r_12 T_11 => if r_12 < (T_11 8 0) then (bf_b (fX5_tasteOf T_11 x1 x3_2) fun r_14 => bf_b (fX5_tasteBe T_11 x1 x3_2 (r_14 - 2)) fun T_15 => bf_b (fX5_notes T_15 4 x1 x3_2) fun T_16 => some (0, T_16)) else (some (1, T_11)))) else (some (1, T_8))
set_option maxHeartbeats 4000000 in
theorem mX5_isGood (l : Launch) (G : bf_G) (σ : bf_V) (o : Nat) (T : bf_TS) (x1 x2 : Int32) {r : Int32} {T' : bf_TS} (hf : fX5_isGood T x1 x2 = some (r, T')) : bf_MZ l G yX5_isGood cX5_isGood 4 (bf_rm 5) [.ref o, .int x1, .int x2] (bf_pT G σ o T) (fun v σ' => v = r ∧ σ' = bf_pT G σ o T') := by
  refine bf_MZ.of rfl (Nat.le_of_ble_eq_true rfl) ?_
  intro p e s m below meth c Q X hlk hnm kret hd ls hl
  have hx := X.1
  have hb := X.2.1
  have hown := X.2.2.2.1
  have hts := X.2.2.2.2
  have hl : lv_has ls 4 [(0, .ref o), (1, .int x1), (2, .int x2)] := hl
  unfold fX5_isGood at hf
  refine lv_aload_n hx hb dX5_isGood_0 rfl (lv_at hl 0 rfl) ?_
  refine bf_tga X hd 1 (by decide) (by decide) q1384 dX5_isGood_1 ?_
  refine lv_bipush (v := 20) hx hb dX5_isGood_4 (by decide) ?_
  refine lv_iload_n hx hb dX5_isGood_6 rfl (lv_at hl 2 rfl) ?_
  refine lv_iadd hx hb dX5_isGood_7 ?_
  obtain ⟨g_17, hf⟩ := bf_c_some hf
  refine bf_tld X hd 1 (by decide) g_17 dX5_isGood_8 ?_
  obtain ⟨x3_18, ex3_18, hf⟩ := bf_l_e hf
  refine bf_top ex3_18 ?_
  refine lv_istore_n (lv' := [(3, .int x3_18), (0, .ref o), (1, .int x1), (2, .int x2)]) hx hb dX5_isGood_9 rfl hl (by decide) rfl (fun ls hl => ?_)
  refine lv_aload_n hx hb dX5_isGood_10 rfl (lv_at hl 1 rfl) ?_
  refine lv_iload_n hx hb dX5_isGood_11 rfl (lv_at hl 0 rfl) ?_
  refine lv_aload_n hx hb dX5_isGood_12 rfl (lv_at hl 1 rfl) ?_
  refine lv_iload_n hx hb dX5_isGood_13 rfl (lv_at hl 2 rfl) ?_
  refine lv_iload_n hx hb dX5_isGood_14 rfl (lv_at hl 0 rfl) ?_
  refine lv_iload_n hx hb dX5_isGood_15 rfl (lv_at hl 3 rfl) ?_
  obtain ⟨r_20, T_19, er_20, hf⟩ := bf_b2_some hf
  refine bf_tci (n := 3) (As := [.int x1, .int x3_18, .int x2]) (rest := [.int x3_18, .ref o]) X hd (mX5_countOf l G σ o T x1 x3_18 x2 er_20) (lw_V q1860 q1862 qs119 q156 q1863) (by decide +kernel) ⟨Nat.le_of_ble_eq_true rfl, Nat.le_of_ble_eq_true rfl⟩ rfl hl.1 rfl (Nat.le_of_ble_eq_true rfl) dX5_isGood_16 ⟨Nat.le_of_ble_eq_true rfl, Nat.le_of_ble_eq_true rfl⟩ (fun H locs hd => ?_)
  obtain ⟨T_21, eT_21, hf⟩ := bf_b_some hf
  refine bf_tcv (n := 2) (As := [.int x3_18, .int r_20]) (rest := []) X hd (mX5_counts l G σ o T_19 x3_18 r_20 eT_21) (lw_V q1864 q1866 qs120 q156 q1867) (by decide +kernel) ⟨Nat.le_of_ble_eq_true rfl, Nat.le_of_ble_eq_true rfl⟩ rfl hl.1 rfl (Nat.le_of_ble_eq_true rfl) dX5_isGood_19 ⟨Nat.le_of_ble_eq_true rfl, Nat.le_of_ble_eq_true rfl⟩ (fun H locs hd => ?_)
  refine lv_aload_n hx hb dX5_isGood_22 rfl (lv_at hl 1 rfl) ?_
  refine bf_tga X hd 1 (by decide) (by decide) q1384 dX5_isGood_23 ?_
  refine lv_bipush (v := 62) hx hb dX5_isGood_26 (by decide) ?_
  refine lv_iload_n hx hb dX5_isGood_28 rfl (lv_at hl 3 rfl) ?_
  refine lv_iadd hx hb dX5_isGood_29 ?_
  refine lv_aload_n hx hb dX5_isGood_30 rfl (lv_at hl 1 rfl) ?_
  refine bf_tga X hd 1 (by decide) (by decide) q1384 dX5_isGood_31 ?_
  refine lv_bipush (v := 62) hx hb dX5_isGood_34 (by decide) ?_
  refine lv_iload_n hx hb dX5_isGood_36 rfl (lv_at hl 3 rfl) ?_
  refine lv_iadd hx hb dX5_isGood_37 ?_
  obtain ⟨g_22, hf⟩ := bf_c_some hf
  refine bf_tld X hd 1 (by decide) g_22 dX5_isGood_38 ?_
  refine lv_iconst (v := 1) hx hb dX5_isGood_39 (by decide) ?_
  refine lv_isub hx hb dX5_isGood_40 ?_
  obtain ⟨g_23, hf⟩ := bf_c_some hf
  refine bf_tst X hd 1 (by decide) g_23 dX5_isGood_41 (fun H locs hd => ?_)
  obtain ⟨T_24, eT_24, hf⟩ := bf_l_e hf
  have hd := hd.of (congrArg (bf_pT G σ o) eT_24.symm)
  refine lv_aload_n hx hb dX5_isGood_42 rfl (lv_at hl 1 rfl) ?_
  refine bf_tgi X hd 5 (by decide) rfl q1388 dX5_isGood_43 ?_
  refine lv_if_ne (tgt := 70) hx hb dX5_isGood_46 (by decide) (fun c_25 => ?_) (fun c_25 => ?_)
  · have hf := bf_ie hf c_25
    refine lv_iconst (v := 1) hx hb dX5_isGood_70 (by decide) ?_
    exact kret _ _ _ _ _ _ ⟨(bf_pr hf).1, congrArg (bf_pT G σ o) (bf_pr hf).2⟩ (Or.inr rfl) hd dX5_isGood_71
  · have hf := bf_it hf c_25
    refine lv_aload_n hx hb dX5_isGood_49 rfl (lv_at hl 1 rfl) ?_
    refine bf_tgi X hd 8 (by decide) rfl q1391 dX5_isGood_50 ?_
    refine lv_if_eq (tgt := 70) hx hb dX5_isGood_53 (by decide) (fun c_26 => ?_) (fun c_26 => ?_)
    · have hf := bf_it hf c_26
      refine lv_iconst (v := 1) hx hb dX5_isGood_70 (by decide) ?_
      exact kret _ _ _ _ _ _ ⟨(bf_pr hf).1, congrArg (bf_pT G σ o) (bf_pr hf).2⟩ (Or.inr rfl) hd dX5_isGood_71
    · have hf := bf_ie hf c_26
      refine lv_aload_n hx hb dX5_isGood_56 rfl (lv_at hl 1 rfl) ?_
      refine lv_sipush (v := 1000) hx hb dX5_isGood_57 (by decide) ?_
      obtain ⟨r_28, T_27, er_28, hf⟩ := bf_b2_some hf
      refine bf_tci (n := 1) (As := [.int 1000]) (rest := []) X hd (mX5_draw l G σ o T_24 1000 er_28) (lw_V q1868 q1870 qs121 q156 q1871) (by decide +kernel) ⟨Nat.le_of_ble_eq_true rfl, Nat.le_of_ble_eq_true rfl⟩ rfl hl.1 rfl (Nat.le_of_ble_eq_true rfl) dX5_isGood_60 ⟨Nat.le_of_ble_eq_true rfl, Nat.le_of_ble_eq_true rfl⟩ (fun H locs hd => ?_)
      refine lv_aload_n hx hb dX5_isGood_63 rfl (lv_at hl 1 rfl) ?_
      refine bf_tgi X hd 8 (by decide) rfl q1391 dX5_isGood_64 ?_
      refine lv_icmp_lt (tgt := 72) hx hb dX5_isGood_67 (by decide) (fun c_29 => ?_) (fun c_29 => ?_)
      · have hf := bf_it hf c_29
        refine lv_aload_n hx hb dX5_isGood_72 rfl (lv_at hl 1 rfl) ?_
        refine lv_iload_n hx hb dX5_isGood_73 rfl (lv_at hl 2 rfl) ?_
        refine lv_iload_n hx hb dX5_isGood_74 rfl (lv_at hl 0 rfl) ?_
        refine lv_aload_n hx hb dX5_isGood_75 rfl (lv_at hl 1 rfl) ?_
        refine lv_iload_n hx hb dX5_isGood_76 rfl (lv_at hl 2 rfl) ?_
        refine lv_iload_n hx hb dX5_isGood_77 rfl (lv_at hl 0 rfl) ?_
        obtain ⟨r_30, er_30, hf⟩ := bf_b_some hf
        refine bf_tci (n := 2) (As := [.int x1, .int x3_18]) (rest := [.int x3_18, .int x1, .ref o]) X hd (mX5_tasteOf l G σ o T_27 x1 x3_18 er_30) (lw_V q1852 q1854 qs117 q156 q1855) (by decide +kernel) ⟨Nat.le_of_ble_eq_true rfl, Nat.le_of_ble_eq_true rfl⟩ rfl hl.1 rfl (Nat.le_of_ble_eq_true rfl) dX5_isGood_78 ⟨Nat.le_of_ble_eq_true rfl, Nat.le_of_ble_eq_true rfl⟩ (fun H locs hd => ?_)
        refine lv_iconst (v := 2) hx hb dX5_isGood_81 (by decide) ?_
        refine lv_isub hx hb dX5_isGood_82 ?_
        obtain ⟨T_31, eT_31, hf⟩ := bf_b_some hf
        refine bf_tcv (n := 3) (As := [.int x1, .int x3_18, .int (r_30 - 2)]) (rest := []) X hd (mX5_tasteBe l G σ o T_27 x1 x3_18 (r_30 - 2) eT_31) (lw_V q1584 q1586 qs59 q156 q1587) (by decide +kernel) ⟨Nat.le_of_ble_eq_true rfl, Nat.le_of_ble_eq_true rfl⟩ rfl hl.1 rfl (Nat.le_of_ble_eq_true rfl) dX5_isGood_83 ⟨Nat.le_of_ble_eq_true rfl, Nat.le_of_ble_eq_true rfl⟩ (fun H locs hd => ?_)
        refine lv_aload_n hx hb dX5_isGood_86 rfl (lv_at hl 1 rfl) ?_
        refine lv_iconst (v := 4) hx hb dX5_isGood_87 (by decide) ?_
        refine lv_iload_n hx hb dX5_isGood_88 rfl (lv_at hl 2 rfl) ?_
        refine lv_iload_n hx hb dX5_isGood_89 rfl (lv_at hl 0 rfl) ?_
        obtain ⟨T_32, eT_32, hf⟩ := bf_b_some hf
        refine bf_tcv (n := 3) (As := [.int 4, .int x1, .int x3_18]) (rest := []) X hd (mX5_notes l G σ o T_31 4 x1 x3_18 eT_32) (lw_V q1764 q1766 qs98 q156 q1767) (by decide +kernel) ⟨Nat.le_of_ble_eq_true rfl, Nat.le_of_ble_eq_true rfl⟩ rfl hl.1 rfl (Nat.le_of_ble_eq_true rfl) dX5_isGood_90 ⟨Nat.le_of_ble_eq_true rfl, Nat.le_of_ble_eq_true rfl⟩ (fun H locs hd => ?_)
        refine lv_iconst (v := 0) hx hb dX5_isGood_93 (by decide) ?_
        exact kret _ _ _ _ _ _ ⟨(bf_pr hf).1, congrArg (bf_pT G σ o) (bf_pr hf).2⟩ (Or.inl rfl) hd dX5_isGood_94
      · have hf := bf_ie hf c_29
        refine lv_iconst (v := 1) hx hb dX5_isGood_70 (by decide) ?_
        exact kret _ _ _ _ _ _ ⟨(bf_pr hf).1, congrArg (bf_pT G σ o) (bf_pr hf).2⟩ (Or.inr rfl) hd dX5_isGood_71
def fX5_leftByPath_95 (k11 : Int32 → Int32 → bf_TS → Option (Int32 × bf_TS)) (x1 : Int32) (u11_4 : Int32) (w95_3 : Int32) (w95_5 : Int32) (T95 : bf_TS) : Option (Int32 × bf_TS) := bf_l (w95_5 + 1) fun x5_16 => k11 w95_3 x5_16 T95
def fX5_leftByPath_57b (k11 : Int32 → Int32 → bf_TS → Option (Int32 × bf_TS)) (x1 : Int32) (u11_4 : Int32) (u57_5 : Int32) (u57_6 : Int32) (k57 : Int32 → Int32 → bf_TS → Option (Int32 × bf_TS)) (v57_3 : Int32) (v57_7 : Int32) (T57 : bf_TS) : Option (Int32 × bf_TS) := if v57_3 ≤ 0 then (fX5_leftByPath_95 k11 x1 u11_4 v57_3 u57_5 T57) else (if v57_7 = (-1) then (fX5_leftByPath_95 k11 x1 u11_4 v57_3 u57_5 T57) else (bf_l ((v57_3 - 1)) fun x3_10 => bf_b2 (fX5_isGood T57 x1 v57_7) fun r_12 T_11 => if r_12 = 0 then (some ((-1), T_11)) else (bf_b (fX5_treeFor T_11 x1 u57_6) fun r_15 => k57 x3_10 r_15 T_11)))
def fX5_leftByPath_57 (k11 : Int32 → Int32 → bf_TS → Option (Int32 × bf_TS)) (x1 : Int32) (u11_4 : Int32) (u57_5 : Int32) (u57_6 : Int32) : Nat → Int32 → Int32 → bf_TS → Option (Int32 × bf_TS)
  | 0, _, _, _ => none
  | n + 1, v57_3, v57_7, T57 => fX5_leftByPath_57b k11 x1 u11_4 u57_5 u57_6 (fX5_leftByPath_57 k11 x1 u11_4 u57_5 u57_6 n) v57_3 v57_7 T57
def fX5_leftByPath_55 (k11 : Int32 → Int32 → bf_TS → Option (Int32 × bf_TS)) (x1 : Int32) (u11_4 : Int32) (w55_3 : Int32) (w55_5 : Int32) (w55_6 : Int32) (t55_0 : Int32) (T55 : bf_TS) : Option (Int32 × bf_TS) := fX5_leftByPath_57 k11 x1 u11_4 w55_5 w55_6 bf_fuel w55_3 t55_0 T55
def fX5_leftByPath_11b (x1 : Int32) (u11_4 : Int32) (k11 : Int32 → Int32 → bf_TS → Option (Int32 × bf_TS)) (v11_3 : Int32) (v11_5 : Int32) (T11 : bf_TS) : Option (Int32 × bf_TS) := bf_c (bf_in u11_4 180) <| if (T11 37 (u11_4).toNatClampNeg) < v11_5 then (some (v11_3, T11)) else (bf_c (bf_in (u11_4 + v11_5) 180) <| bf_l ((T11 37 (u11_4 + v11_5).toNatClampNeg)) fun x6_4 => if (fX5_isFenced T11 x6_4) = 0 then (bf_b (fX5_treeFor T11 x1 x6_4) fun r_7 => fX5_leftByPath_55 k11 x1 u11_4 v11_3 v11_5 x6_4 r_7 T11) else (fX5_leftByPath_55 k11 x1 u11_4 v11_3 v11_5 x6_4 (-1) T11))
def fX5_leftByPath_11 (x1 : Int32) (u11_4 : Int32) : Nat → Int32 → Int32 → bf_TS → Option (Int32 × bf_TS)
  | 0, _, _, _ => none
  | n + 1, v11_3, v11_5, T11 => fX5_leftByPath_11b x1 u11_4 (fX5_leftByPath_11 x1 u11_4 n) v11_3 v11_5 T11
def fX5_leftByPath (T : bf_TS) (x1 x2 : Int32) : Option (Int32 × bf_TS) := bf_l ((9 * x1)) fun x4_17 => fX5_leftByPath_11 x1 x4_17 bf_fuel x2 1 T
set_option maxHeartbeats 4000000 in
theorem mX5_leftByPath (l : Launch) (G : bf_G) (σ : bf_V) (o : Nat) (T : bf_TS) (x1 x2 : Int32) {r : Int32} {T' : bf_TS} (hf : fX5_leftByPath T x1 x2 = some (r, T')) : bf_MI l G yX5_leftByPath cX5_leftByPath 8 (bf_rm 6) [.ref o, .int x1, .int x2] (bf_pT G σ o T) (fun v σ' => v = r ∧ σ' = bf_pT G σ o T') := by
  refine bf_MI.of rfl (Nat.le_of_ble_eq_true rfl) ?_
  intro p e s m below meth c Q X hlk hnm kret hd ls hl
  have hx := X.1
  have hb := X.2.1
  have hown := X.2.2.2.1
  have hts := X.2.2.2.2
  have hl : lv_has ls 8 [(0, .ref o), (1, .int x1), (2, .int x2)] := hl
  have L11 : ∀ (u11_4 : Int32) (n11 : Nat) (v11_3 : Int32) (v11_5 : Int32) (T11 : bf_TS) (H : Heap) (locs : List Loc) (ls : Array Slot), fX5_leftByPath_11 x1 u11_4 n11 v11_3 v11_5 T11 = some (r, T') → bf_Dy G s H locs (bf_pT G σ o T11) → lv_has ls 8 [(0, .ref o), (1, .int x1), (3, .int v11_3), (4, .int u11_4), (5, .int v11_5)] → W p l e (bf_rm 6) s m ([.ref o, .int x1, .int x2] : List Value).toArray below meth c H locs 0 0 Q (F0 m 11 ls []) := by
    intro u11_4 n11
    induction n11 with
    | zero =>
      intro v11_3 v11_5 T11 H locs ls hf hd hl
      exact absurd (show (none : Option (Int32 × bf_TS)) = some (r, T') from hf) (by intro h; cases h)
    | succ n11 ih11 =>
      intro v11_3 v11_5 T11 H locs ls hf hd hl
      have hf : fX5_leftByPath_11b x1 u11_4 (fX5_leftByPath_11 x1 u11_4 n11) v11_3 v11_5 T11 = some (r, T') := hf
      unfold fX5_leftByPath_11b at hf
      have J95 : ∀ (w95_3 : Int32) (w95_5 : Int32) (T95 : bf_TS) (H : Heap) (locs : List Loc) (ls : Array Slot), fX5_leftByPath_95 (fX5_leftByPath_11 x1 u11_4 n11) x1 u11_4 w95_3 w95_5 T95 = some (r, T') → bf_Dy G s H locs (bf_pT G σ o T95) → lv_has ls 8 [(0, .ref o), (1, .int x1), (3, .int w95_3), (4, .int u11_4), (5, .int w95_5)] → W p l e (bf_rm 6) s m ([.ref o, .int x1, .int x2] : List Value).toArray below meth c H locs 0 0 Q (F0 m 95 ls []) := by
        intro w95_3 w95_5 T95 H locs ls hf hd hl
        unfold fX5_leftByPath_95 at hf
        obtain ⟨x5_18, ex5_18, hf⟩ := bf_l_e hf
        refine lv_iinc (v := x5_18) (lv' := [(5, .int x5_18), (0, .ref o), (1, .int x1), (3, .int w95_3), (4, .int u11_4)]) hx hb dX5_leftByPath_95 hl (k := 4) rfl (by rw [ex5_18]; rfl) (by decide) rfl (fun ls hl => ?_)
        refine lv_goto (tgt := 11) hx hb dX5_leftByPath_98 (by decide) ?_
        exact ih11 w95_3 x5_18 T95 _ _ _ hf hd (lv_sub hl [1, 2, 3, 4, 0] rfl)
      have L57 : ∀ (u57_5 : Int32) (u57_6 : Int32) (n57 : Nat) (v57_3 : Int32) (v57_7 : Int32) (T57 : bf_TS) (H : Heap) (locs : List Loc) (ls : Array Slot), fX5_leftByPath_57 (fX5_leftByPath_11 x1 u11_4 n11) x1 u11_4 u57_5 u57_6 n57 v57_3 v57_7 T57 = some (r, T') → bf_Dy G s H locs (bf_pT G σ o T57) → lv_has ls 8 [(0, .ref o), (1, .int x1), (3, .int v57_3), (4, .int u11_4), (5, .int u57_5), (6, .int u57_6), (7, .int v57_7)] → W p l e (bf_rm 6) s m ([.ref o, .int x1, .int x2] : List Value).toArray below meth c H locs 0 0 Q (F0 m 57 ls []) := by
        intro u57_5 u57_6 n57
        induction n57 with
        | zero =>
          intro v57_3 v57_7 T57 H locs ls hf hd hl
          exact absurd (show (none : Option (Int32 × bf_TS)) = some (r, T') from hf) (by intro h; cases h)
        | succ n57 ih57 =>
          intro v57_3 v57_7 T57 H locs ls hf hd hl
          have hf : fX5_leftByPath_57b (fX5_leftByPath_11 x1 u11_4 n11) x1 u11_4 u57_5 u57_6 (fX5_leftByPath_57 (fX5_leftByPath_11 x1 u11_4 n11) x1 u11_4 u57_5 u57_6 n57) v57_3 v57_7 T57 = some (r, T') := hf
          unfold fX5_leftByPath_57b at hf
          refine lv_iload_n hx hb dX5_leftByPath_57 rfl (lv_at hl 2 rfl) ?_
          refine lv_if_le (tgt := 95) hx hb dX5_leftByPath_58 (by decide) (fun c_19 => ?_) (fun c_19 => ?_)
          · have hf := bf_it hf c_19
            exact J95 v57_3 u57_5 T57 _ _ _ hf hd (lv_sub hl [0, 1, 2, 3, 4] rfl)
          · have hf := bf_ie hf c_19
            refine lv_iload hx hb dX5_leftByPath_61 (lv_at hl 6 rfl) ?_
            refine lv_iconst (v := (-1)) hx hb dX5_leftByPath_63 (by decide) ?_
            refine lv_icmp_eq (tgt := 95) hx hb dX5_leftByPath_64 (by decide) (fun c_20 => ?_) (fun c_20 => ?_)
            · have hf := bf_it hf c_20
              exact J95 v57_3 u57_5 T57 _ _ _ hf hd (lv_sub hl [0, 1, 2, 3, 4] rfl)
            · have hf := bf_ie hf c_20
              refine lv_iload_n hx hb dX5_leftByPath_67 rfl (lv_at hl 2 rfl) ?_
              refine lv_iconst (v := 1) hx hb dX5_leftByPath_68 (by decide) ?_
              refine lv_isub hx hb dX5_leftByPath_69 ?_
              obtain ⟨x3_21, ex3_21, hf⟩ := bf_l_e hf
              refine bf_top ex3_21 ?_
              refine lv_istore_n (lv' := [(3, .int x3_21), (0, .ref o), (1, .int x1), (4, .int u11_4), (5, .int u57_5), (6, .int u57_6), (7, .int v57_7)]) hx hb dX5_leftByPath_70 rfl hl (by decide) rfl (fun ls hl => ?_)
              refine lv_aload_n hx hb dX5_leftByPath_71 rfl (lv_at hl 1 rfl) ?_
              refine lv_iload_n hx hb dX5_leftByPath_72 rfl (lv_at hl 2 rfl) ?_
              refine lv_iload hx hb dX5_leftByPath_73 (lv_at hl 6 rfl) ?_
              obtain ⟨r_23, T_22, er_23, hf⟩ := bf_b2_some hf
              refine bf_tcz (n := 2) (As := [.int x1, .int v57_7]) (rest := []) X hd (mX5_isGood l G σ o T57 x1 v57_7 er_23) (lw_V q1856 q1858 qs118 q156 q1859) (by decide +kernel) ⟨Nat.le_of_ble_eq_true rfl, Nat.le_of_ble_eq_true rfl⟩ rfl hl.1 rfl (Nat.le_of_ble_eq_true rfl) dX5_leftByPath_75 ⟨Nat.le_of_ble_eq_true rfl, Nat.le_of_ble_eq_true rfl⟩ (fun H locs z_24 hd => ?_)
              refine lv_if_ne (tgt := 83) hx hb dX5_leftByPath_78 (by decide) (fun c_25 => ?_) (fun c_25 => ?_)
              · have hf := bf_ie hf c_25
                refine lv_aload_n hx hb dX5_leftByPath_83 rfl (lv_at hl 1 rfl) ?_
                refine lv_iload_n hx hb dX5_leftByPath_84 rfl (lv_at hl 2 rfl) ?_
                refine lv_iload hx hb dX5_leftByPath_85 (lv_at hl 5 rfl) ?_
                obtain ⟨r_26, er_26, hf⟩ := bf_b_some hf
                refine bf_tci (n := 2) (As := [.int x1, .int u57_6]) (rest := []) X hd (mX5_treeFor l G σ o T_22 x1 u57_6 er_26) (lw_V q1848 q1850 qs116 q156 q1851) (by decide +kernel) ⟨Nat.le_of_ble_eq_true rfl, Nat.le_of_ble_eq_true rfl⟩ rfl hl.1 rfl (Nat.le_of_ble_eq_true rfl) dX5_leftByPath_87 ⟨Nat.le_of_ble_eq_true rfl, Nat.le_of_ble_eq_true rfl⟩ (fun H locs hd => ?_)
                refine lv_istore (lv' := [(7, .int r_26), (3, .int x3_21), (0, .ref o), (1, .int x1), (4, .int u11_4), (5, .int u57_5), (6, .int u57_6)]) hx hb dX5_leftByPath_90 hl (by decide) rfl (fun ls hl => ?_)
                refine lv_goto (tgt := 57) hx hb dX5_leftByPath_92 (by decide) ?_
                exact ih57 x3_21 r_26 T_22 _ _ _ hf hd (lv_sub hl [2, 3, 1, 4, 5, 6, 0] rfl)
              · have hf := bf_it hf c_25
                refine lv_iconst (v := (-1)) hx hb dX5_leftByPath_81 (by decide) ?_
                exact kret _ _ _ _ _ _ ⟨(bf_pr hf).1, congrArg (bf_pT G σ o) (bf_pr hf).2⟩ hd dX5_leftByPath_82
      have J55 : ∀ (w55_3 : Int32) (w55_5 : Int32) (w55_6 : Int32) (t55_0 : Int32) (T55 : bf_TS) (H : Heap) (locs : List Loc) (ls : Array Slot), fX5_leftByPath_55 (fX5_leftByPath_11 x1 u11_4 n11) x1 u11_4 w55_3 w55_5 w55_6 t55_0 T55 = some (r, T') → bf_Dy G s H locs (bf_pT G σ o T55) → lv_has ls 8 [(0, .ref o), (1, .int x1), (3, .int w55_3), (4, .int u11_4), (5, .int w55_5), (6, .int w55_6)] → W p l e (bf_rm 6) s m ([.ref o, .int x1, .int x2] : List Value).toArray below meth c H locs 0 0 Q (F0 m 55 ls [.int t55_0]) := by
        intro w55_3 w55_5 w55_6 t55_0 T55 H locs ls hf hd hl
        unfold fX5_leftByPath_55 at hf
        refine lv_istore (lv' := [(7, .int t55_0), (0, .ref o), (1, .int x1), (3, .int w55_3), (4, .int u11_4), (5, .int w55_5), (6, .int w55_6)]) hx hb dX5_leftByPath_55 hl (by decide) rfl (fun ls hl => ?_)
        exact L57 w55_5 w55_6 bf_fuel w55_3 t55_0 T55 _ _ _ hf hd (lv_sub hl [1, 2, 3, 4, 5, 6, 0] rfl)
      refine lv_iload hx hb dX5_leftByPath_11 (lv_at hl 4 rfl) ?_
      refine lv_aload_n hx hb dX5_leftByPath_13 rfl (lv_at hl 0 rfl) ?_
      refine bf_tga X hd 37 (by decide) (by decide) q1420 dX5_leftByPath_14 ?_
      refine lv_iload hx hb dX5_leftByPath_17 (lv_at hl 3 rfl) ?_
      obtain ⟨g_27, hf⟩ := bf_c_some hf
      refine bf_tld X hd 37 (by decide) g_27 dX5_leftByPath_19 ?_
      refine lv_icmp_gt (tgt := 101) hx hb dX5_leftByPath_20 (by decide) (fun c_28 => ?_) (fun c_28 => ?_)
      · have hf := bf_it hf c_28
        refine lv_iload_n hx hb dX5_leftByPath_101 rfl (lv_at hl 2 rfl) ?_
        exact kret _ _ _ _ _ _ ⟨(bf_pr hf).1, congrArg (bf_pT G σ o) (bf_pr hf).2⟩ hd dX5_leftByPath_102
      · have hf := bf_ie hf c_28
        refine lv_aload_n hx hb dX5_leftByPath_23 rfl (lv_at hl 0 rfl) ?_
        refine bf_tga X hd 37 (by decide) (by decide) q1420 dX5_leftByPath_24 ?_
        refine lv_iload hx hb dX5_leftByPath_27 (lv_at hl 3 rfl) ?_
        refine lv_iload hx hb dX5_leftByPath_29 (lv_at hl 4 rfl) ?_
        refine lv_iadd hx hb dX5_leftByPath_31 ?_
        obtain ⟨g_29, hf⟩ := bf_c_some hf
        refine bf_tld X hd 37 (by decide) g_29 dX5_leftByPath_32 ?_
        obtain ⟨x6_30, ex6_30, hf⟩ := bf_l_e hf
        refine bf_top ex6_30 ?_
        refine lv_istore (lv' := [(6, .int x6_30), (0, .ref o), (1, .int x1), (3, .int v11_3), (4, .int u11_4), (5, .int v11_5)]) hx hb dX5_leftByPath_33 hl (by decide) rfl (fun ls hl => ?_)
        refine lv_aload_n hx hb dX5_leftByPath_35 rfl (lv_at hl 1 rfl) ?_
        refine lv_iload hx hb dX5_leftByPath_36 (lv_at hl 0 rfl) ?_
        refine bf_tcz (n := 1) (As := [.int x6_30]) (rest := []) X hd (mX5_isFenced l G σ o T11 x6_30 rfl) (lw_V q1772 q1774 qs99 q156 q1775) (by decide +kernel) ⟨Nat.le_of_ble_eq_true rfl, Nat.le_of_ble_eq_true rfl⟩ rfl hl.1 rfl (Nat.le_of_ble_eq_true rfl) dX5_leftByPath_38 ⟨Nat.le_of_ble_eq_true rfl, Nat.le_of_ble_eq_true rfl⟩ (fun H locs z_31 hd => ?_)
        refine lv_if_eq (tgt := 48) hx hb dX5_leftByPath_41 (by decide) (fun c_32 => ?_) (fun c_32 => ?_)
        · have hf := bf_it hf c_32
          refine lv_aload_n hx hb dX5_leftByPath_48 rfl (lv_at hl 1 rfl) ?_
          refine lv_iload_n hx hb dX5_leftByPath_49 rfl (lv_at hl 2 rfl) ?_
          refine lv_iload hx hb dX5_leftByPath_50 (lv_at hl 0 rfl) ?_
          obtain ⟨r_33, er_33, hf⟩ := bf_b_some hf
          refine bf_tci (n := 2) (As := [.int x1, .int x6_30]) (rest := []) X hd (mX5_treeFor l G σ o T11 x1 x6_30 er_33) (lw_V q1848 q1850 qs116 q156 q1851) (by decide +kernel) ⟨Nat.le_of_ble_eq_true rfl, Nat.le_of_ble_eq_true rfl⟩ rfl hl.1 rfl (Nat.le_of_ble_eq_true rfl) dX5_leftByPath_52 ⟨Nat.le_of_ble_eq_true rfl, Nat.le_of_ble_eq_true rfl⟩ (fun H locs hd => ?_)
          exact J55 v11_3 v11_5 x6_30 r_33 T11 _ _ _ hf hd (lv_sub hl [1, 2, 3, 4, 5, 0] rfl)
        · have hf := bf_ie hf c_32
          refine lv_iconst (v := (-1)) hx hb dX5_leftByPath_44 (by decide) ?_
          refine lv_goto (tgt := 55) hx hb dX5_leftByPath_45 (by decide) ?_
          exact J55 v11_3 v11_5 x6_30 (-1) T11 _ _ _ hf hd (lv_sub hl [1, 2, 3, 4, 5, 0] rfl)
  unfold fX5_leftByPath at hf
  refine lv_iload_n hx hb dX5_leftByPath_0 rfl (lv_at hl 2 rfl) ?_
  refine lv_istore_n (lv' := [(3, .int x2), (0, .ref o), (1, .int x1), (2, .int x2)]) hx hb dX5_leftByPath_1 rfl hl (by decide) rfl (fun ls hl => ?_)
  refine lv_bipush (v := 9) hx hb dX5_leftByPath_2 (by decide) ?_
  refine lv_iload_n hx hb dX5_leftByPath_4 rfl (lv_at hl 2 rfl) ?_
  refine lv_imul hx hb dX5_leftByPath_5 ?_
  obtain ⟨x4_34, ex4_34, hf⟩ := bf_l_e hf
  refine bf_top ex4_34 ?_
  refine lv_istore (lv' := [(4, .int x4_34), (3, .int x2), (0, .ref o), (1, .int x1), (2, .int x2)]) hx hb dX5_leftByPath_6 hl (by decide) rfl (fun ls hl => ?_)
  refine lv_iconst (v := 1) hx hb dX5_leftByPath_8 (by decide) ?_
  refine lv_istore (lv' := [(5, .int 1), (4, .int x4_34), (3, .int x2), (0, .ref o), (1, .int x1), (2, .int x2)]) hx hb dX5_leftByPath_9 hl (by decide) rfl (fun ls hl => ?_)
  exact L11 x4_34 bf_fuel x2 1 T _ _ _ hf hd (lv_sub hl [3, 4, 2, 1, 0] rfl)
def fX5_isHungry_79 (x1 : Int32) (w79_2 : Int32) (T79 : bf_TS) : Option (Int32 × bf_TS) := if 0 < w79_2 then (bf_b (fX5_notes T79 5 x1 w79_2) fun T_12 => some (1, T_12)) else (some (0, T79))
def fX5_isHungry_25b (x1 : Int32) (k25 : Int32 → Int32 → bf_TS → Option (Int32 × bf_TS)) (v25_2 : Int32) (v25_3 : Int32) (T25 : bf_TS) : Option (Int32 × bf_TS) := if v25_2 ≤ 0 then (fX5_isHungry_79 x1 v25_2 T25) else (if v25_3 = (-1) then (fX5_isHungry_79 x1 v25_2 T25) else (bf_b2 (fX5_countOf T25 x1 v25_3 (-1)) fun r_4 T_3 => bf_b (fX5_counts T_3 v25_3 r_4) fun T_5 => bf_c (bf_in (15 + v25_3) 136) <| bf_c (bf_in (15 + v25_3) 136) <| bf_l (bf_u2 T_5 1 (15 + v25_3).toNatClampNeg ((T_5 1 (15 + v25_3).toNatClampNeg) - 1)) fun T_8 => bf_l ((v25_2 - 1)) fun x2_9 => bf_b (fX5_jamFor T_8 x1) fun r_10 => k25 x2_9 r_10 T_8))
def fX5_isHungry_25 (x1 : Int32) : Nat → Int32 → Int32 → bf_TS → Option (Int32 × bf_TS)
  | 0, _, _, _ => none
  | n + 1, v25_2, v25_3, T25 => fX5_isHungry_25b x1 (fX5_isHungry_25 x1 n) v25_2 v25_3 T25
def fX5_isHungry_24 (x1 : Int32) (w24_2 : Int32) (t24_0 : Int32) (T24 : bf_TS) : Option (Int32 × bf_TS) := fX5_isHungry_25 x1 bf_fuel w24_2 t24_0 T24
def fX5_isHungry (T : bf_TS) (x1 : Int32) : Option (Int32 × bf_TS) := bf_b2 (fX5_wantOf T x1) fun r_14 T_13 => bf_b2 (fX5_leftByPath T_13 x1 r_14) fun r_16 T_15 => if r_16 ≤ 0 then (fX5_isHungry_24 x1 r_16 (-1) T_15) else (bf_b (fX5_jamFor T_15 x1) fun r_18 => fX5_isHungry_24 x1 r_16 r_18 T_15)
set_option maxHeartbeats 4000000 in
theorem mX5_isHungry (l : Launch) (G : bf_G) (σ : bf_V) (o : Nat) (T : bf_TS) (x1 : Int32) {r : Int32} {T' : bf_TS} (hf : fX5_isHungry T x1 = some (r, T')) : bf_MZ l G yX5_isHungry cX5_isHungry 4 (bf_rm 7) [.ref o, .int x1] (bf_pT G σ o T) (fun v σ' => v = r ∧ σ' = bf_pT G σ o T') := by
  refine bf_MZ.of rfl (Nat.le_of_ble_eq_true rfl) ?_
  intro p e s m below meth c Q X hlk hnm kret hd ls hl
  have hx := X.1
  have hb := X.2.1
  have hown := X.2.2.2.1
  have hts := X.2.2.2.2
  have hl : lv_has ls 4 [(0, .ref o), (1, .int x1)] := hl
  have J79 : ∀ (w79_2 : Int32) (T79 : bf_TS) (H : Heap) (locs : List Loc) (ls : Array Slot), fX5_isHungry_79 x1 w79_2 T79 = some (r, T') → bf_Dy G s H locs (bf_pT G σ o T79) → lv_has ls 4 [(0, .ref o), (1, .int x1), (2, .int w79_2)] → W p l e (bf_rm 7) s m ([.ref o, .int x1] : List Value).toArray below meth c H locs 0 0 Q (F0 m 79 ls []) := by
    intro w79_2 T79 H locs ls hf hd hl
    unfold fX5_isHungry_79 at hf
    refine lv_iload_n hx hb dX5_isHungry_79 rfl (lv_at hl 2 rfl) ?_
    refine lv_if_gt (tgt := 85) hx hb dX5_isHungry_80 (by decide) (fun c_19 => ?_) (fun c_19 => ?_)
    · have hf := bf_it hf c_19
      refine lv_aload_n hx hb dX5_isHungry_85 rfl (lv_at hl 0 rfl) ?_
      refine lv_iconst (v := 5) hx hb dX5_isHungry_86 (by decide) ?_
      refine lv_iload_n hx hb dX5_isHungry_87 rfl (lv_at hl 1 rfl) ?_
      refine lv_iload_n hx hb dX5_isHungry_88 rfl (lv_at hl 2 rfl) ?_
      obtain ⟨T_20, eT_20, hf⟩ := bf_b_some hf
      refine bf_tcv (n := 3) (As := [.int 5, .int x1, .int w79_2]) (rest := []) X hd (mX5_notes l G σ o T79 5 x1 w79_2 eT_20) (lw_V q1764 q1766 qs98 q156 q1767) (by decide +kernel) ⟨Nat.le_of_ble_eq_true rfl, Nat.le_of_ble_eq_true rfl⟩ rfl hl.1 rfl (Nat.le_of_ble_eq_true rfl) dX5_isHungry_89 ⟨Nat.le_of_ble_eq_true rfl, Nat.le_of_ble_eq_true rfl⟩ (fun H locs hd => ?_)
      refine lv_iconst (v := 1) hx hb dX5_isHungry_92 (by decide) ?_
      exact kret _ _ _ _ _ _ ⟨(bf_pr hf).1, congrArg (bf_pT G σ o) (bf_pr hf).2⟩ (Or.inr rfl) hd dX5_isHungry_93
    · have hf := bf_ie hf c_19
      refine lv_iconst (v := 0) hx hb dX5_isHungry_83 (by decide) ?_
      exact kret _ _ _ _ _ _ ⟨(bf_pr hf).1, congrArg (bf_pT G σ o) (bf_pr hf).2⟩ (Or.inl rfl) hd dX5_isHungry_84
  have L25 : ∀ (n25 : Nat) (v25_2 : Int32) (v25_3 : Int32) (T25 : bf_TS) (H : Heap) (locs : List Loc) (ls : Array Slot), fX5_isHungry_25 x1 n25 v25_2 v25_3 T25 = some (r, T') → bf_Dy G s H locs (bf_pT G σ o T25) → lv_has ls 4 [(0, .ref o), (1, .int x1), (2, .int v25_2), (3, .int v25_3)] → W p l e (bf_rm 7) s m ([.ref o, .int x1] : List Value).toArray below meth c H locs 0 0 Q (F0 m 25 ls []) := by
    intro n25
    induction n25 with
    | zero =>
      intro v25_2 v25_3 T25 H locs ls hf hd hl
      exact absurd (show (none : Option (Int32 × bf_TS)) = some (r, T') from hf) (by intro h; cases h)
    | succ n25 ih25 =>
      intro v25_2 v25_3 T25 H locs ls hf hd hl
      have hf : fX5_isHungry_25b x1 (fX5_isHungry_25 x1 n25) v25_2 v25_3 T25 = some (r, T') := hf
      unfold fX5_isHungry_25b at hf
      refine lv_iload_n hx hb dX5_isHungry_25 rfl (lv_at hl 2 rfl) ?_
      refine lv_if_le (tgt := 79) hx hb dX5_isHungry_26 (by decide) (fun c_21 => ?_) (fun c_21 => ?_)
      · have hf := bf_it hf c_21
        exact J79 v25_2 T25 _ _ _ hf hd (lv_sub hl [0, 1, 2] rfl)
      · have hf := bf_ie hf c_21
        refine lv_iload_n hx hb dX5_isHungry_29 rfl (lv_at hl 3 rfl) ?_
        refine lv_iconst (v := (-1)) hx hb dX5_isHungry_30 (by decide) ?_
        refine lv_icmp_eq (tgt := 79) hx hb dX5_isHungry_31 (by decide) (fun c_22 => ?_) (fun c_22 => ?_)
        · have hf := bf_it hf c_22
          exact J79 v25_2 T25 _ _ _ hf hd (lv_sub hl [0, 1, 2] rfl)
        · have hf := bf_ie hf c_22
          refine lv_aload_n hx hb dX5_isHungry_34 rfl (lv_at hl 0 rfl) ?_
          refine lv_iload_n hx hb dX5_isHungry_35 rfl (lv_at hl 3 rfl) ?_
          refine lv_aload_n hx hb dX5_isHungry_36 rfl (lv_at hl 0 rfl) ?_
          refine lv_iload_n hx hb dX5_isHungry_37 rfl (lv_at hl 1 rfl) ?_
          refine lv_iload_n hx hb dX5_isHungry_38 rfl (lv_at hl 3 rfl) ?_
          refine lv_iconst (v := (-1)) hx hb dX5_isHungry_39 (by decide) ?_
          obtain ⟨r_24, T_23, er_24, hf⟩ := bf_b2_some hf
          refine bf_tci (n := 3) (As := [.int x1, .int v25_3, .int (-1)]) (rest := [.int v25_3, .ref o]) X hd (mX5_countOf l G σ o T25 x1 v25_3 (-1) er_24) (lw_V q1860 q1862 qs119 q156 q1863) (by decide +kernel) ⟨Nat.le_of_ble_eq_true rfl, Nat.le_of_ble_eq_true rfl⟩ rfl hl.1 rfl (Nat.le_of_ble_eq_true rfl) dX5_isHungry_40 ⟨Nat.le_of_ble_eq_true rfl, Nat.le_of_ble_eq_true rfl⟩ (fun H locs hd => ?_)
          obtain ⟨T_25, eT_25, hf⟩ := bf_b_some hf
          refine bf_tcv (n := 2) (As := [.int v25_3, .int r_24]) (rest := []) X hd (mX5_counts l G σ o T_23 v25_3 r_24 eT_25) (lw_V q1864 q1866 qs120 q156 q1867) (by decide +kernel) ⟨Nat.le_of_ble_eq_true rfl, Nat.le_of_ble_eq_true rfl⟩ rfl hl.1 rfl (Nat.le_of_ble_eq_true rfl) dX5_isHungry_43 ⟨Nat.le_of_ble_eq_true rfl, Nat.le_of_ble_eq_true rfl⟩ (fun H locs hd => ?_)
          refine lv_aload_n hx hb dX5_isHungry_46 rfl (lv_at hl 0 rfl) ?_
          refine bf_tga X hd 1 (by decide) (by decide) q1384 dX5_isHungry_47 ?_
          refine lv_bipush (v := 15) hx hb dX5_isHungry_50 (by decide) ?_
          refine lv_iload_n hx hb dX5_isHungry_52 rfl (lv_at hl 3 rfl) ?_
          refine lv_iadd hx hb dX5_isHungry_53 ?_
          refine lv_aload_n hx hb dX5_isHungry_54 rfl (lv_at hl 0 rfl) ?_
          refine bf_tga X hd 1 (by decide) (by decide) q1384 dX5_isHungry_55 ?_
          refine lv_bipush (v := 15) hx hb dX5_isHungry_58 (by decide) ?_
          refine lv_iload_n hx hb dX5_isHungry_60 rfl (lv_at hl 3 rfl) ?_
          refine lv_iadd hx hb dX5_isHungry_61 ?_
          obtain ⟨g_26, hf⟩ := bf_c_some hf
          refine bf_tld X hd 1 (by decide) g_26 dX5_isHungry_62 ?_
          refine lv_iconst (v := 1) hx hb dX5_isHungry_63 (by decide) ?_
          refine lv_isub hx hb dX5_isHungry_64 ?_
          obtain ⟨g_27, hf⟩ := bf_c_some hf
          refine bf_tst X hd 1 (by decide) g_27 dX5_isHungry_65 (fun H locs hd => ?_)
          obtain ⟨T_28, eT_28, hf⟩ := bf_l_e hf
          have hd := hd.of (congrArg (bf_pT G σ o) eT_28.symm)
          refine lv_iload_n hx hb dX5_isHungry_66 rfl (lv_at hl 2 rfl) ?_
          refine lv_iconst (v := 1) hx hb dX5_isHungry_67 (by decide) ?_
          refine lv_isub hx hb dX5_isHungry_68 ?_
          obtain ⟨x2_29, ex2_29, hf⟩ := bf_l_e hf
          refine bf_top ex2_29 ?_
          refine lv_istore_n (lv' := [(2, .int x2_29), (0, .ref o), (1, .int x1), (3, .int v25_3)]) hx hb dX5_isHungry_69 rfl hl (by decide) rfl (fun ls hl => ?_)
          refine lv_aload_n hx hb dX5_isHungry_70 rfl (lv_at hl 1 rfl) ?_
          refine lv_iload_n hx hb dX5_isHungry_71 rfl (lv_at hl 2 rfl) ?_
          obtain ⟨r_30, er_30, hf⟩ := bf_b_some hf
          refine bf_tci (n := 1) (As := [.int x1]) (rest := []) X hd (mX5_jamFor l G σ o T_28 x1 er_30) (lw_V q1874 q1876 qs122 q156 q1877) (by decide +kernel) ⟨Nat.le_of_ble_eq_true rfl, Nat.le_of_ble_eq_true rfl⟩ rfl hl.1 rfl (Nat.le_of_ble_eq_true rfl) dX5_isHungry_72 ⟨Nat.le_of_ble_eq_true rfl, Nat.le_of_ble_eq_true rfl⟩ (fun H locs hd => ?_)
          refine lv_istore_n (lv' := [(3, .int r_30), (2, .int x2_29), (0, .ref o), (1, .int x1)]) hx hb dX5_isHungry_75 rfl hl (by decide) rfl (fun ls hl => ?_)
          refine lv_goto (tgt := 25) hx hb dX5_isHungry_76 (by decide) ?_
          exact ih25 x2_29 r_30 T_28 _ _ _ hf hd (lv_sub hl [2, 3, 1, 0] rfl)
  have J24 : ∀ (w24_2 : Int32) (t24_0 : Int32) (T24 : bf_TS) (H : Heap) (locs : List Loc) (ls : Array Slot), fX5_isHungry_24 x1 w24_2 t24_0 T24 = some (r, T') → bf_Dy G s H locs (bf_pT G σ o T24) → lv_has ls 4 [(0, .ref o), (1, .int x1), (2, .int w24_2)] → W p l e (bf_rm 7) s m ([.ref o, .int x1] : List Value).toArray below meth c H locs 0 0 Q (F0 m 24 ls [.int t24_0]) := by
    intro w24_2 t24_0 T24 H locs ls hf hd hl
    unfold fX5_isHungry_24 at hf
    refine lv_istore_n (lv' := [(3, .int t24_0), (0, .ref o), (1, .int x1), (2, .int w24_2)]) hx hb dX5_isHungry_24 rfl hl (by decide) rfl (fun ls hl => ?_)
    exact L25 bf_fuel w24_2 t24_0 T24 _ _ _ hf hd (lv_sub hl [1, 2, 3, 0] rfl)
  unfold fX5_isHungry at hf
  refine lv_aload_n hx hb dX5_isHungry_0 rfl (lv_at hl 0 rfl) ?_
  refine lv_iload_n hx hb dX5_isHungry_1 rfl (lv_at hl 1 rfl) ?_
  refine lv_aload_n hx hb dX5_isHungry_2 rfl (lv_at hl 0 rfl) ?_
  refine lv_iload_n hx hb dX5_isHungry_3 rfl (lv_at hl 1 rfl) ?_
  obtain ⟨r_32, T_31, er_32, hf⟩ := bf_b2_some hf
  refine bf_tci (n := 1) (As := [.int x1]) (rest := [.int x1, .ref o]) X hd (mX5_wantOf l G σ o T x1 er_32) (lw_V q1840 q1842 qs114 q156 q1843) (by decide +kernel) ⟨Nat.le_of_ble_eq_true rfl, Nat.le_of_ble_eq_true rfl⟩ rfl hl.1 rfl (Nat.le_of_ble_eq_true rfl) dX5_isHungry_4 ⟨Nat.le_of_ble_eq_true rfl, Nat.le_of_ble_eq_true rfl⟩ (fun H locs hd => ?_)
  obtain ⟨r_34, T_33, er_34, hf⟩ := bf_b2_some hf
  refine bf_tci (n := 2) (As := [.int x1, .int r_32]) (rest := []) X hd (mX5_leftByPath l G σ o T_31 x1 r_32 er_34) (lw_V q1844 q1846 qs115 q156 q1847) (by decide +kernel) ⟨Nat.le_of_ble_eq_true rfl, Nat.le_of_ble_eq_true rfl⟩ rfl hl.1 rfl (Nat.le_of_ble_eq_true rfl) dX5_isHungry_7 ⟨Nat.le_of_ble_eq_true rfl, Nat.le_of_ble_eq_true rfl⟩ (fun H locs hd => ?_)
  refine lv_istore_n (lv' := [(2, .int r_34), (0, .ref o), (1, .int x1)]) hx hb dX5_isHungry_10 rfl hl (by decide) rfl (fun ls hl => ?_)
  refine lv_iload_n hx hb dX5_isHungry_11 rfl (lv_at hl 0 rfl) ?_
  refine lv_if_le (tgt := 23) hx hb dX5_isHungry_12 (by decide) (fun c_35 => ?_) (fun c_35 => ?_)
  · have hf := bf_it hf c_35
    refine lv_iconst (v := (-1)) hx hb dX5_isHungry_23 (by decide) ?_
    exact J24 r_34 (-1) T_33 _ _ _ hf hd (lv_sub hl [1, 2, 0] rfl)
  · have hf := bf_ie hf c_35
    refine lv_aload_n hx hb dX5_isHungry_15 rfl (lv_at hl 1 rfl) ?_
    refine lv_iload_n hx hb dX5_isHungry_16 rfl (lv_at hl 2 rfl) ?_
    obtain ⟨r_36, er_36, hf⟩ := bf_b_some hf
    refine bf_tci (n := 1) (As := [.int x1]) (rest := []) X hd (mX5_jamFor l G σ o T_33 x1 er_36) (lw_V q1874 q1876 qs122 q156 q1877) (by decide +kernel) ⟨Nat.le_of_ble_eq_true rfl, Nat.le_of_ble_eq_true rfl⟩ rfl hl.1 rfl (Nat.le_of_ble_eq_true rfl) dX5_isHungry_17 ⟨Nat.le_of_ble_eq_true rfl, Nat.le_of_ble_eq_true rfl⟩ (fun H locs hd => ?_)
    refine lv_goto (tgt := 24) hx hb dX5_isHungry_20 (by decide) ?_
    exact J24 r_34 r_36 T_33 _ _ _ hf hd (lv_sub hl [1, 2, 0] rfl)
