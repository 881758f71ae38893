set_option maxRecDepth 100000
def fX5_at (T : bf_TS) (x1 : Int32) : Option (Int32 × bf_TS) := bf_l (bf_u2 T 0 0 0) fun T_1 => if (fX5_isPlace x1) = 0 then (some ((-1), T_1)) else (if (fX5_isFenced T_1 x1) = 0 then (some (0, T_1)) else (some (1, T_1)))
set_option maxHeartbeats 4000000 in
theorem mX5_at (l : Launch) (G : bf_G) (σ : bf_V) (o : Nat) (T : bf_TS) (x1 : Int32) {r : Int32} {T' : bf_TS} (hf : fX5_at T x1 = some (r, T')) : bf_MI l G yX5_at cX5_at 2 (bf_rm 2) [.ref o, .int x1] (bf_pT G σ o T) (fun v σ' => v = r ∧ σ' = bf_pT G σ o T') := by
  refine bf_MI.of rfl (Nat.le_of_ble_eq_true rfl) ?_
  intro p e s m below meth c Q X hlk hnm kret hd ls hl
  have hx := X.1
  have hb := X.2.1
  have hown := X.2.2.2.1
  have hts := X.2.2.2.2
  have hl : lv_has ls 2 [(0, .ref o), (1, .int x1)] := hl
  unfold fX5_at at hf
  refine lv_aload_n hx hb dX5_at_0 rfl (lv_at hl 0 rfl) ?_
  refine lv_iconst (v := 0) hx hb dX5_at_1 (by decide) ?_
  refine bf_tpi X hd 0 (by decide) ⟨rfl, rfl, rfl⟩ q1383 dX5_at_2 (fun H locs hd => ?_)
  obtain ⟨T_6, eT_6, hf⟩ := bf_l_e hf
  have hd := hd.of (congrArg (bf_pT G σ o) eT_6.symm)
  refine lv_aload_n hx hb dX5_at_5 rfl (lv_at hl 0 rfl) ?_
  refine lv_iload_n hx hb dX5_at_6 rfl (lv_at hl 1 rfl) ?_
  refine bf_tcz (n := 1) (As := [.int x1]) (rest := []) X hd (mX5_isPlace l G σ o T_6 x1 rfl) (lw_V q1752 q1754 qs95 q156 q1755) (by decide +kernel) ⟨Nat.le_of_ble_eq_true rfl, Nat.le_of_ble_eq_true rfl⟩ rfl hl.1 rfl (Nat.le_of_ble_eq_true rfl) dX5_at_7 ⟨Nat.le_of_ble_eq_true rfl, Nat.le_of_ble_eq_true rfl⟩ (fun H locs z_7 hd => ?_)
  refine lv_if_eq (tgt := 29) hx hb dX5_at_10 (by decide) (fun c_8 => ?_) (fun c_8 => ?_)
  · have hf := bf_it hf c_8
    refine lv_iconst (v := (-1)) hx hb dX5_at_29 (by decide) ?_
    exact kret _ _ _ _ _ _ ⟨(bf_pr hf).1, congrArg (bf_pT G σ o) (bf_pr hf).2⟩ hd dX5_at_30
  · have hf := bf_ie hf c_8
    refine lv_aload_n hx hb dX5_at_13 rfl (lv_at hl 0 rfl) ?_
    refine lv_iload_n hx hb dX5_at_14 rfl (lv_at hl 1 rfl) ?_
    refine bf_tcz (n := 1) (As := [.int x1]) (rest := []) X hd (mX5_isFenced l G σ o T_6 x1 rfl) (lw_V q1772 q1774 qs99 q156 q1775) (by decide +kernel) ⟨Nat.le_of_ble_eq_true rfl, Nat.le_of_ble_eq_true rfl⟩ rfl hl.1 rfl (Nat.le_of_ble_eq_true rfl) dX5_at_15 ⟨Nat.le_of_ble_eq_true rfl, Nat.le_of_ble_eq_true rfl⟩ (fun H locs z_9 hd => ?_)
    refine lv_if_eq (tgt := 25) hx hb dX5_at_18 (by decide) (fun c_10 => ?_) (fun c_10 => ?_)
    · have hf := bf_it hf c_10
      refine lv_iconst (v := 0) hx hb dX5_at_25 (by decide) ?_
      refine lv_goto (tgt := 30) hx hb dX5_at_26 (by decide) ?_
      exact kret _ _ _ _ _ _ ⟨(bf_pr hf).1, congrArg (bf_pT G σ o) (bf_pr hf).2⟩ hd dX5_at_30
    · have hf := bf_ie hf c_10
      refine lv_iconst (v := 1) hx hb dX5_at_21 (by decide) ?_
      refine lv_goto (tgt := 30) hx hb dX5_at_22 (by decide) ?_
      exact kret _ _ _ _ _ _ ⟨(bf_pr hf).1, congrArg (bf_pT G σ o) (bf_pr hf).2⟩ hd dX5_at_30
def fX5_book (T : bf_TS) (x1 x2 : Int32) : Option (Int32 × bf_TS) := bf_l (bf_u2 T 0 0 0) fun T_1 => if (fX5_isIn x1 0 ((T_1 1 2) - 1)) = 0 then (some ((-1), T_1)) else (if (fX5_isIn x2 0 3) = 0 then (some ((-1), T_1)) else (bf_c (bf_in ((4 * x1) + x2) 600) <| some ((T_1 12 ((4 * x1) + x2).toNatClampNeg), T_1)))
set_option maxHeartbeats 4000000 in
theorem mX5_book (l : Launch) (G : bf_G) (σ : bf_V) (o : Nat) (T : bf_TS) (x1 x2 : Int32) {r : Int32} {T' : bf_TS} (hf : fX5_book T x1 x2 = some (r, T')) : bf_MI l G yX5_book cX5_book 3 (bf_rm 1) [.ref o, .int x1, .int x2] (bf_pT G σ o T) (fun v σ' => v = r ∧ σ' = bf_pT G σ o T') := by
  refine bf_MI.of rfl (Nat.le_of_ble_eq_true rfl) ?_
  intro p e s m below meth c Q X hlk hnm kret hd ls hl
  have hx := X.1
  have hb := X.2.1
  have hown := X.2.2.2.1
  have hts := X.2.2.2.2
  have hl : lv_has ls 3 [(0, .ref o), (1, .int x1), (2, .int x2)] := hl
  unfold fX5_book at hf
  refine lv_aload_n hx hb dX5_book_0 rfl (lv_at hl 0 rfl) ?_
  refine lv_iconst (v := 0) hx hb dX5_book_1 (by decide) ?_
  refine bf_tpi X hd 0 (by decide) ⟨rfl, rfl, rfl⟩ q1383 dX5_book_2 (fun H locs hd => ?_)
  obtain ⟨T_7, eT_7, hf⟩ := bf_l_e hf
  have hd := hd.of (congrArg (bf_pT G σ o) eT_7.symm)
  refine lv_aload_n hx hb dX5_book_5 rfl (lv_at hl 0 rfl) ?_
  refine lv_iload_n hx hb dX5_book_6 rfl (lv_at hl 1 rfl) ?_
  refine lv_iconst (v := 0) hx hb dX5_book_7 (by decide) ?_
  refine lv_aload_n hx hb dX5_book_8 rfl (lv_at hl 0 rfl) ?_
  refine bf_tga X hd 1 (by decide) (by decide) q1384 dX5_book_9 ?_
  refine lv_iconst (v := 2) hx hb dX5_book_12 (by decide) ?_
  refine bf_tld X hd 1 (by decide) (by decide) dX5_book_13 ?_
  refine lv_iconst (v := 1) hx hb dX5_book_14 (by decide) ?_
  refine lv_isub hx hb dX5_book_15 ?_
  refine bf_tcz (n := 3) (As := [.int x1, .int 0, .int ((T_7 1 2) - 1)]) (rest := []) X hd (mX5_isIn l G σ o T_7 x1 0 ((T_7 1 2) - 1) rfl) (lw_V q1564 q1566 qs56 q156 q1567) (by decide +kernel) ⟨Nat.le_of_ble_eq_true rfl, Nat.le_of_ble_eq_true rfl⟩ rfl hl.1 rfl (Nat.le_of_ble_eq_true rfl) dX5_book_16 ⟨Nat.le_of_ble_eq_true rfl, Nat.le_of_ble_eq_true rfl⟩ (fun H locs z_8 hd => ?_)
  refine lv_if_eq (tgt := 45) hx hb dX5_book_19 (by decide) (fun c_9 => ?_) (fun c_9 => ?_)
  · have hf := bf_it hf c_9
    refine lv_iconst (v := (-1)) hx hb dX5_book_45 (by decide) ?_
    exact kret _ _ _ _ _ _ ⟨(bf_pr hf).1, congrArg (bf_pT G σ o) (bf_pr hf).2⟩ hd dX5_book_46
  · have hf := bf_ie hf c_9
    refine lv_aload_n hx hb dX5_book_22 rfl (lv_at hl 0 rfl) ?_
    refine lv_iload_n hx hb dX5_book_23 rfl (lv_at hl 2 rfl) ?_
    refine lv_iconst (v := 0) hx hb dX5_book_24 (by decide) ?_
    refine lv_iconst (v := 3) hx hb dX5_book_25 (by decide) ?_
    refine bf_tcz (n := 3) (As := [.int x2, .int 0, .int 3]) (rest := []) X hd (mX5_isIn l G σ o T_7 x2 0 3 rfl) (lw_V q1564 q1566 qs56 q156 q1567) (by decide +kernel) ⟨Nat.le_of_ble_eq_true rfl, Nat.le_of_ble_eq_true rfl⟩ rfl hl.1 rfl (Nat.le_of_ble_eq_true rfl) dX5_book_26 ⟨Nat.le_of_ble_eq_true rfl, Nat.le_of_ble_eq_true rfl⟩ (fun H locs z_10 hd => ?_)
    refine lv_if_eq (tgt := 45) hx hb dX5_book_29 (by decide) (fun c_11 => ?_) (fun c_11 => ?_)
    · have hf := bf_it hf c_11
      refine lv_iconst (v := (-1)) hx hb dX5_book_45 (by decide) ?_
      exact kret _ _ _ _ _ _ ⟨(bf_pr hf).1, congrArg (bf_pT G σ o) (bf_pr hf).2⟩ hd dX5_book_46
    · have hf := bf_ie hf c_11
      refine lv_aload_n hx hb dX5_book_32 rfl (lv_at hl 0 rfl) ?_
      refine bf_tga X hd 12 (by decide) (by decide) q1395 dX5_book_33 ?_
      refine lv_iconst (v := 4) hx hb dX5_book_36 (by decide) ?_
      refine lv_iload_n hx hb dX5_book_37 rfl (lv_at hl 1 rfl) ?_
      refine lv_imul hx hb dX5_book_38 ?_
      refine lv_iload_n hx hb dX5_book_39 rfl (lv_at hl 2 rfl) ?_
      refine lv_iadd hx hb dX5_book_40 ?_
      obtain ⟨g_12, hf⟩ := bf_c_some hf
      refine bf_tld X hd 12 (by decide) g_12 dX5_book_41 ?_
      refine lv_goto (tgt := 46) hx hb dX5_book_42 (by decide) ?_
      exact kret _ _ _ _ _ _ ⟨(bf_pr hf).1, congrArg (bf_pT G σ o) (bf_pr hf).2⟩ hd dX5_book_46
def fX5_goes_99 (t99_0 : Int32) (T99 : bf_TS) : Option (Int32 × bf_TS) := bf_b (fX5_endsThought T99) fun T_8 => some (t99_0, T_8)
def fX5_goes_42 (x1 : Int32) (x2 : Int32) (x3 : Int32) (T42 : bf_TS) : Option (Int32 × bf_TS) := bf_b (fX5_thinks T42) fun T_1 => bf_b (fX5_goesFor T_1 x1) fun T_2 => if x3 = 0 then (bf_c (bf_in (10 + x2) 136) <| fX5_goes_99 (T_2 1 (10 + x2).toNatClampNeg) T_2) else (if x3 = 1 then (bf_c (bf_in (5 + x2) 136) <| fX5_goes_99 (T_2 1 (5 + x2).toNatClampNeg) T_2) else (if x3 = 2 then (fX5_goes_99 (T_2 44 0) T_2) else (fX5_goes_99 (T_2 45 0) T_2)))
def fX5_goes (T : bf_TS) (x1 x2 x3 : Int32) : Option (Int32 × bf_TS) := bf_l (bf_u2 T 0 0 0) fun T_9 => if (fX5_isIn x1 1 60) = 0 then (some ((-2), T_9)) else (if (fX5_isIn x3 0 3) = 0 then (some ((-2), T_9)) else (if 2 ≤ x3 then (fX5_goes_42 x1 x2 x3 T_9) else (if (fX5_isParty T_9 x2) = 0 then (some ((-2), T_9)) else (fX5_goes_42 x1 x2 x3 T_9))))
set_option maxHeartbeats 4000000 in
theorem mX5_goes (l : Launch) (G : bf_G) (σ : bf_V) (o : Nat) (T : bf_TS) (x1 x2 x3 : Int32) {r : Int32} {T' : bf_TS} (hf : fX5_goes T x1 x2 x3 = some (r, T')) : bf_MI l G yX5_goes cX5_goes 5 (bf_rm 11) [.ref o, .int x1, .int x2, .int x3] (bf_pT G σ o T) (fun v σ' => v = r ∧ σ' = bf_pT G σ o T') := by
  refine bf_MI.of rfl (Nat.le_of_ble_eq_true rfl) ?_
  intro p e s m below meth c Q X hlk hnm kret hd ls hl
  have hx := X.1
  have hb := X.2.1
  have hown := X.2.2.2.1
  have hts := X.2.2.2.2
  have hl : lv_has ls 5 [(0, .ref o), (1, .int x1), (2, .int x2), (3, .int x3)] := hl
  have J99 : ∀ (t99_0 : Int32) (T99 : bf_TS) (H : Heap) (locs : List Loc) (ls : Array Slot), fX5_goes_99 t99_0 T99 = some (r, T') → bf_Dy G s H locs (bf_pT G σ o T99) → lv_has ls 5 [(0, .ref o)] → W p l e (bf_rm 11) s m ([.ref o, .int x1, .int x2, .int x3] : List Value).toArray below meth c H locs 0 0 Q (F0 m 99 ls [.int t99_0]) := by
    intro t99_0 T99 H locs ls hf hd hl
    unfold fX5_goes_99 at hf
    refine lv_istore (lv' := [(4, .int t99_0), (0, .ref o)]) hx hb dX5_goes_99 hl (by decide) rfl (fun ls hl => ?_)
    refine lv_aload_n hx hb dX5_goes_101 rfl (lv_at hl 1 rfl) ?_
    obtain ⟨T_17, eT_17, hf⟩ := bf_b_some hf
    refine bf_tcv (n := 0) (As := []) (rest := []) X hd (mX5_endsThought l G σ o T99 eT_17) (lw_V q1942 q1944 qs133 q156 q1945) (by decide +kernel) ⟨Nat.le_of_ble_eq_true rfl, Nat.le_of_ble_eq_true rfl⟩ rfl hl.1 rfl (Nat.le_of_ble_eq_true rfl) dX5_goes_102 ⟨Nat.le_of_ble_eq_true rfl, Nat.le_of_ble_eq_true rfl⟩ (fun H locs hd => ?_)
    refine lv_iload hx hb dX5_goes_105 (lv_at hl 0 rfl) ?_
    exact kret _ _ _ _ _ _ ⟨(bf_pr hf).1, congrArg (bf_pT G σ o) (bf_pr hf).2⟩ hd dX5_goes_107
  have J42 : ∀ (T42 : bf_TS) (H : Heap) (locs : List Loc) (ls : Array Slot), fX5_goes_42 x1 x2 x3 T42 = some (r, T') → bf_Dy G s H locs (bf_pT G σ o T42) → lv_has ls 5 [(0, .ref o), (1, .int x1), (2, .int x2), (3, .int x3)] → W p l e (bf_rm 11) s m ([.ref o, .int x1, .int x2, .int x3] : List Value).toArray below meth c H locs 0 0 Q (F0 m 42 ls []) := by
    intro T42 H locs ls hf hd hl
    unfold fX5_goes_42 at hf
    refine lv_aload_n hx hb dX5_goes_42 rfl (lv_at hl 0 rfl) ?_
    obtain ⟨T_18, eT_18, hf⟩ := bf_b_some hf
    refine bf_tcv (n := 0) (As := []) (rest := []) X hd (mX5_thinks l G σ o T42 eT_18) (lw_V q1934 q1936 qs131 q156 q1937) (by decide +kernel) ⟨Nat.le_of_ble_eq_true rfl, Nat.le_of_ble_eq_true rfl⟩ rfl hl.1 rfl (Nat.le_of_ble_eq_true rfl) dX5_goes_43 ⟨Nat.le_of_ble_eq_true rfl, Nat.le_of_ble_eq_true rfl⟩ (fun H locs hd => ?_)
    refine lv_aload_n hx hb dX5_goes_46 rfl (lv_at hl 0 rfl) ?_
    refine lv_iload_n hx hb dX5_goes_47 rfl (lv_at hl 1 rfl) ?_
    obtain ⟨T_19, eT_19, hf⟩ := bf_b_some hf
    refine bf_tcv (n := 1) (As := [.int x1]) (rest := []) X hd (mX5_goesFor l G σ o T_18 x1 eT_19) (lw_V q1938 q1940 qs132 q156 q1941) (by decide +kernel) ⟨Nat.le_of_ble_eq_true rfl, Nat.le_of_ble_eq_true rfl⟩ rfl hl.1 rfl (Nat.le_of_ble_eq_true rfl) dX5_goes_48 ⟨Nat.le_of_ble_eq_true rfl, Nat.le_of_ble_eq_true rfl⟩ (fun H locs hd => ?_)
    refine lv_iload_n hx hb dX5_goes_51 rfl (lv_at hl 3 rfl) ?_
    refine lv_if_ne (tgt := 67) hx hb dX5_goes_52 (by decide) (fun c_20 => ?_) (fun c_20 => ?_)
    · have hf := bf_ie hf c_20
      refine lv_iload_n hx hb dX5_goes_67 rfl (lv_at hl 3 rfl) ?_
      refine lv_iconst (v := 1) hx hb dX5_goes_68 (by decide) ?_
      refine lv_icmp_ne (tgt := 83) hx hb dX5_goes_69 (by decide) (fun c_21 => ?_) (fun c_21 => ?_)
      · have hf := bf_ie hf c_21
        refine lv_iload_n hx hb dX5_goes_83 rfl (lv_at hl 3 rfl) ?_
        refine lv_iconst (v := 2) hx hb dX5_goes_84 (by decide) ?_
        refine lv_icmp_ne (tgt := 95) hx hb dX5_goes_85 (by decide) (fun c_22 => ?_) (fun c_22 => ?_)
        · have hf := bf_ie hf c_22
          refine lv_aload_n hx hb dX5_goes_95 rfl (lv_at hl 0 rfl) ?_
          refine bf_tgi X hd 45 (by decide) rfl q1428 dX5_goes_96 ?_
          exact J99 (T_19 45 0) T_19 _ _ _ hf hd (lv_sub hl [0] rfl)
        · have hf := bf_it hf c_22
          refine lv_aload_n hx hb dX5_goes_88 rfl (lv_at hl 0 rfl) ?_
          refine bf_tgi X hd 44 (by decide) rfl q1427 dX5_goes_89 ?_
          refine lv_goto (tgt := 99) hx hb dX5_goes_92 (by decide) ?_
          exact J99 (T_19 44 0) T_19 _ _ _ hf hd (lv_sub hl [0] rfl)
      · have hf := bf_it hf c_21
        refine lv_aload_n hx hb dX5_goes_72 rfl (lv_at hl 0 rfl) ?_
        refine bf_tga X hd 1 (by decide) (by decide) q1384 dX5_goes_73 ?_
        refine lv_iconst (v := 5) hx hb dX5_goes_76 (by decide) ?_
        refine lv_iload_n hx hb dX5_goes_77 rfl (lv_at hl 2 rfl) ?_
        refine lv_iadd hx hb dX5_goes_78 ?_
        obtain ⟨g_23, hf⟩ := bf_c_some hf
        refine bf_tld X hd 1 (by decide) g_23 dX5_goes_79 ?_
        refine lv_goto (tgt := 99) hx hb dX5_goes_80 (by decide) ?_
        exact J99 (T_19 1 (5 + x2).toNatClampNeg) T_19 _ _ _ hf hd (lv_sub hl [0] rfl)
    · have hf := bf_it hf c_20
      refine lv_aload_n hx hb dX5_goes_55 rfl (lv_at hl 0 rfl) ?_
      refine bf_tga X hd 1 (by decide) (by decide) q1384 dX5_goes_56 ?_
      refine lv_bipush (v := 10) hx hb dX5_goes_59 (by decide) ?_
      refine lv_iload_n hx hb dX5_goes_61 rfl (lv_at hl 2 rfl) ?_
      refine lv_iadd hx hb dX5_goes_62 ?_
      obtain ⟨g_24, hf⟩ := bf_c_some hf
      refine bf_tld X hd 1 (by decide) g_24 dX5_goes_63 ?_
      refine lv_goto (tgt := 99) hx hb dX5_goes_64 (by decide) ?_
      exact J99 (T_19 1 (10 + x2).toNatClampNeg) T_19 _ _ _ hf hd (lv_sub hl [0] rfl)
  unfold fX5_goes at hf
  refine lv_aload_n hx hb dX5_goes_0 rfl (lv_at hl 0 rfl) ?_
  refine lv_iconst (v := 0) hx hb dX5_goes_1 (by decide) ?_
  refine bf_tpi X hd 0 (by decide) ⟨rfl, rfl, rfl⟩ q1383 dX5_goes_2 (fun H locs hd => ?_)
  obtain ⟨T_25, eT_25, hf⟩ := bf_l_e hf
  have hd := hd.of (congrArg (bf_pT G σ o) eT_25.symm)
  refine lv_aload_n hx hb dX5_goes_5 rfl (lv_at hl 0 rfl) ?_
  refine lv_iload_n hx hb dX5_goes_6 rfl (lv_at hl 1 rfl) ?_
  refine lv_iconst (v := 1) hx hb dX5_goes_7 (by decide) ?_
  refine lv_bipush (v := 60) hx hb dX5_goes_8 (by decide) ?_
  refine bf_tcz (n := 3) (As := [.int x1, .int 1, .int 60]) (rest := []) X hd (mX5_isIn l G σ o T_25 x1 1 60 rfl) (lw_V q1564 q1566 qs56 q156 q1567) (by decide +kernel) ⟨Nat.le_of_ble_eq_true rfl, Nat.le_of_ble_eq_true rfl⟩ rfl hl.1 rfl (Nat.le_of_ble_eq_true rfl) dX5_goes_10 ⟨Nat.le_of_ble_eq_true rfl, Nat.le_of_ble_eq_true rfl⟩ (fun H locs z_26 hd => ?_)
  refine lv_if_eq (tgt := 39) hx hb dX5_goes_13 (by decide) (fun c_27 => ?_) (fun c_27 => ?_)
  · have hf := bf_it hf c_27
    refine lv_bipush (v := (-2)) hx hb dX5_goes_39 (by decide) ?_
    exact kret _ _ _ _ _ _ ⟨(bf_pr hf).1, congrArg (bf_pT G σ o) (bf_pr hf).2⟩ hd dX5_goes_41
  · have hf := bf_ie hf c_27
    refine lv_aload_n hx hb dX5_goes_16 rfl (lv_at hl 0 rfl) ?_
    refine lv_iload_n hx hb dX5_goes_17 rfl (lv_at hl 3 rfl) ?_
    refine lv_iconst (v := 0) hx hb dX5_goes_18 (by decide) ?_
    refine lv_iconst (v := 3) hx hb dX5_goes_19 (by decide) ?_
    refine bf_tcz (n := 3) (As := [.int x3, .int 0, .int 3]) (rest := []) X hd (mX5_isIn l G σ o T_25 x3 0 3 rfl) (lw_V q1564 q1566 qs56 q156 q1567) (by decide +kernel) ⟨Nat.le_of_ble_eq_true rfl, Nat.le_of_ble_eq_true rfl⟩ rfl hl.1 rfl (Nat.le_of_ble_eq_true rfl) dX5_goes_20 ⟨Nat.le_of_ble_eq_true rfl, Nat.le_of_ble_eq_true rfl⟩ (fun H locs z_28 hd => ?_)
    refine lv_if_eq (tgt := 39) hx hb dX5_goes_23 (by decide) (fun c_29 => ?_) (fun c_29 => ?_)
    · have hf := bf_it hf c_29
      refine lv_bipush (v := (-2)) hx hb dX5_goes_39 (by decide) ?_
      exact kret _ _ _ _ _ _ ⟨(bf_pr hf).1, congrArg (bf_pT G σ o) (bf_pr hf).2⟩ hd dX5_goes_41
    · have hf := bf_ie hf c_29
      refine lv_iload_n hx hb dX5_goes_26 rfl (lv_at hl 3 rfl) ?_
      refine lv_iconst (v := 2) hx hb dX5_goes_27 (by decide) ?_
      refine lv_icmp_ge (tgt := 42) hx hb dX5_goes_28 (by decide) (fun c_30 => ?_) (fun c_30 => ?_)
      · have hf := bf_it hf c_30
        exact J42 T_25 _ _ _ hf hd (lv_sub hl [0, 1, 2, 3] rfl)
      · have hf := bf_ie hf c_30
        refine lv_aload_n hx hb dX5_goes_31 rfl (lv_at hl 0 rfl) ?_
        refine lv_iload_n hx hb dX5_goes_32 rfl (lv_at hl 2 rfl) ?_
        refine bf_tcz (n := 1) (As := [.int x2]) (rest := []) X hd (mX5_isParty l G σ o T_25 x2 rfl) (lw_V q1580 q1582 qs58 q156 q1583) (by decide +kernel) ⟨Nat.le_of_ble_eq_true rfl, Nat.le_of_ble_eq_true rfl⟩ rfl hl.1 rfl (Nat.le_of_ble_eq_true rfl) dX5_goes_33 ⟨Nat.le_of_ble_eq_true rfl, Nat.le_of_ble_eq_true rfl⟩ (fun H locs z_31 hd => ?_)
        refine lv_if_ne (tgt := 42) hx hb dX5_goes_36 (by decide) (fun c_32 => ?_) (fun c_32 => ?_)
        · have hf := bf_ie hf c_32
          exact J42 T_25 _ _ _ hf hd (lv_sub hl [0, 1, 2, 3] rfl)
        · have hf := bf_it hf c_32
          refine lv_bipush (v := (-2)) hx hb dX5_goes_39 (by decide) ?_
          exact kret _ _ _ _ _ _ ⟨(bf_pr hf).1, congrArg (bf_pT G σ o) (bf_pr hf).2⟩ hd dX5_goes_41
def fX5_falls (T : bf_TS) (x1 : Int32) : Option (Int32 × bf_TS) := bf_l (bf_u2 T 0 0 0) fun T_1 => if (fX5_isParty T_1 x1) = 0 then (some ((-1), T_1)) else (bf_b (fX5_findsGiven T_1) fun T_4 => bf_c (bf_in x1 5) <| some ((T_4 46 (x1).toNatClampNeg), T_4))
set_option maxHeartbeats 4000000 in
theorem mX5_falls (l : Launch) (G : bf_G) (σ : bf_V) (o : Nat) (T : bf_TS) (x1 : Int32) {r : Int32} {T' : bf_TS} (hf : fX5_falls T x1 = some (r, T')) : bf_MI l G yX5_falls cX5_falls 2 (bf_rm 2) [.ref o, .int x1] (bf_pT G σ o T) (fun v σ' => v = r ∧ σ' = bf_pT G σ o T') := by
  refine bf_MI.of rfl (Nat.le_of_ble_eq_true rfl) ?_
  intro p e s m below meth c Q X hlk hnm kret hd ls hl
  have hx := X.1
  have hb := X.2.1
  have hown := X.2.2.2.1
  have hts := X.2.2.2.2
  have hl : lv_has ls 2 [(0, .ref o), (1, .int x1)] := hl
  unfold fX5_falls at hf
  refine lv_aload_n hx hb dX5_falls_0 rfl (lv_at hl 0 rfl) ?_
  refine lv_iconst (v := 0) hx hb dX5_falls_1 (by decide) ?_
  refine bf_tpi X hd 0 (by decide) ⟨rfl, rfl, rfl⟩ q1383 dX5_falls_2 (fun H locs hd => ?_)
  obtain ⟨T_6, eT_6, hf⟩ := bf_l_e hf
  have hd := hd.of (congrArg (bf_pT G σ o) eT_6.symm)
  refine lv_aload_n hx hb dX5_falls_5 rfl (lv_at hl 0 rfl) ?_
  refine lv_iload_n hx hb dX5_falls_6 rfl (lv_at hl 1 rfl) ?_
  refine bf_tcz (n := 1) (As := [.int x1]) (rest := []) X hd (mX5_isParty l G σ o T_6 x1 rfl) (lw_V q1580 q1582 qs58 q156 q1583) (by decide +kernel) ⟨Nat.le_of_ble_eq_true rfl, Nat.le_of_ble_eq_true rfl⟩ rfl hl.1 rfl (Nat.le_of_ble_eq_true rfl) dX5_falls_7 ⟨Nat.le_of_ble_eq_true rfl, Nat.le_of_ble_eq_true rfl⟩ (fun H locs z_7 hd => ?_)
  refine lv_if_ne (tgt := 15) hx hb dX5_falls_10 (by decide) (fun c_8 => ?_) (fun c_8 => ?_)
  · have hf := bf_ie hf c_8
    refine lv_aload_n hx hb dX5_falls_15 rfl (lv_at hl 0 rfl) ?_
    obtain ⟨T_9, eT_9, hf⟩ := bf_b_some hf
    refine bf_tcv (n := 0) (As := []) (rest := []) X hd (mX5_findsGiven l G σ o T_6 eT_9) (lw_V q1890 q1892 qs126 q156 q1893) (by decide +kernel) ⟨Nat.le_of_ble_eq_true rfl, Nat.le_of_ble_eq_true rfl⟩ rfl hl.1 rfl (Nat.le_of_ble_eq_true rfl) dX5_falls_16 ⟨Nat.le_of_ble_eq_true rfl, Nat.le_of_ble_eq_true rfl⟩ (fun H locs hd => ?_)
    refine lv_aload_n hx hb dX5_falls_19 rfl (lv_at hl 0 rfl) ?_
    refine bf_tga X hd 46 (by decide) (by decide) q1429 dX5_falls_20 ?_
    refine lv_iload_n hx hb dX5_falls_23 rfl (lv_at hl 1 rfl) ?_
    obtain ⟨g_10, hf⟩ := bf_c_some hf
    refine bf_tld X hd 46 (by decide) g_10 dX5_falls_24 ?_
    exact kret _ _ _ _ _ _ ⟨(bf_pr hf).1, congrArg (bf_pT G σ o) (bf_pr hf).2⟩ hd dX5_falls_25
  · have hf := bf_it hf c_8
    refine lv_iconst (v := (-1)) hx hb dX5_falls_13 (by decide) ?_
    exact kret _ _ _ _ _ _ ⟨(bf_pr hf).1, congrArg (bf_pT G σ o) (bf_pr hf).2⟩ hd dX5_falls_14
def fX5_brings_132 (x3 : Int32) (w132_4 : Int32) (w132_5 : Int32) (T132 : bf_TS) : Option (Int32 × bf_TS) := bf_b (fX5_endsThought T132) fun T_10 => if x3 = 0 then (some (w132_4, T_10)) else (some (w132_5, T_10))
def fX5_brings_112 (k65 : Int32 → Int32 → Int32 → bf_TS → Option (Int32 × bf_TS)) (x1 : Int32) (x2 : Int32) (x3 : Int32) (w112_5 : Int32) (w112_6 : Int32) (t112_0 : Int32) (T112 : bf_TS) : Option (Int32 × bf_TS) := bf_l ((fX5_greater w112_5 (T112 42 0))) fun x5_8 => bf_l (w112_6 + 1) fun x6_9 => k65 t112_0 x5_8 x6_9 T112
def fX5_brings_65b (x1 : Int32) (x2 : Int32) (x3 : Int32) (k65 : Int32 → Int32 → Int32 → bf_TS → Option (Int32 × bf_TS)) (v65_4 : Int32) (v65_5 : Int32) (v65_6 : Int32) (T65 : bf_TS) : Option (Int32 × bf_TS) := if 10 ≤ v65_6 then (fX5_brings_132 x3 v65_4 v65_5 T65) else (bf_b (fX5_thinksAnew T65) fun T_2 => bf_l (bf_u2 T_2 42 0 0) fun T_3 => bf_b2 (fX5_plants T_3 x1 v65_6 10) fun r_5 T_4 => bf_b (fX5_goesFor T_4 x2) fun T_6 => if (T_6 42 0) ≤ v65_5 then (fX5_brings_112 k65 x1 x2 x3 v65_5 v65_6 v65_4 T_6) else (fX5_brings_112 k65 x1 x2 x3 v65_5 v65_6 v65_6 T_6))
def fX5_brings_65 (x1 : Int32) (x2 : Int32) (x3 : Int32) : Nat → Int32 → Int32 → Int32 → bf_TS → Option (Int32 × bf_TS)
  | 0, _, _, _, _ => none
  | n + 1, v65_4, v65_5, v65_6, T65 => fX5_brings_65b x1 x2 x3 (fX5_brings_65 x1 x2 x3 n) v65_4 v65_5 v65_6 T65
def fX5_brings (T : bf_TS) (x1 x2 x3 : Int32) : Option (Int32 × bf_TS) := bf_l (bf_u2 T 0 0 0) fun T_12 => if (fX5_isParty T_12 x1) = 0 then (some ((-1), T_12)) else (if (fX5_isIn x2 1 20) = 0 then (some ((-1), T_12)) else (if (fX5_isIn x3 0 1) = 0 then (some ((-1), T_12)) else (if (T_12 1 4) = 14 then (some ((-1), T_12)) else (bf_b (fX5_thinks T_12) fun T_20 => bf_l (bf_u2 T_20 43 0 x1) fun T_21 => fX5_brings_65 x1 x2 x3 bf_fuel (-1) (-1) 0 T_21))))
set_option maxHeartbeats 4000000 in
theorem mX5_brings (l : Launch) (G : bf_G) (σ : bf_V) (o : Nat) (T : bf_TS) (x1 x2 x3 : Int32) {r : Int32} {T' : bf_TS} (hf : fX5_brings T x1 x2 x3 = some (r, T')) : bf_MI l G yX5_brings cX5_brings 7 (bf_rm 11) [.ref o, .int x1, .int x2, .int x3] (bf_pT G σ o T) (fun v σ' => v = r ∧ σ' = bf_pT G σ o T') := by
  refine bf_MI.of rfl (Nat.le_of_ble_eq_true rfl) ?_
  intro p e s m below meth c Q X hlk hnm kret hd ls hl
  have hx := X.1
  have hb := X.2.1
  have hown := X.2.2.2.1
  have hts := X.2.2.2.2
  have hl : lv_has ls 7 [(0, .ref o), (1, .int x1), (2, .int x2), (3, .int x3)] := hl
  have J132 : ∀ (w132_4 : Int32) (w132_5 : Int32) (T132 : bf_TS) (H : Heap) (locs : List Loc) (ls : Array Slot), fX5_brings_132 x3 w132_4 w132_5 T132 = some (r, T') → bf_Dy G s H locs (bf_pT G σ o T132) → lv_has ls 7 [(0, .ref o), (3, .int x3), (4, .int w132_4), (5, .int w132_5)] → W p l e (bf_rm 11) s m ([.ref o, .int x1, .int x2, .int x3] : List Value).toArray below meth c H locs 0 0 Q (F0 m 132 ls []) := by
    intro w132_4 w132_5 T132 H locs ls hf hd hl
    unfold fX5_brings_132 at hf
    refine lv_aload_n hx hb dX5_brings_132 rfl (lv_at hl 0 rfl) ?_
    obtain ⟨T_22, eT_22, hf⟩ := bf_b_some hf
    refine bf_tcv (n := 0) (As := []) (rest := []) X hd (mX5_endsThought l G σ o T132 eT_22) (lw_V q1942 q1944 qs133 q156 q1945) (by decide +kernel) ⟨Nat.le_of_ble_eq_true rfl, Nat.le_of_ble_eq_true rfl⟩ rfl hl.1 rfl (Nat.le_of_ble_eq_true rfl) dX5_brings_133 ⟨Nat.le_of_ble_eq_true rfl, Nat.le_of_ble_eq_true rfl⟩ (fun H locs hd => ?_)
    refine lv_iload_n hx hb dX5_brings_136 rfl (lv_at hl 1 rfl) ?_
    refine lv_if_ne (tgt := 145) hx hb dX5_brings_137 (by decide) (fun c_23 => ?_) (fun c_23 => ?_)
    · have hf := bf_ie hf c_23
      refine lv_iload hx hb dX5_brings_145 (lv_at hl 3 rfl) ?_
      exact kret _ _ _ _ _ _ ⟨(bf_pr hf).1, congrArg (bf_pT G σ o) (bf_pr hf).2⟩ hd dX5_brings_147
    · have hf := bf_it hf c_23
      refine lv_iload hx hb dX5_brings_140 (lv_at hl 2 rfl) ?_
      refine lv_goto (tgt := 147) hx hb dX5_brings_142 (by decide) ?_
      exact kret _ _ _ _ _ _ ⟨(bf_pr hf).1, congrArg (bf_pT G σ o) (bf_pr hf).2⟩ hd dX5_brings_147
  have L65 : ∀ (n65 : Nat) (v65_4 : Int32) (v65_5 : Int32) (v65_6 : Int32) (T65 : bf_TS) (H : Heap) (locs : List Loc) (ls : Array Slot), fX5_brings_65 x1 x2 x3 n65 v65_4 v65_5 v65_6 T65 = some (r, T') → bf_Dy G s H locs (bf_pT G σ o T65) → lv_has ls 7 [(0, .ref o), (1, .int x1), (2, .int x2), (3, .int x3), (4, .int v65_4), (5, .int v65_5), (6, .int v65_6)] → W p l e (bf_rm 11) s m ([.ref o, .int x1, .int x2, .int x3] : List Value).toArray below meth c H locs 0 0 Q (F0 m 65 ls []) := by
    intro n65
    induction n65 with
    | zero =>
      intro v65_4 v65_5 v65_6 T65 H locs ls hf hd hl
      exact absurd (show (none : Option (Int32 × bf_TS)) = some (r, T') from hf) (by intro h; cases h)
    | succ n65 ih65 =>
      intro v65_4 v65_5 v65_6 T65 H locs ls hf hd hl
      have hf : fX5_brings_65b x1 x2 x3 (fX5_brings_65 x1 x2 x3 n65) v65_4 v65_5 v65_6 T65 = some (r, T') := hf
      unfold fX5_brings_65b at hf
      have J112 : ∀ (w112_5 : Int32) (w112_6 : Int32) (t112_0 : Int32) (T112 : bf_TS) (H : Heap) (locs : List Loc) (ls : Array Slot), fX5_brings_112 (fX5_brings_65 x1 x2 x3 n65) x1 x2 x3 w112_5 w112_6 t112_0 T112 = some (r, T') → bf_Dy G s H locs (bf_pT G σ o T112) → lv_has ls 7 [(0, .ref o), (1, .int x1), (2, .int x2), (3, .int x3), (5, .int w112_5), (6, .int w112_6)] → W p l e (bf_rm 11) s m ([.ref o, .int x1, .int x2, .int x3] : List Value).toArray below meth c H locs 0 0 Q (F0 m 112 ls [.int t112_0]) := by
        intro w112_5 w112_6 t112_0 T112 H locs ls hf hd hl
        unfold fX5_brings_112 at hf
        refine lv_istore (lv' := [(4, .int t112_0), (0, .ref o), (1, .int x1), (2, .int x2), (3, .int x3), (5, .int w112_5), (6, .int w112_6)]) hx hb dX5_brings_112 hl (by decide) rfl (fun ls hl => ?_)
        refine lv_aload_n hx hb dX5_brings_114 rfl (lv_at hl 1 rfl) ?_
        refine lv_iload hx hb dX5_brings_115 (lv_at hl 5 rfl) ?_
        refine lv_aload_n hx hb dX5_brings_117 rfl (lv_at hl 1 rfl) ?_
        refine bf_tgi X hd 42 (by decide) rfl q1425 dX5_brings_118 ?_
        refine bf_tci (n := 2) (As := [.int w112_5, .int (T112 42 0)]) (rest := []) X hd (mX5_greater l G σ o T112 w112_5 (T112 42 0) rfl) (lw_V q1958 q1960 qs135 q156 q1961) (by decide +kernel) ⟨Nat.le_of_ble_eq_true rfl, Nat.le_of_ble_eq_true rfl⟩ rfl hl.1 rfl (Nat.le_of_ble_eq_true rfl) dX5_brings_121 ⟨Nat.le_of_ble_eq_true rfl, Nat.le_of_ble_eq_true rfl⟩ (fun H locs hd => ?_)
        obtain ⟨x5_24, ex5_24, hf⟩ := bf_l_e hf
        refine bf_top ex5_24 ?_
        refine lv_istore (lv' := [(5, .int x5_24), (4, .int t112_0), (0, .ref o), (1, .int x1), (2, .int x2), (3, .int x3), (6, .int w112_6)]) hx hb dX5_brings_124 hl (by decide) rfl (fun ls hl => ?_)
        obtain ⟨x6_25, ex6_25, hf⟩ := bf_l_e hf
        refine lv_iinc (v := x6_25) (lv' := [(6, .int x6_25), (5, .int x5_24), (4, .int t112_0), (0, .ref o), (1, .int x1), (2, .int x2), (3, .int x3)]) hx hb dX5_brings_126 hl (k := 6) rfl (by rw [ex6_25]; rfl) (by decide) rfl (fun ls hl => ?_)
        refine lv_goto (tgt := 65) hx hb dX5_brings_129 (by decide) ?_
        exact ih65 t112_0 x5_24 x6_25 T112 _ _ _ hf hd (lv_sub hl [3, 4, 5, 6, 2, 1, 0] rfl)
      refine lv_iload hx hb dX5_brings_65 (lv_at hl 6 rfl) ?_
      refine lv_bipush (v := 10) hx hb dX5_brings_67 (by decide) ?_
      refine lv_icmp_ge (tgt := 132) hx hb dX5_brings_69 (by decide) (fun c_26 => ?_) (fun c_26 => ?_)
      · have hf := bf_it hf c_26
        exact J132 v65_4 v65_5 T65 _ _ _ hf hd (lv_sub hl [0, 3, 4, 5] rfl)
      · have hf := bf_ie hf c_26
        refine lv_aload_n hx hb dX5_brings_72 rfl (lv_at hl 0 rfl) ?_
        obtain ⟨T_27, eT_27, hf⟩ := bf_b_some hf
        refine bf_tcv (n := 0) (As := []) (rest := []) X hd (mX5_thinksAnew l G σ o T65 eT_27) (lw_V q1946 q1948 qs134 q156 q1949) (by decide +kernel) ⟨Nat.le_of_ble_eq_true rfl, Nat.le_of_ble_eq_true rfl⟩ rfl hl.1 rfl (Nat.le_of_ble_eq_true rfl) dX5_brings_73 ⟨Nat.le_of_ble_eq_true rfl, Nat.le_of_ble_eq_true rfl⟩ (fun H locs hd => ?_)
        refine lv_aload_n hx hb dX5_brings_76 rfl (lv_at hl 0 rfl) ?_
        refine lv_iconst (v := 0) hx hb dX5_brings_77 (by decide) ?_
        refine bf_tpi X hd 42 (by decide) ⟨rfl, rfl, rfl⟩ q1425 dX5_brings_78 (fun H locs hd => ?_)
        obtain ⟨T_28, eT_28, hf⟩ := bf_l_e hf
        have hd := hd.of (congrArg (bf_pT G σ o) eT_28.symm)
        refine lv_aload_n hx hb dX5_brings_81 rfl (lv_at hl 0 rfl) ?_
        refine lv_iload_n hx hb dX5_brings_82 rfl (lv_at hl 1 rfl) ?_
        refine lv_iload hx hb dX5_brings_83 (lv_at hl 6 rfl) ?_
        refine lv_bipush (v := 10) hx hb dX5_brings_85 (by decide) ?_
        obtain ⟨r_30, T_29, er_30, hf⟩ := bf_b2_some hf
        refine bf_tci (n := 3) (As := [.int x1, .int v65_6, .int 10]) (rest := []) X hd (mX5_plants l G σ o T_28 x1 v65_6 10 er_30) (lw_V q1760 q1762 qs97 q156 q1763) (by decide +kernel) ⟨Nat.le_of_ble_eq_true rfl, Nat.le_of_ble_eq_true rfl⟩ rfl hl.1 rfl (Nat.le_of_ble_eq_true rfl) dX5_brings_87 ⟨Nat.le_of_ble_eq_true rfl, Nat.le_of_ble_eq_true rfl⟩ (fun H locs hd => ?_)
        refine lv_pop hx hb dX5_brings_90 rfl ?_
        refine lv_aload_n hx hb dX5_brings_91 rfl (lv_at hl 0 rfl) ?_
        refine lv_iload_n hx hb dX5_brings_92 rfl (lv_at hl 2 rfl) ?_
        obtain ⟨T_31, eT_31, hf⟩ := bf_b_some hf
        refine bf_tcv (n := 1) (As := [.int x2]) (rest := []) X hd (mX5_goesFor l G σ o T_29 x2 eT_31) (lw_V q1938 q1940 qs132 q156 q1941) (by decide +kernel) ⟨Nat.le_of_ble_eq_true rfl, Nat.le_of_ble_eq_true rfl⟩ rfl hl.1 rfl (Nat.le_of_ble_eq_true rfl) dX5_brings_93 ⟨Nat.le_of_ble_eq_true rfl, Nat.le_of_ble_eq_true rfl⟩ (fun H locs hd => ?_)
        refine lv_aload_n hx hb dX5_brings_96 rfl (lv_at hl 0 rfl) ?_
        refine bf_tgi X hd 42 (by decide) rfl q1425 dX5_brings_97 ?_
        refine lv_iload hx hb dX5_brings_100 (lv_at hl 5 rfl) ?_
        refine lv_icmp_le (tgt := 110) hx hb dX5_brings_102 (by decide) (fun c_32 => ?_) (fun c_32 => ?_)
        · have hf := bf_it hf c_32
          refine lv_iload hx hb dX5_brings_110 (lv_at hl 4 rfl) ?_
          exact J112 v65_5 v65_6 v65_4 T_31 _ _ _ hf hd (lv_sub hl [0, 1, 2, 3, 5, 6] rfl)
        · have hf := bf_ie hf c_32
          refine lv_iload hx hb dX5_brings_105 (lv_at hl 6 rfl) ?_
          refine lv_goto (tgt := 112) hx hb dX5_brings_107 (by decide) ?_
          exact J112 v65_5 v65_6 v65_6 T_31 _ _ _ hf hd (lv_sub hl [0, 1, 2, 3, 5, 6] rfl)
  unfold fX5_brings at hf
  refine lv_aload_n hx hb dX5_brings_0 rfl (lv_at hl 0 rfl) ?_
  refine lv_iconst (v := 0) hx hb dX5_brings_1 (by decide) ?_
  refine bf_tpi X hd 0 (by decide) ⟨rfl, rfl, rfl⟩ q1383 dX5_brings_2 (fun H locs hd => ?_)
  obtain ⟨T_33, eT_33, hf⟩ := bf_l_e hf
  have hd := hd.of (congrArg (bf_pT G σ o) eT_33.symm)
  refine lv_aload_n hx hb dX5_brings_5 rfl (lv_at hl 0 rfl) ?_
  refine lv_iload_n hx hb dX5_brings_6 rfl (lv_at hl 1 rfl) ?_
  refine bf_tcz (n := 1) (As := [.int x1]) (rest := []) X hd (mX5_isParty l G σ o T_33 x1 rfl) (lw_V q1580 q1582 qs58 q156 q1583) (by decide +kernel) ⟨Nat.le_of_ble_eq_true rfl, Nat.le_of_ble_eq_true rfl⟩ rfl hl.1 rfl (Nat.le_of_ble_eq_true rfl) dX5_brings_7 ⟨Nat.le_of_ble_eq_true rfl, Nat.le_of_ble_eq_true rfl⟩ (fun H locs z_34 hd => ?_)
  refine lv_if_eq (tgt := 45) hx hb dX5_brings_10 (by decide) (fun c_35 => ?_) (fun c_35 => ?_)
  · have hf := bf_it hf c_35
    refine lv_iconst (v := (-1)) hx hb dX5_brings_45 (by decide) ?_
    exact kret _ _ _ _ _ _ ⟨(bf_pr hf).1, congrArg (bf_pT G σ o) (bf_pr hf).2⟩ hd dX5_brings_46
  · have hf := bf_ie hf c_35
    refine lv_aload_n hx hb dX5_brings_13 rfl (lv_at hl 0 rfl) ?_
    refine lv_iload_n hx hb dX5_brings_14 rfl (lv_at hl 2 rfl) ?_
    refine lv_iconst (v := 1) hx hb dX5_brings_15 (by decide) ?_
    refine lv_bipush (v := 20) hx hb dX5_brings_16 (by decide) ?_
    refine bf_tcz (n := 3) (As := [.int x2, .int 1, .int 20]) (rest := []) X hd (mX5_isIn l G σ o T_33 x2 1 20 rfl) (lw_V q1564 q1566 qs56 q156 q1567) (by decide +kernel) ⟨Nat.le_of_ble_eq_true rfl, Nat.le_of_ble_eq_true rfl⟩ rfl hl.1 rfl (Nat.le_of_ble_eq_true rfl) dX5_brings_18 ⟨Nat.le_of_ble_eq_true rfl, Nat.le_of_ble_eq_true rfl⟩ (fun H locs z_36 hd => ?_)
    refine lv_if_eq (tgt := 45) hx hb dX5_brings_21 (by decide) (fun c_37 => ?_) (fun c_37 => ?_)
    · have hf := bf_it hf c_37
      refine lv_iconst (v := (-1)) hx hb dX5_brings_45 (by decide) ?_
      exact kret _ _ _ _ _ _ ⟨(bf_pr hf).1, congrArg (bf_pT G σ o) (bf_pr hf).2⟩ hd dX5_brings_46
    · have hf := bf_ie hf c_37
      refine lv_aload_n hx hb dX5_brings_24 rfl (lv_at hl 0 rfl) ?_
      refine lv_iload_n hx hb dX5_brings_25 rfl (lv_at hl 3 rfl) ?_
      refine lv_iconst (v := 0) hx hb dX5_brings_26 (by decide) ?_
      refine lv_iconst (v := 1) hx hb dX5_brings_27 (by decide) ?_
      refine bf_tcz (n := 3) (As := [.int x3, .int 0, .int 1]) (rest := []) X hd (mX5_isIn l G σ o T_33 x3 0 1 rfl) (lw_V q1564 q1566 qs56 q156 q1567) (by decide +kernel) ⟨Nat.le_of_ble_eq_true rfl, Nat.le_of_ble_eq_true rfl⟩ rfl hl.1 rfl (Nat.le_of_ble_eq_true rfl) dX5_brings_28 ⟨Nat.le_of_ble_eq_true rfl, Nat.le_of_ble_eq_true rfl⟩ (fun H locs z_38 hd => ?_)
      refine lv_if_eq (tgt := 45) hx hb dX5_brings_31 (by decide) (fun c_39 => ?_) (fun c_39 => ?_)
      · have hf := bf_it hf c_39
        refine lv_iconst (v := (-1)) hx hb dX5_brings_45 (by decide) ?_
        exact kret _ _ _ _ _ _ ⟨(bf_pr hf).1, congrArg (bf_pT G σ o) (bf_pr hf).2⟩ hd dX5_brings_46
      · have hf := bf_ie hf c_39
        refine lv_aload_n hx hb dX5_brings_34 rfl (lv_at hl 0 rfl) ?_
        refine bf_tga X hd 1 (by decide) (by decide) q1384 dX5_brings_35 ?_
        refine lv_iconst (v := 4) hx hb dX5_brings_38 (by decide) ?_
        refine bf_tld X hd 1 (by decide) (by decide) dX5_brings_39 ?_
        refine lv_bipush (v := 14) hx hb dX5_brings_40 (by decide) ?_
        refine lv_icmp_ne (tgt := 47) hx hb dX5_brings_42 (by decide) (fun c_40 => ?_) (fun c_40 => ?_)
        · have hf := bf_ie hf c_40
          refine lv_iconst (v := (-1)) hx hb dX5_brings_47 (by decide) ?_
          refine lv_istore (lv' := [(4, .int (-1)), (0, .ref o), (1, .int x1), (2, .int x2), (3, .int x3)]) hx hb dX5_brings_48 hl (by decide) rfl (fun ls hl => ?_)
          refine lv_iconst (v := (-1)) hx hb dX5_brings_50 (by decide) ?_
          refine lv_istore (lv' := [(5, .int (-1)), (4, .int (-1)), (0, .ref o), (1, .int x1), (2, .int x2), (3, .int x3)]) hx hb dX5_brings_51 hl (by decide) rfl (fun ls hl => ?_)
          refine lv_aload_n hx hb dX5_brings_53 rfl (lv_at hl 2 rfl) ?_
          obtain ⟨T_41, eT_41, hf⟩ := bf_b_some hf
          refine bf_tcv (n := 0) (As := []) (rest := []) X hd (mX5_thinks l G σ o T_33 eT_41) (lw_V q1934 q1936 qs131 q156 q1937) (by decide +kernel) ⟨Nat.le_of_ble_eq_true rfl, Nat.le_of_ble_eq_true rfl⟩ rfl hl.1 rfl (Nat.le_of_ble_eq_true rfl) dX5_brings_54 ⟨Nat.le_of_ble_eq_true rfl, Nat.le_of_ble_eq_true rfl⟩ (fun H locs hd => ?_)
          refine lv_aload_n hx hb dX5_brings_57 rfl (lv_at hl 2 rfl) ?_
          refine lv_iload_n hx hb dX5_brings_58 rfl (lv_at hl 3 rfl) ?_
          refine bf_tpi X hd 43 (by decide) ⟨rfl, rfl, rfl⟩ q1426 dX5_brings_59 (fun H locs hd => ?_)
          obtain ⟨T_42, eT_42, hf⟩ := bf_l_e hf
          have hd := hd.of (congrArg (bf_pT G σ o) eT_42.symm)
          refine lv_iconst (v := 0) hx hb dX5_brings_62 (by decide) ?_
          refine lv_istore (lv' := [(6, .int 0), (5, .int (-1)), (4, .int (-1)), (0, .ref o), (1, .int x1), (2, .int x2), (3, .int x3)]) hx hb dX5_brings_63 hl (by decide) rfl (fun ls hl => ?_)
          exact L65 bf_fuel (-1) (-1) 0 T_42 _ _ _ hf hd (lv_sub hl [3, 4, 5, 6, 2, 1, 0] rfl)
        · have hf := bf_it hf c_40
          refine lv_iconst (v := (-1)) hx hb dX5_brings_45 (by decide) ?_
          exact kret _ _ _ _ _ _ ⟨(bf_pr hf).1, congrArg (bf_pT G σ o) (bf_pr hf).2⟩ hd dX5_brings_46
def fX5_strongestBehind (T : bf_TS) (x1 x2 x3 : Int32) : Option (Int32 × bf_TS) := bf_b (fX5_thinksAnew T) fun T_1 => bf_c (bf_in (62 + x1) 136) <| bf_c (bf_in (62 + x1) 136) <| bf_l (bf_u2 T_1 1 (62 + x1).toNatClampNeg ((T_1 1 (62 + x1).toNatClampNeg) - x2)) fun T_4 => bf_b (fX5_goesFor T_4 x3) fun T_5 => bf_b (fX5_strongest T_5) fun r_6 => some (r_6, T_5)
set_option maxHeartbeats 4000000 in
theorem mX5_strongestBehind (l : Launch) (G : bf_G) (σ : bf_V) (o : Nat) (T : bf_TS) (x1 x2 x3 : Int32) {r : Int32} {T' : bf_TS} (hf : fX5_strongestBehind T x1 x2 x3 = some (r, T')) : bf_MI l G yX5_strongestBehind cX5_strongestBehind 4 (bf_rm 11) [.ref o, .int x1, .int x2, .int x3] (bf_pT G σ o T) (fun v σ' => v = r ∧ σ' = bf_pT G σ o T') := by
  refine bf_MI.of rfl (Nat.le_of_ble_eq_true rfl) ?_
  intro p e s m below meth c Q X hlk hnm kret hd ls hl
  have hx := X.1
  have hb := X.2.1
  have hown := X.2.2.2.1
  have hts := X.2.2.2.2
  have hl : lv_has ls 4 [(0, .ref o), (1, .int x1), (2, .int x2), (3, .int x3)] := hl
  unfold fX5_strongestBehind at hf
  refine lv_aload_n hx hb dX5_strongestBehind_0 rfl (lv_at hl 0 rfl) ?_
  obtain ⟨T_7, eT_7, hf⟩ := bf_b_some hf
  refine bf_tcv (n := 0) (As := []) (rest := []) X hd (mX5_thinksAnew l G σ o T eT_7) (lw_V q1946 q1948 qs134 q156 q1949) (by decide +kernel) ⟨Nat.le_of_ble_eq_true rfl, Nat.le_of_ble_eq_true rfl⟩ rfl hl.1 rfl (Nat.le_of_ble_eq_true rfl) dX5_strongestBehind_1 ⟨Nat.le_of_ble_eq_true rfl, Nat.le_of_ble_eq_true rfl⟩ (fun H locs hd => ?_)
  refine lv_aload_n hx hb dX5_strongestBehind_4 rfl (lv_at hl 0 rfl) ?_
  refine bf_tga X hd 1 (by decide) (by decide) q1384 dX5_strongestBehind_5 ?_
  refine lv_bipush (v := 62) hx hb dX5_strongestBehind_8 (by decide) ?_
  refine lv_iload_n hx hb dX5_strongestBehind_10 rfl (lv_at hl 1 rfl) ?_
  refine lv_iadd hx hb dX5_strongestBehind_11 ?_
  refine lv_aload_n hx hb dX5_strongestBehind_12 rfl (lv_at hl 0 rfl) ?_
  refine bf_tga X hd 1 (by decide) (by decide) q1384 dX5_strongestBehind_13 ?_
  refine lv_bipush (v := 62) hx hb dX5_strongestBehind_16 (by decide) ?_
  refine lv_iload_n hx hb dX5_strongestBehind_18 rfl (lv_at hl 1 rfl) ?_
  refine lv_iadd hx hb dX5_strongestBehind_19 ?_
  obtain ⟨g_8, hf⟩ := bf_c_some hf
  refine bf_tld X hd 1 (by decide) g_8 dX5_strongestBehind_20 ?_
  refine lv_iload_n hx hb dX5_strongestBehind_21 rfl (lv_at hl 2 rfl) ?_
  refine lv_isub hx hb dX5_strongestBehind_22 ?_
  obtain ⟨g_9, hf⟩ := bf_c_some hf
  refine bf_tst X hd 1 (by decide) g_9 dX5_strongestBehind_23 (fun H locs hd => ?_)
  obtain ⟨T_10, eT_10, hf⟩ := bf_l_e hf
  have hd := hd.of (congrArg (bf_pT G σ o) eT_10.symm)
  refine lv_aload_n hx hb dX5_strongestBehind_24 rfl (lv_at hl 0 rfl) ?_
  refine lv_iload_n hx hb dX5_strongestBehind_25 rfl (lv_at hl 3 rfl) ?_
  obtain ⟨T_11, eT_11, hf⟩ := bf_b_some hf
  refine bf_tcv (n := 1) (As := [.int x3]) (rest := []) X hd (mX5_goesFor l G σ o T_10 x3 eT_11) (lw_V q1938 q1940 qs132 q156 q1941) (by decide +kernel) ⟨Nat.le_of_ble_eq_true rfl, Nat.le_of_ble_eq_true rfl⟩ rfl hl.1 rfl (Nat.le_of_ble_eq_true rfl) dX5_strongestBehind_26 ⟨Nat.le_of_ble_eq_true rfl, Nat.le_of_ble_eq_true rfl⟩ (fun H locs hd => ?_)
  refine lv_aload_n hx hb dX5_strongestBehind_29 rfl (lv_at hl 0 rfl) ?_
  obtain ⟨r_12, er_12, hf⟩ := bf_b_some hf
  refine bf_tci (n := 0) (As := []) (rest := []) X hd (mX5_strongest l G σ o T_11 er_12) (lw_V q1906 q1908 qs130 q156 q1909) (by decide +kernel) ⟨Nat.le_of_ble_eq_true rfl, Nat.le_of_ble_eq_true rfl⟩ rfl hl.1 rfl (Nat.le_of_ble_eq_true rfl) dX5_strongestBehind_30 ⟨Nat.le_of_ble_eq_true rfl, Nat.le_of_ble_eq_true rfl⟩ (fun H locs hd => ?_)
  exact kret _ _ _ _ _ _ ⟨(bf_pr hf).1, congrArg (bf_pT G σ o) (bf_pr hf).2⟩ hd dX5_strongestBehind_33
def fX5_swings_90 (w90_4 : Int32) (T90 : bf_TS) : Option (Int32 × bf_TS) := bf_b (fX5_endsThought T90) fun T_7 => some (w90_4, T_7)
def fX5_swings_84 (k55 : Int32 → Int32 → bf_TS → Option (Int32 × bf_TS)) (x1 : Int32) (x2 : Int32) (u55_3 : Int32) (u55_5 : Int32) (w84_4 : Int32) (w84_6 : Int32) (T84 : bf_TS) : Option (Int32 × bf_TS) := bf_l (w84_6 + 1) fun x6_6 => k55 w84_4 x6_6 T84
def fX5_swings_55b (x1 : Int32) (x2 : Int32) (u55_3 : Int32) (u55_5 : Int32) (k55 : Int32 → Int32 → bf_TS → Option (Int32 × bf_TS)) (v55_4 : Int32) (v55_6 : Int32) (T55 : bf_TS) : Option (Int32 × bf_TS) := if u55_3 < v55_6 then (fX5_swings_90 v55_4 T55) else (if v55_4 = (-1) then (bf_b2 (fX5_strongestBehind T55 x1 v55_6 x2) fun r_4 T_3 => if r_4 = u55_5 then (fX5_swings_84 k55 x1 x2 u55_3 u55_5 v55_4 v55_6 T_3) else (fX5_swings_84 k55 x1 x2 u55_3 u55_5 v55_6 v55_6 T_3)) else (fX5_swings_90 v55_4 T55))
def fX5_swings_55 (x1 : Int32) (x2 : Int32) (u55_3 : Int32) (u55_5 : Int32) : Nat → Int32 → Int32 → bf_TS → Option (Int32 × bf_TS)
  | 0, _, _, _ => none
  | n + 1, v55_4, v55_6, T55 => fX5_swings_55b x1 x2 u55_3 u55_5 (fX5_swings_55 x1 x2 u55_3 u55_5 n) v55_4 v55_6 T55
def fX5_swings (T : bf_TS) (x1 x2 : Int32) : Option (Int32 × bf_TS) := bf_l (bf_u2 T 0 0 0) fun T_8 => if (fX5_isTree T_8 x1) = 0 then (some ((-1), T_8)) else (if (fX5_isIn x2 1 20) = 0 then (some ((-1), T_8)) else (bf_c (bf_in (62 + x1) 136) <| bf_l ((T_8 1 (62 + x1).toNatClampNeg)) fun x3_14 => bf_b (fX5_thinks T_8) fun T_15 => bf_b2 (fX5_strongestBehind T_15 x1 0 x2) fun r_17 T_16 => fX5_swings_55 x1 x2 x3_14 r_17 bf_fuel (-1) 1 T_16))
set_option maxHeartbeats 4000000 in
theorem mX5_swings (l : Launch) (G : bf_G) (σ : bf_V) (o : Nat) (T : bf_TS) (x1 x2 : Int32) {r : Int32} {T' : bf_TS} (hf : fX5_swings T x1 x2 = some (r, T')) : bf_MI l G yX5_swings cX5_swings 7 (bf_rm 12) [.ref o, .int x1, .int x2] (bf_pT G σ o T) (fun v σ' => v = r ∧ σ' = bf_pT G σ o T') := by
  refine bf_MI.of rfl (Nat.le_of_ble_eq_true rfl) ?_
  intro p e s m below meth c Q X hlk hnm kret hd ls hl
  have hx := X.1
  have hb := X.2.1
  have hown := X.2.2.2.1
  have hts := X.2.2.2.2
  have hl : lv_has ls 7 [(0, .ref o), (1, .int x1), (2, .int x2)] := hl
  have J90 : ∀ (w90_4 : Int32) (T90 : bf_TS) (H : Heap) (locs : List Loc) (ls : Array Slot), fX5_swings_90 w90_4 T90 = some (r, T') → bf_Dy G s H locs (bf_pT G σ o T90) → lv_has ls 7 [(0, .ref o), (4, .int w90_4)] → W p l e (bf_rm 12) s m ([.ref o, .int x1, .int x2] : List Value).toArray below meth c H locs 0 0 Q (F0 m 90 ls []) := by
    intro w90_4 T90 H locs ls hf hd hl
    unfold fX5_swings_90 at hf
    refine lv_aload_n hx hb dX5_swings_90 rfl (lv_at hl 0 rfl) ?_
    obtain ⟨T_18, eT_18, hf⟩ := bf_b_some hf
    refine bf_tcv (n := 0) (As := []) (rest := []) X hd (mX5_endsThought l G σ o T90 eT_18) (lw_V q1942 q1944 qs133 q156 q1945) (by decide +kernel) ⟨Nat.le_of_ble_eq_true rfl, Nat.le_of_ble_eq_true rfl⟩ rfl hl.1 rfl (Nat.le_of_ble_eq_true rfl) dX5_swings_91 ⟨Nat.le_of_ble_eq_true rfl, Nat.le_of_ble_eq_true rfl⟩ (fun H locs hd => ?_)
    refine lv_iload hx hb dX5_swings_94 (lv_at hl 1 rfl) ?_
    exact kret _ _ _ _ _ _ ⟨(bf_pr hf).1, congrArg (bf_pT G σ o) (bf_pr hf).2⟩ hd dX5_swings_96
  have L55 : ∀ (u55_3 : Int32) (u55_5 : Int32) (n55 : Nat) (v55_4 : Int32) (v55_6 : Int32) (T55 : bf_TS) (H : Heap) (locs : List Loc) (ls : Array Slot), fX5_swings_55 x1 x2 u55_3 u55_5 n55 v55_4 v55_6 T55 = some (r, T') → bf_Dy G s H locs (bf_pT G σ o T55) → lv_has ls 7 [(0, .ref o), (1, .int x1), (2, .int x2), (3, .int u55_3), (4, .int v55_4), (5, .int u55_5), (6, .int v55_6)] → W p l e (bf_rm 12) s m ([.ref o, .int x1, .int x2] : List Value).toArray below meth c H locs 0 0 Q (F0 m 55 ls []) := by
    intro u55_3 u55_5 n55
    induction n55 with
    | zero =>
      intro v55_4 v55_6 T55 H locs ls hf hd hl
      exact absurd (show (none : Option (Int32 × bf_TS)) = some (r, T') from hf) (by intro h; cases h)
    | succ n55 ih55 =>
      intro v55_4 v55_6 T55 H locs ls hf hd hl
      have hf : fX5_swings_55b x1 x2 u55_3 u55_5 (fX5_swings_55 x1 x2 u55_3 u55_5 n55) v55_4 v55_6 T55 = some (r, T') := hf
      unfold fX5_swings_55b at hf
      have J84 : ∀ (w84_4 : Int32) (w84_6 : Int32) (T84 : bf_TS) (H : Heap) (locs : List Loc) (ls : Array Slot), fX5_swings_84 (fX5_swings_55 x1 x2 u55_3 u55_5 n55) x1 x2 u55_3 u55_5 w84_4 w84_6 T84 = some (r, T') → bf_Dy G s H locs (bf_pT G σ o T84) → lv_has ls 7 [(0, .ref o), (1, .int x1), (2, .int x2), (3, .int u55_3), (4, .int w84_4), (5, .int u55_5), (6, .int w84_6)] → W p l e (bf_rm 12) s m ([.ref o, .int x1, .int x2] : List Value).toArray below meth c H locs 0 0 Q (F0 m 84 ls []) := by
        intro w84_4 w84_6 T84 H locs ls hf hd hl
        unfold fX5_swings_84 at hf
        obtain ⟨x6_19, ex6_19, hf⟩ := bf_l_e hf
        refine lv_iinc (v := x6_19) (lv' := [(6, .int x6_19), (0, .ref o), (1, .int x1), (2, .int x2), (3, .int u55_3), (4, .int w84_4), (5, .int u55_5)]) hx hb dX5_swings_84 hl (k := 6) rfl (by rw [ex6_19]; rfl) (by decide) rfl (fun ls hl => ?_)
        refine lv_goto (tgt := 55) hx hb dX5_swings_87 (by decide) ?_
        exact ih55 w84_4 x6_19 T84 _ _ _ hf hd (lv_sub hl [1, 2, 3, 4, 5, 6, 0] rfl)
      refine lv_iload hx hb dX5_swings_55 (lv_at hl 6 rfl) ?_
      refine lv_iload_n hx hb dX5_swings_57 rfl (lv_at hl 3 rfl) ?_
      refine lv_icmp_gt (tgt := 90) hx hb dX5_swings_58 (by decide) (fun c_20 => ?_) (fun c_20 => ?_)
      · have hf := bf_it hf c_20
        exact J90 v55_4 T55 _ _ _ hf hd (lv_sub hl [0, 4] rfl)
      · have hf := bf_ie hf c_20
        refine lv_iload hx hb dX5_swings_61 (lv_at hl 4 rfl) ?_
        refine lv_iconst (v := (-1)) hx hb dX5_swings_63 (by decide) ?_
        refine lv_icmp_ne (tgt := 90) hx hb dX5_swings_64 (by decide) (fun c_21 => ?_) (fun c_21 => ?_)
        · have hf := bf_ie hf c_21
          exact J90 v55_4 T55 _ _ _ hf hd (lv_sub hl [0, 4] rfl)
        · have hf := bf_it hf c_21
          refine lv_aload_n hx hb dX5_swings_67 rfl (lv_at hl 0 rfl) ?_
          refine lv_iload_n hx hb dX5_swings_68 rfl (lv_at hl 1 rfl) ?_
          refine lv_iload hx hb dX5_swings_69 (lv_at hl 6 rfl) ?_
          refine lv_iload_n hx hb dX5_swings_71 rfl (lv_at hl 2 rfl) ?_
          obtain ⟨r_23, T_22, er_23, hf⟩ := bf_b2_some hf
          refine bf_tci (n := 3) (As := [.int x1, .int v55_6, .int x2]) (rest := []) X hd (mX5_strongestBehind l G σ o T55 x1 v55_6 x2 er_23) (lw_V q1966 q1968 qs136 q156 q1969) (by decide +kernel) ⟨Nat.le_of_ble_eq_true rfl, Nat.le_of_ble_eq_true rfl⟩ rfl hl.1 rfl (Nat.le_of_ble_eq_true rfl) dX5_swings_72 ⟨Nat.le_of_ble_eq_true rfl, Nat.le_of_ble_eq_true rfl⟩ (fun H locs hd => ?_)
          refine lv_iload hx hb dX5_swings_75 (lv_at hl 5 rfl) ?_
          refine lv_icmp_eq (tgt := 84) hx hb dX5_swings_77 (by decide) (fun c_24 => ?_) (fun c_24 => ?_)
          · have hf := bf_it hf c_24
            exact J84 v55_4 v55_6 T_22 _ _ _ hf hd (lv_sub hl [0, 1, 2, 3, 4, 5, 6] rfl)
          · have hf := bf_ie hf c_24
            refine lv_iload hx hb dX5_swings_80 (lv_at hl 6 rfl) ?_
            refine lv_istore (lv' := [(4, .int v55_6), (0, .ref o), (1, .int x1), (2, .int x2), (3, .int u55_3), (5, .int u55_5), (6, .int v55_6)]) hx hb dX5_swings_82 hl (by decide) rfl (fun ls hl => ?_)
            exact J84 v55_6 v55_6 T_22 _ _ _ hf hd (lv_sub hl [1, 2, 3, 4, 0, 5, 6] rfl)
  unfold fX5_swings at hf
  refine lv_aload_n hx hb dX5_swings_0 rfl (lv_at hl 0 rfl) ?_
  refine lv_iconst (v := 0) hx hb dX5_swings_1 (by decide) ?_
  refine bf_tpi X hd 0 (by decide) ⟨rfl, rfl, rfl⟩ q1383 dX5_swings_2 (fun H locs hd => ?_)
  obtain ⟨T_25, eT_25, hf⟩ := bf_l_e hf
  have hd := hd.of (congrArg (bf_pT G σ o) eT_25.symm)
  refine lv_aload_n hx hb dX5_swings_5 rfl (lv_at hl 0 rfl) ?_
  refine lv_iload_n hx hb dX5_swings_6 rfl (lv_at hl 1 rfl) ?_
  refine bf_tcz (n := 1) (As := [.int x1]) (rest := []) X hd (mX5_isTree l G σ o T_25 x1 rfl) (lw_V q1600 q1602 qs62 q156 q1603) (by decide +kernel) ⟨Nat.le_of_ble_eq_true rfl, Nat.le_of_ble_eq_true rfl⟩ rfl hl.1 rfl (Nat.le_of_ble_eq_true rfl) dX5_swings_7 ⟨Nat.le_of_ble_eq_true rfl, Nat.le_of_ble_eq_true rfl⟩ (fun H locs z_26 hd => ?_)
  refine lv_if_eq (tgt := 24) hx hb dX5_swings_10 (by decide) (fun c_27 => ?_) (fun c_27 => ?_)
  · have hf := bf_it hf c_27
    refine lv_iconst (v := (-1)) hx hb dX5_swings_24 (by decide) ?_
    exact kret _ _ _ _ _ _ ⟨(bf_pr hf).1, congrArg (bf_pT G σ o) (bf_pr hf).2⟩ hd dX5_swings_25
  · have hf := bf_ie hf c_27
    refine lv_aload_n hx hb dX5_swings_13 rfl (lv_at hl 0 rfl) ?_
    refine lv_iload_n hx hb dX5_swings_14 rfl (lv_at hl 2 rfl) ?_
    refine lv_iconst (v := 1) hx hb dX5_swings_15 (by decide) ?_
    refine lv_bipush (v := 20) hx hb dX5_swings_16 (by decide) ?_
    refine bf_tcz (n := 3) (As := [.int x2, .int 1, .int 20]) (rest := []) X hd (mX5_isIn l G σ o T_25 x2 1 20 rfl) (lw_V q1564 q1566 qs56 q156 q1567) (by decide +kernel) ⟨Nat.le_of_ble_eq_true rfl, Nat.le_of_ble_eq_true rfl⟩ rfl hl.1 rfl (Nat.le_of_ble_eq_true rfl) dX5_swings_18 ⟨Nat.le_of_ble_eq_true rfl, Nat.le_of_ble_eq_true rfl⟩ (fun H locs z_28 hd => ?_)
    refine lv_if_ne (tgt := 26) hx hb dX5_swings_21 (by decide) (fun c_29 => ?_) (fun c_29 => ?_)
    · have hf := bf_ie hf c_29
      refine lv_aload_n hx hb dX5_swings_26 rfl (lv_at hl 0 rfl) ?_
      refine bf_tga X hd 1 (by decide) (by decide) q1384 dX5_swings_27 ?_
      refine lv_bipush (v := 62) hx hb dX5_swings_30 (by decide) ?_
      refine lv_iload_n hx hb dX5_swings_32 rfl (lv_at hl 1 rfl) ?_
      refine lv_iadd hx hb dX5_swings_33 ?_
      obtain ⟨g_30, hf⟩ := bf_c_some hf
      refine bf_tld X hd 1 (by decide) g_30 dX5_swings_34 ?_
      obtain ⟨x3_31, ex3_31, hf⟩ := bf_l_e hf
      refine bf_top ex3_31 ?_
      refine lv_istore_n (lv' := [(3, .int x3_31), (0, .ref o), (1, .int x1), (2, .int x2)]) hx hb dX5_swings_35 rfl hl (by decide) rfl (fun ls hl => ?_)
      refine lv_iconst (v := (-1)) hx hb dX5_swings_36 (by decide) ?_
      refine lv_istore (lv' := [(4, .int (-1)), (3, .int x3_31), (0, .ref o), (1, .int x1), (2, .int x2)]) hx hb dX5_swings_37 hl (by decide) rfl (fun ls hl => ?_)
      refine lv_aload_n hx hb dX5_swings_39 rfl (lv_at hl 2 rfl) ?_
      obtain ⟨T_32, eT_32, hf⟩ := bf_b_some hf
      refine bf_tcv (n := 0) (As := []) (rest := []) X hd (mX5_thinks l G σ o T_25 eT_32) (lw_V q1934 q1936 qs131 q156 q1937) (by decide +kernel) ⟨Nat.le_of_ble_eq_true rfl, Nat.le_of_ble_eq_true rfl⟩ rfl hl.1 rfl (Nat.le_of_ble_eq_true rfl) dX5_swings_40 ⟨Nat.le_of_ble_eq_true rfl, Nat.le_of_ble_eq_true rfl⟩ (fun H locs hd => ?_)
      refine lv_aload_n hx hb dX5_swings_43 rfl (lv_at hl 2 rfl) ?_
      refine lv_iload_n hx hb dX5_swings_44 rfl (lv_at hl 3 rfl) ?_
      refine lv_iconst (v := 0) hx hb dX5_swings_45 (by decide) ?_
      refine lv_iload_n hx hb dX5_swings_46 rfl (lv_at hl 4 rfl) ?_
      obtain ⟨r_34, T_33, er_34, hf⟩ := bf_b2_some hf
      refine bf_tci (n := 3) (As := [.int x1, .int 0, .int x2]) (rest := []) X hd (mX5_strongestBehind l G σ o T_32 x1 0 x2 er_34) (lw_V q1966 q1968 qs136 q156 q1969) (by decide +kernel) ⟨Nat.le_of_ble_eq_true rfl, Nat.le_of_ble_eq_true rfl⟩ rfl hl.1 rfl (Nat.le_of_ble_eq_true rfl) dX5_swings_47 ⟨Nat.le_of_ble_eq_true rfl, Nat.le_of_ble_eq_true rfl⟩ (fun H locs hd => ?_)
      refine lv_istore (lv' := [(5, .int r_34), (4, .int (-1)), (3, .int x3_31), (0, .ref o), (1, .int x1), (2, .int x2)]) hx hb dX5_swings_50 hl (by decide) rfl (fun ls hl => ?_)
      refine lv_iconst (v := 1) hx hb dX5_swings_52 (by decide) ?_
      refine lv_istore (lv' := [(6, .int 1), (5, .int r_34), (4, .int (-1)), (3, .int x3_31), (0, .ref o), (1, .int x1), (2, .int x2)]) hx hb dX5_swings_53 hl (by decide) rfl (fun ls hl => ?_)
      exact L55 x3_31 r_34 bf_fuel (-1) 1 T_33 _ _ _ hf hd (lv_sub hl [4, 5, 6, 3, 2, 1, 0] rfl)
    · have hf := bf_it hf c_29
      refine lv_iconst (v := (-1)) hx hb dX5_swings_24 (by decide) ?_
      exact kret _ _ _ _ _ _ ⟨(bf_pr hf).1, congrArg (bf_pT G σ o) (bf_pr hf).2⟩ hd dX5_swings_25
def fX5_placesOf_4b (T : bf_TS) (x1 : Int32) (k4 : Int32 → Int32 → Option (Int32)) (v4_2 : Int32) (v4_3 : Int32) : Option (Int32) := bf_c (bf_in (9 * x1) 180) <| if (T 37 (9 * x1).toNatClampNeg) < v4_3 then (some v4_2) else (bf_c (bf_in ((9 * x1) + v4_3) 180) <| bf_l ((v4_2 ||| (1 <<< ((T 37 ((9 * x1) + v4_3).toNatClampNeg) &&& 31)))) fun x2_4 => bf_l (v4_3 + 1) fun x3_5 => k4 x2_4 x3_5)
def fX5_placesOf_4 (T : bf_TS) (x1 : Int32) : Nat → Int32 → Int32 → Option (Int32)
  | 0, _, _ => none
  | n + 1, v4_2, v4_3 => fX5_placesOf_4b T x1 (fX5_placesOf_4 T x1 n) v4_2 v4_3
def fX5_placesOf (T : bf_TS) (x1 : Int32) : Option (Int32) := fX5_placesOf_4 T x1 bf_fuel 0 1
set_option maxHeartbeats 4000000 in
theorem mX5_placesOf (l : Launch) (G : bf_G) (σ : bf_V) (o : Nat) (T : bf_TS) (x1 : Int32) {r : Int32} (hf : fX5_placesOf T x1 = some r) : bf_MI l G yX5_placesOf cX5_placesOf 4 (bf_rm 0) [.ref o, .int x1] (bf_pT G σ o T) (fun v σ' => v = r ∧ σ' = bf_pT G σ o T) := by
  refine bf_MI.of rfl (Nat.le_of_ble_eq_true rfl) ?_
  intro p e s m below meth c Q X hlk hnm kret hd ls hl
  have hx := X.1
  have hb := X.2.1
  have hown := X.2.2.2.1
  have hts := X.2.2.2.2
  have hl : lv_has ls 4 [(0, .ref o), (1, .int x1)] := hl
  have L4 : ∀ (n4 : Nat) (v4_2 : Int32) (v4_3 : Int32) (H : Heap) (locs : List Loc) (ls : Array Slot), fX5_placesOf_4 T x1 n4 v4_2 v4_3 = some r → bf_Dy G s H locs (bf_pT G σ o T) → lv_has ls 4 [(0, .ref o), (1, .int x1), (2, .int v4_2), (3, .int v4_3)] → W p l e (bf_rm 0) s m ([.ref o, .int x1] : List Value).toArray below meth c H locs 0 0 Q (F0 m 4 ls []) := by
    intro n4
    induction n4 with
    | zero =>
      intro v4_2 v4_3 H locs ls hf hd hl
      exact absurd (show (none : Option (Int32)) = some r from hf) (by intro h; cases h)
    | succ n4 ih4 =>
      intro v4_2 v4_3 H locs ls hf hd hl
      have hf : fX5_placesOf_4b T x1 (fX5_placesOf_4 T x1 n4) v4_2 v4_3 = some r := hf
      unfold fX5_placesOf_4b at hf
      refine lv_iload_n hx hb dX5_placesOf_4 rfl (lv_at hl 3 rfl) ?_
      refine lv_aload_n hx hb dX5_placesOf_5 rfl (lv_at hl 0 rfl) ?_
      refine bf_tga X hd 37 (by decide) (by decide) q1420 dX5_placesOf_6 ?_
      refine lv_bipush (v := 9) hx hb dX5_placesOf_9 (by decide) ?_
      refine lv_iload_n hx hb dX5_placesOf_11 rfl (lv_at hl 1 rfl) ?_
      refine lv_imul hx hb dX5_placesOf_12 ?_
      obtain ⟨g_6, hf⟩ := bf_c_some hf
      refine bf_tld X hd 37 (by decide) g_6 dX5_placesOf_13 ?_
      refine lv_icmp_gt (tgt := 39) hx hb dX5_placesOf_14 (by decide) (fun c_7 => ?_) (fun c_7 => ?_)
      · have hf := bf_it hf c_7
        refine lv_iload_n hx hb dX5_placesOf_39 rfl (lv_at hl 2 rfl) ?_
        exact kret _ _ _ _ _ _ ⟨bf_so hf, rfl⟩ hd dX5_placesOf_40
      · have hf := bf_ie hf c_7
        refine lv_iload_n hx hb dX5_placesOf_17 rfl (lv_at hl 2 rfl) ?_
        refine lv_iconst (v := 1) hx hb dX5_placesOf_18 (by decide) ?_
        refine lv_aload_n hx hb dX5_placesOf_19 rfl (lv_at hl 0 rfl) ?_
        refine bf_tga X hd 37 (by decide) (by decide) q1420 dX5_placesOf_20 ?_
        refine lv_bipush (v := 9) hx hb dX5_placesOf_23 (by decide) ?_
        refine lv_iload_n hx hb dX5_placesOf_25 rfl (lv_at hl 1 rfl) ?_
        refine lv_imul hx hb dX5_placesOf_26 ?_
        refine lv_iload_n hx hb dX5_placesOf_27 rfl (lv_at hl 3 rfl) ?_
        refine lv_iadd hx hb dX5_placesOf_28 ?_
        obtain ⟨g_8, hf⟩ := bf_c_some hf
        refine bf_tld X hd 37 (by decide) g_8 dX5_placesOf_29 ?_
        refine lv_ishl hx hb dX5_placesOf_30 ?_
        refine lv_ior hx hb dX5_placesOf_31 ?_
        obtain ⟨x2_9, ex2_9, hf⟩ := bf_l_e hf
        refine bf_top ex2_9 ?_
        refine lv_istore_n (lv' := [(2, .int x2_9), (0, .ref o), (1, .int x1), (3, .int v4_3)]) hx hb dX5_placesOf_32 rfl hl (by decide) rfl (fun ls hl => ?_)
        obtain ⟨x3_10, ex3_10, hf⟩ := bf_l_e hf
        refine lv_iinc (v := x3_10) (lv' := [(3, .int x3_10), (2, .int x2_9), (0, .ref o), (1, .int x1)]) hx hb dX5_placesOf_33 hl (k := 3) rfl (by rw [ex3_10]; rfl) (by decide) rfl (fun ls hl => ?_)
        refine lv_goto (tgt := 4) hx hb dX5_placesOf_36 (by decide) ?_
        exact ih4 x2_9 x3_10 _ _ _ hf hd (lv_sub hl [2, 3, 1, 0] rfl)
  unfold fX5_placesOf at hf
  refine lv_iconst (v := 0) hx hb dX5_placesOf_0 (by decide) ?_
  refine lv_istore_n (lv' := [(2, .int 0), (0, .ref o), (1, .int x1)]) hx hb dX5_placesOf_1 rfl hl (by decide) rfl (fun ls hl => ?_)
  refine lv_iconst (v := 1) hx hb dX5_placesOf_2 (by decide) ?_
  refine lv_istore_n (lv' := [(3, .int 1), (2, .int 0), (0, .ref o), (1, .int x1)]) hx hb dX5_placesOf_3 rfl hl (by decide) rfl (fun ls hl => ?_)
  exact L4 bf_fuel 0 1 _ _ _ hf hd (lv_sub hl [2, 3, 1, 0] rfl)
def fX5_feedsAll_30 (T : bf_TS) (k2 : Int32 → Option (Int32)) (x1 : Int32) (w30_2 : Int32) : Option (Int32) := bf_l (w30_2 + 1) fun x2_6 => k2 x2_6
def fX5_feedsAll_2b (T : bf_TS) (x1 : Int32) (k2 : Int32 → Option (Int32)) (v2_2 : Int32) : Option (Int32) := if (T 7 0) ≤ v2_2 then (some 1) else (bf_b (fX5_placesOf T v2_2) fun r_2 => if r_2 = 0 then (fX5_feedsAll_30 T k2 x1 v2_2) else (bf_b (fX5_placesOf T v2_2) fun r_4 => if (r_4 &&& x1) = 0 then (some 0) else (fX5_feedsAll_30 T k2 x1 v2_2)))
def fX5_feedsAll_2 (T : bf_TS) (x1 : Int32) : Nat → Int32 → Option (Int32)
  | 0, _ => none
  | n + 1, v2_2 => fX5_feedsAll_2b T x1 (fX5_feedsAll_2 T x1 n) v2_2
def fX5_feedsAll (T : bf_TS) (x1 : Int32) : Option (Int32) := fX5_feedsAll_2 T x1 bf_fuel 0
set_option maxHeartbeats 4000000 in
theorem mX5_feedsAll (l : Launch) (G : bf_G) (σ : bf_V) (o : Nat) (T : bf_TS) (x1 : Int32) {r : Int32} (hf : fX5_feedsAll T x1 = some r) : bf_MZ l G yX5_feedsAll cX5_feedsAll 3 (bf_rm 1) [.ref o, .int x1] (bf_pT G σ o T) (fun v σ' => v = r ∧ σ' = bf_pT G σ o T) := by
  refine bf_MZ.of rfl (Nat.le_of_ble_eq_true rfl) ?_
  intro p e s m below meth c Q X hlk hnm kret hd ls hl
  have hx := X.1
  have hb := X.2.1
  have hown := X.2.2.2.1
  have hts := X.2.2.2.2
  have hl : lv_has ls 3 [(0, .ref o), (1, .int x1)] := hl
  have L2 : ∀ (n2 : Nat) (v2_2 : Int32) (H : Heap) (locs : List Loc) (ls : Array Slot), fX5_feedsAll_2 T x1 n2 v2_2 = some r → bf_Dy G s H locs (bf_pT G σ o T) → lv_has ls 3 [(0, .ref o), (1, .int x1), (2, .int v2_2)] → W p l e (bf_rm 1) s m ([.ref o, .int x1] : List Value).toArray below meth c H locs 0 0 Q (F0 m 2 ls []) := by
    intro n2
    induction n2 with
    | zero =>
      intro v2_2 H locs ls hf hd hl
      exact absurd (show (none : Option (Int32)) = some r from hf) (by intro h; cases h)
    | succ n2 ih2 =>
      intro v2_2 H locs ls hf hd hl
      have hf : fX5_feedsAll_2b T x1 (fX5_feedsAll_2 T x1 n2) v2_2 = some r := hf
      unfold fX5_feedsAll_2b at hf
      have J30 : ∀ (w30_2 : Int32) (H : Heap) (locs : List Loc) (ls : Array Slot), fX5_feedsAll_30 T (fX5_feedsAll_2 T x1 n2) x1 w30_2 = some r → bf_Dy G s H locs (bf_pT G σ o T) → lv_has ls 3 [(0, .ref o), (1, .int x1), (2, .int w30_2)] → W p l e (bf_rm 1) s m ([.ref o, .int x1] : List Value).toArray below meth c H locs 0 0 Q (F0 m 30 ls []) := by
        intro w30_2 H locs ls hf hd hl
        unfold fX5_feedsAll_30 at hf
        obtain ⟨x2_7, ex2_7, hf⟩ := bf_l_e hf
        refine lv_iinc (v := x2_7) (lv' := [(2, .int x2_7), (0, .ref o), (1, .int x1)]) hx hb dX5_feedsAll_30 hl (k := 2) rfl (by rw [ex2_7]; rfl) (by decide) rfl (fun ls hl => ?_)
        refine lv_goto (tgt := 2) hx hb dX5_feedsAll_33 (by decide) ?_
        exact ih2 x2_7 _ _ _ hf hd (lv_sub hl [1, 2, 0] rfl)
      refine lv_iload_n hx hb dX5_feedsAll_2 rfl (lv_at hl 2 rfl) ?_
      refine lv_aload_n hx hb dX5_feedsAll_3 rfl (lv_at hl 0 rfl) ?_
      refine bf_tgi X hd 7 (by decide) rfl q1390 dX5_feedsAll_4 ?_
      refine lv_icmp_ge (tgt := 36) hx hb dX5_feedsAll_7 (by decide) (fun c_8 => ?_) (fun c_8 => ?_)
      · have hf := bf_it hf c_8
        refine lv_iconst (v := 1) hx hb dX5_feedsAll_36 (by decide) ?_
        exact kret _ _ _ _ _ _ ⟨bf_so hf, rfl⟩ (Or.inr rfl) hd dX5_feedsAll_37
      · have hf := bf_ie hf c_8
        refine lv_aload_n hx hb dX5_feedsAll_10 rfl (lv_at hl 0 rfl) ?_
        refine lv_iload_n hx hb dX5_feedsAll_11 rfl (lv_at hl 2 rfl) ?_
        obtain ⟨r_9, er_9, hf⟩ := bf_b_some hf
        refine bf_tci (n := 1) (As := [.int v2_2]) (rest := []) X hd (mX5_placesOf l G σ o T v2_2 er_9) (lw_V q1982 q1984 qs139 q156 q1985) (by decide +kernel) ⟨Nat.le_of_ble_eq_true rfl, Nat.le_of_ble_eq_true rfl⟩ rfl hl.1 rfl (Nat.le_of_ble_eq_true rfl) dX5_feedsAll_12 ⟨Nat.le_of_ble_eq_true rfl, Nat.le_of_ble_eq_true rfl⟩ (fun H locs hd => ?_)
        refine lv_if_eq (tgt := 30) hx hb dX5_feedsAll_15 (by decide) (fun c_10 => ?_) (fun c_10 => ?_)
        · have hf := bf_it hf c_10
          exact J30 v2_2 _ _ _ hf hd (lv_sub hl [0, 1, 2] rfl)
        · have hf := bf_ie hf c_10
          refine lv_aload_n hx hb dX5_feedsAll_18 rfl (lv_at hl 0 rfl) ?_
          refine lv_iload_n hx hb dX5_feedsAll_19 rfl (lv_at hl 2 rfl) ?_
          obtain ⟨r_11, er_11, hf⟩ := bf_b_some hf
          refine bf_tci (n := 1) (As := [.int v2_2]) (rest := []) X hd (mX5_placesOf l G σ o T v2_2 er_11) (lw_V q1982 q1984 qs139 q156 q1985) (by decide +kernel) ⟨Nat.le_of_ble_eq_true rfl, Nat.le_of_ble_eq_true rfl⟩ rfl hl.1 rfl (Nat.le_of_ble_eq_true rfl) dX5_feedsAll_20 ⟨Nat.le_of_ble_eq_true rfl, Nat.le_of_ble_eq_true rfl⟩ (fun H locs hd => ?_)
          refine lv_iload_n hx hb dX5_feedsAll_23 rfl (lv_at hl 1 rfl) ?_
          refine lv_iand hx hb dX5_feedsAll_24 ?_
          refine lv_if_ne (tgt := 30) hx hb dX5_feedsAll_25 (by decide) (fun c_12 => ?_) (fun c_12 => ?_)
          · have hf := bf_ie hf c_12
            exact J30 v2_2 _ _ _ hf hd (lv_sub hl [0, 1, 2] rfl)
          · have hf := bf_it hf c_12
            refine lv_iconst (v := 0) hx hb dX5_feedsAll_28 (by decide) ?_
            exact kret _ _ _ _ _ _ ⟨bf_so hf, rfl⟩ (Or.inl rfl) hd dX5_feedsAll_29
  unfold fX5_feedsAll at hf
  refine lv_iconst (v := 0) hx hb dX5_feedsAll_0 (by decide) ?_
  refine lv_istore_n (lv' := [(2, .int 0), (0, .ref o), (1, .int x1)]) hx hb dX5_feedsAll_1 rfl hl (by decide) rfl (fun ls hl => ?_)
  exact L2 bf_fuel 0 _ _ _ hf hd (lv_sub hl [1, 2, 0] rfl)
def fX5_feeds_62 (x1 : Int32) (w62_2 : Int32) (T62 : bf_TS) : Option (Int32 × bf_TS) := if x1 = 0 then (bf_b (fX5_onesOf w62_2) fun r_11 => some (r_11, T62)) else (some (w62_2, T62))
def fX5_feeds_56 (k21 : Int32 → Int32 → bf_TS → Option (Int32 × bf_TS)) (x1 : Int32) (w56_2 : Int32) (w56_3 : Int32) (T56 : bf_TS) : Option (Int32 × bf_TS) := bf_l (w56_3 + 1) fun x3_9 => k21 w56_2 x3_9 T56
def fX5_feeds_46 (k21 : Int32 → Int32 → bf_TS → Option (Int32 × bf_TS)) (x1 : Int32) (w46_2 : Int32) (w46_3 : Int32) (T46 : bf_TS) : Option (Int32 × bf_TS) := bf_b (fX5_feedsAll T46 w46_3) fun r_6 => if r_6 = 0 then (fX5_feeds_56 k21 x1 w46_2 w46_3 T46) else (fX5_feeds_56 k21 x1 w46_3 w46_3 T46)
def fX5_feeds_21b (x1 : Int32) (k21 : Int32 → Int32 → bf_TS → Option (Int32 × bf_TS)) (v21_2 : Int32) (v21_3 : Int32) (T21 : bf_TS) : Option (Int32 × bf_TS) := if 1024 ≤ v21_3 then (fX5_feeds_62 x1 v21_2 T21) else (if v21_2 = (-1) then (fX5_feeds_46 k21 x1 v21_2 v21_3 T21) else (bf_b (fX5_onesOf v21_3) fun r_3 => bf_b (fX5_onesOf v21_2) fun r_4 => if r_4 ≤ r_3 then (fX5_feeds_56 k21 x1 v21_2 v21_3 T21) else (fX5_feeds_46 k21 x1 v21_2 v21_3 T21)))
def fX5_feeds_21 (x1 : Int32) : Nat → Int32 → Int32 → bf_TS → Option (Int32 × bf_TS)
  | 0, _, _, _ => none
  | n + 1, v21_2, v21_3, T21 => fX5_feeds_21b x1 (fX5_feeds_21 x1 n) v21_2 v21_3 T21
def fX5_feeds (T : bf_TS) (x1 : Int32) : Option (Int32 × bf_TS) := bf_l (bf_u2 T 0 0 0) fun T_12 => if (fX5_isIn x1 0 1) = 0 then (some ((-1), T_12)) else (fX5_feeds_21 x1 bf_fuel (-1) 0 T_12)
set_option maxHeartbeats 4000000 in
theorem mX5_feeds (l : Launch) (G : bf_G) (σ : bf_V) (o : Nat) (T : bf_TS) (x1 : Int32) {r : Int32} {T' : bf_TS} (hf : fX5_feeds T x1 = some (r, T')) : bf_MI l G yX5_feeds cX5_feeds 4 (bf_rm 2) [.ref o, .int x1] (bf_pT G σ o T) (fun v σ' => v = r ∧ σ' = bf_pT G σ o T') := by
  refine bf_MI.of rfl (Nat.le_of_ble_eq_true rfl) ?_
  intro p e s m below meth c Q X hlk hnm kret hd ls hl
  have hx := X.1
  have hb := X.2.1
  have hown := X.2.2.2.1
  have hts := X.2.2.2.2
  have hl : lv_has ls 4 [(0, .ref o), (1, .int x1)] := hl
  have J62 : ∀ (w62_2 : Int32) (T62 : bf_TS) (H : Heap) (locs : List Loc) (ls : Array Slot), fX5_feeds_62 x1 w62_2 T62 = some (r, T') → bf_Dy G s H locs (bf_pT G σ o T62) → lv_has ls 4 [(0, .ref o), (1, .int x1), (2, .int w62_2)] → W p l e (bf_rm 2) s m ([.ref o, .int x1] : List Value).toArray below meth c H locs 0 0 Q (F0 m 62 ls []) := by
    intro w62_2 T62 H locs ls hf hd hl
    unfold fX5_feeds_62 at hf
    refine lv_iload_n hx hb dX5_feeds_62 rfl (lv_at hl 1 rfl) ?_
    refine lv_if_ne (tgt := 74) hx hb dX5_feeds_63 (by decide) (fun c_15 => ?_) (fun c_15 => ?_)
    · have hf := bf_ie hf c_15
      refine lv_iload_n hx hb dX5_feeds_74 rfl (lv_at hl 2 rfl) ?_
      exact kret _ _ _ _ _ _ ⟨(bf_pr hf).1, congrArg (bf_pT G σ o) (bf_pr hf).2⟩ hd dX5_feeds_75
    · have hf := bf_it hf c_15
      refine lv_aload_n hx hb dX5_feeds_66 rfl (lv_at hl 0 rfl) ?_
      refine lv_iload_n hx hb dX5_feeds_67 rfl (lv_at hl 2 rfl) ?_
      obtain ⟨r_16, er_16, hf⟩ := bf_b_some hf
      refine bf_tci (n := 1) (As := [.int w62_2]) (rest := []) X hd (mX5_onesOf l G σ o T62 w62_2 er_16) (lw_V q1974 q1976 qs137 q156 q1977) (by decide +kernel) ⟨Nat.le_of_ble_eq_true rfl, Nat.le_of_ble_eq_true rfl⟩ rfl hl.1 rfl (Nat.le_of_ble_eq_true rfl) dX5_feeds_68 ⟨Nat.le_of_ble_eq_true rfl, Nat.le_of_ble_eq_true rfl⟩ (fun H locs hd => ?_)
      refine lv_goto (tgt := 75) hx hb dX5_feeds_71 (by decide) ?_
      exact kret _ _ _ _ _ _ ⟨(bf_pr hf).1, congrArg (bf_pT G σ o) (bf_pr hf).2⟩ hd dX5_feeds_75
  have L21 : ∀ (n21 : Nat) (v21_2 : Int32) (v21_3 : Int32) (T21 : bf_TS) (H : Heap) (locs : List Loc) (ls : Array Slot), fX5_feeds_21 x1 n21 v21_2 v21_3 T21 = some (r, T') → bf_Dy G s H locs (bf_pT G σ o T21) → lv_has ls 4 [(0, .ref o), (1, .int x1), (2, .int v21_2), (3, .int v21_3)] → W p l e (bf_rm 2) s m ([.ref o, .int x1] : List Value).toArray below meth c H locs 0 0 Q (F0 m 21 ls []) := by
    intro n21
    induction n21 with
    | zero =>
      intro v21_2 v21_3 T21 H locs ls hf hd hl
      exact absurd (show (none : Option (Int32 × bf_TS)) = some (r, T') from hf) (by intro h; cases h)
    | succ n21 ih21 =>
      intro v21_2 v21_3 T21 H locs ls hf hd hl
      have hf : fX5_feeds_21b x1 (fX5_feeds_21 x1 n21) v21_2 v21_3 T21 = some (r, T') := hf
      unfold fX5_feeds_21b at hf
      have J56 : ∀ (w56_2 : Int32) (w56_3 : Int32) (T56 : bf_TS) (H : Heap) (locs : List Loc) (ls : Array Slot), fX5_feeds_56 (fX5_feeds_21 x1 n21) x1 w56_2 w56_3 T56 = some (r, T') → bf_Dy G s H locs (bf_pT G σ o T56) → lv_has ls 4 [(0, .ref o), (1, .int x1), (2, .int w56_2), (3, .int w56_3)] → W p l e (bf_rm 2) s m ([.ref o, .int x1] : List Value).toArray below meth c H locs 0 0 Q (F0 m 56 ls []) := by
        intro w56_2 w56_3 T56 H locs ls hf hd hl
        unfold fX5_feeds_56 at hf
        obtain ⟨x3_17, ex3_17, hf⟩ := bf_l_e hf
        refine lv_iinc (v := x3_17) (lv' := [(3, .int x3_17), (0, .ref o), (1, .int x1), (2, .int w56_2)]) hx hb dX5_feeds_56 hl (k := 3) rfl (by rw [ex3_17]; rfl) (by decide) rfl (fun ls hl => ?_)
        refine lv_goto (tgt := 21) hx hb dX5_feeds_59 (by decide) ?_
        exact ih21 w56_2 x3_17 T56 _ _ _ hf hd (lv_sub hl [1, 2, 3, 0] rfl)
      have J46 : ∀ (w46_2 : Int32) (w46_3 : Int32) (T46 : bf_TS) (H : Heap) (locs : List Loc) (ls : Array Slot), fX5_feeds_46 (fX5_feeds_21 x1 n21) x1 w46_2 w46_3 T46 = some (r, T') → bf_Dy G s H locs (bf_pT G σ o T46) → lv_has ls 4 [(0, .ref o), (1, .int x1), (2, .int w46_2), (3, .int w46_3)] → W p l e (bf_rm 2) s m ([.ref o, .int x1] : List Value).toArray below meth c H locs 0 0 Q (F0 m 46 ls []) := by
        intro w46_2 w46_3 T46 H locs ls hf hd hl
        unfold fX5_feeds_46 at hf
        refine lv_aload_n hx hb dX5_feeds_46 rfl (lv_at hl 0 rfl) ?_
        refine lv_iload_n hx hb dX5_feeds_47 rfl (lv_at hl 3 rfl) ?_
        obtain ⟨r_18, er_18, hf⟩ := bf_b_some hf
        refine bf_tcz (n := 1) (As := [.int w46_3]) (rest := []) X hd (mX5_feedsAll l G σ o T46 w46_3 er_18) (lw_V q1978 q1980 qs138 q156 q1981) (by decide +kernel) ⟨Nat.le_of_ble_eq_true rfl, Nat.le_of_ble_eq_true rfl⟩ rfl hl.1 rfl (Nat.le_of_ble_eq_true rfl) dX5_feeds_48 ⟨Nat.le_of_ble_eq_true rfl, Nat.le_of_ble_eq_true rfl⟩ (fun H locs z_19 hd => ?_)
        refine lv_if_eq (tgt := 56) hx hb dX5_feeds_51 (by decide) (fun c_20 => ?_) (fun c_20 => ?_)
        · have hf := bf_it hf c_20
          exact J56 w46_2 w46_3 T46 _ _ _ hf hd (lv_sub hl [0, 1, 2, 3] rfl)
        · have hf := bf_ie hf c_20
          refine lv_iload_n hx hb dX5_feeds_54 rfl (lv_at hl 3 rfl) ?_
          refine lv_istore_n (lv' := [(2, .int w46_3), (0, .ref o), (1, .int x1), (3, .int w46_3)]) hx hb dX5_feeds_55 rfl hl (by decide) rfl (fun ls hl => ?_)
          exact J56 w46_3 w46_3 T46 _ _ _ hf hd (lv_sub hl [1, 2, 0, 3] rfl)
      refine lv_iload_n hx hb dX5_feeds_21 rfl (lv_at hl 3 rfl) ?_
      refine lv_sipush (v := 1024) hx hb dX5_feeds_22 (by decide) ?_
      refine lv_icmp_ge (tgt := 62) hx hb dX5_feeds_25 (by decide) (fun c_21 => ?_) (fun c_21 => ?_)
      · have hf := bf_it hf c_21
        exact J62 v21_2 T21 _ _ _ hf hd (lv_sub hl [0, 1, 2] rfl)
      · have hf := bf_ie hf c_21
        refine lv_iload_n hx hb dX5_feeds_28 rfl (lv_at hl 2 rfl) ?_
        refine lv_iconst (v := (-1)) hx hb dX5_feeds_29 (by decide) ?_
        refine lv_icmp_eq (tgt := 46) hx hb dX5_feeds_30 (by decide) (fun c_22 => ?_) (fun c_22 => ?_)
        · have hf := bf_it hf c_22
          exact J46 v21_2 v21_3 T21 _ _ _ hf hd (lv_sub hl [0, 1, 2, 3] rfl)
        · have hf := bf_ie hf c_22
          refine lv_aload_n hx hb dX5_feeds_33 rfl (lv_at hl 0 rfl) ?_
          refine lv_iload_n hx hb dX5_feeds_34 rfl (lv_at hl 3 rfl) ?_
          obtain ⟨r_23, er_23, hf⟩ := bf_b_some hf
          refine bf_tci (n := 1) (As := [.int v21_3]) (rest := []) X hd (mX5_onesOf l G σ o T21 v21_3 er_23) (lw_V q1974 q1976 qs137 q156 q1977) (by decide +kernel) ⟨Nat.le_of_ble_eq_true rfl, Nat.le_of_ble_eq_true rfl⟩ rfl hl.1 rfl (Nat.le_of_ble_eq_true rfl) dX5_feeds_35 ⟨Nat.le_of_ble_eq_true rfl, Nat.le_of_ble_eq_true rfl⟩ (fun H locs hd => ?_)
          refine lv_aload_n hx hb dX5_feeds_38 rfl (lv_at hl 0 rfl) ?_
          refine lv_iload_n hx hb dX5_feeds_39 rfl (lv_at hl 2 rfl) ?_
          obtain ⟨r_24, er_24, hf⟩ := bf_b_some hf
          refine bf_tci (n := 1) (As := [.int v21_2]) (rest := [.int r_23]) X hd (mX5_onesOf l G σ o T21 v21_2 er_24) (lw_V q1974 q1976 qs137 q156 q1977) (by decide +kernel) ⟨Nat.le_of_ble_eq_true rfl, Nat.le_of_ble_eq_true rfl⟩ rfl hl.1 rfl (Nat.le_of_ble_eq_true rfl) dX5_feeds_40 ⟨Nat.le_of_ble_eq_true rfl, Nat.le_of_ble_eq_true rfl⟩ (fun H locs hd => ?_)
          refine lv_icmp_ge (tgt := 56) hx hb dX5_feeds_43 (by decide) (fun c_25 => ?_) (fun c_25 => ?_)
          · have hf := bf_it hf c_25
            exact J56 v21_2 v21_3 T21 _ _ _ hf hd (lv_sub hl [0, 1, 2, 3] rfl)
          · have hf := bf_ie hf c_25
            exact J46 v21_2 v21_3 T21 _ _ _ hf hd (lv_sub hl [0, 1, 2, 3] rfl)
  unfold fX5_feeds at hf
  refine lv_aload_n hx hb dX5_feeds_0 rfl (lv_at hl 0 rfl) ?_
  refine lv_iconst (v := 0) hx hb dX5_feeds_1 (by decide) ?_
  refine bf_tpi X hd 0 (by decide) ⟨rfl, rfl, rfl⟩ q1383 dX5_feeds_2 (fun H locs hd => ?_)
  obtain ⟨T_26, eT_26, hf⟩ := bf_l_e hf
  have hd := hd.of (congrArg (bf_pT G σ o) eT_26.symm)
  refine lv_aload_n hx hb dX5_feeds_5 rfl (lv_at hl 0 rfl) ?_
  refine lv_iload_n hx hb dX5_feeds_6 rfl (lv_at hl 1 rfl) ?_
  refine lv_iconst (v := 0) hx hb dX5_feeds_7 (by decide) ?_
  refine lv_iconst (v := 1) hx hb dX5_feeds_8 (by decide) ?_
  refine bf_tcz (n := 3) (As := [.int x1, .int 0, .int 1]) (rest := []) X hd (mX5_isIn l G σ o T_26 x1 0 1 rfl) (lw_V q1564 q1566 qs56 q156 q1567) (by decide +kernel) ⟨Nat.le_of_ble_eq_true rfl, Nat.le_of_ble_eq_true rfl⟩ rfl hl.1 rfl (Nat.le_of_ble_eq_true rfl) dX5_feeds_9 ⟨Nat.le_of_ble_eq_true rfl, Nat.le_of_ble_eq_true rfl⟩ (fun H locs z_27 hd => ?_)
  refine lv_if_ne (tgt := 17) hx hb dX5_feeds_12 (by decide) (fun c_28 => ?_) (fun c_28 => ?_)
  · have hf := bf_ie hf c_28
    refine lv_iconst (v := (-1)) hx hb dX5_feeds_17 (by decide) ?_
    refine lv_istore_n (lv' := [(2, .int (-1)), (0, .ref o), (1, .int x1)]) hx hb dX5_feeds_18 rfl hl (by decide) rfl (fun ls hl => ?_)
    refine lv_iconst (v := 0) hx hb dX5_feeds_19 (by decide) ?_
    refine lv_istore_n (lv' := [(3, .int 0), (2, .int (-1)), (0, .ref o), (1, .int x1)]) hx hb dX5_feeds_20 rfl hl (by decide) rfl (fun ls hl => ?_)
    exact L21 bf_fuel (-1) 0 T_26 _ _ _ hf hd (lv_sub hl [2, 3, 1, 0] rfl)
  · have hf := bf_it hf c_28
    refine lv_iconst (v := (-1)) hx hb dX5_feeds_15 (by decide) ?_
    exact kret _ _ _ _ _ _ ⟨(bf_pr hf).1, congrArg (bf_pT G σ o) (bf_pr hf).2⟩ hd dX5_feeds_16
def fX5_core (T : bf_TS) (x1 x2 : Int32) : Option (Int32 × bf_TS) := bf_l (bf_u2 T 0 0 0) fun T_1 => if x1 = (-1) then (bf_l (bf_u2 T_1 48 0 0) fun T_13 => some (0, T_13)) else (if (fX5_isParty T_1 x1) = 0 then (some ((-1), T_1)) else (if (fX5_isPlace x2) = 0 then (some ((-1), T_1)) else (if (T_1 48 0) = 8 then (some ((-1), T_1)) else (bf_c (bf_in (2 * (T_1 48 0)) 16) <| bf_l (bf_u2 T_1 49 (2 * (T_1 48 0)).toNatClampNeg x1) fun T_9 => bf_c (bf_in ((2 * (T_9 48 0)) + 1) 16) <| bf_l (bf_u2 T_9 49 ((2 * (T_9 48 0)) + 1).toNatClampNeg x2) fun T_11 => bf_l (bf_u2 T_11 48 0 ((T_11 48 0) + 1)) fun T_12 => some ((T_12 48 0), T_12)))))
set_option maxHeartbeats 4000000 in
theorem mX5_core (l : Launch) (G : bf_G) (σ : bf_V) (o : Nat) (T : bf_TS) (x1 x2 : Int32) {r : Int32} {T' : bf_TS} (hf : fX5_core T x1 x2 = some (r, T')) : bf_MI l G yX5_core cX5_core 3 (bf_rm 1) [.ref o, .int x1, .int x2] (bf_pT G σ o T) (fun v σ' => v = r ∧ σ' = bf_pT G σ o T') := by
  refine bf_MI.of rfl (Nat.le_of_ble_eq_true rfl) ?_
  intro p e s m below meth c Q X hlk hnm kret hd ls hl
  have hx := X.1
  have hb := X.2.1
  have hown := X.2.2.2.1
  have hts := X.2.2.2.2
  have hl : lv_has ls 3 [(0, .ref o), (1, .int x1), (2, .int x2)] := hl
  unfold fX5_core at hf
  refine lv_aload_n hx hb dX5_core_0 rfl (lv_at hl 0 rfl) ?_
  refine lv_iconst (v := 0) hx hb dX5_core_1 (by decide) ?_
  refine bf_tpi X hd 0 (by decide) ⟨rfl, rfl, rfl⟩ q1383 dX5_core_2 (fun H locs hd => ?_)
  obtain ⟨T_14, eT_14, hf⟩ := bf_l_e hf
  have hd := hd.of (congrArg (bf_pT G σ o) eT_14.symm)
  refine lv_iload_n hx hb dX5_core_5 rfl (lv_at hl 1 rfl) ?_
  refine lv_iconst (v := (-1)) hx hb dX5_core_6 (by decide) ?_
  refine lv_icmp_ne (tgt := 17) hx hb dX5_core_7 (by decide) (fun c_15 => ?_) (fun c_15 => ?_)
  · have hf := bf_ie hf c_15
    refine lv_aload_n hx hb dX5_core_17 rfl (lv_at hl 0 rfl) ?_
    refine lv_iload_n hx hb dX5_core_18 rfl (lv_at hl 1 rfl) ?_
    refine bf_tcz (n := 1) (As := [.int x1]) (rest := []) X hd (mX5_isParty l G σ o T_14 x1 rfl) (lw_V q1580 q1582 qs58 q156 q1583) (by decide +kernel) ⟨Nat.le_of_ble_eq_true rfl, Nat.le_of_ble_eq_true rfl⟩ rfl hl.1 rfl (Nat.le_of_ble_eq_true rfl) dX5_core_19 ⟨Nat.le_of_ble_eq_true rfl, Nat.le_of_ble_eq_true rfl⟩ (fun H locs z_16 hd => ?_)
    refine lv_if_eq (tgt := 42) hx hb dX5_core_22 (by decide) (fun c_17 => ?_) (fun c_17 => ?_)
    · have hf := bf_it hf c_17
      refine lv_iconst (v := (-1)) hx hb dX5_core_42 (by decide) ?_
      exact kret _ _ _ _ _ _ ⟨(bf_pr hf).1, congrArg (bf_pT G σ o) (bf_pr hf).2⟩ hd dX5_core_43
    · have hf := bf_ie hf c_17
      refine lv_aload_n hx hb dX5_core_25 rfl (lv_at hl 0 rfl) ?_
      refine lv_iload_n hx hb dX5_core_26 rfl (lv_at hl 2 rfl) ?_
      refine bf_tcz (n := 1) (As := [.int x2]) (rest := []) X hd (mX5_isPlace l G σ o T_14 x2 rfl) (lw_V q1752 q1754 qs95 q156 q1755) (by decide +kernel) ⟨Nat.le_of_ble_eq_true rfl, Nat.le_of_ble_eq_true rfl⟩ rfl hl.1 rfl (Nat.le_of_ble_eq_true rfl) dX5_core_27 ⟨Nat.le_of_ble_eq_true rfl, Nat.le_of_ble_eq_true rfl⟩ (fun H locs z_18 hd => ?_)
      refine lv_if_eq (tgt := 42) hx hb dX5_core_30 (by decide) (fun c_19 => ?_) (fun c_19 => ?_)
      · have hf := bf_it hf c_19
        refine lv_iconst (v := (-1)) hx hb dX5_core_42 (by decide) ?_
        exact kret _ _ _ _ _ _ ⟨(bf_pr hf).1, congrArg (bf_pT G σ o) (bf_pr hf).2⟩ hd dX5_core_43
      · have hf := bf_ie hf c_19
        refine lv_aload_n hx hb dX5_core_33 rfl (lv_at hl 0 rfl) ?_
        refine bf_tgi X hd 48 (by decide) rfl q1431 dX5_core_34 ?_
        refine lv_bipush (v := 8) hx hb dX5_core_37 (by decide) ?_
        refine lv_icmp_ne (tgt := 44) hx hb dX5_core_39 (by decide) (fun c_20 => ?_) (fun c_20 => ?_)
        · have hf := bf_ie hf c_20
          refine lv_aload_n hx hb dX5_core_44 rfl (lv_at hl 0 rfl) ?_
          refine bf_tga X hd 49 (by decide) (by decide) q1432 dX5_core_45 ?_
          refine lv_iconst (v := 2) hx hb dX5_core_48 (by decide) ?_
          refine lv_aload_n hx hb dX5_core_49 rfl (lv_at hl 0 rfl) ?_
          refine bf_tgi X hd 48 (by decide) rfl q1431 dX5_core_50 ?_
          refine lv_imul hx hb dX5_core_53 ?_
          refine lv_iload_n hx hb dX5_core_54 rfl (lv_at hl 1 rfl) ?_
          obtain ⟨g_21, hf⟩ := bf_c_some hf
          refine bf_tst X hd 49 (by decide) g_21 dX5_core_55 (fun H locs hd => ?_)
          obtain ⟨T_22, eT_22, hf⟩ := bf_l_e hf
          have hd := hd.of (congrArg (bf_pT G σ o) eT_22.symm)
          refine lv_aload_n hx hb dX5_core_56 rfl (lv_at hl 0 rfl) ?_
          refine bf_tga X hd 49 (by decide) (by decide) q1432 dX5_core_57 ?_
          refine lv_iconst (v := 2) hx hb dX5_core_60 (by decide) ?_
          refine lv_aload_n hx hb dX5_core_61 rfl (lv_at hl 0 rfl) ?_
          refine bf_tgi X hd 48 (by decide) rfl q1431 dX5_core_62 ?_
          refine lv_imul hx hb dX5_core_65 ?_
          refine lv_iconst (v := 1) hx hb dX5_core_66 (by decide) ?_
          refine lv_iadd hx hb dX5_core_67 ?_
          refine lv_iload_n hx hb dX5_core_68 rfl (lv_at hl 2 rfl) ?_
          obtain ⟨g_23, hf⟩ := bf_c_some hf
          refine bf_tst X hd 49 (by decide) g_23 dX5_core_69 (fun H locs hd => ?_)
          obtain ⟨T_24, eT_24, hf⟩ := bf_l_e hf
          have hd := hd.of (congrArg (bf_pT G σ o) eT_24.symm)
          refine lv_aload_n hx hb dX5_core_70 rfl (lv_at hl 0 rfl) ?_
          refine lv_aload_n hx hb dX5_core_71 rfl (lv_at hl 0 rfl) ?_
          refine bf_tgi X hd 48 (by decide) rfl q1431 dX5_core_72 ?_
          refine lv_iconst (v := 1) hx hb dX5_core_75 (by decide) ?_
          refine lv_iadd hx hb dX5_core_76 ?_
          refine bf_tpi X hd 48 (by decide) ⟨rfl, rfl, rfl⟩ q1431 dX5_core_77 (fun H locs hd => ?_)
          obtain ⟨T_25, eT_25, hf⟩ := bf_l_e hf
          have hd := hd.of (congrArg (bf_pT G σ o) eT_25.symm)
          refine lv_aload_n hx hb dX5_core_80 rfl (lv_at hl 0 rfl) ?_
          refine bf_tgi X hd 48 (by decide) rfl q1431 dX5_core_81 ?_
          exact kret _ _ _ _ _ _ ⟨(bf_pr hf).1, congrArg (bf_pT G σ o) (bf_pr hf).2⟩ hd dX5_core_84
        · have hf := bf_it hf c_20
          refine lv_iconst (v := (-1)) hx hb dX5_core_42 (by decide) ?_
          exact kret _ _ _ _ _ _ ⟨(bf_pr hf).1, congrArg (bf_pT G σ o) (bf_pr hf).2⟩ hd dX5_core_43
  · have hf := bf_it hf c_15
    refine lv_aload_n hx hb dX5_core_10 rfl (lv_at hl 0 rfl) ?_
    refine lv_iconst (v := 0) hx hb dX5_core_11 (by decide) ?_
    refine bf_tpi X hd 48 (by decide) ⟨rfl, rfl, rfl⟩ q1431 dX5_core_12 (fun H locs hd => ?_)
    obtain ⟨T_26, eT_26, hf⟩ := bf_l_e hf
    have hd := hd.of (congrArg (bf_pT G σ o) eT_26.symm)
    refine lv_iconst (v := 0) hx hb dX5_core_15 (by decide) ?_
    exact kret _ _ _ _ _ _ ⟨(bf_pr hf).1, congrArg (bf_pT G σ o) (bf_pr hf).2⟩ hd dX5_core_16
def fX5_eatersOfAll_84 (T : bf_TS) (k4 : Int32 → Int32 → Option (Int32)) (w84_1 : Int32) (w84_2 : Int32) : Option (Int32) := bf_l (w84_2 + 1) fun x2_13 => k4 w84_1 x2_13
def fX5_eatersOfAll_74 (T : bf_TS) (k4 : Int32 → Int32 → Option (Int32)) (w74_1 : Int32) (w74_2 : Int32) (w74_3 : Int32) : Option (Int32) := if w74_3 = 0 then (fX5_eatersOfAll_84 T k4 w74_1 w74_2) else (bf_l ((w74_1 ||| (1 <<< (w74_2 &&& 31)))) fun x1_12 => fX5_eatersOfAll_84 T k4 x1_12 w74_2)
def fX5_eatersOfAll_68 (T : bf_TS) (k4 : Int32 → Int32 → Option (Int32)) (k17 : Int32 → Int32 → Option (Int32)) (u17_1 : Int32) (u17_2 : Int32) (w68_3 : Int32) (w68_4 : Int32) : Option (Int32) := bf_l (w68_4 + 1) fun x4_10 => k17 w68_3 x4_10
def fX5_eatersOfAll_66 (T : bf_TS) (k4 : Int32 → Int32 → Option (Int32)) (k17 : Int32 → Int32 → Option (Int32)) (u17_1 : Int32) (u17_2 : Int32) (w66_4 : Int32) : Option (Int32) := fX5_eatersOfAll_68 T k4 k17 u17_1 u17_2 0 w66_4
def fX5_eatersOfAll_17b (T : bf_TS) (k4 : Int32 → Int32 → Option (Int32)) (u17_1 : Int32) (u17_2 : Int32) (k17 : Int32 → Int32 → Option (Int32)) (v17_3 : Int32) (v17_4 : Int32) : Option (Int32) := if (T 48 0) ≤ v17_4 then (fX5_eatersOfAll_74 T k4 u17_1 u17_2 v17_3) else (bf_c (bf_in (2 * v17_4) 16) <| bf_b (fX5_tasteOf T u17_2 (T 49 (2 * v17_4).toNatClampNeg)) fun r_4 => if r_4 = 0 then (fX5_eatersOfAll_66 T k4 k17 u17_1 u17_2 v17_4) else (bf_b (fX5_placesOf T u17_2) fun r_6 => bf_c (bf_in ((2 * v17_4) + 1) 16) <| if (fX5_has r_6 (T 49 ((2 * v17_4) + 1).toNatClampNeg)) = 0 then (fX5_eatersOfAll_66 T k4 k17 u17_1 u17_2 v17_4) else (fX5_eatersOfAll_68 T k4 k17 u17_1 u17_2 v17_3 v17_4)))
def fX5_eatersOfAll_17 (T : bf_TS) (k4 : Int32 → Int32 → Option (Int32)) (u17_1 : Int32) (u17_2 : Int32) : Nat → Int32 → Int32 → Option (Int32)
  | 0, _, _ => none
  | n + 1, v17_3, v17_4 => fX5_eatersOfAll_17b T k4 u17_1 u17_2 (fX5_eatersOfAll_17 T k4 u17_1 u17_2 n) v17_3 v17_4
def fX5_eatersOfAll_4b (T : bf_TS) (k4 : Int32 → Int32 → Option (Int32)) (v4_1 : Int32) (v4_2 : Int32) : Option (Int32) := if (T 7 0) ≤ v4_2 then (some v4_1) else (fX5_eatersOfAll_17 T k4 v4_1 v4_2 bf_fuel 1 0)
def fX5_eatersOfAll_4 (T : bf_TS) : Nat → Int32 → Int32 → Option (Int32)
  | 0, _, _ => none
  | n + 1, v4_1, v4_2 => fX5_eatersOfAll_4b T (fX5_eatersOfAll_4 T n) v4_1 v4_2
def fX5_eatersOfAll (T : bf_TS) : Option (Int32) := fX5_eatersOfAll_4 T bf_fuel 0 0
set_option maxHeartbeats 4000000 in
theorem mX5_eatersOfAll (l : Launch) (G : bf_G) (σ : bf_V) (o : Nat) (T : bf_TS) {r : Int32} (hf : fX5_eatersOfAll T = some r) : bf_MI l G yX5_eatersOfAll cX5_eatersOfAll 5 (bf_rm 1) [.ref o] (bf_pT G σ o T) (fun v σ' => v = r ∧ σ' = bf_pT G σ o T) := by
  refine bf_MI.of rfl (Nat.le_of_ble_eq_true rfl) ?_
  intro p e s m below meth c Q X hlk hnm kret hd ls hl
  have hx := X.1
  have hb := X.2.1
  have hown := X.2.2.2.1
  have hts := X.2.2.2.2
  have hl : lv_has ls 5 [(0, .ref o)] := hl
  have L4 : ∀ (n4 : Nat) (v4_1 : Int32) (v4_2 : Int32) (H : Heap) (locs : List Loc) (ls : Array Slot), fX5_eatersOfAll_4 T n4 v4_1 v4_2 = some r → bf_Dy G s H locs (bf_pT G σ o T) → lv_has ls 5 [(0, .ref o), (1, .int v4_1), (2, .int v4_2)] → W p l e (bf_rm 1) s m ([.ref o] : List Value).toArray below meth c H locs 0 0 Q (F0 m 4 ls []) := by
    intro n4
    induction n4 with
    | zero =>
      intro v4_1 v4_2 H locs ls hf hd hl
      exact absurd (show (none : Option (Int32)) = some r from hf) (by intro h; cases h)
    | succ n4 ih4 =>
      intro v4_1 v4_2 H locs ls hf hd hl
      have hf : fX5_eatersOfAll_4b T (fX5_eatersOfAll_4 T n4) v4_1 v4_2 = some r := hf
      unfold fX5_eatersOfAll_4b at hf
      have J84 : ∀ (w84_1 : Int32) (w84_2 : Int32) (H : Heap) (locs : List Loc) (ls : Array Slot), fX5_eatersOfAll_84 T (fX5_eatersOfAll_4 T n4) w84_1 w84_2 = some r → bf_Dy G s H locs (bf_pT G σ o T) → lv_has ls 5 [(0, .ref o), (1, .int w84_1), (2, .int w84_2)] → W p l e (bf_rm 1) s m ([.ref o] : List Value).toArray below meth c H locs 0 0 Q (F0 m 84 ls []) := by
        intro w84_1 w84_2 H locs ls hf hd hl
        unfold fX5_eatersOfAll_84 at hf
        obtain ⟨x2_14, ex2_14, hf⟩ := bf_l_e hf
        refine lv_iinc (v := x2_14) (lv' := [(2, .int x2_14), (0, .ref o), (1, .int w84_1)]) hx hb dX5_eatersOfAll_84 hl (k := 2) rfl (by rw [ex2_14]; rfl) (by decide) rfl (fun ls hl => ?_)
        refine lv_goto (tgt := 4) hx hb dX5_eatersOfAll_87 (by decide) ?_
        exact ih4 w84_1 x2_14 _ _ _ hf hd (lv_sub hl [1, 2, 0] rfl)
      have J74 : ∀ (w74_1 : Int32) (w74_2 : Int32) (w74_3 : Int32) (H : Heap) (locs : List Loc) (ls : Array Slot), fX5_eatersOfAll_74 T (fX5_eatersOfAll_4 T n4) w74_1 w74_2 w74_3 = some r → bf_Dy G s H locs (bf_pT G σ o T) → lv_has ls 5 [(0, .ref o), (1, .int w74_1), (2, .int w74_2), (3, .int w74_3)] → W p l e (bf_rm 1) s m ([.ref o] : List Value).toArray below meth c H locs 0 0 Q (F0 m 74 ls []) := by
        intro w74_1 w74_2 w74_3 H locs ls hf hd hl
        unfold fX5_eatersOfAll_74 at hf
        refine lv_iload_n hx hb dX5_eatersOfAll_74 rfl (lv_at hl 3 rfl) ?_
        refine lv_if_eq (tgt := 84) hx hb dX5_eatersOfAll_75 (by decide) (fun c_15 => ?_) (fun c_15 => ?_)
        · have hf := bf_it hf c_15
          exact J84 w74_1 w74_2 _ _ _ hf hd (lv_sub hl [0, 1, 2] rfl)
        · have hf := bf_ie hf c_15
          refine lv_iload_n hx hb dX5_eatersOfAll_78 rfl (lv_at hl 1 rfl) ?_
          refine lv_iconst (v := 1) hx hb dX5_eatersOfAll_79 (by decide) ?_
          refine lv_iload_n hx hb dX5_eatersOfAll_80 rfl (lv_at hl 2 rfl) ?_
          refine lv_ishl hx hb dX5_eatersOfAll_81 ?_
          refine lv_ior hx hb dX5_eatersOfAll_82 ?_
          obtain ⟨x1_16, ex1_16, hf⟩ := bf_l_e hf
          refine bf_top ex1_16 ?_
          refine lv_istore_n (lv' := [(1, .int x1_16), (0, .ref o), (2, .int w74_2), (3, .int w74_3)]) hx hb dX5_eatersOfAll_83 rfl hl (by decide) rfl (fun ls hl => ?_)
          exact J84 x1_16 w74_2 _ _ _ hf hd (lv_sub hl [1, 0, 2] rfl)
      have L17 : ∀ (u17_1 : Int32) (u17_2 : Int32) (n17 : Nat) (v17_3 : Int32) (v17_4 : Int32) (H : Heap) (locs : List Loc) (ls : Array Slot), fX5_eatersOfAll_17 T (fX5_eatersOfAll_4 T n4) u17_1 u17_2 n17 v17_3 v17_4 = some r → bf_Dy G s H locs (bf_pT G σ o T) → lv_has ls 5 [(0, .ref o), (1, .int u17_1), (2, .int u17_2), (3, .int v17_3), (4, .int v17_4)] → W p l e (bf_rm 1) s m ([.ref o] : List Value).toArray below meth c H locs 0 0 Q (F0 m 17 ls []) := by
        intro u17_1 u17_2 n17
        induction n17 with
        | zero =>
          intro v17_3 v17_4 H locs ls hf hd hl
          exact absurd (show (none : Option (Int32)) = some r from hf) (by intro h; cases h)
        | succ n17 ih17 =>
          intro v17_3 v17_4 H locs ls hf hd hl
          have hf : fX5_eatersOfAll_17b T (fX5_eatersOfAll_4 T n4) u17_1 u17_2 (fX5_eatersOfAll_17 T (fX5_eatersOfAll_4 T n4) u17_1 u17_2 n17) v17_3 v17_4 = some r := hf
          unfold fX5_eatersOfAll_17b at hf
          have J68 : ∀ (w68_3 : Int32) (w68_4 : Int32) (H : Heap) (locs : List Loc) (ls : Array Slot), fX5_eatersOfAll_68 T (fX5_eatersOfAll_4 T n4) (fX5_eatersOfAll_17 T (fX5_eatersOfAll_4 T n4) u17_1 u17_2 n17) u17_1 u17_2 w68_3 w68_4 = some r → bf_Dy G s H locs (bf_pT G σ o T) → lv_has ls 5 [(0, .ref o), (1, .int u17_1), (2, .int u17_2), (3, .int w68_3), (4, .int w68_4)] → W p l e (bf_rm 1) s m ([.ref o] : List Value).toArray below meth c H locs 0 0 Q (F0 m 68 ls []) := by
            intro w68_3 w68_4 H locs ls hf hd hl
            unfold fX5_eatersOfAll_68 at hf
            obtain ⟨x4_17, ex4_17, hf⟩ := bf_l_e hf
            refine lv_iinc (v := x4_17) (lv' := [(4, .int x4_17), (0, .ref o), (1, .int u17_1), (2, .int u17_2), (3, .int w68_3)]) hx hb dX5_eatersOfAll_68 hl (k := 4) rfl (by rw [ex4_17]; rfl) (by decide) rfl (fun ls hl => ?_)
            refine lv_goto (tgt := 17) hx hb dX5_eatersOfAll_71 (by decide) ?_
            exact ih17 w68_3 x4_17 _ _ _ hf hd (lv_sub hl [1, 2, 3, 4, 0] rfl)
          have J66 : ∀ (w66_4 : Int32) (H : Heap) (locs : List Loc) (ls : Array Slot), fX5_eatersOfAll_66 T (fX5_eatersOfAll_4 T n4) (fX5_eatersOfAll_17 T (fX5_eatersOfAll_4 T n4) u17_1 u17_2 n17) u17_1 u17_2 w66_4 = some r → bf_Dy G s H locs (bf_pT G σ o T) → lv_has ls 5 [(0, .ref o), (1, .int u17_1), (2, .int u17_2), (4, .int w66_4)] → W p l e (bf_rm 1) s m ([.ref o] : List Value).toArray below meth c H locs 0 0 Q (F0 m 66 ls []) := by
            intro w66_4 H locs ls hf hd hl
            unfold fX5_eatersOfAll_66 at hf
            refine lv_iconst (v := 0) hx hb dX5_eatersOfAll_66 (by decide) ?_
            refine lv_istore_n (lv' := [(3, .int 0), (0, .ref o), (1, .int u17_1), (2, .int u17_2), (4, .int w66_4)]) hx hb dX5_eatersOfAll_67 rfl hl (by decide) rfl (fun ls hl => ?_)
            exact J68 0 w66_4 _ _ _ hf hd (lv_sub hl [1, 2, 3, 0, 4] rfl)
          refine lv_iload hx hb dX5_eatersOfAll_17 (lv_at hl 4 rfl) ?_
          refine lv_aload_n hx hb dX5_eatersOfAll_19 rfl (lv_at hl 0 rfl) ?_
          refine bf_tgi X hd 48 (by decide) rfl q1431 dX5_eatersOfAll_20 ?_
          refine lv_icmp_ge (tgt := 74) hx hb dX5_eatersOfAll_23 (by decide) (fun c_18 => ?_) (fun c_18 => ?_)
          · have hf := bf_it hf c_18
            exact J74 u17_1 u17_2 v17_3 _ _ _ hf hd (lv_sub hl [0, 1, 2, 3] rfl)
          · have hf := bf_ie hf c_18
            refine lv_aload_n hx hb dX5_eatersOfAll_26 rfl (lv_at hl 0 rfl) ?_
            refine lv_iload_n hx hb dX5_eatersOfAll_27 rfl (lv_at hl 2 rfl) ?_
            refine lv_aload_n hx hb dX5_eatersOfAll_28 rfl (lv_at hl 0 rfl) ?_
            refine bf_tga X hd 49 (by decide) (by decide) q1432 dX5_eatersOfAll_29 ?_
            refine lv_iconst (v := 2) hx hb dX5_eatersOfAll_32 (by decide) ?_
            refine lv_iload hx hb dX5_eatersOfAll_33 (lv_at hl 4 rfl) ?_
            refine lv_imul hx hb dX5_eatersOfAll_35 ?_
            obtain ⟨g_19, hf⟩ := bf_c_some hf
            refine bf_tld X hd 49 (by decide) g_19 dX5_eatersOfAll_36 ?_
            obtain ⟨r_20, er_20, hf⟩ := bf_b_some hf
            refine bf_tci (n := 2) (As := [.int u17_2, .int (T 49 (2 * v17_4).toNatClampNeg)]) (rest := []) X hd (mX5_tasteOf l G σ o T u17_2 (T 49 (2 * v17_4).toNatClampNeg) er_20) (lw_V q1852 q1854 qs117 q156 q1855) (by decide +kernel) ⟨Nat.le_of_ble_eq_true rfl, Nat.le_of_ble_eq_true rfl⟩ rfl hl.1 rfl (Nat.le_of_ble_eq_true rfl) dX5_eatersOfAll_37 ⟨Nat.le_of_ble_eq_true rfl, Nat.le_of_ble_eq_true rfl⟩ (fun H locs hd => ?_)
            refine lv_if_eq (tgt := 66) hx hb dX5_eatersOfAll_40 (by decide) (fun c_21 => ?_) (fun c_21 => ?_)
            · have hf := bf_it hf c_21
              exact J66 v17_4 _ _ _ hf hd (lv_sub hl [0, 1, 2, 4] rfl)
            · have hf := bf_ie hf c_21
              refine lv_aload_n hx hb dX5_eatersOfAll_43 rfl (lv_at hl 0 rfl) ?_
              refine lv_aload_n hx hb dX5_eatersOfAll_44 rfl (lv_at hl 0 rfl) ?_
              refine lv_iload_n hx hb dX5_eatersOfAll_45 rfl (lv_at hl 2 rfl) ?_
              obtain ⟨r_22, er_22, hf⟩ := bf_b_some hf
              refine bf_tci (n := 1) (As := [.int u17_2]) (rest := [.ref o]) X hd (mX5_placesOf l G σ o T u17_2 er_22) (lw_V q1982 q1984 qs139 q156 q1985) (by decide +kernel) ⟨Nat.le_of_ble_eq_true rfl, Nat.le_of_ble_eq_true rfl⟩ rfl hl.1 rfl (Nat.le_of_ble_eq_true rfl) dX5_eatersOfAll_46 ⟨Nat.le_of_ble_eq_true rfl, Nat.le_of_ble_eq_true rfl⟩ (fun H locs hd => ?_)
              refine lv_aload_n hx hb dX5_eatersOfAll_49 rfl (lv_at hl 0 rfl) ?_
              refine bf_tga X hd 49 (by decide) (by decide) q1432 dX5_eatersOfAll_50 ?_
              refine lv_iconst (v := 2) hx hb dX5_eatersOfAll_53 (by decide) ?_
              refine lv_iload hx hb dX5_eatersOfAll_54 (lv_at hl 4 rfl) ?_
              refine lv_imul hx hb dX5_eatersOfAll_56 ?_
              refine lv_iconst (v := 1) hx hb dX5_eatersOfAll_57 (by decide) ?_
              refine lv_iadd hx hb dX5_eatersOfAll_58 ?_
              obtain ⟨g_23, hf⟩ := bf_c_some hf
              refine bf_tld X hd 49 (by decide) g_23 dX5_eatersOfAll_59 ?_
              refine bf_tcz (n := 2) (As := [.int r_22, .int (T 49 ((2 * v17_4) + 1).toNatClampNeg)]) (rest := []) X hd (mX5_has l G σ o T r_22 (T 49 ((2 * v17_4) + 1).toNatClampNeg) rfl) (lw_V q1776 q1778 qs100 q156 q1779) (by decide +kernel) ⟨Nat.le_of_ble_eq_true rfl, Nat.le_of_ble_eq_true rfl⟩ rfl hl.1 rfl (Nat.le_of_ble_eq_true rfl) dX5_eatersOfAll_60 ⟨Nat.le_of_ble_eq_true rfl, Nat.le_of_ble_eq_true rfl⟩ (fun H locs z_24 hd => ?_)
              refine lv_if_ne (tgt := 68) hx hb dX5_eatersOfAll_63 (by decide) (fun c_25 => ?_) (fun c_25 => ?_)
              · have hf := bf_ie hf c_25
                exact J68 v17_3 v17_4 _ _ _ hf hd (lv_sub hl [0, 1, 2, 3, 4] rfl)
              · have hf := bf_it hf c_25
                exact J66 v17_4 _ _ _ hf hd (lv_sub hl [0, 1, 2, 4] rfl)
      refine lv_iload_n hx hb dX5_eatersOfAll_4 rfl (lv_at hl 2 rfl) ?_
      refine lv_aload_n hx hb dX5_eatersOfAll_5 rfl (lv_at hl 0 rfl) ?_
      refine bf_tgi X hd 7 (by decide) rfl q1390 dX5_eatersOfAll_6 ?_
      refine lv_icmp_ge (tgt := 90) hx hb dX5_eatersOfAll_9 (by decide) (fun c_26 => ?_) (fun c_26 => ?_)
      · have hf := bf_it hf c_26
        refine lv_iload_n hx hb dX5_eatersOfAll_90 rfl (lv_at hl 1 rfl) ?_
        exact kret _ _ _ _ _ _ ⟨bf_so hf, rfl⟩ hd dX5_eatersOfAll_91
      · have hf := bf_ie hf c_26
        refine lv_iconst (v := 1) hx hb dX5_eatersOfAll_12 (by decide) ?_
        refine lv_istore_n (lv' := [(3, .int 1), (0, .ref o), (1, .int v4_1), (2, .int v4_2)]) hx hb dX5_eatersOfAll_13 rfl hl (by decide) rfl (fun ls hl => ?_)
        refine lv_iconst (v := 0) hx hb dX5_eatersOfAll_14 (by decide) ?_
        refine lv_istore (lv' := [(4, .int 0), (3, .int 1), (0, .ref o), (1, .int v4_1), (2, .int v4_2)]) hx hb dX5_eatersOfAll_15 hl (by decide) rfl (fun ls hl => ?_)
        exact L17 v4_1 v4_2 bf_fuel 1 0 _ _ _ hf hd (lv_sub hl [2, 3, 4, 1, 0] rfl)
  unfold fX5_eatersOfAll at hf
  refine lv_iconst (v := 0) hx hb dX5_eatersOfAll_0 (by decide) ?_
  refine lv_istore_n (lv' := [(1, .int 0), (0, .ref o)]) hx hb dX5_eatersOfAll_1 rfl hl (by decide) rfl (fun ls hl => ?_)
  refine lv_iconst (v := 0) hx hb dX5_eatersOfAll_2 (by decide) ?_
  refine lv_istore_n (lv' := [(2, .int 0), (1, .int 0), (0, .ref o)]) hx hb dX5_eatersOfAll_3 rfl hl (by decide) rfl (fun ls hl => ?_)
  exact L4 bf_fuel 0 0 _ _ _ hf hd (lv_sub hl [2, 1, 0] rfl)
def fX5_likersOf_39 (T : bf_TS) (k5 : Int32 → Int32 → Option (Int32)) (x1 : Int32) (x2 : Int32) (w39_3 : Int32) (w39_4 : Int32) : Option (Int32) := bf_l (w39_4 + 1) fun x4_7 => k5 w39_3 x4_7
def fX5_likersOf_5b (T : bf_TS) (x1 : Int32) (x2 : Int32) (k5 : Int32 → Int32 → Option (Int32)) (v5_3 : Int32) (v5_4 : Int32) : Option (Int32) := if (T 7 0) ≤ v5_4 then (some v5_3) else (if (fX5_has x1 v5_4) = 0 then (fX5_likersOf_39 T k5 x1 x2 v5_3 v5_4) else (bf_b (fX5_tasteOf T v5_4 x2) fun r_4 => if r_4 < 5 then (fX5_likersOf_39 T k5 x1 x2 v5_3 v5_4) else (bf_l ((v5_3 + 1)) fun x3_6 => fX5_likersOf_39 T k5 x1 x2 x3_6 v5_4)))
def fX5_likersOf_5 (T : bf_TS) (x1 : Int32) (x2 : Int32) : Nat → Int32 → Int32 → Option (Int32)
  | 0, _, _ => none
  | n + 1, v5_3, v5_4 => fX5_likersOf_5b T x1 x2 (fX5_likersOf_5 T x1 x2 n) v5_3 v5_4
def fX5_likersOf (T : bf_TS) (x1 x2 : Int32) : Option (Int32) := fX5_likersOf_5 T x1 x2 bf_fuel 0 0
set_option maxHeartbeats 4000000 in
theorem mX5_likersOf (l : Launch) (G : bf_G) (σ : bf_V) (o : Nat) (T : bf_TS) (x1 x2 : Int32) {r : Int32} (hf : fX5_likersOf T x1 x2 = some r) : bf_MI l G yX5_likersOf cX5_likersOf 5 (bf_rm 1) [.ref o, .int x1, .int x2] (bf_pT G σ o T) (fun v σ' => v = r ∧ σ' = bf_pT G σ o T) := by
  refine bf_MI.of rfl (Nat.le_of_ble_eq_true rfl) ?_
  intro p e s m below meth c Q X hlk hnm kret hd ls hl
  have hx := X.1
  have hb := X.2.1
  have hown := X.2.2.2.1
  have hts := X.2.2.2.2
  have hl : lv_has ls 5 [(0, .ref o), (1, .int x1), (2, .int x2)] := hl
  have L5 : ∀ (n5 : Nat) (v5_3 : Int32) (v5_4 : Int32) (H : Heap) (locs : List Loc) (ls : Array Slot), fX5_likersOf_5 T x1 x2 n5 v5_3 v5_4 = some r → bf_Dy G s H locs (bf_pT G σ o T) → lv_has ls 5 [(0, .ref o), (1, .int x1), (2, .int x2), (3, .int v5_3), (4, .int v5_4)] → W p l e (bf_rm 1) s m ([.ref o, .int x1, .int x2] : List Value).toArray below meth c H locs 0 0 Q (F0 m 5 ls []) := by
    intro n5
    induction n5 with
    | zero =>
      intro v5_3 v5_4 H locs ls hf hd hl
      exact absurd (show (none : Option (Int32)) = some r from hf) (by intro h; cases h)
    | succ n5 ih5 =>
      intro v5_3 v5_4 H locs ls hf hd hl
      have hf : fX5_likersOf_5b T x1 x2 (fX5_likersOf_5 T x1 x2 n5) v5_3 v5_4 = some r := hf
      unfold fX5_likersOf_5b at hf
      have J39 : ∀ (w39_3 : Int32) (w39_4 : Int32) (H : Heap) (locs : List Loc) (ls : Array Slot), fX5_likersOf_39 T (fX5_likersOf_5 T x1 x2 n5) x1 x2 w39_3 w39_4 = some r → bf_Dy G s H locs (bf_pT G σ o T) → lv_has ls 5 [(0, .ref o), (1, .int x1), (2, .int x2), (3, .int w39_3), (4, .int w39_4)] → W p l e (bf_rm 1) s m ([.ref o, .int x1, .int x2] : List Value).toArray below meth c H locs 0 0 Q (F0 m 39 ls []) := by
        intro w39_3 w39_4 H locs ls hf hd hl
        unfold fX5_likersOf_39 at hf
        obtain ⟨x4_8, ex4_8, hf⟩ := bf_l_e hf
        refine lv_iinc (v := x4_8) (lv' := [(4, .int x4_8), (0, .ref o), (1, .int x1), (2, .int x2), (3, .int w39_3)]) hx hb dX5_likersOf_39 hl (k := 4) rfl (by rw [ex4_8]; rfl) (by decide) rfl (fun ls hl => ?_)
        refine lv_goto (tgt := 5) hx hb dX5_likersOf_42 (by decide) ?_
        exact ih5 w39_3 x4_8 _ _ _ hf hd (lv_sub hl [1, 2, 3, 4, 0] rfl)
      refine lv_iload hx hb dX5_likersOf_5 (lv_at hl 4 rfl) ?_
      refine lv_aload_n hx hb dX5_likersOf_7 rfl (lv_at hl 0 rfl) ?_
      refine bf_tgi X hd 7 (by decide) rfl q1390 dX5_likersOf_8 ?_
      refine lv_icmp_ge (tgt := 45) hx hb dX5_likersOf_11 (by decide) (fun c_9 => ?_) (fun c_9 => ?_)
      · have hf := bf_it hf c_9
        refine lv_iload_n hx hb dX5_likersOf_45 rfl (lv_at hl 3 rfl) ?_
        exact kret _ _ _ _ _ _ ⟨bf_so hf, rfl⟩ hd dX5_likersOf_46
      · have hf := bf_ie hf c_9
        refine lv_aload_n hx hb dX5_likersOf_14 rfl (lv_at hl 0 rfl) ?_
        refine lv_iload_n hx hb dX5_likersOf_15 rfl (lv_at hl 1 rfl) ?_
        refine lv_iload hx hb dX5_likersOf_16 (lv_at hl 4 rfl) ?_
        refine bf_tcz (n := 2) (As := [.int x1, .int v5_4]) (rest := []) X hd (mX5_has l G σ o T x1 v5_4 rfl) (lw_V q1776 q1778 qs100 q156 q1779) (by decide +kernel) ⟨Nat.le_of_ble_eq_true rfl, Nat.le_of_ble_eq_true rfl⟩ rfl hl.1 rfl (Nat.le_of_ble_eq_true rfl) dX5_likersOf_18 ⟨Nat.le_of_ble_eq_true rfl, Nat.le_of_ble_eq_true rfl⟩ (fun H locs z_10 hd => ?_)
        refine lv_if_eq (tgt := 39) hx hb dX5_likersOf_21 (by decide) (fun c_11 => ?_) (fun c_11 => ?_)
        · have hf := bf_it hf c_11
          exact J39 v5_3 v5_4 _ _ _ hf hd (lv_sub hl [0, 1, 2, 3, 4] rfl)
        · have hf := bf_ie hf c_11
          refine lv_aload_n hx hb dX5_likersOf_24 rfl (lv_at hl 0 rfl) ?_
          refine lv_iload hx hb dX5_likersOf_25 (lv_at hl 4 rfl) ?_
          refine lv_iload_n hx hb dX5_likersOf_27 rfl (lv_at hl 2 rfl) ?_
          obtain ⟨r_12, er_12, hf⟩ := bf_b_some hf
          refine bf_tci (n := 2) (As := [.int v5_4, .int x2]) (rest := []) X hd (mX5_tasteOf l G σ o T v5_4 x2 er_12) (lw_V q1852 q1854 qs117 q156 q1855) (by decide +kernel) ⟨Nat.le_of_ble_eq_true rfl, Nat.le_of_ble_eq_true rfl⟩ rfl hl.1 rfl (Nat.le_of_ble_eq_true rfl) dX5_likersOf_28 ⟨Nat.le_of_ble_eq_true rfl, Nat.le_of_ble_eq_true rfl⟩ (fun H locs hd => ?_)
          refine lv_iconst (v := 5) hx hb dX5_likersOf_31 (by decide) ?_
          refine lv_icmp_lt (tgt := 39) hx hb dX5_likersOf_32 (by decide) (fun c_13 => ?_) (fun c_13 => ?_)
          · have hf := bf_it hf c_13
            exact J39 v5_3 v5_4 _ _ _ hf hd (lv_sub hl [0, 1, 2, 3, 4] rfl)
          · have hf := bf_ie hf c_13
            refine lv_iload_n hx hb dX5_likersOf_35 rfl (lv_at hl 3 rfl) ?_
            refine lv_iconst (v := 1) hx hb dX5_likersOf_36 (by decide) ?_
            refine lv_iadd hx hb dX5_likersOf_37 ?_
            obtain ⟨x3_14, ex3_14, hf⟩ := bf_l_e hf
            refine bf_top ex3_14 ?_
            refine lv_istore_n (lv' := [(3, .int x3_14), (0, .ref o), (1, .int x1), (2, .int x2), (4, .int v5_4)]) hx hb dX5_likersOf_38 rfl hl (by decide) rfl (fun ls hl => ?_)
            exact J39 x3_14 v5_4 _ _ _ hf hd (lv_sub hl [1, 2, 3, 0, 4] rfl)
  unfold fX5_likersOf at hf
  refine lv_iconst (v := 0) hx hb dX5_likersOf_0 (by decide) ?_
  refine lv_istore_n (lv' := [(3, .int 0), (0, .ref o), (1, .int x1), (2, .int x2)]) hx hb dX5_likersOf_1 rfl hl (by decide) rfl (fun ls hl => ?_)
  refine lv_iconst (v := 0) hx hb dX5_likersOf_2 (by decide) ?_
  refine lv_istore (lv' := [(4, .int 0), (3, .int 0), (0, .ref o), (1, .int x1), (2, .int x2)]) hx hb dX5_likersOf_3 hl (by decide) rfl (fun ls hl => ?_)
  exact L5 bf_fuel 0 0 _ _ _ hf hd (lv_sub hl [2, 3, 4, 1, 0] rfl)
def fX5_whose_96 (k52 : Int32 → Int32 → Int32 → bf_TS → Option (Int32 × bf_TS)) (u52_2 : Int32) (u52_3 : Int32) (w96_5 : Int32) (w96_6 : Int32) (w96_8 : Int32) (t96_0 : Int32) (T96 : bf_TS) : Option (Int32 × bf_TS) := bf_l ((fX5_lesser w96_5 w96_8)) fun x5_5 => bf_l (w96_6 + 1) fun x6_6 => k52 t96_0 x5_5 x6_6 T96
def fX5_whose_52b (u52_2 : Int32) (u52_3 : Int32) (k52 : Int32 → Int32 → Int32 → bf_TS → Option (Int32 × bf_TS)) (v52_4 : Int32) (v52_5 : Int32) (v52_6 : Int32) (T52 : bf_TS) : Option (Int32 × bf_TS) := if (T52 6 0) ≤ v52_6 then (some (v52_4, T52)) else (bf_b (fX5_likersOf T52 u52_2 v52_6) fun r_2 => bf_l ((fX5_greater r_2 (u52_3 - r_2))) fun x8_3 => if v52_5 ≤ x8_3 then (fX5_whose_96 k52 u52_2 u52_3 v52_5 v52_6 x8_3 v52_4 T52) else (fX5_whose_96 k52 u52_2 u52_3 v52_5 v52_6 x8_3 v52_6 T52))
def fX5_whose_52 (u52_2 : Int32) (u52_3 : Int32) : Nat → Int32 → Int32 → Int32 → bf_TS → Option (Int32 × bf_TS)
  | 0, _, _, _, _ => none
  | n + 1, v52_4, v52_5, v52_6, T52 => fX5_whose_52b u52_2 u52_3 (fX5_whose_52 u52_2 u52_3 n) v52_4 v52_5 v52_6 T52
def fX5_whose (T : bf_TS) (x1 : Int32) : Option (Int32 × bf_TS) := bf_l (bf_u2 T 0 0 0) fun T_7 => if (fX5_isIn x1 0 1) = 0 then (some ((-1), T_7)) else (bf_b (fX5_eatersOfAll T_7) fun r_10 => if x1 = 0 then (some (r_10, T_7)) else (bf_b (fX5_onesOf r_10) fun r_12 => if 2 ≤ r_12 then (fX5_whose_52 r_10 r_12 bf_fuel (-1) 100000 0 T_7) else (some ((-1), T_7))))
set_option maxHeartbeats 4000000 in
theorem mX5_whose (l : Launch) (G : bf_G) (σ : bf_V) (o : Nat) (T : bf_TS) (x1 : Int32) {r : Int32} {T' : bf_TS} (hf : fX5_whose T x1 = some (r, T')) : bf_MI l G yX5_whose cX5_whose 9 (bf_rm 2) [.ref o, .int x1] (bf_pT G σ o T) (fun v σ' => v = r ∧ σ' = bf_pT G σ o T') := by
  refine bf_MI.of rfl (Nat.le_of_ble_eq_true rfl) ?_
  intro p e s m below meth c Q X hlk hnm kret hd ls hl
  have hx := X.1
  have hb := X.2.1
  have hown := X.2.2.2.1
  have hts := X.2.2.2.2
  have hl : lv_has ls 9 [(0, .ref o), (1, .int x1)] := hl
  have L52 : ∀ (u52_2 : Int32) (u52_3 : Int32) (n52 : Nat) (v52_4 : Int32) (v52_5 : Int32) (v52_6 : Int32) (T52 : bf_TS) (H : Heap) (locs : List Loc) (ls : Array Slot), fX5_whose_52 u52_2 u52_3 n52 v52_4 v52_5 v52_6 T52 = some (r, T') → bf_Dy G s H locs (bf_pT G σ o T52) → lv_has ls 9 [(0, .ref o), (2, .int u52_2), (3, .int u52_3), (4, .int v52_4), (5, .int v52_5), (6, .int v52_6)] → W p l e (bf_rm 2) s m ([.ref o, .int x1] : List Value).toArray below meth c H locs 0 0 Q (F0 m 52 ls []) := by
    intro u52_2 u52_3 n52
    induction n52 with
    | zero =>
      intro v52_4 v52_5 v52_6 T52 H locs ls hf hd hl
      exact absurd (show (none : Option (Int32 × bf_TS)) = some (r, T') from hf) (by intro h; cases h)
    | succ n52 ih52 =>
      intro v52_4 v52_5 v52_6 T52 H locs ls hf hd hl
      have hf : fX5_whose_52b u52_2 u52_3 (fX5_whose_52 u52_2 u52_3 n52) v52_4 v52_5 v52_6 T52 = some (r, T') := hf
      unfold fX5_whose_52b at hf
      have J96 : ∀ (w96_5 : Int32) (w96_6 : Int32) (w96_8 : Int32) (t96_0 : Int32) (T96 : bf_TS) (H : Heap) (locs : List Loc) (ls : Array Slot), fX5_whose_96 (fX5_whose_52 u52_2 u52_3 n52) u52_2 u52_3 w96_5 w96_6 w96_8 t96_0 T96 = some (r, T') → bf_Dy G s H locs (bf_pT G σ o T96) → lv_has ls 9 [(0, .ref o), (2, .int u52_2), (3, .int u52_3), (5, .int w96_5), (6, .int w96_6), (8, .int w96_8)] → W p l e (bf_rm 2) s m ([.ref o, .int x1] : List Value).toArray below meth c H locs 0 0 Q (F0 m 96 ls [.int t96_0]) := by
        intro w96_5 w96_6 w96_8 t96_0 T96 H locs ls hf hd hl
        unfold fX5_whose_96 at hf
        refine lv_istore (lv' := [(4, .int t96_0), (0, .ref o), (2, .int u52_2), (3, .int u52_3), (5, .int w96_5), (6, .int w96_6), (8, .int w96_8)]) hx hb dX5_whose_96 hl (by decide) rfl (fun ls hl => ?_)
        refine lv_aload_n hx hb dX5_whose_98 rfl (lv_at hl 1 rfl) ?_
        refine lv_iload hx hb dX5_whose_99 (lv_at hl 4 rfl) ?_
        refine lv_iload hx hb dX5_whose_101 (lv_at hl 6 rfl) ?_
        refine bf_tci (n := 2) (As := [.int w96_5, .int w96_8]) (rest := []) X hd (mX5_lesser l G σ o T96 w96_5 w96_8 rfl) (lw_V q1792 q1794 qs103 q156 q1795) (by decide +kernel) ⟨Nat.le_of_ble_eq_true rfl, Nat.le_of_ble_eq_true rfl⟩ rfl hl.1 rfl (Nat.le_of_ble_eq_true rfl) dX5_whose_103 ⟨Nat.le_of_ble_eq_true rfl, Nat.le_of_ble_eq_true rfl⟩ (fun H locs hd => ?_)
        obtain ⟨x5_14, ex5_14, hf⟩ := bf_l_e hf
        refine bf_top ex5_14 ?_
        refine lv_istore (lv' := [(5, .int x5_14), (4, .int t96_0), (0, .ref o), (2, .int u52_2), (3, .int u52_3), (6, .int w96_6), (8, .int w96_8)]) hx hb dX5_whose_106 hl (by decide) rfl (fun ls hl => ?_)
        obtain ⟨x6_15, ex6_15, hf⟩ := bf_l_e hf
        refine lv_iinc (v := x6_15) (lv' := [(6, .int x6_15), (5, .int x5_14), (4, .int t96_0), (0, .ref o), (2, .int u52_2), (3, .int u52_3), (8, .int w96_8)]) hx hb dX5_whose_108 hl (k := 5) rfl (by rw [ex6_15]; rfl) (by decide) rfl (fun ls hl => ?_)
        refine lv_goto (tgt := 52) hx hb dX5_whose_111 (by decide) ?_
        exact ih52 t96_0 x5_14 x6_15 T96 _ _ _ hf hd (lv_sub hl [3, 4, 5, 2, 1, 0] rfl)
      refine lv_iload hx hb dX5_whose_52 (lv_at hl 5 rfl) ?_
      refine lv_aload_n hx hb dX5_whose_54 rfl (lv_at hl 0 rfl) ?_
      refine bf_tgi X hd 6 (by decide) rfl q1389 dX5_whose_55 ?_
      refine lv_icmp_ge (tgt := 114) hx hb dX5_whose_58 (by decide) (fun c_16 => ?_) (fun c_16 => ?_)
      · have hf := bf_it hf c_16
        refine lv_iload hx hb dX5_whose_114 (lv_at hl 3 rfl) ?_
        exact kret _ _ _ _ _ _ ⟨(bf_pr hf).1, congrArg (bf_pT G σ o) (bf_pr hf).2⟩ hd dX5_whose_116
      · have hf := bf_ie hf c_16
        refine lv_aload_n hx hb dX5_whose_61 rfl (lv_at hl 0 rfl) ?_
        refine lv_iload_n hx hb dX5_whose_62 rfl (lv_at hl 1 rfl) ?_
        refine lv_iload hx hb dX5_whose_63 (lv_at hl 5 rfl) ?_
        obtain ⟨r_17, er_17, hf⟩ := bf_b_some hf
        refine bf_tci (n := 2) (As := [.int u52_2, .int v52_6]) (rest := []) X hd (mX5_likersOf l G σ o T52 u52_2 v52_6 er_17) (lw_V q1999 q2001 qs141 q156 q2002) (by decide +kernel) ⟨Nat.le_of_ble_eq_true rfl, Nat.le_of_ble_eq_true rfl⟩ rfl hl.1 rfl (Nat.le_of_ble_eq_true rfl) dX5_whose_65 ⟨Nat.le_of_ble_eq_true rfl, Nat.le_of_ble_eq_true rfl⟩ (fun H locs hd => ?_)
        refine lv_istore (lv' := [(7, .int r_17), (0, .ref o), (2, .int u52_2), (3, .int u52_3), (4, .int v52_4), (5, .int v52_5), (6, .int v52_6)]) hx hb dX5_whose_68 hl (by decide) rfl (fun ls hl => ?_)
        refine lv_aload_n hx hb dX5_whose_70 rfl (lv_at hl 1 rfl) ?_
        refine lv_iload hx hb dX5_whose_71 (lv_at hl 0 rfl) ?_
        refine lv_iload_n hx hb dX5_whose_73 rfl (lv_at hl 3 rfl) ?_
        refine lv_iload hx hb dX5_whose_74 (lv_at hl 0 rfl) ?_
        refine lv_isub hx hb dX5_whose_76 ?_
        refine bf_tci (n := 2) (As := [.int r_17, .int (u52_3 - r_17)]) (rest := []) X hd (mX5_greater l G σ o T52 r_17 (u52_3 - r_17) rfl) (lw_V q1958 q1960 qs135 q156 q1961) (by decide +kernel) ⟨Nat.le_of_ble_eq_true rfl, Nat.le_of_ble_eq_true rfl⟩ rfl hl.1 rfl (Nat.le_of_ble_eq_true rfl) dX5_whose_77 ⟨Nat.le_of_ble_eq_true rfl, Nat.le_of_ble_eq_true rfl⟩ (fun H locs hd => ?_)
        obtain ⟨x8_18, ex8_18, hf⟩ := bf_l_e hf
        refine bf_top ex8_18 ?_
        refine lv_istore (lv' := [(8, .int x8_18), (7, .int r_17), (0, .ref o), (2, .int u52_2), (3, .int u52_3), (4, .int v52_4), (5, .int v52_5), (6, .int v52_6)]) hx hb dX5_whose_80 hl (by decide) rfl (fun ls hl => ?_)
        refine lv_iload hx hb dX5_whose_82 (lv_at hl 0 rfl) ?_
        refine lv_iload hx hb dX5_whose_84 (lv_at hl 6 rfl) ?_
        refine lv_icmp_ge (tgt := 94) hx hb dX5_whose_86 (by decide) (fun c_19 => ?_) (fun c_19 => ?_)
        · have hf := bf_it hf c_19
          refine lv_iload hx hb dX5_whose_94 (lv_at hl 5 rfl) ?_
          exact J96 v52_5 v52_6 x8_18 v52_4 T52 _ _ _ hf hd (lv_sub hl [2, 3, 4, 6, 7, 0] rfl)
        · have hf := bf_ie hf c_19
          refine lv_iload hx hb dX5_whose_89 (lv_at hl 7 rfl) ?_
          refine lv_goto (tgt := 96) hx hb dX5_whose_91 (by decide) ?_
          exact J96 v52_5 v52_6 x8_18 v52_6 T52 _ _ _ hf hd (lv_sub hl [2, 3, 4, 6, 7, 0] rfl)
  unfold fX5_whose at hf
  refine lv_aload_n hx hb dX5_whose_0 rfl (lv_at hl 0 rfl) ?_
  refine lv_iconst (v := 0) hx hb dX5_whose_1 (by decide) ?_
  refine bf_tpi X hd 0 (by decide) ⟨rfl, rfl, rfl⟩ q1383 dX5_whose_2 (fun H locs hd => ?_)
  obtain ⟨T_20, eT_20, hf⟩ := bf_l_e hf
  have hd := hd.of (congrArg (bf_pT G σ o) eT_20.symm)
  refine lv_aload_n hx hb dX5_whose_5 rfl (lv_at hl 0 rfl) ?_
  refine lv_iload_n hx hb dX5_whose_6 rfl (lv_at hl 1 rfl) ?_
  refine lv_iconst (v := 0) hx hb dX5_whose_7 (by decide) ?_
  refine lv_iconst (v := 1) hx hb dX5_whose_8 (by decide) ?_
  refine bf_tcz (n := 3) (As := [.int x1, .int 0, .int 1]) (rest := []) X hd (mX5_isIn l G σ o T_20 x1 0 1 rfl) (lw_V q1564 q1566 qs56 q156 q1567) (by decide +kernel) ⟨Nat.le_of_ble_eq_true rfl, Nat.le_of_ble_eq_true rfl⟩ rfl hl.1 rfl (Nat.le_of_ble_eq_true rfl) dX5_whose_9 ⟨Nat.le_of_ble_eq_true rfl, Nat.le_of_ble_eq_true rfl⟩ (fun H locs z_21 hd => ?_)
  refine lv_if_ne (tgt := 17) hx hb dX5_whose_12 (by decide) (fun c_22 => ?_) (fun c_22 => ?_)
  · have hf := bf_ie hf c_22
    refine lv_aload_n hx hb dX5_whose_17 rfl (lv_at hl 0 rfl) ?_
    obtain ⟨r_23, er_23, hf⟩ := bf_b_some hf
    refine bf_tci (n := 0) (As := []) (rest := []) X hd (mX5_eatersOfAll l G σ o T_20 er_23) (lw_V q1994 q1996 qs140 q156 q1997) (by decide +kernel) ⟨Nat.le_of_ble_eq_true rfl, Nat.le_of_ble_eq_true rfl⟩ rfl hl.1 rfl (Nat.le_of_ble_eq_true rfl) dX5_whose_18 ⟨Nat.le_of_ble_eq_true rfl, Nat.le_of_ble_eq_true rfl⟩ (fun H locs hd => ?_)
    refine lv_istore_n (lv' := [(2, .int r_23), (0, .ref o), (1, .int x1)]) hx hb dX5_whose_21 rfl hl (by decide) rfl (fun ls hl => ?_)
    refine lv_iload_n hx hb dX5_whose_22 rfl (lv_at hl 2 rfl) ?_
    refine lv_if_ne (tgt := 28) hx hb dX5_whose_23 (by decide) (fun c_24 => ?_) (fun c_24 => ?_)
    · have hf := bf_ie hf c_24
      refine lv_aload_n hx hb dX5_whose_28 rfl (lv_at hl 1 rfl) ?_
      refine lv_iload_n hx hb dX5_whose_29 rfl (lv_at hl 0 rfl) ?_
      obtain ⟨r_25, er_25, hf⟩ := bf_b_some hf
      refine bf_tci (n := 1) (As := [.int r_23]) (rest := []) X hd (mX5_onesOf l G σ o T_20 r_23 er_25) (lw_V q1974 q1976 qs137 q156 q1977) (by decide +kernel) ⟨Nat.le_of_ble_eq_true rfl, Nat.le_of_ble_eq_true rfl⟩ rfl hl.1 rfl (Nat.le_of_ble_eq_true rfl) dX5_whose_30 ⟨Nat.le_of_ble_eq_true rfl, Nat.le_of_ble_eq_true rfl⟩ (fun H locs hd => ?_)
      refine lv_istore_n (lv' := [(3, .int r_25), (2, .int r_23), (0, .ref o), (1, .int x1)]) hx hb dX5_whose_33 rfl hl (by decide) rfl (fun ls hl => ?_)
      refine lv_iload_n hx hb dX5_whose_34 rfl (lv_at hl 0 rfl) ?_
      refine lv_iconst (v := 2) hx hb dX5_whose_35 (by decide) ?_
      refine lv_icmp_ge (tgt := 41) hx hb dX5_whose_36 (by decide) (fun c_26 => ?_) (fun c_26 => ?_)
      · have hf := bf_it hf c_26
        refine lv_iconst (v := (-1)) hx hb dX5_whose_41 (by decide) ?_
        refine lv_istore (lv' := [(4, .int (-1)), (3, .int r_25), (2, .int r_23), (0, .ref o), (1, .int x1)]) hx hb dX5_whose_42 hl (by decide) rfl (fun ls hl => ?_)
        refine lv_ldcw (v := 100000) hx hb hown (hts _ q1998) dX5_whose_44 ?_
        refine lv_istore (lv' := [(5, .int 100000), (4, .int (-1)), (3, .int r_25), (2, .int r_23), (0, .ref o), (1, .int x1)]) hx hb dX5_whose_47 hl (by decide) rfl (fun ls hl => ?_)
        refine lv_iconst (v := 0) hx hb dX5_whose_49 (by decide) ?_
        refine lv_istore (lv' := [(6, .int 0), (5, .int 100000), (4, .int (-1)), (3, .int r_25), (2, .int r_23), (0, .ref o), (1, .int x1)]) hx hb dX5_whose_50 hl (by decide) rfl (fun ls hl => ?_)
        exact L52 r_23 r_25 bf_fuel (-1) 100000 0 T_20 _ _ _ hf hd (lv_sub hl [5, 4, 3, 2, 1, 0] rfl)
      · have hf := bf_ie hf c_26
        refine lv_iconst (v := (-1)) hx hb dX5_whose_39 (by decide) ?_
        exact kret _ _ _ _ _ _ ⟨(bf_pr hf).1, congrArg (bf_pT G σ o) (bf_pr hf).2⟩ hd dX5_whose_40
    · have hf := bf_it hf c_24
      refine lv_iload_n hx hb dX5_whose_26 rfl (lv_at hl 0 rfl) ?_
      exact kret _ _ _ _ _ _ ⟨(bf_pr hf).1, congrArg (bf_pT G σ o) (bf_pr hf).2⟩ hd dX5_whose_27
  · have hf := bf_it hf c_22
    refine lv_iconst (v := (-1)) hx hb dX5_whose_15 (by decide) ?_
    exact kret _ _ _ _ _ _ ⟨(bf_pr hf).1, congrArg (bf_pT G σ o) (bf_pr hf).2⟩ hd dX5_whose_16
def fX5_left_171 (x1 : Int32) (T171 : bf_TS) : Option (Int32 × bf_TS) := bf_c (bf_in x1 100) <| some ((T171 50 (x1).toNatClampNeg), T171)
def fX5_left_165 (k48 : Int32 → bf_TS → Option (Int32 × bf_TS)) (x1 : Int32) (w165_2 : Int32) (T165 : bf_TS) : Option (Int32 × bf_TS) := bf_l (w165_2 + 1) fun x2_25 => k48 x2_25 T165
def fX5_left_139b (k48 : Int32 → bf_TS → Option (Int32 × bf_TS)) (x1 : Int32) (u139_2 : Int32) (k139 : Int32 → bf_TS → Option (Int32 × bf_TS)) (v139_4 : Int32) (T139 : bf_TS) : Option (Int32 × bf_TS) := if x1 < v139_4 then (fX5_left_165 k48 x1 u139_2 T139) else (bf_c (bf_in v139_4 100) <| bf_c (bf_in v139_4 100) <| bf_l (bf_u2 T139 50 (v139_4).toNatClampNeg (T139 51 (v139_4).toNatClampNeg)) fun T_23 => bf_l (v139_4 + 1) fun x4_24 => k139 x4_24 T_23)
def fX5_left_139 (k48 : Int32 → bf_TS → Option (Int32 × bf_TS)) (x1 : Int32) (u139_2 : Int32) : Nat → Int32 → bf_TS → Option (Int32 × bf_TS)
  | 0, _, _ => none
  | n + 1, v139_4, T139 => fX5_left_139b k48 x1 u139_2 (fX5_left_139 k48 x1 u139_2 n) v139_4 T139
def fX5_left_136 (k48 : Int32 → bf_TS → Option (Int32 × bf_TS)) (x1 : Int32) (w136_2 : Int32) (T136 : bf_TS) : Option (Int32 × bf_TS) := fX5_left_139 k48 x1 w136_2 bf_fuel 0 T136
def fX5_left_130 (k48 : Int32 → bf_TS → Option (Int32 × bf_TS)) (k65 : Int32 → bf_TS → Option (Int32 × bf_TS)) (x1 : Int32) (u65_2 : Int32) (u65_3 : Int32) (w130_4 : Int32) (T130 : bf_TS) : Option (Int32 × bf_TS) := bf_l (w130_4 + 1) fun x4_19 => k65 x4_19 T130
def fX5_left_82b (k48 : Int32 → bf_TS → Option (Int32 × bf_TS)) (k65 : Int32 → bf_TS → Option (Int32 × bf_TS)) (x1 : Int32) (u65_2 : Int32) (u65_3 : Int32) (u82_4 : Int32) (k82 : Int32 → bf_TS → Option (Int32 × bf_TS)) (v82_5 : Int32) (T82 : bf_TS) : Option (Int32 × bf_TS) := if u65_3 < v82_5 then (fX5_left_130 k48 k65 x1 u65_2 u65_3 u82_4 T82) else (if u82_4 < v82_5 then (fX5_left_130 k48 k65 x1 u65_2 u65_3 u82_4 T82) else (bf_c (bf_in u82_4 100) <| bf_c (bf_in (u82_4 - v82_5) 100) <| bf_c (bf_in u82_4 100) <| bf_l (bf_u2 T82 51 (u82_4).toNatClampNeg (((T82 51 (u82_4).toNatClampNeg) + (T82 50 (u82_4 - v82_5).toNatClampNeg)) - ((T82 51 (u82_4).toNatClampNeg) + (T82 50 (u82_4 - v82_5).toNatClampNeg)) / 1000000007 * 1000000007)) fun T_17 => bf_l (v82_5 + 1) fun x5_18 => k82 x5_18 T_17))
def fX5_left_82 (k48 : Int32 → bf_TS → Option (Int32 × bf_TS)) (k65 : Int32 → bf_TS → Option (Int32 × bf_TS)) (x1 : Int32) (u65_2 : Int32) (u65_3 : Int32) (u82_4 : Int32) : Nat → Int32 → bf_TS → Option (Int32 × bf_TS)
  | 0, _, _ => none
  | n + 1, v82_5, T82 => fX5_left_82b k48 k65 x1 u65_2 u65_3 u82_4 (fX5_left_82 k48 k65 x1 u65_2 u65_3 u82_4 n) v82_5 T82
def fX5_left_65b (k48 : Int32 → bf_TS → Option (Int32 × bf_TS)) (x1 : Int32) (u65_2 : Int32) (u65_3 : Int32) (k65 : Int32 → bf_TS → Option (Int32 × bf_TS)) (v65_4 : Int32) (T65 : bf_TS) : Option (Int32 × bf_TS) := if x1 < v65_4 then (fX5_left_136 k48 x1 u65_2 T65) else (bf_c (bf_in v65_4 100) <| bf_l (bf_u2 T65 51 (v65_4).toNatClampNeg 0) fun T_11 => fX5_left_82 k48 k65 x1 u65_2 u65_3 v65_4 bf_fuel 0 T_11)
def fX5_left_65 (k48 : Int32 → bf_TS → Option (Int32 × bf_TS)) (x1 : Int32) (u65_2 : Int32) (u65_3 : Int32) : Nat → Int32 → bf_TS → Option (Int32 × bf_TS)
  | 0, _, _ => none
  | n + 1, v65_4, T65 => fX5_left_65b k48 x1 u65_2 u65_3 (fX5_left_65 k48 x1 u65_2 u65_3 n) v65_4 T65
def fX5_left_48b (x1 : Int32) (k48 : Int32 → bf_TS → Option (Int32 × bf_TS)) (v48_2 : Int32) (T48 : bf_TS) : Option (Int32 × bf_TS) := if (T48 7 0) ≤ v48_2 then (fX5_left_171 x1 T48) else (bf_b2 (fX5_wantOf T48 v48_2) fun r_8 T_7 => fX5_left_65 k48 x1 v48_2 r_8 bf_fuel 0 T_7)
def fX5_left_48 (x1 : Int32) : Nat → Int32 → bf_TS → Option (Int32 × bf_TS)
  | 0, _, _ => none
  | n + 1, v48_2, T48 => fX5_left_48b x1 (fX5_left_48 x1 n) v48_2 T48
def fX5_left_46 (x1 : Int32) (T46 : bf_TS) : Option (Int32 × bf_TS) := fX5_left_48 x1 bf_fuel 0 T46
def fX5_left_39 (k20 : Int32 → bf_TS → Option (Int32 × bf_TS)) (x1 : Int32) (w39_2 : Int32) (t39_0 : Int32) (t39_1 : Int32) (T39 : bf_TS) : Option (Int32 × bf_TS) := bf_c (bf_in t39_1 100) <| bf_l (bf_u2 T39 50 (t39_1).toNatClampNeg t39_0) fun T_4 => bf_l (w39_2 + 1) fun x2_5 => k20 x2_5 T_4
def fX5_left_20b (x1 : Int32) (k20 : Int32 → bf_TS → Option (Int32 × bf_TS)) (v20_2 : Int32) (T20 : bf_TS) : Option (Int32 × bf_TS) := if x1 < v20_2 then (fX5_left_46 x1 T20) else (if v20_2 = 0 then (fX5_left_39 k20 x1 v20_2 1 v20_2 T20) else (fX5_left_39 k20 x1 v20_2 0 v20_2 T20))
def fX5_left_20 (x1 : Int32) : Nat → Int32 → bf_TS → Option (Int32 × bf_TS)
  | 0, _, _ => none
  | n + 1, v20_2, T20 => fX5_left_20b x1 (fX5_left_20 x1 n) v20_2 T20
def fX5_left (T : bf_TS) (x1 : Int32) : Option (Int32 × bf_TS) := bf_l (bf_u2 T 0 0 0) fun T_27 => if (fX5_isIn x1 0 99) = 0 then (some ((-1), T_27)) else (fX5_left_20 x1 bf_fuel 0 T_27)
set_option maxHeartbeats 4000000 in
theorem mX5_left (l : Launch) (G : bf_G) (σ : bf_V) (o : Nat) (T : bf_TS) (x1 : Int32) {r : Int32} {T' : bf_TS} (hf : fX5_left T x1 = some (r, T')) : bf_MI l G yX5_left cX5_left 6 (bf_rm 5) [.ref o, .int x1] (bf_pT G σ o T) (fun v σ' => v = r ∧ σ' = bf_pT G σ o T') := by
  refine bf_MI.of rfl (Nat.le_of_ble_eq_true rfl) ?_
  intro p e s m below meth c Q X hlk hnm kret hd ls hl
  have hx := X.1
  have hb := X.2.1
  have hown := X.2.2.2.1
  have hts := X.2.2.2.2
  have hl : lv_has ls 6 [(0, .ref o), (1, .int x1)] := hl
  have J171 : ∀ (T171 : bf_TS) (H : Heap) (locs : List Loc) (ls : Array Slot), fX5_left_171 x1 T171 = some (r, T') → bf_Dy G s H locs (bf_pT G σ o T171) → lv_has ls 6 [(0, .ref o), (1, .int x1)] → W p l e (bf_rm 5) s m ([.ref o, .int x1] : List Value).toArray below meth c H locs 0 0 Q (F0 m 171 ls []) := by
    intro T171 H locs ls hf hd hl
    unfold fX5_left_171 at hf
    refine lv_aload_n hx hb dX5_left_171 rfl (lv_at hl 0 rfl) ?_
    refine bf_tga X hd 50 (by decide) (by decide) q1433 dX5_left_172 ?_
    refine lv_iload_n hx hb dX5_left_175 rfl (lv_at hl 1 rfl) ?_
    obtain ⟨g_30, hf⟩ := bf_c_some hf
    refine bf_tld X hd 50 (by decide) g_30 dX5_left_176 ?_
    exact kret _ _ _ _ _ _ ⟨(bf_pr hf).1, congrArg (bf_pT G σ o) (bf_pr hf).2⟩ hd dX5_left_177
  have L48 : ∀ (n48 : Nat) (v48_2 : Int32) (T48 : bf_TS) (H : Heap) (locs : List Loc) (ls : Array Slot), fX5_left_48 x1 n48 v48_2 T48 = some (r, T') → bf_Dy G s H locs (bf_pT G σ o T48) → lv_has ls 6 [(0, .ref o), (1, .int x1), (2, .int v48_2)] → W p l e (bf_rm 5) s m ([.ref o, .int x1] : List Value).toArray below meth c H locs 0 0 Q (F0 m 48 ls []) := by
    intro n48
    induction n48 with
    | zero =>
      intro v48_2 T48 H locs ls hf hd hl
      exact absurd (show (none : Option (Int32 × bf_TS)) = some (r, T') from hf) (by intro h; cases h)
    | succ n48 ih48 =>
      intro v48_2 T48 H locs ls hf hd hl
      have hf : fX5_left_48b x1 (fX5_left_48 x1 n48) v48_2 T48 = some (r, T') := hf
      unfold fX5_left_48b at hf
      have J165 : ∀ (w165_2 : Int32) (T165 : bf_TS) (H : Heap) (locs : List Loc) (ls : Array Slot), fX5_left_165 (fX5_left_48 x1 n48) x1 w165_2 T165 = some (r, T') → bf_Dy G s H locs (bf_pT G σ o T165) → lv_has ls 6 [(0, .ref o), (1, .int x1), (2, .int w165_2)] → W p l e (bf_rm 5) s m ([.ref o, .int x1] : List Value).toArray below meth c H locs 0 0 Q (F0 m 165 ls []) := by
        intro w165_2 T165 H locs ls hf hd hl
        unfold fX5_left_165 at hf
        obtain ⟨x2_31, ex2_31, hf⟩ := bf_l_e hf
        refine lv_iinc (v := x2_31) (lv' := [(2, .int x2_31), (0, .ref o), (1, .int x1)]) hx hb dX5_left_165 hl (k := 2) rfl (by rw [ex2_31]; rfl) (by decide) rfl (fun ls hl => ?_)
        refine lv_goto (tgt := 48) hx hb dX5_left_168 (by decide) ?_
        exact ih48 x2_31 T165 _ _ _ hf hd (lv_sub hl [1, 2, 0] rfl)
      have L139 : ∀ (u139_2 : Int32) (n139 : Nat) (v139_4 : Int32) (T139 : bf_TS) (H : Heap) (locs : List Loc) (ls : Array Slot), fX5_left_139 (fX5_left_48 x1 n48) x1 u139_2 n139 v139_4 T139 = some (r, T') → bf_Dy G s H locs (bf_pT G σ o T139) → lv_has ls 6 [(0, .ref o), (1, .int x1), (2, .int u139_2), (4, .int v139_4)] → W p l e (bf_rm 5) s m ([.ref o, .int x1] : List Value).toArray below meth c H locs 0 0 Q (F0 m 139 ls []) := by
        intro u139_2 n139
        induction n139 with
        | zero =>
          intro v139_4 T139 H locs ls hf hd hl
          exact absurd (show (none : Option (Int32 × bf_TS)) = some (r, T') from hf) (by intro h; cases h)
        | succ n139 ih139 =>
          intro v139_4 T139 H locs ls hf hd hl
          have hf : fX5_left_139b (fX5_left_48 x1 n48) x1 u139_2 (fX5_left_139 (fX5_left_48 x1 n48) x1 u139_2 n139) v139_4 T139 = some (r, T') := hf
          unfold fX5_left_139b at hf
          refine lv_iload hx hb dX5_left_139 (lv_at hl 3 rfl) ?_
          refine lv_iload_n hx hb dX5_left_141 rfl (lv_at hl 1 rfl) ?_
          refine lv_icmp_gt (tgt := 165) hx hb dX5_left_142 (by decide) (fun c_32 => ?_) (fun c_32 => ?_)
          · have hf := bf_it hf c_32
            exact J165 u139_2 T139 _ _ _ hf hd (lv_sub hl [0, 1, 2] rfl)
          · have hf := bf_ie hf c_32
            refine lv_aload_n hx hb dX5_left_145 rfl (lv_at hl 0 rfl) ?_
            refine bf_tga X hd 50 (by decide) (by decide) q1433 dX5_left_146 ?_
            refine lv_iload hx hb dX5_left_149 (lv_at hl 3 rfl) ?_
            refine lv_aload_n hx hb dX5_left_151 rfl (lv_at hl 0 rfl) ?_
            refine bf_tga X hd 51 (by decide) (by decide) q1434 dX5_left_152 ?_
            refine lv_iload hx hb dX5_left_155 (lv_at hl 3 rfl) ?_
            obtain ⟨g_33, hf⟩ := bf_c_some hf
            refine bf_tld X hd 51 (by decide) g_33 dX5_left_157 ?_
            obtain ⟨g_34, hf⟩ := bf_c_some hf
            refine bf_tst X hd 50 (by decide) g_34 dX5_left_158 (fun H locs hd => ?_)
            obtain ⟨T_35, eT_35, hf⟩ := bf_l_e hf
            have hd := hd.of (congrArg (bf_pT G σ o) eT_35.symm)
            obtain ⟨x4_36, ex4_36, hf⟩ := bf_l_e hf
            refine lv_iinc (v := x4_36) (lv' := [(4, .int x4_36), (0, .ref o), (1, .int x1), (2, .int u139_2)]) hx hb dX5_left_159 hl (k := 3) rfl (by rw [ex4_36]; rfl) (by decide) rfl (fun ls hl => ?_)
            refine lv_goto (tgt := 139) hx hb dX5_left_162 (by decide) ?_
            exact ih139 x4_36 T_35 _ _ _ hf hd (lv_sub hl [1, 2, 3, 0] rfl)
      have J136 : ∀ (w136_2 : Int32) (T136 : bf_TS) (H : Heap) (locs : List Loc) (ls : Array Slot), fX5_left_136 (fX5_left_48 x1 n48) x1 w136_2 T136 = some (r, T') → bf_Dy G s H locs (bf_pT G σ o T136) → lv_has ls 6 [(0, .ref o), (1, .int x1), (2, .int w136_2)] → W p l e (bf_rm 5) s m ([.ref o, .int x1] : List Value).toArray below meth c H locs 0 0 Q (F0 m 136 ls []) := by
        intro w136_2 T136 H locs ls hf hd hl
        unfold fX5_left_136 at hf
        refine lv_iconst (v := 0) hx hb dX5_left_136 (by decide) ?_
        refine lv_istore (lv' := [(4, .int 0), (0, .ref o), (1, .int x1), (2, .int w136_2)]) hx hb dX5_left_137 hl (by decide) rfl (fun ls hl => ?_)
        exact L139 w136_2 bf_fuel 0 T136 _ _ _ hf hd (lv_sub hl [1, 2, 3, 0] rfl)
      have L65 : ∀ (u65_2 : Int32) (u65_3 : Int32) (n65 : Nat) (v65_4 : Int32) (T65 : bf_TS) (H : Heap) (locs : List Loc) (ls : Array Slot), fX5_left_65 (fX5_left_48 x1 n48) x1 u65_2 u65_3 n65 v65_4 T65 = some (r, T') → bf_Dy G s H locs (bf_pT G σ o T65) → lv_has ls 6 [(0, .ref o), (1, .int x1), (2, .int u65_2), (3, .int u65_3), (4, .int v65_4)] → W p l e (bf_rm 5) s m ([.ref o, .int x1] : List Value).toArray below meth c H locs 0 0 Q (F0 m 65 ls []) := by
        intro u65_2 u65_3 n65
        induction n65 with
        | zero =>
          intro v65_4 T65 H locs ls hf hd hl
          exact absurd (show (none : Option (Int32 × bf_TS)) = some (r, T') from hf) (by intro h; cases h)
        | succ n65 ih65 =>
          intro v65_4 T65 H locs ls hf hd hl
          have hf : fX5_left_65b (fX5_left_48 x1 n48) x1 u65_2 u65_3 (fX5_left_65 (fX5_left_48 x1 n48) x1 u65_2 u65_3 n65) v65_4 T65 = some (r, T') := hf
          unfold fX5_left_65b at hf
          have J130 : ∀ (w130_4 : Int32) (T130 : bf_TS) (H : Heap) (locs : List Loc) (ls : Array Slot), fX5_left_130 (fX5_left_48 x1 n48) (fX5_left_65 (fX5_left_48 x1 n48) x1 u65_2 u65_3 n65) x1 u65_2 u65_3 w130_4 T130 = some (r, T') → bf_Dy G s H locs (bf_pT G σ o T130) → lv_has ls 6 [(0, .ref o), (1, .int x1), (2, .int u65_2), (3, .int u65_3), (4, .int w130_4)] → W p l e (bf_rm 5) s m ([.ref o, .int x1] : List Value).toArray below meth c H locs 0 0 Q (F0 m 130 ls []) := by
            intro w130_4 T130 H locs ls hf hd hl
            unfold fX5_left_130 at hf
            obtain ⟨x4_37, ex4_37, hf⟩ := bf_l_e hf
            refine lv_iinc (v := x4_37) (lv' := [(4, .int x4_37), (0, .ref o), (1, .int x1), (2, .int u65_2), (3, .int u65_3)]) hx hb dX5_left_130 hl (k := 4) rfl (by rw [ex4_37]; rfl) (by decide) rfl (fun ls hl => ?_)
            refine lv_goto (tgt := 65) hx hb dX5_left_133 (by decide) ?_
            exact ih65 x4_37 T130 _ _ _ hf hd (lv_sub hl [1, 2, 3, 4, 0] rfl)
          have L82 : ∀ (u82_4 : Int32) (n82 : Nat) (v82_5 : Int32) (T82 : bf_TS) (H : Heap) (locs : List Loc) (ls : Array Slot), fX5_left_82 (fX5_left_48 x1 n48) (fX5_left_65 (fX5_left_48 x1 n48) x1 u65_2 u65_3 n65) x1 u65_2 u65_3 u82_4 n82 v82_5 T82 = some (r, T') → bf_Dy G s H locs (bf_pT G σ o T82) → lv_has ls 6 [(0, .ref o), (1, .int x1), (2, .int u65_2), (3, .int u65_3), (4, .int u82_4), (5, .int v82_5)] → W p l e (bf_rm 5) s m ([.ref o, .int x1] : List Value).toArray below meth c H locs 0 0 Q (F0 m 82 ls []) := by
            intro u82_4 n82
            induction n82 with
            | zero =>
              intro v82_5 T82 H locs ls hf hd hl
              exact absurd (show (none : Option (Int32 × bf_TS)) = some (r, T') from hf) (by intro h; cases h)
            | succ n82 ih82 =>
              intro v82_5 T82 H locs ls hf hd hl
              have hf : fX5_left_82b (fX5_left_48 x1 n48) (fX5_left_65 (fX5_left_48 x1 n48) x1 u65_2 u65_3 n65) x1 u65_2 u65_3 u82_4 (fX5_left_82 (fX5_left_48 x1 n48) (fX5_left_65 (fX5_left_48 x1 n48) x1 u65_2 u65_3 n65) x1 u65_2 u65_3 u82_4 n82) v82_5 T82 = some (r, T') := hf
              unfold fX5_left_82b at hf
              refine lv_iload hx hb dX5_left_82 (lv_at hl 5 rfl) ?_
              refine lv_iload_n hx hb dX5_left_84 rfl (lv_at hl 3 rfl) ?_
              refine lv_icmp_gt (tgt := 130) hx hb dX5_left_85 (by decide) (fun c_38 => ?_) (fun c_38 => ?_)
              · have hf := bf_it hf c_38
                exact J130 u82_4 T82 _ _ _ hf hd (lv_sub hl [0, 1, 2, 3, 4] rfl)
              · have hf := bf_ie hf c_38
                refine lv_iload hx hb dX5_left_88 (lv_at hl 5 rfl) ?_
                refine lv_iload hx hb dX5_left_90 (lv_at hl 4 rfl) ?_
                refine lv_icmp_gt (tgt := 130) hx hb dX5_left_92 (by decide) (fun c_39 => ?_) (fun c_39 => ?_)
                · have hf := bf_it hf c_39
                  exact J130 u82_4 T82 _ _ _ hf hd (lv_sub hl [0, 1, 2, 3, 4] rfl)
                · have hf := bf_ie hf c_39
                  refine lv_aload_n hx hb dX5_left_95 rfl (lv_at hl 0 rfl) ?_
                  refine bf_tga X hd 51 (by decide) (by decide) q1434 dX5_left_96 ?_
                  refine lv_iload hx hb dX5_left_99 (lv_at hl 4 rfl) ?_
                  refine lv_aload_n hx hb dX5_left_101 rfl (lv_at hl 0 rfl) ?_
                  refine bf_tga X hd 51 (by decide) (by decide) q1434 dX5_left_102 ?_
                  refine lv_iload hx hb dX5_left_105 (lv_at hl 4 rfl) ?_
                  obtain ⟨g_40, hf⟩ := bf_c_some hf
                  refine bf_tld X hd 51 (by decide) g_40 dX5_left_107 ?_
                  refine lv_aload_n hx hb dX5_left_108 rfl (lv_at hl 0 rfl) ?_
                  refine bf_tga X hd 50 (by decide) (by decide) q1433 dX5_left_109 ?_
                  refine lv_iload hx hb dX5_left_112 (lv_at hl 4 rfl) ?_
                  refine lv_iload hx hb dX5_left_114 (lv_at hl 5 rfl) ?_
                  refine lv_isub hx hb dX5_left_116 ?_
                  obtain ⟨g_41, hf⟩ := bf_c_some hf
                  refine bf_tld X hd 50 (by decide) g_41 dX5_left_117 ?_
                  refine lv_iadd hx hb dX5_left_118 ?_
                  refine lv_ldcw (v := 1000000007) hx hb hown (hts _ q2007) dX5_left_119 ?_
                  refine lv_irem hx hb dX5_left_122 (by decide) ?_
                  obtain ⟨g_42, hf⟩ := bf_c_some hf
                  refine bf_tst X hd 51 (by decide) g_42 dX5_left_123 (fun H locs hd => ?_)
                  obtain ⟨T_43, eT_43, hf⟩ := bf_l_e hf
                  have hd := hd.of (congrArg (bf_pT G σ o) eT_43.symm)
                  obtain ⟨x5_44, ex5_44, hf⟩ := bf_l_e hf
                  refine lv_iinc (v := x5_44) (lv' := [(5, .int x5_44), (0, .ref o), (1, .int x1), (2, .int u65_2), (3, .int u65_3), (4, .int u82_4)]) hx hb dX5_left_124 hl (k := 5) rfl (by rw [ex5_44]; rfl) (by decide) rfl (fun ls hl => ?_)
                  refine lv_goto (tgt := 82) hx hb dX5_left_127 (by decide) ?_
                  exact ih82 x5_44 T_43 _ _ _ hf hd (lv_sub hl [1, 2, 3, 4, 5, 0] rfl)
          refine lv_iload hx hb dX5_left_65 (lv_at hl 4 rfl) ?_
          refine lv_iload_n hx hb dX5_left_67 rfl (lv_at hl 1 rfl) ?_
          refine lv_icmp_gt (tgt := 136) hx hb dX5_left_68 (by decide) (fun c_45 => ?_) (fun c_45 => ?_)
          · have hf := bf_it hf c_45
            exact J136 u65_2 T65 _ _ _ hf hd (lv_sub hl [0, 1, 2] rfl)
          · have hf := bf_ie hf c_45
            refine lv_aload_n hx hb dX5_left_71 rfl (lv_at hl 0 rfl) ?_
            refine bf_tga X hd 51 (by decide) (by decide) q1434 dX5_left_72 ?_
            refine lv_iload hx hb dX5_left_75 (lv_at hl 4 rfl) ?_
            refine lv_iconst (v := 0) hx hb dX5_left_77 (by decide) ?_
            obtain ⟨g_46, hf⟩ := bf_c_some hf
            refine bf_tst X hd 51 (by decide) g_46 dX5_left_78 (fun H locs hd => ?_)
            obtain ⟨T_47, eT_47, hf⟩ := bf_l_e hf
            have hd := hd.of (congrArg (bf_pT G σ o) eT_47.symm)
            refine lv_iconst (v := 0) hx hb dX5_left_79 (by decide) ?_
            refine lv_istore (lv' := [(5, .int 0), (0, .ref o), (1, .int x1), (2, .int u65_2), (3, .int u65_3), (4, .int v65_4)]) hx hb dX5_left_80 hl (by decide) rfl (fun ls hl => ?_)
            exact L82 v65_4 bf_fuel 0 T_47 _ _ _ hf hd (lv_sub hl [1, 2, 3, 4, 5, 0] rfl)
      refine lv_iload_n hx hb dX5_left_48 rfl (lv_at hl 2 rfl) ?_
      refine lv_aload_n hx hb dX5_left_49 rfl (lv_at hl 0 rfl) ?_
      refine bf_tgi X hd 7 (by decide) rfl q1390 dX5_left_50 ?_
      refine lv_icmp_ge (tgt := 171) hx hb dX5_left_53 (by decide) (fun c_48 => ?_) (fun c_48 => ?_)
      · have hf := bf_it hf c_48
        exact J171 T48 _ _ _ hf hd (lv_sub hl [0, 1] rfl)
      · have hf := bf_ie hf c_48
        refine lv_aload_n hx hb dX5_left_56 rfl (lv_at hl 0 rfl) ?_
        refine lv_iload_n hx hb dX5_left_57 rfl (lv_at hl 2 rfl) ?_
        obtain ⟨r_50, T_49, er_50, hf⟩ := bf_b2_some hf
        refine bf_tci (n := 1) (As := [.int v48_2]) (rest := []) X hd (mX5_wantOf l G σ o T48 v48_2 er_50) (lw_V q1840 q1842 qs114 q156 q1843) (by decide +kernel) ⟨Nat.le_of_ble_eq_true rfl, Nat.le_of_ble_eq_true rfl⟩ rfl hl.1 rfl (Nat.le_of_ble_eq_true rfl) dX5_left_58 ⟨Nat.le_of_ble_eq_true rfl, Nat.le_of_ble_eq_true rfl⟩ (fun H locs hd => ?_)
        refine lv_istore_n (lv' := [(3, .int r_50), (0, .ref o), (1, .int x1), (2, .int v48_2)]) hx hb dX5_left_61 rfl hl (by decide) rfl (fun ls hl => ?_)
        refine lv_iconst (v := 0) hx hb dX5_left_62 (by decide) ?_
        refine lv_istore (lv' := [(4, .int 0), (3, .int r_50), (0, .ref o), (1, .int x1), (2, .int v48_2)]) hx hb dX5_left_63 hl (by decide) rfl (fun ls hl => ?_)
        exact L65 v48_2 r_50 bf_fuel 0 T_49 _ _ _ hf hd (lv_sub hl [2, 3, 4, 1, 0] rfl)
  have J46 : ∀ (T46 : bf_TS) (H : Heap) (locs : List Loc) (ls : Array Slot), fX5_left_46 x1 T46 = some (r, T') → bf_Dy G s H locs (bf_pT G σ o T46) → lv_has ls 6 [(0, .ref o), (1, .int x1)] → W p l e (bf_rm 5) s m ([.ref o, .int x1] : List Value).toArray below meth c H locs 0 0 Q (F0 m 46 ls []) := by
    intro T46 H locs ls hf hd hl
    unfold fX5_left_46 at hf
    refine lv_iconst (v := 0) hx hb dX5_left_46 (by decide) ?_
    refine lv_istore_n (lv' := [(2, .int 0), (0, .ref o), (1, .int x1)]) hx hb dX5_left_47 rfl hl (by decide) rfl (fun ls hl => ?_)
    exact L48 bf_fuel 0 T46 _ _ _ hf hd (lv_sub hl [1, 2, 0] rfl)
  have L20 : ∀ (n20 : Nat) (v20_2 : Int32) (T20 : bf_TS) (H : Heap) (locs : List Loc) (ls : Array Slot), fX5_left_20 x1 n20 v20_2 T20 = some (r, T') → bf_Dy G s H locs (bf_pT G σ o T20) → lv_has ls 6 [(0, .ref o), (1, .int x1), (2, .int v20_2)] → W p l e (bf_rm 5) s m ([.ref o, .int x1] : List Value).toArray below meth c H locs 0 0 Q (F0 m 20 ls []) := by
    intro n20
    induction n20 with
    | zero =>
      intro v20_2 T20 H locs ls hf hd hl
      exact absurd (show (none : Option (Int32 × bf_TS)) = some (r, T') from hf) (by intro h; cases h)
    | succ n20 ih20 =>
      intro v20_2 T20 H locs ls hf hd hl
      have hf : fX5_left_20b x1 (fX5_left_20 x1 n20) v20_2 T20 = some (r, T') := hf
      unfold fX5_left_20b at hf
      have J39 : ∀ (w39_2 : Int32) (t39_0 : Int32) (t39_1 : Int32) (T39 : bf_TS) (H : Heap) (locs : List Loc) (ls : Array Slot), fX5_left_39 (fX5_left_20 x1 n20) x1 w39_2 t39_0 t39_1 T39 = some (r, T') → bf_Dy G s H locs (bf_pT G σ o T39) → lv_has ls 6 [(0, .ref o), (1, .int x1), (2, .int w39_2)] → W p l e (bf_rm 5) s m ([.ref o, .int x1] : List Value).toArray below meth c H locs 0 0 Q (F0 m 39 ls [.int t39_0, .int t39_1, .ref (o + bf_to 50)]) := by
        intro w39_2 t39_0 t39_1 T39 H locs ls hf hd hl
        unfold fX5_left_39 at hf
        obtain ⟨g_51, hf⟩ := bf_c_some hf
        refine bf_tst X hd 50 (by decide) g_51 dX5_left_39 (fun H locs hd => ?_)
        obtain ⟨T_52, eT_52, hf⟩ := bf_l_e hf
        have hd := hd.of (congrArg (bf_pT G σ o) eT_52.symm)
        obtain ⟨x2_53, ex2_53, hf⟩ := bf_l_e hf
        refine lv_iinc (v := x2_53) (lv' := [(2, .int x2_53), (0, .ref o), (1, .int x1)]) hx hb dX5_left_40 hl (k := 2) rfl (by rw [ex2_53]; rfl) (by decide) rfl (fun ls hl => ?_)
        refine lv_goto (tgt := 20) hx hb dX5_left_43 (by decide) ?_
        exact ih20 x2_53 T_52 _ _ _ hf hd (lv_sub hl [1, 2, 0] rfl)
      refine lv_iload_n hx hb dX5_left_20 rfl (lv_at hl 2 rfl) ?_
      refine lv_iload_n hx hb dX5_left_21 rfl (lv_at hl 1 rfl) ?_
      refine lv_icmp_gt (tgt := 46) hx hb dX5_left_22 (by decide) (fun c_54 => ?_) (fun c_54 => ?_)
      · have hf := bf_it hf c_54
        exact J46 T20 _ _ _ hf hd (lv_sub hl [0, 1] rfl)
      · have hf := bf_ie hf c_54
        refine lv_aload_n hx hb dX5_left_25 rfl (lv_at hl 0 rfl) ?_
        refine bf_tga X hd 50 (by decide) (by decide) q1433 dX5_left_26 ?_
        refine lv_iload_n hx hb dX5_left_29 rfl (lv_at hl 2 rfl) ?_
        refine lv_iload_n hx hb dX5_left_30 rfl (lv_at hl 2 rfl) ?_
        refine lv_if_ne (tgt := 38) hx hb dX5_left_31 (by decide) (fun c_55 => ?_) (fun c_55 => ?_)
        · have hf := bf_ie hf c_55
          refine lv_iconst (v := 0) hx hb dX5_left_38 (by decide) ?_
          exact J39 v20_2 0 v20_2 T20 _ _ _ hf hd (lv_sub hl [0, 1, 2] rfl)
        · have hf := bf_it hf c_55
          refine lv_iconst (v := 1) hx hb dX5_left_34 (by decide) ?_
          refine lv_goto (tgt := 39) hx hb dX5_left_35 (by decide) ?_
          exact J39 v20_2 1 v20_2 T20 _ _ _ hf hd (lv_sub hl [0, 1, 2] rfl)
  unfold fX5_left at hf
  refine lv_aload_n hx hb dX5_left_0 rfl (lv_at hl 0 rfl) ?_
  refine lv_iconst (v := 0) hx hb dX5_left_1 (by decide) ?_
  refine bf_tpi X hd 0 (by decide) ⟨rfl, rfl, rfl⟩ q1383 dX5_left_2 (fun H locs hd => ?_)
  obtain ⟨T_56, eT_56, hf⟩ := bf_l_e hf
  have hd := hd.of (congrArg (bf_pT G σ o) eT_56.symm)
  refine lv_aload_n hx hb dX5_left_5 rfl (lv_at hl 0 rfl) ?_
  refine lv_iload_n hx hb dX5_left_6 rfl (lv_at hl 1 rfl) ?_
  refine lv_iconst (v := 0) hx hb dX5_left_7 (by decide) ?_
  refine lv_bipush (v := 99) hx hb dX5_left_8 (by decide) ?_
  refine bf_tcz (n := 3) (As := [.int x1, .int 0, .int 99]) (rest := []) X hd (mX5_isIn l G σ o T_56 x1 0 99 rfl) (lw_V q1564 q1566 qs56 q156 q1567) (by decide +kernel) ⟨Nat.le_of_ble_eq_true rfl, Nat.le_of_ble_eq_true rfl⟩ rfl hl.1 rfl (Nat.le_of_ble_eq_true rfl) dX5_left_10 ⟨Nat.le_of_ble_eq_true rfl, Nat.le_of_ble_eq_true rfl⟩ (fun H locs z_57 hd => ?_)
  refine lv_if_ne (tgt := 18) hx hb dX5_left_13 (by decide) (fun c_58 => ?_) (fun c_58 => ?_)
  · have hf := bf_ie hf c_58
    refine lv_iconst (v := 0) hx hb dX5_left_18 (by decide) ?_
    refine lv_istore_n (lv' := [(2, .int 0), (0, .ref o), (1, .int x1)]) hx hb dX5_left_19 rfl hl (by decide) rfl (fun ls hl => ?_)
    exact L20 bf_fuel 0 T_56 _ _ _ hf hd (lv_sub hl [1, 2, 0] rfl)
  · have hf := bf_it hf c_58
    refine lv_iconst (v := (-1)) hx hb dX5_left_16 (by decide) ?_
    exact kret _ _ _ _ _ _ ⟨(bf_pr hf).1, congrArg (bf_pT G σ o) (bf_pr hf).2⟩ hd dX5_left_17
def fX5_seatsOf_33 (T : bf_TS) (k4 : Int32 → Int32 → Option (Int32)) (x1 : Int32) (w33_2 : Int32) (w33_3 : Int32) : Option (Int32) := bf_l (w33_3 + 1) fun x3_6 => k4 w33_2 x3_6
def fX5_seatsOf_4b (T : bf_TS) (x1 : Int32) (k4 : Int32 → Int32 → Option (Int32)) (v4_2 : Int32) (v4_3 : Int32) : Option (Int32) := if (T 6 0) ≤ v4_3 then (some v4_2) else (if (fX5_has x1 v4_3) = 0 then (fX5_seatsOf_33 T k4 x1 v4_2 v4_3) else (bf_c (bf_in (10 + v4_3) 136) <| bf_l ((v4_2 + (T 1 (10 + v4_3).toNatClampNeg))) fun x2_5 => fX5_seatsOf_33 T k4 x1 x2_5 v4_3))
def fX5_seatsOf_4 (T : bf_TS) (x1 : Int32) : Nat → Int32 → Int32 → Option (Int32)
  | 0, _, _ => none
  | n + 1, v4_2, v4_3 => fX5_seatsOf_4b T x1 (fX5_seatsOf_4 T x1 n) v4_2 v4_3
def fX5_seatsOf (T : bf_TS) (x1 : Int32) : Option (Int32) := fX5_seatsOf_4 T x1 bf_fuel 0 0
set_option maxHeartbeats 4000000 in
theorem mX5_seatsOf (l : Launch) (G : bf_G) (σ : bf_V) (o : Nat) (T : bf_TS) (x1 : Int32) {r : Int32} (hf : fX5_seatsOf T x1 = some r) : bf_MI l G yX5_seatsOf cX5_seatsOf 4 (bf_rm 1) [.ref o, .int x1] (bf_pT G σ o T) (fun v σ' => v = r ∧ σ' = bf_pT G σ o T) := by
  refine bf_MI.of rfl (Nat.le_of_ble_eq_true rfl) ?_
  intro p e s m below meth c Q X hlk hnm kret hd ls hl
  have hx := X.1
  have hb := X.2.1
  have hown := X.2.2.2.1
  have hts := X.2.2.2.2
  have hl : lv_has ls 4 [(0, .ref o), (1, .int x1)] := hl
  have L4 : ∀ (n4 : Nat) (v4_2 : Int32) (v4_3 : Int32) (H : Heap) (locs : List Loc) (ls : Array Slot), fX5_seatsOf_4 T x1 n4 v4_2 v4_3 = some r → bf_Dy G s H locs (bf_pT G σ o T) → lv_has ls 4 [(0, .ref o), (1, .int x1), (2, .int v4_2), (3, .int v4_3)] → W p l e (bf_rm 1) s m ([.ref o, .int x1] : List Value).toArray below meth c H locs 0 0 Q (F0 m 4 ls []) := by
    intro n4
    induction n4 with
    | zero =>
      intro v4_2 v4_3 H locs ls hf hd hl
      exact absurd (show (none : Option (Int32)) = some r from hf) (by intro h; cases h)
    | succ n4 ih4 =>
      intro v4_2 v4_3 H locs ls hf hd hl
      have hf : fX5_seatsOf_4b T x1 (fX5_seatsOf_4 T x1 n4) v4_2 v4_3 = some r := hf
      unfold fX5_seatsOf_4b at hf
      have J33 : ∀ (w33_2 : Int32) (w33_3 : Int32) (H : Heap) (locs : List Loc) (ls : Array Slot), fX5_seatsOf_33 T (fX5_seatsOf_4 T x1 n4) x1 w33_2 w33_3 = some r → bf_Dy G s H locs (bf_pT G σ o T) → lv_has ls 4 [(0, .ref o), (1, .int x1), (2, .int w33_2), (3, .int w33_3)] → W p l e (bf_rm 1) s m ([.ref o, .int x1] : List Value).toArray below meth c H locs 0 0 Q (F0 m 33 ls []) := by
        intro w33_2 w33_3 H locs ls hf hd hl
        unfold fX5_seatsOf_33 at hf
        obtain ⟨x3_7, ex3_7, hf⟩ := bf_l_e hf
        refine lv_iinc (v := x3_7) (lv' := [(3, .int x3_7), (0, .ref o), (1, .int x1), (2, .int w33_2)]) hx hb dX5_seatsOf_33 hl (k := 3) rfl (by rw [ex3_7]; rfl) (by decide) rfl (fun ls hl => ?_)
        refine lv_goto (tgt := 4) hx hb dX5_seatsOf_36 (by decide) ?_
        exact ih4 w33_2 x3_7 _ _ _ hf hd (lv_sub hl [1, 2, 3, 0] rfl)
      refine lv_iload_n hx hb dX5_seatsOf_4 rfl (lv_at hl 3 rfl) ?_
      refine lv_aload_n hx hb dX5_seatsOf_5 rfl (lv_at hl 0 rfl) ?_
      refine bf_tgi X hd 6 (by decide) rfl q1389 dX5_seatsOf_6 ?_
      refine lv_icmp_ge (tgt := 39) hx hb dX5_seatsOf_9 (by decide) (fun c_8 => ?_) (fun c_8 => ?_)
      · have hf := bf_it hf c_8
        refine lv_iload_n hx hb dX5_seatsOf_39 rfl (lv_at hl 2 rfl) ?_
        exact kret _ _ _ _ _ _ ⟨bf_so hf, rfl⟩ hd dX5_seatsOf_40
      · have hf := bf_ie hf c_8
        refine lv_aload_n hx hb dX5_seatsOf_12 rfl (lv_at hl 0 rfl) ?_
        refine lv_iload_n hx hb dX5_seatsOf_13 rfl (lv_at hl 1 rfl) ?_
        refine lv_iload_n hx hb dX5_seatsOf_14 rfl (lv_at hl 3 rfl) ?_
        refine bf_tcz (n := 2) (As := [.int x1, .int v4_3]) (rest := []) X hd (mX5_has l G σ o T x1 v4_3 rfl) (lw_V q1776 q1778 qs100 q156 q1779) (by decide +kernel) ⟨Nat.le_of_ble_eq_true rfl, Nat.le_of_ble_eq_true rfl⟩ rfl hl.1 rfl (Nat.le_of_ble_eq_true rfl) dX5_seatsOf_15 ⟨Nat.le_of_ble_eq_true rfl, Nat.le_of_ble_eq_true rfl⟩ (fun H locs z_9 hd => ?_)
        refine lv_if_eq (tgt := 33) hx hb dX5_seatsOf_18 (by decide) (fun c_10 => ?_) (fun c_10 => ?_)
        · have hf := bf_it hf c_10
          exact J33 v4_2 v4_3 _ _ _ hf hd (lv_sub hl [0, 1, 2, 3] rfl)
        · have hf := bf_ie hf c_10
          refine lv_iload_n hx hb dX5_seatsOf_21 rfl (lv_at hl 2 rfl) ?_
          refine lv_aload_n hx hb dX5_seatsOf_22 rfl (lv_at hl 0 rfl) ?_
          refine bf_tga X hd 1 (by decide) (by decide) q1384 dX5_seatsOf_23 ?_
          refine lv_bipush (v := 10) hx hb dX5_seatsOf_26 (by decide) ?_
          refine lv_iload_n hx hb dX5_seatsOf_28 rfl (lv_at hl 3 rfl) ?_
          refine lv_iadd hx hb dX5_seatsOf_29 ?_
          obtain ⟨g_11, hf⟩ := bf_c_some hf
          refine bf_tld X hd 1 (by decide) g_11 dX5_seatsOf_30 ?_
          refine lv_iadd hx hb dX5_seatsOf_31 ?_
          obtain ⟨x2_12, ex2_12, hf⟩ := bf_l_e hf
          refine bf_top ex2_12 ?_
          refine lv_istore_n (lv' := [(2, .int x2_12), (0, .ref o), (1, .int x1), (3, .int v4_3)]) hx hb dX5_seatsOf_32 rfl hl (by decide) rfl (fun ls hl => ?_)
          exact J33 x2_12 v4_3 _ _ _ hf hd (lv_sub hl [1, 2, 0, 3] rfl)
  unfold fX5_seatsOf at hf
  refine lv_iconst (v := 0) hx hb dX5_seatsOf_0 (by decide) ?_
  refine lv_istore_n (lv' := [(2, .int 0), (0, .ref o), (1, .int x1)]) hx hb dX5_seatsOf_1 rfl hl (by decide) rfl (fun ls hl => ?_)
  refine lv_iconst (v := 0) hx hb dX5_seatsOf_2 (by decide) ?_
  refine lv_istore_n (lv' := [(3, .int 0), (2, .int 0), (0, .ref o), (1, .int x1)]) hx hb dX5_seatsOf_3 rfl hl (by decide) rfl (fun ls hl => ?_)
  exact L4 bf_fuel 0 0 _ _ _ hf hd (lv_sub hl [2, 3, 1, 0] rfl)
def fX5_doesRule (T : bf_TS) (x1 : Int32) : Option (Int32) := bf_b (fX5_seatsOf T x1) fun r_1 => bf_b (fX5_seatsOf T ((1 <<< ((T 6 0) &&& 31)) - 1)) fun r_2 => if (2 * r_1) ≤ r_2 then (some 0) else (some 1)
set_option maxHeartbeats 4000000 in
theorem mX5_doesRule (l : Launch) (G : bf_G) (σ : bf_V) (o : Nat) (T : bf_TS) (x1 : Int32) {r : Int32} (hf : fX5_doesRule T x1 = some r) : bf_MZ l G yX5_doesRule cX5_doesRule 2 (bf_rm 2) [.ref o, .int x1] (bf_pT G σ o T) (fun v σ' => v = r ∧ σ' = bf_pT G σ o T) := by
  refine bf_MZ.of rfl (Nat.le_of_ble_eq_true rfl) ?_
  intro p e s m below meth c Q X hlk hnm kret hd ls hl
  have hx := X.1
  have hb := X.2.1
  have hown := X.2.2.2.1
  have hts := X.2.2.2.2
  have hl : lv_has ls 2 [(0, .ref o), (1, .int x1)] := hl
  unfold fX5_doesRule at hf
  refine lv_iconst (v := 2) hx hb dX5_doesRule_0 (by decide) ?_
  refine lv_aload_n hx hb dX5_doesRule_1 rfl (lv_at hl 0 rfl) ?_
  refine lv_iload_n hx hb dX5_doesRule_2 rfl (lv_at hl 1 rfl) ?_
  obtain ⟨r_4, er_4, hf⟩ := bf_b_some hf
  refine bf_tci (n := 1) (As := [.int x1]) (rest := [.int 2]) X hd (mX5_seatsOf l G σ o T x1 er_4) (lw_V q2016 q2018 qs143 q156 q2019) (by decide +kernel) ⟨Nat.le_of_ble_eq_true rfl, Nat.le_of_ble_eq_true rfl⟩ rfl hl.1 rfl (Nat.le_of_ble_eq_true rfl) dX5_doesRule_3 ⟨Nat.le_of_ble_eq_true rfl, Nat.le_of_ble_eq_true rfl⟩ (fun H locs hd => ?_)
  refine lv_imul hx hb dX5_doesRule_6 ?_
  refine lv_aload_n hx hb dX5_doesRule_7 rfl (lv_at hl 0 rfl) ?_
  refine lv_iconst (v := 1) hx hb dX5_doesRule_8 (by decide) ?_
  refine lv_aload_n hx hb dX5_doesRule_9 rfl (lv_at hl 0 rfl) ?_
  refine bf_tgi X hd 6 (by decide) rfl q1389 dX5_doesRule_10 ?_
  refine lv_ishl hx hb dX5_doesRule_13 ?_
  refine lv_iconst (v := 1) hx hb dX5_doesRule_14 (by decide) ?_
  refine lv_isub hx hb dX5_doesRule_15 ?_
  obtain ⟨r_5, er_5, hf⟩ := bf_b_some hf
  refine bf_tci (n := 1) (As := [.int ((1 <<< ((T 6 0) &&& 31)) - 1)]) (rest := [.int (2 * r_4)]) X hd (mX5_seatsOf l G σ o T ((1 <<< ((T 6 0) &&& 31)) - 1) er_5) (lw_V q2016 q2018 qs143 q156 q2019) (by decide +kernel) ⟨Nat.le_of_ble_eq_true rfl, Nat.le_of_ble_eq_true rfl⟩ rfl hl.1 rfl (Nat.le_of_ble_eq_true rfl) dX5_doesRule_16 ⟨Nat.le_of_ble_eq_true rfl, Nat.le_of_ble_eq_true rfl⟩ (fun H locs hd => ?_)
  refine lv_icmp_le (tgt := 26) hx hb dX5_doesRule_19 (by decide) (fun c_6 => ?_) (fun c_6 => ?_)
  · have hf := bf_it hf c_6
    refine lv_iconst (v := 0) hx hb dX5_doesRule_26 (by decide) ?_
    exact kret _ _ _ _ _ _ ⟨bf_so hf, rfl⟩ (Or.inl rfl) hd dX5_doesRule_27
  · have hf := bf_ie hf c_6
    refine lv_iconst (v := 1) hx hb dX5_doesRule_22 (by decide) ?_
    refine lv_goto (tgt := 27) hx hb dX5_doesRule_23 (by decide) ?_
    exact kret _ _ _ _ _ _ ⟨bf_so hf, rfl⟩ (Or.inr rfl) hd dX5_doesRule_27
def fX5_rules_65 (x1 : Int32) (w65_2 : Int32) (T65 : bf_TS) : Option (Int32 × bf_TS) := if w65_2 = (-1) then (some (w65_2, T65)) else (if x1 = 1 then (some (w65_2, T65)) else (bf_b (fX5_onesOf w65_2) fun r_12 => some (r_12, T65)))
def fX5_rules_59 (k21 : Int32 → Int32 → bf_TS → Option (Int32 × bf_TS)) (x1 : Int32) (w59_2 : Int32) (w59_3 : Int32) (T59 : bf_TS) : Option (Int32 × bf_TS) := bf_l (w59_3 + 1) fun x3_9 => k21 w59_2 x3_9 T59
def fX5_rules_49 (k21 : Int32 → Int32 → bf_TS → Option (Int32 × bf_TS)) (x1 : Int32) (w49_2 : Int32) (w49_3 : Int32) (T49 : bf_TS) : Option (Int32 × bf_TS) := bf_b (fX5_doesRule T49 w49_3) fun r_6 => if r_6 = 0 then (fX5_rules_59 k21 x1 w49_2 w49_3 T49) else (fX5_rules_59 k21 x1 w49_3 w49_3 T49)
def fX5_rules_21b (x1 : Int32) (k21 : Int32 → Int32 → bf_TS → Option (Int32 × bf_TS)) (v21_2 : Int32) (v21_3 : Int32) (T21 : bf_TS) : Option (Int32 × bf_TS) := if (1 <<< ((T21 6 0) &&& 31)) ≤ v21_3 then (fX5_rules_65 x1 v21_2 T21) else (if v21_2 = (-1) then (fX5_rules_49 k21 x1 v21_2 v21_3 T21) else (bf_b (fX5_onesOf v21_3) fun r_3 => bf_b (fX5_onesOf v21_2) fun r_4 => if r_4 ≤ r_3 then (fX5_rules_59 k21 x1 v21_2 v21_3 T21) else (fX5_rules_49 k21 x1 v21_2 v21_3 T21)))
def fX5_rules_21 (x1 : Int32) : Nat → Int32 → Int32 → bf_TS → Option (Int32 × bf_TS)
  | 0, _, _, _ => none
  | n + 1, v21_2, v21_3, T21 => fX5_rules_21b x1 (fX5_rules_21 x1 n) v21_2 v21_3 T21
def fX5_rules (T : bf_TS) (x1 : Int32) : Option (Int32 × bf_TS) := bf_l (bf_u2 T 0 0 0) fun T_13 => if (fX5_isIn x1 0 1) = 0 then (some ((-1), T_13)) else (fX5_rules_21 x1 bf_fuel (-1) 0 T_13)
set_option maxHeartbeats 4000000 in
theorem mX5_rules (l : Launch) (G : bf_G) (σ : bf_V) (o : Nat) (T : bf_TS) (x1 : Int32) {r : Int32} {T' : bf_TS} (hf : fX5_rules T x1 = some (r, T')) : bf_MI l G yX5_rules cX5_rules 4 (bf_rm 3) [.ref o, .int x1] (bf_pT G σ o T) (fun v σ' => v = r ∧ σ' = bf_pT G σ o T') := by
  refine bf_MI.of rfl (Nat.le_of_ble_eq_true rfl) ?_
  intro p e s m below meth c Q X hlk hnm kret hd ls hl
  have hx := X.1
  have hb := X.2.1
  have hown := X.2.2.2.1
  have hts := X.2.2.2.2
  have hl : lv_has ls 4 [(0, .ref o), (1, .int x1)] := hl
  have J65 : ∀ (w65_2 : Int32) (T65 : bf_TS) (H : Heap) (locs : List Loc) (ls : Array Slot), fX5_rules_65 x1 w65_2 T65 = some (r, T') → bf_Dy G s H locs (bf_pT G σ o T65) → lv_has ls 4 [(0, .ref o), (1, .int x1), (2, .int w65_2)] → W p l e (bf_rm 3) s m ([.ref o, .int x1] : List Value).toArray below meth c H locs 0 0 Q (F0 m 65 ls []) := by
    intro w65_2 T65 H locs ls hf hd hl
    unfold fX5_rules_65 at hf
    refine lv_iload_n hx hb dX5_rules_65 rfl (lv_at hl 2 rfl) ?_
    refine lv_iconst (v := (-1)) hx hb dX5_rules_66 (by decide) ?_
    refine lv_icmp_eq (tgt := 75) hx hb dX5_rules_67 (by decide) (fun c_16 => ?_) (fun c_16 => ?_)
    · have hf := bf_it hf c_16
      refine lv_iload_n hx hb dX5_rules_75 rfl (lv_at hl 2 rfl) ?_
      refine lv_goto (tgt := 84) hx hb dX5_rules_76 (by decide) ?_
      exact kret _ _ _ _ _ _ ⟨(bf_pr hf).1, congrArg (bf_pT G σ o) (bf_pr hf).2⟩ hd dX5_rules_84
    · have hf := bf_ie hf c_16
      refine lv_iload_n hx hb dX5_rules_70 rfl (lv_at hl 1 rfl) ?_
      refine lv_iconst (v := 1) hx hb dX5_rules_71 (by decide) ?_
      refine lv_icmp_ne (tgt := 79) hx hb dX5_rules_72 (by decide) (fun c_17 => ?_) (fun c_17 => ?_)
      · have hf := bf_ie hf c_17
        refine lv_aload_n hx hb dX5_rules_79 rfl (lv_at hl 0 rfl) ?_
        refine lv_iload_n hx hb dX5_rules_80 rfl (lv_at hl 2 rfl) ?_
        obtain ⟨r_18, er_18, hf⟩ := bf_b_some hf
        refine bf_tci (n := 1) (As := [.int w65_2]) (rest := []) X hd (mX5_onesOf l G σ o T65 w65_2 er_18) (lw_V q1974 q1976 qs137 q156 q1977) (by decide +kernel) ⟨Nat.le_of_ble_eq_true rfl, Nat.le_of_ble_eq_true rfl⟩ rfl hl.1 rfl (Nat.le_of_ble_eq_true rfl) dX5_rules_81 ⟨Nat.le_of_ble_eq_true rfl, Nat.le_of_ble_eq_true rfl⟩ (fun H locs hd => ?_)
        exact kret _ _ _ _ _ _ ⟨(bf_pr hf).1, congrArg (bf_pT G σ o) (bf_pr hf).2⟩ hd dX5_rules_84
      · have hf := bf_it hf c_17
        refine lv_iload_n hx hb dX5_rules_75 rfl (lv_at hl 2 rfl) ?_
        refine lv_goto (tgt := 84) hx hb dX5_rules_76 (by decide) ?_
        exact kret _ _ _ _ _ _ ⟨(bf_pr hf).1, congrArg (bf_pT G σ o) (bf_pr hf).2⟩ hd dX5_rules_84
  have L21 : ∀ (n21 : Nat) (v21_2 : Int32) (v21_3 : Int32) (T21 : bf_TS) (H : Heap) (locs : List Loc) (ls : Array Slot), fX5_rules_21 x1 n21 v21_2 v21_3 T21 = some (r, T') → bf_Dy G s H locs (bf_pT G σ o T21) → lv_has ls 4 [(0, .ref o), (1, .int x1), (2, .int v21_2), (3, .int v21_3)] → W p l e (bf_rm 3) s m ([.ref o, .int x1] : List Value).toArray below meth c H locs 0 0 Q (F0 m 21 ls []) := by
    intro n21
    induction n21 with
    | zero =>
      intro v21_2 v21_3 T21 H locs ls hf hd hl
      exact absurd (show (none : Option (Int32 × bf_TS)) = some (r, T') from hf) (by intro h; cases h)
    | succ n21 ih21 =>
      intro v21_2 v21_3 T21 H locs ls hf hd hl
      have hf : fX5_rules_21b x1 (fX5_rules_21 x1 n21) v21_2 v21_3 T21 = some (r, T') := hf
      unfold fX5_rules_21b at hf
      have J59 : ∀ (w59_2 : Int32) (w59_3 : Int32) (T59 : bf_TS) (H : Heap) (locs : List Loc) (ls : Array Slot), fX5_rules_59 (fX5_rules_21 x1 n21) x1 w59_2 w59_3 T59 = some (r, T') → bf_Dy G s H locs (bf_pT G σ o T59) → lv_has ls 4 [(0, .ref o), (1, .int x1), (2, .int w59_2), (3, .int w59_3)] → W p l e (bf_rm 3) s m ([.ref o, .int x1] : List Value).toArray below meth c H locs 0 0 Q (F0 m 59 ls []) := by
        intro w59_2 w59_3 T59 H locs ls hf hd hl
        unfold fX5_rules_59 at hf
        obtain ⟨x3_19, ex3_19, hf⟩ := bf_l_e hf
        refine lv_iinc (v := x3_19) (lv' := [(3, .int x3_19), (0, .ref o), (1, .int x1), (2, .int w59_2)]) hx hb dX5_rules_59 hl (k := 3) rfl (by rw [ex3_19]; rfl) (by decide) rfl (fun ls hl => ?_)
        refine lv_goto (tgt := 21) hx hb dX5_rules_62 (by decide) ?_
        exact ih21 w59_2 x3_19 T59 _ _ _ hf hd (lv_sub hl [1, 2, 3, 0] rfl)
      have J49 : ∀ (w49_2 : Int32) (w49_3 : Int32) (T49 : bf_TS) (H : Heap) (locs : List Loc) (ls : Array Slot), fX5_rules_49 (fX5_rules_21 x1 n21) x1 w49_2 w49_3 T49 = some (r, T') → bf_Dy G s H locs (bf_pT G σ o T49) → lv_has ls 4 [(0, .ref o), (1, .int x1), (2, .int w49_2), (3, .int w49_3)] → W p l e (bf_rm 3) s m ([.ref o, .int x1] : List Value).toArray below meth c H locs 0 0 Q (F0 m 49 ls []) := by
        intro w49_2 w49_3 T49 H locs ls hf hd hl
        unfold fX5_rules_49 at hf
        refine lv_aload_n hx hb dX5_rules_49 rfl (lv_at hl 0 rfl) ?_
        refine lv_iload_n hx hb dX5_rules_50 rfl (lv_at hl 3 rfl) ?_
        obtain ⟨r_20, er_20, hf⟩ := bf_b_some hf
        refine bf_tcz (n := 1) (As := [.int w49_3]) (rest := []) X hd (mX5_doesRule l G σ o T49 w49_3 er_20) (lw_V q2012 q2014 qs142 q156 q2015) (by decide +kernel) ⟨Nat.le_of_ble_eq_true rfl, Nat.le_of_ble_eq_true rfl⟩ rfl hl.1 rfl (Nat.le_of_ble_eq_true rfl) dX5_rules_51 ⟨Nat.le_of_ble_eq_true rfl, Nat.le_of_ble_eq_true rfl⟩ (fun H locs z_21 hd => ?_)
        refine lv_if_eq (tgt := 59) hx hb dX5_rules_54 (by decide) (fun c_22 => ?_) (fun c_22 => ?_)
        · have hf := bf_it hf c_22
          exact J59 w49_2 w49_3 T49 _ _ _ hf hd (lv_sub hl [0, 1, 2, 3] rfl)
        · have hf := bf_ie hf c_22
          refine lv_iload_n hx hb dX5_rules_57 rfl (lv_at hl 3 rfl) ?_
          refine lv_istore_n (lv' := [(2, .int w49_3), (0, .ref o), (1, .int x1), (3, .int w49_3)]) hx hb dX5_rules_58 rfl hl (by decide) rfl (fun ls hl => ?_)
          exact J59 w49_3 w49_3 T49 _ _ _ hf hd (lv_sub hl [1, 2, 0, 3] rfl)
      refine lv_iload_n hx hb dX5_rules_21 rfl (lv_at hl 3 rfl) ?_
      refine lv_iconst (v := 1) hx hb dX5_rules_22 (by decide) ?_
      refine lv_aload_n hx hb dX5_rules_23 rfl (lv_at hl 0 rfl) ?_
      refine bf_tgi X hd 6 (by decide) rfl q1389 dX5_rules_24 ?_
      refine lv_ishl hx hb dX5_rules_27 ?_
      refine lv_icmp_ge (tgt := 65) hx hb dX5_rules_28 (by decide) (fun c_23 => ?_) (fun c_23 => ?_)
      · have hf := bf_it hf c_23
        exact J65 v21_2 T21 _ _ _ hf hd (lv_sub hl [0, 1, 2] rfl)
      · have hf := bf_ie hf c_23
        refine lv_iload_n hx hb dX5_rules_31 rfl (lv_at hl 2 rfl) ?_
        refine lv_iconst (v := (-1)) hx hb dX5_rules_32 (by decide) ?_
        refine lv_icmp_eq (tgt := 49) hx hb dX5_rules_33 (by decide) (fun c_24 => ?_) (fun c_24 => ?_)
        · have hf := bf_it hf c_24
          exact J49 v21_2 v21_3 T21 _ _ _ hf hd (lv_sub hl [0, 1, 2, 3] rfl)
        · have hf := bf_ie hf c_24
          refine lv_aload_n hx hb dX5_rules_36 rfl (lv_at hl 0 rfl) ?_
          refine lv_iload_n hx hb dX5_rules_37 rfl (lv_at hl 3 rfl) ?_
          obtain ⟨r_25, er_25, hf⟩ := bf_b_some hf
          refine bf_tci (n := 1) (As := [.int v21_3]) (rest := []) X hd (mX5_onesOf l G σ o T21 v21_3 er_25) (lw_V q1974 q1976 qs137 q156 q1977) (by decide +kernel) ⟨Nat.le_of_ble_eq_true rfl, Nat.le_of_ble_eq_true rfl⟩ rfl hl.1 rfl (Nat.le_of_ble_eq_true rfl) dX5_rules_38 ⟨Nat.le_of_ble_eq_true rfl, Nat.le_of_ble_eq_true rfl⟩ (fun H locs hd => ?_)
          refine lv_aload_n hx hb dX5_rules_41 rfl (lv_at hl 0 rfl) ?_
          refine lv_iload_n hx hb dX5_rules_42 rfl (lv_at hl 2 rfl) ?_
          obtain ⟨r_26, er_26, hf⟩ := bf_b_some hf
          refine bf_tci (n := 1) (As := [.int v21_2]) (rest := [.int r_25]) X hd (mX5_onesOf l G σ o T21 v21_2 er_26) (lw_V q1974 q1976 qs137 q156 q1977) (by decide +kernel) ⟨Nat.le_of_ble_eq_true rfl, Nat.le_of_ble_eq_true rfl⟩ rfl hl.1 rfl (Nat.le_of_ble_eq_true rfl) dX5_rules_43 ⟨Nat.le_of_ble_eq_true rfl, Nat.le_of_ble_eq_true rfl⟩ (fun H locs hd => ?_)
          refine lv_icmp_ge (tgt := 59) hx hb dX5_rules_46 (by decide) (fun c_27 => ?_) (fun c_27 => ?_)
          · have hf := bf_it hf c_27
            exact J59 v21_2 v21_3 T21 _ _ _ hf hd (lv_sub hl [0, 1, 2, 3] rfl)
          · have hf := bf_ie hf c_27
            exact J49 v21_2 v21_3 T21 _ _ _ hf hd (lv_sub hl [0, 1, 2, 3] rfl)
  unfold fX5_rules at hf
  refine lv_aload_n hx hb dX5_rules_0 rfl (lv_at hl 0 rfl) ?_
  refine lv_iconst (v := 0) hx hb dX5_rules_1 (by decide) ?_
  refine bf_tpi X hd 0 (by decide) ⟨rfl, rfl, rfl⟩ q1383 dX5_rules_2 (fun H locs hd => ?_)
  obtain ⟨T_28, eT_28, hf⟩ := bf_l_e hf
  have hd := hd.of (congrArg (bf_pT G σ o) eT_28.symm)
  refine lv_aload_n hx hb dX5_rules_5 rfl (lv_at hl 0 rfl) ?_
  refine lv_iload_n hx hb dX5_rules_6 rfl (lv_at hl 1 rfl) ?_
  refine lv_iconst (v := 0) hx hb dX5_rules_7 (by decide) ?_
  refine lv_iconst (v := 1) hx hb dX5_rules_8 (by decide) ?_
  refine bf_tcz (n := 3) (As := [.int x1, .int 0, .int 1]) (rest := []) X hd (mX5_isIn l G σ o T_28 x1 0 1 rfl) (lw_V q1564 q1566 qs56 q156 q1567) (by decide +kernel) ⟨Nat.le_of_ble_eq_true rfl, Nat.le_of_ble_eq_true rfl⟩ rfl hl.1 rfl (Nat.le_of_ble_eq_true rfl) dX5_rules_9 ⟨Nat.le_of_ble_eq_true rfl, Nat.le_of_ble_eq_true rfl⟩ (fun H locs z_29 hd => ?_)
  refine lv_if_ne (tgt := 17) hx hb dX5_rules_12 (by decide) (fun c_30 => ?_) (fun c_30 => ?_)
  · have hf := bf_ie hf c_30
    refine lv_iconst (v := (-1)) hx hb dX5_rules_17 (by decide) ?_
    refine lv_istore_n (lv' := [(2, .int (-1)), (0, .ref o), (1, .int x1)]) hx hb dX5_rules_18 rfl hl (by decide) rfl (fun ls hl => ?_)
    refine lv_iconst (v := 0) hx hb dX5_rules_19 (by decide) ?_
    refine lv_istore_n (lv' := [(3, .int 0), (2, .int (-1)), (0, .ref o), (1, .int x1)]) hx hb dX5_rules_20 rfl hl (by decide) rfl (fun ls hl => ?_)
    exact L21 bf_fuel (-1) 0 T_28 _ _ _ hf hd (lv_sub hl [2, 3, 1, 0] rfl)
  · have hf := bf_it hf c_30
    refine lv_iconst (v := (-1)) hx hb dX5_rules_15 (by decide) ?_
    exact kret _ _ _ _ _ _ ⟨(bf_pr hf).1, congrArg (bf_pT G σ o) (bf_pr hf).2⟩ hd dX5_rules_16
