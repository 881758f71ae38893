set_option maxRecDepth 100000
def fX0_weeks_31b (x1 : Int32) (k31 : Int32 → Int32 → bf_WS → Option (Int32 × bf_WS)) (v31_2 : Int32) (v31_3 : Int32) (T31 : bf_WS) : Option (Int32 × bf_WS) := if x1 ≤ v31_3 then (some (v31_2, T31)) else (bf_b (fX0_keeps T31) fun T_2 => bf_b2 (fX1_passes (bf_Ds T_2 0) (bf_S T_2 0)) fun r_4 S_3 => bf_l (bf_uS T_2 0 S_3) fun T_5 => bf_l ((v31_2 + r_4)) fun x2_6 => bf_l (v31_3 + 1) fun x3_7 => k31 x2_6 x3_7 T_5)
def fX0_weeks_31 (x1 : Int32) : Nat → Int32 → Int32 → bf_WS → Option (Int32 × bf_WS)
  | 0, _, _, _ => none
  | n + 1, v31_2, v31_3, T31 => fX0_weeks_31b x1 (fX0_weeks_31 x1 n) v31_2 v31_3 T31
def fX0_weeks (T : bf_WS) (x1 : Int32) : Option (Int32 × bf_WS) := if (fX0_isIn x1 1 60) = 0 then (some ((-1), T)) else (if (((bf_S T 0).1 0 18 0) + x1) ≤ 9999 then (fX0_weeks_31 x1 bf_fuel 0 0 T) else (some ((-1), T)))
set_option maxHeartbeats 4000000 in
theorem mX0_weeks (l : Launch) (G : bf_G) (ν : bf_V) (b : Nat) (T : bf_WS) (hz : bf_wok G ν b T) (x1 : Int32) {r : Int32} {T' : bf_WS} (hf : fX0_weeks T x1 = some (r, T')) : bf_MI l G yX0_weeks cX0_weeks 4 (bf_rm 437) [.ref b, .int x1] (bf_pB G ν b T) (fun v σ' => v = r ∧ σ' = bf_pB G ν b T' ∧ bf_wok G ν b T') := by
  refine bf_MI.of rfl (Nat.le_of_ble_eq_true rfl) ?_
  intro p e s m below meth c' Q X hlk hnm kret hd ls hl
  have hx := X.1
  have hb := X.2.1
  have hml := X.2.2.1
  have hown := X.2.2.2.1
  have hts := X.2.2.2.2
  have hl : lv_has ls 4 [(0, .ref b), (1, .int x1)] := hl
  have L31 : ∀ (n31 : Nat) (v31_2 : Int32) (v31_3 : Int32) (T31 : bf_WS) (H : Heap) (locs : List Loc) (ls : Array Slot), fX0_weeks_31 x1 n31 v31_2 v31_3 T31 = some (r, T') → bf_wok G ν b T31 → bf_Dy G s H locs (bf_pB G ν b T31) → lv_has ls 4 [(0, .ref b), (1, .int x1), (2, .int v31_2), (3, .int v31_3)] → W p l e (bf_rm 437) s m ([.ref b, .int x1] : List Value).toArray below meth c' H locs 0 0 Q (F0 m 31 ls []) := by
    intro n31
    induction n31 with
    | zero =>
      intro v31_2 v31_3 T31 H locs ls hf hz hd hl
      exact absurd (show (none : Option (Int32 × bf_WS)) = some (r, T') from hf) (by intro h; cases h)
    | succ n31 ih31 =>
      intro v31_2 v31_3 T31 H locs ls hf hz hd hl
      have hf : fX0_weeks_31b x1 (fX0_weeks_31 x1 n31) v31_2 v31_3 T31 = some (r, T') := hf
      unfold fX0_weeks_31b at hf
      refine lv_iload_n hx hb dX0_weeks_31 rfl (lv_at hl 3 rfl) ?_
      refine lv_iload_n hx hb dX0_weeks_32 rfl (lv_at hl 1 rfl) ?_
      refine lv_icmp_ge (tgt := 56) hx hb dX0_weeks_33 (by decide) (fun c_11 => ?_) (fun c_11 => ?_)
      · have hf := bf_it hf c_11
        refine lv_iload_n hx hb dX0_weeks_56 rfl (lv_at hl 2 rfl) ?_
        exact kret _ _ _ _ _ _ ⟨(bf_pr hf).1, congrArg (bf_pB G ν b) (bf_pr hf).2, (bf_pr hf).2 ▸ hz⟩ hd dX0_weeks_57
      · have hf := bf_ie hf c_11
        refine lv_aload_n hx hb dX0_weeks_36 rfl (lv_at hl 0 rfl) ?_
        obtain ⟨T_12, eT_12, hf⟩ := bf_b_some hf
        refine bf_bcv (n := 0) (As := []) (rest := []) X hd (mX0_keeps l G ν b T31 hz  eT_12) (lw_V q1033 q1035 qs32 q148 q1036) (by decide +kernel) ⟨Nat.le_of_ble_eq_true rfl, Nat.le_of_ble_eq_true rfl⟩ rfl hl.1 rfl (Nat.le_of_ble_eq_true rfl) dX0_weeks_37 ⟨Nat.le_of_ble_eq_true rfl, Nat.le_of_ble_eq_true rfl⟩ (fun H locs hz hd => ?_)
        refine lv_iload_n hx hb dX0_weeks_40 rfl (lv_at hl 2 rfl) ?_
        refine lv_aload_n hx hb dX0_weeks_41 rfl (lv_at hl 0 rfl) ?_
        refine bf_yG (v := .ref (bf_ca b 0)) X hd 4 (by decide) (Or.inl q430) rfl dX0_weeks_42 ?_
        obtain ⟨r_14, S_13, er_14, hf⟩ := bf_b2_some hf
        refine bf_cci (n := 0) (As := []) (rest := [.int v31_2]) X (bf_toC (i := 0) hd (by decide)) (mX1_passes l G (bf_pB G ν b T_12) (bf_ca b 0) (bf_qs T_12 0) (bf_Ds T_12 0) (bf_ZB_Z (by decide) (hz 0 (by decide))) (bf_S T_12 0) er_14) (lw_V q1070 q1071 q1072 q149 q1073) (by decide +kernel) ⟨Nat.le_of_ble_eq_true rfl, Nat.le_of_ble_eq_true rfl⟩ rfl hl.1 rfl (Nat.le_of_ble_eq_true rfl) dX0_weeks_45 ⟨Nat.le_of_ble_eq_true rfl, Nat.le_of_ble_eq_true rfl⟩ (fun H locs hd => ?_)
        have hd := bf_fromC (by decide) hd
        obtain ⟨T_15, eT_15, hf⟩ := bf_l_e hf
        have hd := hd.of (congrArg (bf_pB G ν b) eT_15.symm)
        have hz := bf_wok_uS hz eT_15
        refine lv_iadd hx hb dX0_weeks_48 ?_
        obtain ⟨x2_16, ex2_16, hf⟩ := bf_l_e hf
        refine bf_top ex2_16 ?_
        refine lv_istore_n (lv' := [(2, .int x2_16), (0, .ref b), (1, .int x1), (3, .int v31_3)]) hx hb dX0_weeks_49 rfl hl (by decide) rfl (fun ls hl => ?_)
        obtain ⟨x3_17, ex3_17, hf⟩ := bf_l_e hf
        refine lv_iinc (v := x3_17) (lv' := [(3, .int x3_17), (2, .int x2_16), (0, .ref b), (1, .int x1)]) hx hb dX0_weeks_50 hl (k := 3) rfl (by rw [ex3_17]; rfl) (by decide) rfl (fun ls hl => ?_)
        refine lv_goto (tgt := 31) hx hb dX0_weeks_53 (by decide) ?_
        exact ih31 x2_16 x3_17 T_15 _ _ _ hf hz hd (lv_sub hl [2, 3, 1, 0] rfl)
  unfold fX0_weeks at hf
  refine lv_iload_n hx hb dX0_weeks_0 rfl (lv_at hl 1 rfl) ?_
  refine lv_iconst (v := 1) hx hb dX0_weeks_1 (by decide) ?_
  refine lv_bipush (v := 60) hx hb dX0_weeks_2 (by decide) ?_
  refine bf_cSz (n := 3) (As := [.int x1, .int 1, .int 60]) (rest := []) X hd (mX0_isIn l G _ x1 1 60 rfl) (lw_S q473 q474 q148 q475) (by decide +kernel) ⟨Nat.le_of_ble_eq_true rfl, Nat.le_of_ble_eq_true rfl⟩ rfl hl.1 rfl (Nat.le_of_ble_eq_true rfl) dX0_weeks_4 ⟨Nat.le_of_ble_eq_true rfl, Nat.le_of_ble_eq_true rfl⟩ (fun r σ' H locs hF z_18 hd => ?_)
  rw [hF.2] at hd
  refine bf_top hF.1.symm ?_
  rw [hF.1] at z_18
  refine lv_if_eq (tgt := 25) hx hb dX0_weeks_7 (by decide) (fun c_19 => ?_) (fun c_19 => ?_)
  · have hf := bf_it hf c_19
    refine lv_iconst (v := (-1)) hx hb dX0_weeks_25 (by decide) ?_
    exact kret _ _ _ _ _ _ ⟨(bf_pr hf).1, congrArg (bf_pB G ν b) (bf_pr hf).2, (bf_pr hf).2 ▸ hz⟩ hd dX0_weeks_26
  · have hf := bf_ie hf c_19
    refine lv_aload_n hx hb dX0_weeks_10 rfl (lv_at hl 0 rfl) ?_
    refine bf_yG (v := .ref (bf_ca b 0)) X hd 4 (by decide) (Or.inl q430) rfl dX0_weeks_11 ?_
    refine bf_rC X hd (bf_pB_hC G ν b T (i := 0) (by decide)) 18 (by decide) (Or.inr ⟨_, q340⟩) rfl dX0_weeks_14 ?_
    refine lv_iload_n hx hb dX0_weeks_17 rfl (lv_at hl 1 rfl) ?_
    refine lv_iadd hx hb dX0_weeks_18 ?_
    refine lv_sipush (v := 9999) hx hb dX0_weeks_19 (by decide) ?_
    refine lv_icmp_le (tgt := 27) hx hb dX0_weeks_22 (by decide) (fun c_20 => ?_) (fun c_20 => ?_)
    · have hf := bf_it hf c_20
      refine lv_iconst (v := 0) hx hb dX0_weeks_27 (by decide) ?_
      refine lv_istore_n (lv' := [(2, .int 0), (0, .ref b), (1, .int x1)]) hx hb dX0_weeks_28 rfl hl (by decide) rfl (fun ls hl => ?_)
      refine lv_iconst (v := 0) hx hb dX0_weeks_29 (by decide) ?_
      refine lv_istore_n (lv' := [(3, .int 0), (2, .int 0), (0, .ref b), (1, .int x1)]) hx hb dX0_weeks_30 rfl hl (by decide) rfl (fun ls hl => ?_)
      exact L31 bf_fuel 0 0 T _ _ _ hf hz hd (lv_sub hl [2, 3, 1, 0] rfl)
    · have hf := bf_ie hf c_20
      refine lv_iconst (v := (-1)) hx hb dX0_weeks_25 (by decide) ?_
      exact kret _ _ _ _ _ _ ⟨(bf_pr hf).1, congrArg (bf_pB G ν b) (bf_pr hf).2, (bf_pr hf).2 ▸ hz⟩ hd dX0_weeks_26
def fX0_hangingOf_48 (T : bf_WS) (k4 : Int32 → Int32 → Option (Int32)) (x1 : Int32) (w48_3 : Int32) (t48_0 : Int32) (t48_1 : Int32) : Option (Int32) := bf_l ((t48_1 + t48_0)) fun x2_5 => bf_l (w48_3 + 1) fun x3_6 => k4 x2_5 x3_6
def fX0_hangingOf_4b (T : bf_WS) (x1 : Int32) (k4 : Int32 → Int32 → Option (Int32)) (v4_2 : Int32) (v4_3 : Int32) : Option (Int32) := if ((bf_S T 0).1 0 11 0) ≤ v4_3 then (some v4_2) else (bf_c (bf_in v4_3 14) <| if ((bf_S T 0).1 2 v4_3.toNatClampNeg 0) = x1 then (bf_c (bf_in v4_3 14) <| fX0_hangingOf_48 T k4 x1 v4_3 ((bf_S T 0).1 2 v4_3.toNatClampNeg 3) v4_2) else (fX0_hangingOf_48 T k4 x1 v4_3 0 v4_2))
def fX0_hangingOf_4 (T : bf_WS) (x1 : Int32) : Nat → Int32 → Int32 → Option (Int32)
  | 0, _, _ => none
  | n + 1, v4_2, v4_3 => fX0_hangingOf_4b T x1 (fX0_hangingOf_4 T x1 n) v4_2 v4_3
def fX0_hangingOf (T : bf_WS) (x1 : Int32) : Option (Int32) := fX0_hangingOf_4 T x1 bf_fuel 0 0
set_option maxHeartbeats 4000000 in
theorem mX0_hangingOf (l : Launch) (G : bf_G) (ν : bf_V) (b : Nat) (T : bf_WS) (hz : bf_wok G ν b T) (x1 : Int32) {r : Int32} (hf : fX0_hangingOf T x1 = some r) : bf_MI l G yX0_hangingOf cX0_hangingOf 4 (bf_rm 0) [.ref b, .int x1] (bf_pB G ν b T) (fun v σ' => v = r ∧ σ' = bf_pB G ν b T ∧ bf_wok G ν b T) := by
  refine bf_MI.of rfl (Nat.le_of_ble_eq_true rfl) ?_
  intro p e s m below meth c' Q X hlk hnm kret hd ls hl
  have hx := X.1
  have hb := X.2.1
  have hml := X.2.2.1
  have hown := X.2.2.2.1
  have hts := X.2.2.2.2
  have hl : lv_has ls 4 [(0, .ref b), (1, .int x1)] := hl
  have L4 : ∀ (n4 : Nat) (v4_2 : Int32) (v4_3 : Int32) (H : Heap) (locs : List Loc) (ls : Array Slot), fX0_hangingOf_4 T x1 n4 v4_2 v4_3 = some r → bf_wok G ν b T → bf_Dy G s H locs (bf_pB G ν b T) → lv_has ls 4 [(0, .ref b), (1, .int x1), (2, .int v4_2), (3, .int v4_3)] → W p l e (bf_rm 0) s m ([.ref b, .int x1] : List Value).toArray below meth c' H locs 0 0 Q (F0 m 4 ls []) := by
    intro n4
    induction n4 with
    | zero =>
      intro v4_2 v4_3 H locs ls hf hz hd hl
      exact absurd (show (none : Option (Int32)) = some r from hf) (by intro h; cases h)
    | succ n4 ih4 =>
      intro v4_2 v4_3 H locs ls hf hz hd hl
      have hf : fX0_hangingOf_4b T x1 (fX0_hangingOf_4 T x1 n4) v4_2 v4_3 = some r := hf
      unfold fX0_hangingOf_4b at hf
      have J48 : ∀ (w48_3 : Int32) (t48_0 : Int32) (t48_1 : Int32) (H : Heap) (locs : List Loc) (ls : Array Slot), fX0_hangingOf_48 T (fX0_hangingOf_4 T x1 n4) x1 w48_3 t48_0 t48_1 = some r → bf_wok G ν b T → bf_Dy G s H locs (bf_pB G ν b T) → lv_has ls 4 [(0, .ref b), (1, .int x1), (3, .int w48_3)] → W p l e (bf_rm 0) s m ([.ref b, .int x1] : List Value).toArray below meth c' H locs 0 0 Q (F0 m 48 ls [.int t48_0, .int t48_1]) := by
        intro w48_3 t48_0 t48_1 H locs ls hf hz hd hl
        unfold fX0_hangingOf_48 at hf
        refine lv_iadd hx hb dX0_hangingOf_48 ?_
        obtain ⟨x2_7, ex2_7, hf⟩ := bf_l_e hf
        refine bf_top ex2_7 ?_
        refine lv_istore_n (lv' := [(2, .int x2_7), (0, .ref b), (1, .int x1), (3, .int w48_3)]) hx hb dX0_hangingOf_49 rfl hl (by decide) rfl (fun ls hl => ?_)
        obtain ⟨x3_8, ex3_8, hf⟩ := bf_l_e hf
        refine lv_iinc (v := x3_8) (lv' := [(3, .int x3_8), (2, .int x2_7), (0, .ref b), (1, .int x1)]) hx hb dX0_hangingOf_50 hl (k := 3) rfl (by rw [ex3_8]; rfl) (by decide) rfl (fun ls hl => ?_)
        refine lv_goto (tgt := 4) hx hb dX0_hangingOf_53 (by decide) ?_
        exact ih4 x2_7 x3_8 _ _ _ hf hz hd (lv_sub hl [2, 3, 1, 0] rfl)
      refine lv_iload_n hx hb dX0_hangingOf_4 rfl (lv_at hl 3 rfl) ?_
      refine lv_aload_n hx hb dX0_hangingOf_5 rfl (lv_at hl 0 rfl) ?_
      refine bf_yG (v := .ref (bf_ca b 0)) X hd 4 (by decide) (Or.inl q430) rfl dX0_hangingOf_6 ?_
      refine bf_rC X hd (bf_pB_hC G ν b T (i := 0) (by decide)) 11 (by decide) (Or.inr ⟨_, q325⟩) rfl dX0_hangingOf_9 ?_
      refine lv_icmp_ge (tgt := 56) hx hb dX0_hangingOf_12 (by decide) (fun c_9 => ?_) (fun c_9 => ?_)
      · have hf := bf_it hf c_9
        refine lv_iload_n hx hb dX0_hangingOf_56 rfl (lv_at hl 2 rfl) ?_
        exact kret _ _ _ _ _ _ ⟨bf_so hf, rfl, hz⟩ hd dX0_hangingOf_57
      · have hf := bf_ie hf c_9
        refine lv_iload_n hx hb dX0_hangingOf_15 rfl (lv_at hl 2 rfl) ?_
        refine lv_aload_n hx hb dX0_hangingOf_16 rfl (lv_at hl 0 rfl) ?_
        refine bf_yG (v := .ref (bf_ca b 0)) X hd 4 (by decide) (Or.inl q430) rfl dX0_hangingOf_17 ?_
        refine bf_rC (v := .ref (bf_ca b 0 + 2)) X hd (bf_pB_hC G ν b T (i := 0) (by decide)) 1 (by decide) (Or.inr ⟨_, q302⟩) rfl dX0_hangingOf_20 ?_
        refine lv_iload_n hx hb dX0_hangingOf_23 rfl (lv_at hl 3 rfl) ?_
        obtain ⟨g_10, hf⟩ := bf_c_some hf
        refine bf_aald (v := .ref (bf_ca b 0 + 166 + v4_3.toNatClampNeg)) X hd (bf_c2 (bf_pB_hC G ν b T (i := 0) (by decide))) 3 rfl rfl g_10 rfl dX0_hangingOf_24 ?_
        refine bf_rT X hd (bf_pB_hC G ν b T (i := 0) (by decide)) (bf_in_lt g_10) 0 (by decide) (Or.inr ⟨_, q263⟩) dX0_hangingOf_25 ?_
        refine lv_iload_n hx hb dX0_hangingOf_28 rfl (lv_at hl 1 rfl) ?_
        refine lv_icmp_ne (tgt := 47) hx hb dX0_hangingOf_29 (by decide) (fun c_11 => ?_) (fun c_11 => ?_)
        · have hf := bf_ie hf c_11
          refine lv_iconst (v := 0) hx hb dX0_hangingOf_47 (by decide) ?_
          exact J48 v4_3 0 v4_2 _ _ _ hf hz hd (lv_sub hl [0, 1, 3] rfl)
        · have hf := bf_it hf c_11
          refine lv_aload_n hx hb dX0_hangingOf_32 rfl (lv_at hl 0 rfl) ?_
          refine bf_yG (v := .ref (bf_ca b 0)) X hd 4 (by decide) (Or.inl q430) rfl dX0_hangingOf_33 ?_
          refine bf_rC (v := .ref (bf_ca b 0 + 2)) X hd (bf_pB_hC G ν b T (i := 0) (by decide)) 1 (by decide) (Or.inr ⟨_, q302⟩) rfl dX0_hangingOf_36 ?_
          refine lv_iload_n hx hb dX0_hangingOf_39 rfl (lv_at hl 3 rfl) ?_
          obtain ⟨g_12, hf⟩ := bf_c_some hf
          refine bf_aald (v := .ref (bf_ca b 0 + 166 + v4_3.toNatClampNeg)) X hd (bf_c2 (bf_pB_hC G ν b T (i := 0) (by decide))) 3 rfl rfl g_12 rfl dX0_hangingOf_40 ?_
          refine bf_rT X hd (bf_pB_hC G ν b T (i := 0) (by decide)) (bf_in_lt g_12) 3 (by decide) (Or.inr ⟨_, q272⟩) dX0_hangingOf_41 ?_
          refine lv_goto (tgt := 48) hx hb dX0_hangingOf_44 (by decide) ?_
          exact J48 v4_3 ((bf_S T 0).1 2 v4_3.toNatClampNeg 3) v4_2 _ _ _ hf hz hd (lv_sub hl [0, 1, 3] rfl)
  unfold fX0_hangingOf at hf
  refine lv_iconst (v := 0) hx hb dX0_hangingOf_0 (by decide) ?_
  refine lv_istore_n (lv' := [(2, .int 0), (0, .ref b), (1, .int x1)]) hx hb dX0_hangingOf_1 rfl hl (by decide) rfl (fun ls hl => ?_)
  refine lv_iconst (v := 0) hx hb dX0_hangingOf_2 (by decide) ?_
  refine lv_istore_n (lv' := [(3, .int 0), (2, .int 0), (0, .ref b), (1, .int x1)]) hx hb dX0_hangingOf_3 rfl hl (by decide) rfl (fun ls hl => ?_)
  exact L4 bf_fuel 0 0 _ _ _ hf hz hd (lv_sub hl [2, 3, 1, 0] rfl)
def fX0_of (T : bf_WS) (x1 x2 : Int32) : Option (Int32) := if (fX0_isParty T x1) = 0 then (some (-1)) else (bf_c (bf_in x1 5) <| if x2 = 0 then (some ((bf_S T 0).1 1 x1.toNatClampNeg 0)) else (if x2 = 1 then (some ((bf_S T 0).1 1 x1.toNatClampNeg 1)) else (if x2 = 2 then (some ((bf_S T 0).1 1 x1.toNatClampNeg 2)) else (if x2 = 3 then (bf_b (fX0_hangingOf T x1) fun r_8 => some r_8) else (some (-1))))))
set_option maxHeartbeats 4000000 in
theorem mX0_of (l : Launch) (G : bf_G) (ν : bf_V) (b : Nat) (T : bf_WS) (hz : bf_wok G ν b T) (x1 x2 : Int32) {r : Int32} (hf : fX0_of T x1 x2 = some r) : bf_MI l G yX0_of cX0_of 4 (bf_rm 3) [.ref b, .int x1, .int x2] (bf_pB G ν b T) (fun v σ' => v = r ∧ σ' = bf_pB G ν b T ∧ bf_wok G ν b T) := by
  refine bf_MI.of rfl (Nat.le_of_ble_eq_true rfl) ?_
  intro p e s m below meth c' Q X hlk hnm kret hd ls hl
  have hx := X.1
  have hb := X.2.1
  have hml := X.2.2.1
  have hown := X.2.2.2.1
  have hts := X.2.2.2.2
  have hl : lv_has ls 4 [(0, .ref b), (1, .int x1), (2, .int x2)] := hl
  unfold fX0_of at hf
  refine lv_aload_n hx hb dX0_of_0 rfl (lv_at hl 0 rfl) ?_
  refine lv_iload_n hx hb dX0_of_1 rfl (lv_at hl 1 rfl) ?_
  refine bf_bcz (n := 1) (As := [.int x1]) (rest := []) X hd (mX0_isParty l G ν b T hz x1 rfl) (lw_V q1014 q1016 qs30 q148 q1017) (by decide +kernel) ⟨Nat.le_of_ble_eq_true rfl, Nat.le_of_ble_eq_true rfl⟩ rfl hl.1 rfl (Nat.le_of_ble_eq_true rfl) dX0_of_2 ⟨Nat.le_of_ble_eq_true rfl, Nat.le_of_ble_eq_true rfl⟩ (fun H locs hz z_9 hd => ?_)
  refine lv_if_ne (tgt := 10) hx hb dX0_of_5 (by decide) (fun c_10 => ?_) (fun c_10 => ?_)
  · have hf := bf_ie hf c_10
    refine lv_aload_n hx hb dX0_of_10 rfl (lv_at hl 0 rfl) ?_
    refine bf_yG (v := .ref (bf_ca b 0)) X hd 4 (by decide) (Or.inl q430) rfl dX0_of_11 ?_
    refine bf_rC (v := .ref (bf_ca b 0 + 1)) X hd (bf_pB_hC G ν b T (i := 0) (by decide)) 0 (by decide) (Or.inr ⟨_, q300⟩) rfl dX0_of_14 ?_
    refine lv_iload_n hx hb dX0_of_17 rfl (lv_at hl 1 rfl) ?_
    obtain ⟨g_11, hf⟩ := bf_c_some hf
    refine bf_aald (v := .ref (bf_ca b 0 + 161 + x1.toNatClampNeg)) X hd (bf_c1 (bf_pB_hC G ν b T (i := 0) (by decide))) 2 rfl rfl g_11 rfl dX0_of_18 ?_
    refine lv_astore_n (lv' := [(3, .ref (bf_ca b 0 + 161 + x1.toNatClampNeg)), (0, .ref b), (1, .int x1), (2, .int x2)]) hx hb dX0_of_19 rfl hl (by decide) rfl (fun ls hl => ?_)
    refine lv_iload_n hx hb dX0_of_20 rfl (lv_at hl 3 rfl) ?_
    refine lv_if_ne (tgt := 31) hx hb dX0_of_21 (by decide) (fun c_12 => ?_) (fun c_12 => ?_)
    · have hf := bf_ie hf c_12
      refine lv_iload_n hx hb dX0_of_31 rfl (lv_at hl 3 rfl) ?_
      refine lv_iconst (v := 1) hx hb dX0_of_32 (by decide) ?_
      refine lv_icmp_ne (tgt := 43) hx hb dX0_of_33 (by decide) (fun c_13 => ?_) (fun c_13 => ?_)
      · have hf := bf_ie hf c_13
        refine lv_iload_n hx hb dX0_of_43 rfl (lv_at hl 3 rfl) ?_
        refine lv_iconst (v := 2) hx hb dX0_of_44 (by decide) ?_
        refine lv_icmp_ne (tgt := 55) hx hb dX0_of_45 (by decide) (fun c_14 => ?_) (fun c_14 => ?_)
        · have hf := bf_ie hf c_14
          refine lv_iload_n hx hb dX0_of_55 rfl (lv_at hl 3 rfl) ?_
          refine lv_iconst (v := 3) hx hb dX0_of_56 (by decide) ?_
          refine lv_icmp_ne (tgt := 68) hx hb dX0_of_57 (by decide) (fun c_15 => ?_) (fun c_15 => ?_)
          · have hf := bf_ie hf c_15
            refine lv_iconst (v := (-1)) hx hb dX0_of_68 (by decide) ?_
            exact kret _ _ _ _ _ _ ⟨bf_so hf, rfl, hz⟩ hd dX0_of_69
          · have hf := bf_it hf c_15
            refine lv_aload_n hx hb dX0_of_60 rfl (lv_at hl 1 rfl) ?_
            refine lv_iload_n hx hb dX0_of_61 rfl (lv_at hl 2 rfl) ?_
            obtain ⟨r_16, er_16, hf⟩ := bf_b_some hf
            refine bf_bci (n := 1) (As := [.int x1]) (rest := []) X hd (mX0_hangingOf l G ν b T hz x1 er_16) (lw_V q1235 q1237 qs46 q148 q1238) (by decide +kernel) ⟨Nat.le_of_ble_eq_true rfl, Nat.le_of_ble_eq_true rfl⟩ rfl hl.1 rfl (Nat.le_of_ble_eq_true rfl) dX0_of_62 ⟨Nat.le_of_ble_eq_true rfl, Nat.le_of_ble_eq_true rfl⟩ (fun H locs hz hd => ?_)
            refine lv_goto (tgt := 69) hx hb dX0_of_65 (by decide) ?_
            exact kret _ _ _ _ _ _ ⟨bf_so hf, rfl, hz⟩ hd dX0_of_69
        · have hf := bf_it hf c_14
          refine lv_aload_n hx hb dX0_of_48 rfl (lv_at hl 0 rfl) ?_
          refine bf_rP X hd (bf_pB_hC G ν b T (i := 0) (by decide)) (bf_in_lt g_11) 2 (by decide) (Or.inr ⟨_, q248⟩) dX0_of_49 ?_
          refine lv_goto (tgt := 69) hx hb dX0_of_52 (by decide) ?_
          exact kret _ _ _ _ _ _ ⟨bf_so hf, rfl, hz⟩ hd dX0_of_69
      · have hf := bf_it hf c_13
        refine lv_aload_n hx hb dX0_of_36 rfl (lv_at hl 0 rfl) ?_
        refine bf_rP X hd (bf_pB_hC G ν b T (i := 0) (by decide)) (bf_in_lt g_11) 1 (by decide) (Or.inr ⟨_, q244⟩) dX0_of_37 ?_
        refine lv_goto (tgt := 69) hx hb dX0_of_40 (by decide) ?_
        exact kret _ _ _ _ _ _ ⟨bf_so hf, rfl, hz⟩ hd dX0_of_69
    · have hf := bf_it hf c_12
      refine lv_aload_n hx hb dX0_of_24 rfl (lv_at hl 0 rfl) ?_
      refine bf_rP X hd (bf_pB_hC G ν b T (i := 0) (by decide)) (bf_in_lt g_11) 0 (by decide) (Or.inr ⟨_, q241⟩) dX0_of_25 ?_
      refine lv_goto (tgt := 69) hx hb dX0_of_28 (by decide) ?_
      exact kret _ _ _ _ _ _ ⟨bf_so hf, rfl, hz⟩ hd dX0_of_69
  · have hf := bf_it hf c_10
    refine lv_iconst (v := (-1)) hx hb dX0_of_8 (by decide) ?_
    exact kret _ _ _ _ _ _ ⟨bf_so hf, rfl, hz⟩ hd dX0_of_9
def fX0_tree (T : bf_WS) (x1 x2 : Int32) : Option (Int32 × bf_WS) := if (fX0_isIn x1 0 (((bf_S T 0).1 0 11 0) - 1)) = 0 then (some ((-1), T)) else (bf_c (bf_in x1 14) <| if x2 = 0 then (some (((bf_S T 0).1 2 x1.toNatClampNeg 0), T)) else (if x2 = 1 then (some (((bf_S T 0).1 2 x1.toNatClampNeg 1), T)) else (if x2 = 2 then (some (((bf_S T 0).1 2 x1.toNatClampNeg 2), T)) else (if x2 = 3 then (some (((bf_S T 0).1 2 x1.toNatClampNeg 3), T)) else (if x2 = 4 then (bf_b2 (fX1_bear (bf_Ds T 0) (bf_S T 0) x1.toNatClampNeg) fun r_10 S_9 => bf_l (bf_uS T 0 S_9) fun T_11 => some (r_10, T_11)) else (some ((-1), T)))))))
set_option maxHeartbeats 4000000 in
theorem mX0_tree (l : Launch) (G : bf_G) (ν : bf_V) (b : Nat) (T : bf_WS) (hz : bf_wok G ν b T) (x1 x2 : Int32) {r : Int32} {T' : bf_WS} (hf : fX0_tree T x1 x2 = some (r, T')) : bf_MI l G yX0_tree cX0_tree 4 (bf_rm 432) [.ref b, .int x1, .int x2] (bf_pB G ν b T) (fun v σ' => v = r ∧ σ' = bf_pB G ν b T' ∧ bf_wok G ν b T') := by
  refine bf_MI.of rfl (Nat.le_of_ble_eq_true rfl) ?_
  intro p e s m below meth c' Q X hlk hnm kret hd ls hl
  have hx := X.1
  have hb := X.2.1
  have hml := X.2.2.1
  have hown := X.2.2.2.1
  have hts := X.2.2.2.2
  have hl : lv_has ls 4 [(0, .ref b), (1, .int x1), (2, .int x2)] := hl
  unfold fX0_tree at hf
  refine lv_iload_n hx hb dX0_tree_0 rfl (lv_at hl 1 rfl) ?_
  refine lv_iconst (v := 0) hx hb dX0_tree_1 (by decide) ?_
  refine lv_aload_n hx hb dX0_tree_2 rfl (lv_at hl 0 rfl) ?_
  refine bf_yG (v := .ref (bf_ca b 0)) X hd 4 (by decide) (Or.inl q430) rfl dX0_tree_3 ?_
  refine bf_rC X hd (bf_pB_hC G ν b T (i := 0) (by decide)) 11 (by decide) (Or.inr ⟨_, q325⟩) rfl dX0_tree_6 ?_
  refine lv_iconst (v := 1) hx hb dX0_tree_9 (by decide) ?_
  refine lv_isub hx hb dX0_tree_10 ?_
  refine bf_cSz (n := 3) (As := [.int x1, .int 0, .int (((bf_S T 0).1 0 11 0) - 1)]) (rest := []) X hd (mX0_isIn l G _ x1 0 (((bf_S T 0).1 0 11 0) - 1) rfl) (lw_S q473 q474 q148 q475) (by decide +kernel) ⟨Nat.le_of_ble_eq_true rfl, Nat.le_of_ble_eq_true rfl⟩ rfl hl.1 rfl (Nat.le_of_ble_eq_true rfl) dX0_tree_11 ⟨Nat.le_of_ble_eq_true rfl, Nat.le_of_ble_eq_true rfl⟩ (fun r σ' H locs hF z_12 hd => ?_)
  rw [hF.2] at hd
  refine bf_top hF.1.symm ?_
  rw [hF.1] at z_12
  refine lv_if_ne (tgt := 19) hx hb dX0_tree_14 (by decide) (fun c_13 => ?_) (fun c_13 => ?_)
  · have hf := bf_ie hf c_13
    refine lv_aload_n hx hb dX0_tree_19 rfl (lv_at hl 0 rfl) ?_
    refine bf_yG (v := .ref (bf_ca b 0)) X hd 4 (by decide) (Or.inl q430) rfl dX0_tree_20 ?_
    refine bf_rC (v := .ref (bf_ca b 0 + 2)) X hd (bf_pB_hC G ν b T (i := 0) (by decide)) 1 (by decide) (Or.inr ⟨_, q302⟩) rfl dX0_tree_23 ?_
    refine lv_iload_n hx hb dX0_tree_26 rfl (lv_at hl 1 rfl) ?_
    obtain ⟨g_14, hf⟩ := bf_c_some hf
    refine bf_aald (v := .ref (bf_ca b 0 + 166 + x1.toNatClampNeg)) X hd (bf_c2 (bf_pB_hC G ν b T (i := 0) (by decide))) 3 rfl rfl g_14 rfl dX0_tree_27 ?_
    refine lv_astore_n (lv' := [(3, .ref (bf_ca b 0 + 166 + x1.toNatClampNeg)), (0, .ref b), (1, .int x1), (2, .int x2)]) hx hb dX0_tree_28 rfl hl (by decide) rfl (fun ls hl => ?_)
    refine lv_iload_n hx hb dX0_tree_29 rfl (lv_at hl 3 rfl) ?_
    by_cases c_15 : x2 = 0
    · have hf := bf_it hf c_15
      refine bf_top c_15.symm ?_
      refine lv_tableIn (tgt := 64) hx hb dX0_tree_30 (by decide) (by decide) rfl (by decide) ?_
      refine lv_aload_n hx hb dX0_tree_64 rfl (lv_at hl 0 rfl) ?_
      refine bf_rT X hd (bf_pB_hC G ν b T (i := 0) (by decide)) (bf_in_lt g_14) 0 (by decide) (Or.inr ⟨_, q263⟩) dX0_tree_65 ?_
      exact kret _ _ _ _ _ _ ⟨(bf_pr hf).1, congrArg (bf_pB G ν b) (bf_pr hf).2, (bf_pr hf).2 ▸ hz⟩ hd dX0_tree_68
    · have hf := bf_ie hf c_15
      by_cases c_16 : x2 = 1
      · have hf := bf_it hf c_16
        refine bf_top c_16.symm ?_
        refine lv_tableIn (tgt := 69) hx hb dX0_tree_30 (by decide) (by decide) rfl (by decide) ?_
        refine lv_aload_n hx hb dX0_tree_69 rfl (lv_at hl 0 rfl) ?_
        refine bf_rT X hd (bf_pB_hC G ν b T (i := 0) (by decide)) (bf_in_lt g_14) 1 (by decide) (Or.inr ⟨_, q266⟩) dX0_tree_70 ?_
        exact kret _ _ _ _ _ _ ⟨(bf_pr hf).1, congrArg (bf_pB G ν b) (bf_pr hf).2, (bf_pr hf).2 ▸ hz⟩ hd dX0_tree_73
      · have hf := bf_ie hf c_16
        by_cases c_17 : x2 = 2
        · have hf := bf_it hf c_17
          refine bf_top c_17.symm ?_
          refine lv_tableIn (tgt := 74) hx hb dX0_tree_30 (by decide) (by decide) rfl (by decide) ?_
          refine lv_aload_n hx hb dX0_tree_74 rfl (lv_at hl 0 rfl) ?_
          refine bf_rT X hd (bf_pB_hC G ν b T (i := 0) (by decide)) (bf_in_lt g_14) 2 (by decide) (Or.inr ⟨_, q269⟩) dX0_tree_75 ?_
          exact kret _ _ _ _ _ _ ⟨(bf_pr hf).1, congrArg (bf_pB G ν b) (bf_pr hf).2, (bf_pr hf).2 ▸ hz⟩ hd dX0_tree_78
        · have hf := bf_ie hf c_17
          by_cases c_18 : x2 = 3
          · have hf := bf_it hf c_18
            refine bf_top c_18.symm ?_
            refine lv_tableIn (tgt := 79) hx hb dX0_tree_30 (by decide) (by decide) rfl (by decide) ?_
            refine lv_aload_n hx hb dX0_tree_79 rfl (lv_at hl 0 rfl) ?_
            refine bf_rT X hd (bf_pB_hC G ν b T (i := 0) (by decide)) (bf_in_lt g_14) 3 (by decide) (Or.inr ⟨_, q272⟩) dX0_tree_80 ?_
            exact kret _ _ _ _ _ _ ⟨(bf_pr hf).1, congrArg (bf_pB G ν b) (bf_pr hf).2, (bf_pr hf).2 ▸ hz⟩ hd dX0_tree_83
          · have hf := bf_ie hf c_18
            by_cases c_19 : x2 = 4
            · have hf := bf_it hf c_19
              refine bf_top c_19.symm ?_
              refine lv_tableIn (tgt := 84) hx hb dX0_tree_30 (by decide) (by decide) rfl (by decide) ?_
              refine lv_aload_n hx hb dX0_tree_84 rfl (lv_at hl 1 rfl) ?_
              refine bf_yG (v := .ref (bf_ca b 0)) X hd 4 (by decide) (Or.inl q430) rfl dX0_tree_85 ?_
              refine lv_aload_n hx hb dX0_tree_88 rfl (lv_at hl 0 rfl) ?_
              obtain ⟨r_21, S_20, er_21, hf⟩ := bf_b2_some hf
              refine bf_cci (n := 1) (As := [.ref (bf_ca b 0 + 166 + x1.toNatClampNeg)]) (rest := []) X (bf_toC (i := 0) hd (by decide)) (mX1_bear l G (bf_pB G ν b T) (bf_ca b 0) (bf_qs T 0) (bf_Ds T 0) (bf_ZB_Z (by decide) (hz 0 (by decide))) (bf_S T 0) x1.toNatClampNeg (bf_in_lt g_14) er_21) (lw_V q1243 q1132 q1133 q149 q1134) (by decide +kernel) ⟨Nat.le_of_ble_eq_true rfl, Nat.le_of_ble_eq_true rfl⟩ rfl hl.1 rfl (Nat.le_of_ble_eq_true rfl) dX0_tree_89 ⟨Nat.le_of_ble_eq_true rfl, Nat.le_of_ble_eq_true rfl⟩ (fun H locs hd => ?_)
              have hd := bf_fromC (by decide) hd
              obtain ⟨T_22, eT_22, hf⟩ := bf_l_e hf
              have hd := hd.of (congrArg (bf_pB G ν b) eT_22.symm)
              have hz := bf_wok_uS hz eT_22
              exact kret _ _ _ _ _ _ ⟨(bf_pr hf).1, congrArg (bf_pB G ν b) (bf_pr hf).2, (bf_pr hf).2 ▸ hz⟩ hd dX0_tree_92
            · have hf := bf_ie hf c_19
              refine lv_tableOut (tgt := 93) hx hb dX0_tree_30 (by have := lv_neT c_15 (a := 0) rfl; have := lv_neT c_16 (a := 1) rfl; have := lv_neT c_17 (a := 2) rfl; have := lv_neT c_18 (a := 3) rfl; have := lv_neT c_19 (a := 4) rfl; omega) (by decide) ?_
              refine lv_iconst (v := (-1)) hx hb dX0_tree_93 (by decide) ?_
              exact kret _ _ _ _ _ _ ⟨(bf_pr hf).1, congrArg (bf_pB G ν b) (bf_pr hf).2, (bf_pr hf).2 ▸ hz⟩ hd dX0_tree_94
  · have hf := bf_it hf c_13
    refine lv_iconst (v := (-1)) hx hb dX0_tree_17 (by decide) ?_
    exact kret _ _ _ _ _ _ ⟨(bf_pr hf).1, congrArg (bf_pB G ν b) (bf_pr hf).2, (bf_pr hf).2 ▸ hz⟩ hd dX0_tree_18
def fX0_placesOf (T : bf_WS) (x1 : Int32) : Option (Int32) := bf_c (bf_in x1 10) <| bf_q ((bf_Ds T 0).1 x1.toNatClampNeg) (some 0) (fun pd_3 => bf_c (bf_in x1 10) <| bf_qn ((bf_Ds T 0).1 x1.toNatClampNeg) fun pd_6 => some (Int32.ofNat pd_6.1))
set_option maxHeartbeats 4000000 in
theorem mX0_placesOf (l : Launch) (G : bf_G) (ν : bf_V) (b : Nat) (T : bf_WS) (hz : bf_wok G ν b T) (x1 : Int32) {r : Int32} (hf : fX0_placesOf T x1 = some r) : bf_MI l G yX0_placesOf cX0_placesOf 2 (bf_rm 0) [.ref b, .int x1] (bf_pB G ν b T) (fun v σ' => v = r ∧ σ' = bf_pB G ν b T ∧ bf_wok G ν b T) := by
  refine bf_MI.of rfl (Nat.le_of_ble_eq_true rfl) ?_
  intro p e s m below meth c' Q X hlk hnm kret hd ls hl
  have hx := X.1
  have hb := X.2.1
  have hml := X.2.2.1
  have hown := X.2.2.2.1
  have hts := X.2.2.2.2
  have hl : lv_has ls 2 [(0, .ref b), (1, .int x1)] := hl
  unfold fX0_placesOf at hf
  refine lv_aload_n hx hb dX0_placesOf_0 rfl (lv_at hl 0 rfl) ?_
  refine bf_yG (v := .ref (bf_ca b 0)) X hd 4 (by decide) (Or.inl q430) rfl dX0_placesOf_1 ?_
  refine bf_rC (v := .ref (bf_qs T 0 0)) X hd (bf_pB_hC G ν b T (i := 0) (by decide)) 7 (by decide) (Or.inr ⟨_, q315⟩) rfl dX0_placesOf_4 ?_
  refine lv_iload_n hx hb dX0_placesOf_7 rfl (lv_at hl 1 rfl) ?_
  obtain ⟨g_7, hf⟩ := bf_c_some hf
  obtain ⟨peh_8, hpe0h_8, hpeh_8⟩ := (hz 0 (by decide)).1
  refine bf_aald (v := va_rf (peh_8 x1.toNatClampNeg)) X hd (bf_fzB_at hpe0h_8) 6 rfl rfl g_7 rfl dX0_placesOf_8 ?_
  rcases bf_opt ((bf_Ds T 0).1 x1.toNatClampNeg) with epd_9 | ⟨pd_9, epd_9⟩
  · have hf := bf_q_n hf epd_9
    refine bf_ift (q := peh_8 x1.toNatClampNeg) (q' := none) ((hpeh_8 x1.toNatClampNeg).1 epd_9) ?_
    refine lv_ifnonnullN hx hb dX0_placesOf_9 ?_
    refine lv_iconst (v := 0) hx hb dX0_placesOf_12 (by decide) ?_
    refine lv_goto (tgt := 29) hx hb dX0_placesOf_13 (by decide) ?_
    exact kret _ _ _ _ _ _ ⟨bf_so hf, rfl, hz⟩ hd dX0_placesOf_29
  · have hf := bf_q_s hf epd_9
    obtain ⟨papd_9, prpd_9, Vpd_9, hp1pd_9, hp2pd_9, hp4pd_9, hp3pd_9⟩ := (hpeh_8 x1.toNatClampNeg).2 _ epd_9
    refine bf_ift (q := peh_8 x1.toNatClampNeg) (q' := some papd_9) hp1pd_9 ?_
    refine lv_ifnonnull (tgt := 16) hx hb dX0_placesOf_9 (by decide) ?_
    refine lv_aload_n hx hb dX0_placesOf_16 rfl (lv_at hl 0 rfl) ?_
    refine bf_yG (v := .ref (bf_ca b 0)) X hd 4 (by decide) (Or.inl q430) rfl dX0_placesOf_17 ?_
    refine bf_rC (v := .ref (bf_qs T 0 0)) X hd (bf_pB_hC G ν b T (i := 0) (by decide)) 7 (by decide) (Or.inr ⟨_, q315⟩) rfl dX0_placesOf_20 ?_
    refine lv_iload_n hx hb dX0_placesOf_23 rfl (lv_at hl 1 rfl) ?_
    obtain ⟨g_10, hf⟩ := bf_c_some hf
    obtain ⟨peh_11, hpe0h_11, hpeh_11⟩ := (hz 0 (by decide)).1
    refine bf_aald (v := va_rf (peh_11 x1.toNatClampNeg)) X hd (bf_fzB_at hpe0h_11) 6 rfl rfl g_10 rfl dX0_placesOf_24 ?_
    obtain ⟨pd_12, epd_12, hf⟩ := bf_qn_some hf
    obtain ⟨papd_12, prpd_12, Vpd_12, hp1pd_12, hp2pd_12, hp4pd_12, hp3pd_12⟩ := (hpeh_11 x1.toNatClampNeg).2 _ epd_12
    refine bf_ift (q := peh_11 x1.toNatClampNeg) (q' := some papd_12) hp1pd_12 ?_
    refine bf_getL (v := .ref prpd_12) X hd (bf_fzB_at hp2pd_12) (ci := 13) rfl in_X14 0 (by decide) (Or.inr ⟨_, q898⟩) rfl hp4pd_12 dX0_placesOf_25 ?_
    refine bf_alen X hd (bf_fzB_at hp3pd_12) 0 rfl dX0_placesOf_28 ?_
    exact kret _ _ _ _ _ _ ⟨bf_so hf, rfl, hz⟩ hd dX0_placesOf_29
def fX0_who (T : bf_WS) (x1 x2 : Int32) : Option (Int32 × bf_WS) := if (fX0_isEater T x1) = 0 then (some ((-1), T)) else (bf_c (bf_in x1 10) <| if x2 = 0 then (some (((bf_S T 0).1 3 x1.toNatClampNeg 0), T)) else (if x2 = 1 then (bf_b2 (fX1_want (bf_Ds T 0) (bf_S T 0) x1.toNatClampNeg) fun r_7 S_6 => bf_l (bf_uS T 0 S_6) fun T_8 => some (r_7, T_8)) else (if x2 = 2 then (bf_b (fX0_placesOf T x1) fun r_10 => some (r_10, T)) else (bf_b (fX0_placesOf T x1) fun r_11 => if (fX0_isIn x2 10 (9 + r_11)) = 0 then (if (fX0_isParty T (x2 - 20)) = 0 then (some ((-1), T)) else (bf_c (bf_in (x2 - 20) 5) <| some (((bf_S T 0).1 4 x1.toNatClampNeg (x2 - 20).toNatClampNeg), T))) else (bf_c (bf_in x1 10) <| bf_qn ((bf_Ds T 0).1 x1.toNatClampNeg) fun pd_19 => bf_c (bf_in (x2 - 10) pd_19.1) <| some ((pd_19.2 (x2 - 10).toNatClampNeg), T))))))
set_option maxHeartbeats 4000000 in
theorem mX0_who (l : Launch) (G : bf_G) (ν : bf_V) (b : Nat) (T : bf_WS) (hz : bf_wok G ν b T) (x1 x2 : Int32) {r : Int32} {T' : bf_WS} (hf : fX0_who T x1 x2 = some (r, T')) : bf_MI l G yX0_who cX0_who 4 (bf_rm 432) [.ref b, .int x1, .int x2] (bf_pB G ν b T) (fun v σ' => v = r ∧ σ' = bf_pB G ν b T' ∧ bf_wok G ν b T') := by
  refine bf_MI.of rfl (Nat.le_of_ble_eq_true rfl) ?_
  intro p e s m below meth c' Q X hlk hnm kret hd ls hl
  have hx := X.1
  have hb := X.2.1
  have hml := X.2.2.1
  have hown := X.2.2.2.1
  have hts := X.2.2.2.2
  have hl : lv_has ls 4 [(0, .ref b), (1, .int x1), (2, .int x2)] := hl
  unfold fX0_who at hf
  refine lv_aload_n hx hb dX0_who_0 rfl (lv_at hl 0 rfl) ?_
  refine lv_iload_n hx hb dX0_who_1 rfl (lv_at hl 1 rfl) ?_
  refine bf_bcz (n := 1) (As := [.int x1]) (rest := []) X hd (mX0_isEater l G ν b T hz x1 rfl) (lw_V q1010 q1012 qs29 q148 q1013) (by decide +kernel) ⟨Nat.le_of_ble_eq_true rfl, Nat.le_of_ble_eq_true rfl⟩ rfl hl.1 rfl (Nat.le_of_ble_eq_true rfl) dX0_who_2 ⟨Nat.le_of_ble_eq_true rfl, Nat.le_of_ble_eq_true rfl⟩ (fun H locs hz z_21 hd => ?_)
  refine lv_if_ne (tgt := 10) hx hb dX0_who_5 (by decide) (fun c_22 => ?_) (fun c_22 => ?_)
  · have hf := bf_ie hf c_22
    refine lv_aload_n hx hb dX0_who_10 rfl (lv_at hl 0 rfl) ?_
    refine bf_yG (v := .ref (bf_ca b 0)) X hd 4 (by decide) (Or.inl q430) rfl dX0_who_11 ?_
    refine bf_rC (v := .ref (bf_ca b 0 + 3)) X hd (bf_pB_hC G ν b T (i := 0) (by decide)) 2 (by decide) (Or.inr ⟨_, q305⟩) rfl dX0_who_14 ?_
    refine lv_iload_n hx hb dX0_who_17 rfl (lv_at hl 1 rfl) ?_
    obtain ⟨g_23, hf⟩ := bf_c_some hf
    refine bf_aald (v := .ref (bf_ca b 0 + 180 + 2 * x1.toNatClampNeg)) X hd (bf_c3 (bf_pB_hC G ν b T (i := 0) (by decide))) 4 rfl rfl g_23 rfl dX0_who_18 ?_
    refine lv_astore_n (lv' := [(3, .ref (bf_ca b 0 + 180 + 2 * x1.toNatClampNeg)), (0, .ref b), (1, .int x1), (2, .int x2)]) hx hb dX0_who_19 rfl hl (by decide) rfl (fun ls hl => ?_)
    refine lv_iload_n hx hb dX0_who_20 rfl (lv_at hl 3 rfl) ?_
    by_cases c_24 : x2 = 0
    · have hf := bf_it hf c_24
      refine bf_top c_24.symm ?_
      refine lv_tableIn (tgt := 48) hx hb dX0_who_21 (by decide) (by decide) rfl (by decide) ?_
      refine lv_aload_n hx hb dX0_who_48 rfl (lv_at hl 0 rfl) ?_
      refine bf_rH X hd (bf_pB_hC G ν b T (i := 0) (by decide)) (bf_in_lt g_23) (Or.inr ⟨_, q293⟩) dX0_who_49 ?_
      exact kret _ _ _ _ _ _ ⟨(bf_pr hf).1, congrArg (bf_pB G ν b) (bf_pr hf).2, (bf_pr hf).2 ▸ hz⟩ hd dX0_who_52
    · have hf := bf_ie hf c_24
      by_cases c_25 : x2 = 1
      · have hf := bf_it hf c_25
        refine bf_top c_25.symm ?_
        refine lv_tableIn (tgt := 53) hx hb dX0_who_21 (by decide) (by decide) rfl (by decide) ?_
        refine lv_aload_n hx hb dX0_who_53 rfl (lv_at hl 1 rfl) ?_
        refine bf_yG (v := .ref (bf_ca b 0)) X hd 4 (by decide) (Or.inl q430) rfl dX0_who_54 ?_
        refine lv_aload_n hx hb dX0_who_57 rfl (lv_at hl 0 rfl) ?_
        obtain ⟨r_27, S_26, er_27, hf⟩ := bf_b2_some hf
        refine bf_cci (n := 1) (As := [.ref (bf_ca b 0 + 180 + 2 * x1.toNatClampNeg)]) (rest := []) X (bf_toC (i := 0) hd (by decide)) (mX1_want l G (bf_pB G ν b T) (bf_ca b 0) (bf_qs T 0) (bf_Ds T 0) (bf_ZB_Z (by decide) (hz 0 (by decide))) (bf_S T 0) x1.toNatClampNeg (bf_in_lt g_23) er_27) (lw_V q1248 q1177 q1178 q149 q1179) (by decide +kernel) ⟨Nat.le_of_ble_eq_true rfl, Nat.le_of_ble_eq_true rfl⟩ rfl hl.1 rfl (Nat.le_of_ble_eq_true rfl) dX0_who_58 ⟨Nat.le_of_ble_eq_true rfl, Nat.le_of_ble_eq_true rfl⟩ (fun H locs hd => ?_)
        have hd := bf_fromC (by decide) hd
        obtain ⟨T_28, eT_28, hf⟩ := bf_l_e hf
        have hd := hd.of (congrArg (bf_pB G ν b) eT_28.symm)
        have hz := bf_wok_uS hz eT_28
        exact kret _ _ _ _ _ _ ⟨(bf_pr hf).1, congrArg (bf_pB G ν b) (bf_pr hf).2, (bf_pr hf).2 ▸ hz⟩ hd dX0_who_61
      · have hf := bf_ie hf c_25
        by_cases c_29 : x2 = 2
        · have hf := bf_it hf c_29
          refine bf_top c_29.symm ?_
          refine lv_tableIn (tgt := 62) hx hb dX0_who_21 (by decide) (by decide) rfl (by decide) ?_
          refine lv_aload_n hx hb dX0_who_62 rfl (lv_at hl 1 rfl) ?_
          refine lv_iload_n hx hb dX0_who_63 rfl (lv_at hl 2 rfl) ?_
          obtain ⟨r_30, er_30, hf⟩ := bf_b_some hf
          refine bf_bci (n := 1) (As := [.int x1]) (rest := []) X hd (mX0_placesOf l G ν b T hz x1 er_30) (lw_V q1249 q1251 qs47 q148 q1252) (by decide +kernel) ⟨Nat.le_of_ble_eq_true rfl, Nat.le_of_ble_eq_true rfl⟩ rfl hl.1 rfl (Nat.le_of_ble_eq_true rfl) dX0_who_64 ⟨Nat.le_of_ble_eq_true rfl, Nat.le_of_ble_eq_true rfl⟩ (fun H locs hz hd => ?_)
          exact kret _ _ _ _ _ _ ⟨(bf_pr hf).1, congrArg (bf_pB G ν b) (bf_pr hf).2, (bf_pr hf).2 ▸ hz⟩ hd dX0_who_67
        · have hf := bf_ie hf c_29
          refine lv_tableOut (tgt := 68) hx hb dX0_who_21 (by have := lv_neT c_24 (a := 0) rfl; have := lv_neT c_25 (a := 1) rfl; have := lv_neT c_29 (a := 2) rfl; omega) (by decide) ?_
          refine lv_iload_n hx hb dX0_who_68 rfl (lv_at hl 3 rfl) ?_
          refine lv_bipush (v := 10) hx hb dX0_who_69 (by decide) ?_
          refine lv_bipush (v := 9) hx hb dX0_who_71 (by decide) ?_
          refine lv_aload_n hx hb dX0_who_73 rfl (lv_at hl 1 rfl) ?_
          refine lv_iload_n hx hb dX0_who_74 rfl (lv_at hl 2 rfl) ?_
          obtain ⟨r_31, er_31, hf⟩ := bf_b_some hf
          refine bf_bci (n := 1) (As := [.int x1]) (rest := [.int 9, .int 10, .int x2]) X hd (mX0_placesOf l G ν b T hz x1 er_31) (lw_V q1249 q1251 qs47 q148 q1252) (by decide +kernel) ⟨Nat.le_of_ble_eq_true rfl, Nat.le_of_ble_eq_true rfl⟩ rfl hl.1 rfl (Nat.le_of_ble_eq_true rfl) dX0_who_75 ⟨Nat.le_of_ble_eq_true rfl, Nat.le_of_ble_eq_true rfl⟩ (fun H locs hz hd => ?_)
          refine lv_iadd hx hb dX0_who_78 ?_
          refine bf_cSz (n := 3) (As := [.int x2, .int 10, .int (9 + r_31)]) (rest := []) X hd (mX0_isIn l G _ x2 10 (9 + r_31) rfl) (lw_S q473 q474 q148 q475) (by decide +kernel) ⟨Nat.le_of_ble_eq_true rfl, Nat.le_of_ble_eq_true rfl⟩ rfl hl.1 rfl (Nat.le_of_ble_eq_true rfl) dX0_who_79 ⟨Nat.le_of_ble_eq_true rfl, Nat.le_of_ble_eq_true rfl⟩ (fun r σ' H locs hF z_32 hd => ?_)
          rw [hF.2] at hd
          refine bf_top hF.1.symm ?_
          rw [hF.1] at z_32
          refine lv_if_eq (tgt := 103) hx hb dX0_who_82 (by decide) (fun c_33 => ?_) (fun c_33 => ?_)
          · have hf := bf_it hf c_33
            refine lv_aload_n hx hb dX0_who_103 rfl (lv_at hl 1 rfl) ?_
            refine lv_iload_n hx hb dX0_who_104 rfl (lv_at hl 3 rfl) ?_
            refine lv_bipush (v := 20) hx hb dX0_who_105 (by decide) ?_
            refine lv_isub hx hb dX0_who_107 ?_
            refine bf_bcz (n := 1) (As := [.int (x2 - 20)]) (rest := []) X hd (mX0_isParty l G ν b T hz (x2 - 20) rfl) (lw_V q1014 q1016 qs30 q148 q1017) (by decide +kernel) ⟨Nat.le_of_ble_eq_true rfl, Nat.le_of_ble_eq_true rfl⟩ rfl hl.1 rfl (Nat.le_of_ble_eq_true rfl) dX0_who_108 ⟨Nat.le_of_ble_eq_true rfl, Nat.le_of_ble_eq_true rfl⟩ (fun H locs hz z_34 hd => ?_)
            refine lv_if_eq (tgt := 126) hx hb dX0_who_111 (by decide) (fun c_35 => ?_) (fun c_35 => ?_)
            · have hf := bf_it hf c_35
              refine lv_iconst (v := (-1)) hx hb dX0_who_126 (by decide) ?_
              exact kret _ _ _ _ _ _ ⟨(bf_pr hf).1, congrArg (bf_pB G ν b) (bf_pr hf).2, (bf_pr hf).2 ▸ hz⟩ hd dX0_who_127
            · have hf := bf_ie hf c_35
              refine lv_aload_n hx hb dX0_who_114 rfl (lv_at hl 0 rfl) ?_
              refine bf_rE X hd (bf_pB_hC G ν b T (i := 0) (by decide)) (bf_in_lt g_23) (Or.inr ⟨_, q289⟩) dX0_who_115 ?_
              refine lv_iload_n hx hb dX0_who_118 rfl (lv_at hl 3 rfl) ?_
              refine lv_bipush (v := 20) hx hb dX0_who_119 (by decide) ?_
              refine lv_isub hx hb dX0_who_121 ?_
              obtain ⟨g_36, hf⟩ := bf_c_some hf
              refine bf_iald X hd (bf_cta (bf_pB_hC G ν b T (i := 0) (by decide)) (bf_in_lt g_23)) g_36 dX0_who_122 ?_
              refine lv_goto (tgt := 127) hx hb dX0_who_123 (by decide) ?_
              exact kret _ _ _ _ _ _ ⟨(bf_pr hf).1, congrArg (bf_pB G ν b) (bf_pr hf).2, (bf_pr hf).2 ▸ hz⟩ hd dX0_who_127
          · have hf := bf_ie hf c_33
            refine lv_aload_n hx hb dX0_who_85 rfl (lv_at hl 1 rfl) ?_
            refine bf_yG (v := .ref (bf_ca b 0)) X hd 4 (by decide) (Or.inl q430) rfl dX0_who_86 ?_
            refine bf_rC (v := .ref (bf_qs T 0 0)) X hd (bf_pB_hC G ν b T (i := 0) (by decide)) 7 (by decide) (Or.inr ⟨_, q315⟩) rfl dX0_who_89 ?_
            refine lv_iload_n hx hb dX0_who_92 rfl (lv_at hl 2 rfl) ?_
            obtain ⟨g_37, hf⟩ := bf_c_some hf
            obtain ⟨peh_38, hpe0h_38, hpeh_38⟩ := (hz 0 (by decide)).1
            refine bf_aald (v := va_rf (peh_38 x1.toNatClampNeg)) X hd (bf_fzB_at hpe0h_38) 6 rfl rfl g_37 rfl dX0_who_93 ?_
            obtain ⟨pd_39, epd_39, hf⟩ := bf_qn_some hf
            obtain ⟨papd_39, prpd_39, Vpd_39, hp1pd_39, hp2pd_39, hp4pd_39, hp3pd_39⟩ := (hpeh_38 x1.toNatClampNeg).2 _ epd_39
            refine bf_ift (q := peh_38 x1.toNatClampNeg) (q' := some papd_39) hp1pd_39 ?_
            refine bf_getL (v := .ref prpd_39) X hd (bf_fzB_at hp2pd_39) (ci := 13) rfl in_X14 0 (by decide) (Or.inr ⟨_, q898⟩) rfl hp4pd_39 dX0_who_94 ?_
            refine lv_iload_n hx hb dX0_who_97 rfl (lv_at hl 3 rfl) ?_
            refine lv_bipush (v := 10) hx hb dX0_who_98 (by decide) ?_
            refine lv_isub hx hb dX0_who_100 ?_
            obtain ⟨g_40, hf⟩ := bf_c_some hf
            refine bf_iald X hd (bf_fzB_at hp3pd_39) g_40 dX0_who_101 ?_
            exact kret _ _ _ _ _ _ ⟨(bf_pr hf).1, congrArg (bf_pB G ν b) (bf_pr hf).2, (bf_pr hf).2 ▸ hz⟩ hd dX0_who_102
  · have hf := bf_it hf c_22
    refine lv_iconst (v := (-1)) hx hb dX0_who_8 (by decide) ?_
    exact kret _ _ _ _ _ _ ⟨(bf_pr hf).1, congrArg (bf_pB G ν b) (bf_pr hf).2, (bf_pr hf).2 ▸ hz⟩ hd dX0_who_9
def fX0_at (T : bf_WS) (x1 : Int32) : Int32 := if (fX0_isPlace x1) = 0 then ((-1)) else (if (fX1_isFenced (bf_S T 0) x1) = 0 then (0) else (1))
set_option maxHeartbeats 4000000 in
theorem mX0_at (l : Launch) (G : bf_G) (ν : bf_V) (b : Nat) (T : bf_WS) (hz : bf_wok G ν b T) (x1 : Int32) {r : Int32} (hf : fX0_at T x1 = r) : bf_MI l G yX0_at cX0_at 2 (bf_rm 2) [.ref b, .int x1] (bf_pB G ν b T) (fun v σ' => v = r ∧ σ' = bf_pB G ν b T ∧ bf_wok G ν b T) := by
  refine bf_MI.of rfl (Nat.le_of_ble_eq_true rfl) ?_
  intro p e s m below meth c' Q X hlk hnm kret hd ls hl
  have hx := X.1
  have hb := X.2.1
  have hml := X.2.2.1
  have hown := X.2.2.2.1
  have hts := X.2.2.2.2
  have hl : lv_has ls 2 [(0, .ref b), (1, .int x1)] := hl
  unfold fX0_at at hf
  refine lv_iload_n hx hb dX0_at_0 rfl (lv_at hl 1 rfl) ?_
  refine bf_cSz (n := 1) (As := [.int x1]) (rest := []) X hd (mX0_isPlace l G _ x1 rfl) (lw_S q1030 q1031 q148 q1032) (by decide +kernel) ⟨Nat.le_of_ble_eq_true rfl, Nat.le_of_ble_eq_true rfl⟩ rfl hl.1 rfl (Nat.le_of_ble_eq_true rfl) dX0_at_1 ⟨Nat.le_of_ble_eq_true rfl, Nat.le_of_ble_eq_true rfl⟩ (fun r σ' H locs hF z_5 hd => ?_)
  rw [hF.2] at hd
  refine bf_top hF.1.symm ?_
  rw [hF.1] at z_5
  refine lv_if_eq (tgt := 26) hx hb dX0_at_4 (by decide) (fun c_6 => ?_) (fun c_6 => ?_)
  · have hf := bf_it hf c_6
    refine lv_iconst (v := (-1)) hx hb dX0_at_26 (by decide) ?_
    exact kret _ _ _ _ _ _ ⟨hf, rfl, hz⟩ hd dX0_at_27
  · have hf := bf_ie hf c_6
    refine lv_aload_n hx hb dX0_at_7 rfl (lv_at hl 0 rfl) ?_
    refine bf_yG (v := .ref (bf_ca b 0)) X hd 4 (by decide) (Or.inl q430) rfl dX0_at_8 ?_
    refine lv_iload_n hx hb dX0_at_11 rfl (lv_at hl 1 rfl) ?_
    refine bf_ccz (n := 1) (As := [.int x1]) (rest := []) X (bf_toC (i := 0) hd (by decide)) (mX1_isFenced l G (bf_pB G ν b T) (bf_ca b 0) (bf_qs T 0) (bf_S T 0) x1 rfl) (lw_V q1049 q1050 q1051 q149 q1052) (by decide +kernel) ⟨Nat.le_of_ble_eq_true rfl, Nat.le_of_ble_eq_true rfl⟩ rfl hl.1 rfl (Nat.le_of_ble_eq_true rfl) dX0_at_12 ⟨Nat.le_of_ble_eq_true rfl, Nat.le_of_ble_eq_true rfl⟩ (fun H locs z_7 hd => ?_)
    have hd := bf_fromC0 (by decide) hd
    refine lv_if_eq (tgt := 22) hx hb dX0_at_15 (by decide) (fun c_8 => ?_) (fun c_8 => ?_)
    · have hf := bf_it hf c_8
      refine lv_iconst (v := 0) hx hb dX0_at_22 (by decide) ?_
      refine lv_goto (tgt := 27) hx hb dX0_at_23 (by decide) ?_
      exact kret _ _ _ _ _ _ ⟨hf, rfl, hz⟩ hd dX0_at_27
    · have hf := bf_ie hf c_8
      refine lv_iconst (v := 1) hx hb dX0_at_18 (by decide) ?_
      refine lv_goto (tgt := 27) hx hb dX0_at_19 (by decide) ?_
      exact kret _ _ _ _ _ _ ⟨hf, rfl, hz⟩ hd dX0_at_27
def fX0_book (T : bf_WS) (x1 x2 : Int32) : Option (Int32) := if (fX0_isIn x1 0 (((bf_S T 0).1 0 20 0) - 1)) = 0 then (some (-1)) else (if (fX0_isIn x2 0 3) = 0 then (some (-1)) else (bf_c (bf_in x1 150) <| bf_c (bf_in x2 4) <| some ((bf_S T 0).1 5 x1.toNatClampNeg x2.toNatClampNeg)))
set_option maxHeartbeats 4000000 in
theorem mX0_book (l : Launch) (G : bf_G) (ν : bf_V) (b : Nat) (T : bf_WS) (hz : bf_wok G ν b T) (x1 x2 : Int32) {r : Int32} (hf : fX0_book T x1 x2 = some r) : bf_MI l G yX0_book cX0_book 3 (bf_rm 2) [.ref b, .int x1, .int x2] (bf_pB G ν b T) (fun v σ' => v = r ∧ σ' = bf_pB G ν b T ∧ bf_wok G ν b T) := by
  refine bf_MI.of rfl (Nat.le_of_ble_eq_true rfl) ?_
  intro p e s m below meth c' Q X hlk hnm kret hd ls hl
  have hx := X.1
  have hb := X.2.1
  have hml := X.2.2.1
  have hown := X.2.2.2.1
  have hts := X.2.2.2.2
  have hl : lv_has ls 3 [(0, .ref b), (1, .int x1), (2, .int x2)] := hl
  unfold fX0_book at hf
  refine lv_iload_n hx hb dX0_book_0 rfl (lv_at hl 1 rfl) ?_
  refine lv_iconst (v := 0) hx hb dX0_book_1 (by decide) ?_
  refine lv_aload_n hx hb dX0_book_2 rfl (lv_at hl 0 rfl) ?_
  refine bf_yG (v := .ref (bf_ca b 0)) X hd 4 (by decide) (Or.inl q430) rfl dX0_book_3 ?_
  refine bf_rC X hd (bf_pB_hC G ν b T (i := 0) (by decide)) 20 (by decide) (Or.inr ⟨_, q344⟩) rfl dX0_book_6 ?_
  refine lv_iconst (v := 1) hx hb dX0_book_9 (by decide) ?_
  refine lv_isub hx hb dX0_book_10 ?_
  refine bf_cSz (n := 3) (As := [.int x1, .int 0, .int (((bf_S T 0).1 0 20 0) - 1)]) (rest := []) X hd (mX0_isIn l G _ x1 0 (((bf_S T 0).1 0 20 0) - 1) rfl) (lw_S q473 q474 q148 q475) (by decide +kernel) ⟨Nat.le_of_ble_eq_true rfl, Nat.le_of_ble_eq_true rfl⟩ rfl hl.1 rfl (Nat.le_of_ble_eq_true rfl) dX0_book_11 ⟨Nat.le_of_ble_eq_true rfl, Nat.le_of_ble_eq_true rfl⟩ (fun r σ' H locs hF z_7 hd => ?_)
  rw [hF.2] at hd
  refine bf_top hF.1.symm ?_
  rw [hF.1] at z_7
  refine lv_if_eq (tgt := 40) hx hb dX0_book_14 (by decide) (fun c_8 => ?_) (fun c_8 => ?_)
  · have hf := bf_it hf c_8
    refine lv_iconst (v := (-1)) hx hb dX0_book_40 (by decide) ?_
    exact kret _ _ _ _ _ _ ⟨bf_so hf, rfl, hz⟩ hd dX0_book_41
  · have hf := bf_ie hf c_8
    refine lv_iload_n hx hb dX0_book_17 rfl (lv_at hl 2 rfl) ?_
    refine lv_iconst (v := 0) hx hb dX0_book_18 (by decide) ?_
    refine lv_iconst (v := 3) hx hb dX0_book_19 (by decide) ?_
    refine bf_cSz (n := 3) (As := [.int x2, .int 0, .int 3]) (rest := []) X hd (mX0_isIn l G _ x2 0 3 rfl) (lw_S q473 q474 q148 q475) (by decide +kernel) ⟨Nat.le_of_ble_eq_true rfl, Nat.le_of_ble_eq_true rfl⟩ rfl hl.1 rfl (Nat.le_of_ble_eq_true rfl) dX0_book_20 ⟨Nat.le_of_ble_eq_true rfl, Nat.le_of_ble_eq_true rfl⟩ (fun r σ' H locs hF z_9 hd => ?_)
    rw [hF.2] at hd
    refine bf_top hF.1.symm ?_
    rw [hF.1] at z_9
    refine lv_if_eq (tgt := 40) hx hb dX0_book_23 (by decide) (fun c_10 => ?_) (fun c_10 => ?_)
    · have hf := bf_it hf c_10
      refine lv_iconst (v := (-1)) hx hb dX0_book_40 (by decide) ?_
      exact kret _ _ _ _ _ _ ⟨bf_so hf, rfl, hz⟩ hd dX0_book_41
    · have hf := bf_ie hf c_10
      refine lv_aload_n hx hb dX0_book_26 rfl (lv_at hl 0 rfl) ?_
      refine bf_yG (v := .ref (bf_ca b 0)) X hd 4 (by decide) (Or.inl q430) rfl dX0_book_27 ?_
      refine bf_rC (v := .ref (bf_ca b 0 + 4)) X hd (bf_pB_hC G ν b T (i := 0) (by decide)) 3 (by decide) (Or.inr ⟨_, q307⟩) rfl dX0_book_30 ?_
      refine lv_iload_n hx hb dX0_book_33 rfl (lv_at hl 1 rfl) ?_
      obtain ⟨g_11, hf⟩ := bf_c_some hf
      refine bf_aald (v := .ref (bf_ca b 0 + 5 + x1.toNatClampNeg)) X hd (bf_c4 (bf_pB_hC G ν b T (i := 0) (by decide))) 5 rfl rfl g_11 rfl dX0_book_34 ?_
      refine lv_iload_n hx hb dX0_book_35 rfl (lv_at hl 2 rfl) ?_
      obtain ⟨g_12, hf⟩ := bf_c_some hf
      refine bf_iald X hd (bf_cbk (bf_pB_hC G ν b T (i := 0) (by decide)) (bf_in_lt g_11)) g_12 dX0_book_36 ?_
      refine lv_goto (tgt := 41) hx hb dX0_book_37 (by decide) ?_
      exact kret _ _ _ _ _ _ ⟨bf_so hf, rfl, hz⟩ hd dX0_book_41
def fX0_thinks_2b (x1 : Int32) (k2 : Int32 → bf_WS → Option (bf_WS)) (v2_2 : Int32) (T2 : bf_WS) : Option (bf_WS) := if x1 ≤ v2_2 then (some T2) else (bf_b2 (fX1_passes (bf_Ds T2 2) (bf_S T2 2)) fun r_3 S_2 => bf_l (bf_uS T2 2 S_2) fun T_4 => bf_l (v2_2 + 1) fun x2_5 => k2 x2_5 T_4)
def fX0_thinks_2 (x1 : Int32) : Nat → Int32 → bf_WS → Option (bf_WS)
  | 0, _, _ => none
  | n + 1, v2_2, T2 => fX0_thinks_2b x1 (fX0_thinks_2 x1 n) v2_2 T2
def fX0_thinks (T : bf_WS) (x1 : Int32) : Option (bf_WS) := fX0_thinks_2 x1 bf_fuel 0 T
set_option maxHeartbeats 4000000 in
theorem mX0_thinks (l : Launch) (G : bf_G) (ν : bf_V) (b : Nat) (T : bf_WS) (hz : bf_wok G ν b T) (x1 : Int32) {T' : bf_WS} (hf : fX0_thinks T x1 = some T') : bf_MV l G yX0_thinks cX0_thinks 3 (bf_rm 437) [.ref b, .int x1] (bf_pB G ν b T) (fun σ' => σ' = bf_pB G ν b T' ∧ bf_wok G ν b T') := by
  refine bf_MV.of rfl (Nat.le_of_ble_eq_true rfl) ?_
  intro p e s m below meth c' Q X hlk hnm kret hd ls hl
  have hx := X.1
  have hb := X.2.1
  have hml := X.2.2.1
  have hown := X.2.2.2.1
  have hts := X.2.2.2.2
  have hl : lv_has ls 3 [(0, .ref b), (1, .int x1)] := hl
  have L2 : ∀ (n2 : Nat) (v2_2 : Int32) (T2 : bf_WS) (H : Heap) (locs : List Loc) (ls : Array Slot), fX0_thinks_2 x1 n2 v2_2 T2 = some T' → bf_wok G ν b T2 → bf_Dy G s H locs (bf_pB G ν b T2) → lv_has ls 3 [(0, .ref b), (1, .int x1), (2, .int v2_2)] → W p l e (bf_rm 437) s m ([.ref b, .int x1] : List Value).toArray below meth c' H locs 0 0 Q (F0 m 2 ls []) := by
    intro n2
    induction n2 with
    | zero =>
      intro v2_2 T2 H locs ls hf hz hd hl
      exact absurd (show (none : Option (bf_WS)) = some T' from hf) (by intro h; cases h)
    | succ n2 ih2 =>
      intro v2_2 T2 H locs ls hf hz hd hl
      have hf : fX0_thinks_2b x1 (fX0_thinks_2 x1 n2) v2_2 T2 = some T' := hf
      unfold fX0_thinks_2b at hf
      refine lv_iload_n hx hb dX0_thinks_2 rfl (lv_at hl 2 rfl) ?_
      refine lv_iload_n hx hb dX0_thinks_3 rfl (lv_at hl 1 rfl) ?_
      refine lv_icmp_ge (tgt := 21) hx hb dX0_thinks_4 (by decide) (fun c_6 => ?_) (fun c_6 => ?_)
      · have hf := bf_it hf c_6
        exact kret _ _ _ _ _ ⟨congrArg (bf_pB G ν b) (bf_so hf), bf_so hf ▸ hz⟩ hd dX0_thinks_21
      · have hf := bf_ie hf c_6
        refine lv_aload_n hx hb dX0_thinks_7 rfl (lv_at hl 0 rfl) ?_
        refine bf_yG (v := .ref (bf_ca b 2)) X hd 6 (by decide) (Or.inl q433) rfl dX0_thinks_8 ?_
        obtain ⟨r_8, S_7, er_8, hf⟩ := bf_b2_some hf
        refine bf_cci (n := 0) (As := []) (rest := []) X (bf_toC (i := 2) hd (by decide)) (mX1_passes l G (bf_pB G ν b T2) (bf_ca b 2) (bf_qs T2 2) (bf_Ds T2 2) (bf_ZB_Z (by decide) (hz 2 (by decide))) (bf_S T2 2) er_8) (lw_V q1070 q1071 q1072 q149 q1073) (by decide +kernel) ⟨Nat.le_of_ble_eq_true rfl, Nat.le_of_ble_eq_true rfl⟩ rfl hl.1 rfl (Nat.le_of_ble_eq_true rfl) dX0_thinks_11 ⟨Nat.le_of_ble_eq_true rfl, Nat.le_of_ble_eq_true rfl⟩ (fun H locs hd => ?_)
        have hd := bf_fromC (by decide) hd
        obtain ⟨T_9, eT_9, hf⟩ := bf_l_e hf
        have hd := hd.of (congrArg (bf_pB G ν b) eT_9.symm)
        have hz := bf_wok_uS hz eT_9
        refine lv_pop hx hb dX0_thinks_14 rfl ?_
        obtain ⟨x2_10, ex2_10, hf⟩ := bf_l_e hf
        refine lv_iinc (v := x2_10) (lv' := [(2, .int x2_10), (0, .ref b), (1, .int x1)]) hx hb dX0_thinks_15 hl (k := 2) rfl (by rw [ex2_10]; rfl) (by decide) rfl (fun ls hl => ?_)
        refine lv_goto (tgt := 2) hx hb dX0_thinks_18 (by decide) ?_
        exact ih2 x2_10 T_9 _ _ _ hf hz hd (lv_sub hl [1, 2, 0] rfl)
  unfold fX0_thinks at hf
  refine lv_iconst (v := 0) hx hb dX0_thinks_0 (by decide) ?_
  refine lv_istore_n (lv' := [(2, .int 0), (0, .ref b), (1, .int x1)]) hx hb dX0_thinks_1 rfl hl (by decide) rfl (fun ls hl => ?_)
  exact L2 bf_fuel 0 T _ _ _ hf hz hd (lv_sub hl [1, 2, 0] rfl)
def fX0_goes_35 (x1 : Int32) (x2 : Int32) (x3 : Int32) (T35 : bf_WS) : Option (Int32 × bf_WS) := bf_b (fX1_thinks (bf_S T35 0) (bf_S T35 2)) fun S_1 => bf_l (bf_uT T35 2 0 S_1) fun T_2 => bf_b (fX0_thinks T_2 x1) fun T_3 => if x3 = 0 then (bf_c (bf_in x2 5) <| some (((bf_S T_3 2).1 1 x2.toNatClampNeg 2), T_3)) else (if x3 = 1 then (bf_c (bf_in x2 5) <| some (((bf_S T_3 2).1 1 x2.toNatClampNeg 1), T_3)) else (if x3 = 2 then (some (((bf_S T_3 2).1 0 23 0), T_3)) else (some (((bf_S T_3 2).1 0 24 0), T_3))))
def fX0_goes (T : bf_WS) (x1 x2 x3 : Int32) : Option (Int32 × bf_WS) := if (fX0_isIn x1 1 60) = 0 then (some ((-2), T)) else (if (fX0_isIn x3 0 3) = 0 then (some ((-2), T)) else (if 2 ≤ x3 then (fX0_goes_35 x1 x2 x3 T) else (if (fX0_isParty T x2) = 0 then (some ((-2), T)) else (fX0_goes_35 x1 x2 x3 T))))
set_option maxHeartbeats 4000000 in
theorem mX0_goes (l : Launch) (G : bf_G) (ν : bf_V) (b : Nat) (T : bf_WS) (hz : bf_wok G ν b T) (x1 x2 x3 : Int32) {r : Int32} {T' : bf_WS} (hf : fX0_goes T x1 x2 x3 = some (r, T')) : bf_MI l G yX0_goes cX0_goes 4 (bf_rm 438) [.ref b, .int x1, .int x2, .int x3] (bf_pB G ν b T) (fun v σ' => v = r ∧ σ' = bf_pB G ν b T' ∧ bf_wok G ν b T') := by
  refine bf_MI.of rfl (Nat.le_of_ble_eq_true rfl) ?_
  intro p e s m below meth c' Q X hlk hnm kret hd ls hl
  have hx := X.1
  have hb := X.2.1
  have hml := X.2.2.1
  have hown := X.2.2.2.1
  have hts := X.2.2.2.2
  have hl : lv_has ls 4 [(0, .ref b), (1, .int x1), (2, .int x2), (3, .int x3)] := hl
  have J35 : ∀ (T35 : bf_WS) (H : Heap) (locs : List Loc) (ls : Array Slot), fX0_goes_35 x1 x2 x3 T35 = some (r, T') → bf_wok G ν b T35 → bf_Dy G s H locs (bf_pB G ν b T35) → lv_has ls 4 [(0, .ref b), (1, .int x1), (2, .int x2), (3, .int x3)] → W p l e (bf_rm 438) s m ([.ref b, .int x1, .int x2, .int x3] : List Value).toArray below meth c' H locs 0 0 Q (F0 m 35 ls []) := by
    intro T35 H locs ls hf hz hd hl
    unfold fX0_goes_35 at hf
    refine lv_aload_n hx hb dX0_goes_35 rfl (lv_at hl 0 rfl) ?_
    refine bf_yG (v := .ref (bf_ca b 2)) X hd 6 (by decide) (Or.inl q433) rfl dX0_goes_36 ?_
    refine lv_aload_n hx hb dX0_goes_39 rfl (lv_at hl 0 rfl) ?_
    refine bf_yG (v := .ref (bf_ca b 0)) X hd 4 (by decide) (Or.inl q430) rfl dX0_goes_40 ?_
    obtain ⟨S_16, eS_16, hf⟩ := bf_b_some hf
    refine bf_cVv (n := 1) (As := [.ref (bf_ca b 0)]) (rest := []) X (bf_toC (i := 2) hd (by decide)) (mX1_thinks l G (bf_pB G ν b T35) (bf_ca b 2) (bf_qs T35 2) (bf_S T35 2) (bf_ca b 0) (bf_qs T35 0) (bf_S T35 0) (bf_pB_hC G ν b T35 (by decide)) (bf_ca_dis (by decide) (by decide) (by decide)) eS_16) (lw_V q1265 q1266 q1267 q149 q1268) (by decide +kernel) ⟨Nat.le_of_ble_eq_true rfl, Nat.le_of_ble_eq_true rfl⟩ (bf_recv hd (bf_c0 (bf_pB_hC G ν b T35 (i := 2) (by decide))) (q := (RX1, TX1, 31)) rfl) rfl hl.1 rfl (Nat.le_of_ble_eq_true rfl) dX0_goes_43 ⟨Nat.le_of_ble_eq_true rfl, Nat.le_of_ble_eq_true rfl⟩ (fun σ' H locs hF hd => ?_)
    rw [hF] at hd
    have hd := bf_fromT (j := 0) (by decide) hd
    obtain ⟨T_17, eT_17, hf⟩ := bf_l_e hf
    have hd := hd.of (congrArg (bf_pB G ν b) eT_17.symm)
    have hz := bf_wok_uT (by decide) hz eT_17
    refine lv_aload_n hx hb dX0_goes_46 rfl (lv_at hl 0 rfl) ?_
    refine lv_iload_n hx hb dX0_goes_47 rfl (lv_at hl 1 rfl) ?_
    obtain ⟨T_18, eT_18, hf⟩ := bf_b_some hf
    refine bf_bcv (n := 1) (As := [.int x1]) (rest := []) X hd (mX0_thinks l G ν b T_17 hz x1 eT_18) (lw_V q1270 q1272 qs48 q148 q1273) (by decide +kernel) ⟨Nat.le_of_ble_eq_true rfl, Nat.le_of_ble_eq_true rfl⟩ rfl hl.1 rfl (Nat.le_of_ble_eq_true rfl) dX0_goes_48 ⟨Nat.le_of_ble_eq_true rfl, Nat.le_of_ble_eq_true rfl⟩ (fun H locs hz hd => ?_)
    refine lv_iload_n hx hb dX0_goes_51 rfl (lv_at hl 3 rfl) ?_
    refine lv_if_ne (tgt := 70) hx hb dX0_goes_52 (by decide) (fun c_19 => ?_) (fun c_19 => ?_)
    · have hf := bf_ie hf c_19
      refine lv_iload_n hx hb dX0_goes_70 rfl (lv_at hl 3 rfl) ?_
      refine lv_iconst (v := 1) hx hb dX0_goes_71 (by decide) ?_
      refine lv_icmp_ne (tgt := 90) hx hb dX0_goes_72 (by decide) (fun c_20 => ?_) (fun c_20 => ?_)
      · have hf := bf_ie hf c_20
        refine lv_iload_n hx hb dX0_goes_90 rfl (lv_at hl 3 rfl) ?_
        refine lv_iconst (v := 2) hx hb dX0_goes_91 (by decide) ?_
        refine lv_icmp_ne (tgt := 105) hx hb dX0_goes_92 (by decide) (fun c_21 => ?_) (fun c_21 => ?_)
        · have hf := bf_ie hf c_21
          refine lv_aload_n hx hb dX0_goes_105 rfl (lv_at hl 0 rfl) ?_
          refine bf_yG (v := .ref (bf_ca b 2)) X hd 6 (by decide) (Or.inl q433) rfl dX0_goes_106 ?_
          refine bf_rC X hd (bf_pB_hC G ν b T_18 (i := 2) (by decide)) 24 (by decide) (Or.inr ⟨_, q352⟩) rfl dX0_goes_109 ?_
          exact kret _ _ _ _ _ _ ⟨(bf_pr hf).1, congrArg (bf_pB G ν b) (bf_pr hf).2, (bf_pr hf).2 ▸ hz⟩ hd dX0_goes_112
        · have hf := bf_it hf c_21
          refine lv_aload_n hx hb dX0_goes_95 rfl (lv_at hl 0 rfl) ?_
          refine bf_yG (v := .ref (bf_ca b 2)) X hd 6 (by decide) (Or.inl q433) rfl dX0_goes_96 ?_
          refine bf_rC X hd (bf_pB_hC G ν b T_18 (i := 2) (by decide)) 23 (by decide) (Or.inr ⟨_, q350⟩) rfl dX0_goes_99 ?_
          refine lv_goto (tgt := 112) hx hb dX0_goes_102 (by decide) ?_
          exact kret _ _ _ _ _ _ ⟨(bf_pr hf).1, congrArg (bf_pB G ν b) (bf_pr hf).2, (bf_pr hf).2 ▸ hz⟩ hd dX0_goes_112
      · have hf := bf_it hf c_20
        refine lv_aload_n hx hb dX0_goes_75 rfl (lv_at hl 0 rfl) ?_
        refine bf_yG (v := .ref (bf_ca b 2)) X hd 6 (by decide) (Or.inl q433) rfl dX0_goes_76 ?_
        refine bf_rC (v := .ref (bf_ca b 2 + 1)) X hd (bf_pB_hC G ν b T_18 (i := 2) (by decide)) 0 (by decide) (Or.inr ⟨_, q300⟩) rfl dX0_goes_79 ?_
        refine lv_iload_n hx hb dX0_goes_82 rfl (lv_at hl 2 rfl) ?_
        obtain ⟨g_22, hf⟩ := bf_c_some hf
        refine bf_aald (v := .ref (bf_ca b 2 + 161 + x2.toNatClampNeg)) X hd (bf_c1 (bf_pB_hC G ν b T_18 (i := 2) (by decide))) 2 rfl rfl g_22 rfl dX0_goes_83 ?_
        refine bf_rP X hd (bf_pB_hC G ν b T_18 (i := 2) (by decide)) (bf_in_lt g_22) 1 (by decide) (Or.inr ⟨_, q244⟩) dX0_goes_84 ?_
        refine lv_goto (tgt := 112) hx hb dX0_goes_87 (by decide) ?_
        exact kret _ _ _ _ _ _ ⟨(bf_pr hf).1, congrArg (bf_pB G ν b) (bf_pr hf).2, (bf_pr hf).2 ▸ hz⟩ hd dX0_goes_112
    · have hf := bf_it hf c_19
      refine lv_aload_n hx hb dX0_goes_55 rfl (lv_at hl 0 rfl) ?_
      refine bf_yG (v := .ref (bf_ca b 2)) X hd 6 (by decide) (Or.inl q433) rfl dX0_goes_56 ?_
      refine bf_rC (v := .ref (bf_ca b 2 + 1)) X hd (bf_pB_hC G ν b T_18 (i := 2) (by decide)) 0 (by decide) (Or.inr ⟨_, q300⟩) rfl dX0_goes_59 ?_
      refine lv_iload_n hx hb dX0_goes_62 rfl (lv_at hl 2 rfl) ?_
      obtain ⟨g_23, hf⟩ := bf_c_some hf
      refine bf_aald (v := .ref (bf_ca b 2 + 161 + x2.toNatClampNeg)) X hd (bf_c1 (bf_pB_hC G ν b T_18 (i := 2) (by decide))) 2 rfl rfl g_23 rfl dX0_goes_63 ?_
      refine bf_rP X hd (bf_pB_hC G ν b T_18 (i := 2) (by decide)) (bf_in_lt g_23) 2 (by decide) (Or.inr ⟨_, q248⟩) dX0_goes_64 ?_
      refine lv_goto (tgt := 112) hx hb dX0_goes_67 (by decide) ?_
      exact kret _ _ _ _ _ _ ⟨(bf_pr hf).1, congrArg (bf_pB G ν b) (bf_pr hf).2, (bf_pr hf).2 ▸ hz⟩ hd dX0_goes_112
  unfold fX0_goes at hf
  refine lv_iload_n hx hb dX0_goes_0 rfl (lv_at hl 1 rfl) ?_
  refine lv_iconst (v := 1) hx hb dX0_goes_1 (by decide) ?_
  refine lv_bipush (v := 60) hx hb dX0_goes_2 (by decide) ?_
  refine bf_cSz (n := 3) (As := [.int x1, .int 1, .int 60]) (rest := []) X hd (mX0_isIn l G _ x1 1 60 rfl) (lw_S q473 q474 q148 q475) (by decide +kernel) ⟨Nat.le_of_ble_eq_true rfl, Nat.le_of_ble_eq_true rfl⟩ rfl hl.1 rfl (Nat.le_of_ble_eq_true rfl) dX0_goes_4 ⟨Nat.le_of_ble_eq_true rfl, Nat.le_of_ble_eq_true rfl⟩ (fun r σ' H locs hF z_24 hd => ?_)
  rw [hF.2] at hd
  refine bf_top hF.1.symm ?_
  rw [hF.1] at z_24
  refine lv_if_eq (tgt := 32) hx hb dX0_goes_7 (by decide) (fun c_25 => ?_) (fun c_25 => ?_)
  · have hf := bf_it hf c_25
    refine lv_bipush (v := (-2)) hx hb dX0_goes_32 (by decide) ?_
    exact kret _ _ _ _ _ _ ⟨(bf_pr hf).1, congrArg (bf_pB G ν b) (bf_pr hf).2, (bf_pr hf).2 ▸ hz⟩ hd dX0_goes_34
  · have hf := bf_ie hf c_25
    refine lv_iload_n hx hb dX0_goes_10 rfl (lv_at hl 3 rfl) ?_
    refine lv_iconst (v := 0) hx hb dX0_goes_11 (by decide) ?_
    refine lv_iconst (v := 3) hx hb dX0_goes_12 (by decide) ?_
    refine bf_cSz (n := 3) (As := [.int x3, .int 0, .int 3]) (rest := []) X hd (mX0_isIn l G _ x3 0 3 rfl) (lw_S q473 q474 q148 q475) (by decide +kernel) ⟨Nat.le_of_ble_eq_true rfl, Nat.le_of_ble_eq_true rfl⟩ rfl hl.1 rfl (Nat.le_of_ble_eq_true rfl) dX0_goes_13 ⟨Nat.le_of_ble_eq_true rfl, Nat.le_of_ble_eq_true rfl⟩ (fun r σ' H locs hF z_26 hd => ?_)
    rw [hF.2] at hd
    refine bf_top hF.1.symm ?_
    rw [hF.1] at z_26
    refine lv_if_eq (tgt := 32) hx hb dX0_goes_16 (by decide) (fun c_27 => ?_) (fun c_27 => ?_)
    · have hf := bf_it hf c_27
      refine lv_bipush (v := (-2)) hx hb dX0_goes_32 (by decide) ?_
      exact kret _ _ _ _ _ _ ⟨(bf_pr hf).1, congrArg (bf_pB G ν b) (bf_pr hf).2, (bf_pr hf).2 ▸ hz⟩ hd dX0_goes_34
    · have hf := bf_ie hf c_27
      refine lv_iload_n hx hb dX0_goes_19 rfl (lv_at hl 3 rfl) ?_
      refine lv_iconst (v := 2) hx hb dX0_goes_20 (by decide) ?_
      refine lv_icmp_ge (tgt := 35) hx hb dX0_goes_21 (by decide) (fun c_28 => ?_) (fun c_28 => ?_)
      · have hf := bf_it hf c_28
        exact J35 T _ _ _ hf hz hd (lv_sub hl [0, 1, 2, 3] rfl)
      · have hf := bf_ie hf c_28
        refine lv_aload_n hx hb dX0_goes_24 rfl (lv_at hl 0 rfl) ?_
        refine lv_iload_n hx hb dX0_goes_25 rfl (lv_at hl 2 rfl) ?_
        refine bf_bcz (n := 1) (As := [.int x2]) (rest := []) X hd (mX0_isParty l G ν b T hz x2 rfl) (lw_V q1014 q1016 qs30 q148 q1017) (by decide +kernel) ⟨Nat.le_of_ble_eq_true rfl, Nat.le_of_ble_eq_true rfl⟩ rfl hl.1 rfl (Nat.le_of_ble_eq_true rfl) dX0_goes_26 ⟨Nat.le_of_ble_eq_true rfl, Nat.le_of_ble_eq_true rfl⟩ (fun H locs hz z_29 hd => ?_)
        refine lv_if_ne (tgt := 35) hx hb dX0_goes_29 (by decide) (fun c_30 => ?_) (fun c_30 => ?_)
        · have hf := bf_ie hf c_30
          exact J35 T _ _ _ hf hz hd (lv_sub hl [0, 1, 2, 3] rfl)
        · have hf := bf_it hf c_30
          refine lv_bipush (v := (-2)) hx hb dX0_goes_32 (by decide) ?_
          exact kret _ _ _ _ _ _ ⟨(bf_pr hf).1, congrArg (bf_pB G ν b) (bf_pr hf).2, (bf_pr hf).2 ▸ hz⟩ hd dX0_goes_34
def fX0_falls (T : bf_WS) (x1 : Int32) : Option (Int32 × bf_WS) := if (fX0_isParty T x1) = 0 then (some ((-1), T)) else (bf_b (fX1_thinks (bf_S T 0) (bf_S T 2)) fun S_3 => bf_l (bf_uT T 2 0 S_3) fun T_4 => bf_b (fX1_falls (bf_S T_4 2)) fun S_5 => bf_l (bf_uS T_4 2 S_5) fun T_6 => bf_c (bf_in x1 5) <| some (((bf_S T_6 2).1 1 x1.toNatClampNeg 2), T_6))
set_option maxHeartbeats 4000000 in
theorem mX0_falls (l : Launch) (G : bf_G) (ν : bf_V) (b : Nat) (T : bf_WS) (hz : bf_wok G ν b T) (x1 : Int32) {r : Int32} {T' : bf_WS} (hf : fX0_falls T x1 = some (r, T')) : bf_MI l G yX0_falls cX0_falls 2 (bf_rm 3) [.ref b, .int x1] (bf_pB G ν b T) (fun v σ' => v = r ∧ σ' = bf_pB G ν b T' ∧ bf_wok G ν b T') := by
  refine bf_MI.of rfl (Nat.le_of_ble_eq_true rfl) ?_
  intro p e s m below meth c' Q X hlk hnm kret hd ls hl
  have hx := X.1
  have hb := X.2.1
  have hml := X.2.2.1
  have hown := X.2.2.2.1
  have hts := X.2.2.2.2
  have hl : lv_has ls 2 [(0, .ref b), (1, .int x1)] := hl
  unfold fX0_falls at hf
  refine lv_aload_n hx hb dX0_falls_0 rfl (lv_at hl 0 rfl) ?_
  refine lv_iload_n hx hb dX0_falls_1 rfl (lv_at hl 1 rfl) ?_
  refine bf_bcz (n := 1) (As := [.int x1]) (rest := []) X hd (mX0_isParty l G ν b T hz x1 rfl) (lw_V q1014 q1016 qs30 q148 q1017) (by decide +kernel) ⟨Nat.le_of_ble_eq_true rfl, Nat.le_of_ble_eq_true rfl⟩ rfl hl.1 rfl (Nat.le_of_ble_eq_true rfl) dX0_falls_2 ⟨Nat.le_of_ble_eq_true rfl, Nat.le_of_ble_eq_true rfl⟩ (fun H locs hz z_8 hd => ?_)
  refine lv_if_ne (tgt := 10) hx hb dX0_falls_5 (by decide) (fun c_9 => ?_) (fun c_9 => ?_)
  · have hf := bf_ie hf c_9
    refine lv_aload_n hx hb dX0_falls_10 rfl (lv_at hl 0 rfl) ?_
    refine bf_yG (v := .ref (bf_ca b 2)) X hd 6 (by decide) (Or.inl q433) rfl dX0_falls_11 ?_
    refine lv_aload_n hx hb dX0_falls_14 rfl (lv_at hl 0 rfl) ?_
    refine bf_yG (v := .ref (bf_ca b 0)) X hd 4 (by decide) (Or.inl q430) rfl dX0_falls_15 ?_
    obtain ⟨S_10, eS_10, hf⟩ := bf_b_some hf
    refine bf_cVv (n := 1) (As := [.ref (bf_ca b 0)]) (rest := []) X (bf_toC (i := 2) hd (by decide)) (mX1_thinks l G (bf_pB G ν b T) (bf_ca b 2) (bf_qs T 2) (bf_S T 2) (bf_ca b 0) (bf_qs T 0) (bf_S T 0) (bf_pB_hC G ν b T (by decide)) (bf_ca_dis (by decide) (by decide) (by decide)) eS_10) (lw_V q1265 q1266 q1267 q149 q1268) (by decide +kernel) ⟨Nat.le_of_ble_eq_true rfl, Nat.le_of_ble_eq_true rfl⟩ (bf_recv hd (bf_c0 (bf_pB_hC G ν b T (i := 2) (by decide))) (q := (RX1, TX1, 31)) rfl) rfl hl.1 rfl (Nat.le_of_ble_eq_true rfl) dX0_falls_18 ⟨Nat.le_of_ble_eq_true rfl, Nat.le_of_ble_eq_true rfl⟩ (fun σ' H locs hF hd => ?_)
    rw [hF] at hd
    have hd := bf_fromT (j := 0) (by decide) hd
    obtain ⟨T_11, eT_11, hf⟩ := bf_l_e hf
    have hd := hd.of (congrArg (bf_pB G ν b) eT_11.symm)
    have hz := bf_wok_uT (by decide) hz eT_11
    refine lv_aload_n hx hb dX0_falls_21 rfl (lv_at hl 0 rfl) ?_
    refine bf_yG (v := .ref (bf_ca b 2)) X hd 6 (by decide) (Or.inl q433) rfl dX0_falls_22 ?_
    obtain ⟨S_12, eS_12, hf⟩ := bf_b_some hf
    refine bf_ccv (n := 0) (As := []) (rest := []) X (bf_toC (i := 2) hd (by decide)) (mX1_falls l G (bf_pB G ν b T_11) (bf_ca b 2) (bf_qs T_11 2) (bf_S T_11 2) eS_12) (lw_V q1278 q1220 q1221 q149 q1222) (by decide +kernel) ⟨Nat.le_of_ble_eq_true rfl, Nat.le_of_ble_eq_true rfl⟩ rfl hl.1 rfl (Nat.le_of_ble_eq_true rfl) dX0_falls_25 ⟨Nat.le_of_ble_eq_true rfl, Nat.le_of_ble_eq_true rfl⟩ (fun H locs hd => ?_)
    have hd := bf_fromC (by decide) hd
    obtain ⟨T_13, eT_13, hf⟩ := bf_l_e hf
    have hd := hd.of (congrArg (bf_pB G ν b) eT_13.symm)
    have hz := bf_wok_uS hz eT_13
    refine lv_aload_n hx hb dX0_falls_28 rfl (lv_at hl 0 rfl) ?_
    refine bf_yG (v := .ref (bf_ca b 2)) X hd 6 (by decide) (Or.inl q433) rfl dX0_falls_29 ?_
    refine bf_rC (v := .ref (bf_ca b 2 + 1)) X hd (bf_pB_hC G ν b T_13 (i := 2) (by decide)) 0 (by decide) (Or.inr ⟨_, q300⟩) rfl dX0_falls_32 ?_
    refine lv_iload_n hx hb dX0_falls_35 rfl (lv_at hl 1 rfl) ?_
    obtain ⟨g_14, hf⟩ := bf_c_some hf
    refine bf_aald (v := .ref (bf_ca b 2 + 161 + x1.toNatClampNeg)) X hd (bf_c1 (bf_pB_hC G ν b T_13 (i := 2) (by decide))) 2 rfl rfl g_14 rfl dX0_falls_36 ?_
    refine bf_rP X hd (bf_pB_hC G ν b T_13 (i := 2) (by decide)) (bf_in_lt g_14) 2 (by decide) (Or.inr ⟨_, q248⟩) dX0_falls_37 ?_
    exact kret _ _ _ _ _ _ ⟨(bf_pr hf).1, congrArg (bf_pB G ν b) (bf_pr hf).2, (bf_pr hf).2 ▸ hz⟩ hd dX0_falls_40
  · have hf := bf_it hf c_9
    refine lv_iconst (v := (-1)) hx hb dX0_falls_8 (by decide) ?_
    exact kret _ _ _ _ _ _ ⟨(bf_pr hf).1, congrArg (bf_pB G ν b) (bf_pr hf).2, (bf_pr hf).2 ▸ hz⟩ hd dX0_falls_9
def fX0_brings_124 (x3 : Int32) (w124_4 : Int32) (w124_5 : Int32) (T124 : bf_WS) : Option (Int32 × bf_WS) := if x3 = 0 then (some (w124_4, T124)) else (some (w124_5, T124))
def fX0_brings_118 (k50 : Int32 → Int32 → Int32 → bf_WS → Option (Int32 × bf_WS)) (x1 : Int32) (x2 : Int32) (x3 : Int32) (w118_4 : Int32) (w118_5 : Int32) (w118_6 : Int32) (T118 : bf_WS) : Option (Int32 × bf_WS) := bf_l (w118_6 + 1) fun x6_12 => k50 w118_4 w118_5 x6_12 T118
def fX0_brings_50b (x1 : Int32) (x2 : Int32) (x3 : Int32) (k50 : Int32 → Int32 → Int32 → bf_WS → Option (Int32 × bf_WS)) (v50_4 : Int32) (v50_5 : Int32) (v50_6 : Int32) (T50 : bf_WS) : Option (Int32 × bf_WS) := if 10 ≤ v50_6 then (fX0_brings_124 x3 v50_4 v50_5 T50) else (bf_b (fX1_thinks (bf_S T50 0) (bf_S T50 2)) fun S_2 => bf_l (bf_uT T50 2 0 S_2) fun T_3 => bf_b2 (fX1_plants (bf_S T_3 2) x1 v50_6 10) fun r_5 S_4 => bf_l (bf_uS T_3 2 S_4) fun T_6 => bf_b (fX0_thinks T_6 x2) fun T_7 => bf_c (bf_in x1 5) <| if v50_5 < ((bf_S T_7 2).1 8 x1.toNatClampNeg 0) then (bf_c (bf_in x1 5) <| bf_l (((bf_S T_7 2).1 8 x1.toNatClampNeg 0)) fun x5_11 => fX0_brings_118 k50 x1 x2 x3 v50_6 x5_11 v50_6 T_7) else (fX0_brings_118 k50 x1 x2 x3 v50_4 v50_5 v50_6 T_7))
def fX0_brings_50 (x1 : Int32) (x2 : Int32) (x3 : Int32) : Nat → Int32 → Int32 → Int32 → bf_WS → Option (Int32 × bf_WS)
  | 0, _, _, _, _ => none
  | n + 1, v50_4, v50_5, v50_6, T50 => fX0_brings_50b x1 x2 x3 (fX0_brings_50 x1 x2 x3 n) v50_4 v50_5 v50_6 T50
def fX0_brings (T : bf_WS) (x1 x2 x3 : Int32) : Option (Int32 × bf_WS) := if (fX0_isParty T x1) = 0 then (some ((-1), T)) else (if (fX0_isIn x2 1 20) = 0 then (some ((-1), T)) else (if (fX0_isIn x3 0 1) = 0 then (some ((-1), T)) else (if ((bf_S T 0).1 0 11 0) = 14 then (some ((-1), T)) else (fX0_brings_50 x1 x2 x3 bf_fuel (-1) (-1) 0 T))))
set_option maxHeartbeats 4000000 in
theorem mX0_brings (l : Launch) (G : bf_G) (ν : bf_V) (b : Nat) (T : bf_WS) (hz : bf_wok G ν b T) (x1 x2 x3 : Int32) {r : Int32} {T' : bf_WS} (hf : fX0_brings T x1 x2 x3 = some (r, T')) : bf_MI l G yX0_brings cX0_brings 7 (bf_rm 438) [.ref b, .int x1, .int x2, .int x3] (bf_pB G ν b T) (fun v σ' => v = r ∧ σ' = bf_pB G ν b T' ∧ bf_wok G ν b T') := by
  refine bf_MI.of rfl (Nat.le_of_ble_eq_true rfl) ?_
  intro p e s m below meth c' Q X hlk hnm kret hd ls hl
  have hx := X.1
  have hb := X.2.1
  have hml := X.2.2.1
  have hown := X.2.2.2.1
  have hts := X.2.2.2.2
  have hl : lv_has ls 7 [(0, .ref b), (1, .int x1), (2, .int x2), (3, .int x3)] := hl
  have J124 : ∀ (w124_4 : Int32) (w124_5 : Int32) (T124 : bf_WS) (H : Heap) (locs : List Loc) (ls : Array Slot), fX0_brings_124 x3 w124_4 w124_5 T124 = some (r, T') → bf_wok G ν b T124 → bf_Dy G s H locs (bf_pB G ν b T124) → lv_has ls 7 [(3, .int x3), (4, .int w124_4), (5, .int w124_5)] → W p l e (bf_rm 438) s m ([.ref b, .int x1, .int x2, .int x3] : List Value).toArray below meth c' H locs 0 0 Q (F0 m 124 ls []) := by
    intro w124_4 w124_5 T124 H locs ls hf hz hd hl
    unfold fX0_brings_124 at hf
    refine lv_iload_n hx hb dX0_brings_124 rfl (lv_at hl 0 rfl) ?_
    refine lv_if_ne (tgt := 133) hx hb dX0_brings_125 (by decide) (fun c_21 => ?_) (fun c_21 => ?_)
    · have hf := bf_ie hf c_21
      refine lv_iload hx hb dX0_brings_133 (lv_at hl 2 rfl) ?_
      exact kret _ _ _ _ _ _ ⟨(bf_pr hf).1, congrArg (bf_pB G ν b) (bf_pr hf).2, (bf_pr hf).2 ▸ hz⟩ hd dX0_brings_135
    · have hf := bf_it hf c_21
      refine lv_iload hx hb dX0_brings_128 (lv_at hl 1 rfl) ?_
      refine lv_goto (tgt := 135) hx hb dX0_brings_130 (by decide) ?_
      exact kret _ _ _ _ _ _ ⟨(bf_pr hf).1, congrArg (bf_pB G ν b) (bf_pr hf).2, (bf_pr hf).2 ▸ hz⟩ hd dX0_brings_135
  have L50 : ∀ (n50 : Nat) (v50_4 : Int32) (v50_5 : Int32) (v50_6 : Int32) (T50 : bf_WS) (H : Heap) (locs : List Loc) (ls : Array Slot), fX0_brings_50 x1 x2 x3 n50 v50_4 v50_5 v50_6 T50 = some (r, T') → bf_wok G ν b T50 → bf_Dy G s H locs (bf_pB G ν b T50) → lv_has ls 7 [(0, .ref b), (1, .int x1), (2, .int x2), (3, .int x3), (4, .int v50_4), (5, .int v50_5), (6, .int v50_6)] → W p l e (bf_rm 438) s m ([.ref b, .int x1, .int x2, .int x3] : List Value).toArray below meth c' H locs 0 0 Q (F0 m 50 ls []) := by
    intro n50
    induction n50 with
    | zero =>
      intro v50_4 v50_5 v50_6 T50 H locs ls hf hz hd hl
      exact absurd (show (none : Option (Int32 × bf_WS)) = some (r, T') from hf) (by intro h; cases h)
    | succ n50 ih50 =>
      intro v50_4 v50_5 v50_6 T50 H locs ls hf hz hd hl
      have hf : fX0_brings_50b x1 x2 x3 (fX0_brings_50 x1 x2 x3 n50) v50_4 v50_5 v50_6 T50 = some (r, T') := hf
      unfold fX0_brings_50b at hf
      have J118 : ∀ (w118_4 : Int32) (w118_5 : Int32) (w118_6 : Int32) (T118 : bf_WS) (H : Heap) (locs : List Loc) (ls : Array Slot), fX0_brings_118 (fX0_brings_50 x1 x2 x3 n50) x1 x2 x3 w118_4 w118_5 w118_6 T118 = some (r, T') → bf_wok G ν b T118 → bf_Dy G s H locs (bf_pB G ν b T118) → lv_has ls 7 [(0, .ref b), (1, .int x1), (2, .int x2), (3, .int x3), (4, .int w118_4), (5, .int w118_5), (6, .int w118_6)] → W p l e (bf_rm 438) s m ([.ref b, .int x1, .int x2, .int x3] : List Value).toArray below meth c' H locs 0 0 Q (F0 m 118 ls []) := by
        intro w118_4 w118_5 w118_6 T118 H locs ls hf hz hd hl
        unfold fX0_brings_118 at hf
        obtain ⟨x6_22, ex6_22, hf⟩ := bf_l_e hf
        refine lv_iinc (v := x6_22) (lv' := [(6, .int x6_22), (0, .ref b), (1, .int x1), (2, .int x2), (3, .int x3), (4, .int w118_4), (5, .int w118_5)]) hx hb dX0_brings_118 hl (k := 6) rfl (by rw [ex6_22]; rfl) (by decide) rfl (fun ls hl => ?_)
        refine lv_goto (tgt := 50) hx hb dX0_brings_121 (by decide) ?_
        exact ih50 w118_4 w118_5 x6_22 T118 _ _ _ hf hz hd (lv_sub hl [1, 2, 3, 4, 5, 6, 0] rfl)
      refine lv_iload hx hb dX0_brings_50 (lv_at hl 6 rfl) ?_
      refine lv_bipush (v := 10) hx hb dX0_brings_52 (by decide) ?_
      refine lv_icmp_ge (tgt := 124) hx hb dX0_brings_54 (by decide) (fun c_23 => ?_) (fun c_23 => ?_)
      · have hf := bf_it hf c_23
        exact J124 v50_4 v50_5 T50 _ _ _ hf hz hd (lv_sub hl [3, 4, 5] rfl)
      · have hf := bf_ie hf c_23
        refine lv_aload_n hx hb dX0_brings_57 rfl (lv_at hl 0 rfl) ?_
        refine bf_yG (v := .ref (bf_ca b 2)) X hd 6 (by decide) (Or.inl q433) rfl dX0_brings_58 ?_
        refine lv_aload_n hx hb dX0_brings_61 rfl (lv_at hl 0 rfl) ?_
        refine bf_yG (v := .ref (bf_ca b 0)) X hd 4 (by decide) (Or.inl q430) rfl dX0_brings_62 ?_
        obtain ⟨S_24, eS_24, hf⟩ := bf_b_some hf
        refine bf_cVv (n := 1) (As := [.ref (bf_ca b 0)]) (rest := []) X (bf_toC (i := 2) hd (by decide)) (mX1_thinks l G (bf_pB G ν b T50) (bf_ca b 2) (bf_qs T50 2) (bf_S T50 2) (bf_ca b 0) (bf_qs T50 0) (bf_S T50 0) (bf_pB_hC G ν b T50 (by decide)) (bf_ca_dis (by decide) (by decide) (by decide)) eS_24) (lw_V q1265 q1266 q1267 q149 q1268) (by decide +kernel) ⟨Nat.le_of_ble_eq_true rfl, Nat.le_of_ble_eq_true rfl⟩ (bf_recv hd (bf_c0 (bf_pB_hC G ν b T50 (i := 2) (by decide))) (q := (RX1, TX1, 31)) rfl) rfl hl.1 rfl (Nat.le_of_ble_eq_true rfl) dX0_brings_65 ⟨Nat.le_of_ble_eq_true rfl, Nat.le_of_ble_eq_true rfl⟩ (fun σ' H locs hF hd => ?_)
        rw [hF] at hd
        have hd := bf_fromT (j := 0) (by decide) hd
        obtain ⟨T_25, eT_25, hf⟩ := bf_l_e hf
        have hd := hd.of (congrArg (bf_pB G ν b) eT_25.symm)
        have hz := bf_wok_uT (by decide) hz eT_25
        refine lv_aload_n hx hb dX0_brings_68 rfl (lv_at hl 0 rfl) ?_
        refine bf_yG (v := .ref (bf_ca b 2)) X hd 6 (by decide) (Or.inl q433) rfl dX0_brings_69 ?_
        refine lv_iload_n hx hb dX0_brings_72 rfl (lv_at hl 1 rfl) ?_
        refine lv_iload hx hb dX0_brings_73 (lv_at hl 6 rfl) ?_
        refine lv_bipush (v := 10) hx hb dX0_brings_75 (by decide) ?_
        obtain ⟨r_27, S_26, er_27, hf⟩ := bf_b2_some hf
        refine bf_cci (n := 3) (As := [.int x1, .int v50_6, .int 10]) (rest := []) X (bf_toC (i := 2) hd (by decide)) (mX1_plants l G (bf_pB G ν b T_25) (bf_ca b 2) (bf_qs T_25 2) (bf_S T_25 2) x1 v50_6 10 er_27) (lw_V q1037 q1038 q1039 q149 q1040) (by decide +kernel) ⟨Nat.le_of_ble_eq_true rfl, Nat.le_of_ble_eq_true rfl⟩ rfl hl.1 rfl (Nat.le_of_ble_eq_true rfl) dX0_brings_77 ⟨Nat.le_of_ble_eq_true rfl, Nat.le_of_ble_eq_true rfl⟩ (fun H locs hd => ?_)
        have hd := bf_fromC (by decide) hd
        obtain ⟨T_28, eT_28, hf⟩ := bf_l_e hf
        have hd := hd.of (congrArg (bf_pB G ν b) eT_28.symm)
        have hz := bf_wok_uS hz eT_28
        refine lv_pop hx hb dX0_brings_80 rfl ?_
        refine lv_aload_n hx hb dX0_brings_81 rfl (lv_at hl 0 rfl) ?_
        refine lv_iload_n hx hb dX0_brings_82 rfl (lv_at hl 2 rfl) ?_
        obtain ⟨T_29, eT_29, hf⟩ := bf_b_some hf
        refine bf_bcv (n := 1) (As := [.int x2]) (rest := []) X hd (mX0_thinks l G ν b T_28 hz x2 eT_29) (lw_V q1270 q1272 qs48 q148 q1273) (by decide +kernel) ⟨Nat.le_of_ble_eq_true rfl, Nat.le_of_ble_eq_true rfl⟩ rfl hl.1 rfl (Nat.le_of_ble_eq_true rfl) dX0_brings_83 ⟨Nat.le_of_ble_eq_true rfl, Nat.le_of_ble_eq_true rfl⟩ (fun H locs hz hd => ?_)
        refine lv_aload_n hx hb dX0_brings_86 rfl (lv_at hl 0 rfl) ?_
        refine bf_yG (v := .ref (bf_ca b 2)) X hd 6 (by decide) (Or.inl q433) rfl dX0_brings_87 ?_
        refine bf_rC (v := .ref (bf_ca b 2 + 157)) X hd (bf_pB_hC G ν b T_29 (i := 2) (by decide)) 6 (by decide) (Or.inr ⟨_, q313⟩) rfl dX0_brings_90 ?_
        refine lv_iload_n hx hb dX0_brings_93 rfl (lv_at hl 1 rfl) ?_
        obtain ⟨g_30, hf⟩ := bf_c_some hf
        refine bf_iald X hd (bf_c157 (bf_pB_hC G ν b T_29 (i := 2) (by decide))) g_30 dX0_brings_94 ?_
        refine lv_iload hx hb dX0_brings_95 (lv_at hl 5 rfl) ?_
        refine lv_icmp_gt (tgt := 103) hx hb dX0_brings_97 (by decide) (fun c_31 => ?_) (fun c_31 => ?_)
        · have hf := bf_it hf c_31
          refine lv_aload_n hx hb dX0_brings_103 rfl (lv_at hl 0 rfl) ?_
          refine bf_yG (v := .ref (bf_ca b 2)) X hd 6 (by decide) (Or.inl q433) rfl dX0_brings_104 ?_
          refine bf_rC (v := .ref (bf_ca b 2 + 157)) X hd (bf_pB_hC G ν b T_29 (i := 2) (by decide)) 6 (by decide) (Or.inr ⟨_, q313⟩) rfl dX0_brings_107 ?_
          refine lv_iload_n hx hb dX0_brings_110 rfl (lv_at hl 1 rfl) ?_
          obtain ⟨g_32, hf⟩ := bf_c_some hf
          refine bf_iald X hd (bf_c157 (bf_pB_hC G ν b T_29 (i := 2) (by decide))) g_32 dX0_brings_111 ?_
          obtain ⟨x5_33, ex5_33, hf⟩ := bf_l_e hf
          refine bf_top ex5_33 ?_
          refine lv_istore (lv' := [(5, .int x5_33), (0, .ref b), (1, .int x1), (2, .int x2), (3, .int x3), (4, .int v50_4), (6, .int v50_6)]) hx hb dX0_brings_112 hl (by decide) rfl (fun ls hl => ?_)
          refine lv_iload hx hb dX0_brings_114 (lv_at hl 6 rfl) ?_
          refine lv_istore (lv' := [(4, .int v50_6), (5, .int x5_33), (0, .ref b), (1, .int x1), (2, .int x2), (3, .int x3), (6, .int v50_6)]) hx hb dX0_brings_116 hl (by decide) rfl (fun ls hl => ?_)
          exact J118 v50_6 x5_33 v50_6 T_29 _ _ _ hf hz hd (lv_sub hl [2, 3, 4, 5, 0, 1, 6] rfl)
        · have hf := bf_ie hf c_31
          refine lv_goto (tgt := 118) hx hb dX0_brings_100 (by decide) ?_
          exact J118 v50_4 v50_5 v50_6 T_29 _ _ _ hf hz hd (lv_sub hl [0, 1, 2, 3, 4, 5, 6] rfl)
  unfold fX0_brings at hf
  refine lv_aload_n hx hb dX0_brings_0 rfl (lv_at hl 0 rfl) ?_
  refine lv_iload_n hx hb dX0_brings_1 rfl (lv_at hl 1 rfl) ?_
  refine bf_bcz (n := 1) (As := [.int x1]) (rest := []) X hd (mX0_isParty l G ν b T hz x1 rfl) (lw_V q1014 q1016 qs30 q148 q1017) (by decide +kernel) ⟨Nat.le_of_ble_eq_true rfl, Nat.le_of_ble_eq_true rfl⟩ rfl hl.1 rfl (Nat.le_of_ble_eq_true rfl) dX0_brings_2 ⟨Nat.le_of_ble_eq_true rfl, Nat.le_of_ble_eq_true rfl⟩ (fun H locs hz z_34 hd => ?_)
  refine lv_if_eq (tgt := 39) hx hb dX0_brings_5 (by decide) (fun c_35 => ?_) (fun c_35 => ?_)
  · have hf := bf_it hf c_35
    refine lv_iconst (v := (-1)) hx hb dX0_brings_39 (by decide) ?_
    exact kret _ _ _ _ _ _ ⟨(bf_pr hf).1, congrArg (bf_pB G ν b) (bf_pr hf).2, (bf_pr hf).2 ▸ hz⟩ hd dX0_brings_40
  · have hf := bf_ie hf c_35
    refine lv_iload_n hx hb dX0_brings_8 rfl (lv_at hl 2 rfl) ?_
    refine lv_iconst (v := 1) hx hb dX0_brings_9 (by decide) ?_
    refine lv_bipush (v := 20) hx hb dX0_brings_10 (by decide) ?_
    refine bf_cSz (n := 3) (As := [.int x2, .int 1, .int 20]) (rest := []) X hd (mX0_isIn l G _ x2 1 20 rfl) (lw_S q473 q474 q148 q475) (by decide +kernel) ⟨Nat.le_of_ble_eq_true rfl, Nat.le_of_ble_eq_true rfl⟩ rfl hl.1 rfl (Nat.le_of_ble_eq_true rfl) dX0_brings_12 ⟨Nat.le_of_ble_eq_true rfl, Nat.le_of_ble_eq_true rfl⟩ (fun r σ' H locs hF z_36 hd => ?_)
    rw [hF.2] at hd
    refine bf_top hF.1.symm ?_
    rw [hF.1] at z_36
    refine lv_if_eq (tgt := 39) hx hb dX0_brings_15 (by decide) (fun c_37 => ?_) (fun c_37 => ?_)
    · have hf := bf_it hf c_37
      refine lv_iconst (v := (-1)) hx hb dX0_brings_39 (by decide) ?_
      exact kret _ _ _ _ _ _ ⟨(bf_pr hf).1, congrArg (bf_pB G ν b) (bf_pr hf).2, (bf_pr hf).2 ▸ hz⟩ hd dX0_brings_40
    · have hf := bf_ie hf c_37
      refine lv_iload_n hx hb dX0_brings_18 rfl (lv_at hl 3 rfl) ?_
      refine lv_iconst (v := 0) hx hb dX0_brings_19 (by decide) ?_
      refine lv_iconst (v := 1) hx hb dX0_brings_20 (by decide) ?_
      refine bf_cSz (n := 3) (As := [.int x3, .int 0, .int 1]) (rest := []) X hd (mX0_isIn l G _ x3 0 1 rfl) (lw_S q473 q474 q148 q475) (by decide +kernel) ⟨Nat.le_of_ble_eq_true rfl, Nat.le_of_ble_eq_true rfl⟩ rfl hl.1 rfl (Nat.le_of_ble_eq_true rfl) dX0_brings_21 ⟨Nat.le_of_ble_eq_true rfl, Nat.le_of_ble_eq_true rfl⟩ (fun r σ' H locs hF z_38 hd => ?_)
      rw [hF.2] at hd
      refine bf_top hF.1.symm ?_
      rw [hF.1] at z_38
      refine lv_if_eq (tgt := 39) hx hb dX0_brings_24 (by decide) (fun c_39 => ?_) (fun c_39 => ?_)
      · have hf := bf_it hf c_39
        refine lv_iconst (v := (-1)) hx hb dX0_brings_39 (by decide) ?_
        exact kret _ _ _ _ _ _ ⟨(bf_pr hf).1, congrArg (bf_pB G ν b) (bf_pr hf).2, (bf_pr hf).2 ▸ hz⟩ hd dX0_brings_40
      · have hf := bf_ie hf c_39
        refine lv_aload_n hx hb dX0_brings_27 rfl (lv_at hl 0 rfl) ?_
        refine bf_yG (v := .ref (bf_ca b 0)) X hd 4 (by decide) (Or.inl q430) rfl dX0_brings_28 ?_
        refine bf_rC X hd (bf_pB_hC G ν b T (i := 0) (by decide)) 11 (by decide) (Or.inr ⟨_, q325⟩) rfl dX0_brings_31 ?_
        refine lv_bipush (v := 14) hx hb dX0_brings_34 (by decide) ?_
        refine lv_icmp_ne (tgt := 41) hx hb dX0_brings_36 (by decide) (fun c_40 => ?_) (fun c_40 => ?_)
        · have hf := bf_ie hf c_40
          refine lv_iconst (v := (-1)) hx hb dX0_brings_41 (by decide) ?_
          refine lv_istore (lv' := [(4, .int (-1)), (0, .ref b), (1, .int x1), (2, .int x2), (3, .int x3)]) hx hb dX0_brings_42 hl (by decide) rfl (fun ls hl => ?_)
          refine lv_iconst (v := (-1)) hx hb dX0_brings_44 (by decide) ?_
          refine lv_istore (lv' := [(5, .int (-1)), (4, .int (-1)), (0, .ref b), (1, .int x1), (2, .int x2), (3, .int x3)]) hx hb dX0_brings_45 hl (by decide) rfl (fun ls hl => ?_)
          refine lv_iconst (v := 0) hx hb dX0_brings_47 (by decide) ?_
          refine lv_istore (lv' := [(6, .int 0), (5, .int (-1)), (4, .int (-1)), (0, .ref b), (1, .int x1), (2, .int x2), (3, .int x3)]) hx hb dX0_brings_48 hl (by decide) rfl (fun ls hl => ?_)
          exact L50 bf_fuel (-1) (-1) 0 T _ _ _ hf hz hd (lv_sub hl [3, 4, 5, 6, 2, 1, 0] rfl)
        · have hf := bf_it hf c_40
          refine lv_iconst (v := (-1)) hx hb dX0_brings_39 (by decide) ?_
          exact kret _ _ _ _ _ _ ⟨(bf_pr hf).1, congrArg (bf_pB G ν b) (bf_pr hf).2, (bf_pr hf).2 ▸ hz⟩ hd dX0_brings_40
def fX0_mostSeatedWith (T : bf_WS) (x1 x2 x3 : Int32) : Option (Int32 × bf_WS) := bf_b (fX1_thinks (bf_S T 0) (bf_S T 2)) fun S_1 => bf_l (bf_uT T 2 0 S_1) fun T_2 => bf_c (bf_in x1 14) <| bf_l (bf_uS T_2 2 (bf_u3 (bf_S T_2 2) 2 x1.toNatClampNeg 3 (((bf_S T_2 2).1 2 x1.toNatClampNeg 3) - x2))) fun T_4 => bf_b (fX0_thinks T_4 x3) fun T_5 => bf_b (fX1_mostSeated (bf_S T_5 2)) fun r_6 => some (r_6, T_5)
set_option maxHeartbeats 4000000 in
theorem mX0_mostSeatedWith (l : Launch) (G : bf_G) (ν : bf_V) (b : Nat) (T : bf_WS) (hz : bf_wok G ν b T) (x1 x2 x3 : Int32) {r : Int32} {T' : bf_WS} (hf : fX0_mostSeatedWith T x1 x2 x3 = some (r, T')) : bf_MI l G yX0_mostSeatedWith cX0_mostSeatedWith 4 (bf_rm 438) [.ref b, .int x1, .int x2, .int x3] (bf_pB G ν b T) (fun v σ' => v = r ∧ σ' = bf_pB G ν b T' ∧ bf_wok G ν b T') := by
  refine bf_MI.of rfl (Nat.le_of_ble_eq_true rfl) ?_
  intro p e s m below meth c' Q X hlk hnm kret hd ls hl
  have hx := X.1
  have hb := X.2.1
  have hml := X.2.2.1
  have hown := X.2.2.2.1
  have hts := X.2.2.2.2
  have hl : lv_has ls 4 [(0, .ref b), (1, .int x1), (2, .int x2), (3, .int x3)] := hl
  unfold fX0_mostSeatedWith at hf
  refine lv_aload_n hx hb dX0_mostSeatedWith_0 rfl (lv_at hl 0 rfl) ?_
  refine bf_yG (v := .ref (bf_ca b 2)) X hd 6 (by decide) (Or.inl q433) rfl dX0_mostSeatedWith_1 ?_
  refine lv_aload_n hx hb dX0_mostSeatedWith_4 rfl (lv_at hl 0 rfl) ?_
  refine bf_yG (v := .ref (bf_ca b 0)) X hd 4 (by decide) (Or.inl q430) rfl dX0_mostSeatedWith_5 ?_
  obtain ⟨S_7, eS_7, hf⟩ := bf_b_some hf
  refine bf_cVv (n := 1) (As := [.ref (bf_ca b 0)]) (rest := []) X (bf_toC (i := 2) hd (by decide)) (mX1_thinks l G (bf_pB G ν b T) (bf_ca b 2) (bf_qs T 2) (bf_S T 2) (bf_ca b 0) (bf_qs T 0) (bf_S T 0) (bf_pB_hC G ν b T (by decide)) (bf_ca_dis (by decide) (by decide) (by decide)) eS_7) (lw_V q1265 q1266 q1267 q149 q1268) (by decide +kernel) ⟨Nat.le_of_ble_eq_true rfl, Nat.le_of_ble_eq_true rfl⟩ (bf_recv hd (bf_c0 (bf_pB_hC G ν b T (i := 2) (by decide))) (q := (RX1, TX1, 31)) rfl) rfl hl.1 rfl (Nat.le_of_ble_eq_true rfl) dX0_mostSeatedWith_8 ⟨Nat.le_of_ble_eq_true rfl, Nat.le_of_ble_eq_true rfl⟩ (fun σ' H locs hF hd => ?_)
  rw [hF] at hd
  have hd := bf_fromT (j := 0) (by decide) hd
  obtain ⟨T_8, eT_8, hf⟩ := bf_l_e hf
  have hd := hd.of (congrArg (bf_pB G ν b) eT_8.symm)
  have hz := bf_wok_uT (by decide) hz eT_8
  refine lv_aload_n hx hb dX0_mostSeatedWith_11 rfl (lv_at hl 0 rfl) ?_
  refine bf_yG (v := .ref (bf_ca b 2)) X hd 6 (by decide) (Or.inl q433) rfl dX0_mostSeatedWith_12 ?_
  refine bf_rC (v := .ref (bf_ca b 2 + 2)) X hd (bf_pB_hC G ν b T_8 (i := 2) (by decide)) 1 (by decide) (Or.inr ⟨_, q302⟩) rfl dX0_mostSeatedWith_15 ?_
  refine lv_iload_n hx hb dX0_mostSeatedWith_18 rfl (lv_at hl 1 rfl) ?_
  obtain ⟨g_9, hf⟩ := bf_c_some hf
  refine bf_aald (v := .ref (bf_ca b 2 + 166 + x1.toNatClampNeg)) X hd (bf_c2 (bf_pB_hC G ν b T_8 (i := 2) (by decide))) 3 rfl rfl g_9 rfl dX0_mostSeatedWith_19 ?_
  refine lv_dup hx hb dX0_mostSeatedWith_20 rfl ?_
  refine bf_rT X hd (bf_pB_hC G ν b T_8 (i := 2) (by decide)) (bf_in_lt g_9) 3 (by decide) (Or.inr ⟨_, q272⟩) dX0_mostSeatedWith_21 ?_
  refine lv_iload_n hx hb dX0_mostSeatedWith_24 rfl (lv_at hl 2 rfl) ?_
  refine lv_isub hx hb dX0_mostSeatedWith_25 ?_
  refine bf_xT X (bf_toC (i := 2) hd (by decide)) (bf_in_lt g_9) 3 (by decide) (Or.inr ⟨_, q272⟩) dX0_mostSeatedWith_26 (fun H locs hd => ?_)
  have hd := bf_fromC (by decide) hd
  obtain ⟨T_10, eT_10, hf⟩ := bf_l_e hf
  have hd := hd.of (congrArg (bf_pB G ν b) eT_10.symm)
  have hz := bf_wok_uS hz eT_10
  refine lv_aload_n hx hb dX0_mostSeatedWith_29 rfl (lv_at hl 0 rfl) ?_
  refine lv_iload_n hx hb dX0_mostSeatedWith_30 rfl (lv_at hl 3 rfl) ?_
  obtain ⟨T_11, eT_11, hf⟩ := bf_b_some hf
  refine bf_bcv (n := 1) (As := [.int x3]) (rest := []) X hd (mX0_thinks l G ν b T_10 hz x3 eT_11) (lw_V q1270 q1272 qs48 q148 q1273) (by decide +kernel) ⟨Nat.le_of_ble_eq_true rfl, Nat.le_of_ble_eq_true rfl⟩ rfl hl.1 rfl (Nat.le_of_ble_eq_true rfl) dX0_mostSeatedWith_31 ⟨Nat.le_of_ble_eq_true rfl, Nat.le_of_ble_eq_true rfl⟩ (fun H locs hz hd => ?_)
  refine lv_aload_n hx hb dX0_mostSeatedWith_34 rfl (lv_at hl 0 rfl) ?_
  refine bf_yG (v := .ref (bf_ca b 2)) X hd 6 (by decide) (Or.inl q433) rfl dX0_mostSeatedWith_35 ?_
  obtain ⟨r_12, er_12, hf⟩ := bf_b_some hf
  refine bf_cci (n := 0) (As := []) (rest := []) X (bf_toC (i := 2) hd (by decide)) (mX1_mostSeated l G (bf_pB G ν b T_11) (bf_ca b 2) (bf_qs T_11 2) (bf_S T_11 2) er_12) (lw_V q1291 q1228 q1229 q149 q1230) (by decide +kernel) ⟨Nat.le_of_ble_eq_true rfl, Nat.le_of_ble_eq_true rfl⟩ rfl hl.1 rfl (Nat.le_of_ble_eq_true rfl) dX0_mostSeatedWith_38 ⟨Nat.le_of_ble_eq_true rfl, Nat.le_of_ble_eq_true rfl⟩ (fun H locs hd => ?_)
  have hd := bf_fromC0 (by decide) hd
  exact kret _ _ _ _ _ _ ⟨(bf_pr hf).1, congrArg (bf_pB G ν b) (bf_pr hf).2, (bf_pr hf).2 ▸ hz⟩ hd dX0_mostSeatedWith_41
def fX0_swings_40b (x1 : Int32) (x2 : Int32) (u40_3 : Int32) (k40 : Int32 → bf_WS → Option (Int32 × bf_WS)) (v40_4 : Int32) (T40 : bf_WS) : Option (Int32 × bf_WS) := bf_c (bf_in x1 14) <| if ((bf_S T40 0).1 2 x1.toNatClampNeg 3) < v40_4 then (some ((-1), T40)) else (bf_b2 (fX0_mostSeatedWith T40 x1 v40_4 x2) fun r_4 T_3 => if r_4 = u40_3 then (bf_l (v40_4 + 1) fun x4_6 => k40 x4_6 T_3) else (some (v40_4, T_3)))
def fX0_swings_40 (x1 : Int32) (x2 : Int32) (u40_3 : Int32) : Nat → Int32 → bf_WS → Option (Int32 × bf_WS)
  | 0, _, _ => none
  | n + 1, v40_4, T40 => fX0_swings_40b x1 x2 u40_3 (fX0_swings_40 x1 x2 u40_3 n) v40_4 T40
def fX0_swings (T : bf_WS) (x1 x2 : Int32) : Option (Int32 × bf_WS) := if (fX0_isIn x1 0 (((bf_S T 0).1 0 11 0) - 1)) = 0 then (some ((-1), T)) else (if (fX0_isIn x2 1 20) = 0 then (some ((-1), T)) else (bf_b2 (fX0_mostSeatedWith T x1 0 x2) fun r_12 T_11 => fX0_swings_40 x1 x2 r_12 bf_fuel 1 T_11))
set_option maxHeartbeats 4000000 in
theorem mX0_swings (l : Launch) (G : bf_G) (ν : bf_V) (b : Nat) (T : bf_WS) (hz : bf_wok G ν b T) (x1 x2 : Int32) {r : Int32} {T' : bf_WS} (hf : fX0_swings T x1 x2 = some (r, T')) : bf_MI l G yX0_swings cX0_swings 5 (bf_rm 439) [.ref b, .int x1, .int x2] (bf_pB G ν b T) (fun v σ' => v = r ∧ σ' = bf_pB G ν b T' ∧ bf_wok G ν b T') := by
  refine bf_MI.of rfl (Nat.le_of_ble_eq_true rfl) ?_
  intro p e s m below meth c' Q X hlk hnm kret hd ls hl
  have hx := X.1
  have hb := X.2.1
  have hml := X.2.2.1
  have hown := X.2.2.2.1
  have hts := X.2.2.2.2
  have hl : lv_has ls 5 [(0, .ref b), (1, .int x1), (2, .int x2)] := hl
  have L40 : ∀ (u40_3 : Int32) (n40 : Nat) (v40_4 : Int32) (T40 : bf_WS) (H : Heap) (locs : List Loc) (ls : Array Slot), fX0_swings_40 x1 x2 u40_3 n40 v40_4 T40 = some (r, T') → bf_wok G ν b T40 → bf_Dy G s H locs (bf_pB G ν b T40) → lv_has ls 5 [(0, .ref b), (1, .int x1), (2, .int x2), (3, .int u40_3), (4, .int v40_4)] → W p l e (bf_rm 439) s m ([.ref b, .int x1, .int x2] : List Value).toArray below meth c' H locs 0 0 Q (F0 m 40 ls []) := by
    intro u40_3 n40
    induction n40 with
    | zero =>
      intro v40_4 T40 H locs ls hf hz hd hl
      exact absurd (show (none : Option (Int32 × bf_WS)) = some (r, T') from hf) (by intro h; cases h)
    | succ n40 ih40 =>
      intro v40_4 T40 H locs ls hf hz hd hl
      have hf : fX0_swings_40b x1 x2 u40_3 (fX0_swings_40 x1 x2 u40_3 n40) v40_4 T40 = some (r, T') := hf
      unfold fX0_swings_40b at hf
      refine lv_iload hx hb dX0_swings_40 (lv_at hl 4 rfl) ?_
      refine lv_aload_n hx hb dX0_swings_42 rfl (lv_at hl 0 rfl) ?_
      refine bf_yG (v := .ref (bf_ca b 0)) X hd 4 (by decide) (Or.inl q430) rfl dX0_swings_43 ?_
      refine bf_rC (v := .ref (bf_ca b 0 + 2)) X hd (bf_pB_hC G ν b T40 (i := 0) (by decide)) 1 (by decide) (Or.inr ⟨_, q302⟩) rfl dX0_swings_46 ?_
      refine lv_iload_n hx hb dX0_swings_49 rfl (lv_at hl 1 rfl) ?_
      obtain ⟨g_13, hf⟩ := bf_c_some hf
      refine bf_aald (v := .ref (bf_ca b 0 + 166 + x1.toNatClampNeg)) X hd (bf_c2 (bf_pB_hC G ν b T40 (i := 0) (by decide))) 3 rfl rfl g_13 rfl dX0_swings_50 ?_
      refine bf_rT X hd (bf_pB_hC G ν b T40 (i := 0) (by decide)) (bf_in_lt g_13) 3 (by decide) (Or.inr ⟨_, q272⟩) dX0_swings_51 ?_
      refine lv_icmp_gt (tgt := 78) hx hb dX0_swings_54 (by decide) (fun c_14 => ?_) (fun c_14 => ?_)
      · have hf := bf_it hf c_14
        refine lv_iconst (v := (-1)) hx hb dX0_swings_78 (by decide) ?_
        exact kret _ _ _ _ _ _ ⟨(bf_pr hf).1, congrArg (bf_pB G ν b) (bf_pr hf).2, (bf_pr hf).2 ▸ hz⟩ hd dX0_swings_79
      · have hf := bf_ie hf c_14
        refine lv_aload_n hx hb dX0_swings_57 rfl (lv_at hl 0 rfl) ?_
        refine lv_iload_n hx hb dX0_swings_58 rfl (lv_at hl 1 rfl) ?_
        refine lv_iload hx hb dX0_swings_59 (lv_at hl 4 rfl) ?_
        refine lv_iload_n hx hb dX0_swings_61 rfl (lv_at hl 2 rfl) ?_
        obtain ⟨r_16, T_15, er_16, hf⟩ := bf_b2_some hf
        refine bf_bci (n := 3) (As := [.int x1, .int v40_4, .int x2]) (rest := []) X hd (mX0_mostSeatedWith l G ν b T40 hz x1 v40_4 x2 er_16) (lw_V q1287 q1289 qs49 q148 q1290) (by decide +kernel) ⟨Nat.le_of_ble_eq_true rfl, Nat.le_of_ble_eq_true rfl⟩ rfl hl.1 rfl (Nat.le_of_ble_eq_true rfl) dX0_swings_62 ⟨Nat.le_of_ble_eq_true rfl, Nat.le_of_ble_eq_true rfl⟩ (fun H locs hz hd => ?_)
        refine lv_iload_n hx hb dX0_swings_65 rfl (lv_at hl 3 rfl) ?_
        refine lv_icmp_eq (tgt := 72) hx hb dX0_swings_66 (by decide) (fun c_17 => ?_) (fun c_17 => ?_)
        · have hf := bf_it hf c_17
          obtain ⟨x4_18, ex4_18, hf⟩ := bf_l_e hf
          refine lv_iinc (v := x4_18) (lv' := [(4, .int x4_18), (0, .ref b), (1, .int x1), (2, .int x2), (3, .int u40_3)]) hx hb dX0_swings_72 hl (k := 4) rfl (by rw [ex4_18]; rfl) (by decide) rfl (fun ls hl => ?_)
          refine lv_goto (tgt := 40) hx hb dX0_swings_75 (by decide) ?_
          exact ih40 x4_18 T_15 _ _ _ hf hz hd (lv_sub hl [1, 2, 3, 4, 0] rfl)
        · have hf := bf_ie hf c_17
          refine lv_iload hx hb dX0_swings_69 (lv_at hl 4 rfl) ?_
          exact kret _ _ _ _ _ _ ⟨(bf_pr hf).1, congrArg (bf_pB G ν b) (bf_pr hf).2, (bf_pr hf).2 ▸ hz⟩ hd dX0_swings_71
  unfold fX0_swings at hf
  refine lv_iload_n hx hb dX0_swings_0 rfl (lv_at hl 1 rfl) ?_
  refine lv_iconst (v := 0) hx hb dX0_swings_1 (by decide) ?_
  refine lv_aload_n hx hb dX0_swings_2 rfl (lv_at hl 0 rfl) ?_
  refine bf_yG (v := .ref (bf_ca b 0)) X hd 4 (by decide) (Or.inl q430) rfl dX0_swings_3 ?_
  refine bf_rC X hd (bf_pB_hC G ν b T (i := 0) (by decide)) 11 (by decide) (Or.inr ⟨_, q325⟩) rfl dX0_swings_6 ?_
  refine lv_iconst (v := 1) hx hb dX0_swings_9 (by decide) ?_
  refine lv_isub hx hb dX0_swings_10 ?_
  refine bf_cSz (n := 3) (As := [.int x1, .int 0, .int (((bf_S T 0).1 0 11 0) - 1)]) (rest := []) X hd (mX0_isIn l G _ x1 0 (((bf_S T 0).1 0 11 0) - 1) rfl) (lw_S q473 q474 q148 q475) (by decide +kernel) ⟨Nat.le_of_ble_eq_true rfl, Nat.le_of_ble_eq_true rfl⟩ rfl hl.1 rfl (Nat.le_of_ble_eq_true rfl) dX0_swings_11 ⟨Nat.le_of_ble_eq_true rfl, Nat.le_of_ble_eq_true rfl⟩ (fun r σ' H locs hF z_19 hd => ?_)
  rw [hF.2] at hd
  refine bf_top hF.1.symm ?_
  rw [hF.1] at z_19
  refine lv_if_eq (tgt := 27) hx hb dX0_swings_14 (by decide) (fun c_20 => ?_) (fun c_20 => ?_)
  · have hf := bf_it hf c_20
    refine lv_iconst (v := (-1)) hx hb dX0_swings_27 (by decide) ?_
    exact kret _ _ _ _ _ _ ⟨(bf_pr hf).1, congrArg (bf_pB G ν b) (bf_pr hf).2, (bf_pr hf).2 ▸ hz⟩ hd dX0_swings_28
  · have hf := bf_ie hf c_20
    refine lv_iload_n hx hb dX0_swings_17 rfl (lv_at hl 2 rfl) ?_
    refine lv_iconst (v := 1) hx hb dX0_swings_18 (by decide) ?_
    refine lv_bipush (v := 20) hx hb dX0_swings_19 (by decide) ?_
    refine bf_cSz (n := 3) (As := [.int x2, .int 1, .int 20]) (rest := []) X hd (mX0_isIn l G _ x2 1 20 rfl) (lw_S q473 q474 q148 q475) (by decide +kernel) ⟨Nat.le_of_ble_eq_true rfl, Nat.le_of_ble_eq_true rfl⟩ rfl hl.1 rfl (Nat.le_of_ble_eq_true rfl) dX0_swings_21 ⟨Nat.le_of_ble_eq_true rfl, Nat.le_of_ble_eq_true rfl⟩ (fun r σ' H locs hF z_21 hd => ?_)
    rw [hF.2] at hd
    refine bf_top hF.1.symm ?_
    rw [hF.1] at z_21
    refine lv_if_ne (tgt := 29) hx hb dX0_swings_24 (by decide) (fun c_22 => ?_) (fun c_22 => ?_)
    · have hf := bf_ie hf c_22
      refine lv_aload_n hx hb dX0_swings_29 rfl (lv_at hl 0 rfl) ?_
      refine lv_iload_n hx hb dX0_swings_30 rfl (lv_at hl 1 rfl) ?_
      refine lv_iconst (v := 0) hx hb dX0_swings_31 (by decide) ?_
      refine lv_iload_n hx hb dX0_swings_32 rfl (lv_at hl 2 rfl) ?_
      obtain ⟨r_24, T_23, er_24, hf⟩ := bf_b2_some hf
      refine bf_bci (n := 3) (As := [.int x1, .int 0, .int x2]) (rest := []) X hd (mX0_mostSeatedWith l G ν b T hz x1 0 x2 er_24) (lw_V q1287 q1289 qs49 q148 q1290) (by decide +kernel) ⟨Nat.le_of_ble_eq_true rfl, Nat.le_of_ble_eq_true rfl⟩ rfl hl.1 rfl (Nat.le_of_ble_eq_true rfl) dX0_swings_33 ⟨Nat.le_of_ble_eq_true rfl, Nat.le_of_ble_eq_true rfl⟩ (fun H locs hz hd => ?_)
      refine lv_istore_n (lv' := [(3, .int r_24), (0, .ref b), (1, .int x1), (2, .int x2)]) hx hb dX0_swings_36 rfl hl (by decide) rfl (fun ls hl => ?_)
      refine lv_iconst (v := 1) hx hb dX0_swings_37 (by decide) ?_
      refine lv_istore (lv' := [(4, .int 1), (3, .int r_24), (0, .ref b), (1, .int x1), (2, .int x2)]) hx hb dX0_swings_38 hl (by decide) rfl (fun ls hl => ?_)
      exact L40 r_24 bf_fuel 1 T_23 _ _ _ hf hz hd (lv_sub hl [2, 3, 4, 1, 0] rfl)
    · have hf := bf_it hf c_22
      refine lv_iconst (v := (-1)) hx hb dX0_swings_27 (by decide) ?_
      exact kret _ _ _ _ _ _ ⟨(bf_pr hf).1, congrArg (bf_pB G ν b) (bf_pr hf).2, (bf_pr hf).2 ▸ hz⟩ hd dX0_swings_28
def fX0_placesBy (T : bf_WS) (x1 : Int32) : Option (Int32) := bf_c (bf_in x1 10) <| bf_q ((bf_Ds T 0).1 x1.toNatClampNeg) (some 0) (fun pd_3 => bf_c (bf_in x1 10) <| bf_qn ((bf_Ds T 0).1 x1.toNatClampNeg) fun pd_6 => bf_b (fX14_places pd_6) fun r_7 => some r_7)
set_option maxHeartbeats 4000000 in
theorem mX0_placesBy (l : Launch) (G : bf_G) (ν : bf_V) (b : Nat) (T : bf_WS) (hz : bf_wok G ν b T) (x1 : Int32) {r : Int32} (hf : fX0_placesBy T x1 = some r) : bf_MI l G yX0_placesBy cX0_placesBy 2 (bf_rm 1) [.ref b, .int x1] (bf_pB G ν b T) (fun v σ' => v = r ∧ σ' = bf_pB G ν b T ∧ bf_wok G ν b T) := by
  refine bf_MI.of rfl (Nat.le_of_ble_eq_true rfl) ?_
  intro p e s m below meth c' Q X hlk hnm kret hd ls hl
  have hx := X.1
  have hb := X.2.1
  have hml := X.2.2.1
  have hown := X.2.2.2.1
  have hts := X.2.2.2.2
  have hl : lv_has ls 2 [(0, .ref b), (1, .int x1)] := hl
  unfold fX0_placesBy at hf
  refine lv_aload_n hx hb dX0_placesBy_0 rfl (lv_at hl 0 rfl) ?_
  refine bf_yG (v := .ref (bf_ca b 0)) X hd 4 (by decide) (Or.inl q430) rfl dX0_placesBy_1 ?_
  refine bf_rC (v := .ref (bf_qs T 0 0)) X hd (bf_pB_hC G ν b T (i := 0) (by decide)) 7 (by decide) (Or.inr ⟨_, q315⟩) rfl dX0_placesBy_4 ?_
  refine lv_iload_n hx hb dX0_placesBy_7 rfl (lv_at hl 1 rfl) ?_
  obtain ⟨g_8, hf⟩ := bf_c_some hf
  obtain ⟨peh_9, hpe0h_9, hpeh_9⟩ := (hz 0 (by decide)).1
  refine bf_aald (v := va_rf (peh_9 x1.toNatClampNeg)) X hd (bf_fzB_at hpe0h_9) 6 rfl rfl g_8 rfl dX0_placesBy_8 ?_
  rcases bf_opt ((bf_Ds T 0).1 x1.toNatClampNeg) with epd_10 | ⟨pd_10, epd_10⟩
  · have hf := bf_q_n hf epd_10
    refine bf_ift (q := peh_9 x1.toNatClampNeg) (q' := none) ((hpeh_9 x1.toNatClampNeg).1 epd_10) ?_
    refine lv_ifnonnullN hx hb dX0_placesBy_9 ?_
    refine lv_iconst (v := 0) hx hb dX0_placesBy_12 (by decide) ?_
    refine lv_goto (tgt := 28) hx hb dX0_placesBy_13 (by decide) ?_
    exact kret _ _ _ _ _ _ ⟨bf_so hf, rfl, hz⟩ hd dX0_placesBy_28
  · have hf := bf_q_s hf epd_10
    obtain ⟨papd_10, prpd_10, Vpd_10, hp1pd_10, hp2pd_10, hp4pd_10, hp3pd_10⟩ := (hpeh_9 x1.toNatClampNeg).2 _ epd_10
    refine bf_ift (q := peh_9 x1.toNatClampNeg) (q' := some papd_10) hp1pd_10 ?_
    refine lv_ifnonnull (tgt := 16) hx hb dX0_placesBy_9 (by decide) ?_
    refine lv_aload_n hx hb dX0_placesBy_16 rfl (lv_at hl 0 rfl) ?_
    refine bf_yG (v := .ref (bf_ca b 0)) X hd 4 (by decide) (Or.inl q430) rfl dX0_placesBy_17 ?_
    refine bf_rC (v := .ref (bf_qs T 0 0)) X hd (bf_pB_hC G ν b T (i := 0) (by decide)) 7 (by decide) (Or.inr ⟨_, q315⟩) rfl dX0_placesBy_20 ?_
    refine lv_iload_n hx hb dX0_placesBy_23 rfl (lv_at hl 1 rfl) ?_
    obtain ⟨g_11, hf⟩ := bf_c_some hf
    obtain ⟨peh_12, hpe0h_12, hpeh_12⟩ := (hz 0 (by decide)).1
    refine bf_aald (v := va_rf (peh_12 x1.toNatClampNeg)) X hd (bf_fzB_at hpe0h_12) 6 rfl rfl g_11 rfl dX0_placesBy_24 ?_
    obtain ⟨pd_13, epd_13, hf⟩ := bf_qn_some hf
    obtain ⟨papd_13, prpd_13, Vpd_13, hp1pd_13, hp2pd_13, hp4pd_13, hp3pd_13⟩ := (hpeh_12 x1.toNatClampNeg).2 _ epd_13
    refine bf_ift (q := peh_12 x1.toNatClampNeg) (q' := some papd_13) hp1pd_13 ?_
    obtain ⟨r_14, er_14, hf⟩ := bf_b_some hf
    refine bf_cVi (n := 0) (As := []) (rest := []) X hd (mX14_places l G _ papd_13 Vpd_13 prpd_13 pd_13 (bf_fzB_at hp2pd_13) hp4pd_13 (bf_fzB_at hp3pd_13) er_14) (lw_V q1310 q1311 q1312 q176 q1313) (by decide +kernel) ⟨Nat.le_of_ble_eq_true rfl, Nat.le_of_ble_eq_true rfl⟩ (bf_recv hd (bf_fzB_at hp2pd_13) (q := (RX14, TX14, 1)) rfl) rfl hl.1 rfl (Nat.le_of_ble_eq_true rfl) dX0_placesBy_25 ⟨Nat.le_of_ble_eq_true rfl, Nat.le_of_ble_eq_true rfl⟩ (fun v σ' H locs hF hd => ?_)
    rw [hF.2] at hd
    refine bf_top hF.1.symm ?_
    exact kret _ _ _ _ _ _ ⟨bf_so hf, rfl, hz⟩ hd dX0_placesBy_28
def fX0_feedsAll_33 (T : bf_WS) (k2 : Int32 → Option (Int32)) (x1 : Int32) (w33_2 : Int32) : Option (Int32) := bf_l (w33_2 + 1) fun x2_6 => k2 x2_6
def fX0_feedsAll_2b (T : bf_WS) (x1 : Int32) (k2 : Int32 → Option (Int32)) (v2_2 : Int32) : Option (Int32) := if ((bf_S T 0).1 0 12 0) ≤ v2_2 then (some 1) else (bf_b (fX0_placesBy T v2_2) fun r_2 => if r_2 = 0 then (fX0_feedsAll_33 T k2 x1 v2_2) else (bf_b (fX0_placesBy T v2_2) fun r_4 => if (r_4 &&& x1) = 0 then (some 0) else (fX0_feedsAll_33 T k2 x1 v2_2)))
def fX0_feedsAll_2 (T : bf_WS) (x1 : Int32) : Nat → Int32 → Option (Int32)
  | 0, _ => none
  | n + 1, v2_2 => fX0_feedsAll_2b T x1 (fX0_feedsAll_2 T x1 n) v2_2
def fX0_feedsAll (T : bf_WS) (x1 : Int32) : Option (Int32) := fX0_feedsAll_2 T x1 bf_fuel 0
set_option maxHeartbeats 4000000 in
theorem mX0_feedsAll (l : Launch) (G : bf_G) (ν : bf_V) (b : Nat) (T : bf_WS) (hz : bf_wok G ν b T) (x1 : Int32) {r : Int32} (hf : fX0_feedsAll T x1 = some r) : bf_MZ l G yX0_feedsAll cX0_feedsAll 3 (bf_rm 2) [.ref b, .int x1] (bf_pB G ν b T) (fun v σ' => v = r ∧ σ' = bf_pB G ν b T ∧ bf_wok G ν b T) := by
  refine bf_MZ.of rfl (Nat.le_of_ble_eq_true rfl) ?_
  intro p e s m below meth c' Q X hlk hnm kret hd ls hl
  have hx := X.1
  have hb := X.2.1
  have hml := X.2.2.1
  have hown := X.2.2.2.1
  have hts := X.2.2.2.2
  have hl : lv_has ls 3 [(0, .ref b), (1, .int x1)] := hl
  have L2 : ∀ (n2 : Nat) (v2_2 : Int32) (H : Heap) (locs : List Loc) (ls : Array Slot), fX0_feedsAll_2 T x1 n2 v2_2 = some r → bf_wok G ν b T → bf_Dy G s H locs (bf_pB G ν b T) → lv_has ls 3 [(0, .ref b), (1, .int x1), (2, .int v2_2)] → W p l e (bf_rm 2) s m ([.ref b, .int x1] : List Value).toArray below meth c' H locs 0 0 Q (F0 m 2 ls []) := by
    intro n2
    induction n2 with
    | zero =>
      intro v2_2 H locs ls hf hz hd hl
      exact absurd (show (none : Option (Int32)) = some r from hf) (by intro h; cases h)
    | succ n2 ih2 =>
      intro v2_2 H locs ls hf hz hd hl
      have hf : fX0_feedsAll_2b T x1 (fX0_feedsAll_2 T x1 n2) v2_2 = some r := hf
      unfold fX0_feedsAll_2b at hf
      have J33 : ∀ (w33_2 : Int32) (H : Heap) (locs : List Loc) (ls : Array Slot), fX0_feedsAll_33 T (fX0_feedsAll_2 T x1 n2) x1 w33_2 = some r → bf_wok G ν b T → bf_Dy G s H locs (bf_pB G ν b T) → lv_has ls 3 [(0, .ref b), (1, .int x1), (2, .int w33_2)] → W p l e (bf_rm 2) s m ([.ref b, .int x1] : List Value).toArray below meth c' H locs 0 0 Q (F0 m 33 ls []) := by
        intro w33_2 H locs ls hf hz hd hl
        unfold fX0_feedsAll_33 at hf
        obtain ⟨x2_7, ex2_7, hf⟩ := bf_l_e hf
        refine lv_iinc (v := x2_7) (lv' := [(2, .int x2_7), (0, .ref b), (1, .int x1)]) hx hb dX0_feedsAll_33 hl (k := 2) rfl (by rw [ex2_7]; rfl) (by decide) rfl (fun ls hl => ?_)
        refine lv_goto (tgt := 2) hx hb dX0_feedsAll_36 (by decide) ?_
        exact ih2 x2_7 _ _ _ hf hz hd (lv_sub hl [1, 2, 0] rfl)
      refine lv_iload_n hx hb dX0_feedsAll_2 rfl (lv_at hl 2 rfl) ?_
      refine lv_aload_n hx hb dX0_feedsAll_3 rfl (lv_at hl 0 rfl) ?_
      refine bf_yG (v := .ref (bf_ca b 0)) X hd 4 (by decide) (Or.inl q430) rfl dX0_feedsAll_4 ?_
      refine bf_rC X hd (bf_pB_hC G ν b T (i := 0) (by decide)) 12 (by decide) (Or.inr ⟨_, q327⟩) rfl dX0_feedsAll_7 ?_
      refine lv_icmp_ge (tgt := 39) hx hb dX0_feedsAll_10 (by decide) (fun c_8 => ?_) (fun c_8 => ?_)
      · have hf := bf_it hf c_8
        refine lv_iconst (v := 1) hx hb dX0_feedsAll_39 (by decide) ?_
        exact kret _ _ _ _ _ _ ⟨bf_so hf, rfl, hz⟩ (Or.inr rfl) hd dX0_feedsAll_40
      · have hf := bf_ie hf c_8
        refine lv_aload_n hx hb dX0_feedsAll_13 rfl (lv_at hl 0 rfl) ?_
        refine lv_iload_n hx hb dX0_feedsAll_14 rfl (lv_at hl 2 rfl) ?_
        obtain ⟨r_9, er_9, hf⟩ := bf_b_some hf
        refine bf_bci (n := 1) (As := [.int v2_2]) (rest := []) X hd (mX0_placesBy l G ν b T hz v2_2 er_9) (lw_V q1306 q1308 qs51 q148 q1309) (by decide +kernel) ⟨Nat.le_of_ble_eq_true rfl, Nat.le_of_ble_eq_true rfl⟩ rfl hl.1 rfl (Nat.le_of_ble_eq_true rfl) dX0_feedsAll_15 ⟨Nat.le_of_ble_eq_true rfl, Nat.le_of_ble_eq_true rfl⟩ (fun H locs hz hd => ?_)
        refine lv_if_eq (tgt := 33) hx hb dX0_feedsAll_18 (by decide) (fun c_10 => ?_) (fun c_10 => ?_)
        · have hf := bf_it hf c_10
          exact J33 v2_2 _ _ _ hf hz hd (lv_sub hl [0, 1, 2] rfl)
        · have hf := bf_ie hf c_10
          refine lv_aload_n hx hb dX0_feedsAll_21 rfl (lv_at hl 0 rfl) ?_
          refine lv_iload_n hx hb dX0_feedsAll_22 rfl (lv_at hl 2 rfl) ?_
          obtain ⟨r_11, er_11, hf⟩ := bf_b_some hf
          refine bf_bci (n := 1) (As := [.int v2_2]) (rest := []) X hd (mX0_placesBy l G ν b T hz v2_2 er_11) (lw_V q1306 q1308 qs51 q148 q1309) (by decide +kernel) ⟨Nat.le_of_ble_eq_true rfl, Nat.le_of_ble_eq_true rfl⟩ rfl hl.1 rfl (Nat.le_of_ble_eq_true rfl) dX0_feedsAll_23 ⟨Nat.le_of_ble_eq_true rfl, Nat.le_of_ble_eq_true rfl⟩ (fun H locs hz hd => ?_)
          refine lv_iload_n hx hb dX0_feedsAll_26 rfl (lv_at hl 1 rfl) ?_
          refine lv_iand hx hb dX0_feedsAll_27 ?_
          refine lv_if_ne (tgt := 33) hx hb dX0_feedsAll_28 (by decide) (fun c_12 => ?_) (fun c_12 => ?_)
          · have hf := bf_ie hf c_12
            exact J33 v2_2 _ _ _ hf hz hd (lv_sub hl [0, 1, 2] rfl)
          · have hf := bf_it hf c_12
            refine lv_iconst (v := 0) hx hb dX0_feedsAll_31 (by decide) ?_
            exact kret _ _ _ _ _ _ ⟨bf_so hf, rfl, hz⟩ (Or.inl rfl) hd dX0_feedsAll_32
  unfold fX0_feedsAll at hf
  refine lv_iconst (v := 0) hx hb dX0_feedsAll_0 (by decide) ?_
  refine lv_istore_n (lv' := [(2, .int 0), (0, .ref b), (1, .int x1)]) hx hb dX0_feedsAll_1 rfl hl (by decide) rfl (fun ls hl => ?_)
  exact L2 bf_fuel 0 _ _ _ hf hz hd (lv_sub hl [1, 2, 0] rfl)
def fX0_feeds_54 (T : bf_WS) (x1 : Int32) (w54_2 : Int32) : Option (Int32) := if x1 = 0 then (some (fJ13_bitCount w54_2)) else (some w54_2)
def fX0_feeds_48 (T : bf_WS) (k15 : Int32 → Int32 → Option (Int32)) (x1 : Int32) (w48_2 : Int32) (w48_3 : Int32) : Option (Int32) := bf_l (w48_3 + 1) fun x3_7 => k15 w48_2 x3_7
def fX0_feeds_38 (T : bf_WS) (k15 : Int32 → Int32 → Option (Int32)) (x1 : Int32) (w38_2 : Int32) (w38_3 : Int32) : Option (Int32) := bf_b (fX0_feedsAll T w38_3) fun r_4 => if r_4 = 0 then (fX0_feeds_48 T k15 x1 w38_2 w38_3) else (fX0_feeds_48 T k15 x1 w38_3 w38_3)
def fX0_feeds_15b (T : bf_WS) (x1 : Int32) (k15 : Int32 → Int32 → Option (Int32)) (v15_2 : Int32) (v15_3 : Int32) : Option (Int32) := if 1024 ≤ v15_3 then (fX0_feeds_54 T x1 v15_2) else (if v15_2 = (-1) then (fX0_feeds_38 T k15 x1 v15_2 v15_3) else (if (fJ13_bitCount v15_2) ≤ (fJ13_bitCount v15_3) then (fX0_feeds_48 T k15 x1 v15_2 v15_3) else (fX0_feeds_38 T k15 x1 v15_2 v15_3)))
def fX0_feeds_15 (T : bf_WS) (x1 : Int32) : Nat → Int32 → Int32 → Option (Int32)
  | 0, _, _ => none
  | n + 1, v15_2, v15_3 => fX0_feeds_15b T x1 (fX0_feeds_15 T x1 n) v15_2 v15_3
def fX0_feeds (T : bf_WS) (x1 : Int32) : Option (Int32) := if (fX0_isIn x1 0 1) = 0 then (some (-1)) else (fX0_feeds_15 T x1 bf_fuel (-1) 0)
set_option maxHeartbeats 4000000 in
theorem mX0_feeds (l : Launch) (G : bf_G) (ν : bf_V) (b : Nat) (T : bf_WS) (hz : bf_wok G ν b T) (x1 : Int32) {r : Int32} (hf : fX0_feeds T x1 = some r) : bf_MI l G yX0_feeds cX0_feeds 4 (bf_rm 3) [.ref b, .int x1] (bf_pB G ν b T) (fun v σ' => v = r ∧ σ' = bf_pB G ν b T ∧ bf_wok G ν b T) := by
  refine bf_MI.of rfl (Nat.le_of_ble_eq_true rfl) ?_
  intro p e s m below meth c' Q X hlk hnm kret hd ls hl
  have hx := X.1
  have hb := X.2.1
  have hml := X.2.2.1
  have hown := X.2.2.2.1
  have hts := X.2.2.2.2
  have hl : lv_has ls 4 [(0, .ref b), (1, .int x1)] := hl
  have J54 : ∀ (w54_2 : Int32) (H : Heap) (locs : List Loc) (ls : Array Slot), fX0_feeds_54 T x1 w54_2 = some r → bf_wok G ν b T → bf_Dy G s H locs (bf_pB G ν b T) → lv_has ls 4 [(1, .int x1), (2, .int w54_2)] → W p l e (bf_rm 3) s m ([.ref b, .int x1] : List Value).toArray below meth c' H locs 0 0 Q (F0 m 54 ls []) := by
    intro w54_2 H locs ls hf hz hd hl
    unfold fX0_feeds_54 at hf
    refine lv_iload_n hx hb dX0_feeds_54 rfl (lv_at hl 0 rfl) ?_
    refine lv_if_ne (tgt := 65) hx hb dX0_feeds_55 (by decide) (fun c_11 => ?_) (fun c_11 => ?_)
    · have hf := bf_ie hf c_11
      refine lv_iload_n hx hb dX0_feeds_65 rfl (lv_at hl 1 rfl) ?_
      exact kret _ _ _ _ _ _ ⟨bf_so hf, rfl, hz⟩ hd dX0_feeds_66
    · have hf := bf_it hf c_11
      refine lv_iload_n hx hb dX0_feeds_58 rfl (lv_at hl 1 rfl) ?_
      refine bf_cSi (n := 1) (As := [.int w54_2]) (rest := []) X hd (mJ13_bitCount l G _ w54_2 rfl) (lw_S q1296 q1297 q182 q1298) (by decide +kernel) ⟨Nat.le_of_ble_eq_true rfl, Nat.le_of_ble_eq_true rfl⟩ rfl hl.1 rfl (Nat.le_of_ble_eq_true rfl) dX0_feeds_59 ⟨Nat.le_of_ble_eq_true rfl, Nat.le_of_ble_eq_true rfl⟩ (fun r σ' H locs hF hd => ?_)
      rw [hF.2] at hd
      refine bf_top hF.1.symm ?_
      refine lv_goto (tgt := 66) hx hb dX0_feeds_62 (by decide) ?_
      exact kret _ _ _ _ _ _ ⟨bf_so hf, rfl, hz⟩ hd dX0_feeds_66
  have L15 : ∀ (n15 : Nat) (v15_2 : Int32) (v15_3 : Int32) (H : Heap) (locs : List Loc) (ls : Array Slot), fX0_feeds_15 T x1 n15 v15_2 v15_3 = some r → bf_wok G ν b T → bf_Dy G s H locs (bf_pB G ν b T) → lv_has ls 4 [(0, .ref b), (1, .int x1), (2, .int v15_2), (3, .int v15_3)] → W p l e (bf_rm 3) s m ([.ref b, .int x1] : List Value).toArray below meth c' H locs 0 0 Q (F0 m 15 ls []) := by
    intro n15
    induction n15 with
    | zero =>
      intro v15_2 v15_3 H locs ls hf hz hd hl
      exact absurd (show (none : Option (Int32)) = some r from hf) (by intro h; cases h)
    | succ n15 ih15 =>
      intro v15_2 v15_3 H locs ls hf hz hd hl
      have hf : fX0_feeds_15b T x1 (fX0_feeds_15 T x1 n15) v15_2 v15_3 = some r := hf
      unfold fX0_feeds_15b at hf
      have J48 : ∀ (w48_2 : Int32) (w48_3 : Int32) (H : Heap) (locs : List Loc) (ls : Array Slot), fX0_feeds_48 T (fX0_feeds_15 T x1 n15) x1 w48_2 w48_3 = some r → bf_wok G ν b T → bf_Dy G s H locs (bf_pB G ν b T) → lv_has ls 4 [(0, .ref b), (1, .int x1), (2, .int w48_2), (3, .int w48_3)] → W p l e (bf_rm 3) s m ([.ref b, .int x1] : List Value).toArray below meth c' H locs 0 0 Q (F0 m 48 ls []) := by
        intro w48_2 w48_3 H locs ls hf hz hd hl
        unfold fX0_feeds_48 at hf
        obtain ⟨x3_12, ex3_12, hf⟩ := bf_l_e hf
        refine lv_iinc (v := x3_12) (lv' := [(3, .int x3_12), (0, .ref b), (1, .int x1), (2, .int w48_2)]) hx hb dX0_feeds_48 hl (k := 3) rfl (by rw [ex3_12]; rfl) (by decide) rfl (fun ls hl => ?_)
        refine lv_goto (tgt := 15) hx hb dX0_feeds_51 (by decide) ?_
        exact ih15 w48_2 x3_12 _ _ _ hf hz hd (lv_sub hl [1, 2, 3, 0] rfl)
      have J38 : ∀ (w38_2 : Int32) (w38_3 : Int32) (H : Heap) (locs : List Loc) (ls : Array Slot), fX0_feeds_38 T (fX0_feeds_15 T x1 n15) x1 w38_2 w38_3 = some r → bf_wok G ν b T → bf_Dy G s H locs (bf_pB G ν b T) → lv_has ls 4 [(0, .ref b), (1, .int x1), (2, .int w38_2), (3, .int w38_3)] → W p l e (bf_rm 3) s m ([.ref b, .int x1] : List Value).toArray below meth c' H locs 0 0 Q (F0 m 38 ls []) := by
        intro w38_2 w38_3 H locs ls hf hz hd hl
        unfold fX0_feeds_38 at hf
        refine lv_aload_n hx hb dX0_feeds_38 rfl (lv_at hl 0 rfl) ?_
        refine lv_iload_n hx hb dX0_feeds_39 rfl (lv_at hl 3 rfl) ?_
        obtain ⟨r_13, er_13, hf⟩ := bf_b_some hf
        refine bf_bcz (n := 1) (As := [.int w38_3]) (rest := []) X hd (mX0_feedsAll l G ν b T hz w38_3 er_13) (lw_V q1302 q1304 qs50 q148 q1305) (by decide +kernel) ⟨Nat.le_of_ble_eq_true rfl, Nat.le_of_ble_eq_true rfl⟩ rfl hl.1 rfl (Nat.le_of_ble_eq_true rfl) dX0_feeds_40 ⟨Nat.le_of_ble_eq_true rfl, Nat.le_of_ble_eq_true rfl⟩ (fun H locs hz z_14 hd => ?_)
        refine lv_if_eq (tgt := 48) hx hb dX0_feeds_43 (by decide) (fun c_15 => ?_) (fun c_15 => ?_)
        · have hf := bf_it hf c_15
          exact J48 w38_2 w38_3 _ _ _ hf hz hd (lv_sub hl [0, 1, 2, 3] rfl)
        · have hf := bf_ie hf c_15
          refine lv_iload_n hx hb dX0_feeds_46 rfl (lv_at hl 3 rfl) ?_
          refine lv_istore_n (lv' := [(2, .int w38_3), (0, .ref b), (1, .int x1), (3, .int w38_3)]) hx hb dX0_feeds_47 rfl hl (by decide) rfl (fun ls hl => ?_)
          exact J48 w38_3 w38_3 _ _ _ hf hz hd (lv_sub hl [1, 2, 0, 3] rfl)
      refine lv_iload_n hx hb dX0_feeds_15 rfl (lv_at hl 3 rfl) ?_
      refine lv_sipush (v := 1024) hx hb dX0_feeds_16 (by decide) ?_
      refine lv_icmp_ge (tgt := 54) hx hb dX0_feeds_19 (by decide) (fun c_16 => ?_) (fun c_16 => ?_)
      · have hf := bf_it hf c_16
        exact J54 v15_2 _ _ _ hf hz hd (lv_sub hl [1, 2] rfl)
      · have hf := bf_ie hf c_16
        refine lv_iload_n hx hb dX0_feeds_22 rfl (lv_at hl 2 rfl) ?_
        refine lv_iconst (v := (-1)) hx hb dX0_feeds_23 (by decide) ?_
        refine lv_icmp_eq (tgt := 38) hx hb dX0_feeds_24 (by decide) (fun c_17 => ?_) (fun c_17 => ?_)
        · have hf := bf_it hf c_17
          exact J38 v15_2 v15_3 _ _ _ hf hz hd (lv_sub hl [0, 1, 2, 3] rfl)
        · have hf := bf_ie hf c_17
          refine lv_iload_n hx hb dX0_feeds_27 rfl (lv_at hl 3 rfl) ?_
          refine bf_cSi (n := 1) (As := [.int v15_3]) (rest := []) X hd (mJ13_bitCount l G _ v15_3 rfl) (lw_S q1296 q1297 q182 q1298) (by decide +kernel) ⟨Nat.le_of_ble_eq_true rfl, Nat.le_of_ble_eq_true rfl⟩ rfl hl.1 rfl (Nat.le_of_ble_eq_true rfl) dX0_feeds_28 ⟨Nat.le_of_ble_eq_true rfl, Nat.le_of_ble_eq_true rfl⟩ (fun r σ' H locs hF hd => ?_)
          rw [hF.2] at hd
          refine bf_top hF.1.symm ?_
          refine lv_iload_n hx hb dX0_feeds_31 rfl (lv_at hl 2 rfl) ?_
          refine bf_cSi (n := 1) (As := [.int v15_2]) (rest := [.int (fJ13_bitCount v15_3)]) X hd (mJ13_bitCount l G _ v15_2 rfl) (lw_S q1296 q1297 q182 q1298) (by decide +kernel) ⟨Nat.le_of_ble_eq_true rfl, Nat.le_of_ble_eq_true rfl⟩ rfl hl.1 rfl (Nat.le_of_ble_eq_true rfl) dX0_feeds_32 ⟨Nat.le_of_ble_eq_true rfl, Nat.le_of_ble_eq_true rfl⟩ (fun r σ' H locs hF hd => ?_)
          rw [hF.2] at hd
          refine bf_top hF.1.symm ?_
          refine lv_icmp_ge (tgt := 48) hx hb dX0_feeds_35 (by decide) (fun c_18 => ?_) (fun c_18 => ?_)
          · have hf := bf_it hf c_18
            exact J48 v15_2 v15_3 _ _ _ hf hz hd (lv_sub hl [0, 1, 2, 3] rfl)
          · have hf := bf_ie hf c_18
            exact J38 v15_2 v15_3 _ _ _ hf hz hd (lv_sub hl [0, 1, 2, 3] rfl)
  unfold fX0_feeds at hf
  refine lv_iload_n hx hb dX0_feeds_0 rfl (lv_at hl 1 rfl) ?_
  refine lv_iconst (v := 0) hx hb dX0_feeds_1 (by decide) ?_
  refine lv_iconst (v := 1) hx hb dX0_feeds_2 (by decide) ?_
  refine bf_cSz (n := 3) (As := [.int x1, .int 0, .int 1]) (rest := []) X hd (mX0_isIn l G _ x1 0 1 rfl) (lw_S q473 q474 q148 q475) (by decide +kernel) ⟨Nat.le_of_ble_eq_true rfl, Nat.le_of_ble_eq_true rfl⟩ rfl hl.1 rfl (Nat.le_of_ble_eq_true rfl) dX0_feeds_3 ⟨Nat.le_of_ble_eq_true rfl, Nat.le_of_ble_eq_true rfl⟩ (fun r σ' H locs hF z_19 hd => ?_)
  rw [hF.2] at hd
  refine bf_top hF.1.symm ?_
  rw [hF.1] at z_19
  refine lv_if_ne (tgt := 11) hx hb dX0_feeds_6 (by decide) (fun c_20 => ?_) (fun c_20 => ?_)
  · have hf := bf_ie hf c_20
    refine lv_iconst (v := (-1)) hx hb dX0_feeds_11 (by decide) ?_
    refine lv_istore_n (lv' := [(2, .int (-1)), (0, .ref b), (1, .int x1)]) hx hb dX0_feeds_12 rfl hl (by decide) rfl (fun ls hl => ?_)
    refine lv_iconst (v := 0) hx hb dX0_feeds_13 (by decide) ?_
    refine lv_istore_n (lv' := [(3, .int 0), (2, .int (-1)), (0, .ref b), (1, .int x1)]) hx hb dX0_feeds_14 rfl hl (by decide) rfl (fun ls hl => ?_)
    exact L15 bf_fuel (-1) 0 _ _ _ hf hz hd (lv_sub hl [2, 3, 1, 0] rfl)
  · have hf := bf_it hf c_20
    refine lv_iconst (v := (-1)) hx hb dX0_feeds_9 (by decide) ?_
    exact kret _ _ _ _ _ _ ⟨bf_so hf, rfl, hz⟩ hd dX0_feeds_10
