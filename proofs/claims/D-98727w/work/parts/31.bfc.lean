set_option maxRecDepth 100000
def fX0_core (T : bf_WS) (x1 x2 : Int32) : Option (Int32 × bf_WS) := if x1 = (-1) then (bf_l (bf_uS T 0 (bf_u3 (bf_S T 0) 0 22 0 0)) fun T_12 => some (0, T_12)) else (if (fX0_isParty T x1) = 0 then (some ((-1), T)) else (if (fX0_isPlace x2) = 0 then (some ((-1), T)) else (if ((bf_S T 0).1 0 22 0) = 8 then (some ((-1), T)) else (bf_c (bf_in ((bf_S T 0).1 0 22 0) 8) <| bf_l (bf_uS T 0 (bf_u3 (bf_S T 0) 6 ((bf_S T 0).1 0 22 0).toNatClampNeg 0 x1)) fun T_8 => bf_c (bf_in ((bf_S T_8 0).1 0 22 0) 8) <| bf_l (bf_uS T_8 0 (bf_u3 (bf_S T_8 0) 7 ((bf_S T_8 0).1 0 22 0).toNatClampNeg 0 x2)) fun T_10 => bf_l (bf_uS T_10 0 (bf_u3 (bf_S T_10 0) 0 22 0 (((bf_S T_10 0).1 0 22 0) + 1))) fun T_11 => some (((bf_S T_11 0).1 0 22 0), T_11)))))
set_option maxHeartbeats 4000000 in
theorem mX0_core (l : Launch) (G : bf_G) (ν : bf_V) (b : Nat) (T : bf_WS) (hz : bf_wok G ν b T) (x1 x2 : Int32) {r : Int32} {T' : bf_WS} (hf : fX0_core T x1 x2 = some (r, T')) : bf_MI l G yX0_core cX0_core 3 (bf_rm 3) [.ref b, .int x1, .int x2] (bf_pB G ν b T) (fun v σ' => v = r ∧ σ' = bf_pB G ν b T' ∧ bf_wok G ν b T') := by
  refine bf_MI.of rfl (Nat.le_of_ble_eq_true rfl) ?_
  intro p e s m below meth c' Q X hlk hnm kret hd ls hl
  have hx := X.1
  have hb := X.2.1
  have hml := X.2.2.1
  have hown := X.2.2.2.1
  have hts := X.2.2.2.2
  have hl : lv_has ls 3 [(0, .ref b), (1, .int x1), (2, .int x2)] := hl
  unfold fX0_core at hf
  refine lv_iload_n hx hb dX0_core_0 rfl (lv_at hl 1 rfl) ?_
  refine lv_iconst (v := (-1)) hx hb dX0_core_1 (by decide) ?_
  refine lv_icmp_ne (tgt := 15) hx hb dX0_core_2 (by decide) (fun c_13 => ?_) (fun c_13 => ?_)
  · have hf := bf_ie hf c_13
    refine lv_aload_n hx hb dX0_core_15 rfl (lv_at hl 0 rfl) ?_
    refine lv_iload_n hx hb dX0_core_16 rfl (lv_at hl 1 rfl) ?_
    refine bf_bcz (n := 1) (As := [.int x1]) (rest := []) X hd (mX0_isParty l G ν b T hz x1 rfl) (lw_V q1014 q1016 qs30 q148 q1017) (by decide +kernel) ⟨Nat.le_of_ble_eq_true rfl, Nat.le_of_ble_eq_true rfl⟩ rfl hl.1 rfl (Nat.le_of_ble_eq_true rfl) dX0_core_17 ⟨Nat.le_of_ble_eq_true rfl, Nat.le_of_ble_eq_true rfl⟩ (fun H locs hz z_14 hd => ?_)
    refine lv_if_eq (tgt := 42) hx hb dX0_core_20 (by decide) (fun c_15 => ?_) (fun c_15 => ?_)
    · have hf := bf_it hf c_15
      refine lv_iconst (v := (-1)) hx hb dX0_core_42 (by decide) ?_
      exact kret _ _ _ _ _ _ ⟨(bf_pr hf).1, congrArg (bf_pB G ν b) (bf_pr hf).2, (bf_pr hf).2 ▸ hz⟩ hd dX0_core_43
    · have hf := bf_ie hf c_15
      refine lv_iload_n hx hb dX0_core_23 rfl (lv_at hl 2 rfl) ?_
      refine bf_cSz (n := 1) (As := [.int x2]) (rest := []) X hd (mX0_isPlace l G _ x2 rfl) (lw_S q1030 q1031 q148 q1032) (by decide +kernel) ⟨Nat.le_of_ble_eq_true rfl, Nat.le_of_ble_eq_true rfl⟩ rfl hl.1 rfl (Nat.le_of_ble_eq_true rfl) dX0_core_24 ⟨Nat.le_of_ble_eq_true rfl, Nat.le_of_ble_eq_true rfl⟩ (fun r σ' H locs hF z_16 hd => ?_)
      rw [hF.2] at hd
      refine bf_top hF.1.symm ?_
      rw [hF.1] at z_16
      refine lv_if_eq (tgt := 42) hx hb dX0_core_27 (by decide) (fun c_17 => ?_) (fun c_17 => ?_)
      · have hf := bf_it hf c_17
        refine lv_iconst (v := (-1)) hx hb dX0_core_42 (by decide) ?_
        exact kret _ _ _ _ _ _ ⟨(bf_pr hf).1, congrArg (bf_pB G ν b) (bf_pr hf).2, (bf_pr hf).2 ▸ hz⟩ hd dX0_core_43
      · have hf := bf_ie hf c_17
        refine lv_aload_n hx hb dX0_core_30 rfl (lv_at hl 0 rfl) ?_
        refine bf_yG (v := .ref (bf_ca b 0)) X hd 4 (by decide) (Or.inl q430) rfl dX0_core_31 ?_
        refine bf_rC X hd (bf_pB_hC G ν b T (i := 0) (by decide)) 22 (by decide) (Or.inr ⟨_, q348⟩) rfl dX0_core_34 ?_
        refine lv_bipush (v := 8) hx hb dX0_core_37 (by decide) ?_
        refine lv_icmp_ne (tgt := 44) hx hb dX0_core_39 (by decide) (fun c_18 => ?_) (fun c_18 => ?_)
        · have hf := bf_ie hf c_18
          refine lv_aload_n hx hb dX0_core_44 rfl (lv_at hl 0 rfl) ?_
          refine bf_yG (v := .ref (bf_ca b 0)) X hd 4 (by decide) (Or.inl q430) rfl dX0_core_45 ?_
          refine bf_rC (v := .ref (bf_ca b 0 + 155)) X hd (bf_pB_hC G ν b T (i := 0) (by decide)) 4 (by decide) (Or.inr ⟨_, q309⟩) rfl dX0_core_48 ?_
          refine lv_aload_n hx hb dX0_core_51 rfl (lv_at hl 0 rfl) ?_
          refine bf_yG (v := .ref (bf_ca b 0)) X hd 4 (by decide) (Or.inl q430) rfl dX0_core_52 ?_
          refine bf_rC X hd (bf_pB_hC G ν b T (i := 0) (by decide)) 22 (by decide) (Or.inr ⟨_, q348⟩) rfl dX0_core_55 ?_
          refine lv_iload_n hx hb dX0_core_58 rfl (lv_at hl 1 rfl) ?_
          obtain ⟨g_19, hf⟩ := bf_c_some hf
          refine bf_s6 X (bf_toC (i := 0) hd (by decide)) g_19 dX0_core_59 (fun H locs hd => ?_)
          have hd := bf_fromC (by decide) hd
          obtain ⟨T_20, eT_20, hf⟩ := bf_l_e hf
          have hd := hd.of (congrArg (bf_pB G ν b) eT_20.symm)
          have hz := bf_wok_uS hz eT_20
          refine lv_aload_n hx hb dX0_core_60 rfl (lv_at hl 0 rfl) ?_
          refine bf_yG (v := .ref (bf_ca b 0)) X hd 4 (by decide) (Or.inl q430) rfl dX0_core_61 ?_
          refine bf_rC (v := .ref (bf_ca b 0 + 156)) X hd (bf_pB_hC G ν b T_20 (i := 0) (by decide)) 5 (by decide) (Or.inr ⟨_, q311⟩) rfl dX0_core_64 ?_
          refine lv_aload_n hx hb dX0_core_67 rfl (lv_at hl 0 rfl) ?_
          refine bf_yG (v := .ref (bf_ca b 0)) X hd 4 (by decide) (Or.inl q430) rfl dX0_core_68 ?_
          refine bf_rC X hd (bf_pB_hC G ν b T_20 (i := 0) (by decide)) 22 (by decide) (Or.inr ⟨_, q348⟩) rfl dX0_core_71 ?_
          refine lv_iload_n hx hb dX0_core_74 rfl (lv_at hl 2 rfl) ?_
          obtain ⟨g_21, hf⟩ := bf_c_some hf
          refine bf_s7 X (bf_toC (i := 0) hd (by decide)) g_21 dX0_core_75 (fun H locs hd => ?_)
          have hd := bf_fromC (by decide) hd
          obtain ⟨T_22, eT_22, hf⟩ := bf_l_e hf
          have hd := hd.of (congrArg (bf_pB G ν b) eT_22.symm)
          have hz := bf_wok_uS hz eT_22
          refine lv_aload_n hx hb dX0_core_76 rfl (lv_at hl 0 rfl) ?_
          refine bf_yG (v := .ref (bf_ca b 0)) X hd 4 (by decide) (Or.inl q430) rfl dX0_core_77 ?_
          refine lv_dup hx hb dX0_core_80 rfl ?_
          refine bf_rC X hd (bf_pB_hC G ν b T_22 (i := 0) (by decide)) 22 (by decide) (Or.inr ⟨_, q348⟩) rfl dX0_core_81 ?_
          refine lv_iconst (v := 1) hx hb dX0_core_84 (by decide) ?_
          refine lv_iadd hx hb dX0_core_85 ?_
          refine bf_xC X (bf_toC (i := 0) hd (by decide)) 22 (by decide) ⟨by decide, rfl, rfl⟩ (Or.inr ⟨_, q348⟩) dX0_core_86 (fun H locs hd => ?_)
          have hd := bf_fromC (by decide) hd
          obtain ⟨T_23, eT_23, hf⟩ := bf_l_e hf
          have hd := hd.of (congrArg (bf_pB G ν b) eT_23.symm)
          have hz := bf_wok_uS hz eT_23
          refine lv_aload_n hx hb dX0_core_89 rfl (lv_at hl 0 rfl) ?_
          refine bf_yG (v := .ref (bf_ca b 0)) X hd 4 (by decide) (Or.inl q430) rfl dX0_core_90 ?_
          refine bf_rC X hd (bf_pB_hC G ν b T_23 (i := 0) (by decide)) 22 (by decide) (Or.inr ⟨_, q348⟩) rfl dX0_core_93 ?_
          exact kret _ _ _ _ _ _ ⟨(bf_pr hf).1, congrArg (bf_pB G ν b) (bf_pr hf).2, (bf_pr hf).2 ▸ hz⟩ hd dX0_core_96
        · have hf := bf_it hf c_18
          refine lv_iconst (v := (-1)) hx hb dX0_core_42 (by decide) ?_
          exact kret _ _ _ _ _ _ ⟨(bf_pr hf).1, congrArg (bf_pB G ν b) (bf_pr hf).2, (bf_pr hf).2 ▸ hz⟩ hd dX0_core_43
  · have hf := bf_it hf c_13
    refine lv_aload_n hx hb dX0_core_5 rfl (lv_at hl 0 rfl) ?_
    refine bf_yG (v := .ref (bf_ca b 0)) X hd 4 (by decide) (Or.inl q430) rfl dX0_core_6 ?_
    refine lv_iconst (v := 0) hx hb dX0_core_9 (by decide) ?_
    refine bf_xC X (bf_toC (i := 0) hd (by decide)) 22 (by decide) ⟨by decide, rfl, rfl⟩ (Or.inr ⟨_, q348⟩) dX0_core_10 (fun H locs hd => ?_)
    have hd := bf_fromC (by decide) hd
    obtain ⟨T_24, eT_24, hf⟩ := bf_l_e hf
    have hd := hd.of (congrArg (bf_pB G ν b) eT_24.symm)
    have hz := bf_wok_uS hz eT_24
    refine lv_iconst (v := 0) hx hb dX0_core_13 (by decide) ?_
    exact kret _ _ _ _ _ _ ⟨(bf_pr hf).1, congrArg (bf_pB G ν b) (bf_pr hf).2, (bf_pr hf).2 ▸ hz⟩ hd dX0_core_14
def fX0_canHaveEaten_2b (T : bf_WS) (x1 : Int32) (k2 : Int32 → Option (Int32)) (v2_2 : Int32) : Option (Int32) := if ((bf_S T 0).1 0 22 0) ≤ v2_2 then (some 1) else (bf_b (fX0_placesBy T x1) fun r_2 => bf_c (bf_in v2_2 8) <| if ((r_2 >>> (((bf_S T 0).1 7 v2_2.toNatClampNeg 0) &&& 31)) &&& 1) = 0 then (some 0) else (bf_c (bf_in x1 10) <| bf_c (bf_in v2_2 8) <| bf_c (bf_in ((bf_S T 0).1 6 v2_2.toNatClampNeg 0) 5) <| if ((bf_S T 0).1 4 x1.toNatClampNeg ((bf_S T 0).1 6 v2_2.toNatClampNeg 0).toNatClampNeg) = 0 then (some 0) else (bf_l (v2_2 + 1) fun x2_9 => k2 x2_9)))
def fX0_canHaveEaten_2 (T : bf_WS) (x1 : Int32) : Nat → Int32 → Option (Int32)
  | 0, _ => none
  | n + 1, v2_2 => fX0_canHaveEaten_2b T x1 (fX0_canHaveEaten_2 T x1 n) v2_2
def fX0_canHaveEaten (T : bf_WS) (x1 : Int32) : Option (Int32) := fX0_canHaveEaten_2 T x1 bf_fuel 0
set_option maxHeartbeats 4000000 in
theorem mX0_canHaveEaten (l : Launch) (G : bf_G) (ν : bf_V) (b : Nat) (T : bf_WS) (hz : bf_wok G ν b T) (x1 : Int32) {r : Int32} (hf : fX0_canHaveEaten T x1 = some r) : bf_MZ l G yX0_canHaveEaten cX0_canHaveEaten 3 (bf_rm 2) [.ref b, .int x1] (bf_pB G ν b T) (fun v σ' => v = r ∧ σ' = bf_pB G ν b T ∧ bf_wok G ν b T) := by
  refine bf_MZ.of rfl (Nat.le_of_ble_eq_true rfl) ?_
  intro p e s m below meth c' Q X hlk hnm kret hd ls hl
  have hx := X.1
  have hb := X.2.1
  have hml := X.2.2.1
  have hown := X.2.2.2.1
  have hts := X.2.2.2.2
  have hl : lv_has ls 3 [(0, .ref b), (1, .int x1)] := hl
  have L2 : ∀ (n2 : Nat) (v2_2 : Int32) (H : Heap) (locs : List Loc) (ls : Array Slot), fX0_canHaveEaten_2 T x1 n2 v2_2 = some r → bf_wok G ν b T → bf_Dy G s H locs (bf_pB G ν b T) → lv_has ls 3 [(0, .ref b), (1, .int x1), (2, .int v2_2)] → W p l e (bf_rm 2) s m ([.ref b, .int x1] : List Value).toArray below meth c' H locs 0 0 Q (F0 m 2 ls []) := by
    intro n2
    induction n2 with
    | zero =>
      intro v2_2 H locs ls hf hz hd hl
      exact absurd (show (none : Option (Int32)) = some r from hf) (by intro h; cases h)
    | succ n2 ih2 =>
      intro v2_2 H locs ls hf hz hd hl
      have hf : fX0_canHaveEaten_2b T x1 (fX0_canHaveEaten_2 T x1 n2) v2_2 = some r := hf
      unfold fX0_canHaveEaten_2b at hf
      refine lv_iload_n hx hb dX0_canHaveEaten_2 rfl (lv_at hl 2 rfl) ?_
      refine lv_aload_n hx hb dX0_canHaveEaten_3 rfl (lv_at hl 0 rfl) ?_
      refine bf_yG (v := .ref (bf_ca b 0)) X hd 4 (by decide) (Or.inl q430) rfl dX0_canHaveEaten_4 ?_
      refine bf_rC X hd (bf_pB_hC G ν b T (i := 0) (by decide)) 22 (by decide) (Or.inr ⟨_, q348⟩) rfl dX0_canHaveEaten_7 ?_
      refine lv_icmp_ge (tgt := 66) hx hb dX0_canHaveEaten_10 (by decide) (fun c_10 => ?_) (fun c_10 => ?_)
      · have hf := bf_it hf c_10
        refine lv_iconst (v := 1) hx hb dX0_canHaveEaten_66 (by decide) ?_
        exact kret _ _ _ _ _ _ ⟨bf_so hf, rfl, hz⟩ (Or.inr rfl) hd dX0_canHaveEaten_67
      · have hf := bf_ie hf c_10
        refine lv_aload_n hx hb dX0_canHaveEaten_13 rfl (lv_at hl 0 rfl) ?_
        refine lv_iload_n hx hb dX0_canHaveEaten_14 rfl (lv_at hl 1 rfl) ?_
        obtain ⟨r_11, er_11, hf⟩ := bf_b_some hf
        refine bf_bci (n := 1) (As := [.int x1]) (rest := []) X hd (mX0_placesBy l G ν b T hz x1 er_11) (lw_V q1306 q1308 qs51 q148 q1309) (by decide +kernel) ⟨Nat.le_of_ble_eq_true rfl, Nat.le_of_ble_eq_true rfl⟩ rfl hl.1 rfl (Nat.le_of_ble_eq_true rfl) dX0_canHaveEaten_15 ⟨Nat.le_of_ble_eq_true rfl, Nat.le_of_ble_eq_true rfl⟩ (fun H locs hz hd => ?_)
        refine lv_aload_n hx hb dX0_canHaveEaten_18 rfl (lv_at hl 0 rfl) ?_
        refine bf_yG (v := .ref (bf_ca b 0)) X hd 4 (by decide) (Or.inl q430) rfl dX0_canHaveEaten_19 ?_
        refine bf_rC (v := .ref (bf_ca b 0 + 156)) X hd (bf_pB_hC G ν b T (i := 0) (by decide)) 5 (by decide) (Or.inr ⟨_, q311⟩) rfl dX0_canHaveEaten_22 ?_
        refine lv_iload_n hx hb dX0_canHaveEaten_25 rfl (lv_at hl 2 rfl) ?_
        obtain ⟨g_12, hf⟩ := bf_c_some hf
        refine bf_iald X hd (bf_c156 (bf_pB_hC G ν b T (i := 0) (by decide))) g_12 dX0_canHaveEaten_26 ?_
        refine lv_ishr hx hb dX0_canHaveEaten_27 ?_
        refine lv_iconst (v := 1) hx hb dX0_canHaveEaten_28 (by decide) ?_
        refine lv_iand hx hb dX0_canHaveEaten_29 ?_
        refine lv_if_eq (tgt := 58) hx hb dX0_canHaveEaten_30 (by decide) (fun c_13 => ?_) (fun c_13 => ?_)
        · have hf := bf_it hf c_13
          refine lv_iconst (v := 0) hx hb dX0_canHaveEaten_58 (by decide) ?_
          exact kret _ _ _ _ _ _ ⟨bf_so hf, rfl, hz⟩ (Or.inl rfl) hd dX0_canHaveEaten_59
        · have hf := bf_ie hf c_13
          refine lv_aload_n hx hb dX0_canHaveEaten_33 rfl (lv_at hl 0 rfl) ?_
          refine bf_yG (v := .ref (bf_ca b 0)) X hd 4 (by decide) (Or.inl q430) rfl dX0_canHaveEaten_34 ?_
          refine bf_rC (v := .ref (bf_ca b 0 + 3)) X hd (bf_pB_hC G ν b T (i := 0) (by decide)) 2 (by decide) (Or.inr ⟨_, q305⟩) rfl dX0_canHaveEaten_37 ?_
          refine lv_iload_n hx hb dX0_canHaveEaten_40 rfl (lv_at hl 1 rfl) ?_
          obtain ⟨g_14, hf⟩ := bf_c_some hf
          refine bf_aald (v := .ref (bf_ca b 0 + 180 + 2 * x1.toNatClampNeg)) X hd (bf_c3 (bf_pB_hC G ν b T (i := 0) (by decide))) 4 rfl rfl g_14 rfl dX0_canHaveEaten_41 ?_
          refine bf_rE X hd (bf_pB_hC G ν b T (i := 0) (by decide)) (bf_in_lt g_14) (Or.inr ⟨_, q289⟩) dX0_canHaveEaten_42 ?_
          refine lv_aload_n hx hb dX0_canHaveEaten_45 rfl (lv_at hl 0 rfl) ?_
          refine bf_yG (v := .ref (bf_ca b 0)) X hd 4 (by decide) (Or.inl q430) rfl dX0_canHaveEaten_46 ?_
          refine bf_rC (v := .ref (bf_ca b 0 + 155)) X hd (bf_pB_hC G ν b T (i := 0) (by decide)) 4 (by decide) (Or.inr ⟨_, q309⟩) rfl dX0_canHaveEaten_49 ?_
          refine lv_iload_n hx hb dX0_canHaveEaten_52 rfl (lv_at hl 2 rfl) ?_
          obtain ⟨g_15, hf⟩ := bf_c_some hf
          refine bf_iald X hd (bf_c155 (bf_pB_hC G ν b T (i := 0) (by decide))) g_15 dX0_canHaveEaten_53 ?_
          obtain ⟨g_16, hf⟩ := bf_c_some hf
          refine bf_iald X hd (bf_cta (bf_pB_hC G ν b T (i := 0) (by decide)) (bf_in_lt g_14)) g_16 dX0_canHaveEaten_54 ?_
          refine lv_if_ne (tgt := 60) hx hb dX0_canHaveEaten_55 (by decide) (fun c_17 => ?_) (fun c_17 => ?_)
          · have hf := bf_ie hf c_17
            obtain ⟨x2_18, ex2_18, hf⟩ := bf_l_e hf
            refine lv_iinc (v := x2_18) (lv' := [(2, .int x2_18), (0, .ref b), (1, .int x1)]) hx hb dX0_canHaveEaten_60 hl (k := 2) rfl (by rw [ex2_18]; rfl) (by decide) rfl (fun ls hl => ?_)
            refine lv_goto (tgt := 2) hx hb dX0_canHaveEaten_63 (by decide) ?_
            exact ih2 x2_18 _ _ _ hf hz hd (lv_sub hl [1, 2, 0] rfl)
          · have hf := bf_it hf c_17
            refine lv_iconst (v := 0) hx hb dX0_canHaveEaten_58 (by decide) ?_
            exact kret _ _ _ _ _ _ ⟨bf_so hf, rfl, hz⟩ (Or.inl rfl) hd dX0_canHaveEaten_59
  unfold fX0_canHaveEaten at hf
  refine lv_iconst (v := 0) hx hb dX0_canHaveEaten_0 (by decide) ?_
  refine lv_istore_n (lv' := [(2, .int 0), (0, .ref b), (1, .int x1)]) hx hb dX0_canHaveEaten_1 rfl hl (by decide) rfl (fun ls hl => ?_)
  exact L2 bf_fuel 0 _ _ _ hf hz hd (lv_sub hl [1, 2, 0] rfl)
def fX0_greaterBy_60 (T : bf_WS) (x2 : Int32) (w60_3 : Int32) : Option (Int32) := some (bf_mmax w60_3 ((fJ13_bitCount x2) - w60_3))
def fX0_greaterBy_52 (T : bf_WS) (k5 : Int32 → Int32 → Option (Int32)) (x1 : Int32) (x2 : Int32) (w52_4 : Int32) (t52_0 : Int32) (t52_1 : Int32) : Option (Int32) := bf_l ((t52_1 + t52_0)) fun x3_6 => bf_l (w52_4 + 1) fun x4_7 => k5 x3_6 x4_7
def fX0_greaterBy_51 (T : bf_WS) (k5 : Int32 → Int32 → Option (Int32)) (x1 : Int32) (x2 : Int32) (w51_4 : Int32) (t51_0 : Int32) : Option (Int32) := fX0_greaterBy_52 T k5 x1 x2 w51_4 0 t51_0
def fX0_greaterBy_5b (T : bf_WS) (x1 : Int32) (x2 : Int32) (k5 : Int32 → Int32 → Option (Int32)) (v5_3 : Int32) (v5_4 : Int32) : Option (Int32) := if ((bf_S T 0).1 0 12 0) ≤ v5_4 then (fX0_greaterBy_60 T x2 v5_3) else (if ((x2 >>> (v5_4 &&& 31)) &&& 1) = 1 then (bf_c (bf_in v5_4 10) <| bf_c (bf_in x1 5) <| if ((bf_S T 0).1 4 v5_4.toNatClampNeg x1.toNatClampNeg) < 5 then (fX0_greaterBy_51 T k5 x1 x2 v5_4 v5_3) else (fX0_greaterBy_52 T k5 x1 x2 v5_4 1 v5_3)) else (fX0_greaterBy_51 T k5 x1 x2 v5_4 v5_3))
def fX0_greaterBy_5 (T : bf_WS) (x1 : Int32) (x2 : Int32) : Nat → Int32 → Int32 → Option (Int32)
  | 0, _, _ => none
  | n + 1, v5_3, v5_4 => fX0_greaterBy_5b T x1 x2 (fX0_greaterBy_5 T x1 x2 n) v5_3 v5_4
def fX0_greaterBy (T : bf_WS) (x1 x2 : Int32) : Option (Int32) := fX0_greaterBy_5 T x1 x2 bf_fuel 0 0
set_option maxHeartbeats 4000000 in
theorem mX0_greaterBy (l : Launch) (G : bf_G) (ν : bf_V) (b : Nat) (T : bf_WS) (hz : bf_wok G ν b T) (x1 x2 : Int32) {r : Int32} (hf : fX0_greaterBy T x1 x2 = some r) : bf_MI l G yX0_greaterBy cX0_greaterBy 5 (bf_rm 2) [.ref b, .int x1, .int x2] (bf_pB G ν b T) (fun v σ' => v = r ∧ σ' = bf_pB G ν b T ∧ bf_wok G ν b T) := by
  refine bf_MI.of rfl (Nat.le_of_ble_eq_true rfl) ?_
  intro p e s m below meth c' Q X hlk hnm kret hd ls hl
  have hx := X.1
  have hb := X.2.1
  have hml := X.2.2.1
  have hown := X.2.2.2.1
  have hts := X.2.2.2.2
  have hl : lv_has ls 5 [(0, .ref b), (1, .int x1), (2, .int x2)] := hl
  have J60 : ∀ (w60_3 : Int32) (H : Heap) (locs : List Loc) (ls : Array Slot), fX0_greaterBy_60 T x2 w60_3 = some r → bf_wok G ν b T → bf_Dy G s H locs (bf_pB G ν b T) → lv_has ls 5 [(2, .int x2), (3, .int w60_3)] → W p l e (bf_rm 2) s m ([.ref b, .int x1, .int x2] : List Value).toArray below meth c' H locs 0 0 Q (F0 m 60 ls []) := by
    intro w60_3 H locs ls hf hz hd hl
    unfold fX0_greaterBy_60 at hf
    refine lv_iload_n hx hb dX0_greaterBy_60 rfl (lv_at hl 1 rfl) ?_
    refine lv_iload_n hx hb dX0_greaterBy_61 rfl (lv_at hl 0 rfl) ?_
    refine bf_cSi (n := 1) (As := [.int x2]) (rest := [.int w60_3]) X hd (mJ13_bitCount l G _ x2 rfl) (lw_S q1296 q1297 q182 q1298) (by decide +kernel) ⟨Nat.le_of_ble_eq_true rfl, Nat.le_of_ble_eq_true rfl⟩ rfl hl.1 rfl (Nat.le_of_ble_eq_true rfl) dX0_greaterBy_62 ⟨Nat.le_of_ble_eq_true rfl, Nat.le_of_ble_eq_true rfl⟩ (fun r σ' H locs hF hd => ?_)
    rw [hF.2] at hd
    refine bf_top hF.1.symm ?_
    refine lv_iload_n hx hb dX0_greaterBy_65 rfl (lv_at hl 1 rfl) ?_
    refine lv_isub hx hb dX0_greaterBy_66 ?_
    refine va_mmax hx hb (hml.trans hl.1.symm) hown (hts _ q1330) (hts _ q836) (hts _ q157) (hts _ q837) (Nat.le_of_ble_eq_true rfl) (Nat.le_of_ble_eq_true rfl) (Nat.le_of_ble_eq_true rfl) (Nat.le_of_ble_eq_true rfl) dX0_greaterBy_67 ?_
    exact kret _ _ _ _ _ _ ⟨bf_so hf, rfl, hz⟩ hd dX0_greaterBy_70
  have L5 : ∀ (n5 : Nat) (v5_3 : Int32) (v5_4 : Int32) (H : Heap) (locs : List Loc) (ls : Array Slot), fX0_greaterBy_5 T x1 x2 n5 v5_3 v5_4 = some r → bf_wok G ν b T → bf_Dy G s H locs (bf_pB G ν b T) → lv_has ls 5 [(0, .ref b), (1, .int x1), (2, .int x2), (3, .int v5_3), (4, .int v5_4)] → W p l e (bf_rm 2) s m ([.ref b, .int x1, .int x2] : List Value).toArray below meth c' H locs 0 0 Q (F0 m 5 ls []) := by
    intro n5
    induction n5 with
    | zero =>
      intro v5_3 v5_4 H locs ls hf hz hd hl
      exact absurd (show (none : Option (Int32)) = some r from hf) (by intro h; cases h)
    | succ n5 ih5 =>
      intro v5_3 v5_4 H locs ls hf hz hd hl
      have hf : fX0_greaterBy_5b T x1 x2 (fX0_greaterBy_5 T x1 x2 n5) v5_3 v5_4 = some r := hf
      unfold fX0_greaterBy_5b at hf
      have J52 : ∀ (w52_4 : Int32) (t52_0 : Int32) (t52_1 : Int32) (H : Heap) (locs : List Loc) (ls : Array Slot), fX0_greaterBy_52 T (fX0_greaterBy_5 T x1 x2 n5) x1 x2 w52_4 t52_0 t52_1 = some r → bf_wok G ν b T → bf_Dy G s H locs (bf_pB G ν b T) → lv_has ls 5 [(0, .ref b), (1, .int x1), (2, .int x2), (4, .int w52_4)] → W p l e (bf_rm 2) s m ([.ref b, .int x1, .int x2] : List Value).toArray below meth c' H locs 0 0 Q (F0 m 52 ls [.int t52_0, .int t52_1]) := by
        intro w52_4 t52_0 t52_1 H locs ls hf hz hd hl
        unfold fX0_greaterBy_52 at hf
        refine lv_iadd hx hb dX0_greaterBy_52 ?_
        obtain ⟨x3_8, ex3_8, hf⟩ := bf_l_e hf
        refine bf_top ex3_8 ?_
        refine lv_istore_n (lv' := [(3, .int x3_8), (0, .ref b), (1, .int x1), (2, .int x2), (4, .int w52_4)]) hx hb dX0_greaterBy_53 rfl hl (by decide) rfl (fun ls hl => ?_)
        obtain ⟨x4_9, ex4_9, hf⟩ := bf_l_e hf
        refine lv_iinc (v := x4_9) (lv' := [(4, .int x4_9), (3, .int x3_8), (0, .ref b), (1, .int x1), (2, .int x2)]) hx hb dX0_greaterBy_54 hl (k := 4) rfl (by rw [ex4_9]; rfl) (by decide) rfl (fun ls hl => ?_)
        refine lv_goto (tgt := 5) hx hb dX0_greaterBy_57 (by decide) ?_
        exact ih5 x3_8 x4_9 _ _ _ hf hz hd (lv_sub hl [2, 3, 4, 1, 0] rfl)
      have J51 : ∀ (w51_4 : Int32) (t51_0 : Int32) (H : Heap) (locs : List Loc) (ls : Array Slot), fX0_greaterBy_51 T (fX0_greaterBy_5 T x1 x2 n5) x1 x2 w51_4 t51_0 = some r → bf_wok G ν b T → bf_Dy G s H locs (bf_pB G ν b T) → lv_has ls 5 [(0, .ref b), (1, .int x1), (2, .int x2), (4, .int w51_4)] → W p l e (bf_rm 2) s m ([.ref b, .int x1, .int x2] : List Value).toArray below meth c' H locs 0 0 Q (F0 m 51 ls [.int t51_0]) := by
        intro w51_4 t51_0 H locs ls hf hz hd hl
        unfold fX0_greaterBy_51 at hf
        refine lv_iconst (v := 0) hx hb dX0_greaterBy_51 (by decide) ?_
        exact J52 w51_4 0 t51_0 _ _ _ hf hz hd (lv_sub hl [0, 1, 2, 3] rfl)
      refine lv_iload hx hb dX0_greaterBy_5 (lv_at hl 4 rfl) ?_
      refine lv_aload_n hx hb dX0_greaterBy_7 rfl (lv_at hl 0 rfl) ?_
      refine bf_yG (v := .ref (bf_ca b 0)) X hd 4 (by decide) (Or.inl q430) rfl dX0_greaterBy_8 ?_
      refine bf_rC X hd (bf_pB_hC G ν b T (i := 0) (by decide)) 12 (by decide) (Or.inr ⟨_, q327⟩) rfl dX0_greaterBy_11 ?_
      refine lv_icmp_ge (tgt := 60) hx hb dX0_greaterBy_14 (by decide) (fun c_10 => ?_) (fun c_10 => ?_)
      · have hf := bf_it hf c_10
        exact J60 v5_3 _ _ _ hf hz hd (lv_sub hl [2, 3] rfl)
      · have hf := bf_ie hf c_10
        refine lv_iload_n hx hb dX0_greaterBy_17 rfl (lv_at hl 3 rfl) ?_
        refine lv_iload_n hx hb dX0_greaterBy_18 rfl (lv_at hl 2 rfl) ?_
        refine lv_iload hx hb dX0_greaterBy_19 (lv_at hl 4 rfl) ?_
        refine lv_ishr hx hb dX0_greaterBy_21 ?_
        refine lv_iconst (v := 1) hx hb dX0_greaterBy_22 (by decide) ?_
        refine lv_iand hx hb dX0_greaterBy_23 ?_
        refine lv_iconst (v := 1) hx hb dX0_greaterBy_24 (by decide) ?_
        refine lv_icmp_ne (tgt := 51) hx hb dX0_greaterBy_25 (by decide) (fun c_11 => ?_) (fun c_11 => ?_)
        · have hf := bf_ie hf c_11
          exact J51 v5_4 v5_3 _ _ _ hf hz hd (lv_sub hl [0, 1, 2, 4] rfl)
        · have hf := bf_it hf c_11
          refine lv_aload_n hx hb dX0_greaterBy_28 rfl (lv_at hl 0 rfl) ?_
          refine bf_yG (v := .ref (bf_ca b 0)) X hd 4 (by decide) (Or.inl q430) rfl dX0_greaterBy_29 ?_
          refine bf_rC (v := .ref (bf_ca b 0 + 3)) X hd (bf_pB_hC G ν b T (i := 0) (by decide)) 2 (by decide) (Or.inr ⟨_, q305⟩) rfl dX0_greaterBy_32 ?_
          refine lv_iload hx hb dX0_greaterBy_35 (lv_at hl 4 rfl) ?_
          obtain ⟨g_12, hf⟩ := bf_c_some hf
          refine bf_aald (v := .ref (bf_ca b 0 + 180 + 2 * v5_4.toNatClampNeg)) X hd (bf_c3 (bf_pB_hC G ν b T (i := 0) (by decide))) 4 rfl rfl g_12 rfl dX0_greaterBy_37 ?_
          refine bf_rE X hd (bf_pB_hC G ν b T (i := 0) (by decide)) (bf_in_lt g_12) (Or.inr ⟨_, q289⟩) dX0_greaterBy_38 ?_
          refine lv_iload_n hx hb dX0_greaterBy_41 rfl (lv_at hl 1 rfl) ?_
          obtain ⟨g_13, hf⟩ := bf_c_some hf
          refine bf_iald X hd (bf_cta (bf_pB_hC G ν b T (i := 0) (by decide)) (bf_in_lt g_12)) g_13 dX0_greaterBy_42 ?_
          refine lv_iconst (v := 5) hx hb dX0_greaterBy_43 (by decide) ?_
          refine lv_icmp_lt (tgt := 51) hx hb dX0_greaterBy_44 (by decide) (fun c_14 => ?_) (fun c_14 => ?_)
          · have hf := bf_it hf c_14
            exact J51 v5_4 v5_3 _ _ _ hf hz hd (lv_sub hl [0, 1, 2, 4] rfl)
          · have hf := bf_ie hf c_14
            refine lv_iconst (v := 1) hx hb dX0_greaterBy_47 (by decide) ?_
            refine lv_goto (tgt := 52) hx hb dX0_greaterBy_48 (by decide) ?_
            exact J52 v5_4 1 v5_3 _ _ _ hf hz hd (lv_sub hl [0, 1, 2, 4] rfl)
  unfold fX0_greaterBy at hf
  refine lv_iconst (v := 0) hx hb dX0_greaterBy_0 (by decide) ?_
  refine lv_istore_n (lv' := [(3, .int 0), (0, .ref b), (1, .int x1), (2, .int x2)]) hx hb dX0_greaterBy_1 rfl hl (by decide) rfl (fun ls hl => ?_)
  refine lv_iconst (v := 0) hx hb dX0_greaterBy_2 (by decide) ?_
  refine lv_istore (lv' := [(4, .int 0), (3, .int 0), (0, .ref b), (1, .int x1), (2, .int x2)]) hx hb dX0_greaterBy_3 hl (by decide) rfl (fun ls hl => ?_)
  exact L5 bf_fuel 0 0 _ _ _ hf hz hd (lv_sub hl [2, 3, 4, 1, 0] rfl)
def fX0_whose_112 (T : bf_WS) (k81 : Int32 → Int32 → Option (Int32)) (u81_2 : Int32) (w112_3 : Int32) (w112_4 : Int32) : Option (Int32) := bf_l (w112_4 + 1) fun x4_14 => k81 w112_3 x4_14
def fX0_whose_81b (T : bf_WS) (u81_2 : Int32) (k81 : Int32 → Int32 → Option (Int32)) (v81_3 : Int32) (v81_4 : Int32) : Option (Int32) := if ((bf_S T 0).1 0 10 0) ≤ v81_4 then (some v81_3) else (bf_b (fX0_greaterBy T v81_4 u81_2) fun r_11 => bf_b (fX0_greaterBy T v81_3 u81_2) fun r_12 => if r_12 ≤ r_11 then (fX0_whose_112 T k81 u81_2 v81_3 v81_4) else (fX0_whose_112 T k81 u81_2 v81_4 v81_4))
def fX0_whose_81 (T : bf_WS) (u81_2 : Int32) : Nat → Int32 → Int32 → Option (Int32)
  | 0, _, _ => none
  | n + 1, v81_3, v81_4 => fX0_whose_81b T u81_2 (fX0_whose_81 T u81_2 n) v81_3 v81_4
def fX0_whose_50 (T : bf_WS) (x1 : Int32) (w50_2 : Int32) : Option (Int32) := if x1 = 0 then (some w50_2) else (if (fJ13_bitCount w50_2) < 2 then (some (-1)) else (if ((bf_S T 0).1 0 10 0) = 0 then (some (-1)) else (fX0_whose_81 T w50_2 bf_fuel 0 1)))
def fX0_whose_42 (T : bf_WS) (k15 : Int32 → Int32 → Option (Int32)) (x1 : Int32) (w42_3 : Int32) (t42_0 : Int32) (t42_1 : Int32) : Option (Int32) := bf_l ((t42_1 ||| t42_0)) fun x2_5 => bf_l (w42_3 + 1) fun x3_6 => k15 x2_5 x3_6
def fX0_whose_15b (T : bf_WS) (x1 : Int32) (k15 : Int32 → Int32 → Option (Int32)) (v15_2 : Int32) (v15_3 : Int32) : Option (Int32) := if ((bf_S T 0).1 0 12 0) ≤ v15_3 then (fX0_whose_50 T x1 v15_2) else (bf_b (fX0_canHaveEaten T v15_3) fun r_2 => if r_2 = 0 then (fX0_whose_42 T k15 x1 v15_3 0 v15_2) else (fX0_whose_42 T k15 x1 v15_3 (1 <<< (v15_3 &&& 31)) v15_2))
def fX0_whose_15 (T : bf_WS) (x1 : Int32) : Nat → Int32 → Int32 → Option (Int32)
  | 0, _, _ => none
  | n + 1, v15_2, v15_3 => fX0_whose_15b T x1 (fX0_whose_15 T x1 n) v15_2 v15_3
def fX0_whose (T : bf_WS) (x1 : Int32) : Option (Int32) := if (fX0_isIn x1 0 1) = 0 then (some (-1)) else (fX0_whose_15 T x1 bf_fuel 0 0)
set_option maxHeartbeats 4000000 in
theorem mX0_whose (l : Launch) (G : bf_G) (ν : bf_V) (b : Nat) (T : bf_WS) (hz : bf_wok G ν b T) (x1 : Int32) {r : Int32} (hf : fX0_whose T x1 = some r) : bf_MI l G yX0_whose cX0_whose 5 (bf_rm 3) [.ref b, .int x1] (bf_pB G ν b T) (fun v σ' => v = r ∧ σ' = bf_pB G ν b T ∧ bf_wok G ν b T) := by
  refine bf_MI.of rfl (Nat.le_of_ble_eq_true rfl) ?_
  intro p e s m below meth c' Q X hlk hnm kret hd ls hl
  have hx := X.1
  have hb := X.2.1
  have hml := X.2.2.1
  have hown := X.2.2.2.1
  have hts := X.2.2.2.2
  have hl : lv_has ls 5 [(0, .ref b), (1, .int x1)] := hl
  have L81 : ∀ (u81_2 : Int32) (n81 : Nat) (v81_3 : Int32) (v81_4 : Int32) (H : Heap) (locs : List Loc) (ls : Array Slot), fX0_whose_81 T u81_2 n81 v81_3 v81_4 = some r → bf_wok G ν b T → bf_Dy G s H locs (bf_pB G ν b T) → lv_has ls 5 [(0, .ref b), (2, .int u81_2), (3, .int v81_3), (4, .int v81_4)] → W p l e (bf_rm 3) s m ([.ref b, .int x1] : List Value).toArray below meth c' H locs 0 0 Q (F0 m 81 ls []) := by
    intro u81_2 n81
    induction n81 with
    | zero =>
      intro v81_3 v81_4 H locs ls hf hz hd hl
      exact absurd (show (none : Option (Int32)) = some r from hf) (by intro h; cases h)
    | succ n81 ih81 =>
      intro v81_3 v81_4 H locs ls hf hz hd hl
      have hf : fX0_whose_81b T u81_2 (fX0_whose_81 T u81_2 n81) v81_3 v81_4 = some r := hf
      unfold fX0_whose_81b at hf
      have J112 : ∀ (w112_3 : Int32) (w112_4 : Int32) (H : Heap) (locs : List Loc) (ls : Array Slot), fX0_whose_112 T (fX0_whose_81 T u81_2 n81) u81_2 w112_3 w112_4 = some r → bf_wok G ν b T → bf_Dy G s H locs (bf_pB G ν b T) → lv_has ls 5 [(0, .ref b), (2, .int u81_2), (3, .int w112_3), (4, .int w112_4)] → W p l e (bf_rm 3) s m ([.ref b, .int x1] : List Value).toArray below meth c' H locs 0 0 Q (F0 m 112 ls []) := by
        intro w112_3 w112_4 H locs ls hf hz hd hl
        unfold fX0_whose_112 at hf
        obtain ⟨x4_17, ex4_17, hf⟩ := bf_l_e hf
        refine lv_iinc (v := x4_17) (lv' := [(4, .int x4_17), (0, .ref b), (2, .int u81_2), (3, .int w112_3)]) hx hb dX0_whose_112 hl (k := 3) rfl (by rw [ex4_17]; rfl) (by decide) rfl (fun ls hl => ?_)
        refine lv_goto (tgt := 81) hx hb dX0_whose_115 (by decide) ?_
        exact ih81 w112_3 x4_17 _ _ _ hf hz hd (lv_sub hl [1, 2, 3, 0] rfl)
      refine lv_iload hx hb dX0_whose_81 (lv_at hl 3 rfl) ?_
      refine lv_aload_n hx hb dX0_whose_83 rfl (lv_at hl 0 rfl) ?_
      refine bf_yG (v := .ref (bf_ca b 0)) X hd 4 (by decide) (Or.inl q430) rfl dX0_whose_84 ?_
      refine bf_rC X hd (bf_pB_hC G ν b T (i := 0) (by decide)) 10 (by decide) (Or.inr ⟨_, q321⟩) rfl dX0_whose_87 ?_
      refine lv_icmp_ge (tgt := 118) hx hb dX0_whose_90 (by decide) (fun c_18 => ?_) (fun c_18 => ?_)
      · have hf := bf_it hf c_18
        refine lv_iload_n hx hb dX0_whose_118 rfl (lv_at hl 2 rfl) ?_
        exact kret _ _ _ _ _ _ ⟨bf_so hf, rfl, hz⟩ hd dX0_whose_119
      · have hf := bf_ie hf c_18
        refine lv_aload_n hx hb dX0_whose_93 rfl (lv_at hl 0 rfl) ?_
        refine lv_iload hx hb dX0_whose_94 (lv_at hl 3 rfl) ?_
        refine lv_iload_n hx hb dX0_whose_96 rfl (lv_at hl 1 rfl) ?_
        obtain ⟨r_19, er_19, hf⟩ := bf_b_some hf
        refine bf_bci (n := 2) (As := [.int v81_4, .int u81_2]) (rest := []) X hd (mX0_greaterBy l G ν b T hz v81_4 u81_2 er_19) (lw_V q1326 q1328 qs53 q148 q1329) (by decide +kernel) ⟨Nat.le_of_ble_eq_true rfl, Nat.le_of_ble_eq_true rfl⟩ rfl hl.1 rfl (Nat.le_of_ble_eq_true rfl) dX0_whose_97 ⟨Nat.le_of_ble_eq_true rfl, Nat.le_of_ble_eq_true rfl⟩ (fun H locs hz hd => ?_)
        refine lv_aload_n hx hb dX0_whose_100 rfl (lv_at hl 0 rfl) ?_
        refine lv_iload_n hx hb dX0_whose_101 rfl (lv_at hl 2 rfl) ?_
        refine lv_iload_n hx hb dX0_whose_102 rfl (lv_at hl 1 rfl) ?_
        obtain ⟨r_20, er_20, hf⟩ := bf_b_some hf
        refine bf_bci (n := 2) (As := [.int v81_3, .int u81_2]) (rest := [.int r_19]) X hd (mX0_greaterBy l G ν b T hz v81_3 u81_2 er_20) (lw_V q1326 q1328 qs53 q148 q1329) (by decide +kernel) ⟨Nat.le_of_ble_eq_true rfl, Nat.le_of_ble_eq_true rfl⟩ rfl hl.1 rfl (Nat.le_of_ble_eq_true rfl) dX0_whose_103 ⟨Nat.le_of_ble_eq_true rfl, Nat.le_of_ble_eq_true rfl⟩ (fun H locs hz hd => ?_)
        refine lv_icmp_ge (tgt := 112) hx hb dX0_whose_106 (by decide) (fun c_21 => ?_) (fun c_21 => ?_)
        · have hf := bf_it hf c_21
          exact J112 v81_3 v81_4 _ _ _ hf hz hd (lv_sub hl [0, 1, 2, 3] rfl)
        · have hf := bf_ie hf c_21
          refine lv_iload hx hb dX0_whose_109 (lv_at hl 3 rfl) ?_
          refine lv_istore_n (lv' := [(3, .int v81_4), (0, .ref b), (2, .int u81_2), (4, .int v81_4)]) hx hb dX0_whose_111 rfl hl (by decide) rfl (fun ls hl => ?_)
          exact J112 v81_4 v81_4 _ _ _ hf hz hd (lv_sub hl [1, 2, 0, 3] rfl)
  have J50 : ∀ (w50_2 : Int32) (H : Heap) (locs : List Loc) (ls : Array Slot), fX0_whose_50 T x1 w50_2 = some r → bf_wok G ν b T → bf_Dy G s H locs (bf_pB G ν b T) → lv_has ls 5 [(0, .ref b), (1, .int x1), (2, .int w50_2)] → W p l e (bf_rm 3) s m ([.ref b, .int x1] : List Value).toArray below meth c' H locs 0 0 Q (F0 m 50 ls []) := by
    intro w50_2 H locs ls hf hz hd hl
    unfold fX0_whose_50 at hf
    refine lv_iload_n hx hb dX0_whose_50 rfl (lv_at hl 1 rfl) ?_
    refine lv_if_ne (tgt := 56) hx hb dX0_whose_51 (by decide) (fun c_22 => ?_) (fun c_22 => ?_)
    · have hf := bf_ie hf c_22
      refine lv_iload_n hx hb dX0_whose_56 rfl (lv_at hl 2 rfl) ?_
      refine bf_cSi (n := 1) (As := [.int w50_2]) (rest := []) X hd (mJ13_bitCount l G _ w50_2 rfl) (lw_S q1296 q1297 q182 q1298) (by decide +kernel) ⟨Nat.le_of_ble_eq_true rfl, Nat.le_of_ble_eq_true rfl⟩ rfl hl.1 rfl (Nat.le_of_ble_eq_true rfl) dX0_whose_57 ⟨Nat.le_of_ble_eq_true rfl, Nat.le_of_ble_eq_true rfl⟩ (fun r σ' H locs hF hd => ?_)
      rw [hF.2] at hd
      refine bf_top hF.1.symm ?_
      refine lv_iconst (v := 2) hx hb dX0_whose_60 (by decide) ?_
      refine lv_icmp_lt (tgt := 74) hx hb dX0_whose_61 (by decide) (fun c_23 => ?_) (fun c_23 => ?_)
      · have hf := bf_it hf c_23
        refine lv_iconst (v := (-1)) hx hb dX0_whose_74 (by decide) ?_
        exact kret _ _ _ _ _ _ ⟨bf_so hf, rfl, hz⟩ hd dX0_whose_75
      · have hf := bf_ie hf c_23
        refine lv_aload_n hx hb dX0_whose_64 rfl (lv_at hl 0 rfl) ?_
        refine bf_yG (v := .ref (bf_ca b 0)) X hd 4 (by decide) (Or.inl q430) rfl dX0_whose_65 ?_
        refine bf_rC X hd (bf_pB_hC G ν b T (i := 0) (by decide)) 10 (by decide) (Or.inr ⟨_, q321⟩) rfl dX0_whose_68 ?_
        refine lv_if_ne (tgt := 76) hx hb dX0_whose_71 (by decide) (fun c_24 => ?_) (fun c_24 => ?_)
        · have hf := bf_ie hf c_24
          refine lv_iconst (v := 0) hx hb dX0_whose_76 (by decide) ?_
          refine lv_istore_n (lv' := [(3, .int 0), (0, .ref b), (1, .int x1), (2, .int w50_2)]) hx hb dX0_whose_77 rfl hl (by decide) rfl (fun ls hl => ?_)
          refine lv_iconst (v := 1) hx hb dX0_whose_78 (by decide) ?_
          refine lv_istore (lv' := [(4, .int 1), (3, .int 0), (0, .ref b), (1, .int x1), (2, .int w50_2)]) hx hb dX0_whose_79 hl (by decide) rfl (fun ls hl => ?_)
          exact L81 w50_2 bf_fuel 0 1 _ _ _ hf hz hd (lv_sub hl [2, 4, 1, 0] rfl)
        · have hf := bf_it hf c_24
          refine lv_iconst (v := (-1)) hx hb dX0_whose_74 (by decide) ?_
          exact kret _ _ _ _ _ _ ⟨bf_so hf, rfl, hz⟩ hd dX0_whose_75
    · have hf := bf_it hf c_22
      refine lv_iload_n hx hb dX0_whose_54 rfl (lv_at hl 2 rfl) ?_
      exact kret _ _ _ _ _ _ ⟨bf_so hf, rfl, hz⟩ hd dX0_whose_55
  have L15 : ∀ (n15 : Nat) (v15_2 : Int32) (v15_3 : Int32) (H : Heap) (locs : List Loc) (ls : Array Slot), fX0_whose_15 T x1 n15 v15_2 v15_3 = some r → bf_wok G ν b T → bf_Dy G s H locs (bf_pB G ν b T) → lv_has ls 5 [(0, .ref b), (1, .int x1), (2, .int v15_2), (3, .int v15_3)] → W p l e (bf_rm 3) s m ([.ref b, .int x1] : List Value).toArray below meth c' H locs 0 0 Q (F0 m 15 ls []) := by
    intro n15
    induction n15 with
    | zero =>
      intro v15_2 v15_3 H locs ls hf hz hd hl
      exact absurd (show (none : Option (Int32)) = some r from hf) (by intro h; cases h)
    | succ n15 ih15 =>
      intro v15_2 v15_3 H locs ls hf hz hd hl
      have hf : fX0_whose_15b T x1 (fX0_whose_15 T x1 n15) v15_2 v15_3 = some r := hf
      unfold fX0_whose_15b at hf
      have J42 : ∀ (w42_3 : Int32) (t42_0 : Int32) (t42_1 : Int32) (H : Heap) (locs : List Loc) (ls : Array Slot), fX0_whose_42 T (fX0_whose_15 T x1 n15) x1 w42_3 t42_0 t42_1 = some r → bf_wok G ν b T → bf_Dy G s H locs (bf_pB G ν b T) → lv_has ls 5 [(0, .ref b), (1, .int x1), (3, .int w42_3)] → W p l e (bf_rm 3) s m ([.ref b, .int x1] : List Value).toArray below meth c' H locs 0 0 Q (F0 m 42 ls [.int t42_0, .int t42_1]) := by
        intro w42_3 t42_0 t42_1 H locs ls hf hz hd hl
        unfold fX0_whose_42 at hf
        refine lv_ior hx hb dX0_whose_42 ?_
        obtain ⟨x2_25, ex2_25, hf⟩ := bf_l_e hf
        refine bf_top ex2_25 ?_
        refine lv_istore_n (lv' := [(2, .int x2_25), (0, .ref b), (1, .int x1), (3, .int w42_3)]) hx hb dX0_whose_43 rfl hl (by decide) rfl (fun ls hl => ?_)
        obtain ⟨x3_26, ex3_26, hf⟩ := bf_l_e hf
        refine lv_iinc (v := x3_26) (lv' := [(3, .int x3_26), (2, .int x2_25), (0, .ref b), (1, .int x1)]) hx hb dX0_whose_44 hl (k := 3) rfl (by rw [ex3_26]; rfl) (by decide) rfl (fun ls hl => ?_)
        refine lv_goto (tgt := 15) hx hb dX0_whose_47 (by decide) ?_
        exact ih15 x2_25 x3_26 _ _ _ hf hz hd (lv_sub hl [2, 3, 1, 0] rfl)
      refine lv_iload_n hx hb dX0_whose_15 rfl (lv_at hl 3 rfl) ?_
      refine lv_aload_n hx hb dX0_whose_16 rfl (lv_at hl 0 rfl) ?_
      refine bf_yG (v := .ref (bf_ca b 0)) X hd 4 (by decide) (Or.inl q430) rfl dX0_whose_17 ?_
      refine bf_rC X hd (bf_pB_hC G ν b T (i := 0) (by decide)) 12 (by decide) (Or.inr ⟨_, q327⟩) rfl dX0_whose_20 ?_
      refine lv_icmp_ge (tgt := 50) hx hb dX0_whose_23 (by decide) (fun c_27 => ?_) (fun c_27 => ?_)
      · have hf := bf_it hf c_27
        exact J50 v15_2 _ _ _ hf hz hd (lv_sub hl [0, 1, 2] rfl)
      · have hf := bf_ie hf c_27
        refine lv_iload_n hx hb dX0_whose_26 rfl (lv_at hl 2 rfl) ?_
        refine lv_aload_n hx hb dX0_whose_27 rfl (lv_at hl 0 rfl) ?_
        refine lv_iload_n hx hb dX0_whose_28 rfl (lv_at hl 3 rfl) ?_
        obtain ⟨r_28, er_28, hf⟩ := bf_b_some hf
        refine bf_bcz (n := 1) (As := [.int v15_3]) (rest := [.int v15_2]) X hd (mX0_canHaveEaten l G ν b T hz v15_3 er_28) (lw_V q1322 q1324 qs52 q148 q1325) (by decide +kernel) ⟨Nat.le_of_ble_eq_true rfl, Nat.le_of_ble_eq_true rfl⟩ rfl hl.1 rfl (Nat.le_of_ble_eq_true rfl) dX0_whose_29 ⟨Nat.le_of_ble_eq_true rfl, Nat.le_of_ble_eq_true rfl⟩ (fun H locs hz z_29 hd => ?_)
        refine lv_if_eq (tgt := 41) hx hb dX0_whose_32 (by decide) (fun c_30 => ?_) (fun c_30 => ?_)
        · have hf := bf_it hf c_30
          refine lv_iconst (v := 0) hx hb dX0_whose_41 (by decide) ?_
          exact J42 v15_3 0 v15_2 _ _ _ hf hz hd (lv_sub hl [0, 1, 3] rfl)
        · have hf := bf_ie hf c_30
          refine lv_iconst (v := 1) hx hb dX0_whose_35 (by decide) ?_
          refine lv_iload_n hx hb dX0_whose_36 rfl (lv_at hl 3 rfl) ?_
          refine lv_ishl hx hb dX0_whose_37 ?_
          refine lv_goto (tgt := 42) hx hb dX0_whose_38 (by decide) ?_
          exact J42 v15_3 (1 <<< (v15_3 &&& 31)) v15_2 _ _ _ hf hz hd (lv_sub hl [0, 1, 3] rfl)
  unfold fX0_whose at hf
  refine lv_iload_n hx hb dX0_whose_0 rfl (lv_at hl 1 rfl) ?_
  refine lv_iconst (v := 0) hx hb dX0_whose_1 (by decide) ?_
  refine lv_iconst (v := 1) hx hb dX0_whose_2 (by decide) ?_
  refine bf_cSz (n := 3) (As := [.int x1, .int 0, .int 1]) (rest := []) X hd (mX0_isIn l G _ x1 0 1 rfl) (lw_S q473 q474 q148 q475) (by decide +kernel) ⟨Nat.le_of_ble_eq_true rfl, Nat.le_of_ble_eq_true rfl⟩ rfl hl.1 rfl (Nat.le_of_ble_eq_true rfl) dX0_whose_3 ⟨Nat.le_of_ble_eq_true rfl, Nat.le_of_ble_eq_true rfl⟩ (fun r σ' H locs hF z_31 hd => ?_)
  rw [hF.2] at hd
  refine bf_top hF.1.symm ?_
  rw [hF.1] at z_31
  refine lv_if_ne (tgt := 11) hx hb dX0_whose_6 (by decide) (fun c_32 => ?_) (fun c_32 => ?_)
  · have hf := bf_ie hf c_32
    refine lv_iconst (v := 0) hx hb dX0_whose_11 (by decide) ?_
    refine lv_istore_n (lv' := [(2, .int 0), (0, .ref b), (1, .int x1)]) hx hb dX0_whose_12 rfl hl (by decide) rfl (fun ls hl => ?_)
    refine lv_iconst (v := 0) hx hb dX0_whose_13 (by decide) ?_
    refine lv_istore_n (lv' := [(3, .int 0), (2, .int 0), (0, .ref b), (1, .int x1)]) hx hb dX0_whose_14 rfl hl (by decide) rfl (fun ls hl => ?_)
    exact L15 bf_fuel 0 0 _ _ _ hf hz hd (lv_sub hl [2, 3, 1, 0] rfl)
  · have hf := bf_it hf c_32
    refine lv_iconst (v := (-1)) hx hb dX0_whose_9 (by decide) ?_
    exact kret _ _ _ _ _ _ ⟨bf_so hf, rfl, hz⟩ hd dX0_whose_10
def fX0_left_147 (x1 : Int32) (T147 : bf_WS) : Option (Int32 × bf_WS) := bf_c (bf_in x1 100) <| some ((T147.1 2 x1.toNatClampNeg), T147)
def fX0_left_141 (k43 : Int32 → bf_WS → Option (Int32 × bf_WS)) (x1 : Int32) (w141_2 : Int32) (T141 : bf_WS) : Option (Int32 × bf_WS) := bf_l (w141_2 + 1) fun x2_21 => k43 x2_21 T141
def fX0_left_121 (k43 : Int32 → bf_WS → Option (Int32 × bf_WS)) (k75 : Int32 → bf_WS → Option (Int32 × bf_WS)) (x1 : Int32) (u75_2 : Int32) (u75_3 : Int32) (w121_4 : Int32) (w121_5 : Int64) (T121 : bf_WS) : Option (Int32 × bf_WS) := bf_c (bf_in w121_4 100) <| bf_l (bf_uB T121 2 w121_4.toNatClampNeg ((w121_5 - w121_5 / (1000000007 : Int64) * (1000000007 : Int64)).toInt32)) fun T_19 => bf_l (w121_4 + (-1)) fun x4_20 => k75 x4_20 T_19
def fX0_left_86b (k43 : Int32 → bf_WS → Option (Int32 × bf_WS)) (k75 : Int32 → bf_WS → Option (Int32 × bf_WS)) (x1 : Int32) (u75_2 : Int32) (u75_3 : Int32) (u86_4 : Int32) (k86 : Int64 → Int32 → bf_WS → Option (Int32 × bf_WS)) (v86_5 : Int64) (v86_7 : Int32) (T86 : bf_WS) : Option (Int32 × bf_WS) := if u75_3 < v86_7 then (fX0_left_121 k43 k75 x1 u75_2 u75_3 u86_4 v86_5 T86) else (if u86_4 < v86_7 then (fX0_left_121 k43 k75 x1 u75_2 u75_3 u86_4 v86_5 T86) else (bf_c (bf_in (u86_4 - v86_7) 100) <| bf_l ((v86_5 + ((T86.1 2 (u86_4 - v86_7).toNatClampNeg).toInt64))) fun x5_16 => bf_l (v86_7 + 1) fun x7_17 => k86 x5_16 x7_17 T86))
def fX0_left_86 (k43 : Int32 → bf_WS → Option (Int32 × bf_WS)) (k75 : Int32 → bf_WS → Option (Int32 × bf_WS)) (x1 : Int32) (u75_2 : Int32) (u75_3 : Int32) (u86_4 : Int32) : Nat → Int64 → Int32 → bf_WS → Option (Int32 × bf_WS)
  | 0, _, _, _ => none
  | n + 1, v86_5, v86_7, T86 => fX0_left_86b k43 k75 x1 u75_2 u75_3 u86_4 (fX0_left_86 k43 k75 x1 u75_2 u75_3 u86_4 n) v86_5 v86_7 T86
def fX0_left_75b (k43 : Int32 → bf_WS → Option (Int32 × bf_WS)) (x1 : Int32) (u75_2 : Int32) (u75_3 : Int32) (k75 : Int32 → bf_WS → Option (Int32 × bf_WS)) (v75_4 : Int32) (T75 : bf_WS) : Option (Int32 × bf_WS) := if v75_4 < 0 then (fX0_left_141 k43 x1 u75_2 T75) else (bf_l ((0 : Int64)) fun x5_12 => fX0_left_86 k43 k75 x1 u75_2 u75_3 v75_4 bf_fuel x5_12 0 T75)
def fX0_left_75 (k43 : Int32 → bf_WS → Option (Int32 × bf_WS)) (x1 : Int32) (u75_2 : Int32) (u75_3 : Int32) : Nat → Int32 → bf_WS → Option (Int32 × bf_WS)
  | 0, _, _ => none
  | n + 1, v75_4, T75 => fX0_left_75b k43 x1 u75_2 u75_3 (fX0_left_75 k43 x1 u75_2 u75_3 n) v75_4 T75
def fX0_left_43b (x1 : Int32) (k43 : Int32 → bf_WS → Option (Int32 × bf_WS)) (v43_2 : Int32) (T43 : bf_WS) : Option (Int32 × bf_WS) := if ((bf_S T43 0).1 0 12 0) ≤ v43_2 then (fX0_left_147 x1 T43) else (bf_c (bf_in v43_2 10) <| bf_b2 (fX1_want (bf_Ds T43 0) (bf_S T43 0) v43_2.toNatClampNeg) fun r_9 S_8 => bf_l (bf_uS T43 0 S_8) fun T_10 => fX0_left_75 k43 x1 v43_2 r_9 bf_fuel 99 T_10)
def fX0_left_43 (x1 : Int32) : Nat → Int32 → bf_WS → Option (Int32 × bf_WS)
  | 0, _, _ => none
  | n + 1, v43_2, T43 => fX0_left_43b x1 (fX0_left_43 x1 n) v43_2 T43
def fX0_left_41 (x1 : Int32) (T41 : bf_WS) : Option (Int32 × bf_WS) := fX0_left_43 x1 bf_fuel 0 T41
def fX0_left_34 (k14 : Int32 → bf_WS → Option (Int32 × bf_WS)) (x1 : Int32) (w34_2 : Int32) (t34_0 : Int32) (t34_1 : Int32) (T34 : bf_WS) : Option (Int32 × bf_WS) := bf_c (bf_in t34_1 100) <| bf_l (bf_uB T34 2 t34_1.toNatClampNeg t34_0) fun T_4 => bf_l (w34_2 + 1) fun x2_5 => k14 x2_5 T_4
def fX0_left_14b (x1 : Int32) (k14 : Int32 → bf_WS → Option (Int32 × bf_WS)) (v14_2 : Int32) (T14 : bf_WS) : Option (Int32 × bf_WS) := if 99 < v14_2 then (fX0_left_41 x1 T14) else (if v14_2 = 0 then (fX0_left_34 k14 x1 v14_2 1 v14_2 T14) else (fX0_left_34 k14 x1 v14_2 0 v14_2 T14))
def fX0_left_14 (x1 : Int32) : Nat → Int32 → bf_WS → Option (Int32 × bf_WS)
  | 0, _, _ => none
  | n + 1, v14_2, T14 => fX0_left_14b x1 (fX0_left_14 x1 n) v14_2 T14
def fX0_left (T : bf_WS) (x1 : Int32) : Option (Int32 × bf_WS) := if (fX0_isIn x1 0 99) = 0 then (some ((-1), T)) else (fX0_left_14 x1 bf_fuel 0 T)
set_option maxHeartbeats 4000000 in
theorem mX0_left (l : Launch) (G : bf_G) (ν : bf_V) (b : Nat) (T : bf_WS) (hz : bf_wok G ν b T) (x1 : Int32) {r : Int32} {T' : bf_WS} (hf : fX0_left T x1 = some (r, T')) : bf_MI l G yX0_left cX0_left 8 (bf_rm 432) [.ref b, .int x1] (bf_pB G ν b T) (fun v σ' => v = r ∧ σ' = bf_pB G ν b T' ∧ bf_wok G ν b T') := by
  refine bf_MI.of rfl (Nat.le_of_ble_eq_true rfl) ?_
  intro p e s m below meth c' Q X hlk hnm kret hd ls hl
  have hx := X.1
  have hb := X.2.1
  have hml := X.2.2.1
  have hown := X.2.2.2.1
  have hts := X.2.2.2.2
  have hl : lv_has ls 8 [(0, .ref b), (1, .int x1)] := hl
  have J147 : ∀ (T147 : bf_WS) (H : Heap) (locs : List Loc) (ls : Array Slot), fX0_left_147 x1 T147 = some (r, T') → bf_wok G ν b T147 → bf_Dy G s H locs (bf_pB G ν b T147) → lv_has ls 8 [(0, .ref b), (1, .int x1)] → W p l e (bf_rm 432) s m ([.ref b, .int x1] : List Value).toArray below meth c' H locs 0 0 Q (F0 m 147 ls []) := by
    intro T147 H locs ls hf hz hd hl
    unfold fX0_left_147 at hf
    refine lv_aload_n hx hb dX0_left_147 rfl (lv_at hl 0 rfl) ?_
    refine bf_yG (v := .ref (b + 1803)) X hd 10 (by decide) (Or.inl q437) rfl dX0_left_148 ?_
    refine lv_iload_n hx hb dX0_left_151 rfl (lv_at hl 1 rfl) ?_
    obtain ⟨g_25, hf⟩ := bf_c_some hf
    refine bf_iald X hd (bf_pB_3 G ν b T147) g_25 dX0_left_152 ?_
    exact kret _ _ _ _ _ _ ⟨(bf_pr hf).1, congrArg (bf_pB G ν b) (bf_pr hf).2, (bf_pr hf).2 ▸ hz⟩ hd dX0_left_153
  have L43 : ∀ (n43 : Nat) (v43_2 : Int32) (T43 : bf_WS) (H : Heap) (locs : List Loc) (ls : Array Slot), fX0_left_43 x1 n43 v43_2 T43 = some (r, T') → bf_wok G ν b T43 → bf_Dy G s H locs (bf_pB G ν b T43) → lv_has ls 8 [(0, .ref b), (1, .int x1), (2, .int v43_2)] → W p l e (bf_rm 432) s m ([.ref b, .int x1] : List Value).toArray below meth c' H locs 0 0 Q (F0 m 43 ls []) := by
    intro n43
    induction n43 with
    | zero =>
      intro v43_2 T43 H locs ls hf hz hd hl
      exact absurd (show (none : Option (Int32 × bf_WS)) = some (r, T') from hf) (by intro h; cases h)
    | succ n43 ih43 =>
      intro v43_2 T43 H locs ls hf hz hd hl
      have hf : fX0_left_43b x1 (fX0_left_43 x1 n43) v43_2 T43 = some (r, T') := hf
      unfold fX0_left_43b at hf
      have J141 : ∀ (w141_2 : Int32) (T141 : bf_WS) (H : Heap) (locs : List Loc) (ls : Array Slot), fX0_left_141 (fX0_left_43 x1 n43) x1 w141_2 T141 = some (r, T') → bf_wok G ν b T141 → bf_Dy G s H locs (bf_pB G ν b T141) → lv_has ls 8 [(0, .ref b), (1, .int x1), (2, .int w141_2)] → W p l e (bf_rm 432) s m ([.ref b, .int x1] : List Value).toArray below meth c' H locs 0 0 Q (F0 m 141 ls []) := by
        intro w141_2 T141 H locs ls hf hz hd hl
        unfold fX0_left_141 at hf
        obtain ⟨x2_26, ex2_26, hf⟩ := bf_l_e hf
        refine lv_iinc (v := x2_26) (lv' := [(2, .int x2_26), (0, .ref b), (1, .int x1)]) hx hb dX0_left_141 hl (k := 2) rfl (by rw [ex2_26]; rfl) (by decide) rfl (fun ls hl => ?_)
        refine lv_goto (tgt := 43) hx hb dX0_left_144 (by decide) ?_
        exact ih43 x2_26 T141 _ _ _ hf hz hd (lv_sub hl [1, 2, 0] rfl)
      have L75 : ∀ (u75_2 : Int32) (u75_3 : Int32) (n75 : Nat) (v75_4 : Int32) (T75 : bf_WS) (H : Heap) (locs : List Loc) (ls : Array Slot), fX0_left_75 (fX0_left_43 x1 n43) x1 u75_2 u75_3 n75 v75_4 T75 = some (r, T') → bf_wok G ν b T75 → bf_Dy G s H locs (bf_pB G ν b T75) → lv_has ls 8 [(0, .ref b), (1, .int x1), (2, .int u75_2), (3, .int u75_3), (4, .int v75_4)] → W p l e (bf_rm 432) s m ([.ref b, .int x1] : List Value).toArray below meth c' H locs 0 0 Q (F0 m 75 ls []) := by
        intro u75_2 u75_3 n75
        induction n75 with
        | zero =>
          intro v75_4 T75 H locs ls hf hz hd hl
          exact absurd (show (none : Option (Int32 × bf_WS)) = some (r, T') from hf) (by intro h; cases h)
        | succ n75 ih75 =>
          intro v75_4 T75 H locs ls hf hz hd hl
          have hf : fX0_left_75b (fX0_left_43 x1 n43) x1 u75_2 u75_3 (fX0_left_75 (fX0_left_43 x1 n43) x1 u75_2 u75_3 n75) v75_4 T75 = some (r, T') := hf
          unfold fX0_left_75b at hf
          have J121 : ∀ (w121_4 : Int32) (w121_5 : Int64) (T121 : bf_WS) (H : Heap) (locs : List Loc) (ls : Array Slot), fX0_left_121 (fX0_left_43 x1 n43) (fX0_left_75 (fX0_left_43 x1 n43) x1 u75_2 u75_3 n75) x1 u75_2 u75_3 w121_4 w121_5 T121 = some (r, T') → bf_wok G ν b T121 → bf_Dy G s H locs (bf_pB G ν b T121) → lv_has ls 8 [(0, .ref b), (1, .int x1), (2, .int u75_2), (3, .int u75_3), (4, .int w121_4), (5, .long w121_5)] → W p l e (bf_rm 432) s m ([.ref b, .int x1] : List Value).toArray below meth c' H locs 0 0 Q (F0 m 121 ls []) := by
            intro w121_4 w121_5 T121 H locs ls hf hz hd hl
            unfold fX0_left_121 at hf
            refine lv_aload_n hx hb dX0_left_121 rfl (lv_at hl 0 rfl) ?_
            refine bf_yG (v := .ref (b + 1803)) X hd 10 (by decide) (Or.inl q437) rfl dX0_left_122 ?_
            refine lv_iload hx hb dX0_left_125 (lv_at hl 4 rfl) ?_
            refine lv_lload hx hb dX0_left_127 (lv_at hl 5 rfl) ?_
            refine lv_ldc2 (v := 1000000007) hx hb hown (hts _ q1335) dX0_left_129 ?_
            refine lv_lrem hx hb dX0_left_132 (by decide) ?_
            refine lv_l2i (v := (w121_5 - w121_5 / (1000000007 : Int64) * (1000000007 : Int64)).toInt32) hx hb dX0_left_133 rfl ?_
            obtain ⟨g_27, hf⟩ := bf_c_some hf
            refine bf_yW X hd g_27 dX0_left_134 (fun H locs hd => ?_)
            obtain ⟨T_28, eT_28, hf⟩ := bf_l_e hf
            have hd := hd.of (congrArg (bf_pB G ν b) eT_28.symm)
            have hz := bf_wok_uB hz eT_28
            obtain ⟨x4_29, ex4_29, hf⟩ := bf_l_e hf
            refine lv_iinc (v := x4_29) (lv' := [(4, .int x4_29), (0, .ref b), (1, .int x1), (2, .int u75_2), (3, .int u75_3), (5, .long w121_5)]) hx hb dX0_left_135 hl (k := 4) rfl (by rw [ex4_29]; rfl) (by decide) rfl (fun ls hl => ?_)
            refine lv_goto (tgt := 75) hx hb dX0_left_138 (by decide) ?_
            exact ih75 x4_29 T_28 _ _ _ hf hz hd (lv_sub hl [1, 2, 3, 4, 0] rfl)
          have L86 : ∀ (u86_4 : Int32) (n86 : Nat) (v86_5 : Int64) (v86_7 : Int32) (T86 : bf_WS) (H : Heap) (locs : List Loc) (ls : Array Slot), fX0_left_86 (fX0_left_43 x1 n43) (fX0_left_75 (fX0_left_43 x1 n43) x1 u75_2 u75_3 n75) x1 u75_2 u75_3 u86_4 n86 v86_5 v86_7 T86 = some (r, T') → bf_wok G ν b T86 → bf_Dy G s H locs (bf_pB G ν b T86) → lv_has ls 8 [(0, .ref b), (1, .int x1), (2, .int u75_2), (3, .int u75_3), (4, .int u86_4), (5, .long v86_5), (7, .int v86_7)] → W p l e (bf_rm 432) s m ([.ref b, .int x1] : List Value).toArray below meth c' H locs 0 0 Q (F0 m 86 ls []) := by
            intro u86_4 n86
            induction n86 with
            | zero =>
              intro v86_5 v86_7 T86 H locs ls hf hz hd hl
              exact absurd (show (none : Option (Int32 × bf_WS)) = some (r, T') from hf) (by intro h; cases h)
            | succ n86 ih86 =>
              intro v86_5 v86_7 T86 H locs ls hf hz hd hl
              have hf : fX0_left_86b (fX0_left_43 x1 n43) (fX0_left_75 (fX0_left_43 x1 n43) x1 u75_2 u75_3 n75) x1 u75_2 u75_3 u86_4 (fX0_left_86 (fX0_left_43 x1 n43) (fX0_left_75 (fX0_left_43 x1 n43) x1 u75_2 u75_3 n75) x1 u75_2 u75_3 u86_4 n86) v86_5 v86_7 T86 = some (r, T') := hf
              unfold fX0_left_86b at hf
              refine lv_iload hx hb dX0_left_86 (lv_at hl 6 rfl) ?_
              refine lv_iload_n hx hb dX0_left_88 rfl (lv_at hl 3 rfl) ?_
              refine lv_icmp_gt (tgt := 121) hx hb dX0_left_89 (by decide) (fun c_30 => ?_) (fun c_30 => ?_)
              · have hf := bf_it hf c_30
                exact J121 u86_4 v86_5 T86 _ _ _ hf hz hd (lv_sub hl [0, 1, 2, 3, 4, 5] rfl)
              · have hf := bf_ie hf c_30
                refine lv_iload hx hb dX0_left_92 (lv_at hl 6 rfl) ?_
                refine lv_iload hx hb dX0_left_94 (lv_at hl 4 rfl) ?_
                refine lv_icmp_gt (tgt := 121) hx hb dX0_left_96 (by decide) (fun c_31 => ?_) (fun c_31 => ?_)
                · have hf := bf_it hf c_31
                  exact J121 u86_4 v86_5 T86 _ _ _ hf hz hd (lv_sub hl [0, 1, 2, 3, 4, 5] rfl)
                · have hf := bf_ie hf c_31
                  refine lv_lload hx hb dX0_left_99 (lv_at hl 5 rfl) ?_
                  refine lv_aload_n hx hb dX0_left_101 rfl (lv_at hl 0 rfl) ?_
                  refine bf_yG (v := .ref (b + 1803)) X hd 10 (by decide) (Or.inl q437) rfl dX0_left_102 ?_
                  refine lv_iload hx hb dX0_left_105 (lv_at hl 4 rfl) ?_
                  refine lv_iload hx hb dX0_left_107 (lv_at hl 6 rfl) ?_
                  refine lv_isub hx hb dX0_left_109 ?_
                  obtain ⟨g_32, hf⟩ := bf_c_some hf
                  refine bf_iald X hd (bf_pB_3 G ν b T86) g_32 dX0_left_110 ?_
                  refine lv_i2l (v := (T86.1 2 (u86_4 - v86_7).toNatClampNeg).toInt64) hx hb dX0_left_111 rfl ?_
                  refine lv_ladd hx hb dX0_left_112 ?_
                  obtain ⟨x5_33, ex5_33, hf⟩ := bf_l_e hf
                  refine bf_topl ex5_33 ?_
                  refine lv_lstore (lv' := [(5, .long x5_33), (0, .ref b), (1, .int x1), (2, .int u75_2), (3, .int u75_3), (4, .int u86_4), (7, .int v86_7)]) hx hb dX0_left_113 hl (by decide) rfl (fun ls hl => ?_)
                  obtain ⟨x7_34, ex7_34, hf⟩ := bf_l_e hf
                  refine lv_iinc (v := x7_34) (lv' := [(7, .int x7_34), (5, .long x5_33), (0, .ref b), (1, .int x1), (2, .int u75_2), (3, .int u75_3), (4, .int u86_4)]) hx hb dX0_left_115 hl (k := 6) rfl (by rw [ex7_34]; rfl) (by decide) rfl (fun ls hl => ?_)
                  refine lv_goto (tgt := 86) hx hb dX0_left_118 (by decide) ?_
                  exact ih86 x5_33 x7_34 T86 _ _ _ hf hz hd (lv_sub hl [2, 3, 4, 5, 6, 1, 0] rfl)
          refine lv_iload hx hb dX0_left_75 (lv_at hl 4 rfl) ?_
          refine lv_if_lt (tgt := 141) hx hb dX0_left_77 (by decide) (fun c_35 => ?_) (fun c_35 => ?_)
          · have hf := bf_it hf c_35
            exact J141 u75_2 T75 _ _ _ hf hz hd (lv_sub hl [0, 1, 2] rfl)
          · have hf := bf_ie hf c_35
            refine lv_lconst (v := 0) hx hb dX0_left_80 (by decide) ?_
            obtain ⟨x5_36, ex5_36, hf⟩ := bf_l_e hf
            refine bf_topl ex5_36 ?_
            refine lv_lstore (lv' := [(5, .long x5_36), (0, .ref b), (1, .int x1), (2, .int u75_2), (3, .int u75_3), (4, .int v75_4)]) hx hb dX0_left_81 hl (by decide) rfl (fun ls hl => ?_)
            refine lv_iconst (v := 0) hx hb dX0_left_83 (by decide) ?_
            refine lv_istore (lv' := [(7, .int 0), (5, .long x5_36), (0, .ref b), (1, .int x1), (2, .int u75_2), (3, .int u75_3), (4, .int v75_4)]) hx hb dX0_left_84 hl (by decide) rfl (fun ls hl => ?_)
            exact L86 v75_4 bf_fuel x5_36 0 T75 _ _ _ hf hz hd (lv_sub hl [2, 3, 4, 5, 6, 1, 0] rfl)
      refine lv_iload_n hx hb dX0_left_43 rfl (lv_at hl 2 rfl) ?_
      refine lv_aload_n hx hb dX0_left_44 rfl (lv_at hl 0 rfl) ?_
      refine bf_yG (v := .ref (bf_ca b 0)) X hd 4 (by decide) (Or.inl q430) rfl dX0_left_45 ?_
      refine bf_rC X hd (bf_pB_hC G ν b T43 (i := 0) (by decide)) 12 (by decide) (Or.inr ⟨_, q327⟩) rfl dX0_left_48 ?_
      refine lv_icmp_ge (tgt := 147) hx hb dX0_left_51 (by decide) (fun c_37 => ?_) (fun c_37 => ?_)
      · have hf := bf_it hf c_37
        exact J147 T43 _ _ _ hf hz hd (lv_sub hl [0, 1] rfl)
      · have hf := bf_ie hf c_37
        refine lv_aload_n hx hb dX0_left_54 rfl (lv_at hl 0 rfl) ?_
        refine bf_yG (v := .ref (bf_ca b 0)) X hd 4 (by decide) (Or.inl q430) rfl dX0_left_55 ?_
        refine lv_aload_n hx hb dX0_left_58 rfl (lv_at hl 0 rfl) ?_
        refine bf_yG (v := .ref (bf_ca b 0)) X hd 4 (by decide) (Or.inl q430) rfl dX0_left_59 ?_
        refine bf_rC (v := .ref (bf_ca b 0 + 3)) X hd (bf_pB_hC G ν b T43 (i := 0) (by decide)) 2 (by decide) (Or.inr ⟨_, q305⟩) rfl dX0_left_62 ?_
        refine lv_iload_n hx hb dX0_left_65 rfl (lv_at hl 2 rfl) ?_
        obtain ⟨g_38, hf⟩ := bf_c_some hf
        refine bf_aald (v := .ref (bf_ca b 0 + 180 + 2 * v43_2.toNatClampNeg)) X hd (bf_c3 (bf_pB_hC G ν b T43 (i := 0) (by decide))) 4 rfl rfl g_38 rfl dX0_left_66 ?_
        obtain ⟨r_40, S_39, er_40, hf⟩ := bf_b2_some hf
        refine bf_cci (n := 1) (As := [.ref (bf_ca b 0 + 180 + 2 * v43_2.toNatClampNeg)]) (rest := []) X (bf_toC (i := 0) hd (by decide)) (mX1_want l G (bf_pB G ν b T43) (bf_ca b 0) (bf_qs T43 0) (bf_Ds T43 0) (bf_ZB_Z (by decide) (hz 0 (by decide))) (bf_S T43 0) v43_2.toNatClampNeg (bf_in_lt g_38) er_40) (lw_V q1248 q1177 q1178 q149 q1179) (by decide +kernel) ⟨Nat.le_of_ble_eq_true rfl, Nat.le_of_ble_eq_true rfl⟩ rfl hl.1 rfl (Nat.le_of_ble_eq_true rfl) dX0_left_67 ⟨Nat.le_of_ble_eq_true rfl, Nat.le_of_ble_eq_true rfl⟩ (fun H locs hd => ?_)
        have hd := bf_fromC (by decide) hd
        obtain ⟨T_41, eT_41, hf⟩ := bf_l_e hf
        have hd := hd.of (congrArg (bf_pB G ν b) eT_41.symm)
        have hz := bf_wok_uS hz eT_41
        refine lv_istore_n (lv' := [(3, .int r_40), (0, .ref b), (1, .int x1), (2, .int v43_2)]) hx hb dX0_left_70 rfl hl (by decide) rfl (fun ls hl => ?_)
        refine lv_bipush (v := 99) hx hb dX0_left_71 (by decide) ?_
        refine lv_istore (lv' := [(4, .int 99), (3, .int r_40), (0, .ref b), (1, .int x1), (2, .int v43_2)]) hx hb dX0_left_73 hl (by decide) rfl (fun ls hl => ?_)
        exact L75 v43_2 r_40 bf_fuel 99 T_41 _ _ _ hf hz hd (lv_sub hl [2, 3, 4, 1, 0] rfl)
  have J41 : ∀ (T41 : bf_WS) (H : Heap) (locs : List Loc) (ls : Array Slot), fX0_left_41 x1 T41 = some (r, T') → bf_wok G ν b T41 → bf_Dy G s H locs (bf_pB G ν b T41) → lv_has ls 8 [(0, .ref b), (1, .int x1)] → W p l e (bf_rm 432) s m ([.ref b, .int x1] : List Value).toArray below meth c' H locs 0 0 Q (F0 m 41 ls []) := by
    intro T41 H locs ls hf hz hd hl
    unfold fX0_left_41 at hf
    refine lv_iconst (v := 0) hx hb dX0_left_41 (by decide) ?_
    refine lv_istore_n (lv' := [(2, .int 0), (0, .ref b), (1, .int x1)]) hx hb dX0_left_42 rfl hl (by decide) rfl (fun ls hl => ?_)
    exact L43 bf_fuel 0 T41 _ _ _ hf hz hd (lv_sub hl [1, 2, 0] rfl)
  have L14 : ∀ (n14 : Nat) (v14_2 : Int32) (T14 : bf_WS) (H : Heap) (locs : List Loc) (ls : Array Slot), fX0_left_14 x1 n14 v14_2 T14 = some (r, T') → bf_wok G ν b T14 → bf_Dy G s H locs (bf_pB G ν b T14) → lv_has ls 8 [(0, .ref b), (1, .int x1), (2, .int v14_2)] → W p l e (bf_rm 432) s m ([.ref b, .int x1] : List Value).toArray below meth c' H locs 0 0 Q (F0 m 14 ls []) := by
    intro n14
    induction n14 with
    | zero =>
      intro v14_2 T14 H locs ls hf hz hd hl
      exact absurd (show (none : Option (Int32 × bf_WS)) = some (r, T') from hf) (by intro h; cases h)
    | succ n14 ih14 =>
      intro v14_2 T14 H locs ls hf hz hd hl
      have hf : fX0_left_14b x1 (fX0_left_14 x1 n14) v14_2 T14 = some (r, T') := hf
      unfold fX0_left_14b at hf
      have J34 : ∀ (w34_2 : Int32) (t34_0 : Int32) (t34_1 : Int32) (T34 : bf_WS) (H : Heap) (locs : List Loc) (ls : Array Slot), fX0_left_34 (fX0_left_14 x1 n14) x1 w34_2 t34_0 t34_1 T34 = some (r, T') → bf_wok G ν b T34 → bf_Dy G s H locs (bf_pB G ν b T34) → lv_has ls 8 [(0, .ref b), (1, .int x1), (2, .int w34_2)] → W p l e (bf_rm 432) s m ([.ref b, .int x1] : List Value).toArray below meth c' H locs 0 0 Q (F0 m 34 ls [.int t34_0, .int t34_1, .ref (b + 1803)]) := by
        intro w34_2 t34_0 t34_1 T34 H locs ls hf hz hd hl
        unfold fX0_left_34 at hf
        obtain ⟨g_42, hf⟩ := bf_c_some hf
        refine bf_yW X hd g_42 dX0_left_34 (fun H locs hd => ?_)
        obtain ⟨T_43, eT_43, hf⟩ := bf_l_e hf
        have hd := hd.of (congrArg (bf_pB G ν b) eT_43.symm)
        have hz := bf_wok_uB hz eT_43
        obtain ⟨x2_44, ex2_44, hf⟩ := bf_l_e hf
        refine lv_iinc (v := x2_44) (lv' := [(2, .int x2_44), (0, .ref b), (1, .int x1)]) hx hb dX0_left_35 hl (k := 2) rfl (by rw [ex2_44]; rfl) (by decide) rfl (fun ls hl => ?_)
        refine lv_goto (tgt := 14) hx hb dX0_left_38 (by decide) ?_
        exact ih14 x2_44 T_43 _ _ _ hf hz hd (lv_sub hl [1, 2, 0] rfl)
      refine lv_iload_n hx hb dX0_left_14 rfl (lv_at hl 2 rfl) ?_
      refine lv_bipush (v := 99) hx hb dX0_left_15 (by decide) ?_
      refine lv_icmp_gt (tgt := 41) hx hb dX0_left_17 (by decide) (fun c_45 => ?_) (fun c_45 => ?_)
      · have hf := bf_it hf c_45
        exact J41 T14 _ _ _ hf hz hd (lv_sub hl [0, 1] rfl)
      · have hf := bf_ie hf c_45
        refine lv_aload_n hx hb dX0_left_20 rfl (lv_at hl 0 rfl) ?_
        refine bf_yG (v := .ref (b + 1803)) X hd 10 (by decide) (Or.inl q437) rfl dX0_left_21 ?_
        refine lv_iload_n hx hb dX0_left_24 rfl (lv_at hl 2 rfl) ?_
        refine lv_iload_n hx hb dX0_left_25 rfl (lv_at hl 2 rfl) ?_
        refine lv_if_ne (tgt := 33) hx hb dX0_left_26 (by decide) (fun c_46 => ?_) (fun c_46 => ?_)
        · have hf := bf_ie hf c_46
          refine lv_iconst (v := 0) hx hb dX0_left_33 (by decide) ?_
          exact J34 v14_2 0 v14_2 T14 _ _ _ hf hz hd (lv_sub hl [0, 1, 2] rfl)
        · have hf := bf_it hf c_46
          refine lv_iconst (v := 1) hx hb dX0_left_29 (by decide) ?_
          refine lv_goto (tgt := 34) hx hb dX0_left_30 (by decide) ?_
          exact J34 v14_2 1 v14_2 T14 _ _ _ hf hz hd (lv_sub hl [0, 1, 2] rfl)
  unfold fX0_left at hf
  refine lv_iload_n hx hb dX0_left_0 rfl (lv_at hl 1 rfl) ?_
  refine lv_iconst (v := 0) hx hb dX0_left_1 (by decide) ?_
  refine lv_bipush (v := 99) hx hb dX0_left_2 (by decide) ?_
  refine bf_cSz (n := 3) (As := [.int x1, .int 0, .int 99]) (rest := []) X hd (mX0_isIn l G _ x1 0 99 rfl) (lw_S q473 q474 q148 q475) (by decide +kernel) ⟨Nat.le_of_ble_eq_true rfl, Nat.le_of_ble_eq_true rfl⟩ rfl hl.1 rfl (Nat.le_of_ble_eq_true rfl) dX0_left_4 ⟨Nat.le_of_ble_eq_true rfl, Nat.le_of_ble_eq_true rfl⟩ (fun r σ' H locs hF z_47 hd => ?_)
  rw [hF.2] at hd
  refine bf_top hF.1.symm ?_
  rw [hF.1] at z_47
  refine lv_if_ne (tgt := 12) hx hb dX0_left_7 (by decide) (fun c_48 => ?_) (fun c_48 => ?_)
  · have hf := bf_ie hf c_48
    refine lv_iconst (v := 0) hx hb dX0_left_12 (by decide) ?_
    refine lv_istore_n (lv' := [(2, .int 0), (0, .ref b), (1, .int x1)]) hx hb dX0_left_13 rfl hl (by decide) rfl (fun ls hl => ?_)
    exact L14 bf_fuel 0 T _ _ _ hf hz hd (lv_sub hl [1, 2, 0] rfl)
  · have hf := bf_it hf c_48
    refine lv_iconst (v := (-1)) hx hb dX0_left_10 (by decide) ?_
    exact kret _ _ _ _ _ _ ⟨(bf_pr hf).1, congrArg (bf_pB G ν b) (bf_pr hf).2, (bf_pr hf).2 ▸ hz⟩ hd dX0_left_11
def fX0_seatsOf_41 (T : bf_WS) (k4 : Int32 → Int32 → Option (Int32)) (x1 : Int32) (w41_3 : Int32) (t41_0 : Int32) (t41_1 : Int32) : Option (Int32) := bf_l ((t41_1 + t41_0)) fun x2_4 => bf_l (w41_3 + 1) fun x3_5 => k4 x2_4 x3_5
def fX0_seatsOf_4b (T : bf_WS) (x1 : Int32) (k4 : Int32 → Int32 → Option (Int32)) (v4_2 : Int32) (v4_3 : Int32) : Option (Int32) := if ((bf_S T 0).1 0 10 0) ≤ v4_3 then (some v4_2) else (if ((x1 >>> (v4_3 &&& 31)) &&& 1) = 1 then (bf_c (bf_in v4_3 5) <| fX0_seatsOf_41 T k4 x1 v4_3 ((bf_S T 0).1 1 v4_3.toNatClampNeg 2) v4_2) else (fX0_seatsOf_41 T k4 x1 v4_3 0 v4_2))
def fX0_seatsOf_4 (T : bf_WS) (x1 : Int32) : Nat → Int32 → Int32 → Option (Int32)
  | 0, _, _ => none
  | n + 1, v4_2, v4_3 => fX0_seatsOf_4b T x1 (fX0_seatsOf_4 T x1 n) v4_2 v4_3
def fX0_seatsOf (T : bf_WS) (x1 : Int32) : Option (Int32) := fX0_seatsOf_4 T x1 bf_fuel 0 0
set_option maxHeartbeats 4000000 in
theorem mX0_seatsOf (l : Launch) (G : bf_G) (ν : bf_V) (b : Nat) (T : bf_WS) (hz : bf_wok G ν b T) (x1 : Int32) {r : Int32} (hf : fX0_seatsOf T x1 = some r) : bf_MI l G yX0_seatsOf cX0_seatsOf 4 (bf_rm 0) [.ref b, .int x1] (bf_pB G ν b T) (fun v σ' => v = r ∧ σ' = bf_pB G ν b T ∧ bf_wok G ν b T) := by
  refine bf_MI.of rfl (Nat.le_of_ble_eq_true rfl) ?_
  intro p e s m below meth c' Q X hlk hnm kret hd ls hl
  have hx := X.1
  have hb := X.2.1
  have hml := X.2.2.1
  have hown := X.2.2.2.1
  have hts := X.2.2.2.2
  have hl : lv_has ls 4 [(0, .ref b), (1, .int x1)] := hl
  have L4 : ∀ (n4 : Nat) (v4_2 : Int32) (v4_3 : Int32) (H : Heap) (locs : List Loc) (ls : Array Slot), fX0_seatsOf_4 T x1 n4 v4_2 v4_3 = some r → bf_wok G ν b T → bf_Dy G s H locs (bf_pB G ν b T) → lv_has ls 4 [(0, .ref b), (1, .int x1), (2, .int v4_2), (3, .int v4_3)] → W p l e (bf_rm 0) s m ([.ref b, .int x1] : List Value).toArray below meth c' H locs 0 0 Q (F0 m 4 ls []) := by
    intro n4
    induction n4 with
    | zero =>
      intro v4_2 v4_3 H locs ls hf hz hd hl
      exact absurd (show (none : Option (Int32)) = some r from hf) (by intro h; cases h)
    | succ n4 ih4 =>
      intro v4_2 v4_3 H locs ls hf hz hd hl
      have hf : fX0_seatsOf_4b T x1 (fX0_seatsOf_4 T x1 n4) v4_2 v4_3 = some r := hf
      unfold fX0_seatsOf_4b at hf
      have J41 : ∀ (w41_3 : Int32) (t41_0 : Int32) (t41_1 : Int32) (H : Heap) (locs : List Loc) (ls : Array Slot), fX0_seatsOf_41 T (fX0_seatsOf_4 T x1 n4) x1 w41_3 t41_0 t41_1 = some r → bf_wok G ν b T → bf_Dy G s H locs (bf_pB G ν b T) → lv_has ls 4 [(0, .ref b), (1, .int x1), (3, .int w41_3)] → W p l e (bf_rm 0) s m ([.ref b, .int x1] : List Value).toArray below meth c' H locs 0 0 Q (F0 m 41 ls [.int t41_0, .int t41_1]) := by
        intro w41_3 t41_0 t41_1 H locs ls hf hz hd hl
        unfold fX0_seatsOf_41 at hf
        refine lv_iadd hx hb dX0_seatsOf_41 ?_
        obtain ⟨x2_6, ex2_6, hf⟩ := bf_l_e hf
        refine bf_top ex2_6 ?_
        refine lv_istore_n (lv' := [(2, .int x2_6), (0, .ref b), (1, .int x1), (3, .int w41_3)]) hx hb dX0_seatsOf_42 rfl hl (by decide) rfl (fun ls hl => ?_)
        obtain ⟨x3_7, ex3_7, hf⟩ := bf_l_e hf
        refine lv_iinc (v := x3_7) (lv' := [(3, .int x3_7), (2, .int x2_6), (0, .ref b), (1, .int x1)]) hx hb dX0_seatsOf_43 hl (k := 3) rfl (by rw [ex3_7]; rfl) (by decide) rfl (fun ls hl => ?_)
        refine lv_goto (tgt := 4) hx hb dX0_seatsOf_46 (by decide) ?_
        exact ih4 x2_6 x3_7 _ _ _ hf hz hd (lv_sub hl [2, 3, 1, 0] rfl)
      refine lv_iload_n hx hb dX0_seatsOf_4 rfl (lv_at hl 3 rfl) ?_
      refine lv_aload_n hx hb dX0_seatsOf_5 rfl (lv_at hl 0 rfl) ?_
      refine bf_yG (v := .ref (bf_ca b 0)) X hd 4 (by decide) (Or.inl q430) rfl dX0_seatsOf_6 ?_
      refine bf_rC X hd (bf_pB_hC G ν b T (i := 0) (by decide)) 10 (by decide) (Or.inr ⟨_, q321⟩) rfl dX0_seatsOf_9 ?_
      refine lv_icmp_ge (tgt := 49) hx hb dX0_seatsOf_12 (by decide) (fun c_8 => ?_) (fun c_8 => ?_)
      · have hf := bf_it hf c_8
        refine lv_iload_n hx hb dX0_seatsOf_49 rfl (lv_at hl 2 rfl) ?_
        exact kret _ _ _ _ _ _ ⟨bf_so hf, rfl, hz⟩ hd dX0_seatsOf_50
      · have hf := bf_ie hf c_8
        refine lv_iload_n hx hb dX0_seatsOf_15 rfl (lv_at hl 2 rfl) ?_
        refine lv_iload_n hx hb dX0_seatsOf_16 rfl (lv_at hl 1 rfl) ?_
        refine lv_iload_n hx hb dX0_seatsOf_17 rfl (lv_at hl 3 rfl) ?_
        refine lv_ishr hx hb dX0_seatsOf_18 ?_
        refine lv_iconst (v := 1) hx hb dX0_seatsOf_19 (by decide) ?_
        refine lv_iand hx hb dX0_seatsOf_20 ?_
        refine lv_iconst (v := 1) hx hb dX0_seatsOf_21 (by decide) ?_
        refine lv_icmp_ne (tgt := 40) hx hb dX0_seatsOf_22 (by decide) (fun c_9 => ?_) (fun c_9 => ?_)
        · have hf := bf_ie hf c_9
          refine lv_iconst (v := 0) hx hb dX0_seatsOf_40 (by decide) ?_
          exact J41 v4_3 0 v4_2 _ _ _ hf hz hd (lv_sub hl [0, 1, 3] rfl)
        · have hf := bf_it hf c_9
          refine lv_aload_n hx hb dX0_seatsOf_25 rfl (lv_at hl 0 rfl) ?_
          refine bf_yG (v := .ref (bf_ca b 0)) X hd 4 (by decide) (Or.inl q430) rfl dX0_seatsOf_26 ?_
          refine bf_rC (v := .ref (bf_ca b 0 + 1)) X hd (bf_pB_hC G ν b T (i := 0) (by decide)) 0 (by decide) (Or.inr ⟨_, q300⟩) rfl dX0_seatsOf_29 ?_
          refine lv_iload_n hx hb dX0_seatsOf_32 rfl (lv_at hl 3 rfl) ?_
          obtain ⟨g_10, hf⟩ := bf_c_some hf
          refine bf_aald (v := .ref (bf_ca b 0 + 161 + v4_3.toNatClampNeg)) X hd (bf_c1 (bf_pB_hC G ν b T (i := 0) (by decide))) 2 rfl rfl g_10 rfl dX0_seatsOf_33 ?_
          refine bf_rP X hd (bf_pB_hC G ν b T (i := 0) (by decide)) (bf_in_lt g_10) 2 (by decide) (Or.inr ⟨_, q248⟩) dX0_seatsOf_34 ?_
          refine lv_goto (tgt := 41) hx hb dX0_seatsOf_37 (by decide) ?_
          exact J41 v4_3 ((bf_S T 0).1 1 v4_3.toNatClampNeg 2) v4_2 _ _ _ hf hz hd (lv_sub hl [0, 1, 3] rfl)
  unfold fX0_seatsOf at hf
  refine lv_iconst (v := 0) hx hb dX0_seatsOf_0 (by decide) ?_
  refine lv_istore_n (lv' := [(2, .int 0), (0, .ref b), (1, .int x1)]) hx hb dX0_seatsOf_1 rfl hl (by decide) rfl (fun ls hl => ?_)
  refine lv_iconst (v := 0) hx hb dX0_seatsOf_2 (by decide) ?_
  refine lv_istore_n (lv' := [(3, .int 0), (2, .int 0), (0, .ref b), (1, .int x1)]) hx hb dX0_seatsOf_3 rfl hl (by decide) rfl (fun ls hl => ?_)
  exact L4 bf_fuel 0 0 _ _ _ hf hz hd (lv_sub hl [2, 3, 1, 0] rfl)
def fX0_rule (T : bf_WS) (x1 : Int32) : Option (Int32) := bf_b (fX0_seatsOf T x1) fun r_1 => bf_b (fX0_seatsOf T ((1 <<< (((bf_S T 0).1 0 10 0) &&& 31)) - 1)) fun r_2 => if (2 * r_1) ≤ r_2 then (some 0) else (some 1)
set_option maxHeartbeats 4000000 in
theorem mX0_rule (l : Launch) (G : bf_G) (ν : bf_V) (b : Nat) (T : bf_WS) (hz : bf_wok G ν b T) (x1 : Int32) {r : Int32} (hf : fX0_rule T x1 = some r) : bf_MZ l G yX0_rule cX0_rule 2 (bf_rm 1) [.ref b, .int x1] (bf_pB G ν b T) (fun v σ' => v = r ∧ σ' = bf_pB G ν b T ∧ bf_wok G ν b T) := by
  refine bf_MZ.of rfl (Nat.le_of_ble_eq_true rfl) ?_
  intro p e s m below meth c' Q X hlk hnm kret hd ls hl
  have hx := X.1
  have hb := X.2.1
  have hml := X.2.2.1
  have hown := X.2.2.2.1
  have hts := X.2.2.2.2
  have hl : lv_has ls 2 [(0, .ref b), (1, .int x1)] := hl
  unfold fX0_rule at hf
  refine lv_iconst (v := 2) hx hb dX0_rule_0 (by decide) ?_
  refine lv_aload_n hx hb dX0_rule_1 rfl (lv_at hl 0 rfl) ?_
  refine lv_iload_n hx hb dX0_rule_2 rfl (lv_at hl 1 rfl) ?_
  obtain ⟨r_4, er_4, hf⟩ := bf_b_some hf
  refine bf_bci (n := 1) (As := [.int x1]) (rest := [.int 2]) X hd (mX0_seatsOf l G ν b T hz x1 er_4) (lw_V q1344 q1346 qs55 q148 q1347) (by decide +kernel) ⟨Nat.le_of_ble_eq_true rfl, Nat.le_of_ble_eq_true rfl⟩ rfl hl.1 rfl (Nat.le_of_ble_eq_true rfl) dX0_rule_3 ⟨Nat.le_of_ble_eq_true rfl, Nat.le_of_ble_eq_true rfl⟩ (fun H locs hz hd => ?_)
  refine lv_imul hx hb dX0_rule_6 ?_
  refine lv_aload_n hx hb dX0_rule_7 rfl (lv_at hl 0 rfl) ?_
  refine lv_iconst (v := 1) hx hb dX0_rule_8 (by decide) ?_
  refine lv_aload_n hx hb dX0_rule_9 rfl (lv_at hl 0 rfl) ?_
  refine bf_yG (v := .ref (bf_ca b 0)) X hd 4 (by decide) (Or.inl q430) rfl dX0_rule_10 ?_
  refine bf_rC X hd (bf_pB_hC G ν b T (i := 0) (by decide)) 10 (by decide) (Or.inr ⟨_, q321⟩) rfl dX0_rule_13 ?_
  refine lv_ishl hx hb dX0_rule_16 ?_
  refine lv_iconst (v := 1) hx hb dX0_rule_17 (by decide) ?_
  refine lv_isub hx hb dX0_rule_18 ?_
  obtain ⟨r_5, er_5, hf⟩ := bf_b_some hf
  refine bf_bci (n := 1) (As := [.int ((1 <<< (((bf_S T 0).1 0 10 0) &&& 31)) - 1)]) (rest := [.int (2 * r_4)]) X hd (mX0_seatsOf l G ν b T hz ((1 <<< (((bf_S T 0).1 0 10 0) &&& 31)) - 1) er_5) (lw_V q1344 q1346 qs55 q148 q1347) (by decide +kernel) ⟨Nat.le_of_ble_eq_true rfl, Nat.le_of_ble_eq_true rfl⟩ rfl hl.1 rfl (Nat.le_of_ble_eq_true rfl) dX0_rule_19 ⟨Nat.le_of_ble_eq_true rfl, Nat.le_of_ble_eq_true rfl⟩ (fun H locs hz hd => ?_)
  refine lv_icmp_le (tgt := 29) hx hb dX0_rule_22 (by decide) (fun c_6 => ?_) (fun c_6 => ?_)
  · have hf := bf_it hf c_6
    refine lv_iconst (v := 0) hx hb dX0_rule_29 (by decide) ?_
    exact kret _ _ _ _ _ _ ⟨bf_so hf, rfl, hz⟩ (Or.inl rfl) hd dX0_rule_30
  · have hf := bf_ie hf c_6
    refine lv_iconst (v := 1) hx hb dX0_rule_25 (by decide) ?_
    refine lv_goto (tgt := 30) hx hb dX0_rule_26 (by decide) ?_
    exact kret _ _ _ _ _ _ ⟨bf_so hf, rfl, hz⟩ (Or.inr rfl) hd dX0_rule_30
def fX0_rules_60 (T : bf_WS) (x1 : Int32) (w60_2 : Int32) : Option (Int32) := if w60_2 = (-1) then (some w60_2) else (if x1 = 1 then (some w60_2) else (some (fJ13_bitCount w60_2)))
def fX0_rules_54 (T : bf_WS) (k15 : Int32 → Int32 → Option (Int32)) (x1 : Int32) (w54_2 : Int32) (w54_3 : Int32) : Option (Int32) := bf_l (w54_3 + 1) fun x3_7 => k15 w54_2 x3_7
def fX0_rules_44 (T : bf_WS) (k15 : Int32 → Int32 → Option (Int32)) (x1 : Int32) (w44_2 : Int32) (w44_3 : Int32) : Option (Int32) := bf_b (fX0_rule T w44_3) fun r_4 => if r_4 = 0 then (fX0_rules_54 T k15 x1 w44_2 w44_3) else (fX0_rules_54 T k15 x1 w44_3 w44_3)
def fX0_rules_15b (T : bf_WS) (x1 : Int32) (k15 : Int32 → Int32 → Option (Int32)) (v15_2 : Int32) (v15_3 : Int32) : Option (Int32) := if (1 <<< (((bf_S T 0).1 0 10 0) &&& 31)) ≤ v15_3 then (fX0_rules_60 T x1 v15_2) else (if v15_2 = (-1) then (fX0_rules_44 T k15 x1 v15_2 v15_3) else (if (fJ13_bitCount v15_2) ≤ (fJ13_bitCount v15_3) then (fX0_rules_54 T k15 x1 v15_2 v15_3) else (fX0_rules_44 T k15 x1 v15_2 v15_3)))
def fX0_rules_15 (T : bf_WS) (x1 : Int32) : Nat → Int32 → Int32 → Option (Int32)
  | 0, _, _ => none
  | n + 1, v15_2, v15_3 => fX0_rules_15b T x1 (fX0_rules_15 T x1 n) v15_2 v15_3
def fX0_rules (T : bf_WS) (x1 : Int32) : Option (Int32) := if (fX0_isIn x1 0 1) = 0 then (some (-1)) else (fX0_rules_15 T x1 bf_fuel (-1) 0)
set_option maxHeartbeats 4000000 in
theorem mX0_rules (l : Launch) (G : bf_G) (ν : bf_V) (b : Nat) (T : bf_WS) (hz : bf_wok G ν b T) (x1 : Int32) {r : Int32} (hf : fX0_rules T x1 = some r) : bf_MI l G yX0_rules cX0_rules 4 (bf_rm 2) [.ref b, .int x1] (bf_pB G ν b T) (fun v σ' => v = r ∧ σ' = bf_pB G ν b T ∧ bf_wok G ν b T) := by
  refine bf_MI.of rfl (Nat.le_of_ble_eq_true rfl) ?_
  intro p e s m below meth c' Q X hlk hnm kret hd ls hl
  have hx := X.1
  have hb := X.2.1
  have hml := X.2.2.1
  have hown := X.2.2.2.1
  have hts := X.2.2.2.2
  have hl : lv_has ls 4 [(0, .ref b), (1, .int x1)] := hl
  have J60 : ∀ (w60_2 : Int32) (H : Heap) (locs : List Loc) (ls : Array Slot), fX0_rules_60 T x1 w60_2 = some r → bf_wok G ν b T → bf_Dy G s H locs (bf_pB G ν b T) → lv_has ls 4 [(1, .int x1), (2, .int w60_2)] → W p l e (bf_rm 2) s m ([.ref b, .int x1] : List Value).toArray below meth c' H locs 0 0 Q (F0 m 60 ls []) := by
    intro w60_2 H locs ls hf hz hd hl
    unfold fX0_rules_60 at hf
    refine lv_iload_n hx hb dX0_rules_60 rfl (lv_at hl 1 rfl) ?_
    refine lv_iconst (v := (-1)) hx hb dX0_rules_61 (by decide) ?_
    refine lv_icmp_eq (tgt := 70) hx hb dX0_rules_62 (by decide) (fun c_12 => ?_) (fun c_12 => ?_)
    · have hf := bf_it hf c_12
      refine lv_iload_n hx hb dX0_rules_70 rfl (lv_at hl 1 rfl) ?_
      refine lv_goto (tgt := 78) hx hb dX0_rules_71 (by decide) ?_
      exact kret _ _ _ _ _ _ ⟨bf_so hf, rfl, hz⟩ hd dX0_rules_78
    · have hf := bf_ie hf c_12
      refine lv_iload_n hx hb dX0_rules_65 rfl (lv_at hl 0 rfl) ?_
      refine lv_iconst (v := 1) hx hb dX0_rules_66 (by decide) ?_
      refine lv_icmp_ne (tgt := 74) hx hb dX0_rules_67 (by decide) (fun c_13 => ?_) (fun c_13 => ?_)
      · have hf := bf_ie hf c_13
        refine lv_iload_n hx hb dX0_rules_74 rfl (lv_at hl 1 rfl) ?_
        refine bf_cSi (n := 1) (As := [.int w60_2]) (rest := []) X hd (mJ13_bitCount l G _ w60_2 rfl) (lw_S q1296 q1297 q182 q1298) (by decide +kernel) ⟨Nat.le_of_ble_eq_true rfl, Nat.le_of_ble_eq_true rfl⟩ rfl hl.1 rfl (Nat.le_of_ble_eq_true rfl) dX0_rules_75 ⟨Nat.le_of_ble_eq_true rfl, Nat.le_of_ble_eq_true rfl⟩ (fun r σ' H locs hF hd => ?_)
        rw [hF.2] at hd
        refine bf_top hF.1.symm ?_
        exact kret _ _ _ _ _ _ ⟨bf_so hf, rfl, hz⟩ hd dX0_rules_78
      · have hf := bf_it hf c_13
        refine lv_iload_n hx hb dX0_rules_70 rfl (lv_at hl 1 rfl) ?_
        refine lv_goto (tgt := 78) hx hb dX0_rules_71 (by decide) ?_
        exact kret _ _ _ _ _ _ ⟨bf_so hf, rfl, hz⟩ hd dX0_rules_78
  have L15 : ∀ (n15 : Nat) (v15_2 : Int32) (v15_3 : Int32) (H : Heap) (locs : List Loc) (ls : Array Slot), fX0_rules_15 T x1 n15 v15_2 v15_3 = some r → bf_wok G ν b T → bf_Dy G s H locs (bf_pB G ν b T) → lv_has ls 4 [(0, .ref b), (1, .int x1), (2, .int v15_2), (3, .int v15_3)] → W p l e (bf_rm 2) s m ([.ref b, .int x1] : List Value).toArray below meth c' H locs 0 0 Q (F0 m 15 ls []) := by
    intro n15
    induction n15 with
    | zero =>
      intro v15_2 v15_3 H locs ls hf hz hd hl
      exact absurd (show (none : Option (Int32)) = some r from hf) (by intro h; cases h)
    | succ n15 ih15 =>
      intro v15_2 v15_3 H locs ls hf hz hd hl
      have hf : fX0_rules_15b T x1 (fX0_rules_15 T x1 n15) v15_2 v15_3 = some r := hf
      unfold fX0_rules_15b at hf
      have J54 : ∀ (w54_2 : Int32) (w54_3 : Int32) (H : Heap) (locs : List Loc) (ls : Array Slot), fX0_rules_54 T (fX0_rules_15 T x1 n15) x1 w54_2 w54_3 = some r → bf_wok G ν b T → bf_Dy G s H locs (bf_pB G ν b T) → lv_has ls 4 [(0, .ref b), (1, .int x1), (2, .int w54_2), (3, .int w54_3)] → W p l e (bf_rm 2) s m ([.ref b, .int x1] : List Value).toArray below meth c' H locs 0 0 Q (F0 m 54 ls []) := by
        intro w54_2 w54_3 H locs ls hf hz hd hl
        unfold fX0_rules_54 at hf
        obtain ⟨x3_14, ex3_14, hf⟩ := bf_l_e hf
        refine lv_iinc (v := x3_14) (lv' := [(3, .int x3_14), (0, .ref b), (1, .int x1), (2, .int w54_2)]) hx hb dX0_rules_54 hl (k := 3) rfl (by rw [ex3_14]; rfl) (by decide) rfl (fun ls hl => ?_)
        refine lv_goto (tgt := 15) hx hb dX0_rules_57 (by decide) ?_
        exact ih15 w54_2 x3_14 _ _ _ hf hz hd (lv_sub hl [1, 2, 3, 0] rfl)
      have J44 : ∀ (w44_2 : Int32) (w44_3 : Int32) (H : Heap) (locs : List Loc) (ls : Array Slot), fX0_rules_44 T (fX0_rules_15 T x1 n15) x1 w44_2 w44_3 = some r → bf_wok G ν b T → bf_Dy G s H locs (bf_pB G ν b T) → lv_has ls 4 [(0, .ref b), (1, .int x1), (2, .int w44_2), (3, .int w44_3)] → W p l e (bf_rm 2) s m ([.ref b, .int x1] : List Value).toArray below meth c' H locs 0 0 Q (F0 m 44 ls []) := by
        intro w44_2 w44_3 H locs ls hf hz hd hl
        unfold fX0_rules_44 at hf
        refine lv_aload_n hx hb dX0_rules_44 rfl (lv_at hl 0 rfl) ?_
        refine lv_iload_n hx hb dX0_rules_45 rfl (lv_at hl 3 rfl) ?_
        obtain ⟨r_15, er_15, hf⟩ := bf_b_some hf
        refine bf_bcz (n := 1) (As := [.int w44_3]) (rest := []) X hd (mX0_rule l G ν b T hz w44_3 er_15) (lw_V q1340 q1342 qs54 q148 q1343) (by decide +kernel) ⟨Nat.le_of_ble_eq_true rfl, Nat.le_of_ble_eq_true rfl⟩ rfl hl.1 rfl (Nat.le_of_ble_eq_true rfl) dX0_rules_46 ⟨Nat.le_of_ble_eq_true rfl, Nat.le_of_ble_eq_true rfl⟩ (fun H locs hz z_16 hd => ?_)
        refine lv_if_eq (tgt := 54) hx hb dX0_rules_49 (by decide) (fun c_17 => ?_) (fun c_17 => ?_)
        · have hf := bf_it hf c_17
          exact J54 w44_2 w44_3 _ _ _ hf hz hd (lv_sub hl [0, 1, 2, 3] rfl)
        · have hf := bf_ie hf c_17
          refine lv_iload_n hx hb dX0_rules_52 rfl (lv_at hl 3 rfl) ?_
          refine lv_istore_n (lv' := [(2, .int w44_3), (0, .ref b), (1, .int x1), (3, .int w44_3)]) hx hb dX0_rules_53 rfl hl (by decide) rfl (fun ls hl => ?_)
          exact J54 w44_3 w44_3 _ _ _ hf hz hd (lv_sub hl [1, 2, 0, 3] rfl)
      refine lv_iload_n hx hb dX0_rules_15 rfl (lv_at hl 3 rfl) ?_
      refine lv_iconst (v := 1) hx hb dX0_rules_16 (by decide) ?_
      refine lv_aload_n hx hb dX0_rules_17 rfl (lv_at hl 0 rfl) ?_
      refine bf_yG (v := .ref (bf_ca b 0)) X hd 4 (by decide) (Or.inl q430) rfl dX0_rules_18 ?_
      refine bf_rC X hd (bf_pB_hC G ν b T (i := 0) (by decide)) 10 (by decide) (Or.inr ⟨_, q321⟩) rfl dX0_rules_21 ?_
      refine lv_ishl hx hb dX0_rules_24 ?_
      refine lv_icmp_ge (tgt := 60) hx hb dX0_rules_25 (by decide) (fun c_18 => ?_) (fun c_18 => ?_)
      · have hf := bf_it hf c_18
        exact J60 v15_2 _ _ _ hf hz hd (lv_sub hl [1, 2] rfl)
      · have hf := bf_ie hf c_18
        refine lv_iload_n hx hb dX0_rules_28 rfl (lv_at hl 2 rfl) ?_
        refine lv_iconst (v := (-1)) hx hb dX0_rules_29 (by decide) ?_
        refine lv_icmp_eq (tgt := 44) hx hb dX0_rules_30 (by decide) (fun c_19 => ?_) (fun c_19 => ?_)
        · have hf := bf_it hf c_19
          exact J44 v15_2 v15_3 _ _ _ hf hz hd (lv_sub hl [0, 1, 2, 3] rfl)
        · have hf := bf_ie hf c_19
          refine lv_iload_n hx hb dX0_rules_33 rfl (lv_at hl 3 rfl) ?_
          refine bf_cSi (n := 1) (As := [.int v15_3]) (rest := []) X hd (mJ13_bitCount l G _ v15_3 rfl) (lw_S q1296 q1297 q182 q1298) (by decide +kernel) ⟨Nat.le_of_ble_eq_true rfl, Nat.le_of_ble_eq_true rfl⟩ rfl hl.1 rfl (Nat.le_of_ble_eq_true rfl) dX0_rules_34 ⟨Nat.le_of_ble_eq_true rfl, Nat.le_of_ble_eq_true rfl⟩ (fun r σ' H locs hF hd => ?_)
          rw [hF.2] at hd
          refine bf_top hF.1.symm ?_
          refine lv_iload_n hx hb dX0_rules_37 rfl (lv_at hl 2 rfl) ?_
          refine bf_cSi (n := 1) (As := [.int v15_2]) (rest := [.int (fJ13_bitCount v15_3)]) X hd (mJ13_bitCount l G _ v15_2 rfl) (lw_S q1296 q1297 q182 q1298) (by decide +kernel) ⟨Nat.le_of_ble_eq_true rfl, Nat.le_of_ble_eq_true rfl⟩ rfl hl.1 rfl (Nat.le_of_ble_eq_true rfl) dX0_rules_38 ⟨Nat.le_of_ble_eq_true rfl, Nat.le_of_ble_eq_true rfl⟩ (fun r σ' H locs hF hd => ?_)
          rw [hF.2] at hd
          refine bf_top hF.1.symm ?_
          refine lv_icmp_ge (tgt := 54) hx hb dX0_rules_41 (by decide) (fun c_20 => ?_) (fun c_20 => ?_)
          · have hf := bf_it hf c_20
            exact J54 v15_2 v15_3 _ _ _ hf hz hd (lv_sub hl [0, 1, 2, 3] rfl)
          · have hf := bf_ie hf c_20
            exact J44 v15_2 v15_3 _ _ _ hf hz hd (lv_sub hl [0, 1, 2, 3] rfl)
  unfold fX0_rules at hf
  refine lv_iload_n hx hb dX0_rules_0 rfl (lv_at hl 1 rfl) ?_
  refine lv_iconst (v := 0) hx hb dX0_rules_1 (by decide) ?_
  refine lv_iconst (v := 1) hx hb dX0_rules_2 (by decide) ?_
  refine bf_cSz (n := 3) (As := [.int x1, .int 0, .int 1]) (rest := []) X hd (mX0_isIn l G _ x1 0 1 rfl) (lw_S q473 q474 q148 q475) (by decide +kernel) ⟨Nat.le_of_ble_eq_true rfl, Nat.le_of_ble_eq_true rfl⟩ rfl hl.1 rfl (Nat.le_of_ble_eq_true rfl) dX0_rules_3 ⟨Nat.le_of_ble_eq_true rfl, Nat.le_of_ble_eq_true rfl⟩ (fun r σ' H locs hF z_21 hd => ?_)
  rw [hF.2] at hd
  refine bf_top hF.1.symm ?_
  rw [hF.1] at z_21
  refine lv_if_ne (tgt := 11) hx hb dX0_rules_6 (by decide) (fun c_22 => ?_) (fun c_22 => ?_)
  · have hf := bf_ie hf c_22
    refine lv_iconst (v := (-1)) hx hb dX0_rules_11 (by decide) ?_
    refine lv_istore_n (lv' := [(2, .int (-1)), (0, .ref b), (1, .int x1)]) hx hb dX0_rules_12 rfl hl (by decide) rfl (fun ls hl => ?_)
    refine lv_iconst (v := 0) hx hb dX0_rules_13 (by decide) ?_
    refine lv_istore_n (lv' := [(3, .int 0), (2, .int (-1)), (0, .ref b), (1, .int x1)]) hx hb dX0_rules_14 rfl hl (by decide) rfl (fun ls hl => ?_)
    exact L15 bf_fuel (-1) 0 _ _ _ hf hz hd (lv_sub hl [2, 3, 1, 0] rfl)
  · have hf := bf_it hf c_22
    refine lv_iconst (v := (-1)) hx hb dX0_rules_9 (by decide) ?_
    exact kret _ _ _ _ _ _ ⟨bf_so hf, rfl, hz⟩ hd dX0_rules_10
def fX0_weighs_61 (T : bf_WS) (k14 : Int32 → Int32 → Option (Int32)) (x1 : Int32) (w61_3 : Int32) (t61_0 : Int32) (t61_1 : Int32) : Option (Int32) := bf_l ((t61_1 + t61_0)) fun x2_9 => bf_l (w61_3 + 1) fun x3_10 => k14 x2_9 x3_10
def fX0_weighs_60 (T : bf_WS) (k14 : Int32 → Int32 → Option (Int32)) (x1 : Int32) (w60_3 : Int32) (t60_0 : Int32) : Option (Int32) := fX0_weighs_61 T k14 x1 w60_3 0 t60_0
def fX0_weighs_14b (T : bf_WS) (x1 : Int32) (k14 : Int32 → Int32 → Option (Int32)) (v14_2 : Int32) (v14_3 : Int32) : Option (Int32) := if (1 <<< (((bf_S T 0).1 0 10 0) &&& 31)) ≤ v14_3 then (some v14_2) else (if ((v14_3 >>> (x1 &&& 31)) &&& 1) = 0 then (bf_b (fX0_rule T v14_3) fun r_3 => if r_3 = 0 then (bf_b (fX0_rule T (v14_3 ||| (1 <<< (x1 &&& 31)))) fun r_6 => if r_6 = 0 then (fX0_weighs_60 T k14 x1 v14_3 v14_2) else (fX0_weighs_61 T k14 x1 v14_3 1 v14_2)) else (fX0_weighs_60 T k14 x1 v14_3 v14_2)) else (fX0_weighs_60 T k14 x1 v14_3 v14_2))
def fX0_weighs_14 (T : bf_WS) (x1 : Int32) : Nat → Int32 → Int32 → Option (Int32)
  | 0, _, _ => none
  | n + 1, v14_2, v14_3 => fX0_weighs_14b T x1 (fX0_weighs_14 T x1 n) v14_2 v14_3
def fX0_weighs (T : bf_WS) (x1 : Int32) : Option (Int32) := if (fX0_isParty T x1) = 0 then (some (-1)) else (fX0_weighs_14 T x1 bf_fuel 0 0)
set_option maxHeartbeats 4000000 in
theorem mX0_weighs (l : Launch) (G : bf_G) (ν : bf_V) (b : Nat) (T : bf_WS) (hz : bf_wok G ν b T) (x1 : Int32) {r : Int32} (hf : fX0_weighs T x1 = some r) : bf_MI l G yX0_weighs cX0_weighs 4 (bf_rm 3) [.ref b, .int x1] (bf_pB G ν b T) (fun v σ' => v = r ∧ σ' = bf_pB G ν b T ∧ bf_wok G ν b T) := by
  refine bf_MI.of rfl (Nat.le_of_ble_eq_true rfl) ?_
  intro p e s m below meth c' Q X hlk hnm kret hd ls hl
  have hx := X.1
  have hb := X.2.1
  have hml := X.2.2.1
  have hown := X.2.2.2.1
  have hts := X.2.2.2.2
  have hl : lv_has ls 4 [(0, .ref b), (1, .int x1)] := hl
  have L14 : ∀ (n14 : Nat) (v14_2 : Int32) (v14_3 : Int32) (H : Heap) (locs : List Loc) (ls : Array Slot), fX0_weighs_14 T x1 n14 v14_2 v14_3 = some r → bf_wok G ν b T → bf_Dy G s H locs (bf_pB G ν b T) → lv_has ls 4 [(0, .ref b), (1, .int x1), (2, .int v14_2), (3, .int v14_3)] → W p l e (bf_rm 3) s m ([.ref b, .int x1] : List Value).toArray below meth c' H locs 0 0 Q (F0 m 14 ls []) := by
    intro n14
    induction n14 with
    | zero =>
      intro v14_2 v14_3 H locs ls hf hz hd hl
      exact absurd (show (none : Option (Int32)) = some r from hf) (by intro h; cases h)
    | succ n14 ih14 =>
      intro v14_2 v14_3 H locs ls hf hz hd hl
      have hf : fX0_weighs_14b T x1 (fX0_weighs_14 T x1 n14) v14_2 v14_3 = some r := hf
      unfold fX0_weighs_14b at hf
      have J61 : ∀ (w61_3 : Int32) (t61_0 : Int32) (t61_1 : Int32) (H : Heap) (locs : List Loc) (ls : Array Slot), fX0_weighs_61 T (fX0_weighs_14 T x1 n14) x1 w61_3 t61_0 t61_1 = some r → bf_wok G ν b T → bf_Dy G s H locs (bf_pB G ν b T) → lv_has ls 4 [(0, .ref b), (1, .int x1), (3, .int w61_3)] → W p l e (bf_rm 3) s m ([.ref b, .int x1] : List Value).toArray below meth c' H locs 0 0 Q (F0 m 61 ls [.int t61_0, .int t61_1]) := by
        intro w61_3 t61_0 t61_1 H locs ls hf hz hd hl
        unfold fX0_weighs_61 at hf
        refine lv_iadd hx hb dX0_weighs_61 ?_
        obtain ⟨x2_13, ex2_13, hf⟩ := bf_l_e hf
        refine bf_top ex2_13 ?_
        refine lv_istore_n (lv' := [(2, .int x2_13), (0, .ref b), (1, .int x1), (3, .int w61_3)]) hx hb dX0_weighs_62 rfl hl (by decide) rfl (fun ls hl => ?_)
        obtain ⟨x3_14, ex3_14, hf⟩ := bf_l_e hf
        refine lv_iinc (v := x3_14) (lv' := [(3, .int x3_14), (2, .int x2_13), (0, .ref b), (1, .int x1)]) hx hb dX0_weighs_63 hl (k := 3) rfl (by rw [ex3_14]; rfl) (by decide) rfl (fun ls hl => ?_)
        refine lv_goto (tgt := 14) hx hb dX0_weighs_66 (by decide) ?_
        exact ih14 x2_13 x3_14 _ _ _ hf hz hd (lv_sub hl [2, 3, 1, 0] rfl)
      have J60 : ∀ (w60_3 : Int32) (t60_0 : Int32) (H : Heap) (locs : List Loc) (ls : Array Slot), fX0_weighs_60 T (fX0_weighs_14 T x1 n14) x1 w60_3 t60_0 = some r → bf_wok G ν b T → bf_Dy G s H locs (bf_pB G ν b T) → lv_has ls 4 [(0, .ref b), (1, .int x1), (3, .int w60_3)] → W p l e (bf_rm 3) s m ([.ref b, .int x1] : List Value).toArray below meth c' H locs 0 0 Q (F0 m 60 ls [.int t60_0]) := by
        intro w60_3 t60_0 H locs ls hf hz hd hl
        unfold fX0_weighs_60 at hf
        refine lv_iconst (v := 0) hx hb dX0_weighs_60 (by decide) ?_
        exact J61 w60_3 0 t60_0 _ _ _ hf hz hd (lv_sub hl [0, 1, 2] rfl)
      refine lv_iload_n hx hb dX0_weighs_14 rfl (lv_at hl 3 rfl) ?_
      refine lv_iconst (v := 1) hx hb dX0_weighs_15 (by decide) ?_
      refine lv_aload_n hx hb dX0_weighs_16 rfl (lv_at hl 0 rfl) ?_
      refine bf_yG (v := .ref (bf_ca b 0)) X hd 4 (by decide) (Or.inl q430) rfl dX0_weighs_17 ?_
      refine bf_rC X hd (bf_pB_hC G ν b T (i := 0) (by decide)) 10 (by decide) (Or.inr ⟨_, q321⟩) rfl dX0_weighs_20 ?_
      refine lv_ishl hx hb dX0_weighs_23 ?_
      refine lv_icmp_ge (tgt := 69) hx hb dX0_weighs_24 (by decide) (fun c_15 => ?_) (fun c_15 => ?_)
      · have hf := bf_it hf c_15
        refine lv_iload_n hx hb dX0_weighs_69 rfl (lv_at hl 2 rfl) ?_
        exact kret _ _ _ _ _ _ ⟨bf_so hf, rfl, hz⟩ hd dX0_weighs_70
      · have hf := bf_ie hf c_15
        refine lv_iload_n hx hb dX0_weighs_27 rfl (lv_at hl 2 rfl) ?_
        refine lv_iload_n hx hb dX0_weighs_28 rfl (lv_at hl 3 rfl) ?_
        refine lv_iload_n hx hb dX0_weighs_29 rfl (lv_at hl 1 rfl) ?_
        refine lv_ishr hx hb dX0_weighs_30 ?_
        refine lv_iconst (v := 1) hx hb dX0_weighs_31 (by decide) ?_
        refine lv_iand hx hb dX0_weighs_32 ?_
        refine lv_if_ne (tgt := 60) hx hb dX0_weighs_33 (by decide) (fun c_16 => ?_) (fun c_16 => ?_)
        · have hf := bf_ie hf c_16
          exact J60 v14_3 v14_2 _ _ _ hf hz hd (lv_sub hl [0, 1, 3] rfl)
        · have hf := bf_it hf c_16
          refine lv_aload_n hx hb dX0_weighs_36 rfl (lv_at hl 0 rfl) ?_
          refine lv_iload_n hx hb dX0_weighs_37 rfl (lv_at hl 3 rfl) ?_
          obtain ⟨r_17, er_17, hf⟩ := bf_b_some hf
          refine bf_bcz (n := 1) (As := [.int v14_3]) (rest := [.int v14_2]) X hd (mX0_rule l G ν b T hz v14_3 er_17) (lw_V q1340 q1342 qs54 q148 q1343) (by decide +kernel) ⟨Nat.le_of_ble_eq_true rfl, Nat.le_of_ble_eq_true rfl⟩ rfl hl.1 rfl (Nat.le_of_ble_eq_true rfl) dX0_weighs_38 ⟨Nat.le_of_ble_eq_true rfl, Nat.le_of_ble_eq_true rfl⟩ (fun H locs hz z_18 hd => ?_)
          refine lv_if_ne (tgt := 60) hx hb dX0_weighs_41 (by decide) (fun c_19 => ?_) (fun c_19 => ?_)
          · have hf := bf_ie hf c_19
            exact J60 v14_3 v14_2 _ _ _ hf hz hd (lv_sub hl [0, 1, 3] rfl)
          · have hf := bf_it hf c_19
            refine lv_aload_n hx hb dX0_weighs_44 rfl (lv_at hl 0 rfl) ?_
            refine lv_iload_n hx hb dX0_weighs_45 rfl (lv_at hl 3 rfl) ?_
            refine lv_iconst (v := 1) hx hb dX0_weighs_46 (by decide) ?_
            refine lv_iload_n hx hb dX0_weighs_47 rfl (lv_at hl 1 rfl) ?_
            refine lv_ishl hx hb dX0_weighs_48 ?_
            refine lv_ior hx hb dX0_weighs_49 ?_
            obtain ⟨r_20, er_20, hf⟩ := bf_b_some hf
            refine bf_bcz (n := 1) (As := [.int (v14_3 ||| (1 <<< (x1 &&& 31)))]) (rest := [.int v14_2]) X hd (mX0_rule l G ν b T hz (v14_3 ||| (1 <<< (x1 &&& 31))) er_20) (lw_V q1340 q1342 qs54 q148 q1343) (by decide +kernel) ⟨Nat.le_of_ble_eq_true rfl, Nat.le_of_ble_eq_true rfl⟩ rfl hl.1 rfl (Nat.le_of_ble_eq_true rfl) dX0_weighs_50 ⟨Nat.le_of_ble_eq_true rfl, Nat.le_of_ble_eq_true rfl⟩ (fun H locs hz z_21 hd => ?_)
            refine lv_if_eq (tgt := 60) hx hb dX0_weighs_53 (by decide) (fun c_22 => ?_) (fun c_22 => ?_)
            · have hf := bf_it hf c_22
              exact J60 v14_3 v14_2 _ _ _ hf hz hd (lv_sub hl [0, 1, 3] rfl)
            · have hf := bf_ie hf c_22
              refine lv_iconst (v := 1) hx hb dX0_weighs_56 (by decide) ?_
              refine lv_goto (tgt := 61) hx hb dX0_weighs_57 (by decide) ?_
              exact J61 v14_3 1 v14_2 _ _ _ hf hz hd (lv_sub hl [0, 1, 3] rfl)
  unfold fX0_weighs at hf
  refine lv_aload_n hx hb dX0_weighs_0 rfl (lv_at hl 0 rfl) ?_
  refine lv_iload_n hx hb dX0_weighs_1 rfl (lv_at hl 1 rfl) ?_
  refine bf_bcz (n := 1) (As := [.int x1]) (rest := []) X hd (mX0_isParty l G ν b T hz x1 rfl) (lw_V q1014 q1016 qs30 q148 q1017) (by decide +kernel) ⟨Nat.le_of_ble_eq_true rfl, Nat.le_of_ble_eq_true rfl⟩ rfl hl.1 rfl (Nat.le_of_ble_eq_true rfl) dX0_weighs_2 ⟨Nat.le_of_ble_eq_true rfl, Nat.le_of_ble_eq_true rfl⟩ (fun H locs hz z_23 hd => ?_)
  refine lv_if_ne (tgt := 10) hx hb dX0_weighs_5 (by decide) (fun c_24 => ?_) (fun c_24 => ?_)
  · have hf := bf_ie hf c_24
    refine lv_iconst (v := 0) hx hb dX0_weighs_10 (by decide) ?_
    refine lv_istore_n (lv' := [(2, .int 0), (0, .ref b), (1, .int x1)]) hx hb dX0_weighs_11 rfl hl (by decide) rfl (fun ls hl => ?_)
    refine lv_iconst (v := 0) hx hb dX0_weighs_12 (by decide) ?_
    refine lv_istore_n (lv' := [(3, .int 0), (2, .int 0), (0, .ref b), (1, .int x1)]) hx hb dX0_weighs_13 rfl hl (by decide) rfl (fun ls hl => ?_)
    exact L14 bf_fuel 0 0 _ _ _ hf hz hd (lv_sub hl [2, 3, 1, 0] rfl)
  · have hf := bf_it hf c_24
    refine lv_iconst (v := (-1)) hx hb dX0_weighs_8 (by decide) ?_
    exact kret _ _ _ _ _ _ ⟨bf_so hf, rfl, hz⟩ hd dX0_weighs_9
def fX0_lasts_71 (x1 : Int32) (w71_2 : Int32) (T71 : bf_WS) : Option (Int32 × bf_WS) := if w71_2 = 0 then (some ((-1), T71)) else (bf_c (bf_in x1 5) <| bf_c (bf_nz w71_2) <| some ((((((bf_S T71 0).1 1 x1.toNatClampNeg 0) + w71_2) - 1) / w71_2), T71))
def fX0_lasts_63 (k14 : Int32 → Int32 → bf_WS → Option (Int32 × bf_WS)) (x1 : Int32) (w63_3 : Int32) (t63_0 : Int32) (t63_1 : Int32) (T63 : bf_WS) : Option (Int32 × bf_WS) := bf_l ((t63_1 + t63_0)) fun x2_9 => bf_l (w63_3 + 1) fun x3_10 => k14 x2_9 x3_10 T63
def fX0_lasts_14b (x1 : Int32) (k14 : Int32 → Int32 → bf_WS → Option (Int32 × bf_WS)) (v14_2 : Int32) (v14_3 : Int32) (T14 : bf_WS) : Option (Int32 × bf_WS) := if ((bf_S T14 0).1 0 12 0) ≤ v14_3 then (fX0_lasts_71 x1 v14_2 T14) else (bf_c (bf_in v14_3 10) <| bf_c (bf_in x1 5) <| if ((bf_S T14 0).1 4 v14_3.toNatClampNeg x1.toNatClampNeg) ≤ 0 then (fX0_lasts_63 k14 x1 v14_3 0 v14_2 T14) else (bf_c (bf_in v14_3 10) <| bf_b2 (fX1_want (bf_Ds T14 0) (bf_S T14 0) v14_3.toNatClampNeg) fun r_7 S_6 => bf_l (bf_uS T14 0 S_6) fun T_8 => fX0_lasts_63 k14 x1 v14_3 r_7 v14_2 T_8))
def fX0_lasts_14 (x1 : Int32) : Nat → Int32 → Int32 → bf_WS → Option (Int32 × bf_WS)
  | 0, _, _, _ => none
  | n + 1, v14_2, v14_3, T14 => fX0_lasts_14b x1 (fX0_lasts_14 x1 n) v14_2 v14_3 T14
def fX0_lasts (T : bf_WS) (x1 : Int32) : Option (Int32 × bf_WS) := if (fX0_isParty T x1) = 0 then (some ((-1), T)) else (fX0_lasts_14 x1 bf_fuel 0 0 T)
set_option maxHeartbeats 4000000 in
theorem mX0_lasts (l : Launch) (G : bf_G) (ν : bf_V) (b : Nat) (T : bf_WS) (hz : bf_wok G ν b T) (x1 : Int32) {r : Int32} {T' : bf_WS} (hf : fX0_lasts T x1 = some (r, T')) : bf_MI l G yX0_lasts cX0_lasts 4 (bf_rm 432) [.ref b, .int x1] (bf_pB G ν b T) (fun v σ' => v = r ∧ σ' = bf_pB G ν b T' ∧ bf_wok G ν b T') := by
  refine bf_MI.of rfl (Nat.le_of_ble_eq_true rfl) ?_
  intro p e s m below meth c' Q X hlk hnm kret hd ls hl
  have hx := X.1
  have hb := X.2.1
  have hml := X.2.2.1
  have hown := X.2.2.2.1
  have hts := X.2.2.2.2
  have hl : lv_has ls 4 [(0, .ref b), (1, .int x1)] := hl
  have J71 : ∀ (w71_2 : Int32) (T71 : bf_WS) (H : Heap) (locs : List Loc) (ls : Array Slot), fX0_lasts_71 x1 w71_2 T71 = some (r, T') → bf_wok G ν b T71 → bf_Dy G s H locs (bf_pB G ν b T71) → lv_has ls 4 [(0, .ref b), (1, .int x1), (2, .int w71_2)] → W p l e (bf_rm 432) s m ([.ref b, .int x1] : List Value).toArray below meth c' H locs 0 0 Q (F0 m 71 ls []) := by
    intro w71_2 T71 H locs ls hf hz hd hl
    unfold fX0_lasts_71 at hf
    refine lv_iload_n hx hb dX0_lasts_71 rfl (lv_at hl 2 rfl) ?_
    refine lv_if_ne (tgt := 79) hx hb dX0_lasts_72 (by decide) (fun c_16 => ?_) (fun c_16 => ?_)
    · have hf := bf_ie hf c_16
      refine lv_aload_n hx hb dX0_lasts_79 rfl (lv_at hl 0 rfl) ?_
      refine bf_yG (v := .ref (bf_ca b 0)) X hd 4 (by decide) (Or.inl q430) rfl dX0_lasts_80 ?_
      refine bf_rC (v := .ref (bf_ca b 0 + 1)) X hd (bf_pB_hC G ν b T71 (i := 0) (by decide)) 0 (by decide) (Or.inr ⟨_, q300⟩) rfl dX0_lasts_83 ?_
      refine lv_iload_n hx hb dX0_lasts_86 rfl (lv_at hl 1 rfl) ?_
      obtain ⟨g_17, hf⟩ := bf_c_some hf
      refine bf_aald (v := .ref (bf_ca b 0 + 161 + x1.toNatClampNeg)) X hd (bf_c1 (bf_pB_hC G ν b T71 (i := 0) (by decide))) 2 rfl rfl g_17 rfl dX0_lasts_87 ?_
      refine bf_rP X hd (bf_pB_hC G ν b T71 (i := 0) (by decide)) (bf_in_lt g_17) 0 (by decide) (Or.inr ⟨_, q241⟩) dX0_lasts_88 ?_
      refine lv_iload_n hx hb dX0_lasts_91 rfl (lv_at hl 2 rfl) ?_
      refine lv_iadd hx hb dX0_lasts_92 ?_
      refine lv_iconst (v := 1) hx hb dX0_lasts_93 (by decide) ?_
      refine lv_isub hx hb dX0_lasts_94 ?_
      refine lv_iload_n hx hb dX0_lasts_95 rfl (lv_at hl 2 rfl) ?_
      obtain ⟨g_18, hf⟩ := bf_c_some hf
      refine lv_idiv hx hb dX0_lasts_96 (bf_nz_t g_18) ?_
      exact kret _ _ _ _ _ _ ⟨(bf_pr hf).1, congrArg (bf_pB G ν b) (bf_pr hf).2, (bf_pr hf).2 ▸ hz⟩ hd dX0_lasts_97
    · have hf := bf_it hf c_16
      refine lv_iconst (v := (-1)) hx hb dX0_lasts_75 (by decide) ?_
      refine lv_goto (tgt := 97) hx hb dX0_lasts_76 (by decide) ?_
      exact kret _ _ _ _ _ _ ⟨(bf_pr hf).1, congrArg (bf_pB G ν b) (bf_pr hf).2, (bf_pr hf).2 ▸ hz⟩ hd dX0_lasts_97
  have L14 : ∀ (n14 : Nat) (v14_2 : Int32) (v14_3 : Int32) (T14 : bf_WS) (H : Heap) (locs : List Loc) (ls : Array Slot), fX0_lasts_14 x1 n14 v14_2 v14_3 T14 = some (r, T') → bf_wok G ν b T14 → bf_Dy G s H locs (bf_pB G ν b T14) → lv_has ls 4 [(0, .ref b), (1, .int x1), (2, .int v14_2), (3, .int v14_3)] → W p l e (bf_rm 432) s m ([.ref b, .int x1] : List Value).toArray below meth c' H locs 0 0 Q (F0 m 14 ls []) := by
    intro n14
    induction n14 with
    | zero =>
      intro v14_2 v14_3 T14 H locs ls hf hz hd hl
      exact absurd (show (none : Option (Int32 × bf_WS)) = some (r, T') from hf) (by intro h; cases h)
    | succ n14 ih14 =>
      intro v14_2 v14_3 T14 H locs ls hf hz hd hl
      have hf : fX0_lasts_14b x1 (fX0_lasts_14 x1 n14) v14_2 v14_3 T14 = some (r, T') := hf
      unfold fX0_lasts_14b at hf
      have J63 : ∀ (w63_3 : Int32) (t63_0 : Int32) (t63_1 : Int32) (T63 : bf_WS) (H : Heap) (locs : List Loc) (ls : Array Slot), fX0_lasts_63 (fX0_lasts_14 x1 n14) x1 w63_3 t63_0 t63_1 T63 = some (r, T') → bf_wok G ν b T63 → bf_Dy G s H locs (bf_pB G ν b T63) → lv_has ls 4 [(0, .ref b), (1, .int x1), (3, .int w63_3)] → W p l e (bf_rm 432) s m ([.ref b, .int x1] : List Value).toArray below meth c' H locs 0 0 Q (F0 m 63 ls [.int t63_0, .int t63_1]) := by
        intro w63_3 t63_0 t63_1 T63 H locs ls hf hz hd hl
        unfold fX0_lasts_63 at hf
        refine lv_iadd hx hb dX0_lasts_63 ?_
        obtain ⟨x2_19, ex2_19, hf⟩ := bf_l_e hf
        refine bf_top ex2_19 ?_
        refine lv_istore_n (lv' := [(2, .int x2_19), (0, .ref b), (1, .int x1), (3, .int w63_3)]) hx hb dX0_lasts_64 rfl hl (by decide) rfl (fun ls hl => ?_)
        obtain ⟨x3_20, ex3_20, hf⟩ := bf_l_e hf
        refine lv_iinc (v := x3_20) (lv' := [(3, .int x3_20), (2, .int x2_19), (0, .ref b), (1, .int x1)]) hx hb dX0_lasts_65 hl (k := 3) rfl (by rw [ex3_20]; rfl) (by decide) rfl (fun ls hl => ?_)
        refine lv_goto (tgt := 14) hx hb dX0_lasts_68 (by decide) ?_
        exact ih14 x2_19 x3_20 T63 _ _ _ hf hz hd (lv_sub hl [2, 3, 1, 0] rfl)
      refine lv_iload_n hx hb dX0_lasts_14 rfl (lv_at hl 3 rfl) ?_
      refine lv_aload_n hx hb dX0_lasts_15 rfl (lv_at hl 0 rfl) ?_
      refine bf_yG (v := .ref (bf_ca b 0)) X hd 4 (by decide) (Or.inl q430) rfl dX0_lasts_16 ?_
      refine bf_rC X hd (bf_pB_hC G ν b T14 (i := 0) (by decide)) 12 (by decide) (Or.inr ⟨_, q327⟩) rfl dX0_lasts_19 ?_
      refine lv_icmp_ge (tgt := 71) hx hb dX0_lasts_22 (by decide) (fun c_21 => ?_) (fun c_21 => ?_)
      · have hf := bf_it hf c_21
        exact J71 v14_2 T14 _ _ _ hf hz hd (lv_sub hl [0, 1, 2] rfl)
      · have hf := bf_ie hf c_21
        refine lv_iload_n hx hb dX0_lasts_25 rfl (lv_at hl 2 rfl) ?_
        refine lv_aload_n hx hb dX0_lasts_26 rfl (lv_at hl 0 rfl) ?_
        refine bf_yG (v := .ref (bf_ca b 0)) X hd 4 (by decide) (Or.inl q430) rfl dX0_lasts_27 ?_
        refine bf_rC (v := .ref (bf_ca b 0 + 3)) X hd (bf_pB_hC G ν b T14 (i := 0) (by decide)) 2 (by decide) (Or.inr ⟨_, q305⟩) rfl dX0_lasts_30 ?_
        refine lv_iload_n hx hb dX0_lasts_33 rfl (lv_at hl 3 rfl) ?_
        obtain ⟨g_22, hf⟩ := bf_c_some hf
        refine bf_aald (v := .ref (bf_ca b 0 + 180 + 2 * v14_3.toNatClampNeg)) X hd (bf_c3 (bf_pB_hC G ν b T14 (i := 0) (by decide))) 4 rfl rfl g_22 rfl dX0_lasts_34 ?_
        refine bf_rE X hd (bf_pB_hC G ν b T14 (i := 0) (by decide)) (bf_in_lt g_22) (Or.inr ⟨_, q289⟩) dX0_lasts_35 ?_
        refine lv_iload_n hx hb dX0_lasts_38 rfl (lv_at hl 1 rfl) ?_
        obtain ⟨g_23, hf⟩ := bf_c_some hf
        refine bf_iald X hd (bf_cta (bf_pB_hC G ν b T14 (i := 0) (by decide)) (bf_in_lt g_22)) g_23 dX0_lasts_39 ?_
        refine lv_if_le (tgt := 62) hx hb dX0_lasts_40 (by decide) (fun c_24 => ?_) (fun c_24 => ?_)
        · have hf := bf_it hf c_24
          refine lv_iconst (v := 0) hx hb dX0_lasts_62 (by decide) ?_
          exact J63 v14_3 0 v14_2 T14 _ _ _ hf hz hd (lv_sub hl [0, 1, 3] rfl)
        · have hf := bf_ie hf c_24
          refine lv_aload_n hx hb dX0_lasts_43 rfl (lv_at hl 0 rfl) ?_
          refine bf_yG (v := .ref (bf_ca b 0)) X hd 4 (by decide) (Or.inl q430) rfl dX0_lasts_44 ?_
          refine lv_aload_n hx hb dX0_lasts_47 rfl (lv_at hl 0 rfl) ?_
          refine bf_yG (v := .ref (bf_ca b 0)) X hd 4 (by decide) (Or.inl q430) rfl dX0_lasts_48 ?_
          refine bf_rC (v := .ref (bf_ca b 0 + 3)) X hd (bf_pB_hC G ν b T14 (i := 0) (by decide)) 2 (by decide) (Or.inr ⟨_, q305⟩) rfl dX0_lasts_51 ?_
          refine lv_iload_n hx hb dX0_lasts_54 rfl (lv_at hl 3 rfl) ?_
          obtain ⟨g_25, hf⟩ := bf_c_some hf
          refine bf_aald (v := .ref (bf_ca b 0 + 180 + 2 * v14_3.toNatClampNeg)) X hd (bf_c3 (bf_pB_hC G ν b T14 (i := 0) (by decide))) 4 rfl rfl g_25 rfl dX0_lasts_55 ?_
          obtain ⟨r_27, S_26, er_27, hf⟩ := bf_b2_some hf
          refine bf_cci (n := 1) (As := [.ref (bf_ca b 0 + 180 + 2 * v14_3.toNatClampNeg)]) (rest := [.int v14_2]) X (bf_toC (i := 0) hd (by decide)) (mX1_want l G (bf_pB G ν b T14) (bf_ca b 0) (bf_qs T14 0) (bf_Ds T14 0) (bf_ZB_Z (by decide) (hz 0 (by decide))) (bf_S T14 0) v14_3.toNatClampNeg (bf_in_lt g_25) er_27) (lw_V q1248 q1177 q1178 q149 q1179) (by decide +kernel) ⟨Nat.le_of_ble_eq_true rfl, Nat.le_of_ble_eq_true rfl⟩ rfl hl.1 rfl (Nat.le_of_ble_eq_true rfl) dX0_lasts_56 ⟨Nat.le_of_ble_eq_true rfl, Nat.le_of_ble_eq_true rfl⟩ (fun H locs hd => ?_)
          have hd := bf_fromC (by decide) hd
          obtain ⟨T_28, eT_28, hf⟩ := bf_l_e hf
          have hd := hd.of (congrArg (bf_pB G ν b) eT_28.symm)
          have hz := bf_wok_uS hz eT_28
          refine lv_goto (tgt := 63) hx hb dX0_lasts_59 (by decide) ?_
          exact J63 v14_3 r_27 v14_2 T_28 _ _ _ hf hz hd (lv_sub hl [0, 1, 3] rfl)
  unfold fX0_lasts at hf
  refine lv_aload_n hx hb dX0_lasts_0 rfl (lv_at hl 0 rfl) ?_
  refine lv_iload_n hx hb dX0_lasts_1 rfl (lv_at hl 1 rfl) ?_
  refine bf_bcz (n := 1) (As := [.int x1]) (rest := []) X hd (mX0_isParty l G ν b T hz x1 rfl) (lw_V q1014 q1016 qs30 q148 q1017) (by decide +kernel) ⟨Nat.le_of_ble_eq_true rfl, Nat.le_of_ble_eq_true rfl⟩ rfl hl.1 rfl (Nat.le_of_ble_eq_true rfl) dX0_lasts_2 ⟨Nat.le_of_ble_eq_true rfl, Nat.le_of_ble_eq_true rfl⟩ (fun H locs hz z_29 hd => ?_)
  refine lv_if_ne (tgt := 10) hx hb dX0_lasts_5 (by decide) (fun c_30 => ?_) (fun c_30 => ?_)
  · have hf := bf_ie hf c_30
    refine lv_iconst (v := 0) hx hb dX0_lasts_10 (by decide) ?_
    refine lv_istore_n (lv' := [(2, .int 0), (0, .ref b), (1, .int x1)]) hx hb dX0_lasts_11 rfl hl (by decide) rfl (fun ls hl => ?_)
    refine lv_iconst (v := 0) hx hb dX0_lasts_12 (by decide) ?_
    refine lv_istore_n (lv' := [(3, .int 0), (2, .int 0), (0, .ref b), (1, .int x1)]) hx hb dX0_lasts_13 rfl hl (by decide) rfl (fun ls hl => ?_)
    exact L14 bf_fuel 0 0 T _ _ _ hf hz hd (lv_sub hl [2, 3, 1, 0] rfl)
  · have hf := bf_it hf c_30
    refine lv_iconst (v := (-1)) hx hb dX0_lasts_8 (by decide) ?_
    exact kret _ _ _ _ _ _ ⟨(bf_pr hf).1, congrArg (bf_pB G ν b) (bf_pr hf).2, (bf_pr hf).2 ▸ hz⟩ hd dX0_lasts_9
def fX0_meets (T : bf_WS) (x1 x2 : Int32) : Option (Int32) := if (fX0_isEater T x1) = 0 then (some (-1)) else (if (fX0_isEater T x2) = 0 then (some (-1)) else (bf_b (fX0_placesBy T x1) fun r_5 => bf_b (fX0_placesBy T x2) fun r_6 => some (r_5 &&& r_6)))
set_option maxHeartbeats 4000000 in
theorem mX0_meets (l : Launch) (G : bf_G) (ν : bf_V) (b : Nat) (T : bf_WS) (hz : bf_wok G ν b T) (x1 x2 : Int32) {r : Int32} (hf : fX0_meets T x1 x2 = some r) : bf_MI l G yX0_meets cX0_meets 3 (bf_rm 3) [.ref b, .int x1, .int x2] (bf_pB G ν b T) (fun v σ' => v = r ∧ σ' = bf_pB G ν b T ∧ bf_wok G ν b T) := by
  refine bf_MI.of rfl (Nat.le_of_ble_eq_true rfl) ?_
  intro p e s m below meth c' Q X hlk hnm kret hd ls hl
  have hx := X.1
  have hb := X.2.1
  have hml := X.2.2.1
  have hown := X.2.2.2.1
  have hts := X.2.2.2.2
  have hl : lv_has ls 3 [(0, .ref b), (1, .int x1), (2, .int x2)] := hl
  unfold fX0_meets at hf
  refine lv_aload_n hx hb dX0_meets_0 rfl (lv_at hl 0 rfl) ?_
  refine lv_iload_n hx hb dX0_meets_1 rfl (lv_at hl 1 rfl) ?_
  refine bf_bcz (n := 1) (As := [.int x1]) (rest := []) X hd (mX0_isEater l G ν b T hz x1 rfl) (lw_V q1010 q1012 qs29 q148 q1013) (by decide +kernel) ⟨Nat.le_of_ble_eq_true rfl, Nat.le_of_ble_eq_true rfl⟩ rfl hl.1 rfl (Nat.le_of_ble_eq_true rfl) dX0_meets_2 ⟨Nat.le_of_ble_eq_true rfl, Nat.le_of_ble_eq_true rfl⟩ (fun H locs hz z_7 hd => ?_)
  refine lv_if_eq (tgt := 30) hx hb dX0_meets_5 (by decide) (fun c_8 => ?_) (fun c_8 => ?_)
  · have hf := bf_it hf c_8
    refine lv_iconst (v := (-1)) hx hb dX0_meets_30 (by decide) ?_
    exact kret _ _ _ _ _ _ ⟨bf_so hf, rfl, hz⟩ hd dX0_meets_31
  · have hf := bf_ie hf c_8
    refine lv_aload_n hx hb dX0_meets_8 rfl (lv_at hl 0 rfl) ?_
    refine lv_iload_n hx hb dX0_meets_9 rfl (lv_at hl 2 rfl) ?_
    refine bf_bcz (n := 1) (As := [.int x2]) (rest := []) X hd (mX0_isEater l G ν b T hz x2 rfl) (lw_V q1010 q1012 qs29 q148 q1013) (by decide +kernel) ⟨Nat.le_of_ble_eq_true rfl, Nat.le_of_ble_eq_true rfl⟩ rfl hl.1 rfl (Nat.le_of_ble_eq_true rfl) dX0_meets_10 ⟨Nat.le_of_ble_eq_true rfl, Nat.le_of_ble_eq_true rfl⟩ (fun H locs hz z_9 hd => ?_)
    refine lv_if_eq (tgt := 30) hx hb dX0_meets_13 (by decide) (fun c_10 => ?_) (fun c_10 => ?_)
    · have hf := bf_it hf c_10
      refine lv_iconst (v := (-1)) hx hb dX0_meets_30 (by decide) ?_
      exact kret _ _ _ _ _ _ ⟨bf_so hf, rfl, hz⟩ hd dX0_meets_31
    · have hf := bf_ie hf c_10
      refine lv_aload_n hx hb dX0_meets_16 rfl (lv_at hl 0 rfl) ?_
      refine lv_iload_n hx hb dX0_meets_17 rfl (lv_at hl 1 rfl) ?_
      obtain ⟨r_11, er_11, hf⟩ := bf_b_some hf
      refine bf_bci (n := 1) (As := [.int x1]) (rest := []) X hd (mX0_placesBy l G ν b T hz x1 er_11) (lw_V q1306 q1308 qs51 q148 q1309) (by decide +kernel) ⟨Nat.le_of_ble_eq_true rfl, Nat.le_of_ble_eq_true rfl⟩ rfl hl.1 rfl (Nat.le_of_ble_eq_true rfl) dX0_meets_18 ⟨Nat.le_of_ble_eq_true rfl, Nat.le_of_ble_eq_true rfl⟩ (fun H locs hz hd => ?_)
      refine lv_aload_n hx hb dX0_meets_21 rfl (lv_at hl 0 rfl) ?_
      refine lv_iload_n hx hb dX0_meets_22 rfl (lv_at hl 2 rfl) ?_
      obtain ⟨r_12, er_12, hf⟩ := bf_b_some hf
      refine bf_bci (n := 1) (As := [.int x2]) (rest := [.int r_11]) X hd (mX0_placesBy l G ν b T hz x2 er_12) (lw_V q1306 q1308 qs51 q148 q1309) (by decide +kernel) ⟨Nat.le_of_ble_eq_true rfl, Nat.le_of_ble_eq_true rfl⟩ rfl hl.1 rfl (Nat.le_of_ble_eq_true rfl) dX0_meets_23 ⟨Nat.le_of_ble_eq_true rfl, Nat.le_of_ble_eq_true rfl⟩ (fun H locs hz hd => ?_)
      refine lv_iand hx hb dX0_meets_26 ?_
      refine lv_goto (tgt := 31) hx hb dX0_meets_27 (by decide) ?_
      exact kret _ _ _ _ _ _ ⟨bf_so hf, rfl, hz⟩ hd dX0_meets_31
def fX0_game_125 (T : bf_WS) (k51 : Int32 → Option (Int32)) (x1 : Int32) (u51_2 : Int32) (w125_3 : Int32) : Option (Int32) := bf_l (w125_3 + 1) fun x3_13 => k51 x3_13
def fX0_game_108 (T : bf_WS) (x1 : Int32) (w108_3 : Int32) (w108_5 : Int32) : Option (Int32) := if x1 = 0 then (some w108_3) else (some w108_5)
def fX0_game_79b (T : bf_WS) (k51 : Int32 → Option (Int32)) (x1 : Int32) (u51_2 : Int32) (u79_3 : Int32) (u79_4 : Int32) (k79 : Int32 → Option (Int32)) (v79_5 : Int32) : Option (Int32) := if 4 ≤ v79_5 then (fX0_game_125 T k51 x1 u51_2 u79_3) else (if u79_4 < v79_5 then (fX0_game_125 T k51 x1 u51_2 u79_3) else (if (u51_2 ^^^ (u79_4 - u79_4 / 4 * 4)) = ((u79_4 - v79_5) - (u79_4 - v79_5) / 4 * 4) then (fX0_game_108 T x1 u79_3 v79_5) else (bf_l (v79_5 + 1) fun x5_11 => k79 x5_11)))
def fX0_game_79 (T : bf_WS) (k51 : Int32 → Option (Int32)) (x1 : Int32) (u51_2 : Int32) (u79_3 : Int32) (u79_4 : Int32) : Nat → Int32 → Option (Int32)
  | 0, _ => none
  | n + 1, v79_5 => fX0_game_79b T k51 x1 u51_2 u79_3 u79_4 (fX0_game_79 T k51 x1 u51_2 u79_3 u79_4 n) v79_5
def fX0_game_51b (T : bf_WS) (x1 : Int32) (u51_2 : Int32) (k51 : Int32 → Option (Int32)) (v51_3 : Int32) : Option (Int32) := if ((bf_S T 0).1 0 11 0) ≤ v51_3 then (some (-1)) else (bf_c (bf_in v51_3 14) <| bf_l (((bf_S T 0).1 2 v51_3.toNatClampNeg 3)) fun x4_7 => fX0_game_79 T k51 x1 u51_2 v51_3 x4_7 bf_fuel 1)
def fX0_game_51 (T : bf_WS) (x1 : Int32) (u51_2 : Int32) : Nat → Int32 → Option (Int32)
  | 0, _ => none
  | n + 1, v51_3 => fX0_game_51b T x1 u51_2 (fX0_game_51 T x1 u51_2 n) v51_3
def fX0_game_49 (T : bf_WS) (x1 : Int32) (w49_2 : Int32) : Option (Int32) := fX0_game_51 T x1 w49_2 bf_fuel 0
def fX0_game_15b (T : bf_WS) (x1 : Int32) (k15 : Int32 → Int32 → Option (Int32)) (v15_2 : Int32) (v15_3 : Int32) : Option (Int32) := if ((bf_S T 0).1 0 11 0) ≤ v15_3 then (fX0_game_49 T x1 v15_2) else (bf_c (bf_in v15_3 14) <| bf_l ((v15_2 ^^^ (((bf_S T 0).1 2 v15_3.toNatClampNeg 3) - ((bf_S T 0).1 2 v15_3.toNatClampNeg 3) / 4 * 4))) fun x2_3 => bf_l (v15_3 + 1) fun x3_4 => k15 x2_3 x3_4)
def fX0_game_15 (T : bf_WS) (x1 : Int32) : Nat → Int32 → Int32 → Option (Int32)
  | 0, _, _ => none
  | n + 1, v15_2, v15_3 => fX0_game_15b T x1 (fX0_game_15 T x1 n) v15_2 v15_3
def fX0_game (T : bf_WS) (x1 : Int32) : Option (Int32) := if (fX0_isIn x1 0 1) = 0 then (some (-1)) else (fX0_game_15 T x1 bf_fuel 0 0)
set_option maxHeartbeats 4000000 in
theorem mX0_game (l : Launch) (G : bf_G) (ν : bf_V) (b : Nat) (T : bf_WS) (hz : bf_wok G ν b T) (x1 : Int32) {r : Int32} (hf : fX0_game T x1 = some r) : bf_MI l G yX0_game cX0_game 6 (bf_rm 2) [.ref b, .int x1] (bf_pB G ν b T) (fun v σ' => v = r ∧ σ' = bf_pB G ν b T ∧ bf_wok G ν b T) := by
  refine bf_MI.of rfl (Nat.le_of_ble_eq_true rfl) ?_
  intro p e s m below meth c' Q X hlk hnm kret hd ls hl
  have hx := X.1
  have hb := X.2.1
  have hml := X.2.2.1
  have hown := X.2.2.2.1
  have hts := X.2.2.2.2
  have hl : lv_has ls 6 [(0, .ref b), (1, .int x1)] := hl
  have J108 : ∀ (w108_3 : Int32) (w108_5 : Int32) (H : Heap) (locs : List Loc) (ls : Array Slot), fX0_game_108 T x1 w108_3 w108_5 = some r → bf_wok G ν b T → bf_Dy G s H locs (bf_pB G ν b T) → lv_has ls 6 [(1, .int x1), (3, .int w108_3), (5, .int w108_5)] → W p l e (bf_rm 2) s m ([.ref b, .int x1] : List Value).toArray below meth c' H locs 0 0 Q (F0 m 108 ls []) := by
    intro w108_3 w108_5 H locs ls hf hz hd hl
    unfold fX0_game_108 at hf
    refine lv_iload_n hx hb dX0_game_108 rfl (lv_at hl 0 rfl) ?_
    refine lv_if_ne (tgt := 116) hx hb dX0_game_109 (by decide) (fun c_16 => ?_) (fun c_16 => ?_)
    · have hf := bf_ie hf c_16
      refine lv_iload hx hb dX0_game_116 (lv_at hl 2 rfl) ?_
      exact kret _ _ _ _ _ _ ⟨bf_so hf, rfl, hz⟩ hd dX0_game_118
    · have hf := bf_it hf c_16
      refine lv_iload_n hx hb dX0_game_112 rfl (lv_at hl 1 rfl) ?_
      refine lv_goto (tgt := 118) hx hb dX0_game_113 (by decide) ?_
      exact kret _ _ _ _ _ _ ⟨bf_so hf, rfl, hz⟩ hd dX0_game_118
  have L51 : ∀ (u51_2 : Int32) (n51 : Nat) (v51_3 : Int32) (H : Heap) (locs : List Loc) (ls : Array Slot), fX0_game_51 T x1 u51_2 n51 v51_3 = some r → bf_wok G ν b T → bf_Dy G s H locs (bf_pB G ν b T) → lv_has ls 6 [(0, .ref b), (1, .int x1), (2, .int u51_2), (3, .int v51_3)] → W p l e (bf_rm 2) s m ([.ref b, .int x1] : List Value).toArray below meth c' H locs 0 0 Q (F0 m 51 ls []) := by
    intro u51_2 n51
    induction n51 with
    | zero =>
      intro v51_3 H locs ls hf hz hd hl
      exact absurd (show (none : Option (Int32)) = some r from hf) (by intro h; cases h)
    | succ n51 ih51 =>
      intro v51_3 H locs ls hf hz hd hl
      have hf : fX0_game_51b T x1 u51_2 (fX0_game_51 T x1 u51_2 n51) v51_3 = some r := hf
      unfold fX0_game_51b at hf
      have J125 : ∀ (w125_3 : Int32) (H : Heap) (locs : List Loc) (ls : Array Slot), fX0_game_125 T (fX0_game_51 T x1 u51_2 n51) x1 u51_2 w125_3 = some r → bf_wok G ν b T → bf_Dy G s H locs (bf_pB G ν b T) → lv_has ls 6 [(0, .ref b), (1, .int x1), (2, .int u51_2), (3, .int w125_3)] → W p l e (bf_rm 2) s m ([.ref b, .int x1] : List Value).toArray below meth c' H locs 0 0 Q (F0 m 125 ls []) := by
        intro w125_3 H locs ls hf hz hd hl
        unfold fX0_game_125 at hf
        obtain ⟨x3_17, ex3_17, hf⟩ := bf_l_e hf
        refine lv_iinc (v := x3_17) (lv' := [(3, .int x3_17), (0, .ref b), (1, .int x1), (2, .int u51_2)]) hx hb dX0_game_125 hl (k := 3) rfl (by rw [ex3_17]; rfl) (by decide) rfl (fun ls hl => ?_)
        refine lv_goto (tgt := 51) hx hb dX0_game_128 (by decide) ?_
        exact ih51 x3_17 _ _ _ hf hz hd (lv_sub hl [1, 2, 3, 0] rfl)
      have L79 : ∀ (u79_3 : Int32) (u79_4 : Int32) (n79 : Nat) (v79_5 : Int32) (H : Heap) (locs : List Loc) (ls : Array Slot), fX0_game_79 T (fX0_game_51 T x1 u51_2 n51) x1 u51_2 u79_3 u79_4 n79 v79_5 = some r → bf_wok G ν b T → bf_Dy G s H locs (bf_pB G ν b T) → lv_has ls 6 [(0, .ref b), (1, .int x1), (2, .int u51_2), (3, .int u79_3), (4, .int u79_4), (5, .int v79_5)] → W p l e (bf_rm 2) s m ([.ref b, .int x1] : List Value).toArray below meth c' H locs 0 0 Q (F0 m 79 ls []) := by
        intro u79_3 u79_4 n79
        induction n79 with
        | zero =>
          intro v79_5 H locs ls hf hz hd hl
          exact absurd (show (none : Option (Int32)) = some r from hf) (by intro h; cases h)
        | succ n79 ih79 =>
          intro v79_5 H locs ls hf hz hd hl
          have hf : fX0_game_79b T (fX0_game_51 T x1 u51_2 n51) x1 u51_2 u79_3 u79_4 (fX0_game_79 T (fX0_game_51 T x1 u51_2 n51) x1 u51_2 u79_3 u79_4 n79) v79_5 = some r := hf
          unfold fX0_game_79b at hf
          refine lv_iload hx hb dX0_game_79 (lv_at hl 5 rfl) ?_
          refine lv_iconst (v := 4) hx hb dX0_game_81 (by decide) ?_
          refine lv_icmp_ge (tgt := 125) hx hb dX0_game_82 (by decide) (fun c_18 => ?_) (fun c_18 => ?_)
          · have hf := bf_it hf c_18
            exact J125 u79_3 _ _ _ hf hz hd (lv_sub hl [0, 1, 2, 3] rfl)
          · have hf := bf_ie hf c_18
            refine lv_iload hx hb dX0_game_85 (lv_at hl 5 rfl) ?_
            refine lv_iload hx hb dX0_game_87 (lv_at hl 4 rfl) ?_
            refine lv_icmp_gt (tgt := 125) hx hb dX0_game_89 (by decide) (fun c_19 => ?_) (fun c_19 => ?_)
            · have hf := bf_it hf c_19
              exact J125 u79_3 _ _ _ hf hz hd (lv_sub hl [0, 1, 2, 3] rfl)
            · have hf := bf_ie hf c_19
              refine lv_iload_n hx hb dX0_game_92 rfl (lv_at hl 2 rfl) ?_
              refine lv_iload hx hb dX0_game_93 (lv_at hl 4 rfl) ?_
              refine lv_iconst (v := 4) hx hb dX0_game_95 (by decide) ?_
              refine lv_irem hx hb dX0_game_96 (by decide) ?_
              refine lv_ixor hx hb dX0_game_97 ?_
              refine lv_iload hx hb dX0_game_98 (lv_at hl 4 rfl) ?_
              refine lv_iload hx hb dX0_game_100 (lv_at hl 5 rfl) ?_
              refine lv_isub hx hb dX0_game_102 ?_
              refine lv_iconst (v := 4) hx hb dX0_game_103 (by decide) ?_
              refine lv_irem hx hb dX0_game_104 (by decide) ?_
              refine lv_icmp_ne (tgt := 119) hx hb dX0_game_105 (by decide) (fun c_20 => ?_) (fun c_20 => ?_)
              · have hf := bf_ie hf c_20
                obtain ⟨x5_21, ex5_21, hf⟩ := bf_l_e hf
                refine lv_iinc (v := x5_21) (lv' := [(5, .int x5_21), (0, .ref b), (1, .int x1), (2, .int u51_2), (3, .int u79_3), (4, .int u79_4)]) hx hb dX0_game_119 hl (k := 5) rfl (by rw [ex5_21]; rfl) (by decide) rfl (fun ls hl => ?_)
                refine lv_goto (tgt := 79) hx hb dX0_game_122 (by decide) ?_
                exact ih79 x5_21 _ _ _ hf hz hd (lv_sub hl [1, 2, 3, 4, 5, 0] rfl)
              · have hf := bf_it hf c_20
                exact J108 u79_3 v79_5 _ _ _ hf hz hd (lv_sub hl [1, 3, 5] rfl)
      refine lv_iload_n hx hb dX0_game_51 rfl (lv_at hl 3 rfl) ?_
      refine lv_aload_n hx hb dX0_game_52 rfl (lv_at hl 0 rfl) ?_
      refine bf_yG (v := .ref (bf_ca b 0)) X hd 4 (by decide) (Or.inl q430) rfl dX0_game_53 ?_
      refine bf_rC X hd (bf_pB_hC G ν b T (i := 0) (by decide)) 11 (by decide) (Or.inr ⟨_, q325⟩) rfl dX0_game_56 ?_
      refine lv_icmp_ge (tgt := 131) hx hb dX0_game_59 (by decide) (fun c_22 => ?_) (fun c_22 => ?_)
      · have hf := bf_it hf c_22
        refine lv_iconst (v := (-1)) hx hb dX0_game_131 (by decide) ?_
        exact kret _ _ _ _ _ _ ⟨bf_so hf, rfl, hz⟩ hd dX0_game_132
      · have hf := bf_ie hf c_22
        refine lv_aload_n hx hb dX0_game_62 rfl (lv_at hl 0 rfl) ?_
        refine bf_yG (v := .ref (bf_ca b 0)) X hd 4 (by decide) (Or.inl q430) rfl dX0_game_63 ?_
        refine bf_rC (v := .ref (bf_ca b 0 + 2)) X hd (bf_pB_hC G ν b T (i := 0) (by decide)) 1 (by decide) (Or.inr ⟨_, q302⟩) rfl dX0_game_66 ?_
        refine lv_iload_n hx hb dX0_game_69 rfl (lv_at hl 3 rfl) ?_
        obtain ⟨g_23, hf⟩ := bf_c_some hf
        refine bf_aald (v := .ref (bf_ca b 0 + 166 + v51_3.toNatClampNeg)) X hd (bf_c2 (bf_pB_hC G ν b T (i := 0) (by decide))) 3 rfl rfl g_23 rfl dX0_game_70 ?_
        refine bf_rT X hd (bf_pB_hC G ν b T (i := 0) (by decide)) (bf_in_lt g_23) 3 (by decide) (Or.inr ⟨_, q272⟩) dX0_game_71 ?_
        obtain ⟨x4_24, ex4_24, hf⟩ := bf_l_e hf
        refine bf_top ex4_24 ?_
        refine lv_istore (lv' := [(4, .int x4_24), (0, .ref b), (1, .int x1), (2, .int u51_2), (3, .int v51_3)]) hx hb dX0_game_74 hl (by decide) rfl (fun ls hl => ?_)
        refine lv_iconst (v := 1) hx hb dX0_game_76 (by decide) ?_
        refine lv_istore (lv' := [(5, .int 1), (4, .int x4_24), (0, .ref b), (1, .int x1), (2, .int u51_2), (3, .int v51_3)]) hx hb dX0_game_77 hl (by decide) rfl (fun ls hl => ?_)
        exact L79 v51_3 x4_24 bf_fuel 1 _ _ _ hf hz hd (lv_sub hl [2, 3, 4, 5, 1, 0] rfl)
  have J49 : ∀ (w49_2 : Int32) (H : Heap) (locs : List Loc) (ls : Array Slot), fX0_game_49 T x1 w49_2 = some r → bf_wok G ν b T → bf_Dy G s H locs (bf_pB G ν b T) → lv_has ls 6 [(0, .ref b), (1, .int x1), (2, .int w49_2)] → W p l e (bf_rm 2) s m ([.ref b, .int x1] : List Value).toArray below meth c' H locs 0 0 Q (F0 m 49 ls []) := by
    intro w49_2 H locs ls hf hz hd hl
    unfold fX0_game_49 at hf
    refine lv_iconst (v := 0) hx hb dX0_game_49 (by decide) ?_
    refine lv_istore_n (lv' := [(3, .int 0), (0, .ref b), (1, .int x1), (2, .int w49_2)]) hx hb dX0_game_50 rfl hl (by decide) rfl (fun ls hl => ?_)
    exact L51 w49_2 bf_fuel 0 _ _ _ hf hz hd (lv_sub hl [1, 2, 3, 0] rfl)
  have L15 : ∀ (n15 : Nat) (v15_2 : Int32) (v15_3 : Int32) (H : Heap) (locs : List Loc) (ls : Array Slot), fX0_game_15 T x1 n15 v15_2 v15_3 = some r → bf_wok G ν b T → bf_Dy G s H locs (bf_pB G ν b T) → lv_has ls 6 [(0, .ref b), (1, .int x1), (2, .int v15_2), (3, .int v15_3)] → W p l e (bf_rm 2) s m ([.ref b, .int x1] : List Value).toArray below meth c' H locs 0 0 Q (F0 m 15 ls []) := by
    intro n15
    induction n15 with
    | zero =>
      intro v15_2 v15_3 H locs ls hf hz hd hl
      exact absurd (show (none : Option (Int32)) = some r from hf) (by intro h; cases h)
    | succ n15 ih15 =>
      intro v15_2 v15_3 H locs ls hf hz hd hl
      have hf : fX0_game_15b T x1 (fX0_game_15 T x1 n15) v15_2 v15_3 = some r := hf
      unfold fX0_game_15b at hf
      refine lv_iload_n hx hb dX0_game_15 rfl (lv_at hl 3 rfl) ?_
      refine lv_aload_n hx hb dX0_game_16 rfl (lv_at hl 0 rfl) ?_
      refine bf_yG (v := .ref (bf_ca b 0)) X hd 4 (by decide) (Or.inl q430) rfl dX0_game_17 ?_
      refine bf_rC X hd (bf_pB_hC G ν b T (i := 0) (by decide)) 11 (by decide) (Or.inr ⟨_, q325⟩) rfl dX0_game_20 ?_
      refine lv_icmp_ge (tgt := 49) hx hb dX0_game_23 (by decide) (fun c_25 => ?_) (fun c_25 => ?_)
      · have hf := bf_it hf c_25
        exact J49 v15_2 _ _ _ hf hz hd (lv_sub hl [0, 1, 2] rfl)
      · have hf := bf_ie hf c_25
        refine lv_iload_n hx hb dX0_game_26 rfl (lv_at hl 2 rfl) ?_
        refine lv_aload_n hx hb dX0_game_27 rfl (lv_at hl 0 rfl) ?_
        refine bf_yG (v := .ref (bf_ca b 0)) X hd 4 (by decide) (Or.inl q430) rfl dX0_game_28 ?_
        refine bf_rC (v := .ref (bf_ca b 0 + 2)) X hd (bf_pB_hC G ν b T (i := 0) (by decide)) 1 (by decide) (Or.inr ⟨_, q302⟩) rfl dX0_game_31 ?_
        refine lv_iload_n hx hb dX0_game_34 rfl (lv_at hl 3 rfl) ?_
        obtain ⟨g_26, hf⟩ := bf_c_some hf
        refine bf_aald (v := .ref (bf_ca b 0 + 166 + v15_3.toNatClampNeg)) X hd (bf_c2 (bf_pB_hC G ν b T (i := 0) (by decide))) 3 rfl rfl g_26 rfl dX0_game_35 ?_
        refine bf_rT X hd (bf_pB_hC G ν b T (i := 0) (by decide)) (bf_in_lt g_26) 3 (by decide) (Or.inr ⟨_, q272⟩) dX0_game_36 ?_
        refine lv_iconst (v := 4) hx hb dX0_game_39 (by decide) ?_
        refine lv_irem hx hb dX0_game_40 (by decide) ?_
        refine lv_ixor hx hb dX0_game_41 ?_
        obtain ⟨x2_27, ex2_27, hf⟩ := bf_l_e hf
        refine bf_top ex2_27 ?_
        refine lv_istore_n (lv' := [(2, .int x2_27), (0, .ref b), (1, .int x1), (3, .int v15_3)]) hx hb dX0_game_42 rfl hl (by decide) rfl (fun ls hl => ?_)
        obtain ⟨x3_28, ex3_28, hf⟩ := bf_l_e hf
        refine lv_iinc (v := x3_28) (lv' := [(3, .int x3_28), (2, .int x2_27), (0, .ref b), (1, .int x1)]) hx hb dX0_game_43 hl (k := 3) rfl (by rw [ex3_28]; rfl) (by decide) rfl (fun ls hl => ?_)
        refine lv_goto (tgt := 15) hx hb dX0_game_46 (by decide) ?_
        exact ih15 x2_27 x3_28 _ _ _ hf hz hd (lv_sub hl [2, 3, 1, 0] rfl)
  unfold fX0_game at hf
  refine lv_iload_n hx hb dX0_game_0 rfl (lv_at hl 1 rfl) ?_
  refine lv_iconst (v := 0) hx hb dX0_game_1 (by decide) ?_
  refine lv_iconst (v := 1) hx hb dX0_game_2 (by decide) ?_
  refine bf_cSz (n := 3) (As := [.int x1, .int 0, .int 1]) (rest := []) X hd (mX0_isIn l G _ x1 0 1 rfl) (lw_S q473 q474 q148 q475) (by decide +kernel) ⟨Nat.le_of_ble_eq_true rfl, Nat.le_of_ble_eq_true rfl⟩ rfl hl.1 rfl (Nat.le_of_ble_eq_true rfl) dX0_game_3 ⟨Nat.le_of_ble_eq_true rfl, Nat.le_of_ble_eq_true rfl⟩ (fun r σ' H locs hF z_29 hd => ?_)
  rw [hF.2] at hd
  refine bf_top hF.1.symm ?_
  rw [hF.1] at z_29
  refine lv_if_ne (tgt := 11) hx hb dX0_game_6 (by decide) (fun c_30 => ?_) (fun c_30 => ?_)
  · have hf := bf_ie hf c_30
    refine lv_iconst (v := 0) hx hb dX0_game_11 (by decide) ?_
    refine lv_istore_n (lv' := [(2, .int 0), (0, .ref b), (1, .int x1)]) hx hb dX0_game_12 rfl hl (by decide) rfl (fun ls hl => ?_)
    refine lv_iconst (v := 0) hx hb dX0_game_13 (by decide) ?_
    refine lv_istore_n (lv' := [(3, .int 0), (2, .int 0), (0, .ref b), (1, .int x1)]) hx hb dX0_game_14 rfl hl (by decide) rfl (fun ls hl => ?_)
    exact L15 bf_fuel 0 0 _ _ _ hf hz hd (lv_sub hl [2, 3, 1, 0] rfl)
  · have hf := bf_it hf c_30
    refine lv_iconst (v := (-1)) hx hb dX0_game_9 (by decide) ?_
    exact kret _ _ _ _ _ _ ⟨bf_so hf, rfl, hz⟩ hd dX0_game_10
