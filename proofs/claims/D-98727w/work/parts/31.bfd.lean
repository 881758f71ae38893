set_option maxRecDepth 100000
def fX0_image_51 (T51 : bf_WS) : Option (Int32 × bf_WS) := bf_l (bf_uB T51 0 9 1) fun T_10 => some (1, T_10)
def fX0_image_42 (x1 : Int32) (T42 : bf_WS) : Option (Int32 × bf_WS) := if x1 = 0 then (bf_b2 (fX0_forgets T42) fun r_8 T_7 => fX0_image_51 T_7) else (fX0_image_51 T42)
def fX0_image_13 (x1 : Int32) (T13 : bf_WS) : Option (Int32 × bf_WS) := if x1 = 0 then (bf_b (fX1_takes (bf_S T13 1) (bf_S T13 0)) fun S_2 => bf_l (bf_uT T13 0 1 S_2) fun T_3 => fX0_image_42 x1 T_3) else (bf_b (fX1_takes (bf_S T13 0) (bf_S T13 1)) fun S_4 => bf_l (bf_uT T13 1 0 S_4) fun T_5 => fX0_image_42 x1 T_5)
def fX0_image (T : bf_WS) (x1 : Int32) : Option (Int32 × bf_WS) := if x1 = 0 then (if (T.1 0 9) = 0 then (some (0, T)) else (fX0_image_13 x1 T)) else (fX0_image_13 x1 T)
set_option maxHeartbeats 4000000 in
theorem mX0_image (l : Launch) (G : bf_G) (ν : bf_V) (b : Nat) (T : bf_WS) (hz : bf_wok G ν b T) (x1 : Int32) {r : Int32} {T' : bf_WS} (hf : fX0_image T x1 = some (r, T')) : bf_MZ l G yX0_image cX0_image 2 (bf_rm 4) [.ref b, .int x1] (bf_pB G ν b T) (fun v σ' => v = r ∧ σ' = bf_pB G ν b T' ∧ bf_wok G ν b T') := by
  refine bf_MZ.of rfl (Nat.le_of_ble_eq_true rfl) ?_
  intro p e s m below meth c' Q X hlk hnm kret hd ls hl
  have hx := X.1
  have hb := X.2.1
  have hml := X.2.2.1
  have hown := X.2.2.2.1
  have hts := X.2.2.2.2
  have hl : lv_has ls 2 [(0, .ref b), (1, .int x1)] := hl
  have J51 : ∀ (T51 : bf_WS) (H : Heap) (locs : List Loc) (ls : Array Slot), fX0_image_51 T51 = some (r, T') → bf_wok G ν b T51 → bf_Dy G s H locs (bf_pB G ν b T51) → lv_has ls 2 [(0, .ref b)] → W p l e (bf_rm 4) s m ([.ref b, .int x1] : List Value).toArray below meth c' H locs 0 0 Q (F0 m 51 ls []) := by
    intro T51 H locs ls hf hz hd hl
    unfold fX0_image_51 at hf
    refine lv_aload_n hx hb dX0_image_51 rfl (lv_at hl 0 rfl) ?_
    refine lv_iconst (v := 1) hx hb dX0_image_52 (by decide) ?_
    refine bf_yZ X hd 9 (by decide) ⟨by decide, rfl, rfl⟩ (Or.inl q436) (Or.inr rfl) dX0_image_53 (fun H locs hd => ?_)
    obtain ⟨T_13, eT_13, hf⟩ := bf_l_e hf
    have hd := hd.of (congrArg (bf_pB G ν b) eT_13.symm)
    have hz := bf_wok_uB hz eT_13
    refine lv_iconst (v := 1) hx hb dX0_image_56 (by decide) ?_
    exact kret _ _ _ _ _ _ ⟨(bf_pr hf).1, congrArg (bf_pB G ν b) (bf_pr hf).2, (bf_pr hf).2 ▸ hz⟩ (Or.inr rfl) hd dX0_image_57
  have J42 : ∀ (T42 : bf_WS) (H : Heap) (locs : List Loc) (ls : Array Slot), fX0_image_42 x1 T42 = some (r, T') → bf_wok G ν b T42 → bf_Dy G s H locs (bf_pB G ν b T42) → lv_has ls 2 [(0, .ref b), (1, .int x1)] → W p l e (bf_rm 4) s m ([.ref b, .int x1] : List Value).toArray below meth c' H locs 0 0 Q (F0 m 42 ls []) := by
    intro T42 H locs ls hf hz hd hl
    unfold fX0_image_42 at hf
    refine lv_iload_n hx hb dX0_image_42 rfl (lv_at hl 1 rfl) ?_
    refine lv_if_ne (tgt := 51) hx hb dX0_image_43 (by decide) (fun c_14 => ?_) (fun c_14 => ?_)
    · have hf := bf_ie hf c_14
      exact J51 T42 _ _ _ hf hz hd (lv_sub hl [0] rfl)
    · have hf := bf_it hf c_14
      refine lv_aload_n hx hb dX0_image_46 rfl (lv_at hl 0 rfl) ?_
      obtain ⟨r_16, T_15, er_16, hf⟩ := bf_b2_some hf
      refine bf_bcz (n := 0) (As := []) (rest := []) X hd (mX0_forgets l G ν b T42 hz  er_16) (lw_V q902 q904 qs26 q148 q905) (by decide +kernel) ⟨Nat.le_of_ble_eq_true rfl, Nat.le_of_ble_eq_true rfl⟩ rfl hl.1 rfl (Nat.le_of_ble_eq_true rfl) dX0_image_47 ⟨Nat.le_of_ble_eq_true rfl, Nat.le_of_ble_eq_true rfl⟩ (fun H locs hz z_17 hd => ?_)
      refine lv_pop hx hb dX0_image_50 rfl ?_
      exact J51 T_15 _ _ _ hf hz hd (lv_sub hl [0] rfl)
  have J13 : ∀ (T13 : bf_WS) (H : Heap) (locs : List Loc) (ls : Array Slot), fX0_image_13 x1 T13 = some (r, T') → bf_wok G ν b T13 → bf_Dy G s H locs (bf_pB G ν b T13) → lv_has ls 2 [(0, .ref b), (1, .int x1)] → W p l e (bf_rm 4) s m ([.ref b, .int x1] : List Value).toArray below meth c' H locs 0 0 Q (F0 m 13 ls []) := by
    intro T13 H locs ls hf hz hd hl
    unfold fX0_image_13 at hf
    refine lv_iload_n hx hb dX0_image_13 rfl (lv_at hl 1 rfl) ?_
    refine lv_if_eq (tgt := 31) hx hb dX0_image_14 (by decide) (fun c_18 => ?_) (fun c_18 => ?_)
    · have hf := bf_it hf c_18
      refine lv_aload_n hx hb dX0_image_31 rfl (lv_at hl 0 rfl) ?_
      refine bf_yG (v := .ref (bf_ca b 0)) X hd 4 (by decide) (Or.inl q430) rfl dX0_image_32 ?_
      refine lv_aload_n hx hb dX0_image_35 rfl (lv_at hl 0 rfl) ?_
      refine bf_yG (v := .ref (bf_ca b 1)) X hd 5 (by decide) (Or.inl q432) rfl dX0_image_36 ?_
      obtain ⟨S_19, eS_19, hf⟩ := bf_b_some hf
      refine bf_cVv (n := 1) (As := [.ref (bf_ca b 1)]) (rest := []) X (bf_toC (i := 0) hd (by decide)) (mX1_takes l G (bf_pB G ν b T13) (bf_ca b 0) (bf_qs T13 0) (bf_S T13 0) (bf_ca b 1) (bf_qs T13 1) (bf_S T13 1) (bf_pB_hC G ν b T13 (by decide)) (bf_ca_dis (by decide) (by decide) (by decide)) eS_19) (lw_V q1368 q1369 q1370 q149 q1371) (by decide +kernel) ⟨Nat.le_of_ble_eq_true rfl, Nat.le_of_ble_eq_true rfl⟩ (bf_recv hd (bf_c0 (bf_pB_hC G ν b T13 (i := 0) (by decide))) (q := (RX1, TX1, 31)) rfl) rfl hl.1 rfl (Nat.le_of_ble_eq_true rfl) dX0_image_39 ⟨Nat.le_of_ble_eq_true rfl, Nat.le_of_ble_eq_true rfl⟩ (fun σ' H locs hF hd => ?_)
      rw [hF] at hd
      have hd := bf_fromT (j := 1) (by decide) hd
      obtain ⟨T_20, eT_20, hf⟩ := bf_l_e hf
      have hd := hd.of (congrArg (bf_pB G ν b) eT_20.symm)
      have hz := bf_wok_uT (by decide) hz eT_20
      exact J42 T_20 _ _ _ hf hz hd (lv_sub hl [0, 1] rfl)
    · have hf := bf_ie hf c_18
      refine lv_aload_n hx hb dX0_image_17 rfl (lv_at hl 0 rfl) ?_
      refine bf_yG (v := .ref (bf_ca b 1)) X hd 5 (by decide) (Or.inl q432) rfl dX0_image_18 ?_
      refine lv_aload_n hx hb dX0_image_21 rfl (lv_at hl 0 rfl) ?_
      refine bf_yG (v := .ref (bf_ca b 0)) X hd 4 (by decide) (Or.inl q430) rfl dX0_image_22 ?_
      obtain ⟨S_21, eS_21, hf⟩ := bf_b_some hf
      refine bf_cVv (n := 1) (As := [.ref (bf_ca b 0)]) (rest := []) X (bf_toC (i := 1) hd (by decide)) (mX1_takes l G (bf_pB G ν b T13) (bf_ca b 1) (bf_qs T13 1) (bf_S T13 1) (bf_ca b 0) (bf_qs T13 0) (bf_S T13 0) (bf_pB_hC G ν b T13 (by decide)) (bf_ca_dis (by decide) (by decide) (by decide)) eS_21) (lw_V q1368 q1369 q1370 q149 q1371) (by decide +kernel) ⟨Nat.le_of_ble_eq_true rfl, Nat.le_of_ble_eq_true rfl⟩ (bf_recv hd (bf_c0 (bf_pB_hC G ν b T13 (i := 1) (by decide))) (q := (RX1, TX1, 31)) rfl) rfl hl.1 rfl (Nat.le_of_ble_eq_true rfl) dX0_image_25 ⟨Nat.le_of_ble_eq_true rfl, Nat.le_of_ble_eq_true rfl⟩ (fun σ' H locs hF hd => ?_)
      rw [hF] at hd
      have hd := bf_fromT (j := 0) (by decide) hd
      obtain ⟨T_22, eT_22, hf⟩ := bf_l_e hf
      have hd := hd.of (congrArg (bf_pB G ν b) eT_22.symm)
      have hz := bf_wok_uT (by decide) hz eT_22
      refine lv_goto (tgt := 42) hx hb dX0_image_28 (by decide) ?_
      exact J42 T_22 _ _ _ hf hz hd (lv_sub hl [0, 1] rfl)
  unfold fX0_image at hf
  refine lv_iload_n hx hb dX0_image_0 rfl (lv_at hl 1 rfl) ?_
  refine lv_if_ne (tgt := 13) hx hb dX0_image_1 (by decide) (fun c_23 => ?_) (fun c_23 => ?_)
  · have hf := bf_ie hf c_23
    exact J13 T _ _ _ hf hz hd (lv_sub hl [0, 1] rfl)
  · have hf := bf_it hf c_23
    refine lv_aload_n hx hb dX0_image_4 rfl (lv_at hl 0 rfl) ?_
    refine bf_yG X hd 9 (by decide) (Or.inl q436) rfl dX0_image_5 ?_
    refine lv_if_ne (tgt := 13) hx hb dX0_image_8 (by decide) (fun c_24 => ?_) (fun c_24 => ?_)
    · have hf := bf_ie hf c_24
      exact J13 T _ _ _ hf hz hd (lv_sub hl [0, 1] rfl)
    · have hf := bf_it hf c_24
      refine lv_iconst (v := 0) hx hb dX0_image_11 (by decide) ?_
      exact kret _ _ _ _ _ _ ⟨(bf_pr hf).1, congrArg (bf_pB G ν b) (bf_pr hf).2, (bf_pr hf).2 ▸ hz⟩ (Or.inl rfl) hd dX0_image_12
def fX0_look (T : bf_WS) (x1 : Int32) : Int32 := if x1 = 0 then (((bf_S T 0).1 0 10 0)) else (if x1 = 1 then (((bf_S T 0).1 0 11 0)) else (if x1 = 2 then (((bf_S T 0).1 0 12 0)) else (if x1 = 3 then (((bf_S T 0).1 0 18 0)) else (if x1 = 4 then (((bf_S T 0).1 0 13 0)) else (if x1 = 5 then (((bf_S T 0).1 0 14 0)) else (if x1 = 6 then (((bf_S T 0).1 0 15 0)) else (if x1 = 7 then (((bf_S T 0).1 0 16 0)) else (if x1 = 8 then (((bf_S T 0).1 0 20 0)) else (if x1 = 9 then (((bf_S T 0).1 0 19 0)) else (if x1 = 10 then ((nI (bf_Ds T 0).2.1.length)) else (if x1 = 11 then (((bf_S T 0).1 0 21 0)) else (if x1 = 12 then ((nI (bf_Ds T 0).2.2.length)) else (if x1 = 13 then (((bf_S T 0).1 0 22 0)) else (if x1 = 14 then ((T.1 0 8)) else (if x1 = 15 then (((bf_S T 0).1 0 17 0)) else ((-1)))))))))))))))))
set_option maxHeartbeats 4000000 in
theorem mX0_look (l : Launch) (G : bf_G) (ν : bf_V) (b : Nat) (T : bf_WS) (hz : bf_wok G ν b T) (x1 : Int32) {r : Int32} (hf : fX0_look T x1 = r) : bf_MI l G yX0_look cX0_look 2 (bf_rm 1) [.ref b, .int x1] (bf_pB G ν b T) (fun v σ' => v = r ∧ σ' = bf_pB G ν b T ∧ bf_wok G ν b T) := by
  refine bf_MI.of rfl (Nat.le_of_ble_eq_true rfl) ?_
  intro p e s m below meth c' Q X hlk hnm kret hd ls hl
  have hx := X.1
  have hb := X.2.1
  have hml := X.2.2.1
  have hown := X.2.2.2.1
  have hts := X.2.2.2.2
  have hl : lv_has ls 2 [(0, .ref b), (1, .int x1)] := hl
  unfold fX0_look at hf
  refine lv_iload_n hx hb dX0_look_0 rfl (lv_at hl 1 rfl) ?_
  by_cases c_19 : x1 = 0
  · have hf := bf_it hf c_19
    refine bf_top c_19.symm ?_
    refine lv_tableIn (tgt := 80) hx hb dX0_look_1 (by decide) (by decide) rfl (by decide) ?_
    refine lv_aload_n hx hb dX0_look_80 rfl (lv_at hl 0 rfl) ?_
    refine bf_yG (v := .ref (bf_ca b 0)) X hd 4 (by decide) (Or.inl q430) rfl dX0_look_81 ?_
    refine bf_rC X hd (bf_pB_hC G ν b T (i := 0) (by decide)) 10 (by decide) (Or.inr ⟨_, q321⟩) rfl dX0_look_84 ?_
    exact kret _ _ _ _ _ _ ⟨hf, rfl, hz⟩ hd dX0_look_87
  · have hf := bf_ie hf c_19
    by_cases c_20 : x1 = 1
    · have hf := bf_it hf c_20
      refine bf_top c_20.symm ?_
      refine lv_tableIn (tgt := 88) hx hb dX0_look_1 (by decide) (by decide) rfl (by decide) ?_
      refine lv_aload_n hx hb dX0_look_88 rfl (lv_at hl 0 rfl) ?_
      refine bf_yG (v := .ref (bf_ca b 0)) X hd 4 (by decide) (Or.inl q430) rfl dX0_look_89 ?_
      refine bf_rC X hd (bf_pB_hC G ν b T (i := 0) (by decide)) 11 (by decide) (Or.inr ⟨_, q325⟩) rfl dX0_look_92 ?_
      exact kret _ _ _ _ _ _ ⟨hf, rfl, hz⟩ hd dX0_look_95
    · have hf := bf_ie hf c_20
      by_cases c_21 : x1 = 2
      · have hf := bf_it hf c_21
        refine bf_top c_21.symm ?_
        refine lv_tableIn (tgt := 96) hx hb dX0_look_1 (by decide) (by decide) rfl (by decide) ?_
        refine lv_aload_n hx hb dX0_look_96 rfl (lv_at hl 0 rfl) ?_
        refine bf_yG (v := .ref (bf_ca b 0)) X hd 4 (by decide) (Or.inl q430) rfl dX0_look_97 ?_
        refine bf_rC X hd (bf_pB_hC G ν b T (i := 0) (by decide)) 12 (by decide) (Or.inr ⟨_, q327⟩) rfl dX0_look_100 ?_
        exact kret _ _ _ _ _ _ ⟨hf, rfl, hz⟩ hd dX0_look_103
      · have hf := bf_ie hf c_21
        by_cases c_22 : x1 = 3
        · have hf := bf_it hf c_22
          refine bf_top c_22.symm ?_
          refine lv_tableIn (tgt := 104) hx hb dX0_look_1 (by decide) (by decide) rfl (by decide) ?_
          refine lv_aload_n hx hb dX0_look_104 rfl (lv_at hl 0 rfl) ?_
          refine bf_yG (v := .ref (bf_ca b 0)) X hd 4 (by decide) (Or.inl q430) rfl dX0_look_105 ?_
          refine bf_rC X hd (bf_pB_hC G ν b T (i := 0) (by decide)) 18 (by decide) (Or.inr ⟨_, q340⟩) rfl dX0_look_108 ?_
          exact kret _ _ _ _ _ _ ⟨hf, rfl, hz⟩ hd dX0_look_111
        · have hf := bf_ie hf c_22
          by_cases c_23 : x1 = 4
          · have hf := bf_it hf c_23
            refine bf_top c_23.symm ?_
            refine lv_tableIn (tgt := 112) hx hb dX0_look_1 (by decide) (by decide) rfl (by decide) ?_
            refine lv_aload_n hx hb dX0_look_112 rfl (lv_at hl 0 rfl) ?_
            refine bf_yG (v := .ref (bf_ca b 0)) X hd 4 (by decide) (Or.inl q430) rfl dX0_look_113 ?_
            refine bf_rC X hd (bf_pB_hC G ν b T (i := 0) (by decide)) 13 (by decide) (Or.inr ⟨_, q330⟩) rfl dX0_look_116 ?_
            exact kret _ _ _ _ _ _ ⟨hf, rfl, hz⟩ hd dX0_look_119
          · have hf := bf_ie hf c_23
            by_cases c_24 : x1 = 5
            · have hf := bf_it hf c_24
              refine bf_top c_24.symm ?_
              refine lv_tableIn (tgt := 120) hx hb dX0_look_1 (by decide) (by decide) rfl (by decide) ?_
              refine lv_aload_n hx hb dX0_look_120 rfl (lv_at hl 0 rfl) ?_
              refine bf_yG (v := .ref (bf_ca b 0)) X hd 4 (by decide) (Or.inl q430) rfl dX0_look_121 ?_
              refine bf_rC X hd (bf_pB_hC G ν b T (i := 0) (by decide)) 14 (by decide) (Or.inr ⟨_, q332⟩) rfl dX0_look_124 ?_
              exact kret _ _ _ _ _ _ ⟨hf, rfl, hz⟩ hd dX0_look_127
            · have hf := bf_ie hf c_24
              by_cases c_25 : x1 = 6
              · have hf := bf_it hf c_25
                refine bf_top c_25.symm ?_
                refine lv_tableIn (tgt := 128) hx hb dX0_look_1 (by decide) (by decide) rfl (by decide) ?_
                refine lv_aload_n hx hb dX0_look_128 rfl (lv_at hl 0 rfl) ?_
                refine bf_yG (v := .ref (bf_ca b 0)) X hd 4 (by decide) (Or.inl q430) rfl dX0_look_129 ?_
                refine bf_rC X hd (bf_pB_hC G ν b T (i := 0) (by decide)) 15 (by decide) (Or.inr ⟨_, q334⟩) rfl dX0_look_132 ?_
                exact kret _ _ _ _ _ _ ⟨hf, rfl, hz⟩ hd dX0_look_135
              · have hf := bf_ie hf c_25
                by_cases c_26 : x1 = 7
                · have hf := bf_it hf c_26
                  refine bf_top c_26.symm ?_
                  refine lv_tableIn (tgt := 136) hx hb dX0_look_1 (by decide) (by decide) rfl (by decide) ?_
                  refine lv_aload_n hx hb dX0_look_136 rfl (lv_at hl 0 rfl) ?_
                  refine bf_yG (v := .ref (bf_ca b 0)) X hd 4 (by decide) (Or.inl q430) rfl dX0_look_137 ?_
                  refine bf_rC X hd (bf_pB_hC G ν b T (i := 0) (by decide)) 16 (by decide) (Or.inr ⟨_, q336⟩) rfl dX0_look_140 ?_
                  exact kret _ _ _ _ _ _ ⟨hf, rfl, hz⟩ hd dX0_look_143
                · have hf := bf_ie hf c_26
                  by_cases c_27 : x1 = 8
                  · have hf := bf_it hf c_27
                    refine bf_top c_27.symm ?_
                    refine lv_tableIn (tgt := 144) hx hb dX0_look_1 (by decide) (by decide) rfl (by decide) ?_
                    refine lv_aload_n hx hb dX0_look_144 rfl (lv_at hl 0 rfl) ?_
                    refine bf_yG (v := .ref (bf_ca b 0)) X hd 4 (by decide) (Or.inl q430) rfl dX0_look_145 ?_
                    refine bf_rC X hd (bf_pB_hC G ν b T (i := 0) (by decide)) 20 (by decide) (Or.inr ⟨_, q344⟩) rfl dX0_look_148 ?_
                    exact kret _ _ _ _ _ _ ⟨hf, rfl, hz⟩ hd dX0_look_151
                  · have hf := bf_ie hf c_27
                    by_cases c_28 : x1 = 9
                    · have hf := bf_it hf c_28
                      refine bf_top c_28.symm ?_
                      refine lv_tableIn (tgt := 152) hx hb dX0_look_1 (by decide) (by decide) rfl (by decide) ?_
                      refine lv_aload_n hx hb dX0_look_152 rfl (lv_at hl 0 rfl) ?_
                      refine bf_yG (v := .ref (bf_ca b 0)) X hd 4 (by decide) (Or.inl q430) rfl dX0_look_153 ?_
                      refine bf_rC X hd (bf_pB_hC G ν b T (i := 0) (by decide)) 19 (by decide) (Or.inr ⟨_, q342⟩) rfl dX0_look_156 ?_
                      exact kret _ _ _ _ _ _ ⟨hf, rfl, hz⟩ hd dX0_look_159
                    · have hf := bf_ie hf c_28
                      by_cases c_29 : x1 = 10
                      · have hf := bf_it hf c_29
                        refine bf_top c_29.symm ?_
                        refine lv_tableIn (tgt := 160) hx hb dX0_look_1 (by decide) (by decide) rfl (by decide) ?_
                        refine lv_aload_n hx hb dX0_look_160 rfl (lv_at hl 0 rfl) ?_
                        refine bf_yG (v := .ref (bf_ca b 0)) X hd 4 (by decide) (Or.inl q430) rfl dX0_look_161 ?_
                        refine bf_rC (v := .ref (bf_qs T 0 1)) X hd (bf_pB_hC G ν b T (i := 0) (by decide)) 8 (by decide) (Or.inr ⟨_, q317⟩) rfl dX0_look_164 ?_
                        obtain ⟨esh_30, ⟨Vh_30, hVh_30, hV2h_30, hlenh_30, -⟩, hAh_30⟩ := (hz 0 (by decide)).2.1
                        refine bf_cVi (n := 0) (As := []) (rest := []) X hd (mJ2_size l G _ _ Vh_30 _ (bf_fzB_at hVh_30) hV2h_30) (lw_V q882 q709 q710 q152 q711) (by decide +kernel) ⟨Nat.le_of_ble_eq_true rfl, Nat.le_of_ble_eq_true rfl⟩ (bf_recv hd (bf_fzB_at hVh_30) (q := (RJ2, TJ2, 3)) rfl) rfl hl.1 rfl (Nat.le_of_ble_eq_true rfl) dX0_look_167 ⟨Nat.le_of_ble_eq_true rfl, Nat.le_of_ble_eq_true rfl⟩ (fun v σ' H locs hF hd => ?_)
                        rw [hF.2] at hd
                        refine bf_top (y := (nI (bf_Ds T 0).2.1.length)) (by rw [hF.1, bf_zAll_len hAh_30]) ?_
                        exact kret _ _ _ _ _ _ ⟨hf, rfl, hz⟩ hd dX0_look_170
                      · have hf := bf_ie hf c_29
                        by_cases c_31 : x1 = 11
                        · have hf := bf_it hf c_31
                          refine bf_top c_31.symm ?_
                          refine lv_tableIn (tgt := 171) hx hb dX0_look_1 (by decide) (by decide) rfl (by decide) ?_
                          refine lv_aload_n hx hb dX0_look_171 rfl (lv_at hl 0 rfl) ?_
                          refine bf_yG (v := .ref (bf_ca b 0)) X hd 4 (by decide) (Or.inl q430) rfl dX0_look_172 ?_
                          refine bf_rC X hd (bf_pB_hC G ν b T (i := 0) (by decide)) 21 (by decide) (Or.inr ⟨_, q346⟩) rfl dX0_look_175 ?_
                          exact kret _ _ _ _ _ _ ⟨hf, rfl, hz⟩ hd dX0_look_178
                        · have hf := bf_ie hf c_31
                          by_cases c_32 : x1 = 12
                          · have hf := bf_it hf c_32
                            refine bf_top c_32.symm ?_
                            refine lv_tableIn (tgt := 179) hx hb dX0_look_1 (by decide) (by decide) rfl (by decide) ?_
                            refine lv_aload_n hx hb dX0_look_179 rfl (lv_at hl 0 rfl) ?_
                            refine bf_yG (v := .ref (bf_ca b 0)) X hd 4 (by decide) (Or.inl q430) rfl dX0_look_180 ?_
                            refine bf_rC (v := .ref (bf_qs T 0 2)) X hd (bf_pB_hC G ν b T (i := 0) (by decide)) 9 (by decide) (Or.inr ⟨_, q319⟩) rfl dX0_look_183 ?_
                            obtain ⟨esh_33, ⟨Vh_33, hVh_33, hV2h_33, hlenh_33, -⟩, hAh_33⟩ := (hz 0 (by decide)).2.2
                            refine bf_cVi (n := 0) (As := []) (rest := []) X hd (mJ2_size l G _ _ Vh_33 _ (bf_fzB_at hVh_33) hV2h_33) (lw_V q882 q709 q710 q152 q711) (by decide +kernel) ⟨Nat.le_of_ble_eq_true rfl, Nat.le_of_ble_eq_true rfl⟩ (bf_recv hd (bf_fzB_at hVh_33) (q := (RJ2, TJ2, 3)) rfl) rfl hl.1 rfl (Nat.le_of_ble_eq_true rfl) dX0_look_186 ⟨Nat.le_of_ble_eq_true rfl, Nat.le_of_ble_eq_true rfl⟩ (fun v σ' H locs hF hd => ?_)
                            rw [hF.2] at hd
                            refine bf_top (y := (nI (bf_Ds T 0).2.2.length)) (by rw [hF.1, bf_zAll_len hAh_33]) ?_
                            exact kret _ _ _ _ _ _ ⟨hf, rfl, hz⟩ hd dX0_look_189
                          · have hf := bf_ie hf c_32
                            by_cases c_34 : x1 = 13
                            · have hf := bf_it hf c_34
                              refine bf_top c_34.symm ?_
                              refine lv_tableIn (tgt := 190) hx hb dX0_look_1 (by decide) (by decide) rfl (by decide) ?_
                              refine lv_aload_n hx hb dX0_look_190 rfl (lv_at hl 0 rfl) ?_
                              refine bf_yG (v := .ref (bf_ca b 0)) X hd 4 (by decide) (Or.inl q430) rfl dX0_look_191 ?_
                              refine bf_rC X hd (bf_pB_hC G ν b T (i := 0) (by decide)) 22 (by decide) (Or.inr ⟨_, q348⟩) rfl dX0_look_194 ?_
                              exact kret _ _ _ _ _ _ ⟨hf, rfl, hz⟩ hd dX0_look_197
                            · have hf := bf_ie hf c_34
                              by_cases c_35 : x1 = 14
                              · have hf := bf_it hf c_35
                                refine bf_top c_35.symm ?_
                                refine lv_tableIn (tgt := 198) hx hb dX0_look_1 (by decide) (by decide) rfl (by decide) ?_
                                refine lv_aload_n hx hb dX0_look_198 rfl (lv_at hl 0 rfl) ?_
                                refine bf_yG X hd 8 (by decide) (Or.inl q435) rfl dX0_look_199 ?_
                                exact kret _ _ _ _ _ _ ⟨hf, rfl, hz⟩ hd dX0_look_202
                              · have hf := bf_ie hf c_35
                                by_cases c_36 : x1 = 15
                                · have hf := bf_it hf c_36
                                  refine bf_top c_36.symm ?_
                                  refine lv_tableIn (tgt := 203) hx hb dX0_look_1 (by decide) (by decide) rfl (by decide) ?_
                                  refine lv_aload_n hx hb dX0_look_203 rfl (lv_at hl 0 rfl) ?_
                                  refine bf_yG (v := .ref (bf_ca b 0)) X hd 4 (by decide) (Or.inl q430) rfl dX0_look_204 ?_
                                  refine bf_rC X hd (bf_pB_hC G ν b T (i := 0) (by decide)) 17 (by decide) (Or.inr ⟨_, q338⟩) rfl dX0_look_207 ?_
                                  exact kret _ _ _ _ _ _ ⟨hf, rfl, hz⟩ hd dX0_look_210
                                · have hf := bf_ie hf c_36
                                  refine lv_tableOut (tgt := 211) hx hb dX0_look_1 (by have := lv_neT c_19 (a := 0) rfl; have := lv_neT c_20 (a := 1) rfl; have := lv_neT c_21 (a := 2) rfl; have := lv_neT c_22 (a := 3) rfl; have := lv_neT c_23 (a := 4) rfl; have := lv_neT c_24 (a := 5) rfl; have := lv_neT c_25 (a := 6) rfl; have := lv_neT c_26 (a := 7) rfl; have := lv_neT c_27 (a := 8) rfl; have := lv_neT c_28 (a := 9) rfl; have := lv_neT c_29 (a := 10) rfl; have := lv_neT c_31 (a := 11) rfl; have := lv_neT c_32 (a := 12) rfl; have := lv_neT c_34 (a := 13) rfl; have := lv_neT c_35 (a := 14) rfl; have := lv_neT c_36 (a := 15) rfl; omega) (by decide) ?_
                                  refine lv_iconst (v := (-1)) hx hb dX0_look_211 (by decide) ?_
                                  exact kret _ _ _ _ _ _ ⟨hf, rfl, hz⟩ hd dX0_look_212
