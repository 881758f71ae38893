set_option maxRecDepth 100000
def fX0_word_3b (x1 : Int32) (k3 : Int32 → bf_WS → Option (bf_WS)) (v3_2 : Int32) (T3 : bf_WS) : Option (bf_WS) := if v3_2 < 0 then (some T3) else (bf_c (bf_in (T3.1 0 1) 400) <| bf_l (bf_uB T3 1 (T3.1 0 1).toNatClampNeg (vp_nar .byte (((x1 >>> (v3_2 &&& 31))).toInt8.toInt32))) fun T_3 => bf_l (bf_uB T_3 0 1 ((T_3.1 0 1) + 1)) fun T_4 => bf_l (v3_2 + (-8)) fun x2_5 => k3 x2_5 T_4)
def fX0_word_3 (x1 : Int32) : Nat → Int32 → bf_WS → Option (bf_WS)
  | 0, _, _ => none
  | n + 1, v3_2, T3 => fX0_word_3b x1 (fX0_word_3 x1 n) v3_2 T3
def fX0_word (T : bf_WS) (x1 : Int32) : Option (bf_WS) := fX0_word_3 x1 bf_fuel 24 T
set_option maxHeartbeats 4000000 in
theorem mX0_word (l : Launch) (G : bf_G) (ν : bf_V) (b : Nat) (T : bf_WS) (hz : bf_wok G ν b T) (x1 : Int32) {T' : bf_WS} (hf : fX0_word T x1 = some T') : bf_MV l G yX0_word cX0_word 3 (bf_rm 0) [.ref b, .int x1] (bf_pB G ν b T) (fun σ' => σ' = bf_pB G ν b T' ∧ bf_wok G ν b T') := by
  refine bf_MV.of rfl (Nat.le_of_ble_eq_true rfl) ?_
  intro p e s m below meth c' Q X hlk hnm kret hd ls hl
  have hx := X.1
  have hb := X.2.1
  have hml := X.2.2.1
  have hown := X.2.2.2.1
  have hts := X.2.2.2.2
  have hl : lv_has ls 3 [(0, .ref b), (1, .int x1)] := hl
  have L3 : ∀ (n3 : Nat) (v3_2 : Int32) (T3 : bf_WS) (H : Heap) (locs : List Loc) (ls : Array Slot), fX0_word_3 x1 n3 v3_2 T3 = some T' → bf_wok G ν b T3 → bf_Dy G s H locs (bf_pB G ν b T3) → lv_has ls 3 [(0, .ref b), (1, .int x1), (2, .int v3_2)] → W p l e (bf_rm 0) s m ([.ref b, .int x1] : List Value).toArray below meth c' H locs 0 0 Q (F0 m 3 ls []) := by
    intro n3
    induction n3 with
    | zero =>
      intro v3_2 T3 H locs ls hf hz hd hl
      exact absurd (show (none : Option (bf_WS)) = some T' from hf) (by intro h; cases h)
    | succ n3 ih3 =>
      intro v3_2 T3 H locs ls hf hz hd hl
      have hf : fX0_word_3b x1 (fX0_word_3 x1 n3) v3_2 T3 = some T' := hf
      unfold fX0_word_3b at hf
      refine lv_iload_n hx hb dX0_word_3 rfl (lv_at hl 2 rfl) ?_
      refine lv_if_lt (tgt := 36) hx hb dX0_word_4 (by decide) (fun c_6 => ?_) (fun c_6 => ?_)
      · have hf := bf_it hf c_6
        exact kret _ _ _ _ _ ⟨congrArg (bf_pB G ν b) (bf_so hf), bf_so hf ▸ hz⟩ hd dX0_word_36
      · have hf := bf_ie hf c_6
        refine lv_aload_n hx hb dX0_word_7 rfl (lv_at hl 0 rfl) ?_
        refine bf_yG (v := .ref (b + 1)) X hd 0 (by decide) (Or.inl q424) rfl dX0_word_8 ?_
        refine lv_aload_n hx hb dX0_word_11 rfl (lv_at hl 0 rfl) ?_
        refine bf_yG X hd 1 (by decide) (Or.inl q427) rfl dX0_word_12 ?_
        refine lv_iload_n hx hb dX0_word_15 rfl (lv_at hl 1 rfl) ?_
        refine lv_iload_n hx hb dX0_word_16 rfl (lv_at hl 2 rfl) ?_
        refine lv_ishr hx hb dX0_word_17 ?_
        refine lv_i2b (v := ((x1 >>> (v3_2 &&& 31))).toInt8.toInt32) hx hb dX0_word_18 rfl ?_
        obtain ⟨g_7, hf⟩ := bf_c_some hf
        refine bf_yT X hd g_7 dX0_word_19 (fun H locs hd => ?_)
        obtain ⟨T_8, eT_8, hf⟩ := bf_l_e hf
        have hd := hd.of (congrArg (bf_pB G ν b) eT_8.symm)
        have hz := bf_wok_uB hz eT_8
        refine lv_aload_n hx hb dX0_word_20 rfl (lv_at hl 0 rfl) ?_
        refine lv_dup hx hb dX0_word_21 rfl ?_
        refine bf_yG X hd 1 (by decide) (Or.inl q427) rfl dX0_word_22 ?_
        refine lv_iconst (v := 1) hx hb dX0_word_25 (by decide) ?_
        refine lv_iadd hx hb dX0_word_26 ?_
        refine bf_yP X hd 1 (by decide) ⟨by decide, rfl, rfl⟩ (Or.inl q427) dX0_word_27 (fun H locs hd => ?_)
        obtain ⟨T_9, eT_9, hf⟩ := bf_l_e hf
        have hd := hd.of (congrArg (bf_pB G ν b) eT_9.symm)
        have hz := bf_wok_uB hz eT_9
        obtain ⟨x2_10, ex2_10, hf⟩ := bf_l_e hf
        refine lv_iinc (v := x2_10) (lv' := [(2, .int x2_10), (0, .ref b), (1, .int x1)]) hx hb dX0_word_30 hl (k := 2) rfl (by rw [ex2_10]; rfl) (by decide) rfl (fun ls hl => ?_)
        refine lv_goto (tgt := 3) hx hb dX0_word_33 (by decide) ?_
        exact ih3 x2_10 T_9 _ _ _ hf hz hd (lv_sub hl [1, 2, 0] rfl)
  unfold fX0_word at hf
  refine lv_bipush (v := 24) hx hb dX0_word_0 (by decide) ?_
  refine lv_istore_n (lv' := [(2, .int 24), (0, .ref b), (1, .int x1)]) hx hb dX0_word_2 rfl hl (by decide) rfl (fun ls hl => ?_)
  exact L3 bf_fuel 24 T _ _ _ hf hz hd (lv_sub hl [1, 2, 0] rfl)
def fX0_feed (T : bf_WS) (x1 x2 x3 x4 x5 : Int32) : Option (Int32 × bf_WS) := if ((T.1 0 1) + 20) ≤ 400 then (bf_b (fX0_word T x1) fun T_2 => bf_b (fX0_word T_2 x2) fun T_3 => bf_b (fX0_word T_3 x3) fun T_4 => bf_b (fX0_word T_4 x4) fun T_5 => bf_b (fX0_word T_5 x5) fun T_6 => some ((T_6.1 0 1), T_6)) else (some ((-1), T))
set_option maxHeartbeats 4000000 in
theorem mX0_feed (l : Launch) (G : bf_G) (ν : bf_V) (b : Nat) (T : bf_WS) (hz : bf_wok G ν b T) (x1 x2 x3 x4 x5 : Int32) {r : Int32} {T' : bf_WS} (hf : fX0_feed T x1 x2 x3 x4 x5 = some (r, T')) : bf_MI l G yX0_feed cX0_feed 6 (bf_rm 1) [.ref b, .int x1, .int x2, .int x3, .int x4, .int x5] (bf_pB G ν b T) (fun v σ' => v = r ∧ σ' = bf_pB G ν b T' ∧ bf_wok G ν b T') := by
  refine bf_MI.of rfl (Nat.le_of_ble_eq_true rfl) ?_
  intro p e s m below meth c' Q X hlk hnm kret hd ls hl
  have hx := X.1
  have hb := X.2.1
  have hml := X.2.2.1
  have hown := X.2.2.2.1
  have hts := X.2.2.2.2
  have hl : lv_has ls 6 [(0, .ref b), (1, .int x1), (2, .int x2), (3, .int x3), (4, .int x4), (5, .int x5)] := hl
  unfold fX0_feed at hf
  refine lv_aload_n hx hb dX0_feed_0 rfl (lv_at hl 0 rfl) ?_
  refine bf_yG X hd 1 (by decide) (Or.inl q427) rfl dX0_feed_1 ?_
  refine lv_bipush (v := 20) hx hb dX0_feed_4 (by decide) ?_
  refine lv_iadd hx hb dX0_feed_6 ?_
  refine lv_sipush (v := 400) hx hb dX0_feed_7 (by decide) ?_
  refine lv_icmp_le (tgt := 15) hx hb dX0_feed_10 (by decide) (fun c_7 => ?_) (fun c_7 => ?_)
  · have hf := bf_it hf c_7
    refine lv_aload_n hx hb dX0_feed_15 rfl (lv_at hl 0 rfl) ?_
    refine lv_iload_n hx hb dX0_feed_16 rfl (lv_at hl 1 rfl) ?_
    obtain ⟨T_8, eT_8, hf⟩ := bf_b_some hf
    refine bf_bcv (n := 1) (As := [.int x1]) (rest := []) X hd (mX0_word l G ν b T hz x1 eT_8) (lw_V q465 q467 qs0 q148 q468) (by decide +kernel) ⟨Nat.le_of_ble_eq_true rfl, Nat.le_of_ble_eq_true rfl⟩ rfl hl.1 rfl (Nat.le_of_ble_eq_true rfl) dX0_feed_17 ⟨Nat.le_of_ble_eq_true rfl, Nat.le_of_ble_eq_true rfl⟩ (fun H locs hz hd => ?_)
    refine lv_aload_n hx hb dX0_feed_20 rfl (lv_at hl 0 rfl) ?_
    refine lv_iload_n hx hb dX0_feed_21 rfl (lv_at hl 2 rfl) ?_
    obtain ⟨T_9, eT_9, hf⟩ := bf_b_some hf
    refine bf_bcv (n := 1) (As := [.int x2]) (rest := []) X hd (mX0_word l G ν b T_8 hz x2 eT_9) (lw_V q465 q467 qs0 q148 q468) (by decide +kernel) ⟨Nat.le_of_ble_eq_true rfl, Nat.le_of_ble_eq_true rfl⟩ rfl hl.1 rfl (Nat.le_of_ble_eq_true rfl) dX0_feed_22 ⟨Nat.le_of_ble_eq_true rfl, Nat.le_of_ble_eq_true rfl⟩ (fun H locs hz hd => ?_)
    refine lv_aload_n hx hb dX0_feed_25 rfl (lv_at hl 0 rfl) ?_
    refine lv_iload_n hx hb dX0_feed_26 rfl (lv_at hl 3 rfl) ?_
    obtain ⟨T_10, eT_10, hf⟩ := bf_b_some hf
    refine bf_bcv (n := 1) (As := [.int x3]) (rest := []) X hd (mX0_word l G ν b T_9 hz x3 eT_10) (lw_V q465 q467 qs0 q148 q468) (by decide +kernel) ⟨Nat.le_of_ble_eq_true rfl, Nat.le_of_ble_eq_true rfl⟩ rfl hl.1 rfl (Nat.le_of_ble_eq_true rfl) dX0_feed_27 ⟨Nat.le_of_ble_eq_true rfl, Nat.le_of_ble_eq_true rfl⟩ (fun H locs hz hd => ?_)
    refine lv_aload_n hx hb dX0_feed_30 rfl (lv_at hl 0 rfl) ?_
    refine lv_iload hx hb dX0_feed_31 (lv_at hl 4 rfl) ?_
    obtain ⟨T_11, eT_11, hf⟩ := bf_b_some hf
    refine bf_bcv (n := 1) (As := [.int x4]) (rest := []) X hd (mX0_word l G ν b T_10 hz x4 eT_11) (lw_V q465 q467 qs0 q148 q468) (by decide +kernel) ⟨Nat.le_of_ble_eq_true rfl, Nat.le_of_ble_eq_true rfl⟩ rfl hl.1 rfl (Nat.le_of_ble_eq_true rfl) dX0_feed_33 ⟨Nat.le_of_ble_eq_true rfl, Nat.le_of_ble_eq_true rfl⟩ (fun H locs hz hd => ?_)
    refine lv_aload_n hx hb dX0_feed_36 rfl (lv_at hl 0 rfl) ?_
    refine lv_iload hx hb dX0_feed_37 (lv_at hl 5 rfl) ?_
    obtain ⟨T_12, eT_12, hf⟩ := bf_b_some hf
    refine bf_bcv (n := 1) (As := [.int x5]) (rest := []) X hd (mX0_word l G ν b T_11 hz x5 eT_12) (lw_V q465 q467 qs0 q148 q468) (by decide +kernel) ⟨Nat.le_of_ble_eq_true rfl, Nat.le_of_ble_eq_true rfl⟩ rfl hl.1 rfl (Nat.le_of_ble_eq_true rfl) dX0_feed_39 ⟨Nat.le_of_ble_eq_true rfl, Nat.le_of_ble_eq_true rfl⟩ (fun H locs hz hd => ?_)
    refine lv_aload_n hx hb dX0_feed_42 rfl (lv_at hl 0 rfl) ?_
    refine bf_yG X hd 1 (by decide) (Or.inl q427) rfl dX0_feed_43 ?_
    exact kret _ _ _ _ _ _ ⟨(bf_pr hf).1, congrArg (bf_pB G ν b) (bf_pr hf).2, (bf_pr hf).2 ▸ hz⟩ hd dX0_feed_46
  · have hf := bf_ie hf c_7
    refine lv_iconst (v := (-1)) hx hb dX0_feed_13 (by decide) ?_
    exact kret _ _ _ _ _ _ ⟨(bf_pr hf).1, congrArg (bf_pB G ν b) (bf_pr hf).2, (bf_pr hf).2 ▸ hz⟩ hd dX0_feed_14
def fX0_end (T : bf_WS) (x1 : Int32) : Option (Int32 × bf_WS) := if (fX0_isIn x1 0 (T.1 0 1)) = 0 then (some (0, T)) else (bf_l (bf_uB T 0 1 x1) fun T_3 => some (1, T_3))
set_option maxHeartbeats 4000000 in
theorem mX0_end (l : Launch) (G : bf_G) (ν : bf_V) (b : Nat) (T : bf_WS) (hz : bf_wok G ν b T) (x1 : Int32) {r : Int32} {T' : bf_WS} (hf : fX0_end T x1 = some (r, T')) : bf_MZ l G yX0_end cX0_end 2 (bf_rm 2) [.ref b, .int x1] (bf_pB G ν b T) (fun v σ' => v = r ∧ σ' = bf_pB G ν b T' ∧ bf_wok G ν b T') := by
  refine bf_MZ.of rfl (Nat.le_of_ble_eq_true rfl) ?_
  intro p e s m below meth c' Q X hlk hnm kret hd ls hl
  have hx := X.1
  have hb := X.2.1
  have hml := X.2.2.1
  have hown := X.2.2.2.1
  have hts := X.2.2.2.2
  have hl : lv_has ls 2 [(0, .ref b), (1, .int x1)] := hl
  unfold fX0_end at hf
  refine lv_iload_n hx hb dX0_end_0 rfl (lv_at hl 1 rfl) ?_
  refine lv_iconst (v := 0) hx hb dX0_end_1 (by decide) ?_
  refine lv_aload_n hx hb dX0_end_2 rfl (lv_at hl 0 rfl) ?_
  refine bf_yG X hd 1 (by decide) (Or.inl q427) rfl dX0_end_3 ?_
  refine bf_cSz (n := 3) (As := [.int x1, .int 0, .int (T.1 0 1)]) (rest := []) X hd (mX0_isIn l G _ x1 0 (T.1 0 1) rfl) (lw_S q473 q474 q148 q475) (by decide +kernel) ⟨Nat.le_of_ble_eq_true rfl, Nat.le_of_ble_eq_true rfl⟩ rfl hl.1 rfl (Nat.le_of_ble_eq_true rfl) dX0_end_6 ⟨Nat.le_of_ble_eq_true rfl, Nat.le_of_ble_eq_true rfl⟩ (fun r σ' H locs hF z_4 hd => ?_)
  rw [hF.2] at hd
  refine bf_top hF.1.symm ?_
  rw [hF.1] at z_4
  refine lv_if_ne (tgt := 14) hx hb dX0_end_9 (by decide) (fun c_5 => ?_) (fun c_5 => ?_)
  · have hf := bf_ie hf c_5
    refine lv_aload_n hx hb dX0_end_14 rfl (lv_at hl 0 rfl) ?_
    refine lv_iload_n hx hb dX0_end_15 rfl (lv_at hl 1 rfl) ?_
    refine bf_yP X hd 1 (by decide) ⟨by decide, rfl, rfl⟩ (Or.inl q427) dX0_end_16 (fun H locs hd => ?_)
    obtain ⟨T_6, eT_6, hf⟩ := bf_l_e hf
    have hd := hd.of (congrArg (bf_pB G ν b) eT_6.symm)
    have hz := bf_wok_uB hz eT_6
    refine lv_iconst (v := 1) hx hb dX0_end_19 (by decide) ?_
    exact kret _ _ _ _ _ _ ⟨(bf_pr hf).1, congrArg (bf_pB G ν b) (bf_pr hf).2, (bf_pr hf).2 ▸ hz⟩ (Or.inr rfl) hd dX0_end_20
  · have hf := bf_it hf c_5
    refine lv_iconst (v := 0) hx hb dX0_end_12 (by decide) ?_
    exact kret _ _ _ _ _ _ ⟨(bf_pr hf).1, congrArg (bf_pB G ν b) (bf_pr hf).2, (bf_pr hf).2 ▸ hz⟩ (Or.inl rfl) hd dX0_end_13
def fX0_fault (T : bf_WS) (x1 : Int32) : Int32 := if x1 = 0 then ((T.1 0 2)) else (if x1 = 1 then ((T.1 0 3)) else ((-1)))
set_option maxHeartbeats 4000000 in
theorem mX0_fault (l : Launch) (G : bf_G) (ν : bf_V) (b : Nat) (T : bf_WS) (hz : bf_wok G ν b T) (x1 : Int32) {r : Int32} (hf : fX0_fault T x1 = r) : bf_MI l G yX0_fault cX0_fault 2 (bf_rm 0) [.ref b, .int x1] (bf_pB G ν b T) (fun v σ' => v = r ∧ σ' = bf_pB G ν b T ∧ bf_wok G ν b T) := by
  refine bf_MI.of rfl (Nat.le_of_ble_eq_true rfl) ?_
  intro p e s m below meth c' Q X hlk hnm kret hd ls hl
  have hx := X.1
  have hb := X.2.1
  have hml := X.2.2.1
  have hown := X.2.2.2.1
  have hts := X.2.2.2.2
  have hl : lv_has ls 2 [(0, .ref b), (1, .int x1)] := hl
  unfold fX0_fault at hf
  refine lv_iload_n hx hb dX0_fault_0 rfl (lv_at hl 1 rfl) ?_
  refine lv_if_ne (tgt := 11) hx hb dX0_fault_1 (by decide) (fun c_3 => ?_) (fun c_3 => ?_)
  · have hf := bf_ie hf c_3
    refine lv_iload_n hx hb dX0_fault_11 rfl (lv_at hl 1 rfl) ?_
    refine lv_iconst (v := 1) hx hb dX0_fault_12 (by decide) ?_
    refine lv_icmp_ne (tgt := 23) hx hb dX0_fault_13 (by decide) (fun c_4 => ?_) (fun c_4 => ?_)
    · have hf := bf_ie hf c_4
      refine lv_iconst (v := (-1)) hx hb dX0_fault_23 (by decide) ?_
      exact kret _ _ _ _ _ _ ⟨hf, rfl, hz⟩ hd dX0_fault_24
    · have hf := bf_it hf c_4
      refine lv_aload_n hx hb dX0_fault_16 rfl (lv_at hl 0 rfl) ?_
      refine bf_yG X hd 3 (by decide) (Or.inl q429) rfl dX0_fault_17 ?_
      refine lv_goto (tgt := 24) hx hb dX0_fault_20 (by decide) ?_
      exact kret _ _ _ _ _ _ ⟨hf, rfl, hz⟩ hd dX0_fault_24
  · have hf := bf_it hf c_3
    refine lv_aload_n hx hb dX0_fault_4 rfl (lv_at hl 0 rfl) ?_
    refine bf_yG X hd 2 (by decide) (Or.inl q428) rfl dX0_fault_5 ?_
    refine lv_goto (tgt := 24) hx hb dX0_fault_8 (by decide) ?_
    exact kret _ _ _ _ _ _ ⟨hf, rfl, hz⟩ hd dX0_fault_24
def fX0_forgets (T : bf_WS) : Option (Int32 × bf_WS) := bf_l (bf_uB T 0 8 0) fun T_1 => some (1, T_1)
set_option maxHeartbeats 4000000 in
theorem mX0_forgets (l : Launch) (G : bf_G) (ν : bf_V) (b : Nat) (T : bf_WS) (hz : bf_wok G ν b T) {r : Int32} {T' : bf_WS} (hf : fX0_forgets T = some (r, T')) : bf_MZ l G yX0_forgets cX0_forgets 1 (bf_rm 0) [.ref b] (bf_pB G ν b T) (fun v σ' => v = r ∧ σ' = bf_pB G ν b T' ∧ bf_wok G ν b T') := by
  refine bf_MZ.of rfl (Nat.le_of_ble_eq_true rfl) ?_
  intro p e s m below meth c' Q X hlk hnm kret hd ls hl
  have hx := X.1
  have hb := X.2.1
  have hml := X.2.2.1
  have hown := X.2.2.2.1
  have hts := X.2.2.2.2
  have hl : lv_has ls 1 [(0, .ref b)] := hl
  unfold fX0_forgets at hf
  refine lv_aload_n hx hb dX0_forgets_0 rfl (lv_at hl 0 rfl) ?_
  refine lv_iconst (v := 0) hx hb dX0_forgets_1 (by decide) ?_
  refine bf_yP X hd 8 (by decide) ⟨by decide, rfl, rfl⟩ (Or.inl q435) dX0_forgets_2 (fun H locs hd => ?_)
  obtain ⟨T_2, eT_2, hf⟩ := bf_l_e hf
  have hd := hd.of (congrArg (bf_pB G ν b) eT_2.symm)
  have hz := bf_wok_uB hz eT_2
  refine lv_iconst (v := 1) hx hb dX0_forgets_5 (by decide) ?_
  exact kret _ _ _ _ _ _ ⟨(bf_pr hf).1, congrArg (bf_pB G ν b) (bf_pr hf).2, (bf_pr hf).2 ▸ hz⟩ (Or.inr rfl) hd dX0_forgets_6
def fX0_keeps_61 (T61 : bf_WS) : Option (bf_WS) := bf_c (bf_in (T61.1 0 8) 6) <| bf_l (T61.2.1 (T61.1 0 8).toNatClampNeg) fun n_12 => bf_c (decide (3 ≤ n_12 ∧ n_12 < 9)) <| bf_b (fX1_moves (bf_S T61 0) (bf_S T61 n_12)) fun S_13 => bf_l (bf_uS T61 n_12 S_13) fun T_14 => bf_l (bf_uB T_14 0 8 ((T_14.1 0 8) + 1)) fun T_15 => some T_15
def fX0_keeps_44 (w44_1 : Nat) (T44 : bf_WS) : Option (bf_WS) := bf_l (bf_uK T44 5 w44_1) fun T_8 => bf_l (bf_uB T_8 0 8 ((T_8.1 0 8) - 1)) fun T_9 => fX0_keeps_61 T_9
def fX0_keeps_18b (u18_1 : Nat) (k18 : Int32 → bf_WS → Option (bf_WS)) (v18_2 : Int32) (T18 : bf_WS) : Option (bf_WS) := if 6 ≤ v18_2 then (fX0_keeps_44 u18_1 T18) else (bf_c (bf_in v18_2 6) <| bf_l (T18.2.1 v18_2.toNatClampNeg) fun n_4 => bf_c (decide (3 ≤ n_4 ∧ n_4 < 9)) <| bf_c (bf_in (v18_2 - 1) 6) <| bf_l (bf_uK T18 (v18_2 - 1).toNatClampNeg n_4) fun T_6 => bf_l (v18_2 + 1) fun x2_7 => k18 x2_7 T_6)
def fX0_keeps_18 (u18_1 : Nat) : Nat → Int32 → bf_WS → Option (bf_WS)
  | 0, _, _ => none
  | n + 1, v18_2, T18 => fX0_keeps_18b u18_1 (fX0_keeps_18 u18_1 n) v18_2 T18
def fX0_keeps (T : bf_WS) : Option (bf_WS) := if (T.1 0 8) = 6 then (bf_l (T.2.1 0) fun n_18 => bf_c (decide (3 ≤ n_18 ∧ n_18 < 9)) <| fX0_keeps_18 n_18 bf_fuel 1 T) else (fX0_keeps_61 T)
set_option maxHeartbeats 4000000 in
theorem mX0_keeps (l : Launch) (G : bf_G) (ν : bf_V) (b : Nat) (T : bf_WS) (hz : bf_wok G ν b T) {T' : bf_WS} (hf : fX0_keeps T = some T') : bf_MV l G yX0_keeps cX0_keeps 3 (bf_rm 2) [.ref b] (bf_pB G ν b T) (fun σ' => σ' = bf_pB G ν b T' ∧ bf_wok G ν b T') := by
  refine bf_MV.of rfl (Nat.le_of_ble_eq_true rfl) ?_
  intro p e s m below meth c' Q X hlk hnm kret hd ls hl
  have hx := X.1
  have hb := X.2.1
  have hml := X.2.2.1
  have hown := X.2.2.2.1
  have hts := X.2.2.2.2
  have hl : lv_has ls 3 [(0, .ref b)] := hl
  have J61 : ∀ (T61 : bf_WS) (H : Heap) (locs : List Loc) (ls : Array Slot), fX0_keeps_61 T61 = some T' → bf_wok G ν b T61 → bf_Dy G s H locs (bf_pB G ν b T61) → lv_has ls 3 [(0, .ref b)] → W p l e (bf_rm 2) s m ([.ref b] : List Value).toArray below meth c' H locs 0 0 Q (F0 m 61 ls []) := by
    intro T61 H locs ls hf hz hd hl
    unfold fX0_keeps_61 at hf
    refine lv_aload_n hx hb dX0_keeps_61 rfl (lv_at hl 0 rfl) ?_
    refine bf_yG (v := .ref (b + 602)) X hd 7 (by decide) (Or.inl q434) rfl dX0_keeps_62 ?_
    refine lv_aload_n hx hb dX0_keeps_65 rfl (lv_at hl 0 rfl) ?_
    refine bf_yG X hd 8 (by decide) (Or.inl q435) rfl dX0_keeps_66 ?_
    obtain ⟨g_19, hf⟩ := bf_c_some hf
    refine bf_aald (v := .ref (bf_ca b (T61.2.1 (T61.1 0 8).toNatClampNeg))) X hd (bf_pB_2 G ν b T61) 7 rfl rfl g_19 rfl dX0_keeps_69 ?_
    obtain ⟨n_21, en_21, hf⟩ := bf_l_e hf
    refine bf_ift (q := some (bf_ca b (T61.2.1 (T61.1 0 8).toNatClampNeg))) (q' := some (bf_ca b n_21)) (by rw [en_21]) ?_
    obtain ⟨g_20, hf⟩ := bf_c_some hf
    refine lv_aload_n hx hb dX0_keeps_70 rfl (lv_at hl 0 rfl) ?_
    refine bf_yG (v := .ref (bf_ca b 0)) X hd 4 (by decide) (Or.inl q430) rfl dX0_keeps_71 ?_
    obtain ⟨S_22, eS_22, hf⟩ := bf_b_some hf
    refine bf_cVv (n := 1) (As := [.ref (bf_ca b 0)]) (rest := []) X (bf_toC (i := n_21) hd ((of_decide_eq_true g_20)).2) (mX1_moves l G (bf_pB G ν b T61) (bf_ca b n_21) (bf_qs T61 n_21) (bf_S T61 n_21) (bf_ca b 0) (bf_qs T61 0) (bf_S T61 0) (bf_pB_hC G ν b T61 (by decide)) (bf_ca_dis ((of_decide_eq_true g_20)).2 (by decide) (fun q => by have h1 := (of_decide_eq_true g_20); omega)) eS_22) (lw_V q978 q979 q980 q149 q981) (by decide +kernel) ⟨Nat.le_of_ble_eq_true rfl, Nat.le_of_ble_eq_true rfl⟩ (bf_recv hd (bf_c0 (bf_pB_hC G ν b T61 (i := n_21) ((of_decide_eq_true g_20)).2)) (q := (RX1, TX1, 31)) rfl) rfl hl.1 rfl (Nat.le_of_ble_eq_true rfl) dX0_keeps_74 ⟨Nat.le_of_ble_eq_true rfl, Nat.le_of_ble_eq_true rfl⟩ (fun σ' H locs hF hd => ?_)
    rw [hF] at hd
    have hd := bf_fromC ((of_decide_eq_true g_20)).2 hd
    obtain ⟨T_23, eT_23, hf⟩ := bf_l_e hf
    have hd := hd.of (congrArg (bf_pB G ν b) eT_23.symm)
    have hz := bf_wok_uS hz eT_23
    refine lv_aload_n hx hb dX0_keeps_77 rfl (lv_at hl 0 rfl) ?_
    refine lv_dup hx hb dX0_keeps_78 rfl ?_
    refine bf_yG X hd 8 (by decide) (Or.inl q435) rfl dX0_keeps_79 ?_
    refine lv_iconst (v := 1) hx hb dX0_keeps_82 (by decide) ?_
    refine lv_iadd hx hb dX0_keeps_83 ?_
    refine bf_yP X hd 8 (by decide) ⟨by decide, rfl, rfl⟩ (Or.inl q435) dX0_keeps_84 (fun H locs hd => ?_)
    obtain ⟨T_24, eT_24, hf⟩ := bf_l_e hf
    have hd := hd.of (congrArg (bf_pB G ν b) eT_24.symm)
    have hz := bf_wok_uB hz eT_24
    exact kret _ _ _ _ _ ⟨congrArg (bf_pB G ν b) (bf_so hf), bf_so hf ▸ hz⟩ hd dX0_keeps_87
  have J44 : ∀ (w44_1 : Nat) (hw44_1 : 3 ≤ w44_1 ∧ w44_1 < 9) (T44 : bf_WS) (H : Heap) (locs : List Loc) (ls : Array Slot), fX0_keeps_44 w44_1 T44 = some T' → bf_wok G ν b T44 → bf_Dy G s H locs (bf_pB G ν b T44) → lv_has ls 3 [(0, .ref b), (1, .ref (bf_ca b w44_1))] → W p l e (bf_rm 2) s m ([.ref b] : List Value).toArray below meth c' H locs 0 0 Q (F0 m 44 ls []) := by
    intro w44_1 hw44_1 T44 H locs ls hf hz hd hl
    unfold fX0_keeps_44 at hf
    refine lv_aload_n hx hb dX0_keeps_44 rfl (lv_at hl 0 rfl) ?_
    refine bf_yG (v := .ref (b + 602)) X hd 7 (by decide) (Or.inl q434) rfl dX0_keeps_45 ?_
    refine lv_iconst (v := 5) hx hb dX0_keeps_48 (by decide) ?_
    refine lv_aload_n hx hb dX0_keeps_49 rfl (lv_at hl 1 rfl) ?_
    refine bf_yK X hd (hw44_1).2 (by decide) dX0_keeps_50 (fun H locs hd => ?_)
    obtain ⟨T_25, eT_25, hf⟩ := bf_l_e hf
    have hd := hd.of (congrArg (bf_pB G ν b) eT_25.symm)
    have hz := bf_wok_uK hz eT_25
    refine lv_aload_n hx hb dX0_keeps_51 rfl (lv_at hl 0 rfl) ?_
    refine lv_dup hx hb dX0_keeps_52 rfl ?_
    refine bf_yG X hd 8 (by decide) (Or.inl q435) rfl dX0_keeps_53 ?_
    refine lv_iconst (v := 1) hx hb dX0_keeps_56 (by decide) ?_
    refine lv_isub hx hb dX0_keeps_57 ?_
    refine bf_yP X hd 8 (by decide) ⟨by decide, rfl, rfl⟩ (Or.inl q435) dX0_keeps_58 (fun H locs hd => ?_)
    obtain ⟨T_26, eT_26, hf⟩ := bf_l_e hf
    have hd := hd.of (congrArg (bf_pB G ν b) eT_26.symm)
    have hz := bf_wok_uB hz eT_26
    exact J61 T_26 _ _ _ hf hz hd (lv_sub hl [0] rfl)
  have L18 : ∀ (u18_1 : Nat) (hu18_1 : 3 ≤ u18_1 ∧ u18_1 < 9) (n18 : Nat) (v18_2 : Int32) (T18 : bf_WS) (H : Heap) (locs : List Loc) (ls : Array Slot), fX0_keeps_18 u18_1 n18 v18_2 T18 = some T' → bf_wok G ν b T18 → bf_Dy G s H locs (bf_pB G ν b T18) → lv_has ls 3 [(0, .ref b), (1, .ref (bf_ca b u18_1)), (2, .int v18_2)] → W p l e (bf_rm 2) s m ([.ref b] : List Value).toArray below meth c' H locs 0 0 Q (F0 m 18 ls []) := by
    intro u18_1 hu18_1 n18
    induction n18 with
    | zero =>
      intro v18_2 T18 H locs ls hf hz hd hl
      exact absurd (show (none : Option (bf_WS)) = some T' from hf) (by intro h; cases h)
    | succ n18 ih18 =>
      intro v18_2 T18 H locs ls hf hz hd hl
      have hf : fX0_keeps_18b u18_1 (fX0_keeps_18 u18_1 n18) v18_2 T18 = some T' := hf
      unfold fX0_keeps_18b at hf
      refine lv_iload_n hx hb dX0_keeps_18 rfl (lv_at hl 2 rfl) ?_
      refine lv_bipush (v := 6) hx hb dX0_keeps_19 (by decide) ?_
      refine lv_icmp_ge (tgt := 44) hx hb dX0_keeps_21 (by decide) (fun c_27 => ?_) (fun c_27 => ?_)
      · have hf := bf_it hf c_27
        exact J44 u18_1 hu18_1 T18 _ _ _ hf hz hd (lv_sub hl [0, 1] rfl)
      · have hf := bf_ie hf c_27
        refine lv_aload_n hx hb dX0_keeps_24 rfl (lv_at hl 0 rfl) ?_
        refine bf_yG (v := .ref (b + 602)) X hd 7 (by decide) (Or.inl q434) rfl dX0_keeps_25 ?_
        refine lv_iload_n hx hb dX0_keeps_28 rfl (lv_at hl 2 rfl) ?_
        refine lv_iconst (v := 1) hx hb dX0_keeps_29 (by decide) ?_
        refine lv_isub hx hb dX0_keeps_30 ?_
        refine lv_aload_n hx hb dX0_keeps_31 rfl (lv_at hl 0 rfl) ?_
        refine bf_yG (v := .ref (b + 602)) X hd 7 (by decide) (Or.inl q434) rfl dX0_keeps_32 ?_
        refine lv_iload_n hx hb dX0_keeps_35 rfl (lv_at hl 2 rfl) ?_
        obtain ⟨g_28, hf⟩ := bf_c_some hf
        refine bf_aald (v := .ref (bf_ca b (T18.2.1 v18_2.toNatClampNeg))) X hd (bf_pB_2 G ν b T18) 7 rfl rfl g_28 rfl dX0_keeps_36 ?_
        obtain ⟨n_30, en_30, hf⟩ := bf_l_e hf
        refine bf_ift (q := some (bf_ca b (T18.2.1 v18_2.toNatClampNeg))) (q' := some (bf_ca b n_30)) (by rw [en_30]) ?_
        obtain ⟨g_29, hf⟩ := bf_c_some hf
        obtain ⟨g_31, hf⟩ := bf_c_some hf
        refine bf_yK X hd ((of_decide_eq_true g_29)).2 g_31 dX0_keeps_37 (fun H locs hd => ?_)
        obtain ⟨T_32, eT_32, hf⟩ := bf_l_e hf
        have hd := hd.of (congrArg (bf_pB G ν b) eT_32.symm)
        have hz := bf_wok_uK hz eT_32
        obtain ⟨x2_33, ex2_33, hf⟩ := bf_l_e hf
        refine lv_iinc (v := x2_33) (lv' := [(2, .int x2_33), (0, .ref b), (1, .ref (bf_ca b u18_1))]) hx hb dX0_keeps_38 hl (k := 2) rfl (by rw [ex2_33]; rfl) (by decide) rfl (fun ls hl => ?_)
        refine lv_goto (tgt := 18) hx hb dX0_keeps_41 (by decide) ?_
        exact ih18 x2_33 T_32 _ _ _ hf hz hd (lv_sub hl [1, 2, 0] rfl)
  unfold fX0_keeps at hf
  refine lv_aload_n hx hb dX0_keeps_0 rfl (lv_at hl 0 rfl) ?_
  refine bf_yG X hd 8 (by decide) (Or.inl q435) rfl dX0_keeps_1 ?_
  refine lv_bipush (v := 6) hx hb dX0_keeps_4 (by decide) ?_
  refine lv_icmp_ne (tgt := 61) hx hb dX0_keeps_6 (by decide) (fun c_34 => ?_) (fun c_34 => ?_)
  · have hf := bf_ie hf c_34
    exact J61 T _ _ _ hf hz hd (lv_sub hl [0] rfl)
  · have hf := bf_it hf c_34
    refine lv_aload_n hx hb dX0_keeps_9 rfl (lv_at hl 0 rfl) ?_
    refine bf_yG (v := .ref (b + 602)) X hd 7 (by decide) (Or.inl q434) rfl dX0_keeps_10 ?_
    refine lv_iconst (v := 0) hx hb dX0_keeps_13 (by decide) ?_
    refine bf_aald (v := .ref (bf_ca b (T.2.1 0))) X hd (bf_pB_2 G ν b T) 7 rfl rfl (by decide) rfl dX0_keeps_14 ?_
    obtain ⟨n_36, en_36, hf⟩ := bf_l_e hf
    refine bf_ift (q := some (bf_ca b (T.2.1 0))) (q' := some (bf_ca b n_36)) (by rw [en_36]) ?_
    obtain ⟨g_35, hf⟩ := bf_c_some hf
    refine lv_astore_n (lv' := [(1, .ref (bf_ca b n_36)), (0, .ref b)]) hx hb dX0_keeps_15 rfl hl (by decide) rfl (fun ls hl => ?_)
    refine lv_iconst (v := 1) hx hb dX0_keeps_16 (by decide) ?_
    refine lv_istore_n (lv' := [(2, .int 1), (1, .ref (bf_ca b n_36)), (0, .ref b)]) hx hb dX0_keeps_17 rfl hl (by decide) rfl (fun ls hl => ?_)
    exact L18 n_36 (of_decide_eq_true g_35) bf_fuel 1 T _ _ _ hf hz hd (lv_sub hl [2, 1, 0] rfl)
def fX0_undo (T : bf_WS) : Option (Int32 × bf_WS) := if (T.1 0 8) = 0 then (some (0, T)) else (bf_l (bf_uB T 0 8 ((T.1 0 8) - 1)) fun T_2 => bf_c (bf_in (T_2.1 0 8) 6) <| bf_l (T_2.2.1 (T_2.1 0 8).toNatClampNeg) fun n_5 => bf_c (decide (3 ≤ n_5 ∧ n_5 < 9)) <| bf_b (fX1_moves (bf_S T_2 n_5) (bf_S T_2 0)) fun S_6 => bf_l (bf_uS T_2 0 S_6) fun T_7 => some (1, T_7))
set_option maxHeartbeats 4000000 in
theorem mX0_undo (l : Launch) (G : bf_G) (ν : bf_V) (b : Nat) (T : bf_WS) (hz : bf_wok G ν b T) {r : Int32} {T' : bf_WS} (hf : fX0_undo T = some (r, T')) : bf_MZ l G yX0_undo cX0_undo 1 (bf_rm 2) [.ref b] (bf_pB G ν b T) (fun v σ' => v = r ∧ σ' = bf_pB G ν b T' ∧ bf_wok G ν b T') := by
  refine bf_MZ.of rfl (Nat.le_of_ble_eq_true rfl) ?_
  intro p e s m below meth c' Q X hlk hnm kret hd ls hl
  have hx := X.1
  have hb := X.2.1
  have hml := X.2.2.1
  have hown := X.2.2.2.1
  have hts := X.2.2.2.2
  have hl : lv_has ls 1 [(0, .ref b)] := hl
  unfold fX0_undo at hf
  refine lv_aload_n hx hb dX0_undo_0 rfl (lv_at hl 0 rfl) ?_
  refine bf_yG X hd 8 (by decide) (Or.inl q435) rfl dX0_undo_1 ?_
  refine lv_if_ne (tgt := 9) hx hb dX0_undo_4 (by decide) (fun c_8 => ?_) (fun c_8 => ?_)
  · have hf := bf_ie hf c_8
    refine lv_aload_n hx hb dX0_undo_9 rfl (lv_at hl 0 rfl) ?_
    refine lv_dup hx hb dX0_undo_10 rfl ?_
    refine bf_yG X hd 8 (by decide) (Or.inl q435) rfl dX0_undo_11 ?_
    refine lv_iconst (v := 1) hx hb dX0_undo_14 (by decide) ?_
    refine lv_isub hx hb dX0_undo_15 ?_
    refine bf_yP X hd 8 (by decide) ⟨by decide, rfl, rfl⟩ (Or.inl q435) dX0_undo_16 (fun H locs hd => ?_)
    obtain ⟨T_9, eT_9, hf⟩ := bf_l_e hf
    have hd := hd.of (congrArg (bf_pB G ν b) eT_9.symm)
    have hz := bf_wok_uB hz eT_9
    refine lv_aload_n hx hb dX0_undo_19 rfl (lv_at hl 0 rfl) ?_
    refine bf_yG (v := .ref (bf_ca b 0)) X hd 4 (by decide) (Or.inl q430) rfl dX0_undo_20 ?_
    refine lv_aload_n hx hb dX0_undo_23 rfl (lv_at hl 0 rfl) ?_
    refine bf_yG (v := .ref (b + 602)) X hd 7 (by decide) (Or.inl q434) rfl dX0_undo_24 ?_
    refine lv_aload_n hx hb dX0_undo_27 rfl (lv_at hl 0 rfl) ?_
    refine bf_yG X hd 8 (by decide) (Or.inl q435) rfl dX0_undo_28 ?_
    obtain ⟨g_10, hf⟩ := bf_c_some hf
    refine bf_aald (v := .ref (bf_ca b (T_9.2.1 (T_9.1 0 8).toNatClampNeg))) X hd (bf_pB_2 G ν b T_9) 7 rfl rfl g_10 rfl dX0_undo_31 ?_
    obtain ⟨n_12, en_12, hf⟩ := bf_l_e hf
    refine bf_ift (q := some (bf_ca b (T_9.2.1 (T_9.1 0 8).toNatClampNeg))) (q' := some (bf_ca b n_12)) (by rw [en_12]) ?_
    obtain ⟨g_11, hf⟩ := bf_c_some hf
    obtain ⟨S_13, eS_13, hf⟩ := bf_b_some hf
    refine bf_cVv (n := 1) (As := [.ref (bf_ca b n_12)]) (rest := []) X (bf_toC (i := 0) hd (by decide)) (mX1_moves l G (bf_pB G ν b T_9) (bf_ca b 0) (bf_qs T_9 0) (bf_S T_9 0) (bf_ca b n_12) (bf_qs T_9 n_12) (bf_S T_9 n_12) (bf_pB_hC G ν b T_9 ((of_decide_eq_true g_11)).2) (bf_ca_dis (by decide) ((of_decide_eq_true g_11)).2 (fun q => by have h1 := (of_decide_eq_true g_11); omega)) eS_13) (lw_V q978 q979 q980 q149 q981) (by decide +kernel) ⟨Nat.le_of_ble_eq_true rfl, Nat.le_of_ble_eq_true rfl⟩ (bf_recv hd (bf_c0 (bf_pB_hC G ν b T_9 (i := 0) (by decide))) (q := (RX1, TX1, 31)) rfl) rfl hl.1 rfl (Nat.le_of_ble_eq_true rfl) dX0_undo_32 ⟨Nat.le_of_ble_eq_true rfl, Nat.le_of_ble_eq_true rfl⟩ (fun σ' H locs hF hd => ?_)
    rw [hF] at hd
    have hd := bf_fromC (by decide) hd
    obtain ⟨T_14, eT_14, hf⟩ := bf_l_e hf
    have hd := hd.of (congrArg (bf_pB G ν b) eT_14.symm)
    have hz := bf_wok_uS hz eT_14
    refine lv_iconst (v := 1) hx hb dX0_undo_35 (by decide) ?_
    exact kret _ _ _ _ _ _ ⟨(bf_pr hf).1, congrArg (bf_pB G ν b) (bf_pr hf).2, (bf_pr hf).2 ▸ hz⟩ (Or.inr rfl) hd dX0_undo_36
  · have hf := bf_it hf c_8
    refine lv_iconst (v := 0) hx hb dX0_undo_7 (by decide) ?_
    exact kret _ _ _ _ _ _ ⟨(bf_pr hf).1, congrArg (bf_pB G ν b) (bf_pr hf).2, (bf_pr hf).2 ▸ hz⟩ (Or.inl rfl) hd dX0_undo_8
def fX0_isParty (T : bf_WS) (x1 : Int32) : Int32 := (fX0_isIn x1 0 (((bf_S T 0).1 0 10 0) - 1))
set_option maxHeartbeats 4000000 in
theorem mX0_isParty (l : Launch) (G : bf_G) (ν : bf_V) (b : Nat) (T : bf_WS) (hz : bf_wok G ν b T) (x1 : Int32) {r : Int32} (hf : fX0_isParty T x1 = r) : bf_MZ l G yX0_isParty cX0_isParty 2 (bf_rm 2) [.ref b, .int x1] (bf_pB G ν b T) (fun v σ' => v = r ∧ σ' = bf_pB G ν b T ∧ bf_wok G ν b T) := by
  refine bf_MZ.of rfl (Nat.le_of_ble_eq_true rfl) ?_
  intro p e s m below meth c' Q X hlk hnm kret hd ls hl
  have hx := X.1
  have hb := X.2.1
  have hml := X.2.2.1
  have hown := X.2.2.2.1
  have hts := X.2.2.2.2
  have hl : lv_has ls 2 [(0, .ref b), (1, .int x1)] := hl
  unfold fX0_isParty at hf
  refine lv_iload_n hx hb dX0_isParty_0 rfl (lv_at hl 1 rfl) ?_
  refine lv_iconst (v := 0) hx hb dX0_isParty_1 (by decide) ?_
  refine lv_aload_n hx hb dX0_isParty_2 rfl (lv_at hl 0 rfl) ?_
  refine bf_yG (v := .ref (bf_ca b 0)) X hd 4 (by decide) (Or.inl q430) rfl dX0_isParty_3 ?_
  refine bf_rC X hd (bf_pB_hC G ν b T (i := 0) (by decide)) 10 (by decide) (Or.inr ⟨_, q321⟩) rfl dX0_isParty_6 ?_
  refine lv_iconst (v := 1) hx hb dX0_isParty_9 (by decide) ?_
  refine lv_isub hx hb dX0_isParty_10 ?_
  refine bf_cSz (n := 3) (As := [.int x1, .int 0, .int (((bf_S T 0).1 0 10 0) - 1)]) (rest := []) X hd (mX0_isIn l G _ x1 0 (((bf_S T 0).1 0 10 0) - 1) rfl) (lw_S q473 q474 q148 q475) (by decide +kernel) ⟨Nat.le_of_ble_eq_true rfl, Nat.le_of_ble_eq_true rfl⟩ rfl hl.1 rfl (Nat.le_of_ble_eq_true rfl) dX0_isParty_11 ⟨Nat.le_of_ble_eq_true rfl, Nat.le_of_ble_eq_true rfl⟩ (fun r σ' H locs hF z_2 hd => ?_)
  rw [hF.2] at hd
  refine bf_top hF.1.symm ?_
  rw [hF.1] at z_2
  exact kret _ _ _ _ _ _ ⟨hf, rfl, hz⟩ z_2 hd dX0_isParty_14
def fX0_isEater (T : bf_WS) (x1 : Int32) : Int32 := (fX0_isIn x1 0 (((bf_S T 0).1 0 12 0) - 1))
set_option maxHeartbeats 4000000 in
theorem mX0_isEater (l : Launch) (G : bf_G) (ν : bf_V) (b : Nat) (T : bf_WS) (hz : bf_wok G ν b T) (x1 : Int32) {r : Int32} (hf : fX0_isEater T x1 = r) : bf_MZ l G yX0_isEater cX0_isEater 2 (bf_rm 2) [.ref b, .int x1] (bf_pB G ν b T) (fun v σ' => v = r ∧ σ' = bf_pB G ν b T ∧ bf_wok G ν b T) := by
  refine bf_MZ.of rfl (Nat.le_of_ble_eq_true rfl) ?_
  intro p e s m below meth c' Q X hlk hnm kret hd ls hl
  have hx := X.1
  have hb := X.2.1
  have hml := X.2.2.1
  have hown := X.2.2.2.1
  have hts := X.2.2.2.2
  have hl : lv_has ls 2 [(0, .ref b), (1, .int x1)] := hl
  unfold fX0_isEater at hf
  refine lv_iload_n hx hb dX0_isEater_0 rfl (lv_at hl 1 rfl) ?_
  refine lv_iconst (v := 0) hx hb dX0_isEater_1 (by decide) ?_
  refine lv_aload_n hx hb dX0_isEater_2 rfl (lv_at hl 0 rfl) ?_
  refine bf_yG (v := .ref (bf_ca b 0)) X hd 4 (by decide) (Or.inl q430) rfl dX0_isEater_3 ?_
  refine bf_rC X hd (bf_pB_hC G ν b T (i := 0) (by decide)) 12 (by decide) (Or.inr ⟨_, q327⟩) rfl dX0_isEater_6 ?_
  refine lv_iconst (v := 1) hx hb dX0_isEater_9 (by decide) ?_
  refine lv_isub hx hb dX0_isEater_10 ?_
  refine bf_cSz (n := 3) (As := [.int x1, .int 0, .int (((bf_S T 0).1 0 12 0) - 1)]) (rest := []) X hd (mX0_isIn l G _ x1 0 (((bf_S T 0).1 0 12 0) - 1) rfl) (lw_S q473 q474 q148 q475) (by decide +kernel) ⟨Nat.le_of_ble_eq_true rfl, Nat.le_of_ble_eq_true rfl⟩ rfl hl.1 rfl (Nat.le_of_ble_eq_true rfl) dX0_isEater_11 ⟨Nat.le_of_ble_eq_true rfl, Nat.le_of_ble_eq_true rfl⟩ (fun r σ' H locs hF z_2 hd => ?_)
  rw [hF.2] at hd
  refine bf_top hF.1.symm ?_
  rw [hF.1] at z_2
  exact kret _ _ _ _ _ _ ⟨hf, rfl, hz⟩ z_2 hd dX0_isEater_14
def fX0_state (T : bf_WS) (x1 : Int32) : Option (Int32 × bf_WS) := bf_l (((bf_S T 0).1 0 19 0)) fun x2_1 => bf_l (bf_uS T 0 (bf_u3 (bf_S T 0) 0 19 0 x1)) fun T_2 => bf_b2 (fX0_forgets T_2) fun r_4 T_3 => some (x2_1, T_3)
set_option maxHeartbeats 4000000 in
theorem mX0_state (l : Launch) (G : bf_G) (ν : bf_V) (b : Nat) (T : bf_WS) (hz : bf_wok G ν b T) (x1 : Int32) {r : Int32} {T' : bf_WS} (hf : fX0_state T x1 = some (r, T')) : bf_MI l G yX0_state cX0_state 3 (bf_rm 1) [.ref b, .int x1] (bf_pB G ν b T) (fun v σ' => v = r ∧ σ' = bf_pB G ν b T' ∧ bf_wok G ν b T') := by
  refine bf_MI.of rfl (Nat.le_of_ble_eq_true rfl) ?_
  intro p e s m below meth c' Q X hlk hnm kret hd ls hl
  have hx := X.1
  have hb := X.2.1
  have hml := X.2.2.1
  have hown := X.2.2.2.1
  have hts := X.2.2.2.2
  have hl : lv_has ls 3 [(0, .ref b), (1, .int x1)] := hl
  unfold fX0_state at hf
  refine lv_aload_n hx hb dX0_state_0 rfl (lv_at hl 0 rfl) ?_
  refine bf_yG (v := .ref (bf_ca b 0)) X hd 4 (by decide) (Or.inl q430) rfl dX0_state_1 ?_
  refine bf_rC X hd (bf_pB_hC G ν b T (i := 0) (by decide)) 19 (by decide) (Or.inr ⟨_, q342⟩) rfl dX0_state_4 ?_
  obtain ⟨x2_6, ex2_6, hf⟩ := bf_l_e hf
  refine bf_top ex2_6 ?_
  refine lv_istore_n (lv' := [(2, .int x2_6), (0, .ref b), (1, .int x1)]) hx hb dX0_state_7 rfl hl (by decide) rfl (fun ls hl => ?_)
  refine lv_aload_n hx hb dX0_state_8 rfl (lv_at hl 1 rfl) ?_
  refine bf_yG (v := .ref (bf_ca b 0)) X hd 4 (by decide) (Or.inl q430) rfl dX0_state_9 ?_
  refine lv_iload_n hx hb dX0_state_12 rfl (lv_at hl 2 rfl) ?_
  refine bf_xC X (bf_toC (i := 0) hd (by decide)) 19 (by decide) ⟨by decide, rfl, rfl⟩ (Or.inr ⟨_, q342⟩) dX0_state_13 (fun H locs hd => ?_)
  have hd := bf_fromC (by decide) hd
  obtain ⟨T_7, eT_7, hf⟩ := bf_l_e hf
  have hd := hd.of (congrArg (bf_pB G ν b) eT_7.symm)
  have hz := bf_wok_uS hz eT_7
  refine lv_aload_n hx hb dX0_state_16 rfl (lv_at hl 1 rfl) ?_
  obtain ⟨r_9, T_8, er_9, hf⟩ := bf_b2_some hf
  refine bf_bcz (n := 0) (As := []) (rest := []) X hd (mX0_forgets l G ν b T_7 hz  er_9) (lw_V q902 q904 qs26 q148 q905) (by decide +kernel) ⟨Nat.le_of_ble_eq_true rfl, Nat.le_of_ble_eq_true rfl⟩ rfl hl.1 rfl (Nat.le_of_ble_eq_true rfl) dX0_state_17 ⟨Nat.le_of_ble_eq_true rfl, Nat.le_of_ble_eq_true rfl⟩ (fun H locs hz z_10 hd => ?_)
  refine lv_pop hx hb dX0_state_20 rfl ?_
  refine lv_iload_n hx hb dX0_state_21 rfl (lv_at hl 0 rfl) ?_
  exact kret _ _ _ _ _ _ ⟨(bf_pr hf).1, congrArg (bf_pB G ν b) (bf_pr hf).2, (bf_pr hf).2 ▸ hz⟩ hd dX0_state_22
def fX0_party_90 (T90 : bf_WS) : Option (Int32 × bf_WS) := bf_l (bf_uS T90 0 (bf_u3 (bf_S T90 0) 0 10 0 (((bf_S T90 0).1 0 10 0) + 1))) fun T_6 => bf_b2 (fX0_forgets T_6) fun r_8 T_7 => some ((((bf_S T_7 0).1 0 10 0) - 1), T_7)
def fX0_party_57b (k57 : Int32 → bf_WS → Option (Int32 × bf_WS)) (v57_3 : Int32) (T57 : bf_WS) : Option (Int32 × bf_WS) := if 10 ≤ v57_3 then (fX0_party_90 T57) else (bf_c (bf_in v57_3 10) <| bf_c (bf_in ((bf_S T57 0).1 0 10 0) 5) <| bf_l (bf_uS T57 0 (bf_u3 (bf_S T57 0) 4 v57_3.toNatClampNeg ((bf_S T57 0).1 0 10 0).toNatClampNeg 5)) fun T_4 => bf_l (v57_3 + 1) fun x3_5 => k57 x3_5 T_4)
def fX0_party_57  : Nat → Int32 → bf_WS → Option (Int32 × bf_WS)
  | 0, _, _ => none
  | n + 1, v57_3, T57 => fX0_party_57b (fX0_party_57 n) v57_3 T57
def fX0_party (T : bf_WS) (x1 : Int32) : Option (Int32 × bf_WS) := if (fX0_isIn x1 0 999) = 0 then (some ((-1), T)) else (if ((bf_S T 0).1 0 10 0) = 5 then (some ((-1), T)) else (bf_c (bf_in ((bf_S T 0).1 0 10 0) 5) <| bf_l (bf_uS T 0 (bf_u3 (bf_S T 0) 1 (((bf_S T 0).1 0 10 0).toNatClampNeg) 0 x1)) fun T_14 => bf_l (bf_uS T_14 0 (bf_u3 (bf_S T_14 0) 1 (((bf_S T 0).1 0 10 0).toNatClampNeg) 1 0)) fun T_15 => bf_l (bf_uS T_15 0 (bf_u3 (bf_S T_15 0) 1 (((bf_S T 0).1 0 10 0).toNatClampNeg) 2 0)) fun T_16 => fX0_party_57 bf_fuel 0 T_16))
set_option maxHeartbeats 4000000 in
theorem mX0_party (l : Launch) (G : bf_G) (ν : bf_V) (b : Nat) (T : bf_WS) (hz : bf_wok G ν b T) (x1 : Int32) {r : Int32} {T' : bf_WS} (hf : fX0_party T x1 = some (r, T')) : bf_MI l G yX0_party cX0_party 4 (bf_rm 2) [.ref b, .int x1] (bf_pB G ν b T) (fun v σ' => v = r ∧ σ' = bf_pB G ν b T' ∧ bf_wok G ν b T') := by
  refine bf_MI.of rfl (Nat.le_of_ble_eq_true rfl) ?_
  intro p e s m below meth c' Q X hlk hnm kret hd ls hl
  have hx := X.1
  have hb := X.2.1
  have hml := X.2.2.1
  have hown := X.2.2.2.1
  have hts := X.2.2.2.2
  have hl : lv_has ls 4 [(0, .ref b), (1, .int x1)] := hl
  have J90 : ∀ (T90 : bf_WS) (H : Heap) (locs : List Loc) (ls : Array Slot), fX0_party_90 T90 = some (r, T') → bf_wok G ν b T90 → bf_Dy G s H locs (bf_pB G ν b T90) → lv_has ls 4 [(0, .ref b)] → W p l e (bf_rm 2) s m ([.ref b, .int x1] : List Value).toArray below meth c' H locs 0 0 Q (F0 m 90 ls []) := by
    intro T90 H locs ls hf hz hd hl
    unfold fX0_party_90 at hf
    refine lv_aload_n hx hb dX0_party_90 rfl (lv_at hl 0 rfl) ?_
    refine bf_yG (v := .ref (bf_ca b 0)) X hd 4 (by decide) (Or.inl q430) rfl dX0_party_91 ?_
    refine lv_dup hx hb dX0_party_94 rfl ?_
    refine bf_rC X hd (bf_pB_hC G ν b T90 (i := 0) (by decide)) 10 (by decide) (Or.inr ⟨_, q321⟩) rfl dX0_party_95 ?_
    refine lv_iconst (v := 1) hx hb dX0_party_98 (by decide) ?_
    refine lv_iadd hx hb dX0_party_99 ?_
    refine bf_xC X (bf_toC (i := 0) hd (by decide)) 10 (by decide) ⟨by decide, rfl, rfl⟩ (Or.inr ⟨_, q321⟩) dX0_party_100 (fun H locs hd => ?_)
    have hd := bf_fromC (by decide) hd
    obtain ⟨T_17, eT_17, hf⟩ := bf_l_e hf
    have hd := hd.of (congrArg (bf_pB G ν b) eT_17.symm)
    have hz := bf_wok_uS hz eT_17
    refine lv_aload_n hx hb dX0_party_103 rfl (lv_at hl 0 rfl) ?_
    obtain ⟨r_19, T_18, er_19, hf⟩ := bf_b2_some hf
    refine bf_bcz (n := 0) (As := []) (rest := []) X hd (mX0_forgets l G ν b T_17 hz  er_19) (lw_V q902 q904 qs26 q148 q905) (by decide +kernel) ⟨Nat.le_of_ble_eq_true rfl, Nat.le_of_ble_eq_true rfl⟩ rfl hl.1 rfl (Nat.le_of_ble_eq_true rfl) dX0_party_104 ⟨Nat.le_of_ble_eq_true rfl, Nat.le_of_ble_eq_true rfl⟩ (fun H locs hz z_20 hd => ?_)
    refine lv_pop hx hb dX0_party_107 rfl ?_
    refine lv_aload_n hx hb dX0_party_108 rfl (lv_at hl 0 rfl) ?_
    refine bf_yG (v := .ref (bf_ca b 0)) X hd 4 (by decide) (Or.inl q430) rfl dX0_party_109 ?_
    refine bf_rC X hd (bf_pB_hC G ν b T_18 (i := 0) (by decide)) 10 (by decide) (Or.inr ⟨_, q321⟩) rfl dX0_party_112 ?_
    refine lv_iconst (v := 1) hx hb dX0_party_115 (by decide) ?_
    refine lv_isub hx hb dX0_party_116 ?_
    exact kret _ _ _ _ _ _ ⟨(bf_pr hf).1, congrArg (bf_pB G ν b) (bf_pr hf).2, (bf_pr hf).2 ▸ hz⟩ hd dX0_party_117
  have L57 : ∀ (n57 : Nat) (v57_3 : Int32) (T57 : bf_WS) (H : Heap) (locs : List Loc) (ls : Array Slot), fX0_party_57 n57 v57_3 T57 = some (r, T') → bf_wok G ν b T57 → bf_Dy G s H locs (bf_pB G ν b T57) → lv_has ls 4 [(0, .ref b), (3, .int v57_3)] → W p l e (bf_rm 2) s m ([.ref b, .int x1] : List Value).toArray below meth c' H locs 0 0 Q (F0 m 57 ls []) := by
    intro n57
    induction n57 with
    | zero =>
      intro v57_3 T57 H locs ls hf hz hd hl
      exact absurd (show (none : Option (Int32 × bf_WS)) = some (r, T') from hf) (by intro h; cases h)
    | succ n57 ih57 =>
      intro v57_3 T57 H locs ls hf hz hd hl
      have hf : fX0_party_57b (fX0_party_57 n57) v57_3 T57 = some (r, T') := hf
      unfold fX0_party_57b at hf
      refine lv_iload_n hx hb dX0_party_57 rfl (lv_at hl 1 rfl) ?_
      refine lv_bipush (v := 10) hx hb dX0_party_58 (by decide) ?_
      refine lv_icmp_ge (tgt := 90) hx hb dX0_party_60 (by decide) (fun c_21 => ?_) (fun c_21 => ?_)
      · have hf := bf_it hf c_21
        exact J90 T57 _ _ _ hf hz hd (lv_sub hl [0] rfl)
      · have hf := bf_ie hf c_21
        refine lv_aload_n hx hb dX0_party_63 rfl (lv_at hl 0 rfl) ?_
        refine bf_yG (v := .ref (bf_ca b 0)) X hd 4 (by decide) (Or.inl q430) rfl dX0_party_64 ?_
        refine bf_rC (v := .ref (bf_ca b 0 + 3)) X hd (bf_pB_hC G ν b T57 (i := 0) (by decide)) 2 (by decide) (Or.inr ⟨_, q305⟩) rfl dX0_party_67 ?_
        refine lv_iload_n hx hb dX0_party_70 rfl (lv_at hl 1 rfl) ?_
        obtain ⟨g_22, hf⟩ := bf_c_some hf
        refine bf_aald (v := .ref (bf_ca b 0 + 180 + 2 * v57_3.toNatClampNeg)) X hd (bf_c3 (bf_pB_hC G ν b T57 (i := 0) (by decide))) 4 rfl rfl g_22 rfl dX0_party_71 ?_
        refine bf_rE X hd (bf_pB_hC G ν b T57 (i := 0) (by decide)) (bf_in_lt g_22) (Or.inr ⟨_, q289⟩) dX0_party_72 ?_
        refine lv_aload_n hx hb dX0_party_75 rfl (lv_at hl 0 rfl) ?_
        refine bf_yG (v := .ref (bf_ca b 0)) X hd 4 (by decide) (Or.inl q430) rfl dX0_party_76 ?_
        refine bf_rC X hd (bf_pB_hC G ν b T57 (i := 0) (by decide)) 10 (by decide) (Or.inr ⟨_, q321⟩) rfl dX0_party_79 ?_
        refine lv_iconst (v := 5) hx hb dX0_party_82 (by decide) ?_
        obtain ⟨g_23, hf⟩ := bf_c_some hf
        refine bf_sE X (bf_toC (i := 0) hd (by decide)) (bf_in_lt g_22) g_23 dX0_party_83 (fun H locs hd => ?_)
        have hd := bf_fromC (by decide) hd
        obtain ⟨T_24, eT_24, hf⟩ := bf_l_e hf
        have hd := hd.of (congrArg (bf_pB G ν b) eT_24.symm)
        have hz := bf_wok_uS hz eT_24
        obtain ⟨x3_25, ex3_25, hf⟩ := bf_l_e hf
        refine lv_iinc (v := x3_25) (lv' := [(3, .int x3_25), (0, .ref b)]) hx hb dX0_party_84 hl (k := 1) rfl (by rw [ex3_25]; rfl) (by decide) rfl (fun ls hl => ?_)
        refine lv_goto (tgt := 57) hx hb dX0_party_87 (by decide) ?_
        exact ih57 x3_25 T_24 _ _ _ hf hz hd (lv_sub hl [1, 0] rfl)
  unfold fX0_party at hf
  refine lv_iload_n hx hb dX0_party_0 rfl (lv_at hl 1 rfl) ?_
  refine lv_iconst (v := 0) hx hb dX0_party_1 (by decide) ?_
  refine lv_sipush (v := 999) hx hb dX0_party_2 (by decide) ?_
  refine bf_cSz (n := 3) (As := [.int x1, .int 0, .int 999]) (rest := []) X hd (mX0_isIn l G _ x1 0 999 rfl) (lw_S q473 q474 q148 q475) (by decide +kernel) ⟨Nat.le_of_ble_eq_true rfl, Nat.le_of_ble_eq_true rfl⟩ rfl hl.1 rfl (Nat.le_of_ble_eq_true rfl) dX0_party_5 ⟨Nat.le_of_ble_eq_true rfl, Nat.le_of_ble_eq_true rfl⟩ (fun r σ' H locs hF z_26 hd => ?_)
  rw [hF.2] at hd
  refine bf_top hF.1.symm ?_
  rw [hF.1] at z_26
  refine lv_if_eq (tgt := 22) hx hb dX0_party_8 (by decide) (fun c_27 => ?_) (fun c_27 => ?_)
  · have hf := bf_it hf c_27
    refine lv_iconst (v := (-1)) hx hb dX0_party_22 (by decide) ?_
    exact kret _ _ _ _ _ _ ⟨(bf_pr hf).1, congrArg (bf_pB G ν b) (bf_pr hf).2, (bf_pr hf).2 ▸ hz⟩ hd dX0_party_23
  · have hf := bf_ie hf c_27
    refine lv_aload_n hx hb dX0_party_11 rfl (lv_at hl 0 rfl) ?_
    refine bf_yG (v := .ref (bf_ca b 0)) X hd 4 (by decide) (Or.inl q430) rfl dX0_party_12 ?_
    refine bf_rC X hd (bf_pB_hC G ν b T (i := 0) (by decide)) 10 (by decide) (Or.inr ⟨_, q321⟩) rfl dX0_party_15 ?_
    refine lv_iconst (v := 5) hx hb dX0_party_18 (by decide) ?_
    refine lv_icmp_ne (tgt := 24) hx hb dX0_party_19 (by decide) (fun c_28 => ?_) (fun c_28 => ?_)
    · have hf := bf_ie hf c_28
      refine lv_aload_n hx hb dX0_party_24 rfl (lv_at hl 0 rfl) ?_
      refine bf_yG (v := .ref (bf_ca b 0)) X hd 4 (by decide) (Or.inl q430) rfl dX0_party_25 ?_
      refine bf_rC (v := .ref (bf_ca b 0 + 1)) X hd (bf_pB_hC G ν b T (i := 0) (by decide)) 0 (by decide) (Or.inr ⟨_, q300⟩) rfl dX0_party_28 ?_
      refine lv_aload_n hx hb dX0_party_31 rfl (lv_at hl 0 rfl) ?_
      refine bf_yG (v := .ref (bf_ca b 0)) X hd 4 (by decide) (Or.inl q430) rfl dX0_party_32 ?_
      refine bf_rC X hd (bf_pB_hC G ν b T (i := 0) (by decide)) 10 (by decide) (Or.inr ⟨_, q321⟩) rfl dX0_party_35 ?_
      obtain ⟨g_29, hf⟩ := bf_c_some hf
      refine bf_aald (v := .ref (bf_ca b 0 + 161 + ((bf_S T 0).1 0 10 0).toNatClampNeg)) X hd (bf_c1 (bf_pB_hC G ν b T (i := 0) (by decide))) 2 rfl rfl g_29 rfl dX0_party_38 ?_
      refine lv_astore_n (lv' := [(2, .ref (bf_ca b 0 + 161 + ((bf_S T 0).1 0 10 0).toNatClampNeg)), (0, .ref b), (1, .int x1)]) hx hb dX0_party_39 rfl hl (by decide) rfl (fun ls hl => ?_)
      refine lv_aload_n hx hb dX0_party_40 rfl (lv_at hl 0 rfl) ?_
      refine lv_iload_n hx hb dX0_party_41 rfl (lv_at hl 2 rfl) ?_
      refine bf_xP X (bf_toC (i := 0) hd (by decide)) (bf_in_lt g_29) 0 (by decide) (Or.inr ⟨_, q241⟩) dX0_party_42 (fun H locs hd => ?_)
      have hd := bf_fromC (by decide) hd
      obtain ⟨T_30, eT_30, hf⟩ := bf_l_e hf
      have hd := hd.of (congrArg (bf_pB G ν b) eT_30.symm)
      have hz := bf_wok_uS hz eT_30
      refine lv_aload_n hx hb dX0_party_45 rfl (lv_at hl 0 rfl) ?_
      refine lv_iconst (v := 0) hx hb dX0_party_46 (by decide) ?_
      refine bf_xP X (bf_toC (i := 0) hd (by decide)) (bf_in_lt g_29) 1 (by decide) (Or.inr ⟨_, q244⟩) dX0_party_47 (fun H locs hd => ?_)
      have hd := bf_fromC (by decide) hd
      obtain ⟨T_31, eT_31, hf⟩ := bf_l_e hf
      have hd := hd.of (congrArg (bf_pB G ν b) eT_31.symm)
      have hz := bf_wok_uS hz eT_31
      refine lv_aload_n hx hb dX0_party_50 rfl (lv_at hl 0 rfl) ?_
      refine lv_iconst (v := 0) hx hb dX0_party_51 (by decide) ?_
      refine bf_xP X (bf_toC (i := 0) hd (by decide)) (bf_in_lt g_29) 2 (by decide) (Or.inr ⟨_, q248⟩) dX0_party_52 (fun H locs hd => ?_)
      have hd := bf_fromC (by decide) hd
      obtain ⟨T_32, eT_32, hf⟩ := bf_l_e hf
      have hd := hd.of (congrArg (bf_pB G ν b) eT_32.symm)
      have hz := bf_wok_uS hz eT_32
      refine lv_iconst (v := 0) hx hb dX0_party_55 (by decide) ?_
      refine lv_istore_n (lv' := [(3, .int 0), (2, .ref (bf_ca b 0 + 161 + ((bf_S T 0).1 0 10 0).toNatClampNeg)), (0, .ref b), (1, .int x1)]) hx hb dX0_party_56 rfl hl (by decide) rfl (fun ls hl => ?_)
      exact L57 bf_fuel 0 T_32 _ _ _ hf hz hd (lv_sub hl [2, 0] rfl)
    · have hf := bf_it hf c_28
      refine lv_iconst (v := (-1)) hx hb dX0_party_22 (by decide) ?_
      exact kret _ _ _ _ _ _ ⟨(bf_pr hf).1, congrArg (bf_pB G ν b) (bf_pr hf).2, (bf_pr hf).2 ▸ hz⟩ hd dX0_party_23
def fX0_eater_65 (T65 : bf_WS) : Option (Int32 × bf_WS) := bf_l (bf_uS T65 0 (bf_u3 (bf_S T65 0) 0 12 0 (((bf_S T65 0).1 0 12 0) + 1))) fun T_5 => bf_b2 (fX0_forgets T_5) fun r_7 T_6 => some ((((bf_S T_6 0).1 0 12 0) - 1), T_6)
def fX0_eater_47b (u47_2 : Nat) (k47 : Int32 → bf_WS → Option (Int32 × bf_WS)) (v47_3 : Int32) (T47 : bf_WS) : Option (Int32 × bf_WS) := if 5 ≤ v47_3 then (fX0_eater_65 T47) else (bf_c (bf_in v47_3 5) <| bf_l (bf_uS T47 0 (bf_u3 (bf_S T47 0) 4 u47_2 v47_3.toNatClampNeg 5)) fun T_3 => bf_l (v47_3 + 1) fun x3_4 => k47 x3_4 T_3)
def fX0_eater_47 (u47_2 : Nat) : Nat → Int32 → bf_WS → Option (Int32 × bf_WS)
  | 0, _, _ => none
  | n + 1, v47_3, T47 => fX0_eater_47b u47_2 (fX0_eater_47 u47_2 n) v47_3 T47
def fX0_eater (T : bf_WS) (x1 : Int32) : Option (Int32 × bf_WS) := if (fX0_isIn x1 0 20) = 0 then (some ((-1), T)) else (if ((bf_S T 0).1 0 12 0) = 10 then (some ((-1), T)) else (bf_c (bf_in ((bf_S T 0).1 0 12 0) 10) <| bf_l (bf_uS T 0 (bf_u3 (bf_S T 0) 3 (((bf_S T 0).1 0 12 0).toNatClampNeg) 0 x1)) fun T_13 => fX0_eater_47 (((bf_S T 0).1 0 12 0).toNatClampNeg) bf_fuel 0 T_13))
set_option maxHeartbeats 4000000 in
theorem mX0_eater (l : Launch) (G : bf_G) (ν : bf_V) (b : Nat) (T : bf_WS) (hz : bf_wok G ν b T) (x1 : Int32) {r : Int32} {T' : bf_WS} (hf : fX0_eater T x1 = some (r, T')) : bf_MI l G yX0_eater cX0_eater 4 (bf_rm 2) [.ref b, .int x1] (bf_pB G ν b T) (fun v σ' => v = r ∧ σ' = bf_pB G ν b T' ∧ bf_wok G ν b T') := by
  refine bf_MI.of rfl (Nat.le_of_ble_eq_true rfl) ?_
  intro p e s m below meth c' Q X hlk hnm kret hd ls hl
  have hx := X.1
  have hb := X.2.1
  have hml := X.2.2.1
  have hown := X.2.2.2.1
  have hts := X.2.2.2.2
  have hl : lv_has ls 4 [(0, .ref b), (1, .int x1)] := hl
  have J65 : ∀ (T65 : bf_WS) (H : Heap) (locs : List Loc) (ls : Array Slot), fX0_eater_65 T65 = some (r, T') → bf_wok G ν b T65 → bf_Dy G s H locs (bf_pB G ν b T65) → lv_has ls 4 [(0, .ref b)] → W p l e (bf_rm 2) s m ([.ref b, .int x1] : List Value).toArray below meth c' H locs 0 0 Q (F0 m 65 ls []) := by
    intro T65 H locs ls hf hz hd hl
    unfold fX0_eater_65 at hf
    refine lv_aload_n hx hb dX0_eater_65 rfl (lv_at hl 0 rfl) ?_
    refine bf_yG (v := .ref (bf_ca b 0)) X hd 4 (by decide) (Or.inl q430) rfl dX0_eater_66 ?_
    refine lv_dup hx hb dX0_eater_69 rfl ?_
    refine bf_rC X hd (bf_pB_hC G ν b T65 (i := 0) (by decide)) 12 (by decide) (Or.inr ⟨_, q327⟩) rfl dX0_eater_70 ?_
    refine lv_iconst (v := 1) hx hb dX0_eater_73 (by decide) ?_
    refine lv_iadd hx hb dX0_eater_74 ?_
    refine bf_xC X (bf_toC (i := 0) hd (by decide)) 12 (by decide) ⟨by decide, rfl, rfl⟩ (Or.inr ⟨_, q327⟩) dX0_eater_75 (fun H locs hd => ?_)
    have hd := bf_fromC (by decide) hd
    obtain ⟨T_14, eT_14, hf⟩ := bf_l_e hf
    have hd := hd.of (congrArg (bf_pB G ν b) eT_14.symm)
    have hz := bf_wok_uS hz eT_14
    refine lv_aload_n hx hb dX0_eater_78 rfl (lv_at hl 0 rfl) ?_
    obtain ⟨r_16, T_15, er_16, hf⟩ := bf_b2_some hf
    refine bf_bcz (n := 0) (As := []) (rest := []) X hd (mX0_forgets l G ν b T_14 hz  er_16) (lw_V q902 q904 qs26 q148 q905) (by decide +kernel) ⟨Nat.le_of_ble_eq_true rfl, Nat.le_of_ble_eq_true rfl⟩ rfl hl.1 rfl (Nat.le_of_ble_eq_true rfl) dX0_eater_79 ⟨Nat.le_of_ble_eq_true rfl, Nat.le_of_ble_eq_true rfl⟩ (fun H locs hz z_17 hd => ?_)
    refine lv_pop hx hb dX0_eater_82 rfl ?_
    refine lv_aload_n hx hb dX0_eater_83 rfl (lv_at hl 0 rfl) ?_
    refine bf_yG (v := .ref (bf_ca b 0)) X hd 4 (by decide) (Or.inl q430) rfl dX0_eater_84 ?_
    refine bf_rC X hd (bf_pB_hC G ν b T_15 (i := 0) (by decide)) 12 (by decide) (Or.inr ⟨_, q327⟩) rfl dX0_eater_87 ?_
    refine lv_iconst (v := 1) hx hb dX0_eater_90 (by decide) ?_
    refine lv_isub hx hb dX0_eater_91 ?_
    exact kret _ _ _ _ _ _ ⟨(bf_pr hf).1, congrArg (bf_pB G ν b) (bf_pr hf).2, (bf_pr hf).2 ▸ hz⟩ hd dX0_eater_92
  have L47 : ∀ (u47_2 : Nat) (hu47_2 : u47_2 < 10) (n47 : Nat) (v47_3 : Int32) (T47 : bf_WS) (H : Heap) (locs : List Loc) (ls : Array Slot), fX0_eater_47 u47_2 n47 v47_3 T47 = some (r, T') → bf_wok G ν b T47 → bf_Dy G s H locs (bf_pB G ν b T47) → lv_has ls 4 [(0, .ref b), (2, .ref (bf_ca b 0 + 180 + 2 * u47_2)), (3, .int v47_3)] → W p l e (bf_rm 2) s m ([.ref b, .int x1] : List Value).toArray below meth c' H locs 0 0 Q (F0 m 47 ls []) := by
    intro u47_2 hu47_2 n47
    induction n47 with
    | zero =>
      intro v47_3 T47 H locs ls hf hz hd hl
      exact absurd (show (none : Option (Int32 × bf_WS)) = some (r, T') from hf) (by intro h; cases h)
    | succ n47 ih47 =>
      intro v47_3 T47 H locs ls hf hz hd hl
      have hf : fX0_eater_47b u47_2 (fX0_eater_47 u47_2 n47) v47_3 T47 = some (r, T') := hf
      unfold fX0_eater_47b at hf
      refine lv_iload_n hx hb dX0_eater_47 rfl (lv_at hl 2 rfl) ?_
      refine lv_iconst (v := 5) hx hb dX0_eater_48 (by decide) ?_
      refine lv_icmp_ge (tgt := 65) hx hb dX0_eater_49 (by decide) (fun c_18 => ?_) (fun c_18 => ?_)
      · have hf := bf_it hf c_18
        exact J65 T47 _ _ _ hf hz hd (lv_sub hl [0] rfl)
      · have hf := bf_ie hf c_18
        refine lv_aload_n hx hb dX0_eater_52 rfl (lv_at hl 1 rfl) ?_
        refine bf_rE X hd (bf_pB_hC G ν b T47 (i := 0) (by decide)) hu47_2 (Or.inr ⟨_, q289⟩) dX0_eater_53 ?_
        refine lv_iload_n hx hb dX0_eater_56 rfl (lv_at hl 2 rfl) ?_
        refine lv_iconst (v := 5) hx hb dX0_eater_57 (by decide) ?_
        obtain ⟨g_19, hf⟩ := bf_c_some hf
        refine bf_sE X (bf_toC (i := 0) hd (by decide)) hu47_2 g_19 dX0_eater_58 (fun H locs hd => ?_)
        have hd := bf_fromC (by decide) hd
        obtain ⟨T_20, eT_20, hf⟩ := bf_l_e hf
        have hd := hd.of (congrArg (bf_pB G ν b) eT_20.symm)
        have hz := bf_wok_uS hz eT_20
        obtain ⟨x3_21, ex3_21, hf⟩ := bf_l_e hf
        refine lv_iinc (v := x3_21) (lv' := [(3, .int x3_21), (0, .ref b), (2, .ref (bf_ca b 0 + 180 + 2 * u47_2))]) hx hb dX0_eater_59 hl (k := 2) rfl (by rw [ex3_21]; rfl) (by decide) rfl (fun ls hl => ?_)
        refine lv_goto (tgt := 47) hx hb dX0_eater_62 (by decide) ?_
        exact ih47 x3_21 T_20 _ _ _ hf hz hd (lv_sub hl [1, 2, 0] rfl)
  unfold fX0_eater at hf
  refine lv_iload_n hx hb dX0_eater_0 rfl (lv_at hl 1 rfl) ?_
  refine lv_iconst (v := 0) hx hb dX0_eater_1 (by decide) ?_
  refine lv_bipush (v := 20) hx hb dX0_eater_2 (by decide) ?_
  refine bf_cSz (n := 3) (As := [.int x1, .int 0, .int 20]) (rest := []) X hd (mX0_isIn l G _ x1 0 20 rfl) (lw_S q473 q474 q148 q475) (by decide +kernel) ⟨Nat.le_of_ble_eq_true rfl, Nat.le_of_ble_eq_true rfl⟩ rfl hl.1 rfl (Nat.le_of_ble_eq_true rfl) dX0_eater_4 ⟨Nat.le_of_ble_eq_true rfl, Nat.le_of_ble_eq_true rfl⟩ (fun r σ' H locs hF z_22 hd => ?_)
  rw [hF.2] at hd
  refine bf_top hF.1.symm ?_
  rw [hF.1] at z_22
  refine lv_if_eq (tgt := 22) hx hb dX0_eater_7 (by decide) (fun c_23 => ?_) (fun c_23 => ?_)
  · have hf := bf_it hf c_23
    refine lv_iconst (v := (-1)) hx hb dX0_eater_22 (by decide) ?_
    exact kret _ _ _ _ _ _ ⟨(bf_pr hf).1, congrArg (bf_pB G ν b) (bf_pr hf).2, (bf_pr hf).2 ▸ hz⟩ hd dX0_eater_23
  · have hf := bf_ie hf c_23
    refine lv_aload_n hx hb dX0_eater_10 rfl (lv_at hl 0 rfl) ?_
    refine bf_yG (v := .ref (bf_ca b 0)) X hd 4 (by decide) (Or.inl q430) rfl dX0_eater_11 ?_
    refine bf_rC X hd (bf_pB_hC G ν b T (i := 0) (by decide)) 12 (by decide) (Or.inr ⟨_, q327⟩) rfl dX0_eater_14 ?_
    refine lv_bipush (v := 10) hx hb dX0_eater_17 (by decide) ?_
    refine lv_icmp_ne (tgt := 24) hx hb dX0_eater_19 (by decide) (fun c_24 => ?_) (fun c_24 => ?_)
    · have hf := bf_ie hf c_24
      refine lv_aload_n hx hb dX0_eater_24 rfl (lv_at hl 0 rfl) ?_
      refine bf_yG (v := .ref (bf_ca b 0)) X hd 4 (by decide) (Or.inl q430) rfl dX0_eater_25 ?_
      refine bf_rC (v := .ref (bf_ca b 0 + 3)) X hd (bf_pB_hC G ν b T (i := 0) (by decide)) 2 (by decide) (Or.inr ⟨_, q305⟩) rfl dX0_eater_28 ?_
      refine lv_aload_n hx hb dX0_eater_31 rfl (lv_at hl 0 rfl) ?_
      refine bf_yG (v := .ref (bf_ca b 0)) X hd 4 (by decide) (Or.inl q430) rfl dX0_eater_32 ?_
      refine bf_rC X hd (bf_pB_hC G ν b T (i := 0) (by decide)) 12 (by decide) (Or.inr ⟨_, q327⟩) rfl dX0_eater_35 ?_
      obtain ⟨g_25, hf⟩ := bf_c_some hf
      refine bf_aald (v := .ref (bf_ca b 0 + 180 + 2 * ((bf_S T 0).1 0 12 0).toNatClampNeg)) X hd (bf_c3 (bf_pB_hC G ν b T (i := 0) (by decide))) 4 rfl rfl g_25 rfl dX0_eater_38 ?_
      refine lv_astore_n (lv' := [(2, .ref (bf_ca b 0 + 180 + 2 * ((bf_S T 0).1 0 12 0).toNatClampNeg)), (0, .ref b), (1, .int x1)]) hx hb dX0_eater_39 rfl hl (by decide) rfl (fun ls hl => ?_)
      refine lv_aload_n hx hb dX0_eater_40 rfl (lv_at hl 0 rfl) ?_
      refine lv_iload_n hx hb dX0_eater_41 rfl (lv_at hl 2 rfl) ?_
      refine bf_xH X (bf_toC (i := 0) hd (by decide)) (bf_in_lt g_25) (Or.inr ⟨_, q293⟩) dX0_eater_42 (fun H locs hd => ?_)
      have hd := bf_fromC (by decide) hd
      obtain ⟨T_26, eT_26, hf⟩ := bf_l_e hf
      have hd := hd.of (congrArg (bf_pB G ν b) eT_26.symm)
      have hz := bf_wok_uS hz eT_26
      refine lv_iconst (v := 0) hx hb dX0_eater_45 (by decide) ?_
      refine lv_istore_n (lv' := [(3, .int 0), (2, .ref (bf_ca b 0 + 180 + 2 * ((bf_S T 0).1 0 12 0).toNatClampNeg)), (0, .ref b), (1, .int x1)]) hx hb dX0_eater_46 rfl hl (by decide) rfl (fun ls hl => ?_)
      exact L47 (((bf_S T 0).1 0 12 0).toNatClampNeg) (bf_in_lt g_25) bf_fuel 0 T_26 _ _ _ hf hz hd (lv_sub hl [2, 1, 0] rfl)
    · have hf := bf_it hf c_24
      refine lv_iconst (v := (-1)) hx hb dX0_eater_22 (by decide) ?_
      exact kret _ _ _ _ _ _ ⟨(bf_pr hf).1, congrArg (bf_pB G ν b) (bf_pr hf).2, (bf_pr hf).2 ▸ hz⟩ hd dX0_eater_23
def fX0_taste (T : bf_WS) (x1 x2 x3 : Int32) : Option (Int32 × bf_WS) := if (fX0_isEater T x1) = 0 then (some (0, T)) else (if (fX0_isParty T x2) = 0 then (some (0, T)) else (if (fX0_isIn x3 0 9) = 0 then (some (0, T)) else (bf_c (bf_in x1 10) <| bf_c (bf_in x2 5) <| bf_l (bf_uS T 0 (bf_u3 (bf_S T 0) 4 x1.toNatClampNeg x2.toNatClampNeg x3)) fun T_9 => bf_b2 (fX0_forgets T_9) fun r_11 T_10 => some (r_11, T_10))))
set_option maxHeartbeats 4000000 in
theorem mX0_taste (l : Launch) (G : bf_G) (ν : bf_V) (b : Nat) (T : bf_WS) (hz : bf_wok G ν b T) (x1 x2 x3 : Int32) {r : Int32} {T' : bf_WS} (hf : fX0_taste T x1 x2 x3 = some (r, T')) : bf_MZ l G yX0_taste cX0_taste 4 (bf_rm 3) [.ref b, .int x1, .int x2, .int x3] (bf_pB G ν b T) (fun v σ' => v = r ∧ σ' = bf_pB G ν b T' ∧ bf_wok G ν b T') := by
  refine bf_MZ.of rfl (Nat.le_of_ble_eq_true rfl) ?_
  intro p e s m below meth c' Q X hlk hnm kret hd ls hl
  have hx := X.1
  have hb := X.2.1
  have hml := X.2.2.1
  have hown := X.2.2.2.1
  have hts := X.2.2.2.2
  have hl : lv_has ls 4 [(0, .ref b), (1, .int x1), (2, .int x2), (3, .int x3)] := hl
  unfold fX0_taste at hf
  refine lv_aload_n hx hb dX0_taste_0 rfl (lv_at hl 0 rfl) ?_
  refine lv_iload_n hx hb dX0_taste_1 rfl (lv_at hl 1 rfl) ?_
  refine bf_bcz (n := 1) (As := [.int x1]) (rest := []) X hd (mX0_isEater l G ν b T hz x1 rfl) (lw_V q1010 q1012 qs29 q148 q1013) (by decide +kernel) ⟨Nat.le_of_ble_eq_true rfl, Nat.le_of_ble_eq_true rfl⟩ rfl hl.1 rfl (Nat.le_of_ble_eq_true rfl) dX0_taste_2 ⟨Nat.le_of_ble_eq_true rfl, Nat.le_of_ble_eq_true rfl⟩ (fun H locs hz z_13 hd => ?_)
  refine lv_if_eq (tgt := 26) hx hb dX0_taste_5 (by decide) (fun c_14 => ?_) (fun c_14 => ?_)
  · have hf := bf_it hf c_14
    refine lv_iconst (v := 0) hx hb dX0_taste_26 (by decide) ?_
    exact kret _ _ _ _ _ _ ⟨(bf_pr hf).1, congrArg (bf_pB G ν b) (bf_pr hf).2, (bf_pr hf).2 ▸ hz⟩ (Or.inl rfl) hd dX0_taste_27
  · have hf := bf_ie hf c_14
    refine lv_aload_n hx hb dX0_taste_8 rfl (lv_at hl 0 rfl) ?_
    refine lv_iload_n hx hb dX0_taste_9 rfl (lv_at hl 2 rfl) ?_
    refine bf_bcz (n := 1) (As := [.int x2]) (rest := []) X hd (mX0_isParty l G ν b T hz x2 rfl) (lw_V q1014 q1016 qs30 q148 q1017) (by decide +kernel) ⟨Nat.le_of_ble_eq_true rfl, Nat.le_of_ble_eq_true rfl⟩ rfl hl.1 rfl (Nat.le_of_ble_eq_true rfl) dX0_taste_10 ⟨Nat.le_of_ble_eq_true rfl, Nat.le_of_ble_eq_true rfl⟩ (fun H locs hz z_15 hd => ?_)
    refine lv_if_eq (tgt := 26) hx hb dX0_taste_13 (by decide) (fun c_16 => ?_) (fun c_16 => ?_)
    · have hf := bf_it hf c_16
      refine lv_iconst (v := 0) hx hb dX0_taste_26 (by decide) ?_
      exact kret _ _ _ _ _ _ ⟨(bf_pr hf).1, congrArg (bf_pB G ν b) (bf_pr hf).2, (bf_pr hf).2 ▸ hz⟩ (Or.inl rfl) hd dX0_taste_27
    · have hf := bf_ie hf c_16
      refine lv_iload_n hx hb dX0_taste_16 rfl (lv_at hl 3 rfl) ?_
      refine lv_iconst (v := 0) hx hb dX0_taste_17 (by decide) ?_
      refine lv_bipush (v := 9) hx hb dX0_taste_18 (by decide) ?_
      refine bf_cSz (n := 3) (As := [.int x3, .int 0, .int 9]) (rest := []) X hd (mX0_isIn l G _ x3 0 9 rfl) (lw_S q473 q474 q148 q475) (by decide +kernel) ⟨Nat.le_of_ble_eq_true rfl, Nat.le_of_ble_eq_true rfl⟩ rfl hl.1 rfl (Nat.le_of_ble_eq_true rfl) dX0_taste_20 ⟨Nat.le_of_ble_eq_true rfl, Nat.le_of_ble_eq_true rfl⟩ (fun r σ' H locs hF z_17 hd => ?_)
      rw [hF.2] at hd
      refine bf_top hF.1.symm ?_
      rw [hF.1] at z_17
      refine lv_if_ne (tgt := 28) hx hb dX0_taste_23 (by decide) (fun c_18 => ?_) (fun c_18 => ?_)
      · have hf := bf_ie hf c_18
        refine lv_aload_n hx hb dX0_taste_28 rfl (lv_at hl 0 rfl) ?_
        refine bf_yG (v := .ref (bf_ca b 0)) X hd 4 (by decide) (Or.inl q430) rfl dX0_taste_29 ?_
        refine bf_rC (v := .ref (bf_ca b 0 + 3)) X hd (bf_pB_hC G ν b T (i := 0) (by decide)) 2 (by decide) (Or.inr ⟨_, q305⟩) rfl dX0_taste_32 ?_
        refine lv_iload_n hx hb dX0_taste_35 rfl (lv_at hl 1 rfl) ?_
        obtain ⟨g_19, hf⟩ := bf_c_some hf
        refine bf_aald (v := .ref (bf_ca b 0 + 180 + 2 * x1.toNatClampNeg)) X hd (bf_c3 (bf_pB_hC G ν b T (i := 0) (by decide))) 4 rfl rfl g_19 rfl dX0_taste_36 ?_
        refine bf_rE X hd (bf_pB_hC G ν b T (i := 0) (by decide)) (bf_in_lt g_19) (Or.inr ⟨_, q289⟩) dX0_taste_37 ?_
        refine lv_iload_n hx hb dX0_taste_40 rfl (lv_at hl 2 rfl) ?_
        refine lv_iload_n hx hb dX0_taste_41 rfl (lv_at hl 3 rfl) ?_
        obtain ⟨g_20, hf⟩ := bf_c_some hf
        refine bf_sE X (bf_toC (i := 0) hd (by decide)) (bf_in_lt g_19) g_20 dX0_taste_42 (fun H locs hd => ?_)
        have hd := bf_fromC (by decide) hd
        obtain ⟨T_21, eT_21, hf⟩ := bf_l_e hf
        have hd := hd.of (congrArg (bf_pB G ν b) eT_21.symm)
        have hz := bf_wok_uS hz eT_21
        refine lv_aload_n hx hb dX0_taste_43 rfl (lv_at hl 0 rfl) ?_
        obtain ⟨r_23, T_22, er_23, hf⟩ := bf_b2_some hf
        refine bf_bcz (n := 0) (As := []) (rest := []) X hd (mX0_forgets l G ν b T_21 hz  er_23) (lw_V q902 q904 qs26 q148 q905) (by decide +kernel) ⟨Nat.le_of_ble_eq_true rfl, Nat.le_of_ble_eq_true rfl⟩ rfl hl.1 rfl (Nat.le_of_ble_eq_true rfl) dX0_taste_44 ⟨Nat.le_of_ble_eq_true rfl, Nat.le_of_ble_eq_true rfl⟩ (fun H locs hz z_24 hd => ?_)
        exact kret _ _ _ _ _ _ ⟨(bf_pr hf).1, congrArg (bf_pB G ν b) (bf_pr hf).2, (bf_pr hf).2 ▸ hz⟩ z_24 hd dX0_taste_47
      · have hf := bf_it hf c_18
        refine lv_iconst (v := 0) hx hb dX0_taste_26 (by decide) ?_
        exact kret _ _ _ _ _ _ ⟨(bf_pr hf).1, congrArg (bf_pB G ν b) (bf_pr hf).2, (bf_pr hf).2 ▸ hz⟩ (Or.inl rfl) hd dX0_taste_27
def fX0_canSet (T : bf_WS) (x1 x2 x3 : Int32) : Int32 := if x1 = 0 then ((fX0_isIn x3 0 1000)) else (if x1 = 1 then ((fX0_isIn x3 0 1000)) else (if x1 = 2 then ((fX0_isIn x3 1 99)) else (if x1 = 3 then ((fX0_isIn x3 1 52)) else (if x1 = 4 then (if (fX0_isIn x2 0 (((bf_S T 0).1 0 11 0) - 1)) = 0 then (0) else (if (fX0_isIn x3 0 99) = 0 then (0) else (1))) else (if x1 = 5 then (if (fX0_isEater T x2) = 0 then (0) else (if (fX0_isIn x3 0 20) = 0 then (0) else (1))) else (if x1 = 6 then (if (fX0_isParty T x2) = 0 then (0) else (if (fX0_isIn x3 0 999) = 0 then (0) else (1))) else (if x1 = 7 then (if (fX0_isParty T x2) = 0 then (0) else (if (fX0_isIn x3 0 9999) = 0 then (0) else (1))) else (0))))))))
set_option maxHeartbeats 4000000 in
theorem mX0_canSet (l : Launch) (G : bf_G) (ν : bf_V) (b : Nat) (T : bf_WS) (hz : bf_wok G ν b T) (x1 x2 x3 : Int32) {r : Int32} (hf : fX0_canSet T x1 x2 x3 = r) : bf_MZ l G yX0_canSet cX0_canSet 4 (bf_rm 3) [.ref b, .int x1, .int x2, .int x3] (bf_pB G ν b T) (fun v σ' => v = r ∧ σ' = bf_pB G ν b T ∧ bf_wok G ν b T) := by
  refine bf_MZ.of rfl (Nat.le_of_ble_eq_true rfl) ?_
  intro p e s m below meth c' Q X hlk hnm kret hd ls hl
  have hx := X.1
  have hb := X.2.1
  have hml := X.2.2.1
  have hown := X.2.2.2.1
  have hts := X.2.2.2.2
  have hl : lv_has ls 4 [(0, .ref b), (1, .int x1), (2, .int x2), (3, .int x3)] := hl
  unfold fX0_canSet at hf
  refine lv_iload_n hx hb dX0_canSet_0 rfl (lv_at hl 1 rfl) ?_
  by_cases c_29 : x1 = 0
  · have hf := bf_it hf c_29
    refine bf_top c_29.symm ?_
    refine lv_tableIn (tgt := 48) hx hb dX0_canSet_1 (by decide) (by decide) rfl (by decide) ?_
    refine lv_iload_n hx hb dX0_canSet_48 rfl (lv_at hl 3 rfl) ?_
    refine lv_iconst (v := 0) hx hb dX0_canSet_49 (by decide) ?_
    refine lv_sipush (v := 1000) hx hb dX0_canSet_50 (by decide) ?_
    refine bf_cSz (n := 3) (As := [.int x3, .int 0, .int 1000]) (rest := []) X hd (mX0_isIn l G _ x3 0 1000 rfl) (lw_S q473 q474 q148 q475) (by decide +kernel) ⟨Nat.le_of_ble_eq_true rfl, Nat.le_of_ble_eq_true rfl⟩ rfl hl.1 rfl (Nat.le_of_ble_eq_true rfl) dX0_canSet_53 ⟨Nat.le_of_ble_eq_true rfl, Nat.le_of_ble_eq_true rfl⟩ (fun r σ' H locs hF z_30 hd => ?_)
    rw [hF.2] at hd
    refine bf_top hF.1.symm ?_
    rw [hF.1] at z_30
    exact kret _ _ _ _ _ _ ⟨hf, rfl, hz⟩ z_30 hd dX0_canSet_56
  · have hf := bf_ie hf c_29
    by_cases c_31 : x1 = 1
    · have hf := bf_it hf c_31
      refine bf_top c_31.symm ?_
      refine lv_tableIn (tgt := 48) hx hb dX0_canSet_1 (by decide) (by decide) rfl (by decide) ?_
      refine lv_iload_n hx hb dX0_canSet_48 rfl (lv_at hl 3 rfl) ?_
      refine lv_iconst (v := 0) hx hb dX0_canSet_49 (by decide) ?_
      refine lv_sipush (v := 1000) hx hb dX0_canSet_50 (by decide) ?_
      refine bf_cSz (n := 3) (As := [.int x3, .int 0, .int 1000]) (rest := []) X hd (mX0_isIn l G _ x3 0 1000 rfl) (lw_S q473 q474 q148 q475) (by decide +kernel) ⟨Nat.le_of_ble_eq_true rfl, Nat.le_of_ble_eq_true rfl⟩ rfl hl.1 rfl (Nat.le_of_ble_eq_true rfl) dX0_canSet_53 ⟨Nat.le_of_ble_eq_true rfl, Nat.le_of_ble_eq_true rfl⟩ (fun r σ' H locs hF z_32 hd => ?_)
      rw [hF.2] at hd
      refine bf_top hF.1.symm ?_
      rw [hF.1] at z_32
      exact kret _ _ _ _ _ _ ⟨hf, rfl, hz⟩ z_32 hd dX0_canSet_56
    · have hf := bf_ie hf c_31
      by_cases c_33 : x1 = 2
      · have hf := bf_it hf c_33
        refine bf_top c_33.symm ?_
        refine lv_tableIn (tgt := 57) hx hb dX0_canSet_1 (by decide) (by decide) rfl (by decide) ?_
        refine lv_iload_n hx hb dX0_canSet_57 rfl (lv_at hl 3 rfl) ?_
        refine lv_iconst (v := 1) hx hb dX0_canSet_58 (by decide) ?_
        refine lv_bipush (v := 99) hx hb dX0_canSet_59 (by decide) ?_
        refine bf_cSz (n := 3) (As := [.int x3, .int 1, .int 99]) (rest := []) X hd (mX0_isIn l G _ x3 1 99 rfl) (lw_S q473 q474 q148 q475) (by decide +kernel) ⟨Nat.le_of_ble_eq_true rfl, Nat.le_of_ble_eq_true rfl⟩ rfl hl.1 rfl (Nat.le_of_ble_eq_true rfl) dX0_canSet_61 ⟨Nat.le_of_ble_eq_true rfl, Nat.le_of_ble_eq_true rfl⟩ (fun r σ' H locs hF z_34 hd => ?_)
        rw [hF.2] at hd
        refine bf_top hF.1.symm ?_
        rw [hF.1] at z_34
        exact kret _ _ _ _ _ _ ⟨hf, rfl, hz⟩ z_34 hd dX0_canSet_64
      · have hf := bf_ie hf c_33
        by_cases c_35 : x1 = 3
        · have hf := bf_it hf c_35
          refine bf_top c_35.symm ?_
          refine lv_tableIn (tgt := 65) hx hb dX0_canSet_1 (by decide) (by decide) rfl (by decide) ?_
          refine lv_iload_n hx hb dX0_canSet_65 rfl (lv_at hl 3 rfl) ?_
          refine lv_iconst (v := 1) hx hb dX0_canSet_66 (by decide) ?_
          refine lv_bipush (v := 52) hx hb dX0_canSet_67 (by decide) ?_
          refine bf_cSz (n := 3) (As := [.int x3, .int 1, .int 52]) (rest := []) X hd (mX0_isIn l G _ x3 1 52 rfl) (lw_S q473 q474 q148 q475) (by decide +kernel) ⟨Nat.le_of_ble_eq_true rfl, Nat.le_of_ble_eq_true rfl⟩ rfl hl.1 rfl (Nat.le_of_ble_eq_true rfl) dX0_canSet_69 ⟨Nat.le_of_ble_eq_true rfl, Nat.le_of_ble_eq_true rfl⟩ (fun r σ' H locs hF z_36 hd => ?_)
          rw [hF.2] at hd
          refine bf_top hF.1.symm ?_
          rw [hF.1] at z_36
          exact kret _ _ _ _ _ _ ⟨hf, rfl, hz⟩ z_36 hd dX0_canSet_72
        · have hf := bf_ie hf c_35
          by_cases c_37 : x1 = 4
          · have hf := bf_it hf c_37
            refine bf_top c_37.symm ?_
            refine lv_tableIn (tgt := 73) hx hb dX0_canSet_1 (by decide) (by decide) rfl (by decide) ?_
            refine lv_iload_n hx hb dX0_canSet_73 rfl (lv_at hl 2 rfl) ?_
            refine lv_iconst (v := 0) hx hb dX0_canSet_74 (by decide) ?_
            refine lv_aload_n hx hb dX0_canSet_75 rfl (lv_at hl 0 rfl) ?_
            refine bf_yG (v := .ref (bf_ca b 0)) X hd 4 (by decide) (Or.inl q430) rfl dX0_canSet_76 ?_
            refine bf_rC X hd (bf_pB_hC G ν b T (i := 0) (by decide)) 11 (by decide) (Or.inr ⟨_, q325⟩) rfl dX0_canSet_79 ?_
            refine lv_iconst (v := 1) hx hb dX0_canSet_82 (by decide) ?_
            refine lv_isub hx hb dX0_canSet_83 ?_
            refine bf_cSz (n := 3) (As := [.int x2, .int 0, .int (((bf_S T 0).1 0 11 0) - 1)]) (rest := []) X hd (mX0_isIn l G _ x2 0 (((bf_S T 0).1 0 11 0) - 1) rfl) (lw_S q473 q474 q148 q475) (by decide +kernel) ⟨Nat.le_of_ble_eq_true rfl, Nat.le_of_ble_eq_true rfl⟩ rfl hl.1 rfl (Nat.le_of_ble_eq_true rfl) dX0_canSet_84 ⟨Nat.le_of_ble_eq_true rfl, Nat.le_of_ble_eq_true rfl⟩ (fun r σ' H locs hF z_38 hd => ?_)
            rw [hF.2] at hd
            refine bf_top hF.1.symm ?_
            rw [hF.1] at z_38
            refine lv_if_eq (tgt := 104) hx hb dX0_canSet_87 (by decide) (fun c_39 => ?_) (fun c_39 => ?_)
            · have hf := bf_it hf c_39
              refine lv_iconst (v := 0) hx hb dX0_canSet_104 (by decide) ?_
              exact kret _ _ _ _ _ _ ⟨hf, rfl, hz⟩ (Or.inl rfl) hd dX0_canSet_105
            · have hf := bf_ie hf c_39
              refine lv_iload_n hx hb dX0_canSet_90 rfl (lv_at hl 3 rfl) ?_
              refine lv_iconst (v := 0) hx hb dX0_canSet_91 (by decide) ?_
              refine lv_bipush (v := 99) hx hb dX0_canSet_92 (by decide) ?_
              refine bf_cSz (n := 3) (As := [.int x3, .int 0, .int 99]) (rest := []) X hd (mX0_isIn l G _ x3 0 99 rfl) (lw_S q473 q474 q148 q475) (by decide +kernel) ⟨Nat.le_of_ble_eq_true rfl, Nat.le_of_ble_eq_true rfl⟩ rfl hl.1 rfl (Nat.le_of_ble_eq_true rfl) dX0_canSet_94 ⟨Nat.le_of_ble_eq_true rfl, Nat.le_of_ble_eq_true rfl⟩ (fun r σ' H locs hF z_40 hd => ?_)
              rw [hF.2] at hd
              refine bf_top hF.1.symm ?_
              rw [hF.1] at z_40
              refine lv_if_eq (tgt := 104) hx hb dX0_canSet_97 (by decide) (fun c_41 => ?_) (fun c_41 => ?_)
              · have hf := bf_it hf c_41
                refine lv_iconst (v := 0) hx hb dX0_canSet_104 (by decide) ?_
                exact kret _ _ _ _ _ _ ⟨hf, rfl, hz⟩ (Or.inl rfl) hd dX0_canSet_105
              · have hf := bf_ie hf c_41
                refine lv_iconst (v := 1) hx hb dX0_canSet_100 (by decide) ?_
                refine lv_goto (tgt := 105) hx hb dX0_canSet_101 (by decide) ?_
                exact kret _ _ _ _ _ _ ⟨hf, rfl, hz⟩ (Or.inr rfl) hd dX0_canSet_105
          · have hf := bf_ie hf c_37
            by_cases c_42 : x1 = 5
            · have hf := bf_it hf c_42
              refine bf_top c_42.symm ?_
              refine lv_tableIn (tgt := 106) hx hb dX0_canSet_1 (by decide) (by decide) rfl (by decide) ?_
              refine lv_aload_n hx hb dX0_canSet_106 rfl (lv_at hl 0 rfl) ?_
              refine lv_iload_n hx hb dX0_canSet_107 rfl (lv_at hl 2 rfl) ?_
              refine bf_bcz (n := 1) (As := [.int x2]) (rest := []) X hd (mX0_isEater l G ν b T hz x2 rfl) (lw_V q1010 q1012 qs29 q148 q1013) (by decide +kernel) ⟨Nat.le_of_ble_eq_true rfl, Nat.le_of_ble_eq_true rfl⟩ rfl hl.1 rfl (Nat.le_of_ble_eq_true rfl) dX0_canSet_108 ⟨Nat.le_of_ble_eq_true rfl, Nat.le_of_ble_eq_true rfl⟩ (fun H locs hz z_43 hd => ?_)
              refine lv_if_eq (tgt := 128) hx hb dX0_canSet_111 (by decide) (fun c_44 => ?_) (fun c_44 => ?_)
              · have hf := bf_it hf c_44
                refine lv_iconst (v := 0) hx hb dX0_canSet_128 (by decide) ?_
                exact kret _ _ _ _ _ _ ⟨hf, rfl, hz⟩ (Or.inl rfl) hd dX0_canSet_129
              · have hf := bf_ie hf c_44
                refine lv_iload_n hx hb dX0_canSet_114 rfl (lv_at hl 3 rfl) ?_
                refine lv_iconst (v := 0) hx hb dX0_canSet_115 (by decide) ?_
                refine lv_bipush (v := 20) hx hb dX0_canSet_116 (by decide) ?_
                refine bf_cSz (n := 3) (As := [.int x3, .int 0, .int 20]) (rest := []) X hd (mX0_isIn l G _ x3 0 20 rfl) (lw_S q473 q474 q148 q475) (by decide +kernel) ⟨Nat.le_of_ble_eq_true rfl, Nat.le_of_ble_eq_true rfl⟩ rfl hl.1 rfl (Nat.le_of_ble_eq_true rfl) dX0_canSet_118 ⟨Nat.le_of_ble_eq_true rfl, Nat.le_of_ble_eq_true rfl⟩ (fun r σ' H locs hF z_45 hd => ?_)
                rw [hF.2] at hd
                refine bf_top hF.1.symm ?_
                rw [hF.1] at z_45
                refine lv_if_eq (tgt := 128) hx hb dX0_canSet_121 (by decide) (fun c_46 => ?_) (fun c_46 => ?_)
                · have hf := bf_it hf c_46
                  refine lv_iconst (v := 0) hx hb dX0_canSet_128 (by decide) ?_
                  exact kret _ _ _ _ _ _ ⟨hf, rfl, hz⟩ (Or.inl rfl) hd dX0_canSet_129
                · have hf := bf_ie hf c_46
                  refine lv_iconst (v := 1) hx hb dX0_canSet_124 (by decide) ?_
                  refine lv_goto (tgt := 129) hx hb dX0_canSet_125 (by decide) ?_
                  exact kret _ _ _ _ _ _ ⟨hf, rfl, hz⟩ (Or.inr rfl) hd dX0_canSet_129
            · have hf := bf_ie hf c_42
              by_cases c_47 : x1 = 6
              · have hf := bf_it hf c_47
                refine bf_top c_47.symm ?_
                refine lv_tableIn (tgt := 130) hx hb dX0_canSet_1 (by decide) (by decide) rfl (by decide) ?_
                refine lv_aload_n hx hb dX0_canSet_130 rfl (lv_at hl 0 rfl) ?_
                refine lv_iload_n hx hb dX0_canSet_131 rfl (lv_at hl 2 rfl) ?_
                refine bf_bcz (n := 1) (As := [.int x2]) (rest := []) X hd (mX0_isParty l G ν b T hz x2 rfl) (lw_V q1014 q1016 qs30 q148 q1017) (by decide +kernel) ⟨Nat.le_of_ble_eq_true rfl, Nat.le_of_ble_eq_true rfl⟩ rfl hl.1 rfl (Nat.le_of_ble_eq_true rfl) dX0_canSet_132 ⟨Nat.le_of_ble_eq_true rfl, Nat.le_of_ble_eq_true rfl⟩ (fun H locs hz z_48 hd => ?_)
                refine lv_if_eq (tgt := 153) hx hb dX0_canSet_135 (by decide) (fun c_49 => ?_) (fun c_49 => ?_)
                · have hf := bf_it hf c_49
                  refine lv_iconst (v := 0) hx hb dX0_canSet_153 (by decide) ?_
                  exact kret _ _ _ _ _ _ ⟨hf, rfl, hz⟩ (Or.inl rfl) hd dX0_canSet_154
                · have hf := bf_ie hf c_49
                  refine lv_iload_n hx hb dX0_canSet_138 rfl (lv_at hl 3 rfl) ?_
                  refine lv_iconst (v := 0) hx hb dX0_canSet_139 (by decide) ?_
                  refine lv_sipush (v := 999) hx hb dX0_canSet_140 (by decide) ?_
                  refine bf_cSz (n := 3) (As := [.int x3, .int 0, .int 999]) (rest := []) X hd (mX0_isIn l G _ x3 0 999 rfl) (lw_S q473 q474 q148 q475) (by decide +kernel) ⟨Nat.le_of_ble_eq_true rfl, Nat.le_of_ble_eq_true rfl⟩ rfl hl.1 rfl (Nat.le_of_ble_eq_true rfl) dX0_canSet_143 ⟨Nat.le_of_ble_eq_true rfl, Nat.le_of_ble_eq_true rfl⟩ (fun r σ' H locs hF z_50 hd => ?_)
                  rw [hF.2] at hd
                  refine bf_top hF.1.symm ?_
                  rw [hF.1] at z_50
                  refine lv_if_eq (tgt := 153) hx hb dX0_canSet_146 (by decide) (fun c_51 => ?_) (fun c_51 => ?_)
                  · have hf := bf_it hf c_51
                    refine lv_iconst (v := 0) hx hb dX0_canSet_153 (by decide) ?_
                    exact kret _ _ _ _ _ _ ⟨hf, rfl, hz⟩ (Or.inl rfl) hd dX0_canSet_154
                  · have hf := bf_ie hf c_51
                    refine lv_iconst (v := 1) hx hb dX0_canSet_149 (by decide) ?_
                    refine lv_goto (tgt := 154) hx hb dX0_canSet_150 (by decide) ?_
                    exact kret _ _ _ _ _ _ ⟨hf, rfl, hz⟩ (Or.inr rfl) hd dX0_canSet_154
              · have hf := bf_ie hf c_47
                by_cases c_52 : x1 = 7
                · have hf := bf_it hf c_52
                  refine bf_top c_52.symm ?_
                  refine lv_tableIn (tgt := 155) hx hb dX0_canSet_1 (by decide) (by decide) rfl (by decide) ?_
                  refine lv_aload_n hx hb dX0_canSet_155 rfl (lv_at hl 0 rfl) ?_
                  refine lv_iload_n hx hb dX0_canSet_156 rfl (lv_at hl 2 rfl) ?_
                  refine bf_bcz (n := 1) (As := [.int x2]) (rest := []) X hd (mX0_isParty l G ν b T hz x2 rfl) (lw_V q1014 q1016 qs30 q148 q1017) (by decide +kernel) ⟨Nat.le_of_ble_eq_true rfl, Nat.le_of_ble_eq_true rfl⟩ rfl hl.1 rfl (Nat.le_of_ble_eq_true rfl) dX0_canSet_157 ⟨Nat.le_of_ble_eq_true rfl, Nat.le_of_ble_eq_true rfl⟩ (fun H locs hz z_53 hd => ?_)
                  refine lv_if_eq (tgt := 178) hx hb dX0_canSet_160 (by decide) (fun c_54 => ?_) (fun c_54 => ?_)
                  · have hf := bf_it hf c_54
                    refine lv_iconst (v := 0) hx hb dX0_canSet_178 (by decide) ?_
                    exact kret _ _ _ _ _ _ ⟨hf, rfl, hz⟩ (Or.inl rfl) hd dX0_canSet_179
                  · have hf := bf_ie hf c_54
                    refine lv_iload_n hx hb dX0_canSet_163 rfl (lv_at hl 3 rfl) ?_
                    refine lv_iconst (v := 0) hx hb dX0_canSet_164 (by decide) ?_
                    refine lv_sipush (v := 9999) hx hb dX0_canSet_165 (by decide) ?_
                    refine bf_cSz (n := 3) (As := [.int x3, .int 0, .int 9999]) (rest := []) X hd (mX0_isIn l G _ x3 0 9999 rfl) (lw_S q473 q474 q148 q475) (by decide +kernel) ⟨Nat.le_of_ble_eq_true rfl, Nat.le_of_ble_eq_true rfl⟩ rfl hl.1 rfl (Nat.le_of_ble_eq_true rfl) dX0_canSet_168 ⟨Nat.le_of_ble_eq_true rfl, Nat.le_of_ble_eq_true rfl⟩ (fun r σ' H locs hF z_55 hd => ?_)
                    rw [hF.2] at hd
                    refine bf_top hF.1.symm ?_
                    rw [hF.1] at z_55
                    refine lv_if_eq (tgt := 178) hx hb dX0_canSet_171 (by decide) (fun c_56 => ?_) (fun c_56 => ?_)
                    · have hf := bf_it hf c_56
                      refine lv_iconst (v := 0) hx hb dX0_canSet_178 (by decide) ?_
                      exact kret _ _ _ _ _ _ ⟨hf, rfl, hz⟩ (Or.inl rfl) hd dX0_canSet_179
                    · have hf := bf_ie hf c_56
                      refine lv_iconst (v := 1) hx hb dX0_canSet_174 (by decide) ?_
                      refine lv_goto (tgt := 179) hx hb dX0_canSet_175 (by decide) ?_
                      exact kret _ _ _ _ _ _ ⟨hf, rfl, hz⟩ (Or.inr rfl) hd dX0_canSet_179
                · have hf := bf_ie hf c_52
                  refine lv_tableOut (tgt := 180) hx hb dX0_canSet_1 (by have := lv_neT c_29 (a := 0) rfl; have := lv_neT c_31 (a := 1) rfl; have := lv_neT c_33 (a := 2) rfl; have := lv_neT c_35 (a := 3) rfl; have := lv_neT c_37 (a := 4) rfl; have := lv_neT c_42 (a := 5) rfl; have := lv_neT c_47 (a := 6) rfl; have := lv_neT c_52 (a := 7) rfl; omega) (by decide) ?_
                  refine lv_iconst (v := 0) hx hb dX0_canSet_180 (by decide) ?_
                  exact kret _ _ _ _ _ _ ⟨hf, rfl, hz⟩ (Or.inl rfl) hd dX0_canSet_181
def fX0_set_161 (T161 : bf_WS) : Option (Int32 × bf_WS) := bf_b2 (fX0_forgets T161) fun r_2 T_1 => some (r_2, T_1)
def fX0_set (T : bf_WS) (x1 x2 x3 : Int32) : Option (Int32 × bf_WS) := if (fX0_canSet T x1 x2 x3) = 0 then (some (0, T)) else (if x1 = 0 then (bf_l (bf_uS T 0 (bf_u3 (bf_S T 0) 0 13 0 x3)) fun T_7 => fX0_set_161 T_7) else (if x1 = 1 then (bf_l (bf_uS T 0 (bf_u3 (bf_S T 0) 0 14 0 x3)) fun T_9 => fX0_set_161 T_9) else (if x1 = 2 then (bf_l (bf_uS T 0 (bf_u3 (bf_S T 0) 0 15 0 x3)) fun T_11 => fX0_set_161 T_11) else (if x1 = 3 then (bf_l (bf_uS T 0 (bf_u3 (bf_S T 0) 0 16 0 x3)) fun T_13 => fX0_set_161 T_13) else (if x1 = 4 then (bf_c (bf_in x2 14) <| bf_l (bf_uS T 0 (bf_u3 (bf_S T 0) 2 x2.toNatClampNeg 3 x3)) fun T_16 => fX0_set_161 T_16) else (if x1 = 5 then (bf_c (bf_in x2 10) <| bf_l (bf_uS T 0 (bf_u3 (bf_S T 0) 3 x2.toNatClampNeg 0 x3)) fun T_19 => fX0_set_161 T_19) else (if x1 = 6 then (bf_c (bf_in x2 5) <| bf_l (bf_uS T 0 (bf_u3 (bf_S T 0) 1 x2.toNatClampNeg 0 x3)) fun T_22 => fX0_set_161 T_22) else (bf_c (bf_in x2 5) <| bf_l (bf_uS T 0 (bf_u3 (bf_S T 0) 1 x2.toNatClampNeg 1 x3)) fun T_24 => fX0_set_161 T_24))))))))
set_option maxHeartbeats 4000000 in
theorem mX0_set (l : Launch) (G : bf_G) (ν : bf_V) (b : Nat) (T : bf_WS) (hz : bf_wok G ν b T) (x1 x2 x3 : Int32) {r : Int32} {T' : bf_WS} (hf : fX0_set T x1 x2 x3 = some (r, T')) : bf_MZ l G yX0_set cX0_set 4 (bf_rm 4) [.ref b, .int x1, .int x2, .int x3] (bf_pB G ν b T) (fun v σ' => v = r ∧ σ' = bf_pB G ν b T' ∧ bf_wok G ν b T') := by
  refine bf_MZ.of rfl (Nat.le_of_ble_eq_true rfl) ?_
  intro p e s m below meth c' Q X hlk hnm kret hd ls hl
  have hx := X.1
  have hb := X.2.1
  have hml := X.2.2.1
  have hown := X.2.2.2.1
  have hts := X.2.2.2.2
  have hl : lv_has ls 4 [(0, .ref b), (1, .int x1), (2, .int x2), (3, .int x3)] := hl
  have J161 : ∀ (T161 : bf_WS) (H : Heap) (locs : List Loc) (ls : Array Slot), fX0_set_161 T161 = some (r, T') → bf_wok G ν b T161 → bf_Dy G s H locs (bf_pB G ν b T161) → lv_has ls 4 [(0, .ref b)] → W p l e (bf_rm 4) s m ([.ref b, .int x1, .int x2, .int x3] : List Value).toArray below meth c' H locs 0 0 Q (F0 m 161 ls []) := by
    intro T161 H locs ls hf hz hd hl
    unfold fX0_set_161 at hf
    refine lv_aload_n hx hb dX0_set_161 rfl (lv_at hl 0 rfl) ?_
    obtain ⟨r_26, T_25, er_26, hf⟩ := bf_b2_some hf
    refine bf_bcz (n := 0) (As := []) (rest := []) X hd (mX0_forgets l G ν b T161 hz  er_26) (lw_V q902 q904 qs26 q148 q905) (by decide +kernel) ⟨Nat.le_of_ble_eq_true rfl, Nat.le_of_ble_eq_true rfl⟩ rfl hl.1 rfl (Nat.le_of_ble_eq_true rfl) dX0_set_162 ⟨Nat.le_of_ble_eq_true rfl, Nat.le_of_ble_eq_true rfl⟩ (fun H locs hz z_27 hd => ?_)
    exact kret _ _ _ _ _ _ ⟨(bf_pr hf).1, congrArg (bf_pB G ν b) (bf_pr hf).2, (bf_pr hf).2 ▸ hz⟩ z_27 hd dX0_set_165
  unfold fX0_set at hf
  refine lv_aload_n hx hb dX0_set_0 rfl (lv_at hl 0 rfl) ?_
  refine lv_iload_n hx hb dX0_set_1 rfl (lv_at hl 1 rfl) ?_
  refine lv_iload_n hx hb dX0_set_2 rfl (lv_at hl 2 rfl) ?_
  refine lv_iload_n hx hb dX0_set_3 rfl (lv_at hl 3 rfl) ?_
  refine bf_bcz (n := 3) (As := [.int x1, .int x2, .int x3]) (rest := []) X hd (mX0_canSet l G ν b T hz x1 x2 x3 rfl) (lw_V q1022 q1024 qs31 q148 q1025) (by decide +kernel) ⟨Nat.le_of_ble_eq_true rfl, Nat.le_of_ble_eq_true rfl⟩ rfl hl.1 rfl (Nat.le_of_ble_eq_true rfl) dX0_set_4 ⟨Nat.le_of_ble_eq_true rfl, Nat.le_of_ble_eq_true rfl⟩ (fun H locs hz z_28 hd => ?_)
  refine lv_if_ne (tgt := 12) hx hb dX0_set_7 (by decide) (fun c_29 => ?_) (fun c_29 => ?_)
  · have hf := bf_ie hf c_29
    refine lv_iload_n hx hb dX0_set_12 rfl (lv_at hl 1 rfl) ?_
    by_cases c_30 : x1 = 0
    · have hf := bf_it hf c_30
      refine bf_top c_30.symm ?_
      refine lv_tableIn (tgt := 56) hx hb dX0_set_13 (by decide) (by decide) rfl (by decide) ?_
      refine lv_aload_n hx hb dX0_set_56 rfl (lv_at hl 0 rfl) ?_
      refine bf_yG (v := .ref (bf_ca b 0)) X hd 4 (by decide) (Or.inl q430) rfl dX0_set_57 ?_
      refine lv_iload_n hx hb dX0_set_60 rfl (lv_at hl 3 rfl) ?_
      refine bf_xC X (bf_toC (i := 0) hd (by decide)) 13 (by decide) ⟨by decide, rfl, rfl⟩ (Or.inr ⟨_, q330⟩) dX0_set_61 (fun H locs hd => ?_)
      have hd := bf_fromC (by decide) hd
      obtain ⟨T_31, eT_31, hf⟩ := bf_l_e hf
      have hd := hd.of (congrArg (bf_pB G ν b) eT_31.symm)
      have hz := bf_wok_uS hz eT_31
      refine lv_goto (tgt := 161) hx hb dX0_set_64 (by decide) ?_
      exact J161 T_31 _ _ _ hf hz hd (lv_sub hl [0] rfl)
    · have hf := bf_ie hf c_30
      by_cases c_32 : x1 = 1
      · have hf := bf_it hf c_32
        refine bf_top c_32.symm ?_
        refine lv_tableIn (tgt := 67) hx hb dX0_set_13 (by decide) (by decide) rfl (by decide) ?_
        refine lv_aload_n hx hb dX0_set_67 rfl (lv_at hl 0 rfl) ?_
        refine bf_yG (v := .ref (bf_ca b 0)) X hd 4 (by decide) (Or.inl q430) rfl dX0_set_68 ?_
        refine lv_iload_n hx hb dX0_set_71 rfl (lv_at hl 3 rfl) ?_
        refine bf_xC X (bf_toC (i := 0) hd (by decide)) 14 (by decide) ⟨by decide, rfl, rfl⟩ (Or.inr ⟨_, q332⟩) dX0_set_72 (fun H locs hd => ?_)
        have hd := bf_fromC (by decide) hd
        obtain ⟨T_33, eT_33, hf⟩ := bf_l_e hf
        have hd := hd.of (congrArg (bf_pB G ν b) eT_33.symm)
        have hz := bf_wok_uS hz eT_33
        refine lv_goto (tgt := 161) hx hb dX0_set_75 (by decide) ?_
        exact J161 T_33 _ _ _ hf hz hd (lv_sub hl [0] rfl)
      · have hf := bf_ie hf c_32
        by_cases c_34 : x1 = 2
        · have hf := bf_it hf c_34
          refine bf_top c_34.symm ?_
          refine lv_tableIn (tgt := 78) hx hb dX0_set_13 (by decide) (by decide) rfl (by decide) ?_
          refine lv_aload_n hx hb dX0_set_78 rfl (lv_at hl 0 rfl) ?_
          refine bf_yG (v := .ref (bf_ca b 0)) X hd 4 (by decide) (Or.inl q430) rfl dX0_set_79 ?_
          refine lv_iload_n hx hb dX0_set_82 rfl (lv_at hl 3 rfl) ?_
          refine bf_xC X (bf_toC (i := 0) hd (by decide)) 15 (by decide) ⟨by decide, rfl, rfl⟩ (Or.inr ⟨_, q334⟩) dX0_set_83 (fun H locs hd => ?_)
          have hd := bf_fromC (by decide) hd
          obtain ⟨T_35, eT_35, hf⟩ := bf_l_e hf
          have hd := hd.of (congrArg (bf_pB G ν b) eT_35.symm)
          have hz := bf_wok_uS hz eT_35
          refine lv_goto (tgt := 161) hx hb dX0_set_86 (by decide) ?_
          exact J161 T_35 _ _ _ hf hz hd (lv_sub hl [0] rfl)
        · have hf := bf_ie hf c_34
          by_cases c_36 : x1 = 3
          · have hf := bf_it hf c_36
            refine bf_top c_36.symm ?_
            refine lv_tableIn (tgt := 89) hx hb dX0_set_13 (by decide) (by decide) rfl (by decide) ?_
            refine lv_aload_n hx hb dX0_set_89 rfl (lv_at hl 0 rfl) ?_
            refine bf_yG (v := .ref (bf_ca b 0)) X hd 4 (by decide) (Or.inl q430) rfl dX0_set_90 ?_
            refine lv_iload_n hx hb dX0_set_93 rfl (lv_at hl 3 rfl) ?_
            refine bf_xC X (bf_toC (i := 0) hd (by decide)) 16 (by decide) ⟨by decide, rfl, rfl⟩ (Or.inr ⟨_, q336⟩) dX0_set_94 (fun H locs hd => ?_)
            have hd := bf_fromC (by decide) hd
            obtain ⟨T_37, eT_37, hf⟩ := bf_l_e hf
            have hd := hd.of (congrArg (bf_pB G ν b) eT_37.symm)
            have hz := bf_wok_uS hz eT_37
            refine lv_goto (tgt := 161) hx hb dX0_set_97 (by decide) ?_
            exact J161 T_37 _ _ _ hf hz hd (lv_sub hl [0] rfl)
          · have hf := bf_ie hf c_36
            by_cases c_38 : x1 = 4
            · have hf := bf_it hf c_38
              refine bf_top c_38.symm ?_
              refine lv_tableIn (tgt := 100) hx hb dX0_set_13 (by decide) (by decide) rfl (by decide) ?_
              refine lv_aload_n hx hb dX0_set_100 rfl (lv_at hl 0 rfl) ?_
              refine bf_yG (v := .ref (bf_ca b 0)) X hd 4 (by decide) (Or.inl q430) rfl dX0_set_101 ?_
              refine bf_rC (v := .ref (bf_ca b 0 + 2)) X hd (bf_pB_hC G ν b T (i := 0) (by decide)) 1 (by decide) (Or.inr ⟨_, q302⟩) rfl dX0_set_104 ?_
              refine lv_iload_n hx hb dX0_set_107 rfl (lv_at hl 2 rfl) ?_
              obtain ⟨g_39, hf⟩ := bf_c_some hf
              refine bf_aald (v := .ref (bf_ca b 0 + 166 + x2.toNatClampNeg)) X hd (bf_c2 (bf_pB_hC G ν b T (i := 0) (by decide))) 3 rfl rfl g_39 rfl dX0_set_108 ?_
              refine lv_iload_n hx hb dX0_set_109 rfl (lv_at hl 3 rfl) ?_
              refine bf_xT X (bf_toC (i := 0) hd (by decide)) (bf_in_lt g_39) 3 (by decide) (Or.inr ⟨_, q272⟩) dX0_set_110 (fun H locs hd => ?_)
              have hd := bf_fromC (by decide) hd
              obtain ⟨T_40, eT_40, hf⟩ := bf_l_e hf
              have hd := hd.of (congrArg (bf_pB G ν b) eT_40.symm)
              have hz := bf_wok_uS hz eT_40
              refine lv_goto (tgt := 161) hx hb dX0_set_113 (by decide) ?_
              exact J161 T_40 _ _ _ hf hz hd (lv_sub hl [0] rfl)
            · have hf := bf_ie hf c_38
              by_cases c_41 : x1 = 5
              · have hf := bf_it hf c_41
                refine bf_top c_41.symm ?_
                refine lv_tableIn (tgt := 116) hx hb dX0_set_13 (by decide) (by decide) rfl (by decide) ?_
                refine lv_aload_n hx hb dX0_set_116 rfl (lv_at hl 0 rfl) ?_
                refine bf_yG (v := .ref (bf_ca b 0)) X hd 4 (by decide) (Or.inl q430) rfl dX0_set_117 ?_
                refine bf_rC (v := .ref (bf_ca b 0 + 3)) X hd (bf_pB_hC G ν b T (i := 0) (by decide)) 2 (by decide) (Or.inr ⟨_, q305⟩) rfl dX0_set_120 ?_
                refine lv_iload_n hx hb dX0_set_123 rfl (lv_at hl 2 rfl) ?_
                obtain ⟨g_42, hf⟩ := bf_c_some hf
                refine bf_aald (v := .ref (bf_ca b 0 + 180 + 2 * x2.toNatClampNeg)) X hd (bf_c3 (bf_pB_hC G ν b T (i := 0) (by decide))) 4 rfl rfl g_42 rfl dX0_set_124 ?_
                refine lv_iload_n hx hb dX0_set_125 rfl (lv_at hl 3 rfl) ?_
                refine bf_xH X (bf_toC (i := 0) hd (by decide)) (bf_in_lt g_42) (Or.inr ⟨_, q293⟩) dX0_set_126 (fun H locs hd => ?_)
                have hd := bf_fromC (by decide) hd
                obtain ⟨T_43, eT_43, hf⟩ := bf_l_e hf
                have hd := hd.of (congrArg (bf_pB G ν b) eT_43.symm)
                have hz := bf_wok_uS hz eT_43
                refine lv_goto (tgt := 161) hx hb dX0_set_129 (by decide) ?_
                exact J161 T_43 _ _ _ hf hz hd (lv_sub hl [0] rfl)
              · have hf := bf_ie hf c_41
                by_cases c_44 : x1 = 6
                · have hf := bf_it hf c_44
                  refine bf_top c_44.symm ?_
                  refine lv_tableIn (tgt := 132) hx hb dX0_set_13 (by decide) (by decide) rfl (by decide) ?_
                  refine lv_aload_n hx hb dX0_set_132 rfl (lv_at hl 0 rfl) ?_
                  refine bf_yG (v := .ref (bf_ca b 0)) X hd 4 (by decide) (Or.inl q430) rfl dX0_set_133 ?_
                  refine bf_rC (v := .ref (bf_ca b 0 + 1)) X hd (bf_pB_hC G ν b T (i := 0) (by decide)) 0 (by decide) (Or.inr ⟨_, q300⟩) rfl dX0_set_136 ?_
                  refine lv_iload_n hx hb dX0_set_139 rfl (lv_at hl 2 rfl) ?_
                  obtain ⟨g_45, hf⟩ := bf_c_some hf
                  refine bf_aald (v := .ref (bf_ca b 0 + 161 + x2.toNatClampNeg)) X hd (bf_c1 (bf_pB_hC G ν b T (i := 0) (by decide))) 2 rfl rfl g_45 rfl dX0_set_140 ?_
                  refine lv_iload_n hx hb dX0_set_141 rfl (lv_at hl 3 rfl) ?_
                  refine bf_xP X (bf_toC (i := 0) hd (by decide)) (bf_in_lt g_45) 0 (by decide) (Or.inr ⟨_, q241⟩) dX0_set_142 (fun H locs hd => ?_)
                  have hd := bf_fromC (by decide) hd
                  obtain ⟨T_46, eT_46, hf⟩ := bf_l_e hf
                  have hd := hd.of (congrArg (bf_pB G ν b) eT_46.symm)
                  have hz := bf_wok_uS hz eT_46
                  refine lv_goto (tgt := 161) hx hb dX0_set_145 (by decide) ?_
                  exact J161 T_46 _ _ _ hf hz hd (lv_sub hl [0] rfl)
                · have hf := bf_ie hf c_44
                  refine lv_tableOut (tgt := 148) hx hb dX0_set_13 (by have := lv_neT c_30 (a := 0) rfl; have := lv_neT c_32 (a := 1) rfl; have := lv_neT c_34 (a := 2) rfl; have := lv_neT c_36 (a := 3) rfl; have := lv_neT c_38 (a := 4) rfl; have := lv_neT c_41 (a := 5) rfl; have := lv_neT c_44 (a := 6) rfl; omega) (by decide) ?_
                  refine lv_aload_n hx hb dX0_set_148 rfl (lv_at hl 0 rfl) ?_
                  refine bf_yG (v := .ref (bf_ca b 0)) X hd 4 (by decide) (Or.inl q430) rfl dX0_set_149 ?_
                  refine bf_rC (v := .ref (bf_ca b 0 + 1)) X hd (bf_pB_hC G ν b T (i := 0) (by decide)) 0 (by decide) (Or.inr ⟨_, q300⟩) rfl dX0_set_152 ?_
                  refine lv_iload_n hx hb dX0_set_155 rfl (lv_at hl 2 rfl) ?_
                  obtain ⟨g_47, hf⟩ := bf_c_some hf
                  refine bf_aald (v := .ref (bf_ca b 0 + 161 + x2.toNatClampNeg)) X hd (bf_c1 (bf_pB_hC G ν b T (i := 0) (by decide))) 2 rfl rfl g_47 rfl dX0_set_156 ?_
                  refine lv_iload_n hx hb dX0_set_157 rfl (lv_at hl 3 rfl) ?_
                  refine bf_xP X (bf_toC (i := 0) hd (by decide)) (bf_in_lt g_47) 1 (by decide) (Or.inr ⟨_, q244⟩) dX0_set_158 (fun H locs hd => ?_)
                  have hd := bf_fromC (by decide) hd
                  obtain ⟨T_48, eT_48, hf⟩ := bf_l_e hf
                  have hd := hd.of (congrArg (bf_pB G ν b) eT_48.symm)
                  have hz := bf_wok_uS hz eT_48
                  exact J161 T_48 _ _ _ hf hz hd (lv_sub hl [0] rfl)
  · have hf := bf_it hf c_29
    refine lv_iconst (v := 0) hx hb dX0_set_10 (by decide) ?_
    exact kret _ _ _ _ _ _ ⟨(bf_pr hf).1, congrArg (bf_pB G ν b) (bf_pr hf).2, (bf_pr hf).2 ▸ hz⟩ (Or.inl rfl) hd dX0_set_11
def fX0_plant (T : bf_WS) (x1 x2 x3 : Int32) : Option (Int32 × bf_WS) := if (fX0_isParty T x1) = 0 then (some ((-1), T)) else (if (fX0_isPlace x2) = 0 then (some ((-1), T)) else (if (fX0_isIn x3 0 99) = 0 then (some ((-1), T)) else (if ((bf_S T 0).1 0 11 0) = 14 then (some ((-1), T)) else (bf_b (fX0_keeps T) fun T_8 => bf_b2 (fX1_plants (bf_S T_8 0) x1 x2 x3) fun r_10 S_9 => bf_l (bf_uS T_8 0 S_9) fun T_11 => some (r_10, T_11)))))
set_option maxHeartbeats 4000000 in
theorem mX0_plant (l : Launch) (G : bf_G) (ν : bf_V) (b : Nat) (T : bf_WS) (hz : bf_wok G ν b T) (x1 x2 x3 : Int32) {r : Int32} {T' : bf_WS} (hf : fX0_plant T x1 x2 x3 = some (r, T')) : bf_MI l G yX0_plant cX0_plant 4 (bf_rm 3) [.ref b, .int x1, .int x2, .int x3] (bf_pB G ν b T) (fun v σ' => v = r ∧ σ' = bf_pB G ν b T' ∧ bf_wok G ν b T') := by
  refine bf_MI.of rfl (Nat.le_of_ble_eq_true rfl) ?_
  intro p e s m below meth c' Q X hlk hnm kret hd ls hl
  have hx := X.1
  have hb := X.2.1
  have hml := X.2.2.1
  have hown := X.2.2.2.1
  have hts := X.2.2.2.2
  have hl : lv_has ls 4 [(0, .ref b), (1, .int x1), (2, .int x2), (3, .int x3)] := hl
  unfold fX0_plant at hf
  refine lv_aload_n hx hb dX0_plant_0 rfl (lv_at hl 0 rfl) ?_
  refine lv_iload_n hx hb dX0_plant_1 rfl (lv_at hl 1 rfl) ?_
  refine bf_bcz (n := 1) (As := [.int x1]) (rest := []) X hd (mX0_isParty l G ν b T hz x1 rfl) (lw_V q1014 q1016 qs30 q148 q1017) (by decide +kernel) ⟨Nat.le_of_ble_eq_true rfl, Nat.le_of_ble_eq_true rfl⟩ rfl hl.1 rfl (Nat.le_of_ble_eq_true rfl) dX0_plant_2 ⟨Nat.le_of_ble_eq_true rfl, Nat.le_of_ble_eq_true rfl⟩ (fun H locs hz z_12 hd => ?_)
  refine lv_if_eq (tgt := 37) hx hb dX0_plant_5 (by decide) (fun c_13 => ?_) (fun c_13 => ?_)
  · have hf := bf_it hf c_13
    refine lv_iconst (v := (-1)) hx hb dX0_plant_37 (by decide) ?_
    exact kret _ _ _ _ _ _ ⟨(bf_pr hf).1, congrArg (bf_pB G ν b) (bf_pr hf).2, (bf_pr hf).2 ▸ hz⟩ hd dX0_plant_38
  · have hf := bf_ie hf c_13
    refine lv_iload_n hx hb dX0_plant_8 rfl (lv_at hl 2 rfl) ?_
    refine bf_cSz (n := 1) (As := [.int x2]) (rest := []) X hd (mX0_isPlace l G _ x2 rfl) (lw_S q1030 q1031 q148 q1032) (by decide +kernel) ⟨Nat.le_of_ble_eq_true rfl, Nat.le_of_ble_eq_true rfl⟩ rfl hl.1 rfl (Nat.le_of_ble_eq_true rfl) dX0_plant_9 ⟨Nat.le_of_ble_eq_true rfl, Nat.le_of_ble_eq_true rfl⟩ (fun r σ' H locs hF z_14 hd => ?_)
    rw [hF.2] at hd
    refine bf_top hF.1.symm ?_
    rw [hF.1] at z_14
    refine lv_if_eq (tgt := 37) hx hb dX0_plant_12 (by decide) (fun c_15 => ?_) (fun c_15 => ?_)
    · have hf := bf_it hf c_15
      refine lv_iconst (v := (-1)) hx hb dX0_plant_37 (by decide) ?_
      exact kret _ _ _ _ _ _ ⟨(bf_pr hf).1, congrArg (bf_pB G ν b) (bf_pr hf).2, (bf_pr hf).2 ▸ hz⟩ hd dX0_plant_38
    · have hf := bf_ie hf c_15
      refine lv_iload_n hx hb dX0_plant_15 rfl (lv_at hl 3 rfl) ?_
      refine lv_iconst (v := 0) hx hb dX0_plant_16 (by decide) ?_
      refine lv_bipush (v := 99) hx hb dX0_plant_17 (by decide) ?_
      refine bf_cSz (n := 3) (As := [.int x3, .int 0, .int 99]) (rest := []) X hd (mX0_isIn l G _ x3 0 99 rfl) (lw_S q473 q474 q148 q475) (by decide +kernel) ⟨Nat.le_of_ble_eq_true rfl, Nat.le_of_ble_eq_true rfl⟩ rfl hl.1 rfl (Nat.le_of_ble_eq_true rfl) dX0_plant_19 ⟨Nat.le_of_ble_eq_true rfl, Nat.le_of_ble_eq_true rfl⟩ (fun r σ' H locs hF z_16 hd => ?_)
      rw [hF.2] at hd
      refine bf_top hF.1.symm ?_
      rw [hF.1] at z_16
      refine lv_if_eq (tgt := 37) hx hb dX0_plant_22 (by decide) (fun c_17 => ?_) (fun c_17 => ?_)
      · have hf := bf_it hf c_17
        refine lv_iconst (v := (-1)) hx hb dX0_plant_37 (by decide) ?_
        exact kret _ _ _ _ _ _ ⟨(bf_pr hf).1, congrArg (bf_pB G ν b) (bf_pr hf).2, (bf_pr hf).2 ▸ hz⟩ hd dX0_plant_38
      · have hf := bf_ie hf c_17
        refine lv_aload_n hx hb dX0_plant_25 rfl (lv_at hl 0 rfl) ?_
        refine bf_yG (v := .ref (bf_ca b 0)) X hd 4 (by decide) (Or.inl q430) rfl dX0_plant_26 ?_
        refine bf_rC X hd (bf_pB_hC G ν b T (i := 0) (by decide)) 11 (by decide) (Or.inr ⟨_, q325⟩) rfl dX0_plant_29 ?_
        refine lv_bipush (v := 14) hx hb dX0_plant_32 (by decide) ?_
        refine lv_icmp_ne (tgt := 39) hx hb dX0_plant_34 (by decide) (fun c_18 => ?_) (fun c_18 => ?_)
        · have hf := bf_ie hf c_18
          refine lv_aload_n hx hb dX0_plant_39 rfl (lv_at hl 0 rfl) ?_
          obtain ⟨T_19, eT_19, hf⟩ := bf_b_some hf
          refine bf_bcv (n := 0) (As := []) (rest := []) X hd (mX0_keeps l G ν b T hz  eT_19) (lw_V q1033 q1035 qs32 q148 q1036) (by decide +kernel) ⟨Nat.le_of_ble_eq_true rfl, Nat.le_of_ble_eq_true rfl⟩ rfl hl.1 rfl (Nat.le_of_ble_eq_true rfl) dX0_plant_40 ⟨Nat.le_of_ble_eq_true rfl, Nat.le_of_ble_eq_true rfl⟩ (fun H locs hz hd => ?_)
          refine lv_aload_n hx hb dX0_plant_43 rfl (lv_at hl 0 rfl) ?_
          refine bf_yG (v := .ref (bf_ca b 0)) X hd 4 (by decide) (Or.inl q430) rfl dX0_plant_44 ?_
          refine lv_iload_n hx hb dX0_plant_47 rfl (lv_at hl 1 rfl) ?_
          refine lv_iload_n hx hb dX0_plant_48 rfl (lv_at hl 2 rfl) ?_
          refine lv_iload_n hx hb dX0_plant_49 rfl (lv_at hl 3 rfl) ?_
          obtain ⟨r_21, S_20, er_21, hf⟩ := bf_b2_some hf
          refine bf_cci (n := 3) (As := [.int x1, .int x2, .int x3]) (rest := []) X (bf_toC (i := 0) hd (by decide)) (mX1_plants l G (bf_pB G ν b T_19) (bf_ca b 0) (bf_qs T_19 0) (bf_S T_19 0) x1 x2 x3 er_21) (lw_V q1037 q1038 q1039 q149 q1040) (by decide +kernel) ⟨Nat.le_of_ble_eq_true rfl, Nat.le_of_ble_eq_true rfl⟩ rfl hl.1 rfl (Nat.le_of_ble_eq_true rfl) dX0_plant_50 ⟨Nat.le_of_ble_eq_true rfl, Nat.le_of_ble_eq_true rfl⟩ (fun H locs hd => ?_)
          have hd := bf_fromC (by decide) hd
          obtain ⟨T_22, eT_22, hf⟩ := bf_l_e hf
          have hd := hd.of (congrArg (bf_pB G ν b) eT_22.symm)
          have hz := bf_wok_uS hz eT_22
          exact kret _ _ _ _ _ _ ⟨(bf_pr hf).1, congrArg (bf_pB G ν b) (bf_pr hf).2, (bf_pr hf).2 ▸ hz⟩ hd dX0_plant_53
        · have hf := bf_it hf c_18
          refine lv_iconst (v := (-1)) hx hb dX0_plant_37 (by decide) ?_
          exact kret _ _ _ _ _ _ ⟨(bf_pr hf).1, congrArg (bf_pB G ν b) (bf_pr hf).2, (bf_pr hf).2 ▸ hz⟩ hd dX0_plant_38
def fX0_fence (T : bf_WS) (x1 x2 : Int32) : Option (Int32 × bf_WS) := if (fX0_isPlace x1) = 0 then (some (0, T)) else (if (fX1_isFenced (bf_S T 0) x1) = x2 then (some (0, T)) else (bf_b (fX0_keeps T) fun T_5 => bf_b (fX1_fences (bf_S T_5 0) x1 x2) fun S_6 => bf_l (bf_uS T_5 0 S_6) fun T_7 => some (1, T_7)))
set_option maxHeartbeats 4000000 in
theorem mX0_fence (l : Launch) (G : bf_G) (ν : bf_V) (b : Nat) (T : bf_WS) (hz : bf_wok G ν b T) (x1 x2 : Int32) {r : Int32} {T' : bf_WS} (hf : fX0_fence T x1 x2 = some (r, T')) : bf_MZ l G yX0_fence cX0_fence 3 (bf_rm 3) [.ref b, .int x1, .int x2] (bf_pB G ν b T) (fun v σ' => v = r ∧ σ' = bf_pB G ν b T' ∧ bf_wok G ν b T') := by
  refine bf_MZ.of rfl (Nat.le_of_ble_eq_true rfl) ?_
  intro p e s m below meth c' Q X hlk hnm kret hd ls hl
  have hx := X.1
  have hb := X.2.1
  have hml := X.2.2.1
  have hown := X.2.2.2.1
  have hts := X.2.2.2.2
  have hl : lv_has ls 3 [(0, .ref b), (1, .int x1), (2, .int x2)] := hl
  unfold fX0_fence at hf
  refine lv_iload_n hx hb dX0_fence_0 rfl (lv_at hl 1 rfl) ?_
  refine bf_cSz (n := 1) (As := [.int x1]) (rest := []) X hd (mX0_isPlace l G _ x1 rfl) (lw_S q1030 q1031 q148 q1032) (by decide +kernel) ⟨Nat.le_of_ble_eq_true rfl, Nat.le_of_ble_eq_true rfl⟩ rfl hl.1 rfl (Nat.le_of_ble_eq_true rfl) dX0_fence_1 ⟨Nat.le_of_ble_eq_true rfl, Nat.le_of_ble_eq_true rfl⟩ (fun r σ' H locs hF z_8 hd => ?_)
  rw [hF.2] at hd
  refine bf_top hF.1.symm ?_
  rw [hF.1] at z_8
  refine lv_if_eq (tgt := 19) hx hb dX0_fence_4 (by decide) (fun c_9 => ?_) (fun c_9 => ?_)
  · have hf := bf_it hf c_9
    refine lv_iconst (v := 0) hx hb dX0_fence_19 (by decide) ?_
    exact kret _ _ _ _ _ _ ⟨(bf_pr hf).1, congrArg (bf_pB G ν b) (bf_pr hf).2, (bf_pr hf).2 ▸ hz⟩ (Or.inl rfl) hd dX0_fence_20
  · have hf := bf_ie hf c_9
    refine lv_aload_n hx hb dX0_fence_7 rfl (lv_at hl 0 rfl) ?_
    refine bf_yG (v := .ref (bf_ca b 0)) X hd 4 (by decide) (Or.inl q430) rfl dX0_fence_8 ?_
    refine lv_iload_n hx hb dX0_fence_11 rfl (lv_at hl 1 rfl) ?_
    refine bf_ccz (n := 1) (As := [.int x1]) (rest := []) X (bf_toC (i := 0) hd (by decide)) (mX1_isFenced l G (bf_pB G ν b T) (bf_ca b 0) (bf_qs T 0) (bf_S T 0) x1 rfl) (lw_V q1049 q1050 q1051 q149 q1052) (by decide +kernel) ⟨Nat.le_of_ble_eq_true rfl, Nat.le_of_ble_eq_true rfl⟩ rfl hl.1 rfl (Nat.le_of_ble_eq_true rfl) dX0_fence_12 ⟨Nat.le_of_ble_eq_true rfl, Nat.le_of_ble_eq_true rfl⟩ (fun H locs z_10 hd => ?_)
    have hd := bf_fromC0 (by decide) hd
    refine lv_iload_n hx hb dX0_fence_15 rfl (lv_at hl 2 rfl) ?_
    refine lv_icmp_ne (tgt := 21) hx hb dX0_fence_16 (by decide) (fun c_11 => ?_) (fun c_11 => ?_)
    · have hf := bf_ie hf c_11
      refine lv_aload_n hx hb dX0_fence_21 rfl (lv_at hl 0 rfl) ?_
      obtain ⟨T_12, eT_12, hf⟩ := bf_b_some hf
      refine bf_bcv (n := 0) (As := []) (rest := []) X hd (mX0_keeps l G ν b T hz  eT_12) (lw_V q1033 q1035 qs32 q148 q1036) (by decide +kernel) ⟨Nat.le_of_ble_eq_true rfl, Nat.le_of_ble_eq_true rfl⟩ rfl hl.1 rfl (Nat.le_of_ble_eq_true rfl) dX0_fence_22 ⟨Nat.le_of_ble_eq_true rfl, Nat.le_of_ble_eq_true rfl⟩ (fun H locs hz hd => ?_)
      refine lv_aload_n hx hb dX0_fence_25 rfl (lv_at hl 0 rfl) ?_
      refine bf_yG (v := .ref (bf_ca b 0)) X hd 4 (by decide) (Or.inl q430) rfl dX0_fence_26 ?_
      refine lv_iload_n hx hb dX0_fence_29 rfl (lv_at hl 1 rfl) ?_
      refine lv_iload_n hx hb dX0_fence_30 rfl (lv_at hl 2 rfl) ?_
      obtain ⟨S_13, eS_13, hf⟩ := bf_b_some hf
      refine bf_ccv (n := 2) (As := [.int x1, .int x2]) (rest := []) X (bf_toC (i := 0) hd (by decide)) (mX1_fences l G (bf_pB G ν b T_12) (bf_ca b 0) (bf_qs T_12 0) (bf_S T_12 0) x1 x2 eS_13) (lw_V q1053 q1054 q1055 q149 q1056) (by decide +kernel) ⟨Nat.le_of_ble_eq_true rfl, Nat.le_of_ble_eq_true rfl⟩ rfl hl.1 rfl (Nat.le_of_ble_eq_true rfl) dX0_fence_31 ⟨Nat.le_of_ble_eq_true rfl, Nat.le_of_ble_eq_true rfl⟩ (fun H locs hd => ?_)
      have hd := bf_fromC (by decide) hd
      obtain ⟨T_14, eT_14, hf⟩ := bf_l_e hf
      have hd := hd.of (congrArg (bf_pB G ν b) eT_14.symm)
      have hz := bf_wok_uS hz eT_14
      refine lv_iconst (v := 1) hx hb dX0_fence_34 (by decide) ?_
      exact kret _ _ _ _ _ _ ⟨(bf_pr hf).1, congrArg (bf_pB G ν b) (bf_pr hf).2, (bf_pr hf).2 ▸ hz⟩ (Or.inr rfl) hd dX0_fence_35
    · have hf := bf_it hf c_11
      refine lv_iconst (v := 0) hx hb dX0_fence_19 (by decide) ?_
      exact kret _ _ _ _ _ _ ⟨(bf_pr hf).1, congrArg (bf_pB G ν b) (bf_pr hf).2, (bf_pr hf).2 ▸ hz⟩ (Or.inl rfl) hd dX0_fence_20
def fX0_boil (T : bf_WS) (x1 x2 : Int32) : Option (Int32 × bf_WS) := if (fX0_isParty T x1) = 0 then (some ((-1), T)) else (if (fX0_isIn x2 1 99) = 0 then (some ((-1), T)) else (bf_b (fX0_keeps T) fun T_5 => bf_b2 (fX1_boils (bf_S T_5 0) x1 x2) fun r_7 S_6 => bf_l (bf_uS T_5 0 S_6) fun T_8 => some (r_7, T_8)))
set_option maxHeartbeats 4000000 in
theorem mX0_boil (l : Launch) (G : bf_G) (ν : bf_V) (b : Nat) (T : bf_WS) (hz : bf_wok G ν b T) (x1 x2 : Int32) {r : Int32} {T' : bf_WS} (hf : fX0_boil T x1 x2 = some (r, T')) : bf_MI l G yX0_boil cX0_boil 3 (bf_rm 3) [.ref b, .int x1, .int x2] (bf_pB G ν b T) (fun v σ' => v = r ∧ σ' = bf_pB G ν b T' ∧ bf_wok G ν b T') := by
  refine bf_MI.of rfl (Nat.le_of_ble_eq_true rfl) ?_
  intro p e s m below meth c' Q X hlk hnm kret hd ls hl
  have hx := X.1
  have hb := X.2.1
  have hml := X.2.2.1
  have hown := X.2.2.2.1
  have hts := X.2.2.2.2
  have hl : lv_has ls 3 [(0, .ref b), (1, .int x1), (2, .int x2)] := hl
  unfold fX0_boil at hf
  refine lv_aload_n hx hb dX0_boil_0 rfl (lv_at hl 0 rfl) ?_
  refine lv_iload_n hx hb dX0_boil_1 rfl (lv_at hl 1 rfl) ?_
  refine bf_bcz (n := 1) (As := [.int x1]) (rest := []) X hd (mX0_isParty l G ν b T hz x1 rfl) (lw_V q1014 q1016 qs30 q148 q1017) (by decide +kernel) ⟨Nat.le_of_ble_eq_true rfl, Nat.le_of_ble_eq_true rfl⟩ rfl hl.1 rfl (Nat.le_of_ble_eq_true rfl) dX0_boil_2 ⟨Nat.le_of_ble_eq_true rfl, Nat.le_of_ble_eq_true rfl⟩ (fun H locs hz z_9 hd => ?_)
  refine lv_if_eq (tgt := 18) hx hb dX0_boil_5 (by decide) (fun c_10 => ?_) (fun c_10 => ?_)
  · have hf := bf_it hf c_10
    refine lv_iconst (v := (-1)) hx hb dX0_boil_18 (by decide) ?_
    exact kret _ _ _ _ _ _ ⟨(bf_pr hf).1, congrArg (bf_pB G ν b) (bf_pr hf).2, (bf_pr hf).2 ▸ hz⟩ hd dX0_boil_19
  · have hf := bf_ie hf c_10
    refine lv_iload_n hx hb dX0_boil_8 rfl (lv_at hl 2 rfl) ?_
    refine lv_iconst (v := 1) hx hb dX0_boil_9 (by decide) ?_
    refine lv_bipush (v := 99) hx hb dX0_boil_10 (by decide) ?_
    refine bf_cSz (n := 3) (As := [.int x2, .int 1, .int 99]) (rest := []) X hd (mX0_isIn l G _ x2 1 99 rfl) (lw_S q473 q474 q148 q475) (by decide +kernel) ⟨Nat.le_of_ble_eq_true rfl, Nat.le_of_ble_eq_true rfl⟩ rfl hl.1 rfl (Nat.le_of_ble_eq_true rfl) dX0_boil_12 ⟨Nat.le_of_ble_eq_true rfl, Nat.le_of_ble_eq_true rfl⟩ (fun r σ' H locs hF z_11 hd => ?_)
    rw [hF.2] at hd
    refine bf_top hF.1.symm ?_
    rw [hF.1] at z_11
    refine lv_if_ne (tgt := 20) hx hb dX0_boil_15 (by decide) (fun c_12 => ?_) (fun c_12 => ?_)
    · have hf := bf_ie hf c_12
      refine lv_aload_n hx hb dX0_boil_20 rfl (lv_at hl 0 rfl) ?_
      obtain ⟨T_13, eT_13, hf⟩ := bf_b_some hf
      refine bf_bcv (n := 0) (As := []) (rest := []) X hd (mX0_keeps l G ν b T hz  eT_13) (lw_V q1033 q1035 qs32 q148 q1036) (by decide +kernel) ⟨Nat.le_of_ble_eq_true rfl, Nat.le_of_ble_eq_true rfl⟩ rfl hl.1 rfl (Nat.le_of_ble_eq_true rfl) dX0_boil_21 ⟨Nat.le_of_ble_eq_true rfl, Nat.le_of_ble_eq_true rfl⟩ (fun H locs hz hd => ?_)
      refine lv_aload_n hx hb dX0_boil_24 rfl (lv_at hl 0 rfl) ?_
      refine bf_yG (v := .ref (bf_ca b 0)) X hd 4 (by decide) (Or.inl q430) rfl dX0_boil_25 ?_
      refine lv_iload_n hx hb dX0_boil_28 rfl (lv_at hl 1 rfl) ?_
      refine lv_iload_n hx hb dX0_boil_29 rfl (lv_at hl 2 rfl) ?_
      obtain ⟨r_15, S_14, er_15, hf⟩ := bf_b2_some hf
      refine bf_cci (n := 2) (As := [.int x1, .int x2]) (rest := []) X (bf_toC (i := 0) hd (by decide)) (mX1_boils l G (bf_pB G ν b T_13) (bf_ca b 0) (bf_qs T_13 0) (bf_S T_13 0) x1 x2 er_15) (lw_V q1061 q1062 q1063 q149 q1064) (by decide +kernel) ⟨Nat.le_of_ble_eq_true rfl, Nat.le_of_ble_eq_true rfl⟩ rfl hl.1 rfl (Nat.le_of_ble_eq_true rfl) dX0_boil_30 ⟨Nat.le_of_ble_eq_true rfl, Nat.le_of_ble_eq_true rfl⟩ (fun H locs hd => ?_)
      have hd := bf_fromC (by decide) hd
      obtain ⟨T_16, eT_16, hf⟩ := bf_l_e hf
      have hd := hd.of (congrArg (bf_pB G ν b) eT_16.symm)
      have hz := bf_wok_uS hz eT_16
      exact kret _ _ _ _ _ _ ⟨(bf_pr hf).1, congrArg (bf_pB G ν b) (bf_pr hf).2, (bf_pr hf).2 ▸ hz⟩ hd dX0_boil_33
    · have hf := bf_it hf c_12
      refine lv_iconst (v := (-1)) hx hb dX0_boil_18 (by decide) ?_
      exact kret _ _ _ _ _ _ ⟨(bf_pr hf).1, congrArg (bf_pB G ν b) (bf_pr hf).2, (bf_pr hf).2 ▸ hz⟩ hd dX0_boil_19
