set_option maxRecDepth 100000
def fX1_bear (D : bf_D) (T : bf_CS) (i1 : Nat) : Option (Int32 × bf_CS) := bf_b (fX1_asks T (some i1) (T.1 2 i1 0) 0 0 0) fun T_1 => bf_b (fX1_tells D T_1 7 ((T_1.1 2 i1 2) / 5) 99) fun r_2 => some (r_2, T_1)
set_option maxHeartbeats 4000000 in
theorem mX1_bear (l : Launch) (G : bf_G) (ν : bf_V) (c : Nat) (q : Nat → Nat) (D : bf_D) (hz : bf_Z G ν c q D) (T : bf_CS) (i1 : Nat) (hi1 : i1 < 14) {r : Int32} {T' : bf_CS} (hf : fX1_bear D T i1 = some (r, T')) : bf_MI l G yX1_bear cX1_bear 2 (bf_rm 431) [.ref c, .ref (c + 166 + i1)] (bf_pC G ν c q T) (fun v σ' => v = r ∧ σ' = bf_pC G ν c q T') := by
  refine bf_MI.of rfl (Nat.le_of_ble_eq_true rfl) ?_
  intro p e s m below meth c' Q X hlk hnm kret hd ls hl
  have hx := X.1
  have hb := X.2.1
  have hml := X.2.2.1
  have hown := X.2.2.2.1
  have hts := X.2.2.2.2
  have hl : lv_has ls 2 [(0, .ref c), (1, .ref (c + 166 + i1))] := hl
  unfold fX1_bear at hf
  refine lv_aload_n hx hb dX1_bear_0 rfl (lv_at hl 0 rfl) ?_
  refine lv_aload_n hx hb dX1_bear_1 rfl (lv_at hl 1 rfl) ?_
  refine lv_aload_n hx hb dX1_bear_2 rfl (lv_at hl 1 rfl) ?_
  refine bf_rT X hd (bf_pC_hC G ν c q T) hi1 0 (by decide) (Or.inr ⟨_, q262⟩) dX1_bear_3 ?_
  refine lv_iconst (v := 0) hx hb dX1_bear_6 (by decide) ?_
  refine lv_iconst (v := 0) hx hb dX1_bear_7 (by decide) ?_
  refine lv_iconst (v := 0) hx hb dX1_bear_8 (by decide) ?_
  obtain ⟨T_3, eT_3, hf⟩ := bf_b_some hf
  refine bf_ccv (n := 5) (As := [va_rf (Option.map (fun t => c + 166 + t) (some i1)), .int (T.1 2 i1 0), .int 0, .int 0, .int 0]) (rest := []) X hd (mX1_asks l G ν c q T (some i1) (T.1 2 i1 0) 0 0 0 eT_3) (lw_V q1135 q1137 qs34 q149 q1138) (by decide +kernel) ⟨Nat.le_of_ble_eq_true rfl, Nat.le_of_ble_eq_true rfl⟩ rfl hl.1 rfl (Nat.le_of_ble_eq_true rfl) dX1_bear_9 ⟨Nat.le_of_ble_eq_true rfl, Nat.le_of_ble_eq_true rfl⟩ (fun H locs hd => ?_)
  refine lv_aload_n hx hb dX1_bear_12 rfl (lv_at hl 0 rfl) ?_
  refine lv_bipush (v := 7) hx hb dX1_bear_13 (by decide) ?_
  refine lv_aload_n hx hb dX1_bear_15 rfl (lv_at hl 1 rfl) ?_
  refine bf_rT X hd (bf_pC_hC G ν c q T_3) hi1 2 (by decide) (Or.inr ⟨_, q268⟩) dX1_bear_16 ?_
  refine lv_iconst (v := 5) hx hb dX1_bear_19 (by decide) ?_
  refine lv_idiv hx hb dX1_bear_20 (by decide) ?_
  refine lv_bipush (v := 99) hx hb dX1_bear_21 (by decide) ?_
  obtain ⟨r_4, er_4, hf⟩ := bf_b_some hf
  refine bf_cci (n := 3) (As := [.int 7, .int ((T_3.1 2 i1 2) / 5), .int 99]) (rest := []) X hd (mX1_tells l G ν c q D hz T_3 7 ((T_3.1 2 i1 2) / 5) 99 er_4) (lw_V q1139 q1141 qs35 q149 q1142) (by decide +kernel) ⟨Nat.le_of_ble_eq_true rfl, Nat.le_of_ble_eq_true rfl⟩ rfl hl.1 rfl (Nat.le_of_ble_eq_true rfl) dX1_bear_23 ⟨Nat.le_of_ble_eq_true rfl, Nat.le_of_ble_eq_true rfl⟩ (fun H locs hd => ?_)
  exact kret _ _ _ _ _ _ ⟨(bf_pr hf).1, congrArg (bf_pC G ν c q) (bf_pr hf).2⟩ hd dX1_bear_26
def fX1_want (D : bf_D) (T : bf_CS) (i1 : Nat) : Option (Int32 × bf_CS) := bf_b (fX1_asks T none (-1) (T.1 3 i1 0) 0 0) fun T_1 => bf_b (fX1_tells D T_1 8 (T_1.1 3 i1 0) 20) fun r_2 => some (r_2, T_1)
set_option maxHeartbeats 4000000 in
theorem mX1_want (l : Launch) (G : bf_G) (ν : bf_V) (c : Nat) (q : Nat → Nat) (D : bf_D) (hz : bf_Z G ν c q D) (T : bf_CS) (i1 : Nat) (hi1 : i1 < 10) {r : Int32} {T' : bf_CS} (hf : fX1_want D T i1 = some (r, T')) : bf_MI l G yX1_want cX1_want 2 (bf_rm 431) [.ref c, .ref (c + 180 + 2 * i1)] (bf_pC G ν c q T) (fun v σ' => v = r ∧ σ' = bf_pC G ν c q T') := by
  refine bf_MI.of rfl (Nat.le_of_ble_eq_true rfl) ?_
  intro p e s m below meth c' Q X hlk hnm kret hd ls hl
  have hx := X.1
  have hb := X.2.1
  have hml := X.2.2.1
  have hown := X.2.2.2.1
  have hts := X.2.2.2.2
  have hl : lv_has ls 2 [(0, .ref c), (1, .ref (c + 180 + 2 * i1))] := hl
  unfold fX1_want at hf
  refine lv_aload_n hx hb dX1_want_0 rfl (lv_at hl 0 rfl) ?_
  refine lv_null hx hb dX1_want_1 ?_
  refine lv_iconst (v := (-1)) hx hb dX1_want_2 (by decide) ?_
  refine lv_aload_n hx hb dX1_want_3 rfl (lv_at hl 1 rfl) ?_
  refine bf_rH X hd (bf_pC_hC G ν c q T) hi1 (Or.inr ⟨_, q292⟩) dX1_want_4 ?_
  refine lv_iconst (v := 0) hx hb dX1_want_7 (by decide) ?_
  refine lv_iconst (v := 0) hx hb dX1_want_8 (by decide) ?_
  obtain ⟨T_3, eT_3, hf⟩ := bf_b_some hf
  refine bf_ccv (n := 5) (As := [va_rf (Option.map (fun t => c + 166 + t) none), .int (-1), .int (T.1 3 i1 0), .int 0, .int 0]) (rest := []) X hd (mX1_asks l G ν c q T none (-1) (T.1 3 i1 0) 0 0 eT_3) (lw_V q1135 q1137 qs34 q149 q1138) (by decide +kernel) ⟨Nat.le_of_ble_eq_true rfl, Nat.le_of_ble_eq_true rfl⟩ rfl hl.1 rfl (Nat.le_of_ble_eq_true rfl) dX1_want_9 ⟨Nat.le_of_ble_eq_true rfl, Nat.le_of_ble_eq_true rfl⟩ (fun H locs hd => ?_)
  refine lv_aload_n hx hb dX1_want_12 rfl (lv_at hl 0 rfl) ?_
  refine lv_bipush (v := 8) hx hb dX1_want_13 (by decide) ?_
  refine lv_aload_n hx hb dX1_want_15 rfl (lv_at hl 1 rfl) ?_
  refine bf_rH X hd (bf_pC_hC G ν c q T_3) hi1 (Or.inr ⟨_, q292⟩) dX1_want_16 ?_
  refine lv_bipush (v := 20) hx hb dX1_want_19 (by decide) ?_
  obtain ⟨r_4, er_4, hf⟩ := bf_b_some hf
  refine bf_cci (n := 3) (As := [.int 8, .int (T_3.1 3 i1 0), .int 20]) (rest := []) X hd (mX1_tells l G ν c q D hz T_3 8 (T_3.1 3 i1 0) 20 er_4) (lw_V q1139 q1141 qs35 q149 q1142) (by decide +kernel) ⟨Nat.le_of_ble_eq_true rfl, Nat.le_of_ble_eq_true rfl⟩ rfl hl.1 rfl (Nat.le_of_ble_eq_true rfl) dX1_want_21 ⟨Nat.le_of_ble_eq_true rfl, Nat.le_of_ble_eq_true rfl⟩ (fun H locs hd => ?_)
  exact kret _ _ _ _ _ _ ⟨(bf_pr hf).1, congrArg (bf_pC G ν c q) (bf_pr hf).2⟩ hd dX1_want_24
def fX1_count_22 (D : bf_D) (t22_0 : Int32) (t22_1 : Int32) (t22_2 : Int32) (t22_3 : Int32) (t22_4 : Option Nat) (T22 : bf_CS) : Option (Int32 × bf_CS) := bf_b (fX1_asks T22 t22_4 t22_3 t22_2 t22_1 t22_0) fun T_1 => bf_b (fX1_tells D T_1 9 1 9) fun r_2 => some (r_2, T_1)
def fX1_count (D : bf_D) (T : bf_CS) (i1 : Nat) (x2 : Int32) (t3 : Option Nat) : Option (Int32 × bf_CS) := bf_c (bf_in x2 5) <| bf_q t3 (fX1_count_22 D 1 (T.1 4 i1 x2.toNatClampNeg) (T.1 3 i1 0) x2 t3 T) (fun t_4 => fX1_count_22 D 0 (T.1 4 i1 x2.toNatClampNeg) (T.1 3 i1 0) x2 t3 T)
set_option maxHeartbeats 4000000 in
theorem mX1_count (l : Launch) (G : bf_G) (ν : bf_V) (c : Nat) (q : Nat → Nat) (D : bf_D) (hz : bf_Z G ν c q D) (T : bf_CS) (i1 : Nat) (hi1 : i1 < 10) (x2 : Int32) (t3 : Option Nat) {r : Int32} {T' : bf_CS} (hf : fX1_count D T i1 x2 t3 = some (r, T')) : bf_MI l G yX1_count cX1_count 4 (bf_rm 431) [.ref c, .ref (c + 180 + 2 * i1), .int x2, va_rf (Option.map (fun t => c + 166 + t) t3)] (bf_pC G ν c q T) (fun v σ' => v = r ∧ σ' = bf_pC G ν c q T') := by
  refine bf_MI.of rfl (by cases t3 <;> exact Nat.le_of_ble_eq_true rfl) ?_
  intro p e s m below meth c' Q X hlk hnm kret hd ls hl
  have hx := X.1
  have hb := X.2.1
  have hml := X.2.2.1
  have hown := X.2.2.2.1
  have hts := X.2.2.2.2
  have hl : lv_has ls 4 [(0, .ref c), (1, .ref (c + 180 + 2 * i1)), (2, .int x2), (3, va_rf (Option.map (fun t => c + 166 + t) t3))] := by cases t3 <;> exact hl
  have J22 : ∀ (t22_0 : Int32) (t22_1 : Int32) (t22_2 : Int32) (t22_3 : Int32) (t22_4 : Option Nat) (T22 : bf_CS) (H : Heap) (locs : List Loc) (ls : Array Slot), fX1_count_22 D t22_0 t22_1 t22_2 t22_3 t22_4 T22 = some (r, T') → bf_Dy G s H locs (bf_pC G ν c q T22) → lv_has ls 4 [(0, .ref c)] → W p l e (bf_rm 431) s m ([.ref c, .ref (c + 180 + 2 * i1), .int x2, va_rf (Option.map (fun t => c + 166 + t) t3)] : List Value).toArray below meth c' H locs 0 0 Q (F0 m 22 ls [.int t22_0, .int t22_1, .int t22_2, .int t22_3, va_rf (Option.map (fun t => c + 166 + t) t22_4), .ref c]) := by
    intro t22_0 t22_1 t22_2 t22_3 t22_4 T22 H locs ls hf hd hl
    unfold fX1_count_22 at hf
    obtain ⟨T_5, eT_5, hf⟩ := bf_b_some hf
    refine bf_ccv (n := 5) (As := [va_rf (Option.map (fun t => c + 166 + t) t22_4), .int t22_3, .int t22_2, .int t22_1, .int t22_0]) (rest := []) X hd (mX1_asks l G ν c q T22 t22_4 t22_3 t22_2 t22_1 t22_0 eT_5) (lw_V q1135 q1137 qs34 q149 q1138) (by decide +kernel) ⟨Nat.le_of_ble_eq_true rfl, Nat.le_of_ble_eq_true rfl⟩ rfl hl.1 rfl (Nat.le_of_ble_eq_true rfl) dX1_count_22 ⟨Nat.le_of_ble_eq_true rfl, Nat.le_of_ble_eq_true rfl⟩ (fun H locs hd => ?_)
    refine lv_aload_n hx hb dX1_count_25 rfl (lv_at hl 0 rfl) ?_
    refine lv_bipush (v := 9) hx hb dX1_count_26 (by decide) ?_
    refine lv_iconst (v := 1) hx hb dX1_count_28 (by decide) ?_
    refine lv_bipush (v := 9) hx hb dX1_count_29 (by decide) ?_
    obtain ⟨r_6, er_6, hf⟩ := bf_b_some hf
    refine bf_cci (n := 3) (As := [.int 9, .int 1, .int 9]) (rest := []) X hd (mX1_tells l G ν c q D hz T_5 9 1 9 er_6) (lw_V q1139 q1141 qs35 q149 q1142) (by decide +kernel) ⟨Nat.le_of_ble_eq_true rfl, Nat.le_of_ble_eq_true rfl⟩ rfl hl.1 rfl (Nat.le_of_ble_eq_true rfl) dX1_count_31 ⟨Nat.le_of_ble_eq_true rfl, Nat.le_of_ble_eq_true rfl⟩ (fun H locs hd => ?_)
    exact kret _ _ _ _ _ _ ⟨(bf_pr hf).1, congrArg (bf_pC G ν c q) (bf_pr hf).2⟩ hd dX1_count_34
  unfold fX1_count at hf
  refine lv_aload_n hx hb dX1_count_0 rfl (lv_at hl 0 rfl) ?_
  refine bf_aload_n hx hb dX1_count_1 rfl (lv_at hl 3 rfl) ?_
  refine lv_iload_n hx hb dX1_count_2 rfl (lv_at hl 2 rfl) ?_
  refine lv_aload_n hx hb dX1_count_3 rfl (lv_at hl 1 rfl) ?_
  refine bf_rH X hd (bf_pC_hC G ν c q T) hi1 (Or.inr ⟨_, q292⟩) dX1_count_4 ?_
  refine lv_aload_n hx hb dX1_count_7 rfl (lv_at hl 1 rfl) ?_
  refine bf_rE X hd (bf_pC_hC G ν c q T) hi1 (Or.inr ⟨_, q288⟩) dX1_count_8 ?_
  refine lv_iload_n hx hb dX1_count_11 rfl (lv_at hl 2 rfl) ?_
  obtain ⟨g_7, hf⟩ := bf_c_some hf
  refine bf_iald X hd (bf_cta (bf_pC_hC G ν c q T) hi1) g_7 dX1_count_12 ?_
  refine bf_aload_n hx hb dX1_count_13 rfl (lv_at hl 3 rfl) ?_
  rcases bf_opt (t3) with et_8 | ⟨t_8, et_8⟩
  · have hf := bf_q_n hf et_8
    refine bf_ift (q := Option.map (fun t => c + 166 + t) t3) (q' := none) (by rw [et_8]; rfl) ?_
    refine lv_ifnonnullN hx hb dX1_count_14 ?_
    refine lv_iconst (v := 1) hx hb dX1_count_17 (by decide) ?_
    refine lv_goto (tgt := 22) hx hb dX1_count_18 (by decide) ?_
    exact J22 1 (T.1 4 i1 x2.toNatClampNeg) (T.1 3 i1 0) x2 t3 T _ _ _ hf hd (lv_sub hl [0] rfl)
  · have hf := bf_q_s hf et_8
    refine bf_ift (q := Option.map (fun t => c + 166 + t) t3) (q' := some (c + 166 + t_8)) (by rw [et_8]; rfl) ?_
    refine lv_ifnonnull (tgt := 21) hx hb dX1_count_14 (by decide) ?_
    refine lv_iconst (v := 0) hx hb dX1_count_21 (by decide) ?_
    exact J22 0 (T.1 4 i1 x2.toNatClampNeg) (T.1 3 i1 0) x2 t3 T _ _ _ hf hd (lv_sub hl [0] rfl)
def fX1_eats (D : bf_D) (T : bf_CS) (x1 : Int32) (i2 : Nat) : Option (Int32 × bf_CS) := bf_c (bf_in x1 10) <| bf_b2 (fX1_count D T x1.toNatClampNeg (T.1 2 i2 0) (some i2)) fun r_3 T_2 => bf_b (fX1_votes T_2 (T.1 2 i2 0) r_3) fun T_4 => bf_l (bf_u3 T_4 2 i2 3 ((T_4.1 2 i2 3) - 1)) fun T_5 => if (T_5.1 0 25 0) = 0 then (if (T_5.1 0 13 0) = 0 then (some (1, T_5)) else (bf_b2 (fX1_draw T_5 1000) fun r_9 T_8 => if r_9 < (T_8.1 0 13 0) then (bf_c (bf_in (T_8.1 2 i2 0) 5) <| bf_c (bf_in (T_8.1 2 i2 0) 5) <| bf_l (bf_u3 T_8 4 x1.toNatClampNeg (T_8.1 2 i2 0).toNatClampNeg (bf_mmax 0 ((T_8.1 4 x1.toNatClampNeg (T_8.1 2 i2 0).toNatClampNeg) - 2))) fun T_13 => bf_b (fX1_notes T_13 4 x1 (T_13.1 2 i2 0)) fun T_14 => some (0, T_14)) else (some (1, T_8)))) else (some (1, T_5))
set_option maxHeartbeats 4000000 in
theorem mX1_eats (l : Launch) (G : bf_G) (ν : bf_V) (c : Nat) (q : Nat → Nat) (D : bf_D) (hz : bf_Z G ν c q D) (T : bf_CS) (x1 : Int32) (i2 : Nat) (hi2 : i2 < 14) {r : Int32} {T' : bf_CS} (hf : fX1_eats D T x1 i2 = some (r, T')) : bf_MZ l G yX1_eats cX1_eats 4 (bf_rm 432) [.ref c, .int x1, .ref (c + 166 + i2)] (bf_pC G ν c q T) (fun v σ' => v = r ∧ σ' = bf_pC G ν c q T') := by
  refine bf_MZ.of rfl (Nat.le_of_ble_eq_true rfl) ?_
  intro p e s m below meth c' Q X hlk hnm kret hd ls hl
  have hx := X.1
  have hb := X.2.1
  have hml := X.2.2.1
  have hown := X.2.2.2.1
  have hts := X.2.2.2.2
  have hl : lv_has ls 4 [(0, .ref c), (1, .int x1), (2, .ref (c + 166 + i2))] := hl
  unfold fX1_eats at hf
  refine lv_aload_n hx hb dX1_eats_0 rfl (lv_at hl 0 rfl) ?_
  refine bf_rC (v := .ref (c + 3)) X hd (bf_pC_hC G ν c q T) 2 (by decide) (Or.inl q303) rfl dX1_eats_1 ?_
  refine lv_iload_n hx hb dX1_eats_4 rfl (lv_at hl 1 rfl) ?_
  obtain ⟨g_15, hf⟩ := bf_c_some hf
  refine bf_aald (v := .ref (c + 180 + 2 * x1.toNatClampNeg)) X hd (bf_c3 (bf_pC_hC G ν c q T)) 4 rfl rfl g_15 rfl dX1_eats_5 ?_
  refine lv_astore_n (lv' := [(3, .ref (c + 180 + 2 * x1.toNatClampNeg)), (0, .ref c), (1, .int x1), (2, .ref (c + 166 + i2))]) hx hb dX1_eats_6 rfl hl (by decide) rfl (fun ls hl => ?_)
  refine lv_aload_n hx hb dX1_eats_7 rfl (lv_at hl 1 rfl) ?_
  refine lv_aload_n hx hb dX1_eats_8 rfl (lv_at hl 3 rfl) ?_
  refine bf_rT X hd (bf_pC_hC G ν c q T) hi2 0 (by decide) (Or.inr ⟨_, q262⟩) dX1_eats_9 ?_
  refine lv_aload_n hx hb dX1_eats_12 rfl (lv_at hl 1 rfl) ?_
  refine lv_aload_n hx hb dX1_eats_13 rfl (lv_at hl 0 rfl) ?_
  refine lv_aload_n hx hb dX1_eats_14 rfl (lv_at hl 3 rfl) ?_
  refine bf_rT X hd (bf_pC_hC G ν c q T) hi2 0 (by decide) (Or.inr ⟨_, q262⟩) dX1_eats_15 ?_
  refine lv_aload_n hx hb dX1_eats_18 rfl (lv_at hl 3 rfl) ?_
  obtain ⟨r_17, T_16, er_17, hf⟩ := bf_b2_some hf
  refine bf_cci (n := 3) (As := [.ref (c + 180 + 2 * x1.toNatClampNeg), .int (T.1 2 i2 0), va_rf (Option.map (fun t => c + 166 + t) (some i2))]) (rest := [.int (T.1 2 i2 0), .ref c]) X hd (mX1_count l G ν c q D hz T x1.toNatClampNeg (bf_in_lt g_15) (T.1 2 i2 0) (some i2) er_17) (lw_V q1193 q1195 qs40 q149 q1196) (by decide +kernel) ⟨Nat.le_of_ble_eq_true rfl, Nat.le_of_ble_eq_true rfl⟩ rfl hl.1 rfl (Nat.le_of_ble_eq_true rfl) dX1_eats_19 ⟨Nat.le_of_ble_eq_true rfl, Nat.le_of_ble_eq_true rfl⟩ (fun H locs hd => ?_)
  obtain ⟨T_18, eT_18, hf⟩ := bf_b_some hf
  refine bf_ccv (n := 2) (As := [.int (T.1 2 i2 0), .int r_17]) (rest := []) X hd (mX1_votes l G ν c q T_16 (T.1 2 i2 0) r_17 eT_18) (lw_V q1197 q1199 qs41 q149 q1200) (by decide +kernel) ⟨Nat.le_of_ble_eq_true rfl, Nat.le_of_ble_eq_true rfl⟩ rfl hl.1 rfl (Nat.le_of_ble_eq_true rfl) dX1_eats_22 ⟨Nat.le_of_ble_eq_true rfl, Nat.le_of_ble_eq_true rfl⟩ (fun H locs hd => ?_)
  refine lv_aload_n hx hb dX1_eats_25 rfl (lv_at hl 3 rfl) ?_
  refine lv_dup hx hb dX1_eats_26 rfl ?_
  refine bf_rT X hd (bf_pC_hC G ν c q T_18) hi2 3 (by decide) (Or.inr ⟨_, q271⟩) dX1_eats_27 ?_
  refine lv_iconst (v := 1) hx hb dX1_eats_30 (by decide) ?_
  refine lv_isub hx hb dX1_eats_31 ?_
  refine bf_xT X hd hi2 3 (by decide) (Or.inr ⟨_, q271⟩) dX1_eats_32 (fun H locs hd => ?_)
  obtain ⟨T_19, eT_19, hf⟩ := bf_l_e hf
  have hd := hd.of (congrArg (bf_pC G ν c q) eT_19.symm)
  refine lv_aload_n hx hb dX1_eats_35 rfl (lv_at hl 1 rfl) ?_
  refine bf_rC X hd (bf_pC_hC G ν c q T_19) 25 (by decide) (Or.inl q354) rfl dX1_eats_36 ?_
  refine lv_if_ne (tgt := 63) hx hb dX1_eats_39 (by decide) (fun c_20 => ?_) (fun c_20 => ?_)
  · have hf := bf_ie hf c_20
    refine lv_iconst (v := 1) hx hb dX1_eats_63 (by decide) ?_
    exact kret _ _ _ _ _ _ ⟨(bf_pr hf).1, congrArg (bf_pC G ν c q) (bf_pr hf).2⟩ (Or.inr rfl) hd dX1_eats_64
  · have hf := bf_it hf c_20
    refine lv_aload_n hx hb dX1_eats_42 rfl (lv_at hl 1 rfl) ?_
    refine bf_rC X hd (bf_pC_hC G ν c q T_19) 13 (by decide) (Or.inl q329) rfl dX1_eats_43 ?_
    refine lv_if_eq (tgt := 63) hx hb dX1_eats_46 (by decide) (fun c_21 => ?_) (fun c_21 => ?_)
    · have hf := bf_it hf c_21
      refine lv_iconst (v := 1) hx hb dX1_eats_63 (by decide) ?_
      exact kret _ _ _ _ _ _ ⟨(bf_pr hf).1, congrArg (bf_pC G ν c q) (bf_pr hf).2⟩ (Or.inr rfl) hd dX1_eats_64
    · have hf := bf_ie hf c_21
      refine lv_aload_n hx hb dX1_eats_49 rfl (lv_at hl 1 rfl) ?_
      refine lv_sipush (v := 1000) hx hb dX1_eats_50 (by decide) ?_
      obtain ⟨r_23, T_22, er_23, hf⟩ := bf_b2_some hf
      refine bf_cci (n := 1) (As := [.int 1000]) (rest := []) X hd (mX1_draw l G ν c q T_19 1000 er_23) (lw_V q1201 q1202 q1203 q149 q1204) (by decide +kernel) ⟨Nat.le_of_ble_eq_true rfl, Nat.le_of_ble_eq_true rfl⟩ rfl hl.1 rfl (Nat.le_of_ble_eq_true rfl) dX1_eats_53 ⟨Nat.le_of_ble_eq_true rfl, Nat.le_of_ble_eq_true rfl⟩ (fun H locs hd => ?_)
      refine lv_aload_n hx hb dX1_eats_56 rfl (lv_at hl 1 rfl) ?_
      refine bf_rC X hd (bf_pC_hC G ν c q T_22) 13 (by decide) (Or.inl q329) rfl dX1_eats_57 ?_
      refine lv_icmp_lt (tgt := 65) hx hb dX1_eats_60 (by decide) (fun c_24 => ?_) (fun c_24 => ?_)
      · have hf := bf_it hf c_24
        refine lv_aload_n hx hb dX1_eats_65 rfl (lv_at hl 0 rfl) ?_
        refine bf_rE X hd (bf_pC_hC G ν c q T_22) (bf_in_lt g_15) (Or.inr ⟨_, q288⟩) dX1_eats_66 ?_
        refine lv_aload_n hx hb dX1_eats_69 rfl (lv_at hl 3 rfl) ?_
        refine bf_rT X hd (bf_pC_hC G ν c q T_22) hi2 0 (by decide) (Or.inr ⟨_, q262⟩) dX1_eats_70 ?_
        refine lv_iconst (v := 0) hx hb dX1_eats_73 (by decide) ?_
        refine lv_aload_n hx hb dX1_eats_74 rfl (lv_at hl 0 rfl) ?_
        refine bf_rE X hd (bf_pC_hC G ν c q T_22) (bf_in_lt g_15) (Or.inr ⟨_, q288⟩) dX1_eats_75 ?_
        refine lv_aload_n hx hb dX1_eats_78 rfl (lv_at hl 3 rfl) ?_
        refine bf_rT X hd (bf_pC_hC G ν c q T_22) hi2 0 (by decide) (Or.inr ⟨_, q262⟩) dX1_eats_79 ?_
        obtain ⟨g_25, hf⟩ := bf_c_some hf
        refine bf_iald X hd (bf_cta (bf_pC_hC G ν c q T_22) (bf_in_lt g_15)) g_25 dX1_eats_82 ?_
        refine lv_iconst (v := 2) hx hb dX1_eats_83 (by decide) ?_
        refine lv_isub hx hb dX1_eats_84 ?_
        refine va_mmax hx hb (hml.trans hl.1.symm) hown (hts _ q1171) (hts _ q836) (hts _ q157) (hts _ q837) (Nat.le_of_ble_eq_true rfl) (Nat.le_of_ble_eq_true rfl) (Nat.le_of_ble_eq_true rfl) (Nat.le_of_ble_eq_true rfl) dX1_eats_85 ?_
        obtain ⟨g_26, hf⟩ := bf_c_some hf
        refine bf_sE X hd (bf_in_lt g_15) g_26 dX1_eats_88 (fun H locs hd => ?_)
        obtain ⟨T_27, eT_27, hf⟩ := bf_l_e hf
        have hd := hd.of (congrArg (bf_pC G ν c q) eT_27.symm)
        refine lv_aload_n hx hb dX1_eats_89 rfl (lv_at hl 1 rfl) ?_
        refine lv_iconst (v := 4) hx hb dX1_eats_90 (by decide) ?_
        refine lv_iload_n hx hb dX1_eats_91 rfl (lv_at hl 2 rfl) ?_
        refine lv_aload_n hx hb dX1_eats_92 rfl (lv_at hl 3 rfl) ?_
        refine bf_rT X hd (bf_pC_hC G ν c q T_27) hi2 0 (by decide) (Or.inr ⟨_, q262⟩) dX1_eats_93 ?_
        obtain ⟨T_28, eT_28, hf⟩ := bf_b_some hf
        refine bf_ccv (n := 3) (As := [.int 4, .int x1, .int (T_27.1 2 i2 0)]) (rest := []) X hd (mX1_notes l G ν c q T_27 4 x1 (T_27.1 2 i2 0) eT_28) (lw_V q1041 q1043 qs33 q149 q1044) (by decide +kernel) ⟨Nat.le_of_ble_eq_true rfl, Nat.le_of_ble_eq_true rfl⟩ rfl hl.1 rfl (Nat.le_of_ble_eq_true rfl) dX1_eats_96 ⟨Nat.le_of_ble_eq_true rfl, Nat.le_of_ble_eq_true rfl⟩ (fun H locs hd => ?_)
        refine lv_iconst (v := 0) hx hb dX1_eats_99 (by decide) ?_
        exact kret _ _ _ _ _ _ ⟨(bf_pr hf).1, congrArg (bf_pC G ν c q) (bf_pr hf).2⟩ (Or.inl rfl) hd dX1_eats_100
      · have hf := bf_ie hf c_24
        refine lv_iconst (v := 1) hx hb dX1_eats_63 (by decide) ?_
        exact kret _ _ _ _ _ _ ⟨(bf_pr hf).1, congrArg (bf_pC G ν c q) (bf_pr hf).2⟩ (Or.inr rfl) hd dX1_eats_64
def fX1_passes_2_123 (D : bf_D) (k13 : Int32 → Int32 → bf_CS → Option (Int32 × bf_CS)) (x1 : Int32) (w123_3 : Int32) (w123_5 : Int32) (T123 : bf_CS) : Option (Int32 × bf_CS) := bf_l (w123_5 + 1) fun x5_22 => k13 w123_3 x5_22 T123
def fX1_passes_2_118 (D : bf_D) (k13 : Int32 → Int32 → bf_CS → Option (Int32 × bf_CS)) (k72 : Int32 → Option Nat → bf_CS → Option (Int32 × bf_CS)) (x1 : Int32) (u72_5 : Int32) (w118_3 : Int32) (t118_0 : Option Nat) (T118 : bf_CS) : Option (Int32 × bf_CS) := k72 w118_3 t118_0 T118
def fX1_passes_2_72b (D : bf_D) (k13 : Int32 → Int32 → bf_CS → Option (Int32 × bf_CS)) (x1 : Int32) (u72_5 : Int32) (k72 : Int32 → Option Nat → bf_CS → Option (Int32 × bf_CS)) (v72_3 : Int32) (v72_6 : Option Nat) (T72 : bf_CS) : Option (Int32 × bf_CS) := bf_q v72_6 (fX1_passes_2_123 D k13 x1 v72_3 u72_5 T72) (fun t_10 => bf_c (decide (t_10 < 14)) <| bf_b2 (fX1_eats D T72 x1 t_10) fun r_13 T_12 => if r_13 = 0 then (some (0, T_12)) else (bf_l (v72_3 + (-1)) fun x3_16 => if x3_16 = 0 then (fX1_passes_2_118 D k13 k72 x1 u72_5 x3_16 none T_12) else (bf_c (bf_in x1 10) <| bf_qn (D.1 x1.toNatClampNeg) fun pd_19 => bf_c (bf_in u72_5 pd_19.1) <| bf_b (fX1_best T_12 x1.toNatClampNeg (pd_19.2 u72_5.toNatClampNeg)) fun r_21 => fX1_passes_2_118 D k13 k72 x1 u72_5 x3_16 r_21 T_12)))
def fX1_passes_2_72 (D : bf_D) (k13 : Int32 → Int32 → bf_CS → Option (Int32 × bf_CS)) (x1 : Int32) (u72_5 : Int32) : Nat → Int32 → Option Nat → bf_CS → Option (Int32 × bf_CS)
  | 0, _, _, _ => none
  | n + 1, v72_3, v72_6, T72 => fX1_passes_2_72b D k13 x1 u72_5 (fX1_passes_2_72 D k13 x1 u72_5 n) v72_3 v72_6 T72
def fX1_passes_2_70 (D : bf_D) (k13 : Int32 → Int32 → bf_CS → Option (Int32 × bf_CS)) (x1 : Int32) (w70_3 : Int32) (w70_5 : Int32) (t70_0 : Option Nat) (T70 : bf_CS) : Option (Int32 × bf_CS) := fX1_passes_2_72 D k13 x1 w70_5 bf_fuel w70_3 t70_0 T70
def fX1_passes_2_48 (D : bf_D) (k13 : Int32 → Int32 → bf_CS → Option (Int32 × bf_CS)) (x1 : Int32) (w48_3 : Int32) (w48_5 : Int32) (T48 : bf_CS) : Option (Int32 × bf_CS) := fX1_passes_2_70 D k13 x1 w48_3 w48_5 none T48
def fX1_passes_2_13b (D : bf_D) (x1 : Int32) (k13 : Int32 → Int32 → bf_CS → Option (Int32 × bf_CS)) (v13_3 : Int32) (v13_5 : Int32) (T13 : bf_CS) : Option (Int32 × bf_CS) := bf_q (D.1 x1.toNatClampNeg) (some (v13_3, T13)) (fun pd_1 => if (Int32.ofNat pd_1.1) ≤ v13_5 then (some (v13_3, T13)) else (bf_c (bf_in v13_5 pd_1.1) <| if (fX1_isFenced T13 (pd_1.2 v13_5.toNatClampNeg)) = 0 then (if v13_3 = 0 then (fX1_passes_2_48 D k13 x1 v13_3 v13_5 T13) else (bf_c (bf_in x1 10) <| bf_c (bf_in v13_5 pd_1.1) <| bf_b (fX1_best T13 x1.toNatClampNeg (pd_1.2 v13_5.toNatClampNeg)) fun r_9 => fX1_passes_2_70 D k13 x1 v13_3 v13_5 r_9 T13)) else (fX1_passes_2_48 D k13 x1 v13_3 v13_5 T13)))
def fX1_passes_2_13 (D : bf_D) (x1 : Int32) : Nat → Int32 → Int32 → bf_CS → Option (Int32 × bf_CS)
  | 0, _, _, _ => none
  | n + 1, v13_3, v13_5, T13 => fX1_passes_2_13b D x1 (fX1_passes_2_13 D x1 n) v13_3 v13_5 T13
def fX1_passes_2 (D : bf_D) (T : bf_CS) (x1 : Int32) (x2 : Int32) : Option (Int32 × bf_CS) := bf_c (bf_in x1 10) <| fX1_passes_2_13 D x1 bf_fuel x2 0 T
set_option maxHeartbeats 4000000 in
theorem mX1_passes_2 (l : Launch) (G : bf_G) (ν : bf_V) (c : Nat) (q : Nat → Nat) (D : bf_D) (hz : bf_Z G ν c q D) (T : bf_CS) (x1 : Int32) (x2 : Int32) {r : Int32} {T' : bf_CS} (hf : fX1_passes_2 D T x1 x2 = some (r, T')) : bf_MI l G yX1_passes_2 cX1_passes_2 7 (bf_rm 433) [.ref c, .int x1, .int x2] (bf_pC G ν c q T) (fun v σ' => v = r ∧ σ' = bf_pC G ν c q T') := by
  refine bf_MI.of rfl (Nat.le_of_ble_eq_true rfl) ?_
  intro p e s m below meth c' Q X hlk hnm kret hd ls hl
  have hx := X.1
  have hb := X.2.1
  have hml := X.2.2.1
  have hown := X.2.2.2.1
  have hts := X.2.2.2.2
  have hl : lv_has ls 7 [(0, .ref c), (1, .int x1), (2, .int x2)] := hl
  obtain ⟨pe, hpe0, hpe⟩ := hz.1
  have L13 : ∀ (n13 : Nat) (v13_3 : Int32) (v13_5 : Int32) (T13 : bf_CS) (H : Heap) (locs : List Loc) (ls : Array Slot), fX1_passes_2_13 D x1 n13 v13_3 v13_5 T13 = some (r, T') → bf_Dy G s H locs (bf_pC G ν c q T13) → lv_has ls 7 [(0, .ref c), (1, .int x1), (3, .int v13_3), (4, va_rf (pe x1.toNatClampNeg)), (5, .int v13_5)] → W p l e (bf_rm 433) s m ([.ref c, .int x1, .int x2] : List Value).toArray below meth c' H locs 0 0 Q (F0 m 13 ls []) := by
    intro n13
    induction n13 with
    | zero =>
      intro v13_3 v13_5 T13 H locs ls hf hd hl
      exact absurd (show (none : Option (Int32 × bf_CS)) = some (r, T') from hf) (by intro h; cases h)
    | succ n13 ih13 =>
      intro v13_3 v13_5 T13 H locs ls hf hd hl
      have hf : fX1_passes_2_13b D x1 (fX1_passes_2_13 D x1 n13) v13_3 v13_5 T13 = some (r, T') := hf
      unfold fX1_passes_2_13b at hf
      have J123 : ∀ (w123_3 : Int32) (w123_5 : Int32) (T123 : bf_CS) (H : Heap) (locs : List Loc) (ls : Array Slot), fX1_passes_2_123 D (fX1_passes_2_13 D x1 n13) x1 w123_3 w123_5 T123 = some (r, T') → bf_Dy G s H locs (bf_pC G ν c q T123) → lv_has ls 7 [(0, .ref c), (1, .int x1), (3, .int w123_3), (4, va_rf (pe x1.toNatClampNeg)), (5, .int w123_5)] → W p l e (bf_rm 433) s m ([.ref c, .int x1, .int x2] : List Value).toArray below meth c' H locs 0 0 Q (F0 m 123 ls []) := by
        intro w123_3 w123_5 T123 H locs ls hf hd hl
        unfold fX1_passes_2_123 at hf
        obtain ⟨x5_24, ex5_24, hf⟩ := bf_l_e hf
        refine lv_iinc (v := x5_24) (lv' := [(5, .int x5_24), (0, .ref c), (1, .int x1), (3, .int w123_3), (4, va_rf (pe x1.toNatClampNeg))]) hx hb dX1_passes_2_123 hl (k := 4) rfl (by rw [ex5_24]; rfl) (by decide) (by rcases bf_opt (pe x1.toNatClampNeg) with h | ⟨t, h⟩ <;> rw [h] <;> rfl) (fun ls hl => ?_)
        refine lv_goto (tgt := 13) hx hb dX1_passes_2_126 (by decide) ?_
        exact ih13 w123_3 x5_24 T123 _ _ _ hf hd (lv_sub hl [1, 2, 3, 4, 0] rfl)
      have L72 : ∀ (u72_5 : Int32) (n72 : Nat) (v72_3 : Int32) (v72_6 : Option Nat) (T72 : bf_CS) (H : Heap) (locs : List Loc) (ls : Array Slot), fX1_passes_2_72 D (fX1_passes_2_13 D x1 n13) x1 u72_5 n72 v72_3 v72_6 T72 = some (r, T') → bf_Dy G s H locs (bf_pC G ν c q T72) → lv_has ls 7 [(0, .ref c), (1, .int x1), (3, .int v72_3), (4, va_rf (pe x1.toNatClampNeg)), (5, .int u72_5), (6, va_rf (Option.map (fun t => c + 166 + t) v72_6))] → W p l e (bf_rm 433) s m ([.ref c, .int x1, .int x2] : List Value).toArray below meth c' H locs 0 0 Q (F0 m 72 ls []) := by
        intro u72_5 n72
        induction n72 with
        | zero =>
          intro v72_3 v72_6 T72 H locs ls hf hd hl
          exact absurd (show (none : Option (Int32 × bf_CS)) = some (r, T') from hf) (by intro h; cases h)
        | succ n72 ih72 =>
          intro v72_3 v72_6 T72 H locs ls hf hd hl
          have hf : fX1_passes_2_72b D (fX1_passes_2_13 D x1 n13) x1 u72_5 (fX1_passes_2_72 D (fX1_passes_2_13 D x1 n13) x1 u72_5 n72) v72_3 v72_6 T72 = some (r, T') := hf
          unfold fX1_passes_2_72b at hf
          have J118 : ∀ (w118_3 : Int32) (t118_0 : Option Nat) (T118 : bf_CS) (H : Heap) (locs : List Loc) (ls : Array Slot), fX1_passes_2_118 D (fX1_passes_2_13 D x1 n13) (fX1_passes_2_72 D (fX1_passes_2_13 D x1 n13) x1 u72_5 n72) x1 u72_5 w118_3 t118_0 T118 = some (r, T') → bf_Dy G s H locs (bf_pC G ν c q T118) → lv_has ls 7 [(0, .ref c), (1, .int x1), (3, .int w118_3), (4, va_rf (pe x1.toNatClampNeg)), (5, .int u72_5)] → W p l e (bf_rm 433) s m ([.ref c, .int x1, .int x2] : List Value).toArray below meth c' H locs 0 0 Q (F0 m 118 ls [va_rf (Option.map (fun t => c + 166 + t) t118_0)]) := by
            intro w118_3 t118_0 T118 H locs ls hf hd hl
            unfold fX1_passes_2_118 at hf
            refine bf_astore (lv' := [(6, va_rf (Option.map (fun t => c + 166 + t) t118_0)), (0, .ref c), (1, .int x1), (3, .int w118_3), (4, va_rf (pe x1.toNatClampNeg)), (5, .int u72_5)]) hx hb dX1_passes_2_118 hl (by decide) rfl (fun ls hl => ?_)
            refine lv_goto (tgt := 72) hx hb dX1_passes_2_120 (by decide) ?_
            exact ih72 w118_3 t118_0 T118 _ _ _ hf hd (lv_sub hl [1, 2, 3, 4, 5, 0] rfl)
          refine bf_aload hx hb dX1_passes_2_72 (lv_at hl 5 rfl) ?_
          rcases bf_opt (v72_6) with et_25 | ⟨t_25, et_25⟩
          · have hf := bf_q_n hf et_25
            refine bf_ift (q := Option.map (fun t => c + 166 + t) v72_6) (q' := none) (by rw [et_25]; rfl) ?_
            refine lv_ifnullN (tgt := 123) hx hb dX1_passes_2_74 (by decide) ?_
            exact J123 v72_3 u72_5 T72 _ _ _ hf hd (lv_sub hl [0, 1, 2, 3, 4] rfl)
          · have hf := bf_q_s hf et_25
            refine bf_ift (q := Option.map (fun t => c + 166 + t) v72_6) (q' := some (c + 166 + t_25)) (by rw [et_25]; rfl) ?_
            refine lv_ifnull hx hb dX1_passes_2_74 ?_
            refine lv_aload_n hx hb dX1_passes_2_77 rfl (lv_at hl 0 rfl) ?_
            refine lv_iload_n hx hb dX1_passes_2_78 rfl (lv_at hl 1 rfl) ?_
            refine bf_aload hx hb dX1_passes_2_79 (lv_at hl 5 rfl) ?_
            refine bf_ift (q := Option.map (fun t => c + 166 + t) v72_6) (q' := some (c + 166 + t_25)) (by rw [et_25]; rfl) ?_
            obtain ⟨g_26, hf⟩ := bf_c_some hf
            obtain ⟨r_28, T_27, er_28, hf⟩ := bf_b2_some hf
            refine bf_ccz (n := 2) (As := [.int x1, .ref (c + 166 + t_25)]) (rest := []) X hd (mX1_eats l G ν c q D hz T72 x1 t_25 (of_decide_eq_true g_26) er_28) (lw_V q1189 q1191 qs39 q149 q1192) (by decide +kernel) ⟨Nat.le_of_ble_eq_true rfl, Nat.le_of_ble_eq_true rfl⟩ rfl hl.1 rfl (Nat.le_of_ble_eq_true rfl) dX1_passes_2_81 ⟨Nat.le_of_ble_eq_true rfl, Nat.le_of_ble_eq_true rfl⟩ (fun H locs z_29 hd => ?_)
            refine lv_if_ne (tgt := 89) hx hb dX1_passes_2_84 (by decide) (fun c_30 => ?_) (fun c_30 => ?_)
            · have hf := bf_ie hf c_30
              obtain ⟨x3_31, ex3_31, hf⟩ := bf_l_e hf
              refine lv_iinc (v := x3_31) (lv' := [(3, .int x3_31), (0, .ref c), (1, .int x1), (4, va_rf (pe x1.toNatClampNeg)), (5, .int u72_5), (6, va_rf (Option.map (fun t => c + 166 + t) v72_6))]) hx hb dX1_passes_2_89 hl (k := 2) rfl (by rw [ex3_31]; rfl) (by decide) rfl (fun ls hl => ?_)
              refine lv_iload_n hx hb dX1_passes_2_92 rfl (lv_at hl 0 rfl) ?_
              refine lv_if_ne (tgt := 100) hx hb dX1_passes_2_93 (by decide) (fun c_32 => ?_) (fun c_32 => ?_)
              · have hf := bf_ie hf c_32
                refine lv_aload_n hx hb dX1_passes_2_100 rfl (lv_at hl 1 rfl) ?_
                refine lv_aload_n hx hb dX1_passes_2_101 rfl (lv_at hl 1 rfl) ?_
                refine bf_rC (v := .ref (c + 3)) X hd (bf_pC_hC G ν c q T_27) 2 (by decide) (Or.inl q303) rfl dX1_passes_2_102 ?_
                refine lv_iload_n hx hb dX1_passes_2_105 rfl (lv_at hl 2 rfl) ?_
                obtain ⟨g_33, hf⟩ := bf_c_some hf
                refine bf_aald (v := .ref (c + 180 + 2 * x1.toNatClampNeg)) X hd (bf_c3 (bf_pC_hC G ν c q T_27)) 4 rfl rfl g_33 rfl dX1_passes_2_106 ?_
                refine bf_aload hx hb dX1_passes_2_107 (lv_at hl 3 rfl) ?_
                obtain ⟨pd_34, epd_34, hf⟩ := bf_qn_some hf
                obtain ⟨papd_34, prpd_34, Vpd_34, hp1pd_34, hp2pd_34, hp4pd_34, hp3pd_34⟩ := (hpe x1.toNatClampNeg).2 _ epd_34
                refine bf_ift (q := pe x1.toNatClampNeg) (q' := some papd_34) hp1pd_34 ?_
                refine bf_getL (v := .ref prpd_34) X hd (bf_fz_at hp2pd_34) (ci := 13) rfl in_X14 0 (by decide) (Or.inr ⟨_, q897⟩) rfl hp4pd_34 dX1_passes_2_109 ?_
                refine lv_iload hx hb dX1_passes_2_112 (lv_at hl 4 rfl) ?_
                obtain ⟨g_35, hf⟩ := bf_c_some hf
                refine bf_iald X hd (bf_fz_at hp3pd_34) g_35 dX1_passes_2_114 ?_
                obtain ⟨r_36, er_36, hf⟩ := bf_b_some hf
                refine bf_ccq (n := 2) (As := [.ref (c + 180 + 2 * x1.toNatClampNeg), .int (pd_34.2 u72_5.toNatClampNeg)]) (rest := []) X hd (mX1_best l G ν c q T_27 x1.toNatClampNeg (bf_in_lt g_33) (pd_34.2 u72_5.toNatClampNeg) er_36) (lw_V q1185 q1187 qs38 q149 q1188) (by decide +kernel) ⟨Nat.le_of_ble_eq_true rfl, Nat.le_of_ble_eq_true rfl⟩ rfl hl.1 rfl (Nat.le_of_ble_eq_true rfl) dX1_passes_2_115 ⟨Nat.le_of_ble_eq_true rfl, Nat.le_of_ble_eq_true rfl⟩ (fun H locs hd => ?_)
                exact J118 x3_31 r_36 T_27 _ _ _ hf hd (lv_sub hl [1, 2, 0, 3, 4] rfl)
              · have hf := bf_it hf c_32
                refine lv_null hx hb dX1_passes_2_96 ?_
                refine lv_goto (tgt := 118) hx hb dX1_passes_2_97 (by decide) ?_
                exact J118 x3_31 none T_27 _ _ _ hf hd (lv_sub hl [1, 2, 0, 3, 4] rfl)
            · have hf := bf_it hf c_30
              refine lv_iconst (v := 0) hx hb dX1_passes_2_87 (by decide) ?_
              exact kret _ _ _ _ _ _ ⟨(bf_pr hf).1, congrArg (bf_pC G ν c q) (bf_pr hf).2⟩ hd dX1_passes_2_88
      have J70 : ∀ (w70_3 : Int32) (w70_5 : Int32) (t70_0 : Option Nat) (T70 : bf_CS) (H : Heap) (locs : List Loc) (ls : Array Slot), fX1_passes_2_70 D (fX1_passes_2_13 D x1 n13) x1 w70_3 w70_5 t70_0 T70 = some (r, T') → bf_Dy G s H locs (bf_pC G ν c q T70) → lv_has ls 7 [(0, .ref c), (1, .int x1), (3, .int w70_3), (4, va_rf (pe x1.toNatClampNeg)), (5, .int w70_5)] → W p l e (bf_rm 433) s m ([.ref c, .int x1, .int x2] : List Value).toArray below meth c' H locs 0 0 Q (F0 m 70 ls [va_rf (Option.map (fun t => c + 166 + t) t70_0)]) := by
        intro w70_3 w70_5 t70_0 T70 H locs ls hf hd hl
        unfold fX1_passes_2_70 at hf
        refine bf_astore (lv' := [(6, va_rf (Option.map (fun t => c + 166 + t) t70_0)), (0, .ref c), (1, .int x1), (3, .int w70_3), (4, va_rf (pe x1.toNatClampNeg)), (5, .int w70_5)]) hx hb dX1_passes_2_70 hl (by decide) rfl (fun ls hl => ?_)
        exact L72 w70_5 bf_fuel w70_3 t70_0 T70 _ _ _ hf hd (lv_sub hl [1, 2, 3, 4, 5, 0] rfl)
      have J48 : ∀ (w48_3 : Int32) (w48_5 : Int32) (T48 : bf_CS) (H : Heap) (locs : List Loc) (ls : Array Slot), fX1_passes_2_48 D (fX1_passes_2_13 D x1 n13) x1 w48_3 w48_5 T48 = some (r, T') → bf_Dy G s H locs (bf_pC G ν c q T48) → lv_has ls 7 [(0, .ref c), (1, .int x1), (3, .int w48_3), (4, va_rf (pe x1.toNatClampNeg)), (5, .int w48_5)] → W p l e (bf_rm 433) s m ([.ref c, .int x1, .int x2] : List Value).toArray below meth c' H locs 0 0 Q (F0 m 48 ls []) := by
        intro w48_3 w48_5 T48 H locs ls hf hd hl
        unfold fX1_passes_2_48 at hf
        refine lv_null hx hb dX1_passes_2_48 ?_
        refine lv_goto (tgt := 70) hx hb dX1_passes_2_49 (by decide) ?_
        exact J70 w48_3 w48_5 none T48 _ _ _ hf hd (lv_sub hl [0, 1, 2, 3, 4] rfl)
      refine bf_aload hx hb dX1_passes_2_13 (lv_at hl 3 rfl) ?_
      rcases bf_opt (D.1 x1.toNatClampNeg) with epd_37 | ⟨pd_37, epd_37⟩
      · have hf := bf_q_n hf epd_37
        refine bf_ift (q := pe x1.toNatClampNeg) (q' := none) ((hpe x1.toNatClampNeg).1 epd_37) ?_
        refine lv_ifnullN (tgt := 129) hx hb dX1_passes_2_15 (by decide) ?_
        refine lv_iload_n hx hb dX1_passes_2_129 rfl (lv_at hl 2 rfl) ?_
        exact kret _ _ _ _ _ _ ⟨(bf_pr hf).1, congrArg (bf_pC G ν c q) (bf_pr hf).2⟩ hd dX1_passes_2_130
      · have hf := bf_q_s hf epd_37
        obtain ⟨papd_37, prpd_37, Vpd_37, hp1pd_37, hp2pd_37, hp4pd_37, hp3pd_37⟩ := (hpe x1.toNatClampNeg).2 _ epd_37
        refine bf_ift (q := pe x1.toNatClampNeg) (q' := some papd_37) hp1pd_37 ?_
        refine lv_ifnull hx hb dX1_passes_2_15 ?_
        refine lv_iload hx hb dX1_passes_2_18 (lv_at hl 4 rfl) ?_
        refine bf_aload hx hb dX1_passes_2_20 (lv_at hl 3 rfl) ?_
        refine bf_ift (q := pe x1.toNatClampNeg) (q' := some papd_37) hp1pd_37 ?_
        refine bf_getL (v := .ref prpd_37) X hd (bf_fz_at hp2pd_37) (ci := 13) rfl in_X14 0 (by decide) (Or.inr ⟨_, q897⟩) rfl hp4pd_37 dX1_passes_2_22 ?_
        refine bf_alen X hd (bf_fz_at hp3pd_37) 0 rfl dX1_passes_2_25 ?_
        refine lv_icmp_ge (tgt := 129) hx hb dX1_passes_2_26 (by decide) (fun c_38 => ?_) (fun c_38 => ?_)
        · have hf := bf_it hf c_38
          refine lv_iload_n hx hb dX1_passes_2_129 rfl (lv_at hl 2 rfl) ?_
          exact kret _ _ _ _ _ _ ⟨(bf_pr hf).1, congrArg (bf_pC G ν c q) (bf_pr hf).2⟩ hd dX1_passes_2_130
        · have hf := bf_ie hf c_38
          refine lv_aload_n hx hb dX1_passes_2_29 rfl (lv_at hl 0 rfl) ?_
          refine bf_aload hx hb dX1_passes_2_30 (lv_at hl 3 rfl) ?_
          refine bf_ift (q := pe x1.toNatClampNeg) (q' := some papd_37) hp1pd_37 ?_
          refine bf_getL (v := .ref prpd_37) X hd (bf_fz_at hp2pd_37) (ci := 13) rfl in_X14 0 (by decide) (Or.inr ⟨_, q897⟩) rfl hp4pd_37 dX1_passes_2_32 ?_
          refine lv_iload hx hb dX1_passes_2_35 (lv_at hl 4 rfl) ?_
          obtain ⟨g_39, hf⟩ := bf_c_some hf
          refine bf_iald X hd (bf_fz_at hp3pd_37) g_39 dX1_passes_2_37 ?_
          refine bf_ccz (n := 1) (As := [.int (pd_37.2 v13_5.toNatClampNeg)]) (rest := []) X hd (mX1_isFenced l G ν c q T13 (pd_37.2 v13_5.toNatClampNeg) rfl) (lw_V q1184 q1050 q1051 q149 q1052) (by decide +kernel) ⟨Nat.le_of_ble_eq_true rfl, Nat.le_of_ble_eq_true rfl⟩ rfl hl.1 rfl (Nat.le_of_ble_eq_true rfl) dX1_passes_2_38 ⟨Nat.le_of_ble_eq_true rfl, Nat.le_of_ble_eq_true rfl⟩ (fun H locs z_40 hd => ?_)
          refine lv_if_ne (tgt := 48) hx hb dX1_passes_2_41 (by decide) (fun c_41 => ?_) (fun c_41 => ?_)
          · have hf := bf_ie hf c_41
            exact J48 v13_3 v13_5 T13 _ _ _ hf hd (lv_sub hl [0, 1, 2, 3, 4] rfl)
          · have hf := bf_it hf c_41
            refine lv_iload_n hx hb dX1_passes_2_44 rfl (lv_at hl 2 rfl) ?_
            refine lv_if_ne (tgt := 52) hx hb dX1_passes_2_45 (by decide) (fun c_42 => ?_) (fun c_42 => ?_)
            · have hf := bf_ie hf c_42
              refine lv_aload_n hx hb dX1_passes_2_52 rfl (lv_at hl 0 rfl) ?_
              refine lv_aload_n hx hb dX1_passes_2_53 rfl (lv_at hl 0 rfl) ?_
              refine bf_rC (v := .ref (c + 3)) X hd (bf_pC_hC G ν c q T13) 2 (by decide) (Or.inl q303) rfl dX1_passes_2_54 ?_
              refine lv_iload_n hx hb dX1_passes_2_57 rfl (lv_at hl 1 rfl) ?_
              obtain ⟨g_43, hf⟩ := bf_c_some hf
              refine bf_aald (v := .ref (c + 180 + 2 * x1.toNatClampNeg)) X hd (bf_c3 (bf_pC_hC G ν c q T13)) 4 rfl rfl g_43 rfl dX1_passes_2_58 ?_
              refine bf_aload hx hb dX1_passes_2_59 (lv_at hl 3 rfl) ?_
              refine bf_ift (q := pe x1.toNatClampNeg) (q' := some papd_37) hp1pd_37 ?_
              refine bf_getL (v := .ref prpd_37) X hd (bf_fz_at hp2pd_37) (ci := 13) rfl in_X14 0 (by decide) (Or.inr ⟨_, q897⟩) rfl hp4pd_37 dX1_passes_2_61 ?_
              refine lv_iload hx hb dX1_passes_2_64 (lv_at hl 4 rfl) ?_
              obtain ⟨g_44, hf⟩ := bf_c_some hf
              refine bf_iald X hd (bf_fz_at hp3pd_37) g_44 dX1_passes_2_66 ?_
              obtain ⟨r_45, er_45, hf⟩ := bf_b_some hf
              refine bf_ccq (n := 2) (As := [.ref (c + 180 + 2 * x1.toNatClampNeg), .int (pd_37.2 v13_5.toNatClampNeg)]) (rest := []) X hd (mX1_best l G ν c q T13 x1.toNatClampNeg (bf_in_lt g_43) (pd_37.2 v13_5.toNatClampNeg) er_45) (lw_V q1185 q1187 qs38 q149 q1188) (by decide +kernel) ⟨Nat.le_of_ble_eq_true rfl, Nat.le_of_ble_eq_true rfl⟩ rfl hl.1 rfl (Nat.le_of_ble_eq_true rfl) dX1_passes_2_67 ⟨Nat.le_of_ble_eq_true rfl, Nat.le_of_ble_eq_true rfl⟩ (fun H locs hd => ?_)
              exact J70 v13_3 v13_5 r_45 T13 _ _ _ hf hd (lv_sub hl [0, 1, 2, 3, 4] rfl)
            · have hf := bf_it hf c_42
              exact J48 v13_3 v13_5 T13 _ _ _ hf hd (lv_sub hl [0, 1, 2, 3, 4] rfl)
  unfold fX1_passes_2 at hf
  refine lv_iload_n hx hb dX1_passes_2_0 rfl (lv_at hl 2 rfl) ?_
  refine lv_istore_n (lv' := [(3, .int x2), (0, .ref c), (1, .int x1), (2, .int x2)]) hx hb dX1_passes_2_1 rfl hl (by decide) rfl (fun ls hl => ?_)
  refine lv_aload_n hx hb dX1_passes_2_2 rfl (lv_at hl 1 rfl) ?_
  refine bf_rC (v := .ref (q 0)) X hd (bf_pC_hC G ν c q T) 7 (by decide) (Or.inl q314) rfl dX1_passes_2_3 ?_
  refine lv_iload_n hx hb dX1_passes_2_6 rfl (lv_at hl 2 rfl) ?_
  obtain ⟨g_46, hf⟩ := bf_c_some hf
  refine bf_aald (v := va_rf (pe x1.toNatClampNeg)) X hd (bf_fz_at hpe0) 6 rfl rfl g_46 rfl dX1_passes_2_7 ?_
  refine bf_astore (lv' := [(4, va_rf (pe x1.toNatClampNeg)), (3, .int x2), (0, .ref c), (1, .int x1), (2, .int x2)]) hx hb dX1_passes_2_8 hl (by decide) rfl (fun ls hl => ?_)
  refine lv_iconst (v := 0) hx hb dX1_passes_2_10 (by decide) ?_
  refine lv_istore (lv' := [(5, .int 0), (4, va_rf (pe x1.toNatClampNeg)), (3, .int x2), (0, .ref c), (1, .int x1), (2, .int x2)]) hx hb dX1_passes_2_11 hl (by decide) (by rcases bf_opt (pe x1.toNatClampNeg) with h | ⟨t, h⟩ <;> rw [h] <;> rfl) (fun ls hl => ?_)
  exact L13 bf_fuel x2 0 T _ _ _ hf hd (lv_sub hl [3, 4, 2, 1, 0] rfl)
def fX1_isHungry_90 (D : bf_D) (x1 : Int32) (w90_3 : Int32) (T90 : bf_CS) : Option (Int32 × bf_CS) := if w90_3 = 0 then (some (0, T90)) else (bf_b (fX1_notes T90 5 x1 w90_3) fun T_11 => if (T_11.1 0 23 0) = (-1) then (bf_l (bf_u3 T_11 0 23 0 x1) fun T_13 => bf_l (bf_u3 T_13 0 24 0 (T_13.1 0 18 0)) fun T_14 => some (1, T_14)) else (some (1, T_11)))
def fX1_isHungry_85 (D : bf_D) (k33 : Int32 → Int32 → bf_CS → Option (Int32 × bf_CS)) (x1 : Int32) (u33_2 : Nat) (w85_3 : Int32) (t85_0 : Int32) (T85 : bf_CS) : Option (Int32 × bf_CS) := k33 w85_3 t85_0 T85
def fX1_isHungry_33b (D : bf_D) (x1 : Int32) (u33_2 : Nat) (k33 : Int32 → Int32 → bf_CS → Option (Int32 × bf_CS)) (v33_3 : Int32) (v33_4 : Int32) (T33 : bf_CS) : Option (Int32 × bf_CS) := if v33_4 = (-1) then (fX1_isHungry_90 D x1 v33_3 T33) else (bf_b2 (fX1_count D T33 u33_2 v33_4 none) fun r_3 T_2 => bf_b (fX1_votes T_2 v33_4 r_3) fun T_4 => bf_c (bf_in v33_4 5) <| bf_l (bf_u3 T_4 1 v33_4.toNatClampNeg 0 ((T_4.1 1 v33_4.toNatClampNeg 0) - 1)) fun T_6 => bf_l (v33_3 + (-1)) fun x3_7 => if x3_7 = 0 then (fX1_isHungry_85 D k33 x1 u33_2 x3_7 (-1) T_6) else (bf_b (fX1_jamOf T_6 u33_2) fun r_9 => fX1_isHungry_85 D k33 x1 u33_2 x3_7 r_9 T_6))
def fX1_isHungry_33 (D : bf_D) (x1 : Int32) (u33_2 : Nat) : Nat → Int32 → Int32 → bf_CS → Option (Int32 × bf_CS)
  | 0, _, _, _ => none
  | n + 1, v33_3, v33_4, T33 => fX1_isHungry_33b D x1 u33_2 (fX1_isHungry_33 D x1 u33_2 n) v33_3 v33_4 T33
def fX1_isHungry_31 (D : bf_D) (x1 : Int32) (w31_2 : Nat) (w31_3 : Int32) (t31_0 : Int32) (T31 : bf_CS) : Option (Int32 × bf_CS) := fX1_isHungry_33 D x1 w31_2 bf_fuel w31_3 t31_0 T31
def fX1_isHungry (D : bf_D) (T : bf_CS) (x1 : Int32) : Option (Int32 × bf_CS) := bf_c (bf_in x1 10) <| bf_b2 (fX1_want D T x1.toNatClampNeg) fun r_17 T_16 => bf_b2 (fX1_passes_2 D T_16 x1 r_17) fun r_19 T_18 => if r_19 = 0 then (fX1_isHungry_31 D x1 x1.toNatClampNeg r_19 (-1) T_18) else (bf_b (fX1_jamOf T_18 x1.toNatClampNeg) fun r_21 => fX1_isHungry_31 D x1 x1.toNatClampNeg r_19 r_21 T_18)
set_option maxHeartbeats 4000000 in
theorem mX1_isHungry (l : Launch) (G : bf_G) (ν : bf_V) (c : Nat) (q : Nat → Nat) (D : bf_D) (hz : bf_Z G ν c q D) (T : bf_CS) (x1 : Int32) {r : Int32} {T' : bf_CS} (hf : fX1_isHungry D T x1 = some (r, T')) : bf_MZ l G yX1_isHungry cX1_isHungry 5 (bf_rm 434) [.ref c, .int x1] (bf_pC G ν c q T) (fun v σ' => v = r ∧ σ' = bf_pC G ν c q T') := by
  refine bf_MZ.of rfl (Nat.le_of_ble_eq_true rfl) ?_
  intro p e s m below meth c' Q X hlk hnm kret hd ls hl
  have hx := X.1
  have hb := X.2.1
  have hml := X.2.2.1
  have hown := X.2.2.2.1
  have hts := X.2.2.2.2
  have hl : lv_has ls 5 [(0, .ref c), (1, .int x1)] := hl
  have J90 : ∀ (w90_3 : Int32) (T90 : bf_CS) (H : Heap) (locs : List Loc) (ls : Array Slot), fX1_isHungry_90 D x1 w90_3 T90 = some (r, T') → bf_Dy G s H locs (bf_pC G ν c q T90) → lv_has ls 5 [(0, .ref c), (1, .int x1), (3, .int w90_3)] → W p l e (bf_rm 434) s m ([.ref c, .int x1] : List Value).toArray below meth c' H locs 0 0 Q (F0 m 90 ls []) := by
    intro w90_3 T90 H locs ls hf hd hl
    unfold fX1_isHungry_90 at hf
    refine lv_iload_n hx hb dX1_isHungry_90 rfl (lv_at hl 2 rfl) ?_
    refine lv_if_ne (tgt := 96) hx hb dX1_isHungry_91 (by decide) (fun c_22 => ?_) (fun c_22 => ?_)
    · have hf := bf_ie hf c_22
      refine lv_aload_n hx hb dX1_isHungry_96 rfl (lv_at hl 0 rfl) ?_
      refine lv_iconst (v := 5) hx hb dX1_isHungry_97 (by decide) ?_
      refine lv_iload_n hx hb dX1_isHungry_98 rfl (lv_at hl 1 rfl) ?_
      refine lv_iload_n hx hb dX1_isHungry_99 rfl (lv_at hl 2 rfl) ?_
      obtain ⟨T_23, eT_23, hf⟩ := bf_b_some hf
      refine bf_ccv (n := 3) (As := [.int 5, .int x1, .int w90_3]) (rest := []) X hd (mX1_notes l G ν c q T90 5 x1 w90_3 eT_23) (lw_V q1041 q1043 qs33 q149 q1044) (by decide +kernel) ⟨Nat.le_of_ble_eq_true rfl, Nat.le_of_ble_eq_true rfl⟩ rfl hl.1 rfl (Nat.le_of_ble_eq_true rfl) dX1_isHungry_100 ⟨Nat.le_of_ble_eq_true rfl, Nat.le_of_ble_eq_true rfl⟩ (fun H locs hd => ?_)
      refine lv_aload_n hx hb dX1_isHungry_103 rfl (lv_at hl 0 rfl) ?_
      refine bf_rC X hd (bf_pC_hC G ν c q T_23) 23 (by decide) (Or.inl q349) rfl dX1_isHungry_104 ?_
      refine lv_iconst (v := (-1)) hx hb dX1_isHungry_107 (by decide) ?_
      refine lv_icmp_ne (tgt := 124) hx hb dX1_isHungry_108 (by decide) (fun c_24 => ?_) (fun c_24 => ?_)
      · have hf := bf_ie hf c_24
        refine lv_iconst (v := 1) hx hb dX1_isHungry_124 (by decide) ?_
        exact kret _ _ _ _ _ _ ⟨(bf_pr hf).1, congrArg (bf_pC G ν c q) (bf_pr hf).2⟩ (Or.inr rfl) hd dX1_isHungry_125
      · have hf := bf_it hf c_24
        refine lv_aload_n hx hb dX1_isHungry_111 rfl (lv_at hl 0 rfl) ?_
        refine lv_iload_n hx hb dX1_isHungry_112 rfl (lv_at hl 1 rfl) ?_
        refine bf_xC X hd 23 (by decide) ⟨by decide, rfl, rfl⟩ (Or.inl q349) dX1_isHungry_113 (fun H locs hd => ?_)
        obtain ⟨T_25, eT_25, hf⟩ := bf_l_e hf
        have hd := hd.of (congrArg (bf_pC G ν c q) eT_25.symm)
        refine lv_aload_n hx hb dX1_isHungry_116 rfl (lv_at hl 0 rfl) ?_
        refine lv_aload_n hx hb dX1_isHungry_117 rfl (lv_at hl 0 rfl) ?_
        refine bf_rC X hd (bf_pC_hC G ν c q T_25) 18 (by decide) (Or.inl q339) rfl dX1_isHungry_118 ?_
        refine bf_xC X hd 24 (by decide) ⟨by decide, rfl, rfl⟩ (Or.inl q351) dX1_isHungry_121 (fun H locs hd => ?_)
        obtain ⟨T_26, eT_26, hf⟩ := bf_l_e hf
        have hd := hd.of (congrArg (bf_pC G ν c q) eT_26.symm)
        refine lv_iconst (v := 1) hx hb dX1_isHungry_124 (by decide) ?_
        exact kret _ _ _ _ _ _ ⟨(bf_pr hf).1, congrArg (bf_pC G ν c q) (bf_pr hf).2⟩ (Or.inr rfl) hd dX1_isHungry_125
    · have hf := bf_it hf c_22
      refine lv_iconst (v := 0) hx hb dX1_isHungry_94 (by decide) ?_
      exact kret _ _ _ _ _ _ ⟨(bf_pr hf).1, congrArg (bf_pC G ν c q) (bf_pr hf).2⟩ (Or.inl rfl) hd dX1_isHungry_95
  have L33 : ∀ (u33_2 : Nat) (hu33_2 : u33_2 < 10) (n33 : Nat) (v33_3 : Int32) (v33_4 : Int32) (T33 : bf_CS) (H : Heap) (locs : List Loc) (ls : Array Slot), fX1_isHungry_33 D x1 u33_2 n33 v33_3 v33_4 T33 = some (r, T') → bf_Dy G s H locs (bf_pC G ν c q T33) → lv_has ls 5 [(0, .ref c), (1, .int x1), (2, .ref (c + 180 + 2 * u33_2)), (3, .int v33_3), (4, .int v33_4)] → W p l e (bf_rm 434) s m ([.ref c, .int x1] : List Value).toArray below meth c' H locs 0 0 Q (F0 m 33 ls []) := by
    intro u33_2 hu33_2 n33
    induction n33 with
    | zero =>
      intro v33_3 v33_4 T33 H locs ls hf hd hl
      exact absurd (show (none : Option (Int32 × bf_CS)) = some (r, T') from hf) (by intro h; cases h)
    | succ n33 ih33 =>
      intro v33_3 v33_4 T33 H locs ls hf hd hl
      have hf : fX1_isHungry_33b D x1 u33_2 (fX1_isHungry_33 D x1 u33_2 n33) v33_3 v33_4 T33 = some (r, T') := hf
      unfold fX1_isHungry_33b at hf
      have J85 : ∀ (w85_3 : Int32) (t85_0 : Int32) (T85 : bf_CS) (H : Heap) (locs : List Loc) (ls : Array Slot), fX1_isHungry_85 D (fX1_isHungry_33 D x1 u33_2 n33) x1 u33_2 w85_3 t85_0 T85 = some (r, T') → bf_Dy G s H locs (bf_pC G ν c q T85) → lv_has ls 5 [(0, .ref c), (1, .int x1), (2, .ref (c + 180 + 2 * u33_2)), (3, .int w85_3)] → W p l e (bf_rm 434) s m ([.ref c, .int x1] : List Value).toArray below meth c' H locs 0 0 Q (F0 m 85 ls [.int t85_0]) := by
        intro w85_3 t85_0 T85 H locs ls hf hd hl
        unfold fX1_isHungry_85 at hf
        refine lv_istore (lv' := [(4, .int t85_0), (0, .ref c), (1, .int x1), (2, .ref (c + 180 + 2 * u33_2)), (3, .int w85_3)]) hx hb dX1_isHungry_85 hl (by decide) rfl (fun ls hl => ?_)
        refine lv_goto (tgt := 33) hx hb dX1_isHungry_87 (by decide) ?_
        exact ih33 w85_3 t85_0 T85 _ _ _ hf hd (lv_sub hl [1, 2, 3, 4, 0] rfl)
      refine lv_iload hx hb dX1_isHungry_33 (lv_at hl 4 rfl) ?_
      refine lv_iconst (v := (-1)) hx hb dX1_isHungry_35 (by decide) ?_
      refine lv_icmp_eq (tgt := 90) hx hb dX1_isHungry_36 (by decide) (fun c_27 => ?_) (fun c_27 => ?_)
      · have hf := bf_it hf c_27
        exact J90 v33_3 T33 _ _ _ hf hd (lv_sub hl [0, 1, 3] rfl)
      · have hf := bf_ie hf c_27
        refine lv_aload_n hx hb dX1_isHungry_39 rfl (lv_at hl 0 rfl) ?_
        refine lv_iload hx hb dX1_isHungry_40 (lv_at hl 4 rfl) ?_
        refine lv_aload_n hx hb dX1_isHungry_42 rfl (lv_at hl 0 rfl) ?_
        refine lv_aload_n hx hb dX1_isHungry_43 rfl (lv_at hl 2 rfl) ?_
        refine lv_iload hx hb dX1_isHungry_44 (lv_at hl 4 rfl) ?_
        refine lv_null hx hb dX1_isHungry_46 ?_
        obtain ⟨r_29, T_28, er_29, hf⟩ := bf_b2_some hf
        refine bf_cci (n := 3) (As := [.ref (c + 180 + 2 * u33_2), .int v33_4, va_rf (Option.map (fun t => c + 166 + t) none)]) (rest := [.int v33_4, .ref c]) X hd (mX1_count l G ν c q D hz T33 u33_2 hu33_2 v33_4 none er_29) (lw_V q1193 q1195 qs40 q149 q1196) (by decide +kernel) ⟨Nat.le_of_ble_eq_true rfl, Nat.le_of_ble_eq_true rfl⟩ rfl hl.1 rfl (Nat.le_of_ble_eq_true rfl) dX1_isHungry_47 ⟨Nat.le_of_ble_eq_true rfl, Nat.le_of_ble_eq_true rfl⟩ (fun H locs hd => ?_)
        obtain ⟨T_30, eT_30, hf⟩ := bf_b_some hf
        refine bf_ccv (n := 2) (As := [.int v33_4, .int r_29]) (rest := []) X hd (mX1_votes l G ν c q T_28 v33_4 r_29 eT_30) (lw_V q1197 q1199 qs41 q149 q1200) (by decide +kernel) ⟨Nat.le_of_ble_eq_true rfl, Nat.le_of_ble_eq_true rfl⟩ rfl hl.1 rfl (Nat.le_of_ble_eq_true rfl) dX1_isHungry_50 ⟨Nat.le_of_ble_eq_true rfl, Nat.le_of_ble_eq_true rfl⟩ (fun H locs hd => ?_)
        refine lv_aload_n hx hb dX1_isHungry_53 rfl (lv_at hl 0 rfl) ?_
        refine bf_rC (v := .ref (c + 1)) X hd (bf_pC_hC G ν c q T_30) 0 (by decide) (Or.inl q299) rfl dX1_isHungry_54 ?_
        refine lv_iload hx hb dX1_isHungry_57 (lv_at hl 4 rfl) ?_
        obtain ⟨g_31, hf⟩ := bf_c_some hf
        refine bf_aald (v := .ref (c + 161 + v33_4.toNatClampNeg)) X hd (bf_c1 (bf_pC_hC G ν c q T_30)) 2 rfl rfl g_31 rfl dX1_isHungry_59 ?_
        refine lv_dup hx hb dX1_isHungry_60 rfl ?_
        refine bf_rP X hd (bf_pC_hC G ν c q T_30) (bf_in_lt g_31) 0 (by decide) (Or.inr ⟨_, q242⟩) dX1_isHungry_61 ?_
        refine lv_iconst (v := 1) hx hb dX1_isHungry_64 (by decide) ?_
        refine lv_isub hx hb dX1_isHungry_65 ?_
        refine bf_xP X hd (bf_in_lt g_31) 0 (by decide) (Or.inr ⟨_, q242⟩) dX1_isHungry_66 (fun H locs hd => ?_)
        obtain ⟨T_32, eT_32, hf⟩ := bf_l_e hf
        have hd := hd.of (congrArg (bf_pC G ν c q) eT_32.symm)
        obtain ⟨x3_33, ex3_33, hf⟩ := bf_l_e hf
        refine lv_iinc (v := x3_33) (lv' := [(3, .int x3_33), (0, .ref c), (1, .int x1), (2, .ref (c + 180 + 2 * u33_2)), (4, .int v33_4)]) hx hb dX1_isHungry_69 hl (k := 3) rfl (by rw [ex3_33]; rfl) (by decide) rfl (fun ls hl => ?_)
        refine lv_iload_n hx hb dX1_isHungry_72 rfl (lv_at hl 0 rfl) ?_
        refine lv_if_ne (tgt := 80) hx hb dX1_isHungry_73 (by decide) (fun c_34 => ?_) (fun c_34 => ?_)
        · have hf := bf_ie hf c_34
          refine lv_aload_n hx hb dX1_isHungry_80 rfl (lv_at hl 1 rfl) ?_
          refine lv_aload_n hx hb dX1_isHungry_81 rfl (lv_at hl 3 rfl) ?_
          obtain ⟨r_35, er_35, hf⟩ := bf_b_some hf
          refine bf_cci (n := 1) (As := [.ref (c + 180 + 2 * u33_2)]) (rest := []) X hd (mX1_jamOf l G ν c q T_32 u33_2 hu33_2 er_35) (lw_V q1207 q1209 qs42 q149 q1210) (by decide +kernel) ⟨Nat.le_of_ble_eq_true rfl, Nat.le_of_ble_eq_true rfl⟩ rfl hl.1 rfl (Nat.le_of_ble_eq_true rfl) dX1_isHungry_82 ⟨Nat.le_of_ble_eq_true rfl, Nat.le_of_ble_eq_true rfl⟩ (fun H locs hd => ?_)
          exact J85 x3_33 r_35 T_32 _ _ _ hf hd (lv_sub hl [1, 2, 3, 0] rfl)
        · have hf := bf_it hf c_34
          refine lv_iconst (v := (-1)) hx hb dX1_isHungry_76 (by decide) ?_
          refine lv_goto (tgt := 85) hx hb dX1_isHungry_77 (by decide) ?_
          exact J85 x3_33 (-1) T_32 _ _ _ hf hd (lv_sub hl [1, 2, 3, 0] rfl)
  have J31 : ∀ (w31_2 : Nat) (hw31_2 : w31_2 < 10) (w31_3 : Int32) (t31_0 : Int32) (T31 : bf_CS) (H : Heap) (locs : List Loc) (ls : Array Slot), fX1_isHungry_31 D x1 w31_2 w31_3 t31_0 T31 = some (r, T') → bf_Dy G s H locs (bf_pC G ν c q T31) → lv_has ls 5 [(0, .ref c), (1, .int x1), (2, .ref (c + 180 + 2 * w31_2)), (3, .int w31_3)] → W p l e (bf_rm 434) s m ([.ref c, .int x1] : List Value).toArray below meth c' H locs 0 0 Q (F0 m 31 ls [.int t31_0]) := by
    intro w31_2 hw31_2 w31_3 t31_0 T31 H locs ls hf hd hl
    unfold fX1_isHungry_31 at hf
    refine lv_istore (lv' := [(4, .int t31_0), (0, .ref c), (1, .int x1), (2, .ref (c + 180 + 2 * w31_2)), (3, .int w31_3)]) hx hb dX1_isHungry_31 hl (by decide) rfl (fun ls hl => ?_)
    exact L33 w31_2 hw31_2 bf_fuel w31_3 t31_0 T31 _ _ _ hf hd (lv_sub hl [1, 2, 3, 4, 0] rfl)
  unfold fX1_isHungry at hf
  refine lv_aload_n hx hb dX1_isHungry_0 rfl (lv_at hl 0 rfl) ?_
  refine bf_rC (v := .ref (c + 3)) X hd (bf_pC_hC G ν c q T) 2 (by decide) (Or.inl q303) rfl dX1_isHungry_1 ?_
  refine lv_iload_n hx hb dX1_isHungry_4 rfl (lv_at hl 1 rfl) ?_
  obtain ⟨g_36, hf⟩ := bf_c_some hf
  refine bf_aald (v := .ref (c + 180 + 2 * x1.toNatClampNeg)) X hd (bf_c3 (bf_pC_hC G ν c q T)) 4 rfl rfl g_36 rfl dX1_isHungry_5 ?_
  refine lv_astore_n (lv' := [(2, .ref (c + 180 + 2 * x1.toNatClampNeg)), (0, .ref c), (1, .int x1)]) hx hb dX1_isHungry_6 rfl hl (by decide) rfl (fun ls hl => ?_)
  refine lv_aload_n hx hb dX1_isHungry_7 rfl (lv_at hl 1 rfl) ?_
  refine lv_iload_n hx hb dX1_isHungry_8 rfl (lv_at hl 2 rfl) ?_
  refine lv_aload_n hx hb dX1_isHungry_9 rfl (lv_at hl 1 rfl) ?_
  refine lv_aload_n hx hb dX1_isHungry_10 rfl (lv_at hl 0 rfl) ?_
  obtain ⟨r_38, T_37, er_38, hf⟩ := bf_b2_some hf
  refine bf_cci (n := 1) (As := [.ref (c + 180 + 2 * x1.toNatClampNeg)]) (rest := [.int x1, .ref c]) X hd (mX1_want l G ν c q D hz T x1.toNatClampNeg (bf_in_lt g_36) er_38) (lw_V q1176 q1177 q1178 q149 q1179) (by decide +kernel) ⟨Nat.le_of_ble_eq_true rfl, Nat.le_of_ble_eq_true rfl⟩ rfl hl.1 rfl (Nat.le_of_ble_eq_true rfl) dX1_isHungry_11 ⟨Nat.le_of_ble_eq_true rfl, Nat.le_of_ble_eq_true rfl⟩ (fun H locs hd => ?_)
  obtain ⟨r_40, T_39, er_40, hf⟩ := bf_b2_some hf
  refine bf_cci (n := 2) (As := [.int x1, .int r_38]) (rest := []) X hd (mX1_passes_2 l G ν c q D hz T_37 x1 r_38 er_40) (lw_V q1180 q1182 qs37 q149 q1183) (by decide +kernel) ⟨Nat.le_of_ble_eq_true rfl, Nat.le_of_ble_eq_true rfl⟩ rfl hl.1 rfl (Nat.le_of_ble_eq_true rfl) dX1_isHungry_14 ⟨Nat.le_of_ble_eq_true rfl, Nat.le_of_ble_eq_true rfl⟩ (fun H locs hd => ?_)
  refine lv_istore_n (lv' := [(3, .int r_40), (2, .ref (c + 180 + 2 * x1.toNatClampNeg)), (0, .ref c), (1, .int x1)]) hx hb dX1_isHungry_17 rfl hl (by decide) rfl (fun ls hl => ?_)
  refine lv_iload_n hx hb dX1_isHungry_18 rfl (lv_at hl 0 rfl) ?_
  refine lv_if_ne (tgt := 26) hx hb dX1_isHungry_19 (by decide) (fun c_41 => ?_) (fun c_41 => ?_)
  · have hf := bf_ie hf c_41
    refine lv_aload_n hx hb dX1_isHungry_26 rfl (lv_at hl 2 rfl) ?_
    refine lv_aload_n hx hb dX1_isHungry_27 rfl (lv_at hl 1 rfl) ?_
    obtain ⟨r_42, er_42, hf⟩ := bf_b_some hf
    refine bf_cci (n := 1) (As := [.ref (c + 180 + 2 * x1.toNatClampNeg)]) (rest := []) X hd (mX1_jamOf l G ν c q T_39 x1.toNatClampNeg (bf_in_lt g_36) er_42) (lw_V q1207 q1209 qs42 q149 q1210) (by decide +kernel) ⟨Nat.le_of_ble_eq_true rfl, Nat.le_of_ble_eq_true rfl⟩ rfl hl.1 rfl (Nat.le_of_ble_eq_true rfl) dX1_isHungry_28 ⟨Nat.le_of_ble_eq_true rfl, Nat.le_of_ble_eq_true rfl⟩ (fun H locs hd => ?_)
    exact J31 x1.toNatClampNeg (bf_in_lt g_36) r_40 r_42 T_39 _ _ _ hf hd (lv_sub hl [2, 3, 1, 0] rfl)
  · have hf := bf_it hf c_41
    refine lv_iconst (v := (-1)) hx hb dX1_isHungry_22 (by decide) ?_
    refine lv_goto (tgt := 31) hx hb dX1_isHungry_23 (by decide) ?_
    exact J31 x1.toNatClampNeg (bf_in_lt g_36) r_40 (-1) T_39 _ _ _ hf hd (lv_sub hl [2, 3, 1, 0] rfl)
