set_option maxRecDepth 100000
def fX0_isIn (x0 x1 x2 : Int32) : Int32 := if x0 < x1 then (0) else (if x2 < x0 then (0) else (1))
set_option maxHeartbeats 4000000 in
theorem mX0_isIn (l : Launch) (G : bf_G) (σ : bf_V) (x0 x1 x2 : Int32) {r : Int32} (hf : fX0_isIn x0 x1 x2 = r) : bf_MZ l G yX0_isIn cX0_isIn 3 (bf_rm 0) [.int x0, .int x1, .int x2] σ (fun v σ' => v = r ∧ σ' = σ) := by
  refine bf_MZ.of rfl (Nat.le_of_ble_eq_true rfl) ?_
  intro p e s m below meth c Q X hlk hnm kret hd ls hl
  have hx := X.1
  have hb := X.2.1
  have hown := X.2.2.2.1
  have hts := X.2.2.2.2
  have hl : lv_has ls 3 [(0, .int x0), (1, .int x1), (2, .int x2)] := hl
  unfold fX0_isIn at hf
  refine lv_iload_n hx hb dX0_isIn_0 rfl (lv_at hl 0 rfl) ?_
  refine lv_iload_n hx hb dX0_isIn_1 rfl (lv_at hl 1 rfl) ?_
  refine lv_icmp_lt (tgt := 14) hx hb dX0_isIn_2 (by decide) (fun c_3 => ?_) (fun c_3 => ?_)
  · have hf := bf_it hf c_3
    refine lv_iconst (v := 0) hx hb dX0_isIn_14 (by decide) ?_
    exact kret _ _ _ _ _ _ ⟨hf, rfl⟩ (Or.inl rfl) hd dX0_isIn_15
  · have hf := bf_ie hf c_3
    refine lv_iload_n hx hb dX0_isIn_5 rfl (lv_at hl 0 rfl) ?_
    refine lv_iload_n hx hb dX0_isIn_6 rfl (lv_at hl 2 rfl) ?_
    refine lv_icmp_gt (tgt := 14) hx hb dX0_isIn_7 (by decide) (fun c_4 => ?_) (fun c_4 => ?_)
    · have hf := bf_it hf c_4
      refine lv_iconst (v := 0) hx hb dX0_isIn_14 (by decide) ?_
      exact kret _ _ _ _ _ _ ⟨hf, rfl⟩ (Or.inl rfl) hd dX0_isIn_15
    · have hf := bf_ie hf c_4
      refine lv_iconst (v := 1) hx hb dX0_isIn_10 (by decide) ?_
      refine lv_goto (tgt := 15) hx hb dX0_isIn_11 (by decide) ?_
      exact kret _ _ _ _ _ _ ⟨hf, rfl⟩ (Or.inr rfl) hd dX0_isIn_15
def fX0_isPlace (x0 : Int32) : Int32 := (fX0_isIn x0 0 9)
set_option maxHeartbeats 4000000 in
theorem mX0_isPlace (l : Launch) (G : bf_G) (σ : bf_V) (x0 : Int32) {r : Int32} (hf : fX0_isPlace x0 = r) : bf_MZ l G yX0_isPlace cX0_isPlace 1 (bf_rm 1) [.int x0] σ (fun v σ' => v = r ∧ σ' = σ) := by
  refine bf_MZ.of rfl (Nat.le_of_ble_eq_true rfl) ?_
  intro p e s m below meth c Q X hlk hnm kret hd ls hl
  have hx := X.1
  have hb := X.2.1
  have hown := X.2.2.2.1
  have hts := X.2.2.2.2
  have hl : lv_has ls 1 [(0, .int x0)] := hl
  unfold fX0_isPlace at hf
  refine lv_iload_n hx hb dX0_isPlace_0 rfl (lv_at hl 0 rfl) ?_
  refine lv_iconst (v := 0) hx hb dX0_isPlace_1 (by decide) ?_
  refine lv_bipush (v := 9) hx hb dX0_isPlace_2 (by decide) ?_
  refine bf_cSz (n := 3) (As := [.int x0, .int 0, .int 9]) (rest := []) X hd (mX0_isIn l G _ x0 0 9 rfl) (lw_S q473 q474 q148 q475) (by decide +kernel) ⟨Nat.le_of_ble_eq_true rfl, Nat.le_of_ble_eq_true rfl⟩ rfl hl.1 rfl (Nat.le_of_ble_eq_true rfl) dX0_isPlace_4 ⟨Nat.le_of_ble_eq_true rfl, Nat.le_of_ble_eq_true rfl⟩ (fun r σ' H locs hF z_2 hd => ?_)
  rw [hF.2] at hd
  refine bf_top hF.1.symm ?_
  rw [hF.1] at z_2
  exact kret _ _ _ _ _ _ ⟨hf, rfl⟩ z_2 hd dX0_isPlace_7
def fJ13_bitCount (x0 : Int32) : Int32 := bf_l ((x0 - (((x0.toUInt32 >>> (Int32.toUInt32 1 &&& Int32.toUInt32 31)).toInt32) &&& 1431655765))) fun x0_1 => bf_l (((x0_1 &&& 858993459) + (((x0_1.toUInt32 >>> (Int32.toUInt32 2 &&& Int32.toUInt32 31)).toInt32) &&& 858993459))) fun x0_2 => bf_l (((x0_2 + ((x0_2.toUInt32 >>> (Int32.toUInt32 4 &&& Int32.toUInt32 31)).toInt32)) &&& 252645135)) fun x0_3 => bf_l ((x0_3 + ((x0_3.toUInt32 >>> (Int32.toUInt32 8 &&& Int32.toUInt32 31)).toInt32))) fun x0_4 => bf_l ((x0_4 + ((x0_4.toUInt32 >>> (Int32.toUInt32 16 &&& Int32.toUInt32 31)).toInt32))) fun x0_5 => (x0_5 &&& 63)
set_option maxHeartbeats 4000000 in
theorem mJ13_bitCount (l : Launch) (G : bf_G) (σ : bf_V) (x0 : Int32) {r : Int32} (hf : fJ13_bitCount x0 = r) : bf_MI l G yJ13_bitCount cJ13_bitCount 1 (bf_rm 0) [.int x0] σ (fun v σ' => v = r ∧ σ' = σ) := by
  refine bf_MI.of rfl (Nat.le_of_ble_eq_true rfl) ?_
  intro p e s m below meth c Q X hlk hnm kret hd ls hl
  have hx := X.1
  have hb := X.2.1
  have hown := X.2.2.2.1
  have hts := X.2.2.2.2
  have hl : lv_has ls 1 [(0, .int x0)] := hl
  unfold fJ13_bitCount at hf
  refine lv_iload_n hx hb dJ13_bitCount_0 rfl (lv_at hl 0 rfl) ?_
  refine lv_iload_n hx hb dJ13_bitCount_1 rfl (lv_at hl 0 rfl) ?_
  refine lv_iconst (v := 1) hx hb dJ13_bitCount_2 (by decide) ?_
  refine lv_iushr (v := (x0.toUInt32 >>> (Int32.toUInt32 1 &&& Int32.toUInt32 31)).toInt32) hx hb dJ13_bitCount_3 rfl ?_
  refine lv_ldcw (v := 1431655765) hx hb hown (hts _ q1299) dJ13_bitCount_4 ?_
  refine lv_iand hx hb dJ13_bitCount_7 ?_
  refine lv_isub hx hb dJ13_bitCount_8 ?_
  obtain ⟨x0_6, ex0_6, hf⟩ := bf_l_e hf
  refine bf_top ex0_6 ?_
  refine lv_istore_n (lv' := [(0, .int x0_6)]) hx hb dJ13_bitCount_9 rfl hl (by decide) rfl (fun ls hl => ?_)
  refine lv_iload_n hx hb dJ13_bitCount_10 rfl (lv_at hl 0 rfl) ?_
  refine lv_ldcw (v := 858993459) hx hb hown (hts _ q1300) dJ13_bitCount_11 ?_
  refine lv_iand hx hb dJ13_bitCount_14 ?_
  refine lv_iload_n hx hb dJ13_bitCount_15 rfl (lv_at hl 0 rfl) ?_
  refine lv_iconst (v := 2) hx hb dJ13_bitCount_16 (by decide) ?_
  refine lv_iushr (v := (x0_6.toUInt32 >>> (Int32.toUInt32 2 &&& Int32.toUInt32 31)).toInt32) hx hb dJ13_bitCount_17 rfl ?_
  refine lv_ldcw (v := 858993459) hx hb hown (hts _ q1300) dJ13_bitCount_18 ?_
  refine lv_iand hx hb dJ13_bitCount_21 ?_
  refine lv_iadd hx hb dJ13_bitCount_22 ?_
  obtain ⟨x0_7, ex0_7, hf⟩ := bf_l_e hf
  refine bf_top ex0_7 ?_
  refine lv_istore_n (lv' := [(0, .int x0_7)]) hx hb dJ13_bitCount_23 rfl hl (by decide) rfl (fun ls hl => ?_)
  refine lv_iload_n hx hb dJ13_bitCount_24 rfl (lv_at hl 0 rfl) ?_
  refine lv_iload_n hx hb dJ13_bitCount_25 rfl (lv_at hl 0 rfl) ?_
  refine lv_iconst (v := 4) hx hb dJ13_bitCount_26 (by decide) ?_
  refine lv_iushr (v := (x0_7.toUInt32 >>> (Int32.toUInt32 4 &&& Int32.toUInt32 31)).toInt32) hx hb dJ13_bitCount_27 rfl ?_
  refine lv_iadd hx hb dJ13_bitCount_28 ?_
  refine lv_ldcw (v := 252645135) hx hb hown (hts _ q1301) dJ13_bitCount_29 ?_
  refine lv_iand hx hb dJ13_bitCount_32 ?_
  obtain ⟨x0_8, ex0_8, hf⟩ := bf_l_e hf
  refine bf_top ex0_8 ?_
  refine lv_istore_n (lv' := [(0, .int x0_8)]) hx hb dJ13_bitCount_33 rfl hl (by decide) rfl (fun ls hl => ?_)
  refine lv_iload_n hx hb dJ13_bitCount_34 rfl (lv_at hl 0 rfl) ?_
  refine lv_iload_n hx hb dJ13_bitCount_35 rfl (lv_at hl 0 rfl) ?_
  refine lv_bipush (v := 8) hx hb dJ13_bitCount_36 (by decide) ?_
  refine lv_iushr (v := (x0_8.toUInt32 >>> (Int32.toUInt32 8 &&& Int32.toUInt32 31)).toInt32) hx hb dJ13_bitCount_38 rfl ?_
  refine lv_iadd hx hb dJ13_bitCount_39 ?_
  obtain ⟨x0_9, ex0_9, hf⟩ := bf_l_e hf
  refine bf_top ex0_9 ?_
  refine lv_istore_n (lv' := [(0, .int x0_9)]) hx hb dJ13_bitCount_40 rfl hl (by decide) rfl (fun ls hl => ?_)
  refine lv_iload_n hx hb dJ13_bitCount_41 rfl (lv_at hl 0 rfl) ?_
  refine lv_iload_n hx hb dJ13_bitCount_42 rfl (lv_at hl 0 rfl) ?_
  refine lv_bipush (v := 16) hx hb dJ13_bitCount_43 (by decide) ?_
  refine lv_iushr (v := (x0_9.toUInt32 >>> (Int32.toUInt32 16 &&& Int32.toUInt32 31)).toInt32) hx hb dJ13_bitCount_45 rfl ?_
  refine lv_iadd hx hb dJ13_bitCount_46 ?_
  obtain ⟨x0_10, ex0_10, hf⟩ := bf_l_e hf
  refine bf_top ex0_10 ?_
  refine lv_istore_n (lv' := [(0, .int x0_10)]) hx hb dJ13_bitCount_47 rfl hl (by decide) rfl (fun ls hl => ?_)
  refine lv_iload_n hx hb dJ13_bitCount_48 rfl (lv_at hl 0 rfl) ?_
  refine lv_bipush (v := 63) hx hb dJ13_bitCount_49 (by decide) ?_
  refine lv_iand hx hb dJ13_bitCount_51 ?_
  exact kret _ _ _ _ _ _ ⟨hf, rfl⟩ hd dJ13_bitCount_52
