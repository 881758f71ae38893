set_option maxRecDepth 100000
def fX2_takes (S2 : bf_CS) (i : Nat) (T : bf_CS) : Option (bf_CS) := bf_l (bf_u3 T 1 i 0 (S2.1 1 i 0)) fun T_1 => bf_l (bf_u3 T_1 1 i 1 (S2.1 1 i 1)) fun T_2 => bf_l (bf_u3 T_2 1 i 2 (S2.1 1 i 2)) fun T_3 => some T_3
set_option maxHeartbeats 4000000 in
theorem mX2_takes (l : Launch) (G : bf_G) (ν : bf_V) (c : Nat) (q : Nat → Nat) (T : bf_CS) (d : Nat) (q2 : Nat → Nat) (S2 : bf_CS) (hC2 : bf_hC G ν d q2 S2) (hdis : c + 200 ≤ d ∨ d + 200 ≤ c) (i : Nat) (hi : i < 5) {T' : bf_CS} (hf : fX2_takes S2 i T = some T') : bf_MV l G yX2_takes cX2_takes 2 (bf_rm 0) [.ref (c + 161 + i), .ref (d + 161 + i)] (bf_pC G ν c q T) (fun σ' => σ' = bf_pC G ν c q T') := by
  refine bf_MV.of rfl (Nat.le_of_ble_eq_true rfl) ?_
  intro p e s m below meth c' Q X hlk hnm kret hd ls hl
  have hx := X.1
  have hb := X.2.1
  have hml := X.2.2.1
  have hown := X.2.2.2.1
  have hts := X.2.2.2.2
  have hl : lv_has ls 2 [(0, .ref (c + 161 + i)), (1, .ref (d + 161 + i))] := hl
  unfold fX2_takes at hf
  refine lv_aload_n hx hb dX2_takes_0 rfl (lv_at hl 0 rfl) ?_
  refine lv_aload_n hx hb dX2_takes_1 rfl (lv_at hl 1 rfl) ?_
  refine bf_rP X hd (bf_hC_dis hC2 hdis) hi 0 (by decide) (Or.inl q240) dX2_takes_2 ?_
  refine bf_xP X hd hi 0 (by decide) (Or.inl q240) dX2_takes_5 (fun H locs hd => ?_)
  obtain ⟨T_4, eT_4, hf⟩ := bf_l_e hf
  have hd := hd.of (congrArg (bf_pC G ν c q) eT_4.symm)
  refine lv_aload_n hx hb dX2_takes_8 rfl (lv_at hl 0 rfl) ?_
  refine lv_aload_n hx hb dX2_takes_9 rfl (lv_at hl 1 rfl) ?_
  refine bf_rP X hd (bf_hC_dis hC2 hdis) hi 1 (by decide) (Or.inl q243) dX2_takes_10 ?_
  refine bf_xP X hd hi 1 (by decide) (Or.inl q243) dX2_takes_13 (fun H locs hd => ?_)
  obtain ⟨T_5, eT_5, hf⟩ := bf_l_e hf
  have hd := hd.of (congrArg (bf_pC G ν c q) eT_5.symm)
  refine lv_aload_n hx hb dX2_takes_16 rfl (lv_at hl 0 rfl) ?_
  refine lv_aload_n hx hb dX2_takes_17 rfl (lv_at hl 1 rfl) ?_
  refine bf_rP X hd (bf_hC_dis hC2 hdis) hi 2 (by decide) (Or.inl q246) dX2_takes_18 ?_
  refine bf_xP X hd hi 2 (by decide) (Or.inl q246) dX2_takes_21 (fun H locs hd => ?_)
  obtain ⟨T_6, eT_6, hf⟩ := bf_l_e hf
  have hd := hd.of (congrArg (bf_pC G ν c q) eT_6.symm)
  exact kret _ _ _ _ _ (congrArg (bf_pC G ν c q) (bf_so hf)) hd dX2_takes_24
def fX3_takes (S2 : bf_CS) (i : Nat) (T : bf_CS) : Option (bf_CS) := bf_l (bf_u3 T 2 i 0 (S2.1 2 i 0)) fun T_1 => bf_l (bf_u3 T_1 2 i 1 (S2.1 2 i 1)) fun T_2 => bf_l (bf_u3 T_2 2 i 2 (S2.1 2 i 2)) fun T_3 => bf_l (bf_u3 T_3 2 i 3 (S2.1 2 i 3)) fun T_4 => some T_4
set_option maxHeartbeats 4000000 in
theorem mX3_takes (l : Launch) (G : bf_G) (ν : bf_V) (c : Nat) (q : Nat → Nat) (T : bf_CS) (d : Nat) (q2 : Nat → Nat) (S2 : bf_CS) (hC2 : bf_hC G ν d q2 S2) (hdis : c + 200 ≤ d ∨ d + 200 ≤ c) (i : Nat) (hi : i < 14) {T' : bf_CS} (hf : fX3_takes S2 i T = some T') : bf_MV l G yX3_takes cX3_takes 2 (bf_rm 0) [.ref (c + 166 + i), .ref (d + 166 + i)] (bf_pC G ν c q T) (fun σ' => σ' = bf_pC G ν c q T') := by
  refine bf_MV.of rfl (Nat.le_of_ble_eq_true rfl) ?_
  intro p e s m below meth c' Q X hlk hnm kret hd ls hl
  have hx := X.1
  have hb := X.2.1
  have hml := X.2.2.1
  have hown := X.2.2.2.1
  have hts := X.2.2.2.2
  have hl : lv_has ls 2 [(0, .ref (c + 166 + i)), (1, .ref (d + 166 + i))] := hl
  unfold fX3_takes at hf
  refine lv_aload_n hx hb dX3_takes_0 rfl (lv_at hl 0 rfl) ?_
  refine lv_aload_n hx hb dX3_takes_1 rfl (lv_at hl 1 rfl) ?_
  refine bf_rT X hd (bf_hC_dis hC2 hdis) hi 0 (by decide) (Or.inl q261) dX3_takes_2 ?_
  refine bf_xT X hd hi 0 (by decide) (Or.inl q261) dX3_takes_5 (fun H locs hd => ?_)
  obtain ⟨T_5, eT_5, hf⟩ := bf_l_e hf
  have hd := hd.of (congrArg (bf_pC G ν c q) eT_5.symm)
  refine lv_aload_n hx hb dX3_takes_8 rfl (lv_at hl 0 rfl) ?_
  refine lv_aload_n hx hb dX3_takes_9 rfl (lv_at hl 1 rfl) ?_
  refine bf_rT X hd (bf_hC_dis hC2 hdis) hi 1 (by decide) (Or.inl q264) dX3_takes_10 ?_
  refine bf_xT X hd hi 1 (by decide) (Or.inl q264) dX3_takes_13 (fun H locs hd => ?_)
  obtain ⟨T_6, eT_6, hf⟩ := bf_l_e hf
  have hd := hd.of (congrArg (bf_pC G ν c q) eT_6.symm)
  refine lv_aload_n hx hb dX3_takes_16 rfl (lv_at hl 0 rfl) ?_
  refine lv_aload_n hx hb dX3_takes_17 rfl (lv_at hl 1 rfl) ?_
  refine bf_rT X hd (bf_hC_dis hC2 hdis) hi 2 (by decide) (Or.inl q267) dX3_takes_18 ?_
  refine bf_xT X hd hi 2 (by decide) (Or.inl q267) dX3_takes_21 (fun H locs hd => ?_)
  obtain ⟨T_7, eT_7, hf⟩ := bf_l_e hf
  have hd := hd.of (congrArg (bf_pC G ν c q) eT_7.symm)
  refine lv_aload_n hx hb dX3_takes_24 rfl (lv_at hl 0 rfl) ?_
  refine lv_aload_n hx hb dX3_takes_25 rfl (lv_at hl 1 rfl) ?_
  refine bf_rT X hd (bf_hC_dis hC2 hdis) hi 3 (by decide) (Or.inl q270) dX3_takes_26 ?_
  refine bf_xT X hd hi 3 (by decide) (Or.inl q270) dX3_takes_29 (fun H locs hd => ?_)
  obtain ⟨T_8, eT_8, hf⟩ := bf_l_e hf
  have hd := hd.of (congrArg (bf_pC G ν c q) eT_8.symm)
  exact kret _ _ _ _ _ (congrArg (bf_pC G ν c q) (bf_so hf)) hd dX3_takes_32
def fX4_takes_10b (S2 : bf_CS) (i : Nat) (k10 : Int32 → bf_CS → Option (bf_CS)) (v10_2 : Int32) (T10 : bf_CS) : Option (bf_CS) := if 5 ≤ v10_2 then (some T10) else (bf_c (bf_in v10_2 5) <| bf_c (bf_in v10_2 5) <| bf_l (bf_u3 T10 4 i v10_2.toNatClampNeg (S2.1 4 i v10_2.toNatClampNeg)) fun T_4 => bf_l (v10_2 + 1) fun x2_5 => k10 x2_5 T_4)
def fX4_takes_10 (S2 : bf_CS) (i : Nat) : Nat → Int32 → bf_CS → Option (bf_CS)
  | 0, _, _ => none
  | n + 1, v10_2, T10 => fX4_takes_10b S2 i (fX4_takes_10 S2 i n) v10_2 T10
def fX4_takes (S2 : bf_CS) (i : Nat) (T : bf_CS) : Option (bf_CS) := bf_l (bf_u3 T 3 i 0 (S2.1 3 i 0)) fun T_6 => fX4_takes_10 S2 i bf_fuel 0 T_6
set_option maxHeartbeats 4000000 in
theorem mX4_takes (l : Launch) (G : bf_G) (ν : bf_V) (c : Nat) (q : Nat → Nat) (T : bf_CS) (d : Nat) (q2 : Nat → Nat) (S2 : bf_CS) (hC2 : bf_hC G ν d q2 S2) (hdis : c + 200 ≤ d ∨ d + 200 ≤ c) (i : Nat) (hi : i < 10) {T' : bf_CS} (hf : fX4_takes S2 i T = some T') : bf_MV l G yX4_takes cX4_takes 3 (bf_rm 0) [.ref (c + 180 + 2 * i), .ref (d + 180 + 2 * i)] (bf_pC G ν c q T) (fun σ' => σ' = bf_pC G ν c q T') := by
  refine bf_MV.of rfl (Nat.le_of_ble_eq_true rfl) ?_
  intro p e s m below meth c' Q X hlk hnm kret hd ls hl
  have hx := X.1
  have hb := X.2.1
  have hml := X.2.2.1
  have hown := X.2.2.2.1
  have hts := X.2.2.2.2
  have hl : lv_has ls 3 [(0, .ref (c + 180 + 2 * i)), (1, .ref (d + 180 + 2 * i))] := hl
  have L10 : ∀ (n10 : Nat) (v10_2 : Int32) (T10 : bf_CS) (H : Heap) (locs : List Loc) (ls : Array Slot), fX4_takes_10 S2 i n10 v10_2 T10 = some T' → bf_Dy G s H locs (bf_pC G ν c q T10) → lv_has ls 3 [(0, .ref (c + 180 + 2 * i)), (1, .ref (d + 180 + 2 * i)), (2, .int v10_2)] → W p l e (bf_rm 0) s m ([.ref (c + 180 + 2 * i), .ref (d + 180 + 2 * i)] : List Value).toArray below meth c' H locs 0 0 Q (F0 m 10 ls []) := by
    intro n10
    induction n10 with
    | zero =>
      intro v10_2 T10 H locs ls hf hd hl
      exact absurd (show (none : Option (bf_CS)) = some T' from hf) (by intro h; cases h)
    | succ n10 ih10 =>
      intro v10_2 T10 H locs ls hf hd hl
      have hf : fX4_takes_10b S2 i (fX4_takes_10 S2 i n10) v10_2 T10 = some T' := hf
      unfold fX4_takes_10b at hf
      refine lv_iload_n hx hb dX4_takes_10 rfl (lv_at hl 2 rfl) ?_
      refine lv_iconst (v := 5) hx hb dX4_takes_11 (by decide) ?_
      refine lv_icmp_ge (tgt := 33) hx hb dX4_takes_12 (by decide) (fun c_7 => ?_) (fun c_7 => ?_)
      · have hf := bf_it hf c_7
        exact kret _ _ _ _ _ (congrArg (bf_pC G ν c q) (bf_so hf)) hd dX4_takes_33
      · have hf := bf_ie hf c_7
        refine lv_aload_n hx hb dX4_takes_15 rfl (lv_at hl 0 rfl) ?_
        refine bf_rE X hd (bf_pC_hC G ν c q T10) hi (Or.inl q287) dX4_takes_16 ?_
        refine lv_iload_n hx hb dX4_takes_19 rfl (lv_at hl 2 rfl) ?_
        refine lv_aload_n hx hb dX4_takes_20 rfl (lv_at hl 1 rfl) ?_
        refine bf_rE X hd (bf_hC_dis hC2 hdis) hi (Or.inl q287) dX4_takes_21 ?_
        refine lv_iload_n hx hb dX4_takes_24 rfl (lv_at hl 2 rfl) ?_
        obtain ⟨g_8, hf⟩ := bf_c_some hf
        refine bf_iald X hd (bf_cta (bf_hC_dis hC2 hdis) hi) g_8 dX4_takes_25 ?_
        obtain ⟨g_9, hf⟩ := bf_c_some hf
        refine bf_sE X hd hi g_9 dX4_takes_26 (fun H locs hd => ?_)
        obtain ⟨T_10, eT_10, hf⟩ := bf_l_e hf
        have hd := hd.of (congrArg (bf_pC G ν c q) eT_10.symm)
        obtain ⟨x2_11, ex2_11, hf⟩ := bf_l_e hf
        refine lv_iinc (v := x2_11) (lv' := [(2, .int x2_11), (0, .ref (c + 180 + 2 * i)), (1, .ref (d + 180 + 2 * i))]) hx hb dX4_takes_27 hl (k := 2) rfl (by rw [ex2_11]; rfl) (by decide) rfl (fun ls hl => ?_)
        refine lv_goto (tgt := 10) hx hb dX4_takes_30 (by decide) ?_
        exact ih10 x2_11 T_10 _ _ _ hf hd (lv_sub hl [1, 2, 0] rfl)
  unfold fX4_takes at hf
  refine lv_aload_n hx hb dX4_takes_0 rfl (lv_at hl 0 rfl) ?_
  refine lv_aload_n hx hb dX4_takes_1 rfl (lv_at hl 1 rfl) ?_
  refine bf_rH X hd (bf_hC_dis hC2 hdis) hi (Or.inl q290) dX4_takes_2 ?_
  refine bf_xH X hd hi (Or.inl q290) dX4_takes_5 (fun H locs hd => ?_)
  obtain ⟨T_12, eT_12, hf⟩ := bf_l_e hf
  have hd := hd.of (congrArg (bf_pC G ν c q) eT_12.symm)
  refine lv_iconst (v := 0) hx hb dX4_takes_8 (by decide) ?_
  refine lv_istore_n (lv' := [(2, .int 0), (0, .ref (c + 180 + 2 * i)), (1, .ref (d + 180 + 2 * i))]) hx hb dX4_takes_9 rfl hl (by decide) rfl (fun ls hl => ?_)
  exact L10 bf_fuel 0 T_12 _ _ _ hf hd (lv_sub hl [1, 2, 0] rfl)
def fX1_moves_96 (S2 : bf_CS) (T96 : bf_CS) : Option (bf_CS) := bf_l (bf_u3 T96 0 17 0 (S2.1 0 17 0)) fun T_17 => bf_l (bf_u3 T_17 0 18 0 (S2.1 0 18 0)) fun T_18 => bf_l (bf_u3 T_18 0 19 0 (S2.1 0 19 0)) fun T_19 => bf_l (bf_u3 T_19 0 20 0 (S2.1 0 20 0)) fun T_20 => some T_20
def fX1_moves_69b (S2 : bf_CS) (k69 : Int32 → bf_CS → Option (bf_CS)) (v69_2 : Int32) (T69 : bf_CS) : Option (bf_CS) := if 10 ≤ v69_2 then (fX1_moves_96 S2 T69) else (bf_c (bf_in v69_2 10) <| bf_c (bf_in v69_2 10) <| bf_b (fX4_takes S2 v69_2.toNatClampNeg T69) fun T_15 => bf_l (v69_2 + 1) fun x2_16 => k69 x2_16 T_15)
def fX1_moves_69 (S2 : bf_CS) : Nat → Int32 → bf_CS → Option (bf_CS)
  | 0, _, _ => none
  | n + 1, v69_2, T69 => fX1_moves_69b S2 (fX1_moves_69 S2 n) v69_2 T69
def fX1_moves_67 (S2 : bf_CS) (T67 : bf_CS) : Option (bf_CS) := fX1_moves_69 S2 bf_fuel 0 T67
def fX1_moves_38b (S2 : bf_CS) (k38 : Int32 → bf_CS → Option (bf_CS)) (v38_2 : Int32) (T38 : bf_CS) : Option (bf_CS) := if (T38.1 0 11 0) ≤ v38_2 then (fX1_moves_67 S2 T38) else (bf_c (bf_in v38_2 14) <| bf_c (bf_in v38_2 14) <| bf_b (fX3_takes S2 v38_2.toNatClampNeg T38) fun T_10 => bf_l (v38_2 + 1) fun x2_11 => k38 x2_11 T_10)
def fX1_moves_38 (S2 : bf_CS) : Nat → Int32 → bf_CS → Option (bf_CS)
  | 0, _, _ => none
  | n + 1, v38_2, T38 => fX1_moves_38b S2 (fX1_moves_38 S2 n) v38_2 T38
def fX1_moves_28 (S2 : bf_CS) (T28 : bf_CS) : Option (bf_CS) := bf_l (bf_u3 T28 0 11 0 (S2.1 0 11 0)) fun T_6 => fX1_moves_38 S2 bf_fuel 0 T_6
def fX1_moves_2b (S2 : bf_CS) (k2 : Int32 → bf_CS → Option (bf_CS)) (v2_2 : Int32) (T2 : bf_CS) : Option (bf_CS) := if 5 ≤ v2_2 then (fX1_moves_28 S2 T2) else (bf_c (bf_in v2_2 5) <| bf_c (bf_in v2_2 5) <| bf_b (fX2_takes S2 v2_2.toNatClampNeg T2) fun T_4 => bf_l (v2_2 + 1) fun x2_5 => k2 x2_5 T_4)
def fX1_moves_2 (S2 : bf_CS) : Nat → Int32 → bf_CS → Option (bf_CS)
  | 0, _, _ => none
  | n + 1, v2_2, T2 => fX1_moves_2b S2 (fX1_moves_2 S2 n) v2_2 T2
def fX1_moves (S2 : bf_CS) (T : bf_CS) : Option (bf_CS) := fX1_moves_2 S2 bf_fuel 0 T
set_option maxHeartbeats 4000000 in
theorem mX1_moves (l : Launch) (G : bf_G) (ν : bf_V) (c : Nat) (q : Nat → Nat) (T : bf_CS) (d : Nat) (q2 : Nat → Nat) (S2 : bf_CS) (hC2 : bf_hC G ν d q2 S2) (hdis : c + 200 ≤ d ∨ d + 200 ≤ c) {T' : bf_CS} (hf : fX1_moves S2 T = some T') : bf_MV l G yX1_moves cX1_moves 3 (bf_rm 1) [.ref c, .ref d] (bf_pC G ν c q T) (fun σ' => σ' = bf_pC G ν c q T') := by
  refine bf_MV.of rfl (Nat.le_of_ble_eq_true rfl) ?_
  intro p e s m below meth c' Q X hlk hnm kret hd ls hl
  have hx := X.1
  have hb := X.2.1
  have hml := X.2.2.1
  have hown := X.2.2.2.1
  have hts := X.2.2.2.2
  have hl : lv_has ls 3 [(0, .ref c), (1, .ref d)] := hl
  have J96 : ∀ (T96 : bf_CS) (H : Heap) (locs : List Loc) (ls : Array Slot), fX1_moves_96 S2 T96 = some T' → bf_Dy G s H locs (bf_pC G ν c q T96) → lv_has ls 3 [(0, .ref c), (1, .ref d)] → W p l e (bf_rm 1) s m ([.ref c, .ref d] : List Value).toArray below meth c' H locs 0 0 Q (F0 m 96 ls []) := by
    intro T96 H locs ls hf hd hl
    unfold fX1_moves_96 at hf
    refine lv_aload_n hx hb dX1_moves_96 rfl (lv_at hl 0 rfl) ?_
    refine lv_aload_n hx hb dX1_moves_97 rfl (lv_at hl 1 rfl) ?_
    refine bf_rC X hd (bf_hC_dis hC2 hdis) 17 (by decide) (Or.inl q337) rfl dX1_moves_98 ?_
    refine bf_xC X hd 17 (by decide) ⟨by decide, rfl, rfl⟩ (Or.inl q337) dX1_moves_101 (fun H locs hd => ?_)
    obtain ⟨T_21, eT_21, hf⟩ := bf_l_e hf
    have hd := hd.of (congrArg (bf_pC G ν c q) eT_21.symm)
    refine lv_aload_n hx hb dX1_moves_104 rfl (lv_at hl 0 rfl) ?_
    refine lv_aload_n hx hb dX1_moves_105 rfl (lv_at hl 1 rfl) ?_
    refine bf_rC X hd (bf_hC_dis hC2 hdis) 18 (by decide) (Or.inl q339) rfl dX1_moves_106 ?_
    refine bf_xC X hd 18 (by decide) ⟨by decide, rfl, rfl⟩ (Or.inl q339) dX1_moves_109 (fun H locs hd => ?_)
    obtain ⟨T_22, eT_22, hf⟩ := bf_l_e hf
    have hd := hd.of (congrArg (bf_pC G ν c q) eT_22.symm)
    refine lv_aload_n hx hb dX1_moves_112 rfl (lv_at hl 0 rfl) ?_
    refine lv_aload_n hx hb dX1_moves_113 rfl (lv_at hl 1 rfl) ?_
    refine bf_rC X hd (bf_hC_dis hC2 hdis) 19 (by decide) (Or.inl q341) rfl dX1_moves_114 ?_
    refine bf_xC X hd 19 (by decide) ⟨by decide, rfl, rfl⟩ (Or.inl q341) dX1_moves_117 (fun H locs hd => ?_)
    obtain ⟨T_23, eT_23, hf⟩ := bf_l_e hf
    have hd := hd.of (congrArg (bf_pC G ν c q) eT_23.symm)
    refine lv_aload_n hx hb dX1_moves_120 rfl (lv_at hl 0 rfl) ?_
    refine lv_aload_n hx hb dX1_moves_121 rfl (lv_at hl 1 rfl) ?_
    refine bf_rC X hd (bf_hC_dis hC2 hdis) 20 (by decide) (Or.inl q343) rfl dX1_moves_122 ?_
    refine bf_xC X hd 20 (by decide) ⟨by decide, rfl, rfl⟩ (Or.inl q343) dX1_moves_125 (fun H locs hd => ?_)
    obtain ⟨T_24, eT_24, hf⟩ := bf_l_e hf
    have hd := hd.of (congrArg (bf_pC G ν c q) eT_24.symm)
    exact kret _ _ _ _ _ (congrArg (bf_pC G ν c q) (bf_so hf)) hd dX1_moves_128
  have L69 : ∀ (n69 : Nat) (v69_2 : Int32) (T69 : bf_CS) (H : Heap) (locs : List Loc) (ls : Array Slot), fX1_moves_69 S2 n69 v69_2 T69 = some T' → bf_Dy G s H locs (bf_pC G ν c q T69) → lv_has ls 3 [(0, .ref c), (1, .ref d), (2, .int v69_2)] → W p l e (bf_rm 1) s m ([.ref c, .ref d] : List Value).toArray below meth c' H locs 0 0 Q (F0 m 69 ls []) := by
    intro n69
    induction n69 with
    | zero =>
      intro v69_2 T69 H locs ls hf hd hl
      exact absurd (show (none : Option (bf_CS)) = some T' from hf) (by intro h; cases h)
    | succ n69 ih69 =>
      intro v69_2 T69 H locs ls hf hd hl
      have hf : fX1_moves_69b S2 (fX1_moves_69 S2 n69) v69_2 T69 = some T' := hf
      unfold fX1_moves_69b at hf
      refine lv_iload_n hx hb dX1_moves_69 rfl (lv_at hl 2 rfl) ?_
      refine lv_bipush (v := 10) hx hb dX1_moves_70 (by decide) ?_
      refine lv_icmp_ge (tgt := 96) hx hb dX1_moves_72 (by decide) (fun c_25 => ?_) (fun c_25 => ?_)
      · have hf := bf_it hf c_25
        exact J96 T69 _ _ _ hf hd (lv_sub hl [0, 1] rfl)
      · have hf := bf_ie hf c_25
        refine lv_aload_n hx hb dX1_moves_75 rfl (lv_at hl 0 rfl) ?_
        refine bf_rC (v := .ref (c + 3)) X hd (bf_pC_hC G ν c q T69) 2 (by decide) (Or.inl q303) rfl dX1_moves_76 ?_
        refine lv_iload_n hx hb dX1_moves_79 rfl (lv_at hl 2 rfl) ?_
        obtain ⟨g_26, hf⟩ := bf_c_some hf
        refine bf_aald (v := .ref (c + 180 + 2 * v69_2.toNatClampNeg)) X hd (bf_c3 (bf_pC_hC G ν c q T69)) 4 rfl rfl g_26 rfl dX1_moves_80 ?_
        refine lv_aload_n hx hb dX1_moves_81 rfl (lv_at hl 1 rfl) ?_
        refine bf_rC (v := .ref (d + 3)) X hd (bf_hC_dis hC2 hdis) 2 (by decide) (Or.inl q303) rfl dX1_moves_82 ?_
        refine lv_iload_n hx hb dX1_moves_85 rfl (lv_at hl 2 rfl) ?_
        obtain ⟨g_27, hf⟩ := bf_c_some hf
        refine bf_aald (v := .ref (d + 180 + 2 * v69_2.toNatClampNeg)) X hd (bf_c3 (bf_hC_dis hC2 hdis)) 4 rfl rfl g_27 rfl dX1_moves_86 ?_
        obtain ⟨T_28, eT_28, hf⟩ := bf_b_some hf
        refine bf_cVv (n := 1) (As := [.ref (d + 180 + 2 * v69_2.toNatClampNeg)]) (rest := []) X hd (mX4_takes l G ν c q T69 d q2 S2 hC2 hdis v69_2.toNatClampNeg (bf_in_lt g_26) eT_28) (lw_V q990 q991 q992 q155 q993) (by decide +kernel) ⟨Nat.le_of_ble_eq_true rfl, Nat.le_of_ble_eq_true rfl⟩ (bf_recv hd (bf_cea (bf_pC_hC G ν c q T69) (bf_in_lt g_26)) (q := (RX4, TX4, 2)) rfl) rfl hl.1 rfl (Nat.le_of_ble_eq_true rfl) dX1_moves_87 ⟨Nat.le_of_ble_eq_true rfl, Nat.le_of_ble_eq_true rfl⟩ (fun σ' H locs hF hd => ?_)
        rw [hF] at hd
        obtain ⟨x2_29, ex2_29, hf⟩ := bf_l_e hf
        refine lv_iinc (v := x2_29) (lv' := [(2, .int x2_29), (0, .ref c), (1, .ref d)]) hx hb dX1_moves_90 hl (k := 2) rfl (by rw [ex2_29]; rfl) (by decide) rfl (fun ls hl => ?_)
        refine lv_goto (tgt := 69) hx hb dX1_moves_93 (by decide) ?_
        exact ih69 x2_29 T_28 _ _ _ hf hd (lv_sub hl [1, 2, 0] rfl)
  have J67 : ∀ (T67 : bf_CS) (H : Heap) (locs : List Loc) (ls : Array Slot), fX1_moves_67 S2 T67 = some T' → bf_Dy G s H locs (bf_pC G ν c q T67) → lv_has ls 3 [(0, .ref c), (1, .ref d)] → W p l e (bf_rm 1) s m ([.ref c, .ref d] : List Value).toArray below meth c' H locs 0 0 Q (F0 m 67 ls []) := by
    intro T67 H locs ls hf hd hl
    unfold fX1_moves_67 at hf
    refine lv_iconst (v := 0) hx hb dX1_moves_67 (by decide) ?_
    refine lv_istore_n (lv' := [(2, .int 0), (0, .ref c), (1, .ref d)]) hx hb dX1_moves_68 rfl hl (by decide) rfl (fun ls hl => ?_)
    exact L69 bf_fuel 0 T67 _ _ _ hf hd (lv_sub hl [1, 2, 0] rfl)
  have L38 : ∀ (n38 : Nat) (v38_2 : Int32) (T38 : bf_CS) (H : Heap) (locs : List Loc) (ls : Array Slot), fX1_moves_38 S2 n38 v38_2 T38 = some T' → bf_Dy G s H locs (bf_pC G ν c q T38) → lv_has ls 3 [(0, .ref c), (1, .ref d), (2, .int v38_2)] → W p l e (bf_rm 1) s m ([.ref c, .ref d] : List Value).toArray below meth c' H locs 0 0 Q (F0 m 38 ls []) := by
    intro n38
    induction n38 with
    | zero =>
      intro v38_2 T38 H locs ls hf hd hl
      exact absurd (show (none : Option (bf_CS)) = some T' from hf) (by intro h; cases h)
    | succ n38 ih38 =>
      intro v38_2 T38 H locs ls hf hd hl
      have hf : fX1_moves_38b S2 (fX1_moves_38 S2 n38) v38_2 T38 = some T' := hf
      unfold fX1_moves_38b at hf
      refine lv_iload_n hx hb dX1_moves_38 rfl (lv_at hl 2 rfl) ?_
      refine lv_aload_n hx hb dX1_moves_39 rfl (lv_at hl 0 rfl) ?_
      refine bf_rC X hd (bf_pC_hC G ν c q T38) 11 (by decide) (Or.inl q324) rfl dX1_moves_40 ?_
      refine lv_icmp_ge (tgt := 67) hx hb dX1_moves_43 (by decide) (fun c_30 => ?_) (fun c_30 => ?_)
      · have hf := bf_it hf c_30
        exact J67 T38 _ _ _ hf hd (lv_sub hl [0, 1] rfl)
      · have hf := bf_ie hf c_30
        refine lv_aload_n hx hb dX1_moves_46 rfl (lv_at hl 0 rfl) ?_
        refine bf_rC (v := .ref (c + 2)) X hd (bf_pC_hC G ν c q T38) 1 (by decide) (Or.inl q301) rfl dX1_moves_47 ?_
        refine lv_iload_n hx hb dX1_moves_50 rfl (lv_at hl 2 rfl) ?_
        obtain ⟨g_31, hf⟩ := bf_c_some hf
        refine bf_aald (v := .ref (c + 166 + v38_2.toNatClampNeg)) X hd (bf_c2 (bf_pC_hC G ν c q T38)) 3 rfl rfl g_31 rfl dX1_moves_51 ?_
        refine lv_aload_n hx hb dX1_moves_52 rfl (lv_at hl 1 rfl) ?_
        refine bf_rC (v := .ref (d + 2)) X hd (bf_hC_dis hC2 hdis) 1 (by decide) (Or.inl q301) rfl dX1_moves_53 ?_
        refine lv_iload_n hx hb dX1_moves_56 rfl (lv_at hl 2 rfl) ?_
        obtain ⟨g_32, hf⟩ := bf_c_some hf
        refine bf_aald (v := .ref (d + 166 + v38_2.toNatClampNeg)) X hd (bf_c2 (bf_hC_dis hC2 hdis)) 3 rfl rfl g_32 rfl dX1_moves_57 ?_
        obtain ⟨T_33, eT_33, hf⟩ := bf_b_some hf
        refine bf_cVv (n := 1) (As := [.ref (d + 166 + v38_2.toNatClampNeg)]) (rest := []) X hd (mX3_takes l G ν c q T38 d q2 S2 hC2 hdis v38_2.toNatClampNeg (bf_in_lt g_31) eT_33) (lw_V q986 q987 q988 q154 q989) (by decide +kernel) ⟨Nat.le_of_ble_eq_true rfl, Nat.le_of_ble_eq_true rfl⟩ (bf_recv hd (bf_ctr (bf_pC_hC G ν c q T38) (bf_in_lt g_31)) (q := (RX3, TX3, 4)) rfl) rfl hl.1 rfl (Nat.le_of_ble_eq_true rfl) dX1_moves_58 ⟨Nat.le_of_ble_eq_true rfl, Nat.le_of_ble_eq_true rfl⟩ (fun σ' H locs hF hd => ?_)
        rw [hF] at hd
        obtain ⟨x2_34, ex2_34, hf⟩ := bf_l_e hf
        refine lv_iinc (v := x2_34) (lv' := [(2, .int x2_34), (0, .ref c), (1, .ref d)]) hx hb dX1_moves_61 hl (k := 2) rfl (by rw [ex2_34]; rfl) (by decide) rfl (fun ls hl => ?_)
        refine lv_goto (tgt := 38) hx hb dX1_moves_64 (by decide) ?_
        exact ih38 x2_34 T_33 _ _ _ hf hd (lv_sub hl [1, 2, 0] rfl)
  have J28 : ∀ (T28 : bf_CS) (H : Heap) (locs : List Loc) (ls : Array Slot), fX1_moves_28 S2 T28 = some T' → bf_Dy G s H locs (bf_pC G ν c q T28) → lv_has ls 3 [(0, .ref c), (1, .ref d)] → W p l e (bf_rm 1) s m ([.ref c, .ref d] : List Value).toArray below meth c' H locs 0 0 Q (F0 m 28 ls []) := by
    intro T28 H locs ls hf hd hl
    unfold fX1_moves_28 at hf
    refine lv_aload_n hx hb dX1_moves_28 rfl (lv_at hl 0 rfl) ?_
    refine lv_aload_n hx hb dX1_moves_29 rfl (lv_at hl 1 rfl) ?_
    refine bf_rC X hd (bf_hC_dis hC2 hdis) 11 (by decide) (Or.inl q324) rfl dX1_moves_30 ?_
    refine bf_xC X hd 11 (by decide) ⟨by decide, rfl, rfl⟩ (Or.inl q324) dX1_moves_33 (fun H locs hd => ?_)
    obtain ⟨T_35, eT_35, hf⟩ := bf_l_e hf
    have hd := hd.of (congrArg (bf_pC G ν c q) eT_35.symm)
    refine lv_iconst (v := 0) hx hb dX1_moves_36 (by decide) ?_
    refine lv_istore_n (lv' := [(2, .int 0), (0, .ref c), (1, .ref d)]) hx hb dX1_moves_37 rfl hl (by decide) rfl (fun ls hl => ?_)
    exact L38 bf_fuel 0 T_35 _ _ _ hf hd (lv_sub hl [1, 2, 0] rfl)
  have L2 : ∀ (n2 : Nat) (v2_2 : Int32) (T2 : bf_CS) (H : Heap) (locs : List Loc) (ls : Array Slot), fX1_moves_2 S2 n2 v2_2 T2 = some T' → bf_Dy G s H locs (bf_pC G ν c q T2) → lv_has ls 3 [(0, .ref c), (1, .ref d), (2, .int v2_2)] → W p l e (bf_rm 1) s m ([.ref c, .ref d] : List Value).toArray below meth c' H locs 0 0 Q (F0 m 2 ls []) := by
    intro n2
    induction n2 with
    | zero =>
      intro v2_2 T2 H locs ls hf hd hl
      exact absurd (show (none : Option (bf_CS)) = some T' from hf) (by intro h; cases h)
    | succ n2 ih2 =>
      intro v2_2 T2 H locs ls hf hd hl
      have hf : fX1_moves_2b S2 (fX1_moves_2 S2 n2) v2_2 T2 = some T' := hf
      unfold fX1_moves_2b at hf
      refine lv_iload_n hx hb dX1_moves_2 rfl (lv_at hl 2 rfl) ?_
      refine lv_iconst (v := 5) hx hb dX1_moves_3 (by decide) ?_
      refine lv_icmp_ge (tgt := 28) hx hb dX1_moves_4 (by decide) (fun c_36 => ?_) (fun c_36 => ?_)
      · have hf := bf_it hf c_36
        exact J28 T2 _ _ _ hf hd (lv_sub hl [0, 1] rfl)
      · have hf := bf_ie hf c_36
        refine lv_aload_n hx hb dX1_moves_7 rfl (lv_at hl 0 rfl) ?_
        refine bf_rC (v := .ref (c + 1)) X hd (bf_pC_hC G ν c q T2) 0 (by decide) (Or.inl q299) rfl dX1_moves_8 ?_
        refine lv_iload_n hx hb dX1_moves_11 rfl (lv_at hl 2 rfl) ?_
        obtain ⟨g_37, hf⟩ := bf_c_some hf
        refine bf_aald (v := .ref (c + 161 + v2_2.toNatClampNeg)) X hd (bf_c1 (bf_pC_hC G ν c q T2)) 2 rfl rfl g_37 rfl dX1_moves_12 ?_
        refine lv_aload_n hx hb dX1_moves_13 rfl (lv_at hl 1 rfl) ?_
        refine bf_rC (v := .ref (d + 1)) X hd (bf_hC_dis hC2 hdis) 0 (by decide) (Or.inl q299) rfl dX1_moves_14 ?_
        refine lv_iload_n hx hb dX1_moves_17 rfl (lv_at hl 2 rfl) ?_
        obtain ⟨g_38, hf⟩ := bf_c_some hf
        refine bf_aald (v := .ref (d + 161 + v2_2.toNatClampNeg)) X hd (bf_c1 (bf_hC_dis hC2 hdis)) 2 rfl rfl g_38 rfl dX1_moves_18 ?_
        obtain ⟨T_39, eT_39, hf⟩ := bf_b_some hf
        refine bf_cVv (n := 1) (As := [.ref (d + 161 + v2_2.toNatClampNeg)]) (rest := []) X hd (mX2_takes l G ν c q T2 d q2 S2 hC2 hdis v2_2.toNatClampNeg (bf_in_lt g_37) eT_39) (lw_V q982 q983 q984 q153 q985) (by decide +kernel) ⟨Nat.le_of_ble_eq_true rfl, Nat.le_of_ble_eq_true rfl⟩ (bf_recv hd (bf_cpa (bf_pC_hC G ν c q T2) (bf_in_lt g_37)) (q := (RX2, TX2, 3)) rfl) rfl hl.1 rfl (Nat.le_of_ble_eq_true rfl) dX1_moves_19 ⟨Nat.le_of_ble_eq_true rfl, Nat.le_of_ble_eq_true rfl⟩ (fun σ' H locs hF hd => ?_)
        rw [hF] at hd
        obtain ⟨x2_40, ex2_40, hf⟩ := bf_l_e hf
        refine lv_iinc (v := x2_40) (lv' := [(2, .int x2_40), (0, .ref c), (1, .ref d)]) hx hb dX1_moves_22 hl (k := 2) rfl (by rw [ex2_40]; rfl) (by decide) rfl (fun ls hl => ?_)
        refine lv_goto (tgt := 2) hx hb dX1_moves_25 (by decide) ?_
        exact ih2 x2_40 T_39 _ _ _ hf hd (lv_sub hl [1, 2, 0] rfl)
  unfold fX1_moves at hf
  refine lv_iconst (v := 0) hx hb dX1_moves_0 (by decide) ?_
  refine lv_istore_n (lv' := [(2, .int 0), (0, .ref c), (1, .ref d)]) hx hb dX1_moves_1 rfl hl (by decide) rfl (fun ls hl => ?_)
  exact L2 bf_fuel 0 T _ _ _ hf hd (lv_sub hl [1, 2, 0] rfl)
def fX1_thinks_97b (S2 : bf_CS) (k97 : Int32 → bf_CS → Option (bf_CS)) (v97_2 : Int32) (T97 : bf_CS) : Option (bf_CS) := if 5 ≤ v97_2 then (some T97) else (bf_c (bf_in v97_2 5) <| bf_l (bf_u3 T97 8 v97_2.toNatClampNeg 0 0) fun T_3 => bf_l (v97_2 + 1) fun x2_4 => k97 x2_4 T_3)
def fX1_thinks_97 (S2 : bf_CS) : Nat → Int32 → bf_CS → Option (bf_CS)
  | 0, _, _ => none
  | n + 1, v97_2, T97 => fX1_thinks_97b S2 (fX1_thinks_97 S2 n) v97_2 T97
def fX1_thinks (S2 : bf_CS) (T : bf_CS) : Option (bf_CS) := bf_b (fX1_moves S2 T) fun T_5 => bf_l (bf_u3 T_5 0 10 0 (S2.1 0 10 0)) fun T_6 => bf_l (bf_u3 T_6 0 12 0 (S2.1 0 12 0)) fun T_7 => bf_l (bf_u3 T_7 0 13 0 (S2.1 0 13 0)) fun T_8 => bf_l (bf_u3 T_8 0 14 0 (S2.1 0 14 0)) fun T_9 => bf_l (bf_u3 T_9 0 15 0 (S2.1 0 15 0)) fun T_10 => bf_l (bf_u3 T_10 0 16 0 (S2.1 0 16 0)) fun T_11 => bf_l (bf_u3 T_11 0 21 0 (S2.1 0 21 0)) fun T_12 => bf_l (bf_u3 T_12 0 23 0 (-1)) fun T_13 => bf_l (bf_u3 T_13 0 24 0 (-1)) fun T_14 => fX1_thinks_97 S2 bf_fuel 0 T_14
set_option maxHeartbeats 4000000 in
theorem mX1_thinks (l : Launch) (G : bf_G) (ν : bf_V) (c : Nat) (q : Nat → Nat) (T : bf_CS) (d : Nat) (q2 : Nat → Nat) (S2 : bf_CS) (hC2 : bf_hC G ν d q2 S2) (hdis : c + 200 ≤ d ∨ d + 200 ≤ c) {T' : bf_CS} (hf : fX1_thinks S2 T = some T') : bf_MV l G yX1_thinks cX1_thinks 3 (bf_rm 2) [.ref c, .ref d] (bf_pC G ν c q T) (fun σ' => σ' = bf_pC G ν c (bf_q3 q q2) T') := by
  refine bf_MV.of rfl (Nat.le_of_ble_eq_true rfl) ?_
  intro p e s m below meth c' Q X hlk hnm kret hd ls hl
  have hx := X.1
  have hb := X.2.1
  have hml := X.2.2.1
  have hown := X.2.2.2.1
  have hts := X.2.2.2.2
  have hl : lv_has ls 3 [(0, .ref c), (1, .ref d)] := hl
  have L97 : ∀ (n97 : Nat) (v97_2 : Int32) (T97 : bf_CS) (H : Heap) (locs : List Loc) (ls : Array Slot), fX1_thinks_97 S2 n97 v97_2 T97 = some T' → bf_Dy G s H locs (bf_pC G ν c (bf_q3 q q2) T97) → lv_has ls 3 [(0, .ref c), (2, .int v97_2)] → W p l e (bf_rm 2) s m ([.ref c, .ref d] : List Value).toArray below meth c' H locs 0 0 Q (F0 m 97 ls []) := by
    intro n97
    induction n97 with
    | zero =>
      intro v97_2 T97 H locs ls hf hd hl
      exact absurd (show (none : Option (bf_CS)) = some T' from hf) (by intro h; cases h)
    | succ n97 ih97 =>
      intro v97_2 T97 H locs ls hf hd hl
      have hf : fX1_thinks_97b S2 (fX1_thinks_97 S2 n97) v97_2 T97 = some T' := hf
      unfold fX1_thinks_97b at hf
      refine lv_iload_n hx hb dX1_thinks_97 rfl (lv_at hl 1 rfl) ?_
      refine lv_iconst (v := 5) hx hb dX1_thinks_98 (by decide) ?_
      refine lv_icmp_ge (tgt := 115) hx hb dX1_thinks_99 (by decide) (fun c_15 => ?_) (fun c_15 => ?_)
      · have hf := bf_it hf c_15
        exact kret _ _ _ _ _ (congrArg (bf_pC G ν c (bf_q3 q q2)) (bf_so hf)) hd dX1_thinks_115
      · have hf := bf_ie hf c_15
        refine lv_aload_n hx hb dX1_thinks_102 rfl (lv_at hl 0 rfl) ?_
        refine bf_rC (v := .ref (c + 157)) X hd (bf_pC_hC G ν c (bf_q3 q q2) T97) 6 (by decide) (Or.inl q312) rfl dX1_thinks_103 ?_
        refine lv_iload_n hx hb dX1_thinks_106 rfl (lv_at hl 1 rfl) ?_
        refine lv_iconst (v := 0) hx hb dX1_thinks_107 (by decide) ?_
        obtain ⟨g_16, hf⟩ := bf_c_some hf
        refine bf_s8 X hd g_16 dX1_thinks_108 (fun H locs hd => ?_)
        obtain ⟨T_17, eT_17, hf⟩ := bf_l_e hf
        have hd := hd.of (congrArg (bf_pC G ν c (bf_q3 q q2)) eT_17.symm)
        obtain ⟨x2_18, ex2_18, hf⟩ := bf_l_e hf
        refine lv_iinc (v := x2_18) (lv' := [(2, .int x2_18), (0, .ref c)]) hx hb dX1_thinks_109 hl (k := 1) rfl (by rw [ex2_18]; rfl) (by decide) rfl (fun ls hl => ?_)
        refine lv_goto (tgt := 97) hx hb dX1_thinks_112 (by decide) ?_
        exact ih97 x2_18 T_17 _ _ _ hf hd (lv_sub hl [1, 0] rfl)
  unfold fX1_thinks at hf
  refine lv_aload_n hx hb dX1_thinks_0 rfl (lv_at hl 0 rfl) ?_
  refine lv_aload_n hx hb dX1_thinks_1 rfl (lv_at hl 1 rfl) ?_
  obtain ⟨T_19, eT_19, hf⟩ := bf_b_some hf
  refine bf_cVv (n := 1) (As := [.ref d]) (rest := []) X hd (mX1_moves l G ν c q T d q2 S2 hC2 hdis eT_19) (lw_V q1269 q979 q980 q149 q981) (by decide +kernel) ⟨Nat.le_of_ble_eq_true rfl, Nat.le_of_ble_eq_true rfl⟩ (bf_recv hd (bf_c0 (bf_pC_hC G ν c q T)) (q := (RX1, TX1, 31)) rfl) rfl hl.1 rfl (Nat.le_of_ble_eq_true rfl) dX1_thinks_2 ⟨Nat.le_of_ble_eq_true rfl, Nat.le_of_ble_eq_true rfl⟩ (fun σ' H locs hF hd => ?_)
  rw [hF] at hd
  refine lv_aload_n hx hb dX1_thinks_5 rfl (lv_at hl 0 rfl) ?_
  refine lv_aload_n hx hb dX1_thinks_6 rfl (lv_at hl 1 rfl) ?_
  refine bf_rC X hd (bf_hC_dis hC2 hdis) 10 (by decide) (Or.inl q320) rfl dX1_thinks_7 ?_
  refine bf_xC X hd 10 (by decide) ⟨by decide, rfl, rfl⟩ (Or.inl q320) dX1_thinks_10 (fun H locs hd => ?_)
  obtain ⟨T_20, eT_20, hf⟩ := bf_l_e hf
  have hd := hd.of (congrArg (bf_pC G ν c q) eT_20.symm)
  refine lv_aload_n hx hb dX1_thinks_13 rfl (lv_at hl 0 rfl) ?_
  refine lv_aload_n hx hb dX1_thinks_14 rfl (lv_at hl 1 rfl) ?_
  refine bf_rC X hd (bf_hC_dis hC2 hdis) 12 (by decide) (Or.inl q326) rfl dX1_thinks_15 ?_
  refine bf_xC X hd 12 (by decide) ⟨by decide, rfl, rfl⟩ (Or.inl q326) dX1_thinks_18 (fun H locs hd => ?_)
  obtain ⟨T_21, eT_21, hf⟩ := bf_l_e hf
  have hd := hd.of (congrArg (bf_pC G ν c q) eT_21.symm)
  refine lv_aload_n hx hb dX1_thinks_21 rfl (lv_at hl 0 rfl) ?_
  refine lv_aload_n hx hb dX1_thinks_22 rfl (lv_at hl 1 rfl) ?_
  refine bf_rC X hd (bf_hC_dis hC2 hdis) 13 (by decide) (Or.inl q329) rfl dX1_thinks_23 ?_
  refine bf_xC X hd 13 (by decide) ⟨by decide, rfl, rfl⟩ (Or.inl q329) dX1_thinks_26 (fun H locs hd => ?_)
  obtain ⟨T_22, eT_22, hf⟩ := bf_l_e hf
  have hd := hd.of (congrArg (bf_pC G ν c q) eT_22.symm)
  refine lv_aload_n hx hb dX1_thinks_29 rfl (lv_at hl 0 rfl) ?_
  refine lv_aload_n hx hb dX1_thinks_30 rfl (lv_at hl 1 rfl) ?_
  refine bf_rC X hd (bf_hC_dis hC2 hdis) 14 (by decide) (Or.inl q331) rfl dX1_thinks_31 ?_
  refine bf_xC X hd 14 (by decide) ⟨by decide, rfl, rfl⟩ (Or.inl q331) dX1_thinks_34 (fun H locs hd => ?_)
  obtain ⟨T_23, eT_23, hf⟩ := bf_l_e hf
  have hd := hd.of (congrArg (bf_pC G ν c q) eT_23.symm)
  refine lv_aload_n hx hb dX1_thinks_37 rfl (lv_at hl 0 rfl) ?_
  refine lv_aload_n hx hb dX1_thinks_38 rfl (lv_at hl 1 rfl) ?_
  refine bf_rC X hd (bf_hC_dis hC2 hdis) 15 (by decide) (Or.inl q333) rfl dX1_thinks_39 ?_
  refine bf_xC X hd 15 (by decide) ⟨by decide, rfl, rfl⟩ (Or.inl q333) dX1_thinks_42 (fun H locs hd => ?_)
  obtain ⟨T_24, eT_24, hf⟩ := bf_l_e hf
  have hd := hd.of (congrArg (bf_pC G ν c q) eT_24.symm)
  refine lv_aload_n hx hb dX1_thinks_45 rfl (lv_at hl 0 rfl) ?_
  refine lv_aload_n hx hb dX1_thinks_46 rfl (lv_at hl 1 rfl) ?_
  refine bf_rC X hd (bf_hC_dis hC2 hdis) 16 (by decide) (Or.inl q335) rfl dX1_thinks_47 ?_
  refine bf_xC X hd 16 (by decide) ⟨by decide, rfl, rfl⟩ (Or.inl q335) dX1_thinks_50 (fun H locs hd => ?_)
  obtain ⟨T_25, eT_25, hf⟩ := bf_l_e hf
  have hd := hd.of (congrArg (bf_pC G ν c q) eT_25.symm)
  refine lv_aload_n hx hb dX1_thinks_53 rfl (lv_at hl 0 rfl) ?_
  refine lv_aload_n hx hb dX1_thinks_54 rfl (lv_at hl 1 rfl) ?_
  refine bf_rC X hd (bf_hC_dis hC2 hdis) 21 (by decide) (Or.inl q345) rfl dX1_thinks_55 ?_
  refine bf_xC X hd 21 (by decide) ⟨by decide, rfl, rfl⟩ (Or.inl q345) dX1_thinks_58 (fun H locs hd => ?_)
  obtain ⟨T_26, eT_26, hf⟩ := bf_l_e hf
  have hd := hd.of (congrArg (bf_pC G ν c q) eT_26.symm)
  refine lv_aload_n hx hb dX1_thinks_61 rfl (lv_at hl 0 rfl) ?_
  refine lv_aload_n hx hb dX1_thinks_62 rfl (lv_at hl 1 rfl) ?_
  refine bf_rC (v := .ref (q2 0)) X hd (bf_hC_dis hC2 hdis) 7 (by decide) (Or.inl q314) rfl dX1_thinks_63 ?_
  refine bf_xR X hd 7 (by decide) (Or.inl q314) ⟨rfl, fun a => ⟨rfl, rfl⟩⟩ dX1_thinks_66 (fun H locs hd => ?_)
  refine lv_aload_n hx hb dX1_thinks_69 rfl (lv_at hl 0 rfl) ?_
  refine lv_aload_n hx hb dX1_thinks_70 rfl (lv_at hl 1 rfl) ?_
  refine bf_rC (v := .ref (q2 1)) X hd (bf_hC_dis hC2 hdis) 8 (by decide) (Or.inl q316) rfl dX1_thinks_71 ?_
  refine bf_xR X hd 8 (by decide) (Or.inl q316) ⟨rfl, fun a => ⟨rfl, rfl⟩⟩ dX1_thinks_74 (fun H locs hd => ?_)
  refine lv_aload_n hx hb dX1_thinks_77 rfl (lv_at hl 0 rfl) ?_
  refine lv_aload_n hx hb dX1_thinks_78 rfl (lv_at hl 1 rfl) ?_
  refine bf_rC (v := .ref (q2 2)) X hd (bf_hC_dis hC2 hdis) 9 (by decide) (Or.inl q318) rfl dX1_thinks_79 ?_
  refine bf_xR X hd 9 (by decide) (Or.inl q318) ⟨rfl, fun a => ⟨rfl, rfl⟩⟩ dX1_thinks_82 (fun H locs hd => ?_)
  refine lv_aload_n hx hb dX1_thinks_85 rfl (lv_at hl 0 rfl) ?_
  refine lv_iconst (v := (-1)) hx hb dX1_thinks_86 (by decide) ?_
  refine bf_xC X hd 23 (by decide) ⟨by decide, rfl, rfl⟩ (Or.inl q349) dX1_thinks_87 (fun H locs hd => ?_)
  obtain ⟨T_27, eT_27, hf⟩ := bf_l_e hf
  have hd := hd.of (congrArg (bf_pC G ν c (va_up (va_up (va_up q 0 (q2 0)) 1 (q2 1)) 2 (q2 2))) eT_27.symm)
  refine lv_aload_n hx hb dX1_thinks_90 rfl (lv_at hl 0 rfl) ?_
  refine lv_iconst (v := (-1)) hx hb dX1_thinks_91 (by decide) ?_
  refine bf_xC X hd 24 (by decide) ⟨by decide, rfl, rfl⟩ (Or.inl q351) dX1_thinks_92 (fun H locs hd => ?_)
  obtain ⟨T_28, eT_28, hf⟩ := bf_l_e hf
  have hd := hd.of (congrArg (bf_pC G ν c (va_up (va_up (va_up q 0 (q2 0)) 1 (q2 1)) 2 (q2 2))) eT_28.symm)
  refine lv_iconst (v := 0) hx hb dX1_thinks_95 (by decide) ?_
  refine lv_istore_n (lv' := [(2, .int 0), (0, .ref c), (1, .ref d)]) hx hb dX1_thinks_96 rfl hl (by decide) rfl (fun ls hl => ?_)
  exact L97 bf_fuel 0 T_28 _ _ _ hf hd (lv_sub hl [1, 0] rfl)
def fX1_takes_60b (S2 : bf_CS) (k60 : Int32 → bf_CS → Option (bf_CS)) (v60_2 : Int32) (T60 : bf_CS) : Option (bf_CS) := if (T60.1 0 22 0) ≤ v60_2 then (some T60) else (bf_c (bf_in v60_2 8) <| bf_c (bf_in v60_2 8) <| bf_l (bf_u3 T60 6 v60_2.toNatClampNeg 0 (S2.1 6 v60_2.toNatClampNeg 0)) fun T_14 => bf_c (bf_in v60_2 8) <| bf_c (bf_in v60_2 8) <| bf_l (bf_u3 T_14 7 v60_2.toNatClampNeg 0 (S2.1 7 v60_2.toNatClampNeg 0)) fun T_17 => bf_l (v60_2 + 1) fun x2_18 => k60 x2_18 T_17)
def fX1_takes_60 (S2 : bf_CS) : Nat → Int32 → bf_CS → Option (bf_CS)
  | 0, _, _ => none
  | n + 1, v60_2, T60 => fX1_takes_60b S2 (fX1_takes_60 S2 n) v60_2 T60
def fX1_takes_50 (S2 : bf_CS) (T50 : bf_CS) : Option (bf_CS) := bf_l (bf_u3 T50 0 22 0 (S2.1 0 22 0)) fun T_10 => fX1_takes_60 S2 bf_fuel 0 T_10
def fX1_takes_44 (S2 : bf_CS) (k7 : Int32 → bf_CS → Option (bf_CS)) (w44_2 : Int32) (T44 : bf_CS) : Option (bf_CS) := bf_l (w44_2 + 1) fun x2_9 => k7 x2_9 T44
def fX1_takes_17b (S2 : bf_CS) (k7 : Int32 → bf_CS → Option (bf_CS)) (u17_2 : Int32) (k17 : Int32 → bf_CS → Option (bf_CS)) (v17_3 : Int32) (T17 : bf_CS) : Option (bf_CS) := if 4 ≤ v17_3 then (fX1_takes_44 S2 k7 u17_2 T17) else (bf_c (bf_in u17_2 150) <| bf_c (bf_in u17_2 150) <| bf_c (bf_in v17_3 4) <| bf_c (bf_in v17_3 4) <| bf_l (bf_u3 T17 5 u17_2.toNatClampNeg v17_3.toNatClampNeg (S2.1 5 u17_2.toNatClampNeg v17_3.toNatClampNeg)) fun T_7 => bf_l (v17_3 + 1) fun x3_8 => k17 x3_8 T_7)
def fX1_takes_17 (S2 : bf_CS) (k7 : Int32 → bf_CS → Option (bf_CS)) (u17_2 : Int32) : Nat → Int32 → bf_CS → Option (bf_CS)
  | 0, _, _ => none
  | n + 1, v17_3, T17 => fX1_takes_17b S2 k7 u17_2 (fX1_takes_17 S2 k7 u17_2 n) v17_3 T17
def fX1_takes_7b (S2 : bf_CS) (k7 : Int32 → bf_CS → Option (bf_CS)) (v7_2 : Int32) (T7 : bf_CS) : Option (bf_CS) := if (T7.1 0 20 0) ≤ v7_2 then (fX1_takes_50 S2 T7) else (fX1_takes_17 S2 k7 v7_2 bf_fuel 0 T7)
def fX1_takes_7 (S2 : bf_CS) : Nat → Int32 → bf_CS → Option (bf_CS)
  | 0, _, _ => none
  | n + 1, v7_2, T7 => fX1_takes_7b S2 (fX1_takes_7 S2 n) v7_2 T7
def fX1_takes (S2 : bf_CS) (T : bf_CS) : Option (bf_CS) := bf_b (fX1_thinks S2 T) fun T_19 => fX1_takes_7 S2 bf_fuel 0 T_19
set_option maxHeartbeats 4000000 in
theorem mX1_takes (l : Launch) (G : bf_G) (ν : bf_V) (c : Nat) (q : Nat → Nat) (T : bf_CS) (d : Nat) (q2 : Nat → Nat) (S2 : bf_CS) (hC2 : bf_hC G ν d q2 S2) (hdis : c + 200 ≤ d ∨ d + 200 ≤ c) {T' : bf_CS} (hf : fX1_takes S2 T = some T') : bf_MV l G yX1_takes cX1_takes 4 (bf_rm 3) [.ref c, .ref d] (bf_pC G ν c q T) (fun σ' => σ' = bf_pC G ν c (bf_q3 q q2) T') := by
  refine bf_MV.of rfl (Nat.le_of_ble_eq_true rfl) ?_
  intro p e s m below meth c' Q X hlk hnm kret hd ls hl
  have hx := X.1
  have hb := X.2.1
  have hml := X.2.2.1
  have hown := X.2.2.2.1
  have hts := X.2.2.2.2
  have hl : lv_has ls 4 [(0, .ref c), (1, .ref d)] := hl
  have L60 : ∀ (n60 : Nat) (v60_2 : Int32) (T60 : bf_CS) (H : Heap) (locs : List Loc) (ls : Array Slot), fX1_takes_60 S2 n60 v60_2 T60 = some T' → bf_Dy G s H locs (bf_pC G ν c (bf_q3 q q2) T60) → lv_has ls 4 [(0, .ref c), (1, .ref d), (2, .int v60_2)] → W p l e (bf_rm 3) s m ([.ref c, .ref d] : List Value).toArray below meth c' H locs 0 0 Q (F0 m 60 ls []) := by
    intro n60
    induction n60 with
    | zero =>
      intro v60_2 T60 H locs ls hf hd hl
      exact absurd (show (none : Option (bf_CS)) = some T' from hf) (by intro h; cases h)
    | succ n60 ih60 =>
      intro v60_2 T60 H locs ls hf hd hl
      have hf : fX1_takes_60b S2 (fX1_takes_60 S2 n60) v60_2 T60 = some T' := hf
      unfold fX1_takes_60b at hf
      refine lv_iload_n hx hb dX1_takes_60 rfl (lv_at hl 2 rfl) ?_
      refine lv_aload_n hx hb dX1_takes_61 rfl (lv_at hl 0 rfl) ?_
      refine bf_rC X hd (bf_pC_hC G ν c (bf_q3 q q2) T60) 22 (by decide) (Or.inl q347) rfl dX1_takes_62 ?_
      refine lv_icmp_ge (tgt := 98) hx hb dX1_takes_65 (by decide) (fun c_20 => ?_) (fun c_20 => ?_)
      · have hf := bf_it hf c_20
        exact kret _ _ _ _ _ (congrArg (bf_pC G ν c (bf_q3 q q2)) (bf_so hf)) hd dX1_takes_98
      · have hf := bf_ie hf c_20
        refine lv_aload_n hx hb dX1_takes_68 rfl (lv_at hl 0 rfl) ?_
        refine bf_rC (v := .ref (c + 155)) X hd (bf_pC_hC G ν c (bf_q3 q q2) T60) 4 (by decide) (Or.inl q308) rfl dX1_takes_69 ?_
        refine lv_iload_n hx hb dX1_takes_72 rfl (lv_at hl 2 rfl) ?_
        refine lv_aload_n hx hb dX1_takes_73 rfl (lv_at hl 1 rfl) ?_
        refine bf_rC (v := .ref (d + 155)) X hd (bf_hC_dis hC2 hdis) 4 (by decide) (Or.inl q308) rfl dX1_takes_74 ?_
        refine lv_iload_n hx hb dX1_takes_77 rfl (lv_at hl 2 rfl) ?_
        obtain ⟨g_21, hf⟩ := bf_c_some hf
        refine bf_iald X hd (bf_c155 (bf_hC_dis hC2 hdis)) g_21 dX1_takes_78 ?_
        obtain ⟨g_22, hf⟩ := bf_c_some hf
        refine bf_s6 X hd g_22 dX1_takes_79 (fun H locs hd => ?_)
        obtain ⟨T_23, eT_23, hf⟩ := bf_l_e hf
        have hd := hd.of (congrArg (bf_pC G ν c (bf_q3 q q2)) eT_23.symm)
        refine lv_aload_n hx hb dX1_takes_80 rfl (lv_at hl 0 rfl) ?_
        refine bf_rC (v := .ref (c + 156)) X hd (bf_pC_hC G ν c (bf_q3 q q2) T_23) 5 (by decide) (Or.inl q310) rfl dX1_takes_81 ?_
        refine lv_iload_n hx hb dX1_takes_84 rfl (lv_at hl 2 rfl) ?_
        refine lv_aload_n hx hb dX1_takes_85 rfl (lv_at hl 1 rfl) ?_
        refine bf_rC (v := .ref (d + 156)) X hd (bf_hC_dis hC2 hdis) 5 (by decide) (Or.inl q310) rfl dX1_takes_86 ?_
        refine lv_iload_n hx hb dX1_takes_89 rfl (lv_at hl 2 rfl) ?_
        obtain ⟨g_24, hf⟩ := bf_c_some hf
        refine bf_iald X hd (bf_c156 (bf_hC_dis hC2 hdis)) g_24 dX1_takes_90 ?_
        obtain ⟨g_25, hf⟩ := bf_c_some hf
        refine bf_s7 X hd g_25 dX1_takes_91 (fun H locs hd => ?_)
        obtain ⟨T_26, eT_26, hf⟩ := bf_l_e hf
        have hd := hd.of (congrArg (bf_pC G ν c (bf_q3 q q2)) eT_26.symm)
        obtain ⟨x2_27, ex2_27, hf⟩ := bf_l_e hf
        refine lv_iinc (v := x2_27) (lv' := [(2, .int x2_27), (0, .ref c), (1, .ref d)]) hx hb dX1_takes_92 hl (k := 2) rfl (by rw [ex2_27]; rfl) (by decide) rfl (fun ls hl => ?_)
        refine lv_goto (tgt := 60) hx hb dX1_takes_95 (by decide) ?_
        exact ih60 x2_27 T_26 _ _ _ hf hd (lv_sub hl [1, 2, 0] rfl)
  have J50 : ∀ (T50 : bf_CS) (H : Heap) (locs : List Loc) (ls : Array Slot), fX1_takes_50 S2 T50 = some T' → bf_Dy G s H locs (bf_pC G ν c (bf_q3 q q2) T50) → lv_has ls 4 [(0, .ref c), (1, .ref d)] → W p l e (bf_rm 3) s m ([.ref c, .ref d] : List Value).toArray below meth c' H locs 0 0 Q (F0 m 50 ls []) := by
    intro T50 H locs ls hf hd hl
    unfold fX1_takes_50 at hf
    refine lv_aload_n hx hb dX1_takes_50 rfl (lv_at hl 0 rfl) ?_
    refine lv_aload_n hx hb dX1_takes_51 rfl (lv_at hl 1 rfl) ?_
    refine bf_rC X hd (bf_hC_dis hC2 hdis) 22 (by decide) (Or.inl q347) rfl dX1_takes_52 ?_
    refine bf_xC X hd 22 (by decide) ⟨by decide, rfl, rfl⟩ (Or.inl q347) dX1_takes_55 (fun H locs hd => ?_)
    obtain ⟨T_28, eT_28, hf⟩ := bf_l_e hf
    have hd := hd.of (congrArg (bf_pC G ν c (bf_q3 q q2)) eT_28.symm)
    refine lv_iconst (v := 0) hx hb dX1_takes_58 (by decide) ?_
    refine lv_istore_n (lv' := [(2, .int 0), (0, .ref c), (1, .ref d)]) hx hb dX1_takes_59 rfl hl (by decide) rfl (fun ls hl => ?_)
    exact L60 bf_fuel 0 T_28 _ _ _ hf hd (lv_sub hl [1, 2, 0] rfl)
  have L7 : ∀ (n7 : Nat) (v7_2 : Int32) (T7 : bf_CS) (H : Heap) (locs : List Loc) (ls : Array Slot), fX1_takes_7 S2 n7 v7_2 T7 = some T' → bf_Dy G s H locs (bf_pC G ν c (bf_q3 q q2) T7) → lv_has ls 4 [(0, .ref c), (1, .ref d), (2, .int v7_2)] → W p l e (bf_rm 3) s m ([.ref c, .ref d] : List Value).toArray below meth c' H locs 0 0 Q (F0 m 7 ls []) := by
    intro n7
    induction n7 with
    | zero =>
      intro v7_2 T7 H locs ls hf hd hl
      exact absurd (show (none : Option (bf_CS)) = some T' from hf) (by intro h; cases h)
    | succ n7 ih7 =>
      intro v7_2 T7 H locs ls hf hd hl
      have hf : fX1_takes_7b S2 (fX1_takes_7 S2 n7) v7_2 T7 = some T' := hf
      unfold fX1_takes_7b at hf
      have J44 : ∀ (w44_2 : Int32) (T44 : bf_CS) (H : Heap) (locs : List Loc) (ls : Array Slot), fX1_takes_44 S2 (fX1_takes_7 S2 n7) w44_2 T44 = some T' → bf_Dy G s H locs (bf_pC G ν c (bf_q3 q q2) T44) → lv_has ls 4 [(0, .ref c), (1, .ref d), (2, .int w44_2)] → W p l e (bf_rm 3) s m ([.ref c, .ref d] : List Value).toArray below meth c' H locs 0 0 Q (F0 m 44 ls []) := by
        intro w44_2 T44 H locs ls hf hd hl
        unfold fX1_takes_44 at hf
        obtain ⟨x2_29, ex2_29, hf⟩ := bf_l_e hf
        refine lv_iinc (v := x2_29) (lv' := [(2, .int x2_29), (0, .ref c), (1, .ref d)]) hx hb dX1_takes_44 hl (k := 2) rfl (by rw [ex2_29]; rfl) (by decide) rfl (fun ls hl => ?_)
        refine lv_goto (tgt := 7) hx hb dX1_takes_47 (by decide) ?_
        exact ih7 x2_29 T44 _ _ _ hf hd (lv_sub hl [1, 2, 0] rfl)
      have L17 : ∀ (u17_2 : Int32) (n17 : Nat) (v17_3 : Int32) (T17 : bf_CS) (H : Heap) (locs : List Loc) (ls : Array Slot), fX1_takes_17 S2 (fX1_takes_7 S2 n7) u17_2 n17 v17_3 T17 = some T' → bf_Dy G s H locs (bf_pC G ν c (bf_q3 q q2) T17) → lv_has ls 4 [(0, .ref c), (1, .ref d), (2, .int u17_2), (3, .int v17_3)] → W p l e (bf_rm 3) s m ([.ref c, .ref d] : List Value).toArray below meth c' H locs 0 0 Q (F0 m 17 ls []) := by
        intro u17_2 n17
        induction n17 with
        | zero =>
          intro v17_3 T17 H locs ls hf hd hl
          exact absurd (show (none : Option (bf_CS)) = some T' from hf) (by intro h; cases h)
        | succ n17 ih17 =>
          intro v17_3 T17 H locs ls hf hd hl
          have hf : fX1_takes_17b S2 (fX1_takes_7 S2 n7) u17_2 (fX1_takes_17 S2 (fX1_takes_7 S2 n7) u17_2 n17) v17_3 T17 = some T' := hf
          unfold fX1_takes_17b at hf
          refine lv_iload_n hx hb dX1_takes_17 rfl (lv_at hl 3 rfl) ?_
          refine lv_iconst (v := 4) hx hb dX1_takes_18 (by decide) ?_
          refine lv_icmp_ge (tgt := 44) hx hb dX1_takes_19 (by decide) (fun c_30 => ?_) (fun c_30 => ?_)
          · have hf := bf_it hf c_30
            exact J44 u17_2 T17 _ _ _ hf hd (lv_sub hl [0, 1, 2] rfl)
          · have hf := bf_ie hf c_30
            refine lv_aload_n hx hb dX1_takes_22 rfl (lv_at hl 0 rfl) ?_
            refine bf_rC (v := .ref (c + 4)) X hd (bf_pC_hC G ν c (bf_q3 q q2) T17) 3 (by decide) (Or.inl q306) rfl dX1_takes_23 ?_
            refine lv_iload_n hx hb dX1_takes_26 rfl (lv_at hl 2 rfl) ?_
            obtain ⟨g_31, hf⟩ := bf_c_some hf
            refine bf_aald (v := .ref (c + 5 + u17_2.toNatClampNeg)) X hd (bf_c4 (bf_pC_hC G ν c (bf_q3 q q2) T17)) 5 rfl rfl g_31 rfl dX1_takes_27 ?_
            refine lv_iload_n hx hb dX1_takes_28 rfl (lv_at hl 3 rfl) ?_
            refine lv_aload_n hx hb dX1_takes_29 rfl (lv_at hl 1 rfl) ?_
            refine bf_rC (v := .ref (d + 4)) X hd (bf_hC_dis hC2 hdis) 3 (by decide) (Or.inl q306) rfl dX1_takes_30 ?_
            refine lv_iload_n hx hb dX1_takes_33 rfl (lv_at hl 2 rfl) ?_
            obtain ⟨g_32, hf⟩ := bf_c_some hf
            refine bf_aald (v := .ref (d + 5 + u17_2.toNatClampNeg)) X hd (bf_c4 (bf_hC_dis hC2 hdis)) 5 rfl rfl g_32 rfl dX1_takes_34 ?_
            refine lv_iload_n hx hb dX1_takes_35 rfl (lv_at hl 3 rfl) ?_
            obtain ⟨g_33, hf⟩ := bf_c_some hf
            refine bf_iald X hd (bf_cbk (bf_hC_dis hC2 hdis) (bf_in_lt g_32)) g_33 dX1_takes_36 ?_
            obtain ⟨g_34, hf⟩ := bf_c_some hf
            refine bf_sB X hd (bf_in_lt g_31) g_34 dX1_takes_37 (fun H locs hd => ?_)
            obtain ⟨T_35, eT_35, hf⟩ := bf_l_e hf
            have hd := hd.of (congrArg (bf_pC G ν c (bf_q3 q q2)) eT_35.symm)
            obtain ⟨x3_36, ex3_36, hf⟩ := bf_l_e hf
            refine lv_iinc (v := x3_36) (lv' := [(3, .int x3_36), (0, .ref c), (1, .ref d), (2, .int u17_2)]) hx hb dX1_takes_38 hl (k := 3) rfl (by rw [ex3_36]; rfl) (by decide) rfl (fun ls hl => ?_)
            refine lv_goto (tgt := 17) hx hb dX1_takes_41 (by decide) ?_
            exact ih17 x3_36 T_35 _ _ _ hf hd (lv_sub hl [1, 2, 3, 0] rfl)
      refine lv_iload_n hx hb dX1_takes_7 rfl (lv_at hl 2 rfl) ?_
      refine lv_aload_n hx hb dX1_takes_8 rfl (lv_at hl 0 rfl) ?_
      refine bf_rC X hd (bf_pC_hC G ν c (bf_q3 q q2) T7) 20 (by decide) (Or.inl q343) rfl dX1_takes_9 ?_
      refine lv_icmp_ge (tgt := 50) hx hb dX1_takes_12 (by decide) (fun c_37 => ?_) (fun c_37 => ?_)
      · have hf := bf_it hf c_37
        exact J50 T7 _ _ _ hf hd (lv_sub hl [0, 1] rfl)
      · have hf := bf_ie hf c_37
        refine lv_iconst (v := 0) hx hb dX1_takes_15 (by decide) ?_
        refine lv_istore_n (lv' := [(3, .int 0), (0, .ref c), (1, .ref d), (2, .int v7_2)]) hx hb dX1_takes_16 rfl hl (by decide) rfl (fun ls hl => ?_)
        exact L17 v7_2 bf_fuel 0 T7 _ _ _ hf hd (lv_sub hl [1, 2, 3, 0] rfl)
  unfold fX1_takes at hf
  refine lv_aload_n hx hb dX1_takes_0 rfl (lv_at hl 0 rfl) ?_
  refine lv_aload_n hx hb dX1_takes_1 rfl (lv_at hl 1 rfl) ?_
  obtain ⟨T_38, eT_38, hf⟩ := bf_b_some hf
  refine bf_cVv (n := 1) (As := [.ref d]) (rest := []) X hd (mX1_thinks l G ν c q T d q2 S2 hC2 hdis eT_38) (lw_V q1372 q1266 q1267 q149 q1268) (by decide +kernel) ⟨Nat.le_of_ble_eq_true rfl, Nat.le_of_ble_eq_true rfl⟩ (bf_recv hd (bf_c0 (bf_pC_hC G ν c q T)) (q := (RX1, TX1, 31)) rfl) rfl hl.1 rfl (Nat.le_of_ble_eq_true rfl) dX1_takes_2 ⟨Nat.le_of_ble_eq_true rfl, Nat.le_of_ble_eq_true rfl⟩ (fun σ' H locs hF hd => ?_)
  rw [hF] at hd
  refine lv_iconst (v := 0) hx hb dX1_takes_5 (by decide) ?_
  refine lv_istore_n (lv' := [(2, .int 0), (0, .ref c), (1, .ref d)]) hx hb dX1_takes_6 rfl hl (by decide) rfl (fun ls hl => ?_)
  exact L7 bf_fuel 0 T_38 _ _ _ hf hd (lv_sub hl [1, 2, 0] rfl)
