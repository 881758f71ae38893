set_option maxRecDepth 100000
def fX1_passesB_159b (D : bf_D) (u159_1 : Int32) (k159 : Int32 → bf_CS → Option (Int32 × bf_CS)) (v159_2 : Int32) (T159 : bf_CS) : Option (Int32 × bf_CS) := if (T159.1 0 11 0) ≤ v159_2 then (some (u159_1, T159)) else (if ((T159.1 0 18 0) - (T159.1 0 18 0) / 52 * 52) = 0 then (bf_c (bf_in v159_2 14) <| bf_c (bf_in v159_2 14) <| bf_l (bf_u3 T159 2 v159_2.toNatClampNeg 2 (bf_mmin 99 ((T159.1 2 v159_2.toNatClampNeg 2) + 1))) fun T_23 => bf_l (v159_2 + 1) fun x2_24 => k159 x2_24 T_23) else (some (u159_1, T159)))
def fX1_passesB_159 (D : bf_D) (u159_1 : Int32) : Nat → Int32 → bf_CS → Option (Int32 × bf_CS)
  | 0, _, _ => none
  | n + 1, v159_2, T159 => fX1_passesB_159b D u159_1 (fX1_passesB_159 D u159_1 n) v159_2 T159
def fX1_passesB_139 (D : bf_D) (w139_1 : Int32) (T139 : bf_CS) : Option (Int32 × bf_CS) := bf_b (fX1_stings T139) fun T_16 => bf_b (fX1_seats T_16) fun T_17 => bf_l (bf_u3 T_17 0 18 0 ((T_17.1 0 18 0) + 1)) fun T_18 => fX1_passesB_159 D w139_1 bf_fuel 0 T_18
def fX1_passesB_131 (D : bf_D) (k109 : Int32 → Int32 → bf_CS → Option (Int32 × bf_CS)) (w131_2 : Int32) (t131_0 : Int32) (t131_1 : Int32) (T131 : bf_CS) : Option (Int32 × bf_CS) := bf_l ((t131_1 + t131_0)) fun x1_14 => bf_l (w131_2 + 1) fun x2_15 => k109 x1_14 x2_15 T131
def fX1_passesB_109b (D : bf_D) (k109 : Int32 → Int32 → bf_CS → Option (Int32 × bf_CS)) (v109_1 : Int32) (v109_2 : Int32) (T109 : bf_CS) : Option (Int32 × bf_CS) := if (T109.1 0 12 0) ≤ v109_2 then (fX1_passesB_139 D v109_1 T109) else (bf_b2 (fX1_isHungry D T109 v109_2) fun r_11 T_10 => if r_11 = 0 then (fX1_passesB_131 D k109 v109_2 0 v109_1 T_10) else (fX1_passesB_131 D k109 v109_2 1 v109_1 T_10))
def fX1_passesB_109 (D : bf_D) : Nat → Int32 → Int32 → bf_CS → Option (Int32 × bf_CS)
  | 0, _, _, _ => none
  | n + 1, v109_1, v109_2, T109 => fX1_passesB_109b D (fX1_passesB_109 D n) v109_1 v109_2 T109
def fX1_passesB_105 (D : bf_D) (T105 : bf_CS) : Option (Int32 × bf_CS) := fX1_passesB_109 D bf_fuel 0 0 T105
def fX1_passesB_57b (D : bf_D) (k57 : Int32 → bf_CS → Option (Int32 × bf_CS)) (v57_1 : Int32) (T57 : bf_CS) : Option (Int32 × bf_CS) := if (T57.1 0 11 0) ≤ v57_1 then (fX1_passesB_105 D T57) else (bf_c (bf_in v57_1 14) <| bf_c (bf_in v57_1 14) <| bf_c (bf_in v57_1 14) <| bf_b2 (fX1_bear D T57 v57_1.toNatClampNeg) fun r_6 T_5 => bf_l (bf_u3 T_5 2 v57_1.toNatClampNeg 3 (bf_mmin 99 ((T57.1 2 v57_1.toNatClampNeg 3) + r_6))) fun T_7 => bf_l (v57_1 + 1) fun x1_8 => k57 x1_8 T_7)
def fX1_passesB_57 (D : bf_D) : Nat → Int32 → bf_CS → Option (Int32 × bf_CS)
  | 0, _, _ => none
  | n + 1, v57_1, T57 => fX1_passesB_57b D (fX1_passesB_57 D n) v57_1 T57
def fX1_passesB_55 (D : bf_D) (T55 : bf_CS) : Option (Int32 × bf_CS) := fX1_passesB_57 D bf_fuel 0 T55
def fX1_passesB_2 (D : bf_D) (T2 : bf_CS) : Option (Int32 × bf_CS) := bf_b (bf_plan D.2.2 T2) fun T => fX1_passesB_55 D T
def fX1_passes (D : bf_D) (T : bf_CS) : Option (Int32 × bf_CS) := fX1_passesB_2 D T
set_option maxHeartbeats 4000000 in
theorem mX1_passes (l : Launch) (G : bf_G) (ν : bf_V) (c : Nat) (q : Nat → Nat) (D : bf_D) (hz : bf_Z G ν c q D) (T : bf_CS) {r : Int32} {T' : bf_CS} (hf : fX1_passes D T = some (r, T')) : bf_MI l G yX1_passes cX1_passes 3 (bf_rm 436) [.ref c] (bf_pC G ν c q T) (fun v σ' => v = r ∧ σ' = bf_pC G ν c q T') := by
  refine bf_MI.of rfl (Nat.le_of_ble_eq_true rfl) ?_
  intro p e s m below meth c' Q X hlk hnm kret hd ls hl
  have hx := X.1
  have hb := X.2.1
  have hml := X.2.2.1
  have hown := X.2.2.2.1
  have hts := X.2.2.2.2
  have hl : lv_has ls 3 [(0, .ref c)] := hl
  obtain ⟨es, ⟨V, hV, hV2, hlen, hE⟩, hA⟩ := hz.2.2
  have hle := bf_zAll_len hA
  have L159 : ∀ (u159_1 : Int32) (n159 : Nat) (v159_2 : Int32) (T159 : bf_CS) (H : Heap) (locs : List Loc) (ls : Array Slot), fX1_passesB_159 D u159_1 n159 v159_2 T159 = some (r, T') → bf_Dy G s H locs (bf_pC G ν c q T159) → lv_has ls 3 [(0, .ref c), (1, .int u159_1), (2, .int v159_2)] → W p l e (bf_rm 436) s m ([.ref c] : List Value).toArray below meth c' H locs 0 0 Q (F0 m 159 ls []) := by
    intro u159_1 n159
    induction n159 with
    | zero =>
      intro v159_2 T159 H locs ls hf hd hl
      exact absurd (show (none : Option (Int32 × bf_CS)) = some (r, T') from hf) (by intro h; cases h)
    | succ n159 ih159 =>
      intro v159_2 T159 H locs ls hf hd hl
      have hf : fX1_passesB_159b D u159_1 (fX1_passesB_159 D u159_1 n159) v159_2 T159 = some (r, T') := hf
      unfold fX1_passesB_159b at hf
      refine lv_iload_n hx hb dX1_passes_159 rfl (lv_at hl 2 rfl) ?_
      refine lv_aload_n hx hb dX1_passes_160 rfl (lv_at hl 0 rfl) ?_
      refine bf_rC X hd (bf_pC_hC G ν c q T159) 11 (by decide) (Or.inl q324) rfl dX1_passes_161 ?_
      refine lv_icmp_ge (tgt := 208) hx hb dX1_passes_164 (by decide) (fun c_25 => ?_) (fun c_25 => ?_)
      · have hf := bf_it hf c_25
        refine lv_iload_n hx hb dX1_passes_208 rfl (lv_at hl 1 rfl) ?_
        exact kret _ _ _ _ _ _ ⟨(bf_pr hf).1, congrArg (bf_pC G ν c q) (bf_pr hf).2⟩ hd dX1_passes_209
      · have hf := bf_ie hf c_25
        refine lv_aload_n hx hb dX1_passes_167 rfl (lv_at hl 0 rfl) ?_
        refine bf_rC X hd (bf_pC_hC G ν c q T159) 18 (by decide) (Or.inl q339) rfl dX1_passes_168 ?_
        refine lv_bipush (v := 52) hx hb dX1_passes_171 (by decide) ?_
        refine lv_irem hx hb dX1_passes_173 (by decide) ?_
        refine lv_if_ne (tgt := 208) hx hb dX1_passes_174 (by decide) (fun c_26 => ?_) (fun c_26 => ?_)
        · have hf := bf_ie hf c_26
          refine lv_iload_n hx hb dX1_passes_208 rfl (lv_at hl 1 rfl) ?_
          exact kret _ _ _ _ _ _ ⟨(bf_pr hf).1, congrArg (bf_pC G ν c q) (bf_pr hf).2⟩ hd dX1_passes_209
        · have hf := bf_it hf c_26
          refine lv_aload_n hx hb dX1_passes_177 rfl (lv_at hl 0 rfl) ?_
          refine bf_rC (v := .ref (c + 2)) X hd (bf_pC_hC G ν c q T159) 1 (by decide) (Or.inl q301) rfl dX1_passes_178 ?_
          refine lv_iload_n hx hb dX1_passes_181 rfl (lv_at hl 2 rfl) ?_
          obtain ⟨g_27, hf⟩ := bf_c_some hf
          refine bf_aald (v := .ref (c + 166 + v159_2.toNatClampNeg)) X hd (bf_c2 (bf_pC_hC G ν c q T159)) 3 rfl rfl g_27 rfl dX1_passes_182 ?_
          refine lv_bipush (v := 99) hx hb dX1_passes_183 (by decide) ?_
          refine lv_aload_n hx hb dX1_passes_185 rfl (lv_at hl 0 rfl) ?_
          refine bf_rC (v := .ref (c + 2)) X hd (bf_pC_hC G ν c q T159) 1 (by decide) (Or.inl q301) rfl dX1_passes_186 ?_
          refine lv_iload_n hx hb dX1_passes_189 rfl (lv_at hl 2 rfl) ?_
          obtain ⟨g_28, hf⟩ := bf_c_some hf
          refine bf_aald (v := .ref (c + 166 + v159_2.toNatClampNeg)) X hd (bf_c2 (bf_pC_hC G ν c q T159)) 3 rfl rfl g_28 rfl dX1_passes_190 ?_
          refine bf_rT X hd (bf_pC_hC G ν c q T159) (bf_in_lt g_28) 2 (by decide) (Or.inr ⟨_, q268⟩) dX1_passes_191 ?_
          refine lv_iconst (v := 1) hx hb dX1_passes_194 (by decide) ?_
          refine lv_iadd hx hb dX1_passes_195 ?_
          refine va_mmin hx hb (hml.trans hl.1.symm) hown (hts _ q1065) (hts _ q875) (hts _ q157) (hts _ q876) (Nat.le_of_ble_eq_true rfl) (Nat.le_of_ble_eq_true rfl) (Nat.le_of_ble_eq_true rfl) (Nat.le_of_ble_eq_true rfl) dX1_passes_196 ?_
          refine bf_xT X hd (bf_in_lt g_27) 2 (by decide) (Or.inr ⟨_, q268⟩) dX1_passes_199 (fun H locs hd => ?_)
          obtain ⟨T_29, eT_29, hf⟩ := bf_l_e hf
          have hd := hd.of (congrArg (bf_pC G ν c q) eT_29.symm)
          obtain ⟨x2_30, ex2_30, hf⟩ := bf_l_e hf
          refine lv_iinc (v := x2_30) (lv' := [(2, .int x2_30), (0, .ref c), (1, .int u159_1)]) hx hb dX1_passes_202 hl (k := 2) rfl (by rw [ex2_30]; rfl) (by decide) rfl (fun ls hl => ?_)
          refine lv_goto (tgt := 159) hx hb dX1_passes_205 (by decide) ?_
          exact ih159 x2_30 T_29 _ _ _ hf hd (lv_sub hl [1, 2, 0] rfl)
  have J139 : ∀ (w139_1 : Int32) (T139 : bf_CS) (H : Heap) (locs : List Loc) (ls : Array Slot), fX1_passesB_139 D w139_1 T139 = some (r, T') → bf_Dy G s H locs (bf_pC G ν c q T139) → lv_has ls 3 [(0, .ref c), (1, .int w139_1)] → W p l e (bf_rm 436) s m ([.ref c] : List Value).toArray below meth c' H locs 0 0 Q (F0 m 139 ls []) := by
    intro w139_1 T139 H locs ls hf hd hl
    unfold fX1_passesB_139 at hf
    refine lv_aload_n hx hb dX1_passes_139 rfl (lv_at hl 0 rfl) ?_
    obtain ⟨T_31, eT_31, hf⟩ := bf_b_some hf
    refine bf_ccv (n := 0) (As := []) (rest := []) X hd (mX1_stings l G ν c q T139 eT_31) (lw_V q1211 q1213 qs43 q149 q1214) (by decide +kernel) ⟨Nat.le_of_ble_eq_true rfl, Nat.le_of_ble_eq_true rfl⟩ rfl hl.1 rfl (Nat.le_of_ble_eq_true rfl) dX1_passes_140 ⟨Nat.le_of_ble_eq_true rfl, Nat.le_of_ble_eq_true rfl⟩ (fun H locs hd => ?_)
    refine lv_aload_n hx hb dX1_passes_143 rfl (lv_at hl 0 rfl) ?_
    obtain ⟨T_32, eT_32, hf⟩ := bf_b_some hf
    refine bf_ccv (n := 0) (As := []) (rest := []) X hd (mX1_seats l G ν c q T_31 eT_32) (lw_V q1215 q1217 qs44 q149 q1218) (by decide +kernel) ⟨Nat.le_of_ble_eq_true rfl, Nat.le_of_ble_eq_true rfl⟩ rfl hl.1 rfl (Nat.le_of_ble_eq_true rfl) dX1_passes_144 ⟨Nat.le_of_ble_eq_true rfl, Nat.le_of_ble_eq_true rfl⟩ (fun H locs hd => ?_)
    refine lv_aload_n hx hb dX1_passes_147 rfl (lv_at hl 0 rfl) ?_
    refine lv_dup hx hb dX1_passes_148 rfl ?_
    refine bf_rC X hd (bf_pC_hC G ν c q T_32) 18 (by decide) (Or.inl q339) rfl dX1_passes_149 ?_
    refine lv_iconst (v := 1) hx hb dX1_passes_152 (by decide) ?_
    refine lv_iadd hx hb dX1_passes_153 ?_
    refine bf_xC X hd 18 (by decide) ⟨by decide, rfl, rfl⟩ (Or.inl q339) dX1_passes_154 (fun H locs hd => ?_)
    obtain ⟨T_33, eT_33, hf⟩ := bf_l_e hf
    have hd := hd.of (congrArg (bf_pC G ν c q) eT_33.symm)
    refine lv_iconst (v := 0) hx hb dX1_passes_157 (by decide) ?_
    refine lv_istore_n (lv' := [(2, .int 0), (0, .ref c), (1, .int w139_1)]) hx hb dX1_passes_158 rfl hl (by decide) rfl (fun ls hl => ?_)
    exact L159 w139_1 bf_fuel 0 T_33 _ _ _ hf hd (lv_sub hl [1, 2, 0] rfl)
  have L109 : ∀ (n109 : Nat) (v109_1 : Int32) (v109_2 : Int32) (T109 : bf_CS) (H : Heap) (locs : List Loc) (ls : Array Slot), fX1_passesB_109 D n109 v109_1 v109_2 T109 = some (r, T') → bf_Dy G s H locs (bf_pC G ν c q T109) → lv_has ls 3 [(0, .ref c), (1, .int v109_1), (2, .int v109_2)] → W p l e (bf_rm 436) s m ([.ref c] : List Value).toArray below meth c' H locs 0 0 Q (F0 m 109 ls []) := by
    intro n109
    induction n109 with
    | zero =>
      intro v109_1 v109_2 T109 H locs ls hf hd hl
      exact absurd (show (none : Option (Int32 × bf_CS)) = some (r, T') from hf) (by intro h; cases h)
    | succ n109 ih109 =>
      intro v109_1 v109_2 T109 H locs ls hf hd hl
      have hf : fX1_passesB_109b D (fX1_passesB_109 D n109) v109_1 v109_2 T109 = some (r, T') := hf
      unfold fX1_passesB_109b at hf
      have J131 : ∀ (w131_2 : Int32) (t131_0 : Int32) (t131_1 : Int32) (T131 : bf_CS) (H : Heap) (locs : List Loc) (ls : Array Slot), fX1_passesB_131 D (fX1_passesB_109 D n109) w131_2 t131_0 t131_1 T131 = some (r, T') → bf_Dy G s H locs (bf_pC G ν c q T131) → lv_has ls 3 [(0, .ref c), (2, .int w131_2)] → W p l e (bf_rm 436) s m ([.ref c] : List Value).toArray below meth c' H locs 0 0 Q (F0 m 131 ls [.int t131_0, .int t131_1]) := by
        intro w131_2 t131_0 t131_1 T131 H locs ls hf hd hl
        unfold fX1_passesB_131 at hf
        refine lv_iadd hx hb dX1_passes_131 ?_
        obtain ⟨x1_34, ex1_34, hf⟩ := bf_l_e hf
        refine bf_top ex1_34 ?_
        refine lv_istore_n (lv' := [(1, .int x1_34), (0, .ref c), (2, .int w131_2)]) hx hb dX1_passes_132 rfl hl (by decide) rfl (fun ls hl => ?_)
        obtain ⟨x2_35, ex2_35, hf⟩ := bf_l_e hf
        refine lv_iinc (v := x2_35) (lv' := [(2, .int x2_35), (1, .int x1_34), (0, .ref c)]) hx hb dX1_passes_133 hl (k := 2) rfl (by rw [ex2_35]; rfl) (by decide) rfl (fun ls hl => ?_)
        refine lv_goto (tgt := 109) hx hb dX1_passes_136 (by decide) ?_
        exact ih109 x1_34 x2_35 T131 _ _ _ hf hd (lv_sub hl [2, 1, 0] rfl)
      refine lv_iload_n hx hb dX1_passes_109 rfl (lv_at hl 2 rfl) ?_
      refine lv_aload_n hx hb dX1_passes_110 rfl (lv_at hl 0 rfl) ?_
      refine bf_rC X hd (bf_pC_hC G ν c q T109) 12 (by decide) (Or.inl q326) rfl dX1_passes_111 ?_
      refine lv_icmp_ge (tgt := 139) hx hb dX1_passes_114 (by decide) (fun c_36 => ?_) (fun c_36 => ?_)
      · have hf := bf_it hf c_36
        exact J139 v109_1 T109 _ _ _ hf hd (lv_sub hl [0, 1] rfl)
      · have hf := bf_ie hf c_36
        refine lv_iload_n hx hb dX1_passes_117 rfl (lv_at hl 1 rfl) ?_
        refine lv_aload_n hx hb dX1_passes_118 rfl (lv_at hl 0 rfl) ?_
        refine lv_iload_n hx hb dX1_passes_119 rfl (lv_at hl 2 rfl) ?_
        obtain ⟨r_38, T_37, er_38, hf⟩ := bf_b2_some hf
        refine bf_ccz (n := 1) (As := [.int v109_2]) (rest := [.int v109_1]) X hd (mX1_isHungry l G ν c q D hz T109 v109_2 er_38) (lw_V q1172 q1174 qs36 q149 q1175) (by decide +kernel) ⟨Nat.le_of_ble_eq_true rfl, Nat.le_of_ble_eq_true rfl⟩ rfl hl.1 rfl (Nat.le_of_ble_eq_true rfl) dX1_passes_120 ⟨Nat.le_of_ble_eq_true rfl, Nat.le_of_ble_eq_true rfl⟩ (fun H locs z_39 hd => ?_)
        refine lv_if_eq (tgt := 130) hx hb dX1_passes_123 (by decide) (fun c_40 => ?_) (fun c_40 => ?_)
        · have hf := bf_it hf c_40
          refine lv_iconst (v := 0) hx hb dX1_passes_130 (by decide) ?_
          exact J131 v109_2 0 v109_1 T_37 _ _ _ hf hd (lv_sub hl [0, 2] rfl)
        · have hf := bf_ie hf c_40
          refine lv_iconst (v := 1) hx hb dX1_passes_126 (by decide) ?_
          refine lv_goto (tgt := 131) hx hb dX1_passes_127 (by decide) ?_
          exact J131 v109_2 1 v109_1 T_37 _ _ _ hf hd (lv_sub hl [0, 2] rfl)
  have J105 : ∀ (T105 : bf_CS) (H : Heap) (locs : List Loc) (ls : Array Slot), fX1_passesB_105 D T105 = some (r, T') → bf_Dy G s H locs (bf_pC G ν c q T105) → lv_has ls 3 [(0, .ref c)] → W p l e (bf_rm 436) s m ([.ref c] : List Value).toArray below meth c' H locs 0 0 Q (F0 m 105 ls []) := by
    intro T105 H locs ls hf hd hl
    unfold fX1_passesB_105 at hf
    refine lv_iconst (v := 0) hx hb dX1_passes_105 (by decide) ?_
    refine lv_istore_n (lv' := [(1, .int 0), (0, .ref c)]) hx hb dX1_passes_106 rfl hl (by decide) rfl (fun ls hl => ?_)
    refine lv_iconst (v := 0) hx hb dX1_passes_107 (by decide) ?_
    refine lv_istore_n (lv' := [(2, .int 0), (1, .int 0), (0, .ref c)]) hx hb dX1_passes_108 rfl hl (by decide) rfl (fun ls hl => ?_)
    exact L109 bf_fuel 0 0 T105 _ _ _ hf hd (lv_sub hl [2, 1, 0] rfl)
  have L57 : ∀ (n57 : Nat) (v57_1 : Int32) (T57 : bf_CS) (H : Heap) (locs : List Loc) (ls : Array Slot), fX1_passesB_57 D n57 v57_1 T57 = some (r, T') → bf_Dy G s H locs (bf_pC G ν c q T57) → lv_has ls 3 [(0, .ref c), (1, .int v57_1)] → W p l e (bf_rm 436) s m ([.ref c] : List Value).toArray below meth c' H locs 0 0 Q (F0 m 57 ls []) := by
    intro n57
    induction n57 with
    | zero =>
      intro v57_1 T57 H locs ls hf hd hl
      exact absurd (show (none : Option (Int32 × bf_CS)) = some (r, T') from hf) (by intro h; cases h)
    | succ n57 ih57 =>
      intro v57_1 T57 H locs ls hf hd hl
      have hf : fX1_passesB_57b D (fX1_passesB_57 D n57) v57_1 T57 = some (r, T') := hf
      unfold fX1_passesB_57b at hf
      refine lv_iload_n hx hb dX1_passes_57 rfl (lv_at hl 1 rfl) ?_
      refine lv_aload_n hx hb dX1_passes_58 rfl (lv_at hl 0 rfl) ?_
      refine bf_rC X hd (bf_pC_hC G ν c q T57) 11 (by decide) (Or.inl q324) rfl dX1_passes_59 ?_
      refine lv_icmp_ge (tgt := 105) hx hb dX1_passes_62 (by decide) (fun c_41 => ?_) (fun c_41 => ?_)
      · have hf := bf_it hf c_41
        exact J105 T57 _ _ _ hf hd (lv_sub hl [0] rfl)
      · have hf := bf_ie hf c_41
        refine lv_aload_n hx hb dX1_passes_65 rfl (lv_at hl 0 rfl) ?_
        refine bf_rC (v := .ref (c + 2)) X hd (bf_pC_hC G ν c q T57) 1 (by decide) (Or.inl q301) rfl dX1_passes_66 ?_
        refine lv_iload_n hx hb dX1_passes_69 rfl (lv_at hl 1 rfl) ?_
        obtain ⟨g_42, hf⟩ := bf_c_some hf
        refine bf_aald (v := .ref (c + 166 + v57_1.toNatClampNeg)) X hd (bf_c2 (bf_pC_hC G ν c q T57)) 3 rfl rfl g_42 rfl dX1_passes_70 ?_
        refine lv_bipush (v := 99) hx hb dX1_passes_71 (by decide) ?_
        refine lv_aload_n hx hb dX1_passes_73 rfl (lv_at hl 0 rfl) ?_
        refine bf_rC (v := .ref (c + 2)) X hd (bf_pC_hC G ν c q T57) 1 (by decide) (Or.inl q301) rfl dX1_passes_74 ?_
        refine lv_iload_n hx hb dX1_passes_77 rfl (lv_at hl 1 rfl) ?_
        obtain ⟨g_43, hf⟩ := bf_c_some hf
        refine bf_aald (v := .ref (c + 166 + v57_1.toNatClampNeg)) X hd (bf_c2 (bf_pC_hC G ν c q T57)) 3 rfl rfl g_43 rfl dX1_passes_78 ?_
        refine bf_rT X hd (bf_pC_hC G ν c q T57) (bf_in_lt g_43) 3 (by decide) (Or.inr ⟨_, q271⟩) dX1_passes_79 ?_
        refine lv_aload_n hx hb dX1_passes_82 rfl (lv_at hl 0 rfl) ?_
        refine lv_aload_n hx hb dX1_passes_83 rfl (lv_at hl 0 rfl) ?_
        refine bf_rC (v := .ref (c + 2)) X hd (bf_pC_hC G ν c q T57) 1 (by decide) (Or.inl q301) rfl dX1_passes_84 ?_
        refine lv_iload_n hx hb dX1_passes_87 rfl (lv_at hl 1 rfl) ?_
        obtain ⟨g_44, hf⟩ := bf_c_some hf
        refine bf_aald (v := .ref (c + 166 + v57_1.toNatClampNeg)) X hd (bf_c2 (bf_pC_hC G ν c q T57)) 3 rfl rfl g_44 rfl dX1_passes_88 ?_
        obtain ⟨r_46, T_45, er_46, hf⟩ := bf_b2_some hf
        refine bf_cci (n := 1) (As := [.ref (c + 166 + v57_1.toNatClampNeg)]) (rest := [.int (T57.1 2 v57_1.toNatClampNeg 3), .int 99, .ref (c + 166 + v57_1.toNatClampNeg)]) X hd (mX1_bear l G ν c q D hz T57 v57_1.toNatClampNeg (bf_in_lt g_44) er_46) (lw_V q1131 q1132 q1133 q149 q1134) (by decide +kernel) ⟨Nat.le_of_ble_eq_true rfl, Nat.le_of_ble_eq_true rfl⟩ rfl hl.1 rfl (Nat.le_of_ble_eq_true rfl) dX1_passes_89 ⟨Nat.le_of_ble_eq_true rfl, Nat.le_of_ble_eq_true rfl⟩ (fun H locs hd => ?_)
        refine lv_iadd hx hb dX1_passes_92 ?_
        refine va_mmin hx hb (hml.trans hl.1.symm) hown (hts _ q1065) (hts _ q875) (hts _ q157) (hts _ q876) (Nat.le_of_ble_eq_true rfl) (Nat.le_of_ble_eq_true rfl) (Nat.le_of_ble_eq_true rfl) (Nat.le_of_ble_eq_true rfl) dX1_passes_93 ?_
        refine bf_xT X hd (bf_in_lt g_42) 3 (by decide) (Or.inr ⟨_, q271⟩) dX1_passes_96 (fun H locs hd => ?_)
        obtain ⟨T_47, eT_47, hf⟩ := bf_l_e hf
        have hd := hd.of (congrArg (bf_pC G ν c q) eT_47.symm)
        obtain ⟨x1_48, ex1_48, hf⟩ := bf_l_e hf
        refine lv_iinc (v := x1_48) (lv' := [(1, .int x1_48), (0, .ref c)]) hx hb dX1_passes_99 hl (k := 1) rfl (by rw [ex1_48]; rfl) (by decide) rfl (fun ls hl => ?_)
        refine lv_goto (tgt := 57) hx hb dX1_passes_102 (by decide) ?_
        exact ih57 x1_48 T_47 _ _ _ hf hd (lv_sub hl [1, 0] rfl)
  have J55 : ∀ (T55 : bf_CS) (H : Heap) (locs : List Loc) (ls : Array Slot), fX1_passesB_55 D T55 = some (r, T') → bf_Dy G s H locs (bf_pC G ν c q T55) → lv_has ls 3 [(0, .ref c)] → W p l e (bf_rm 436) s m ([.ref c] : List Value).toArray below meth c' H locs 0 0 Q (F0 m 55 ls []) := by
    intro T55 H locs ls hf hd hl
    unfold fX1_passesB_55 at hf
    refine lv_iconst (v := 0) hx hb dX1_passes_55 (by decide) ?_
    refine lv_istore_n (lv' := [(1, .int 0), (0, .ref c)]) hx hb dX1_passes_56 rfl hl (by decide) rfl (fun ls hl => ?_)
    exact L57 bf_fuel 0 T55 _ _ _ hf hd (lv_sub hl [1, 0] rfl)
  have L2 : ∀ (L : List bf_Dd) (k : Nat) (T2 : bf_CS) (H : Heap) (locs : List Loc) (ls : Array Slot), k ≤ es.length → L = D.2.2.drop k → (bf_b (bf_plan L T2) fun T => fX1_passesB_55 D T) = some (r, T') → bf_Dy G s H locs (bf_pC G ν c q T2) → lv_has ls 3 [(0, .ref c), (1, .int (nI k))] → W p l e (bf_rm 436) s m ([.ref c] : List Value).toArray below meth c' H locs 0 0 Q (F0 m 2 ls []) := by
    intro L
    induction L with
    | nil =>
      intro k T2 H locs ls hk hL hf hd hl
      have hk2 : es.length ≤ k := by
        have := congrArg List.length hL
        simp only [List.length_nil, List.length_drop] at this
        omega
      refine lv_iload_n hx hb dX1_passes_2 rfl (lv_at hl 1 rfl) ?_
      refine lv_aload_n hx hb dX1_passes_3 rfl (lv_at hl 0 rfl) ?_
      refine bf_rC (v := .ref (q 2)) X hd (bf_pC_hC G ν c q T2) 9 (by decide) (Or.inl q318) rfl dX1_passes_4 ?_
      refine bf_cVi (n := 0) (As := []) (rest := [.int (nI k)]) X hd (mJ2_size l G _ (q 2) V (nI es.length) (bf_fz_at hV) hV2) (lw_V q1074 q709 q710 q152 q711) (by decide +kernel) ⟨Nat.le_of_ble_eq_true rfl, Nat.le_of_ble_eq_true rfl⟩ (bf_recv hd (bf_fz_at hV) (q := (RJ2, TJ2, 3)) rfl) rfl hl.1 rfl (Nat.le_of_ble_eq_true rfl) dX1_passes_7 ⟨Nat.le_of_ble_eq_true rfl, Nat.le_of_ble_eq_true rfl⟩ (fun v σ' H locs hF hd => ?_)
      rw [hF.2] at hd
      refine bf_top hF.1.symm ?_
      refine lv_icmp_ge (tgt := 55) hx hb dX1_passes_10 (by decide) (fun c1 => ?_) (fun c1 => absurd (nI_le hk2 (by omega)) c1)
      exact J55 T2 _ _ _ hf hd (lv_sub hl [0] rfl)
    | cons d L ih =>
      intro k T2 H locs ls hk hL hf hd hl
      have hk2 : k < es.length := by
        have := congrArg List.length hL
        simp only [List.length_cons, List.length_drop] at this
        omega
      have hget : D.2.2[k]? = some d := by
        have : (D.2.2.drop k)[0]? = some d := by rw [← hL]; rfl
        rw [List.getElem?_drop] at this
        exact this
      have hL2 : L = D.2.2.drop (k + 1) := by
        have : L = (D.2.2.drop k).drop 1 := by rw [← hL]; rfl
        rw [List.drop_drop] at this
        exact this
      obtain ⟨a, ha, hzd⟩ := bf_zAll_get hA hget
      obtain ⟨b, n, f, hV1, hb1, hn, hfi⟩ := hE (by omega)
      have hk31 : k < 2 ^ 31 := by omega
      unfold bf_plan at hf
      have J49 : ∀ (T2 : bf_CS) (H : Heap) (locs : List Loc) (ls : Array Slot), (bf_b (bf_plan L T2) fun T => fX1_passesB_55 D T) = some (r, T') → bf_Dy G s H locs (bf_pC G ν c q T2) → lv_has ls 3 [(0, .ref c), (1, .int (nI k))] → W p l e (bf_rm 436) s m ([.ref c] : List Value).toArray below meth c' H locs 0 0 Q (F0 m 49 ls []) := by
        intro T2 H locs ls hf hd hl
        refine lv_iinc (v := nI (k + 1)) (lv' := [(1, .int (nI (k + 1))), (0, .ref c)]) hx hb dX1_passes_49 hl (k := 1) rfl (by rw [← nI_1]; rfl) (by decide) rfl (fun ls hl => ?_)
        refine lv_goto (tgt := 2) hx hb dX1_passes_52 (by decide) ?_
        exact ih (k + 1) T2 _ _ _ (by omega) hL2 hf hd (lv_sub hl [1, 0] rfl)
      refine lv_iload_n hx hb dX1_passes_2 rfl (lv_at hl 1 rfl) ?_
      refine lv_aload_n hx hb dX1_passes_3 rfl (lv_at hl 0 rfl) ?_
      refine bf_rC (v := .ref (q 2)) X hd (bf_pC_hC G ν c q T2) 9 (by decide) (Or.inl q318) rfl dX1_passes_4 ?_
      refine bf_cVi (n := 0) (As := []) (rest := [.int (nI k)]) X hd (mJ2_size l G _ (q 2) V (nI es.length) (bf_fz_at hV) hV2) (lw_V q1074 q709 q710 q152 q711) (by decide +kernel) ⟨Nat.le_of_ble_eq_true rfl, Nat.le_of_ble_eq_true rfl⟩ (bf_recv hd (bf_fz_at hV) (q := (RJ2, TJ2, 3)) rfl) rfl hl.1 rfl (Nat.le_of_ble_eq_true rfl) dX1_passes_7 ⟨Nat.le_of_ble_eq_true rfl, Nat.le_of_ble_eq_true rfl⟩ (fun v σ' H locs hF hd => ?_)
      rw [hF.2] at hd
      refine bf_top hF.1.symm ?_
      refine lv_icmp_ge (tgt := 55) hx hb dX1_passes_10 (by decide) (fun c1 => absurd c1 (nI_ge hk2 (by omega))) (fun c1 => ?_)
      refine lv_aload_n hx hb dX1_passes_13 rfl (lv_at hl 0 rfl) ?_
      refine bf_rC (v := .ref (q 2)) X hd (bf_pC_hC G ν c q T2) 9 (by decide) (Or.inl q318) rfl dX1_passes_14 ?_
      refine lv_iload_n hx hb dX1_passes_17 rfl (lv_at hl 1 rfl) ?_
      refine bf_cVq (n := 1) (As := [.int (nI k)]) (rest := []) X hd (mJ2_get l G _ (q 2) V b n f (nI es.length) (nI k) (bf_fz_at hV) hV1 hV2 (bf_fz_at hb1) (nI_pos hk31) (nI_lt hk2 hlen) (bf_in_nI (by omega) hk31)) (lw_V q1075 q1076 q1077 q152 q1078) (by decide +kernel) ⟨Nat.le_of_ble_eq_true rfl, Nat.le_of_ble_eq_true rfl⟩ (bf_recv hd (bf_fz_at hV) (q := (RJ2, TJ2, 3)) rfl) rfl hl.1 rfl (Nat.le_of_ble_eq_true rfl) dX1_passes_18 ⟨Nat.le_of_ble_eq_true rfl, Nat.le_of_ble_eq_true rfl⟩ (fun w σ' H locs hF hd => ?_)
      rw [hF.2] at hd
      refine bf_ift (q' := some a) (by rw [hF.1, nI_clamp hk31, hfi k hk2, ha]) ?_
      refine bf_dd_cast X hd hzd dX1_passes_21 ?_
      refine lv_aload_n hx hb dX1_passes_24 rfl (lv_at hl 0 rfl) ?_
      refine bf_rC X hd (bf_pC_hC G ν c q T2) 18 (by decide) (Or.inl q339) rfl dX1_passes_25 ?_
      refine bf_dd_isOf X hd hzd ⟨Nat.le_of_ble_eq_true rfl, Nat.le_of_ble_eq_true rfl⟩ hl.1 (Nat.le_of_ble_eq_true rfl) dX1_passes_28 ⟨Nat.le_of_ble_eq_true rfl, Nat.le_of_ble_eq_true rfl⟩ (fun H locs hd => ?_)
      refine lv_if_eq (tgt := 49) hx hb dX1_passes_31 (by decide) (fun c2 => ?_) (fun c2 => ?_)
      · rw [if_pos c2] at hf
        exact J49 T2 _ _ _ hf hd hl
      · rw [if_neg c2] at hf
        obtain ⟨T3, hf1, hf3⟩ := bf_b_some hf
        obtain ⟨T4, hf4, hf5⟩ := bf_b_some hf1
        refine lv_aload_n hx hb dX1_passes_34 rfl (lv_at hl 0 rfl) ?_
        refine bf_rC (v := .ref (q 2)) X hd (bf_pC_hC G ν c q T2) 9 (by decide) (Or.inl q318) rfl dX1_passes_35 ?_
        refine lv_iload_n hx hb dX1_passes_38 rfl (lv_at hl 1 rfl) ?_
        refine bf_cVq (n := 1) (As := [.int (nI k)]) (rest := []) X hd (mJ2_get l G _ (q 2) V b n f (nI es.length) (nI k) (bf_fz_at hV) hV1 hV2 (bf_fz_at hb1) (nI_pos hk31) (nI_lt hk2 hlen) (bf_in_nI (by omega) hk31)) (lw_V q1075 q1076 q1077 q152 q1078) (by decide +kernel) ⟨Nat.le_of_ble_eq_true rfl, Nat.le_of_ble_eq_true rfl⟩ (bf_recv hd (bf_fz_at hV) (q := (RJ2, TJ2, 3)) rfl) rfl hl.1 rfl (Nat.le_of_ble_eq_true rfl) dX1_passes_39 ⟨Nat.le_of_ble_eq_true rfl, Nat.le_of_ble_eq_true rfl⟩ (fun w σ' H locs hF hd => ?_)
        rw [hF.2] at hd
        refine bf_ift (q' := some a) (by rw [hF.1, nI_clamp hk31, hfi k hk2, ha]) ?_
        refine bf_dd_cast X hd hzd dX1_passes_42 ?_
        refine lv_aload_n hx hb dX1_passes_45 rfl (lv_at hl 0 rfl) ?_
        refine bf_dd_does X hd hzd hf4 ⟨Nat.le_of_ble_eq_true rfl, Nat.le_of_ble_eq_true rfl⟩ hl.1 (Nat.le_of_ble_eq_true rfl) dX1_passes_46 ⟨Nat.le_of_ble_eq_true rfl, Nat.le_of_ble_eq_true rfl⟩ (fun H locs hd => ?_)
        exact J49 T4 _ _ _ (by rw [hf5]; exact hf3) hd hl
  unfold fX1_passes at hf
  refine lv_iconst (v := 0) hx hb dX1_passes_0 (by decide) ?_
  refine lv_istore_n (lv' := [(1, .int 0), (0, .ref c)]) hx hb dX1_passes_1 rfl hl (by decide) rfl (fun ls hl => ?_)
  exact L2 D.2.2 0 T _ _ _ (Nat.zero_le _) rfl hf hd (lv_sub hl [1, 0] rfl)
