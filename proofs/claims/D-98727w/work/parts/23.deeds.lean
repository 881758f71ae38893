/-! DEEDS OF A PLAN -/
set_option maxRecDepth 100000
set_option maxHeartbeats 4000000 in
theorem mX15_isOf (l : Launch) (G : bf_G) (σ : bf_V) (a ci : Nat) (V : Nat → Value) (C : String) (T : u_T) (N : Nat) (w x1 : Int32) (hc : bf_cl[ci]? = some (C, T, N)) (hin : ∀ w ∈ u_ws C T N, w ∈ lw_all) (hN : 0 < N) (hT : T 0 = ("BallotFruit$Deed", "week", "I", true)) (ha : σ.1 a = some (.inr (ci, V))) (hV : V 0 = .int w) : bf_MZ l G yX15_isOf cX15_isOf 2 (bf_rm 0) [.ref a, .int x1] σ (fun v σ' => v = (if w = x1 then 1 else 0) ∧ σ' = σ) := by
  refine bf_MZ.of rfl (Nat.le_of_ble_eq_true rfl) ?_
  intro p e s m below meth c Q X hlk hnm kret hd ls hl
  have hx := X.1
  have hb := X.2.1
  have hl : lv_has ls 2 [(0, .ref a), (1, .int x1)] := hl
  refine lv_aload_n hx hb dX15_isOf_0 rfl (lv_at hl 0 rfl) ?_
  refine bf_get (ref := "BallotFruit$Deed") X hd ha hc hin 0 hN (by rw [hT]; exact q928) (by rw [hT]) hV dX15_isOf_1 ?_
  refine lv_iload_n hx hb dX15_isOf_4 rfl (lv_at hl 1 rfl) ?_
  refine lv_icmp_ne (tgt := 12) hx hb dX15_isOf_5 (by decide) (fun c1 => ?_) (fun c1 => ?_)
  · refine lv_iconst (v := 0) hx hb dX15_isOf_12 (by decide) ?_
    exact kret _ _ _ _ _ _ ⟨by rw [if_neg c1], rfl⟩ (Or.inl rfl) hd dX15_isOf_13
  · refine lv_iconst (v := 1) hx hb dX15_isOf_8 (by decide) ?_
    refine lv_goto (tgt := 13) hx hb dX15_isOf_9 (by decide) ?_
    exact kret _ _ _ _ _ _ ⟨by rw [if_pos c1], rfl⟩ (Or.inr rfl) hd dX15_isOf_13
set_option maxHeartbeats 4000000 in
theorem mX15_one (l : Launch) (G : bf_G) (σ : bf_V) (a ci : Nat) (V : Nat → Value) (C : String) (T : u_T) (N : Nat) (w : Int32) (hc : bf_cl[ci]? = some (C, T, N)) (hin : ∀ w ∈ u_ws C T N, w ∈ lw_all) (hN : 1 < N) (hT : T 1 = ("BallotFruit$Deed", "one", "I", true)) (ha : σ.1 a = some (.inr (ci, V))) (hV : V 1 = .int w) : bf_MI l G yX15_one cX15_one 1 (bf_rm 0) [.ref a] σ (fun v σ' => v = w ∧ σ' = σ) := by
  refine bf_MI.of rfl (Nat.le_of_ble_eq_true rfl) ?_
  intro p e s m below meth c Q X hlk hnm kret hd ls hl
  have hx := X.1
  have hb := X.2.1
  have hl : lv_has ls 1 [(0, .ref a)] := hl
  refine lv_aload_n hx hb dX15_one_0 rfl (lv_at hl 0 rfl) ?_
  refine bf_get (ref := "BallotFruit$Deed") X hd ha hc hin 1 hN (by rw [hT]; exact q929) (by rw [hT]) hV dX15_one_1 ?_
  exact kret _ _ _ _ _ _ ⟨rfl, rfl⟩ hd dX15_one_4
/-- what a deed does -/
def bf_does (d : bf_Dd) (S : bf_CS) : Option bf_CS :=
  if d.1 = 0 then (if 14 ≤ S.1 0 11 0 then some S else bf_b2 (fX1_plants S d.2.2.1 d.2.2.2 0) fun _ S => some S)
  else if d.1 = 1 then (if fX1_isFenced S d.2.2.1 = d.2.2.2 then some S else fX1_fences S d.2.2.1 d.2.2.2)
  else if d.1 = 2 then bf_b2 (fX1_boils S d.2.2.1 d.2.2.2) fun _ S => some S
  else bf_c (bf_in d.2.2.1 10) (some (bf_u3 S 3 d.2.2.1.toNatClampNeg 0 (bf_mmin 20 (2 * S.1 3 d.2.2.1.toNatClampNeg 0))))
set_option maxHeartbeats 4000000 in
theorem mX16_does (l : Launch) (G : bf_G) (ν : bf_V) (c : Nat) (q : Nat → Nat) (S : bf_CS) (a : Nat) (d : bf_Dd) (V : Nat → Value) (hP : bf_fz ν c a (.inr (14, V))) (h1 : V 1 = .int d.2.2.1) (h2 : V 2 = .int d.2.2.2) (hk : d.1 = 0) {S' : bf_CS} (hf : bf_does d S = some S') : bf_MV l G yX16_does cX16_does 2 (bf_rm 2) [.ref a, .ref c] (bf_pC G ν c q S) (fun σ' => σ' = bf_pC G ν c q S') := by
  unfold bf_does at hf
  have hf := bf_it hf hk
  refine bf_MV.of rfl (Nat.le_of_ble_eq_true rfl) ?_
  intro p e s m below meth c' Q X hlk hnm kret hd ls hl
  have hx := X.1
  have hb := X.2.1
  have hl : lv_has ls 2 [(0, .ref a), (1, .ref c)] := hl
  refine lv_aload_n hx hb dX16_does_0 rfl (lv_at hl 1 rfl) ?_
  refine bf_rC X hd (bf_pC_hC G ν c q S) 11 (by decide) (Or.inr ⟨_, q323⟩) rfl dX16_does_1 ?_
  refine lv_bipush (v := 14) hx hb dX16_does_4 (by decide) ?_
  refine lv_icmp_ge (tgt := 23) hx hb dX16_does_6 (by decide) (fun c1 => ?_) (fun c1 => ?_)
  · exact kret _ _ _ _ _ (congrArg (bf_pC G ν c q) (bf_so (bf_it hf c1))) hd dX16_does_23
  · obtain ⟨r1, S1, e1, hf⟩ := bf_b2_some (bf_ie hf c1)
    refine lv_aload_n hx hb dX16_does_9 rfl (lv_at hl 1 rfl) ?_
    refine lv_aload_n hx hb dX16_does_10 rfl (lv_at hl 0 rfl) ?_
    refine bf_cUi (n := 0) (As := []) (rest := [.ref c]) X hd (mX15_one l G _ a 14 V RX16 TX16 3 d.2.2.1 rfl in_X16 (by decide) rfl (bf_fz_at hP) h1) (bf_lwU q1127 q1128 q1129 q1106 q177 q1107) rfl (by decide +kernel) ⟨Nat.le_of_ble_eq_true rfl, Nat.le_of_ble_eq_true rfl⟩ (bf_recv hd (bf_fz_at hP) (q := (RX16, TX16, 3)) rfl) rfl hl.1 rfl (Nat.le_of_ble_eq_true rfl) dX16_does_11 ⟨Nat.le_of_ble_eq_true rfl, Nat.le_of_ble_eq_true rfl⟩ (fun v σ' H locs hF hd => ?_)
    rw [hF.2] at hd
    refine bf_top hF.1.symm ?_
    refine lv_aload_n hx hb dX16_does_14 rfl (lv_at hl 0 rfl) ?_
    refine bf_get X hd (bf_fz_at hP) (ci := 14) rfl in_X16 2 (by decide) q927 rfl h2 dX16_does_15 ?_
    refine lv_iconst (v := 0) hx hb dX16_does_18 (by decide) ?_
    refine bf_cci (n := 3) (As := [.int d.2.2.1, .int d.2.2.2, .int 0]) (rest := []) X hd (mX1_plants l G ν c q S d.2.2.1 d.2.2.2 0 e1) (lw_V q1130 q1038 q1039 q149 q1040) (by decide +kernel) ⟨Nat.le_of_ble_eq_true rfl, Nat.le_of_ble_eq_true rfl⟩ rfl hl.1 rfl (Nat.le_of_ble_eq_true rfl) dX16_does_19 ⟨Nat.le_of_ble_eq_true rfl, Nat.le_of_ble_eq_true rfl⟩ (fun H locs hd => ?_)
    refine lv_pop hx hb dX16_does_22 rfl ?_
    exact kret _ _ _ _ _ (congrArg (bf_pC G ν c q) (bf_so hf)) hd dX16_does_23
set_option maxHeartbeats 4000000 in
theorem mX17_does (l : Launch) (G : bf_G) (ν : bf_V) (c : Nat) (q : Nat → Nat) (S : bf_CS) (a : Nat) (d : bf_Dd) (V : Nat → Value) (hP : bf_fz ν c a (.inr (15, V))) (h1 : V 1 = .int d.2.2.1) (h2 : V 2 = .int d.2.2.2) (hk : d.1 = 1) {S' : bf_CS} (hf : bf_does d S = some S') : bf_MV l G yX17_does cX17_does 2 (bf_rm 2) [.ref a, .ref c] (bf_pC G ν c q S) (fun σ' => σ' = bf_pC G ν c q S') := by
  unfold bf_does at hf
  have hf := bf_it (bf_ie hf (by rw [hk]; decide)) hk
  refine bf_MV.of rfl (Nat.le_of_ble_eq_true rfl) ?_
  intro p e s m below meth c' Q X hlk hnm kret hd ls hl
  have hx := X.1
  have hb := X.2.1
  have hl : lv_has ls 2 [(0, .ref a), (1, .ref c)] := hl
  refine lv_aload_n hx hb dX17_does_0 rfl (lv_at hl 1 rfl) ?_
  refine lv_aload_n hx hb dX17_does_1 rfl (lv_at hl 0 rfl) ?_
  refine bf_cUi (n := 0) (As := []) (rest := [.ref c]) X hd (mX15_one l G _ a 15 V RX17 TX17 3 d.2.2.1 rfl in_X17 (by decide) rfl (bf_fz_at hP) h1) (bf_lwU q1119 q1120 q1121 q1106 q177 q1107) rfl (by decide +kernel) ⟨Nat.le_of_ble_eq_true rfl, Nat.le_of_ble_eq_true rfl⟩ (bf_recv hd (bf_fz_at hP) (q := (RX17, TX17, 3)) rfl) rfl hl.1 rfl (Nat.le_of_ble_eq_true rfl) dX17_does_2 ⟨Nat.le_of_ble_eq_true rfl, Nat.le_of_ble_eq_true rfl⟩ (fun v σ' H locs hF hd => ?_)
  rw [hF.2] at hd
  refine bf_top hF.1.symm ?_
  refine bf_ccz (n := 1) (As := [.int d.2.2.1]) (rest := []) X hd (mX1_isFenced l G ν c q S d.2.2.1 rfl) (lw_V q1122 q1050 q1051 q149 q1052) (by decide +kernel) ⟨Nat.le_of_ble_eq_true rfl, Nat.le_of_ble_eq_true rfl⟩ rfl hl.1 rfl (Nat.le_of_ble_eq_true rfl) dX17_does_5 ⟨Nat.le_of_ble_eq_true rfl, Nat.le_of_ble_eq_true rfl⟩ (fun H locs z hd => ?_)
  refine lv_aload_n hx hb dX17_does_8 rfl (lv_at hl 0 rfl) ?_
  refine bf_get X hd (bf_fz_at hP) (ci := 15) rfl in_X17 2 (by decide) q943 rfl h2 dX17_does_9 ?_
  refine lv_icmp_eq (tgt := 27) hx hb dX17_does_12 (by decide) (fun c1 => ?_) (fun c1 => ?_)
  · exact kret _ _ _ _ _ (congrArg (bf_pC G ν c q) (bf_so (bf_it hf c1))) hd dX17_does_27
  · have hf := bf_ie hf c1
    refine lv_aload_n hx hb dX17_does_15 rfl (lv_at hl 1 rfl) ?_
    refine lv_aload_n hx hb dX17_does_16 rfl (lv_at hl 0 rfl) ?_
    refine bf_cUi (n := 0) (As := []) (rest := [.ref c]) X hd (mX15_one l G _ a 15 V RX17 TX17 3 d.2.2.1 rfl in_X17 (by decide) rfl (bf_fz_at hP) h1) (bf_lwU q1119 q1120 q1121 q1106 q177 q1107) rfl (by decide +kernel) ⟨Nat.le_of_ble_eq_true rfl, Nat.le_of_ble_eq_true rfl⟩ (bf_recv hd (bf_fz_at hP) (q := (RX17, TX17, 3)) rfl) rfl hl.1 rfl (Nat.le_of_ble_eq_true rfl) dX17_does_17 ⟨Nat.le_of_ble_eq_true rfl, Nat.le_of_ble_eq_true rfl⟩ (fun v σ' H locs hF hd => ?_)
    rw [hF.2] at hd
    refine bf_top hF.1.symm ?_
    refine lv_aload_n hx hb dX17_does_20 rfl (lv_at hl 0 rfl) ?_
    refine bf_get X hd (bf_fz_at hP) (ci := 15) rfl in_X17 2 (by decide) q943 rfl h2 dX17_does_21 ?_
    refine bf_ccv (n := 2) (As := [.int d.2.2.1, .int d.2.2.2]) (rest := []) X hd (mX1_fences l G ν c q S d.2.2.1 d.2.2.2 hf) (lw_V q1123 q1054 q1055 q149 q1056) (by decide +kernel) ⟨Nat.le_of_ble_eq_true rfl, Nat.le_of_ble_eq_true rfl⟩ rfl hl.1 rfl (Nat.le_of_ble_eq_true rfl) dX17_does_24 ⟨Nat.le_of_ble_eq_true rfl, Nat.le_of_ble_eq_true rfl⟩ (fun H locs hd => ?_)
    exact kret _ _ _ _ _ rfl hd dX17_does_27
set_option maxHeartbeats 4000000 in
theorem mX18_does (l : Launch) (G : bf_G) (ν : bf_V) (c : Nat) (q : Nat → Nat) (S : bf_CS) (a : Nat) (d : bf_Dd) (V : Nat → Value) (hP : bf_fz ν c a (.inr (16, V))) (h1 : V 1 = .int d.2.2.1) (h2 : V 2 = .int d.2.2.2) (hk : d.1 = 2) {S' : bf_CS} (hf : bf_does d S = some S') : bf_MV l G yX18_does cX18_does 2 (bf_rm 2) [.ref a, .ref c] (bf_pC G ν c q S) (fun σ' => σ' = bf_pC G ν c q S') := by
  unfold bf_does at hf
  obtain ⟨r1, S1, e1, hf⟩ := bf_b2_some (bf_it (bf_ie (bf_ie hf (by rw [hk]; decide)) (by rw [hk]; decide)) hk)
  refine bf_MV.of rfl (Nat.le_of_ble_eq_true rfl) ?_
  intro p e s m below meth c' Q X hlk hnm kret hd ls hl
  have hx := X.1
  have hb := X.2.1
  have hl : lv_has ls 2 [(0, .ref a), (1, .ref c)] := hl
  refine lv_aload_n hx hb dX18_does_0 rfl (lv_at hl 1 rfl) ?_
  refine lv_aload_n hx hb dX18_does_1 rfl (lv_at hl 0 rfl) ?_
  refine bf_cUi (n := 0) (As := []) (rest := [.ref c]) X hd (mX15_one l G _ a 16 V RX18 TX18 3 d.2.2.1 rfl in_X18 (by decide) rfl (bf_fz_at hP) h1) (bf_lwU q1102 q1103 q1105 q1106 q177 q1107) rfl (by decide +kernel) ⟨Nat.le_of_ble_eq_true rfl, Nat.le_of_ble_eq_true rfl⟩ (bf_recv hd (bf_fz_at hP) (q := (RX18, TX18, 3)) rfl) rfl hl.1 rfl (Nat.le_of_ble_eq_true rfl) dX18_does_2 ⟨Nat.le_of_ble_eq_true rfl, Nat.le_of_ble_eq_true rfl⟩ (fun v σ' H locs hF hd => ?_)
  rw [hF.2] at hd
  refine bf_top hF.1.symm ?_
  refine lv_aload_n hx hb dX18_does_5 rfl (lv_at hl 0 rfl) ?_
  refine bf_get X hd (bf_fz_at hP) (ci := 16) rfl in_X18 2 (by decide) q955 rfl h2 dX18_does_6 ?_
  refine bf_cci (n := 2) (As := [.int d.2.2.1, .int d.2.2.2]) (rest := []) X hd (mX1_boils l G ν c q S d.2.2.1 d.2.2.2 e1) (lw_V q1108 q1062 q1063 q149 q1064) (by decide +kernel) ⟨Nat.le_of_ble_eq_true rfl, Nat.le_of_ble_eq_true rfl⟩ rfl hl.1 rfl (Nat.le_of_ble_eq_true rfl) dX18_does_9 ⟨Nat.le_of_ble_eq_true rfl, Nat.le_of_ble_eq_true rfl⟩ (fun H locs hd => ?_)
  refine lv_pop hx hb dX18_does_12 rfl ?_
  exact kret _ _ _ _ _ (congrArg (bf_pC G ν c q) (bf_so hf)) hd dX18_does_13
set_option maxHeartbeats 4000000 in
theorem mX19_does (l : Launch) (G : bf_G) (ν : bf_V) (c : Nat) (q : Nat → Nat) (S : bf_CS) (a : Nat) (d : bf_Dd) (V : Nat → Value) (hP : bf_fz ν c a (.inr (17, V))) (h1 : V 1 = .int d.2.2.1) (hk : d.1 = 3) {S' : bf_CS} (hf : bf_does d S = some S') : bf_MV l G yX19_does cX19_does 2 (bf_rm 2) [.ref a, .ref c] (bf_pC G ν c q S) (fun σ' => σ' = bf_pC G ν c q S') := by
  unfold bf_does at hf
  obtain ⟨g1, hf⟩ := bf_c_some (bf_ie (bf_ie (bf_ie hf (by rw [hk]; decide)) (by rw [hk]; decide)) (by rw [hk]; decide))
  refine bf_MV.of rfl (Nat.le_of_ble_eq_true rfl) ?_
  intro p e s m below meth c' Q X hlk hnm kret hd ls hl
  have hx := X.1
  have hb := X.2.1
  have hml := X.2.2.1
  have hown := X.2.2.2.1
  have hts := X.2.2.2.2
  have hC := bf_pC_hC G ν c q S
  have hl : lv_has ls 2 [(0, .ref a), (1, .ref c)] := hl
  refine lv_aload_n hx hb dX19_does_0 rfl (lv_at hl 1 rfl) ?_
  refine bf_rC (v := .ref (c + 3)) X hd hC 2 (by decide) (Or.inr ⟨_, q304⟩) rfl dX19_does_1 ?_
  refine lv_aload_n hx hb dX19_does_4 rfl (lv_at hl 0 rfl) ?_
  refine bf_cUi (n := 0) (As := []) (rest := [.ref (c + 3)]) X hd (mX15_one l G _ a 17 V RX19 TX19 2 d.2.2.1 rfl in_X19 (by decide) rfl (bf_fz_at hP) h1) (bf_lwU q1112 q1113 q1114 q1106 q177 q1107) rfl (by decide +kernel) ⟨Nat.le_of_ble_eq_true rfl, Nat.le_of_ble_eq_true rfl⟩ (bf_recv hd (bf_fz_at hP) (q := (RX19, TX19, 2)) rfl) rfl hl.1 rfl (Nat.le_of_ble_eq_true rfl) dX19_does_5 ⟨Nat.le_of_ble_eq_true rfl, Nat.le_of_ble_eq_true rfl⟩ (fun v σ' H locs hF hd => ?_)
  rw [hF.2] at hd
  refine bf_top hF.1.symm ?_
  refine bf_aald (v := .ref (c + 180 + 2 * d.2.2.1.toNatClampNeg)) X hd (bf_c3 hC) 4 rfl rfl g1 rfl dX19_does_8 ?_
  refine lv_bipush (v := 20) hx hb dX19_does_9 (by decide) ?_
  refine lv_iconst (v := 2) hx hb dX19_does_11 (by decide) ?_
  refine lv_aload_n hx hb dX19_does_12 rfl (lv_at hl 1 rfl) ?_
  refine bf_rC (v := .ref (c + 3)) X hd hC 2 (by decide) (Or.inr ⟨_, q304⟩) rfl dX19_does_13 ?_
  refine lv_aload_n hx hb dX19_does_16 rfl (lv_at hl 0 rfl) ?_
  refine bf_cUi (n := 0) (As := []) (rest := [.ref (c + 3), .int 2, .int 20, .ref (c + 180 + 2 * d.2.2.1.toNatClampNeg)]) X hd (mX15_one l G _ a 17 V RX19 TX19 2 d.2.2.1 rfl in_X19 (by decide) rfl (bf_fz_at hP) h1) (bf_lwU q1112 q1113 q1114 q1106 q177 q1107) rfl (by decide +kernel) ⟨Nat.le_of_ble_eq_true rfl, Nat.le_of_ble_eq_true rfl⟩ (bf_recv hd (bf_fz_at hP) (q := (RX19, TX19, 2)) rfl) rfl hl.1 rfl (Nat.le_of_ble_eq_true rfl) dX19_does_17 ⟨Nat.le_of_ble_eq_true rfl, Nat.le_of_ble_eq_true rfl⟩ (fun v σ' H locs hF hd => ?_)
  rw [hF.2] at hd
  refine bf_top hF.1.symm ?_
  refine bf_aald (v := .ref (c + 180 + 2 * d.2.2.1.toNatClampNeg)) X hd (bf_c3 hC) 4 rfl rfl g1 rfl dX19_does_20 ?_
  refine bf_rH X hd hC (bf_in_lt g1) (Or.inr ⟨_, q291⟩) dX19_does_21 ?_
  refine lv_imul hx hb dX19_does_24 ?_
  refine va_mmin hx hb (hml.trans hl.1.symm) hown (hts _ q1115) (hts _ q875) (hts _ q157) (hts _ q876) (Nat.le_of_ble_eq_true rfl) (Nat.le_of_ble_eq_true rfl) (Nat.le_of_ble_eq_true rfl) (Nat.le_of_ble_eq_true rfl) dX19_does_25 ?_
  refine bf_xH X hd (bf_in_lt g1) (Or.inr ⟨_, q291⟩) dX19_does_28 (fun H locs hd => ?_)
  exact kret _ _ _ _ _ (congrArg (bf_pC G ν c q) (bf_so hf)) hd dX19_does_31
/-- the plan's deeds of this week -/
def bf_plan : List bf_Dd → bf_CS → Option bf_CS
  | [], S => some S
  | d :: r, S => if (if d.2.1 = S.1 0 18 0 then (1 : Int32) else 0) = 0 then bf_plan r S else bf_b (bf_does d S) (bf_plan r)
section BFDD
variable {p : Program} {l : Launch} {e : Env} {R : Room} {s : State} {m : MethodId} {args : Array Value} {below : List Frame} {meth : Method} {c : Code} {H : Heap} {locs : List Loc} {cells slots : Nat} {Q : State → Prop}
variable {G : bf_G} {ν : bf_V} {cc : ByteArray} {nL pc o a : Nat} {ls : Array Slot} {rest : List Value} {q : Nat → Nat} {S S' : bf_CS} {d : bf_Dd} {x1 : Int32}
/-- a deed is cast, asked, done -/
theorem bf_dd_cast (X : CallFix p m c cc nL s args lw_all RX1) (hd : bf_Dy G s H locs (bf_pC G ν o q S)) (hz : bf_zDd (bf_fz ν o) a d) (hdg : decode cc pc = .ok (.checkcast 266, 3))
    (kk : W p l e R s m args below meth c H locs cells slots Q (F0 m (pc + 3) ls (.ref a :: rest))) : W p l e R s m args below meth c H locs cells slots Q (F0 m pc ls (.ref a :: rest)) := by
  obtain ⟨V, h0, h1, ⟨-, hP, -⟩ | ⟨-, hP, -⟩ | ⟨-, hP, -⟩ | ⟨-, hP⟩⟩ := hz
  · exact va_castY X.1 X.2.1 X.2.2.2.1 (X.2.2.2.2 _ q1087) (hd.1.C q2061) (bf_recv hd (bf_fz_at hP) (q := (RX16, TX16, 3)) rfl) hdg kk
  · exact va_castY X.1 X.2.1 X.2.2.2.1 (X.2.2.2.2 _ q1087) (hd.1.C q2060) (bf_recv hd (bf_fz_at hP) (q := (RX17, TX17, 3)) rfl) hdg kk
  · exact va_castY X.1 X.2.1 X.2.2.2.1 (X.2.2.2.2 _ q1087) (hd.1.C q2058) (bf_recv hd (bf_fz_at hP) (q := (RX18, TX18, 3)) rfl) hdg kk
  · exact va_castY X.1 X.2.1 X.2.2.2.1 (X.2.2.2.2 _ q1087) (hd.1.C q2059) (bf_recv hd (bf_fz_at hP) (q := (RX19, TX19, 2)) rfl) hdg kk
theorem bf_dd_isOf (X : CallFix p m c cc nL s args lw_all RX1) (hd : bf_Dy G s H locs (bf_pC G ν o q S)) (hz : bf_zDd (bf_fz ν o) a d) (hR : 1 ≤ R.frames ∧ 21 ≤ R.locals) (hls : ls.size = nL) (hw : (rest.map fun v => v.category).sum ≤ 8) (hdg : decode cc pc = .ok (.invokevirtual 268, 3)) (hf : cells ≤ R.cells ∧ slots ≤ R.slots)
    (kk : ∀ (H : Heap) (locs : List Loc), bf_Dy G s H locs (bf_pC G ν o q S) → W p l e R s m args below meth c H locs cells slots Q (F0 m (pc + 3) ls (.int (if d.2.1 = x1 then 1 else 0) :: rest))) : W p l e R s m args below meth c H locs cells slots Q (F0 m pc ls (.int x1 :: .ref a :: rest)) := by
  have kk2 : ∀ (r : Int32) (σ' : bf_V) (H : Heap) (locs : List Loc), (r = (if d.2.1 = x1 then 1 else 0) ∧ σ' = bf_pC G ν o q S) → (r = 0 ∨ r = 1) → bf_Dy G s H locs σ' → W p l e R s m args below meth c H locs cells slots Q (F0 m (pc + 3) ls (.int r :: rest)) := by
    intro r σ' H locs hF hz hd
    obtain ⟨e1, e2⟩ := hF
    subst e2
    rw [e1]
    exact kk H locs hd
  obtain ⟨V, h0, h1, ⟨-, hP, -⟩ | ⟨-, hP, -⟩ | ⟨-, hP, -⟩ | ⟨-, hP⟩⟩ := hz
  · exact bf_cUz (n := 1) (As := [.int x1]) (rest := rest) X hd (mX15_isOf l G _ a 14 V RX16 TX16 3 d.2.1 x1 rfl in_X16 (by decide) rfl (bf_fz_at hP) h0) (bf_lwU q1088 q1090 q1094 q1089 q177 q1095) rfl (by decide +kernel) ⟨hR.1, hR.2⟩ (bf_recv hd (bf_fz_at hP) (q := (RX16, TX16, 3)) rfl) rfl hls rfl hw hdg hf kk2
  · exact bf_cUz (n := 1) (As := [.int x1]) (rest := rest) X hd (mX15_isOf l G _ a 15 V RX17 TX17 3 d.2.1 x1 rfl in_X17 (by decide) rfl (bf_fz_at hP) h0) (bf_lwU q1088 q1090 q1093 q1089 q177 q1095) rfl (by decide +kernel) ⟨hR.1, hR.2⟩ (bf_recv hd (bf_fz_at hP) (q := (RX17, TX17, 3)) rfl) rfl hls rfl hw hdg hf kk2
  · exact bf_cUz (n := 1) (As := [.int x1]) (rest := rest) X hd (mX15_isOf l G _ a 16 V RX18 TX18 3 d.2.1 x1 rfl in_X18 (by decide) rfl (bf_fz_at hP) h0) (bf_lwU q1088 q1090 q1091 q1089 q177 q1095) rfl (by decide +kernel) ⟨hR.1, hR.2⟩ (bf_recv hd (bf_fz_at hP) (q := (RX18, TX18, 3)) rfl) rfl hls rfl hw hdg hf kk2
  · exact bf_cUz (n := 1) (As := [.int x1]) (rest := rest) X hd (mX15_isOf l G _ a 17 V RX19 TX19 2 d.2.1 x1 rfl in_X19 (by decide) rfl (bf_fz_at hP) h0) (bf_lwU q1088 q1090 q1092 q1089 q177 q1095) rfl (by decide +kernel) ⟨hR.1, hR.2⟩ (bf_recv hd (bf_fz_at hP) (q := (RX19, TX19, 2)) rfl) rfl hls rfl hw hdg hf kk2
theorem bf_dd_does (X : CallFix p m c cc nL s args lw_all RX1) (hd : bf_Dy G s H locs (bf_pC G ν o q S)) (hz : bf_zDd (bf_fz ν o) a d) (hS : bf_does d S = some S') (hR : 3 ≤ R.frames ∧ 121 ≤ R.locals) (hls : ls.size = nL) (hw : (rest.map fun v => v.category).sum ≤ 8) (hdg : decode cc pc = .ok (.invokevirtual 271, 3)) (hf : cells ≤ R.cells ∧ slots ≤ R.slots)
    (kk : ∀ (H : Heap) (locs : List Loc), bf_Dy G s H locs (bf_pC G ν o q S') → W p l e R s m args below meth c H locs cells slots Q (F0 m (pc + 3) ls rest)) : W p l e R s m args below meth c H locs cells slots Q (F0 m pc ls (.ref o :: .ref a :: rest)) := by
  have kk2 : ∀ (σ' : bf_V) (H : Heap) (locs : List Loc), (σ' = bf_pC G ν o q S') → bf_Dy G s H locs σ' → W p l e R s m args below meth c H locs cells slots Q (F0 m (pc + 3) ls rest) := by
    intro σ' H locs hF hd
    subst hF
    exact kk H locs hd
  obtain ⟨V, h0, h1, ⟨hk, hP, h2⟩ | ⟨hk, hP, h2, -⟩ | ⟨hk, hP, h2⟩ | ⟨hk, hP⟩⟩ := hz
  · exact bf_cAv (n := 1) (As := [.ref o]) (rest := rest) X hd (mX16_does l G ν o q S a d V hP h1 h2 hk hS) (bf_lwU q1096 q1098 q1124 q1125 q178 q1126) q1097 (by decide +kernel) ⟨hR.1, hR.2⟩ (bf_recv hd (bf_fz_at hP) (q := (RX16, TX16, 3)) rfl) rfl hls rfl hw hdg hf kk2
  · exact bf_cAv (n := 1) (As := [.ref o]) (rest := rest) X hd (mX17_does l G ν o q S a d V hP h1 h2 hk hS) (bf_lwU q1096 q1098 q1116 q1117 q179 q1118) q1097 (by decide +kernel) ⟨hR.1, hR.2⟩ (bf_recv hd (bf_fz_at hP) (q := (RX17, TX17, 3)) rfl) rfl hls rfl hw hdg hf kk2
  · exact bf_cAv (n := 1) (As := [.ref o]) (rest := rest) X hd (mX18_does l G ν o q S a d V hP h1 h2 hk hS) (bf_lwU q1096 q1098 q1099 q1100 q180 q1101) q1097 (by decide +kernel) ⟨hR.1, hR.2⟩ (bf_recv hd (bf_fz_at hP) (q := (RX18, TX18, 3)) rfl) rfl hls rfl hw hdg hf kk2
  · exact bf_cAv (n := 1) (As := [.ref o]) (rest := rest) X hd (mX19_does l G ν o q S a d V hP h1 hk hS) (bf_lwU q1096 q1098 q1109 q1110 q181 q1111) q1097 (by decide +kernel) ⟨hR.1, hR.2⟩ (bf_recv hd (bf_fz_at hP) (q := (RX19, TX19, 2)) rfl) rfl hls rfl hw hdg hf kk2
end BFDD
