set_option maxRecDepth 100000
/-! The reference's methods: programs and contracts, printed by wip/gen/gen.py -/
abbrev bf_rm (n : Nat) : Room := { frames := n, cells := 0, slots := 0, locals := 50 * n }
def fX5_isIn (x1 x2 x3 : Int32) : Int32 := if x1 < x2 then (0) else (if x3 < x1 then (0) else (1))
set_option maxHeartbeats 4000000 in
theorem mX5_isIn (l : Launch) (G : bf_G) (σ : bf_V) (o : Nat) (T : bf_TS) (x1 x2 x3 : Int32) {r : Int32} (hf : fX5_isIn x1 x2 x3 = r) : bf_MZ l G yX5_isIn cX5_isIn 4 (bf_rm 0) [.ref o, .int x1, .int x2, .int x3] (bf_pT G σ o T) (fun v σ' => v = r ∧ σ' = bf_pT G σ o T) := by
  refine bf_MZ.of rfl (Nat.le_of_ble_eq_true rfl) ?_
  intro p e s m below meth c Q X hlk hnm kret hd ls hl
  have hx := X.1
  have hb := X.2.1
  have hown := X.2.2.2.1
  have hts := X.2.2.2.2
  have hl : lv_has ls 4 [(0, .ref o), (1, .int x1), (2, .int x2), (3, .int x3)] := hl
  unfold fX5_isIn at hf
  refine lv_iload_n hx hb dX5_isIn_0 rfl (lv_at hl 1 rfl) ?_
  refine lv_iload_n hx hb dX5_isIn_1 rfl (lv_at hl 2 rfl) ?_
  refine lv_icmp_lt (tgt := 14) hx hb dX5_isIn_2 (by decide) (fun c_3 => ?_) (fun c_3 => ?_)
  · have hf := bf_it hf c_3
    refine lv_iconst (v := 0) hx hb dX5_isIn_14 (by decide) ?_
    exact kret _ _ _ _ _ _ ⟨hf, rfl⟩ (Or.inl rfl) hd dX5_isIn_15
  · have hf := bf_ie hf c_3
    refine lv_iload_n hx hb dX5_isIn_5 rfl (lv_at hl 1 rfl) ?_
    refine lv_iload_n hx hb dX5_isIn_6 rfl (lv_at hl 3 rfl) ?_
    refine lv_icmp_gt (tgt := 14) hx hb dX5_isIn_7 (by decide) (fun c_4 => ?_) (fun c_4 => ?_)
    · have hf := bf_it hf c_4
      refine lv_iconst (v := 0) hx hb dX5_isIn_14 (by decide) ?_
      exact kret _ _ _ _ _ _ ⟨hf, rfl⟩ (Or.inl rfl) hd dX5_isIn_15
    · have hf := bf_ie hf c_4
      refine lv_iconst (v := 1) hx hb dX5_isIn_10 (by decide) ?_
      refine lv_goto (tgt := 15) hx hb dX5_isIn_11 (by decide) ?_
      exact kret _ _ _ _ _ _ ⟨hf, rfl⟩ (Or.inr rfl) hd dX5_isIn_15
def fX5_held (x1 x2 x3 : Int32) : Int32 := if x2 ≤ x1 then (if x1 ≤ x3 then (x1) else (x3)) else (x2)
set_option maxHeartbeats 4000000 in
theorem mX5_held (l : Launch) (G : bf_G) (σ : bf_V) (o : Nat) (T : bf_TS) (x1 x2 x3 : Int32) {r : Int32} (hf : fX5_held x1 x2 x3 = r) : bf_MI l G yX5_held cX5_held 4 (bf_rm 0) [.ref o, .int x1, .int x2, .int x3] (bf_pT G σ o T) (fun v σ' => v = r ∧ σ' = bf_pT G σ o T) := by
  refine bf_MI.of rfl (Nat.le_of_ble_eq_true rfl) ?_
  intro p e s m below meth c Q X hlk hnm kret hd ls hl
  have hx := X.1
  have hb := X.2.1
  have hown := X.2.2.2.1
  have hts := X.2.2.2.2
  have hl : lv_has ls 4 [(0, .ref o), (1, .int x1), (2, .int x2), (3, .int x3)] := hl
  unfold fX5_held at hf
  refine lv_iload_n hx hb dX5_held_0 rfl (lv_at hl 1 rfl) ?_
  refine lv_iload_n hx hb dX5_held_1 rfl (lv_at hl 2 rfl) ?_
  refine lv_icmp_ge (tgt := 9) hx hb dX5_held_2 (by decide) (fun c_3 => ?_) (fun c_3 => ?_)
  · have hf := bf_it hf c_3
    refine lv_iload_n hx hb dX5_held_9 rfl (lv_at hl 1 rfl) ?_
    refine lv_iload_n hx hb dX5_held_10 rfl (lv_at hl 3 rfl) ?_
    refine lv_icmp_le (tgt := 18) hx hb dX5_held_11 (by decide) (fun c_4 => ?_) (fun c_4 => ?_)
    · have hf := bf_it hf c_4
      refine lv_iload_n hx hb dX5_held_18 rfl (lv_at hl 1 rfl) ?_
      exact kret _ _ _ _ _ _ ⟨hf, rfl⟩ hd dX5_held_19
    · have hf := bf_ie hf c_4
      refine lv_iload_n hx hb dX5_held_14 rfl (lv_at hl 3 rfl) ?_
      refine lv_goto (tgt := 19) hx hb dX5_held_15 (by decide) ?_
      exact kret _ _ _ _ _ _ ⟨hf, rfl⟩ hd dX5_held_19
  · have hf := bf_ie hf c_3
    refine lv_iload_n hx hb dX5_held_5 rfl (lv_at hl 2 rfl) ?_
    refine lv_goto (tgt := 19) hx hb dX5_held_6 (by decide) ?_
    exact kret _ _ _ _ _ _ ⟨hf, rfl⟩ hd dX5_held_19
def fX5_greater (x1 x2 : Int32) : Int32 := if x1 ≤ x2 then (x2) else (x1)
set_option maxHeartbeats 4000000 in
theorem mX5_greater (l : Launch) (G : bf_G) (σ : bf_V) (o : Nat) (T : bf_TS) (x1 x2 : Int32) {r : Int32} (hf : fX5_greater x1 x2 = r) : bf_MI l G yX5_greater cX5_greater 3 (bf_rm 0) [.ref o, .int x1, .int x2] (bf_pT G σ o T) (fun v σ' => v = r ∧ σ' = bf_pT G σ o T) := by
  refine bf_MI.of rfl (Nat.le_of_ble_eq_true rfl) ?_
  intro p e s m below meth c Q X hlk hnm kret hd ls hl
  have hx := X.1
  have hb := X.2.1
  have hown := X.2.2.2.1
  have hts := X.2.2.2.2
  have hl : lv_has ls 3 [(0, .ref o), (1, .int x1), (2, .int x2)] := hl
  unfold fX5_greater at hf
  refine lv_iload_n hx hb dX5_greater_0 rfl (lv_at hl 1 rfl) ?_
  refine lv_iload_n hx hb dX5_greater_1 rfl (lv_at hl 2 rfl) ?_
  refine lv_icmp_le (tgt := 9) hx hb dX5_greater_2 (by decide) (fun c_2 => ?_) (fun c_2 => ?_)
  · have hf := bf_it hf c_2
    refine lv_iload_n hx hb dX5_greater_9 rfl (lv_at hl 2 rfl) ?_
    exact kret _ _ _ _ _ _ ⟨hf, rfl⟩ hd dX5_greater_10
  · have hf := bf_ie hf c_2
    refine lv_iload_n hx hb dX5_greater_5 rfl (lv_at hl 1 rfl) ?_
    refine lv_goto (tgt := 10) hx hb dX5_greater_6 (by decide) ?_
    exact kret _ _ _ _ _ _ ⟨hf, rfl⟩ hd dX5_greater_10
def fX5_lesser (x1 x2 : Int32) : Int32 := if x2 ≤ x1 then (x2) else (x1)
set_option maxHeartbeats 4000000 in
theorem mX5_lesser (l : Launch) (G : bf_G) (σ : bf_V) (o : Nat) (T : bf_TS) (x1 x2 : Int32) {r : Int32} (hf : fX5_lesser x1 x2 = r) : bf_MI l G yX5_lesser cX5_lesser 3 (bf_rm 0) [.ref o, .int x1, .int x2] (bf_pT G σ o T) (fun v σ' => v = r ∧ σ' = bf_pT G σ o T) := by
  refine bf_MI.of rfl (Nat.le_of_ble_eq_true rfl) ?_
  intro p e s m below meth c Q X hlk hnm kret hd ls hl
  have hx := X.1
  have hb := X.2.1
  have hown := X.2.2.2.1
  have hts := X.2.2.2.2
  have hl : lv_has ls 3 [(0, .ref o), (1, .int x1), (2, .int x2)] := hl
  unfold fX5_lesser at hf
  refine lv_iload_n hx hb dX5_lesser_0 rfl (lv_at hl 1 rfl) ?_
  refine lv_iload_n hx hb dX5_lesser_1 rfl (lv_at hl 2 rfl) ?_
  refine lv_icmp_ge (tgt := 9) hx hb dX5_lesser_2 (by decide) (fun c_2 => ?_) (fun c_2 => ?_)
  · have hf := bf_it hf c_2
    refine lv_iload_n hx hb dX5_lesser_9 rfl (lv_at hl 2 rfl) ?_
    exact kret _ _ _ _ _ _ ⟨hf, rfl⟩ hd dX5_lesser_10
  · have hf := bf_ie hf c_2
    refine lv_iload_n hx hb dX5_lesser_5 rfl (lv_at hl 1 rfl) ?_
    refine lv_goto (tgt := 10) hx hb dX5_lesser_6 (by decide) ?_
    exact kret _ _ _ _ _ _ ⟨hf, rfl⟩ hd dX5_lesser_10
def fX5_onesOf_4b (k4 : Int32 → Int32 → Option (Int32)) (v4_2 : Int32) (v4_3 : Int32) : Option (Int32) := if v4_3 = 0 then (some v4_2) else (bf_l ((v4_2 + 1)) fun x2_2 => bf_l ((v4_3 &&& (v4_3 - 1))) fun x3_3 => k4 x2_2 x3_3)
def fX5_onesOf_4  : Nat → Int32 → Int32 → Option (Int32)
  | 0, _, _ => none
  | n + 1, v4_2, v4_3 => fX5_onesOf_4b (fX5_onesOf_4 n) v4_2 v4_3
def fX5_onesOf (x1 : Int32) : Option (Int32) := fX5_onesOf_4 bf_fuel 0 x1
set_option maxHeartbeats 4000000 in
theorem mX5_onesOf (l : Launch) (G : bf_G) (σ : bf_V) (o : Nat) (T : bf_TS) (x1 : Int32) {r : Int32} (hf : fX5_onesOf x1 = some r) : bf_MI l G yX5_onesOf cX5_onesOf 4 (bf_rm 0) [.ref o, .int x1] (bf_pT G σ o T) (fun v σ' => v = r ∧ σ' = bf_pT G σ o T) := by
  refine bf_MI.of rfl (Nat.le_of_ble_eq_true rfl) ?_
  intro p e s m below meth c Q X hlk hnm kret hd ls hl
  have hx := X.1
  have hb := X.2.1
  have hown := X.2.2.2.1
  have hts := X.2.2.2.2
  have hl : lv_has ls 4 [(0, .ref o), (1, .int x1)] := hl
  have L4 : ∀ (n4 : Nat) (v4_2 : Int32) (v4_3 : Int32) (H : Heap) (locs : List Loc) (ls : Array Slot), fX5_onesOf_4 n4 v4_2 v4_3 = some r → bf_Dy G s H locs (bf_pT G σ o T) → lv_has ls 4 [(2, .int v4_2), (3, .int v4_3)] → W p l e (bf_rm 0) s m ([.ref o, .int x1] : List Value).toArray below meth c H locs 0 0 Q (F0 m 4 ls []) := by
    intro n4
    induction n4 with
    | zero =>
      intro v4_2 v4_3 H locs ls hf hd hl
      exact absurd (show (none : Option (Int32)) = some r from hf) (by intro h; cases h)
    | succ n4 ih4 =>
      intro v4_2 v4_3 H locs ls hf hd hl
      have hf : fX5_onesOf_4b (fX5_onesOf_4 n4) v4_2 v4_3 = some r := hf
      unfold fX5_onesOf_4b at hf
      refine lv_iload_n hx hb dX5_onesOf_4 rfl (lv_at hl 1 rfl) ?_
      refine lv_if_eq (tgt := 21) hx hb dX5_onesOf_5 (by decide) (fun c_4 => ?_) (fun c_4 => ?_)
      · have hf := bf_it hf c_4
        refine lv_iload_n hx hb dX5_onesOf_21 rfl (lv_at hl 0 rfl) ?_
        exact kret _ _ _ _ _ _ ⟨bf_so hf, rfl⟩ hd dX5_onesOf_22
      · have hf := bf_ie hf c_4
        refine lv_iload_n hx hb dX5_onesOf_8 rfl (lv_at hl 0 rfl) ?_
        refine lv_iconst (v := 1) hx hb dX5_onesOf_9 (by decide) ?_
        refine lv_iadd hx hb dX5_onesOf_10 ?_
        obtain ⟨x2_5, ex2_5, hf⟩ := bf_l_e hf
        refine bf_top ex2_5 ?_
        refine lv_istore_n (lv' := [(2, .int x2_5), (3, .int v4_3)]) hx hb dX5_onesOf_11 rfl hl (by decide) rfl (fun ls hl => ?_)
        refine lv_iload_n hx hb dX5_onesOf_12 rfl (lv_at hl 1 rfl) ?_
        refine lv_iload_n hx hb dX5_onesOf_13 rfl (lv_at hl 1 rfl) ?_
        refine lv_iconst (v := 1) hx hb dX5_onesOf_14 (by decide) ?_
        refine lv_isub hx hb dX5_onesOf_15 ?_
        refine lv_iand hx hb dX5_onesOf_16 ?_
        obtain ⟨x3_6, ex3_6, hf⟩ := bf_l_e hf
        refine bf_top ex3_6 ?_
        refine lv_istore_n (lv' := [(3, .int x3_6), (2, .int x2_5)]) hx hb dX5_onesOf_17 rfl hl (by decide) rfl (fun ls hl => ?_)
        refine lv_goto (tgt := 4) hx hb dX5_onesOf_18 (by decide) ?_
        exact ih4 x2_5 x3_6 _ _ _ hf hd (lv_sub hl [1, 0] rfl)
  unfold fX5_onesOf at hf
  refine lv_iconst (v := 0) hx hb dX5_onesOf_0 (by decide) ?_
  refine lv_istore_n (lv' := [(2, .int 0), (0, .ref o), (1, .int x1)]) hx hb dX5_onesOf_1 rfl hl (by decide) rfl (fun ls hl => ?_)
  refine lv_iload_n hx hb dX5_onesOf_2 rfl (lv_at hl 2 rfl) ?_
  refine lv_istore_n (lv' := [(3, .int x1), (2, .int 0), (0, .ref o), (1, .int x1)]) hx hb dX5_onesOf_3 rfl hl (by decide) rfl (fun ls hl => ?_)
  exact L4 bf_fuel 0 x1 _ _ _ hf hd (lv_sub hl [1, 0] rfl)
def fX5_has (x1 x2 : Int32) : Int32 := if ((x1 >>> (x2 &&& 31)) &&& 1) = 1 then (1) else (0)
set_option maxHeartbeats 4000000 in
theorem mX5_has (l : Launch) (G : bf_G) (σ : bf_V) (o : Nat) (T : bf_TS) (x1 x2 : Int32) {r : Int32} (hf : fX5_has x1 x2 = r) : bf_MZ l G yX5_has cX5_has 3 (bf_rm 0) [.ref o, .int x1, .int x2] (bf_pT G σ o T) (fun v σ' => v = r ∧ σ' = bf_pT G σ o T) := by
  refine bf_MZ.of rfl (Nat.le_of_ble_eq_true rfl) ?_
  intro p e s m below meth c Q X hlk hnm kret hd ls hl
  have hx := X.1
  have hb := X.2.1
  have hown := X.2.2.2.1
  have hts := X.2.2.2.2
  have hl : lv_has ls 3 [(0, .ref o), (1, .int x1), (2, .int x2)] := hl
  unfold fX5_has at hf
  refine lv_iload_n hx hb dX5_has_0 rfl (lv_at hl 1 rfl) ?_
  refine lv_iload_n hx hb dX5_has_1 rfl (lv_at hl 2 rfl) ?_
  refine lv_ishr hx hb dX5_has_2 ?_
  refine lv_iconst (v := 1) hx hb dX5_has_3 (by decide) ?_
  refine lv_iand hx hb dX5_has_4 ?_
  refine lv_iconst (v := 1) hx hb dX5_has_5 (by decide) ?_
  refine lv_icmp_ne (tgt := 13) hx hb dX5_has_6 (by decide) (fun c_2 => ?_) (fun c_2 => ?_)
  · have hf := bf_ie hf c_2
    refine lv_iconst (v := 0) hx hb dX5_has_13 (by decide) ?_
    exact kret _ _ _ _ _ _ ⟨hf, rfl⟩ (Or.inl rfl) hd dX5_has_14
  · have hf := bf_it hf c_2
    refine lv_iconst (v := 1) hx hb dX5_has_9 (by decide) ?_
    refine lv_goto (tgt := 14) hx hb dX5_has_10 (by decide) ?_
    exact kret _ _ _ _ _ _ ⟨hf, rfl⟩ (Or.inr rfl) hd dX5_has_14
def fX5_keepsAhead_91 (T91 : bf_TS) : Option (bf_TS) := bf_l (bf_u2 T91 3 0 ((T91 3 0) + 1)) fun T_11 => some T_11
def fX5_keepsAhead_57b (k57 : Int32 → bf_TS → Option (bf_TS)) (v57_1 : Int32) (T57 : bf_TS) : Option (bf_TS) := if 136 ≤ v57_1 then (fX5_keepsAhead_91 T57) else (bf_c (bf_in v57_1 136) <| bf_c (bf_in ((136 * (T57 3 0)) + v57_1) 816) <| bf_l (bf_u2 T57 2 ((136 * (T57 3 0)) + v57_1).toNatClampNeg (T57 1 (v57_1).toNatClampNeg)) fun T_9 => bf_l (v57_1 + 1) fun x1_10 => k57 x1_10 T_9)
def fX5_keepsAhead_57  : Nat → Int32 → bf_TS → Option (bf_TS)
  | 0, _, _ => none
  | n + 1, v57_1, T57 => fX5_keepsAhead_57b (fX5_keepsAhead_57 n) v57_1 T57
def fX5_keepsAhead_55 (T55 : bf_TS) : Option (bf_TS) := fX5_keepsAhead_57 bf_fuel 0 T55
def fX5_keepsAhead_21b (k21 : Int32 → bf_TS → Option (bf_TS)) (v21_1 : Int32) (T21 : bf_TS) : Option (bf_TS) := if (136 * (T21 3 0)) ≤ v21_1 then (fX5_keepsAhead_55 T21) else (bf_c (bf_in (v21_1 + 136) 816) <| bf_c (bf_in v21_1 816) <| bf_l (bf_u2 T21 2 (v21_1).toNatClampNeg (T21 2 (v21_1 + 136).toNatClampNeg)) fun T_4 => bf_l (v21_1 + 1) fun x1_5 => k21 x1_5 T_4)
def fX5_keepsAhead_21  : Nat → Int32 → bf_TS → Option (bf_TS)
  | 0, _, _ => none
  | n + 1, v21_1, T21 => fX5_keepsAhead_21b (fX5_keepsAhead_21 n) v21_1 T21
def fX5_keepsAhead (T : bf_TS) : Option (bf_TS) := if (T 3 0) = 6 then (bf_l (bf_u2 T 3 0 ((T 3 0) - 1)) fun T_13 => fX5_keepsAhead_21 bf_fuel 0 T_13) else (fX5_keepsAhead_55 T)
set_option maxHeartbeats 4000000 in
theorem mX5_keepsAhead (l : Launch) (G : bf_G) (σ : bf_V) (o : Nat) (T : bf_TS) {T' : bf_TS} (hf : fX5_keepsAhead T = some T') : bf_MV l G yX5_keepsAhead cX5_keepsAhead 2 (bf_rm 0) [.ref o] (bf_pT G σ o T) (fun σ' => σ' = bf_pT G σ o T') := by
  refine bf_MV.of rfl (Nat.le_of_ble_eq_true rfl) ?_
  intro p e s m below meth c Q X hlk hnm kret hd ls hl
  have hx := X.1
  have hb := X.2.1
  have hown := X.2.2.2.1
  have hts := X.2.2.2.2
  have hl : lv_has ls 2 [(0, .ref o)] := hl
  have J91 : ∀ (T91 : bf_TS) (H : Heap) (locs : List Loc) (ls : Array Slot), fX5_keepsAhead_91 T91 = some T' → bf_Dy G s H locs (bf_pT G σ o T91) → lv_has ls 2 [(0, .ref o)] → W p l e (bf_rm 0) s m ([.ref o] : List Value).toArray below meth c H locs 0 0 Q (F0 m 91 ls []) := by
    intro T91 H locs ls hf hd hl
    unfold fX5_keepsAhead_91 at hf
    refine lv_aload_n hx hb dX5_keepsAhead_91 rfl (lv_at hl 0 rfl) ?_
    refine lv_aload_n hx hb dX5_keepsAhead_92 rfl (lv_at hl 0 rfl) ?_
    refine bf_tgi X hd 3 (by decide) rfl q1386 dX5_keepsAhead_93 ?_
    refine lv_iconst (v := 1) hx hb dX5_keepsAhead_96 (by decide) ?_
    refine lv_iadd hx hb dX5_keepsAhead_97 ?_
    refine bf_tpi X hd 3 (by decide) ⟨rfl, rfl, rfl⟩ q1386 dX5_keepsAhead_98 (fun H locs hd => ?_)
    obtain ⟨T_14, eT_14, hf⟩ := bf_l_e hf
    have hd := hd.of (congrArg (bf_pT G σ o) eT_14.symm)
    exact kret _ _ _ _ _ (congrArg (bf_pT G σ o) (bf_so hf)) hd dX5_keepsAhead_101
  have L57 : ∀ (n57 : Nat) (v57_1 : Int32) (T57 : bf_TS) (H : Heap) (locs : List Loc) (ls : Array Slot), fX5_keepsAhead_57 n57 v57_1 T57 = some T' → bf_Dy G s H locs (bf_pT G σ o T57) → lv_has ls 2 [(0, .ref o), (1, .int v57_1)] → W p l e (bf_rm 0) s m ([.ref o] : List Value).toArray below meth c H locs 0 0 Q (F0 m 57 ls []) := by
    intro n57
    induction n57 with
    | zero =>
      intro v57_1 T57 H locs ls hf hd hl
      exact absurd (show (none : Option (bf_TS)) = some T' from hf) (by intro h; cases h)
    | succ n57 ih57 =>
      intro v57_1 T57 H locs ls hf hd hl
      have hf : fX5_keepsAhead_57b (fX5_keepsAhead_57 n57) v57_1 T57 = some T' := hf
      unfold fX5_keepsAhead_57b at hf
      refine lv_iload_n hx hb dX5_keepsAhead_57 rfl (lv_at hl 1 rfl) ?_
      refine lv_sipush (v := 136) hx hb dX5_keepsAhead_58 (by decide) ?_
      refine lv_icmp_ge (tgt := 91) hx hb dX5_keepsAhead_61 (by decide) (fun c_15 => ?_) (fun c_15 => ?_)
      · have hf := bf_it hf c_15
        exact J91 T57 _ _ _ hf hd (lv_sub hl [0] rfl)
      · have hf := bf_ie hf c_15
        refine lv_aload_n hx hb dX5_keepsAhead_64 rfl (lv_at hl 0 rfl) ?_
        refine bf_tga X hd 2 (by decide) (by decide) q1385 dX5_keepsAhead_65 ?_
        refine lv_sipush (v := 136) hx hb dX5_keepsAhead_68 (by decide) ?_
        refine lv_aload_n hx hb dX5_keepsAhead_71 rfl (lv_at hl 0 rfl) ?_
        refine bf_tgi X hd 3 (by decide) rfl q1386 dX5_keepsAhead_72 ?_
        refine lv_imul hx hb dX5_keepsAhead_75 ?_
        refine lv_iload_n hx hb dX5_keepsAhead_76 rfl (lv_at hl 1 rfl) ?_
        refine lv_iadd hx hb dX5_keepsAhead_77 ?_
        refine lv_aload_n hx hb dX5_keepsAhead_78 rfl (lv_at hl 0 rfl) ?_
        refine bf_tga X hd 1 (by decide) (by decide) q1384 dX5_keepsAhead_79 ?_
        refine lv_iload_n hx hb dX5_keepsAhead_82 rfl (lv_at hl 1 rfl) ?_
        obtain ⟨g_16, hf⟩ := bf_c_some hf
        refine bf_tld X hd 1 (by decide) g_16 dX5_keepsAhead_83 ?_
        obtain ⟨g_17, hf⟩ := bf_c_some hf
        refine bf_tst X hd 2 (by decide) g_17 dX5_keepsAhead_84 (fun H locs hd => ?_)
        obtain ⟨T_18, eT_18, hf⟩ := bf_l_e hf
        have hd := hd.of (congrArg (bf_pT G σ o) eT_18.symm)
        obtain ⟨x1_19, ex1_19, hf⟩ := bf_l_e hf
        refine lv_iinc (v := x1_19) (lv' := [(1, .int x1_19), (0, .ref o)]) hx hb dX5_keepsAhead_85 hl (k := 1) rfl (by rw [ex1_19]; rfl) (by decide) rfl (fun ls hl => ?_)
        refine lv_goto (tgt := 57) hx hb dX5_keepsAhead_88 (by decide) ?_
        exact ih57 x1_19 T_18 _ _ _ hf hd (lv_sub hl [1, 0] rfl)
  have J55 : ∀ (T55 : bf_TS) (H : Heap) (locs : List Loc) (ls : Array Slot), fX5_keepsAhead_55 T55 = some T' → bf_Dy G s H locs (bf_pT G σ o T55) → lv_has ls 2 [(0, .ref o)] → W p l e (bf_rm 0) s m ([.ref o] : List Value).toArray below meth c H locs 0 0 Q (F0 m 55 ls []) := by
    intro T55 H locs ls hf hd hl
    unfold fX5_keepsAhead_55 at hf
    refine lv_iconst (v := 0) hx hb dX5_keepsAhead_55 (by decide) ?_
    refine lv_istore_n (lv' := [(1, .int 0), (0, .ref o)]) hx hb dX5_keepsAhead_56 rfl hl (by decide) rfl (fun ls hl => ?_)
    exact L57 bf_fuel 0 T55 _ _ _ hf hd (lv_sub hl [1, 0] rfl)
  have L21 : ∀ (n21 : Nat) (v21_1 : Int32) (T21 : bf_TS) (H : Heap) (locs : List Loc) (ls : Array Slot), fX5_keepsAhead_21 n21 v21_1 T21 = some T' → bf_Dy G s H locs (bf_pT G σ o T21) → lv_has ls 2 [(0, .ref o), (1, .int v21_1)] → W p l e (bf_rm 0) s m ([.ref o] : List Value).toArray below meth c H locs 0 0 Q (F0 m 21 ls []) := by
    intro n21
    induction n21 with
    | zero =>
      intro v21_1 T21 H locs ls hf hd hl
      exact absurd (show (none : Option (bf_TS)) = some T' from hf) (by intro h; cases h)
    | succ n21 ih21 =>
      intro v21_1 T21 H locs ls hf hd hl
      have hf : fX5_keepsAhead_21b (fX5_keepsAhead_21 n21) v21_1 T21 = some T' := hf
      unfold fX5_keepsAhead_21b at hf
      refine lv_iload_n hx hb dX5_keepsAhead_21 rfl (lv_at hl 1 rfl) ?_
      refine lv_sipush (v := 136) hx hb dX5_keepsAhead_22 (by decide) ?_
      refine lv_aload_n hx hb dX5_keepsAhead_25 rfl (lv_at hl 0 rfl) ?_
      refine bf_tgi X hd 3 (by decide) rfl q1386 dX5_keepsAhead_26 ?_
      refine lv_imul hx hb dX5_keepsAhead_29 ?_
      refine lv_icmp_ge (tgt := 55) hx hb dX5_keepsAhead_30 (by decide) (fun c_20 => ?_) (fun c_20 => ?_)
      · have hf := bf_it hf c_20
        exact J55 T21 _ _ _ hf hd (lv_sub hl [0] rfl)
      · have hf := bf_ie hf c_20
        refine lv_aload_n hx hb dX5_keepsAhead_33 rfl (lv_at hl 0 rfl) ?_
        refine bf_tga X hd 2 (by decide) (by decide) q1385 dX5_keepsAhead_34 ?_
        refine lv_iload_n hx hb dX5_keepsAhead_37 rfl (lv_at hl 1 rfl) ?_
        refine lv_aload_n hx hb dX5_keepsAhead_38 rfl (lv_at hl 0 rfl) ?_
        refine bf_tga X hd 2 (by decide) (by decide) q1385 dX5_keepsAhead_39 ?_
        refine lv_iload_n hx hb dX5_keepsAhead_42 rfl (lv_at hl 1 rfl) ?_
        refine lv_sipush (v := 136) hx hb dX5_keepsAhead_43 (by decide) ?_
        refine lv_iadd hx hb dX5_keepsAhead_46 ?_
        obtain ⟨g_21, hf⟩ := bf_c_some hf
        refine bf_tld X hd 2 (by decide) g_21 dX5_keepsAhead_47 ?_
        obtain ⟨g_22, hf⟩ := bf_c_some hf
        refine bf_tst X hd 2 (by decide) g_22 dX5_keepsAhead_48 (fun H locs hd => ?_)
        obtain ⟨T_23, eT_23, hf⟩ := bf_l_e hf
        have hd := hd.of (congrArg (bf_pT G σ o) eT_23.symm)
        obtain ⟨x1_24, ex1_24, hf⟩ := bf_l_e hf
        refine lv_iinc (v := x1_24) (lv' := [(1, .int x1_24), (0, .ref o)]) hx hb dX5_keepsAhead_49 hl (k := 1) rfl (by rw [ex1_24]; rfl) (by decide) rfl (fun ls hl => ?_)
        refine lv_goto (tgt := 21) hx hb dX5_keepsAhead_52 (by decide) ?_
        exact ih21 x1_24 T_23 _ _ _ hf hd (lv_sub hl [1, 0] rfl)
  unfold fX5_keepsAhead at hf
  refine lv_aload_n hx hb dX5_keepsAhead_0 rfl (lv_at hl 0 rfl) ?_
  refine bf_tgi X hd 3 (by decide) rfl q1386 dX5_keepsAhead_1 ?_
  refine lv_bipush (v := 6) hx hb dX5_keepsAhead_4 (by decide) ?_
  refine lv_icmp_ne (tgt := 55) hx hb dX5_keepsAhead_6 (by decide) (fun c_25 => ?_) (fun c_25 => ?_)
  · have hf := bf_ie hf c_25
    exact J55 T _ _ _ hf hd (lv_sub hl [0] rfl)
  · have hf := bf_it hf c_25
    refine lv_aload_n hx hb dX5_keepsAhead_9 rfl (lv_at hl 0 rfl) ?_
    refine lv_aload_n hx hb dX5_keepsAhead_10 rfl (lv_at hl 0 rfl) ?_
    refine bf_tgi X hd 3 (by decide) rfl q1386 dX5_keepsAhead_11 ?_
    refine lv_iconst (v := 1) hx hb dX5_keepsAhead_14 (by decide) ?_
    refine lv_isub hx hb dX5_keepsAhead_15 ?_
    refine bf_tpi X hd 3 (by decide) ⟨rfl, rfl, rfl⟩ q1386 dX5_keepsAhead_16 (fun H locs hd => ?_)
    obtain ⟨T_26, eT_26, hf⟩ := bf_l_e hf
    have hd := hd.of (congrArg (bf_pT G σ o) eT_26.symm)
    refine lv_iconst (v := 0) hx hb dX5_keepsAhead_19 (by decide) ?_
    refine lv_istore_n (lv' := [(1, .int 0), (0, .ref o)]) hx hb dX5_keepsAhead_20 rfl hl (by decide) rfl (fun ls hl => ?_)
    exact L21 bf_fuel 0 T_26 _ _ _ hf hd (lv_sub hl [1, 0] rfl)
def fX5_undo_26b (k26 : Int32 → bf_TS → Option (Int32 × bf_TS)) (v26_1 : Int32) (T26 : bf_TS) : Option (Int32 × bf_TS) := if 136 ≤ v26_1 then (some (1, T26)) else (bf_c (bf_in ((136 * (T26 3 0)) + v26_1) 816) <| bf_c (bf_in v26_1 136) <| bf_l (bf_u2 T26 1 (v26_1).toNatClampNeg (T26 2 ((136 * (T26 3 0)) + v26_1).toNatClampNeg)) fun T_4 => bf_l (v26_1 + 1) fun x1_5 => k26 x1_5 T_4)
def fX5_undo_26  : Nat → Int32 → bf_TS → Option (Int32 × bf_TS)
  | 0, _, _ => none
  | n + 1, v26_1, T26 => fX5_undo_26b (fX5_undo_26 n) v26_1 T26
def fX5_undo (T : bf_TS) : Option (Int32 × bf_TS) := bf_l (bf_u2 T 0 0 0) fun T_6 => if (T_6 3 0) = 0 then (some (0, T_6)) else (bf_l (bf_u2 T_6 3 0 ((T_6 3 0) - 1)) fun T_8 => fX5_undo_26 bf_fuel 0 T_8)
set_option maxHeartbeats 4000000 in
theorem mX5_undo (l : Launch) (G : bf_G) (σ : bf_V) (o : Nat) (T : bf_TS) {r : Int32} {T' : bf_TS} (hf : fX5_undo T = some (r, T')) : bf_MZ l G yX5_undo cX5_undo 2 (bf_rm 0) [.ref o] (bf_pT G σ o T) (fun v σ' => v = r ∧ σ' = bf_pT G σ o T') := by
  refine bf_MZ.of rfl (Nat.le_of_ble_eq_true rfl) ?_
  intro p e s m below meth c Q X hlk hnm kret hd ls hl
  have hx := X.1
  have hb := X.2.1
  have hown := X.2.2.2.1
  have hts := X.2.2.2.2
  have hl : lv_has ls 2 [(0, .ref o)] := hl
  have L26 : ∀ (n26 : Nat) (v26_1 : Int32) (T26 : bf_TS) (H : Heap) (locs : List Loc) (ls : Array Slot), fX5_undo_26 n26 v26_1 T26 = some (r, T') → bf_Dy G s H locs (bf_pT G σ o T26) → lv_has ls 2 [(0, .ref o), (1, .int v26_1)] → W p l e (bf_rm 0) s m ([.ref o] : List Value).toArray below meth c H locs 0 0 Q (F0 m 26 ls []) := by
    intro n26
    induction n26 with
    | zero =>
      intro v26_1 T26 H locs ls hf hd hl
      exact absurd (show (none : Option (Int32 × bf_TS)) = some (r, T') from hf) (by intro h; cases h)
    | succ n26 ih26 =>
      intro v26_1 T26 H locs ls hf hd hl
      have hf : fX5_undo_26b (fX5_undo_26 n26) v26_1 T26 = some (r, T') := hf
      unfold fX5_undo_26b at hf
      refine lv_iload_n hx hb dX5_undo_26 rfl (lv_at hl 1 rfl) ?_
      refine lv_sipush (v := 136) hx hb dX5_undo_27 (by decide) ?_
      refine lv_icmp_ge (tgt := 60) hx hb dX5_undo_30 (by decide) (fun c_9 => ?_) (fun c_9 => ?_)
      · have hf := bf_it hf c_9
        refine lv_iconst (v := 1) hx hb dX5_undo_60 (by decide) ?_
        exact kret _ _ _ _ _ _ ⟨(bf_pr hf).1, congrArg (bf_pT G σ o) (bf_pr hf).2⟩ (Or.inr rfl) hd dX5_undo_61
      · have hf := bf_ie hf c_9
        refine lv_aload_n hx hb dX5_undo_33 rfl (lv_at hl 0 rfl) ?_
        refine bf_tga X hd 1 (by decide) (by decide) q1384 dX5_undo_34 ?_
        refine lv_iload_n hx hb dX5_undo_37 rfl (lv_at hl 1 rfl) ?_
        refine lv_aload_n hx hb dX5_undo_38 rfl (lv_at hl 0 rfl) ?_
        refine bf_tga X hd 2 (by decide) (by decide) q1385 dX5_undo_39 ?_
        refine lv_sipush (v := 136) hx hb dX5_undo_42 (by decide) ?_
        refine lv_aload_n hx hb dX5_undo_45 rfl (lv_at hl 0 rfl) ?_
        refine bf_tgi X hd 3 (by decide) rfl q1386 dX5_undo_46 ?_
        refine lv_imul hx hb dX5_undo_49 ?_
        refine lv_iload_n hx hb dX5_undo_50 rfl (lv_at hl 1 rfl) ?_
        refine lv_iadd hx hb dX5_undo_51 ?_
        obtain ⟨g_10, hf⟩ := bf_c_some hf
        refine bf_tld X hd 2 (by decide) g_10 dX5_undo_52 ?_
        obtain ⟨g_11, hf⟩ := bf_c_some hf
        refine bf_tst X hd 1 (by decide) g_11 dX5_undo_53 (fun H locs hd => ?_)
        obtain ⟨T_12, eT_12, hf⟩ := bf_l_e hf
        have hd := hd.of (congrArg (bf_pT G σ o) eT_12.symm)
        obtain ⟨x1_13, ex1_13, hf⟩ := bf_l_e hf
        refine lv_iinc (v := x1_13) (lv' := [(1, .int x1_13), (0, .ref o)]) hx hb dX5_undo_54 hl (k := 1) rfl (by rw [ex1_13]; rfl) (by decide) rfl (fun ls hl => ?_)
        refine lv_goto (tgt := 26) hx hb dX5_undo_57 (by decide) ?_
        exact ih26 x1_13 T_12 _ _ _ hf hd (lv_sub hl [1, 0] rfl)
  unfold fX5_undo at hf
  refine lv_aload_n hx hb dX5_undo_0 rfl (lv_at hl 0 rfl) ?_
  refine lv_iconst (v := 0) hx hb dX5_undo_1 (by decide) ?_
  refine bf_tpi X hd 0 (by decide) ⟨rfl, rfl, rfl⟩ q1383 dX5_undo_2 (fun H locs hd => ?_)
  obtain ⟨T_14, eT_14, hf⟩ := bf_l_e hf
  have hd := hd.of (congrArg (bf_pT G σ o) eT_14.symm)
  refine lv_aload_n hx hb dX5_undo_5 rfl (lv_at hl 0 rfl) ?_
  refine bf_tgi X hd 3 (by decide) rfl q1386 dX5_undo_6 ?_
  refine lv_if_ne (tgt := 14) hx hb dX5_undo_9 (by decide) (fun c_15 => ?_) (fun c_15 => ?_)
  · have hf := bf_ie hf c_15
    refine lv_aload_n hx hb dX5_undo_14 rfl (lv_at hl 0 rfl) ?_
    refine lv_aload_n hx hb dX5_undo_15 rfl (lv_at hl 0 rfl) ?_
    refine bf_tgi X hd 3 (by decide) rfl q1386 dX5_undo_16 ?_
    refine lv_iconst (v := 1) hx hb dX5_undo_19 (by decide) ?_
    refine lv_isub hx hb dX5_undo_20 ?_
    refine bf_tpi X hd 3 (by decide) ⟨rfl, rfl, rfl⟩ q1386 dX5_undo_21 (fun H locs hd => ?_)
    obtain ⟨T_16, eT_16, hf⟩ := bf_l_e hf
    have hd := hd.of (congrArg (bf_pT G σ o) eT_16.symm)
    refine lv_iconst (v := 0) hx hb dX5_undo_24 (by decide) ?_
    refine lv_istore_n (lv' := [(1, .int 0), (0, .ref o)]) hx hb dX5_undo_25 rfl hl (by decide) rfl (fun ls hl => ?_)
    exact L26 bf_fuel 0 T_16 _ _ _ hf hd (lv_sub hl [1, 0] rfl)
  · have hf := bf_it hf c_15
    refine lv_iconst (v := 0) hx hb dX5_undo_12 (by decide) ?_
    exact kret _ _ _ _ _ _ ⟨(bf_pr hf).1, congrArg (bf_pT G σ o) (bf_pr hf).2⟩ (Or.inl rfl) hd dX5_undo_13
def fX5_thinks_27 (T27 : bf_TS) : Option (bf_TS) := bf_l (bf_u2 T27 5 0 1) fun T_6 => bf_l (bf_u2 T_6 42 0 0) fun T_7 => bf_l (bf_u2 T_7 44 0 (-1)) fun T_8 => bf_l (bf_u2 T_8 45 0 (-1)) fun T_9 => some T_9
def fX5_thinks_2b (k2 : Int32 → bf_TS → Option (bf_TS)) (v2_1 : Int32) (T2 : bf_TS) : Option (bf_TS) := if 136 ≤ v2_1 then (fX5_thinks_27 T2) else (bf_c (bf_in v2_1 136) <| bf_c (bf_in v2_1 136) <| bf_l (bf_u2 T2 4 (v2_1).toNatClampNeg (T2 1 (v2_1).toNatClampNeg)) fun T_4 => bf_l (v2_1 + 1) fun x1_5 => k2 x1_5 T_4)
def fX5_thinks_2  : Nat → Int32 → bf_TS → Option (bf_TS)
  | 0, _, _ => none
  | n + 1, v2_1, T2 => fX5_thinks_2b (fX5_thinks_2 n) v2_1 T2
def fX5_thinks (T : bf_TS) : Option (bf_TS) := fX5_thinks_2 bf_fuel 0 T
set_option maxHeartbeats 4000000 in
theorem mX5_thinks (l : Launch) (G : bf_G) (σ : bf_V) (o : Nat) (T : bf_TS) {T' : bf_TS} (hf : fX5_thinks T = some T') : bf_MV l G yX5_thinks cX5_thinks 2 (bf_rm 0) [.ref o] (bf_pT G σ o T) (fun σ' => σ' = bf_pT G σ o T') := by
  refine bf_MV.of rfl (Nat.le_of_ble_eq_true rfl) ?_
  intro p e s m below meth c Q X hlk hnm kret hd ls hl
  have hx := X.1
  have hb := X.2.1
  have hown := X.2.2.2.1
  have hts := X.2.2.2.2
  have hl : lv_has ls 2 [(0, .ref o)] := hl
  have J27 : ∀ (T27 : bf_TS) (H : Heap) (locs : List Loc) (ls : Array Slot), fX5_thinks_27 T27 = some T' → bf_Dy G s H locs (bf_pT G σ o T27) → lv_has ls 2 [(0, .ref o)] → W p l e (bf_rm 0) s m ([.ref o] : List Value).toArray below meth c H locs 0 0 Q (F0 m 27 ls []) := by
    intro T27 H locs ls hf hd hl
    unfold fX5_thinks_27 at hf
    refine lv_aload_n hx hb dX5_thinks_27 rfl (lv_at hl 0 rfl) ?_
    refine lv_iconst (v := 1) hx hb dX5_thinks_28 (by decide) ?_
    refine bf_tpz X hd 5 (by decide) ⟨rfl, rfl, rfl⟩ q1388 (Or.inr rfl) dX5_thinks_29 (fun H locs hd => ?_)
    obtain ⟨T_10, eT_10, hf⟩ := bf_l_e hf
    have hd := hd.of (congrArg (bf_pT G σ o) eT_10.symm)
    refine lv_aload_n hx hb dX5_thinks_32 rfl (lv_at hl 0 rfl) ?_
    refine lv_iconst (v := 0) hx hb dX5_thinks_33 (by decide) ?_
    refine bf_tpi X hd 42 (by decide) ⟨rfl, rfl, rfl⟩ q1425 dX5_thinks_34 (fun H locs hd => ?_)
    obtain ⟨T_11, eT_11, hf⟩ := bf_l_e hf
    have hd := hd.of (congrArg (bf_pT G σ o) eT_11.symm)
    refine lv_aload_n hx hb dX5_thinks_37 rfl (lv_at hl 0 rfl) ?_
    refine lv_iconst (v := (-1)) hx hb dX5_thinks_38 (by decide) ?_
    refine bf_tpi X hd 44 (by decide) ⟨rfl, rfl, rfl⟩ q1427 dX5_thinks_39 (fun H locs hd => ?_)
    obtain ⟨T_12, eT_12, hf⟩ := bf_l_e hf
    have hd := hd.of (congrArg (bf_pT G σ o) eT_12.symm)
    refine lv_aload_n hx hb dX5_thinks_42 rfl (lv_at hl 0 rfl) ?_
    refine lv_iconst (v := (-1)) hx hb dX5_thinks_43 (by decide) ?_
    refine bf_tpi X hd 45 (by decide) ⟨rfl, rfl, rfl⟩ q1428 dX5_thinks_44 (fun H locs hd => ?_)
    obtain ⟨T_13, eT_13, hf⟩ := bf_l_e hf
    have hd := hd.of (congrArg (bf_pT G σ o) eT_13.symm)
    exact kret _ _ _ _ _ (congrArg (bf_pT G σ o) (bf_so hf)) hd dX5_thinks_47
  have L2 : ∀ (n2 : Nat) (v2_1 : Int32) (T2 : bf_TS) (H : Heap) (locs : List Loc) (ls : Array Slot), fX5_thinks_2 n2 v2_1 T2 = some T' → bf_Dy G s H locs (bf_pT G σ o T2) → lv_has ls 2 [(0, .ref o), (1, .int v2_1)] → W p l e (bf_rm 0) s m ([.ref o] : List Value).toArray below meth c H locs 0 0 Q (F0 m 2 ls []) := by
    intro n2
    induction n2 with
    | zero =>
      intro v2_1 T2 H locs ls hf hd hl
      exact absurd (show (none : Option (bf_TS)) = some T' from hf) (by intro h; cases h)
    | succ n2 ih2 =>
      intro v2_1 T2 H locs ls hf hd hl
      have hf : fX5_thinks_2b (fX5_thinks_2 n2) v2_1 T2 = some T' := hf
      unfold fX5_thinks_2b at hf
      refine lv_iload_n hx hb dX5_thinks_2 rfl (lv_at hl 1 rfl) ?_
      refine lv_sipush (v := 136) hx hb dX5_thinks_3 (by decide) ?_
      refine lv_icmp_ge (tgt := 27) hx hb dX5_thinks_6 (by decide) (fun c_14 => ?_) (fun c_14 => ?_)
      · have hf := bf_it hf c_14
        exact J27 T2 _ _ _ hf hd (lv_sub hl [0] rfl)
      · have hf := bf_ie hf c_14
        refine lv_aload_n hx hb dX5_thinks_9 rfl (lv_at hl 0 rfl) ?_
        refine bf_tga X hd 4 (by decide) (by decide) q1387 dX5_thinks_10 ?_
        refine lv_iload_n hx hb dX5_thinks_13 rfl (lv_at hl 1 rfl) ?_
        refine lv_aload_n hx hb dX5_thinks_14 rfl (lv_at hl 0 rfl) ?_
        refine bf_tga X hd 1 (by decide) (by decide) q1384 dX5_thinks_15 ?_
        refine lv_iload_n hx hb dX5_thinks_18 rfl (lv_at hl 1 rfl) ?_
        obtain ⟨g_15, hf⟩ := bf_c_some hf
        refine bf_tld X hd 1 (by decide) g_15 dX5_thinks_19 ?_
        obtain ⟨g_16, hf⟩ := bf_c_some hf
        refine bf_tst X hd 4 (by decide) g_16 dX5_thinks_20 (fun H locs hd => ?_)
        obtain ⟨T_17, eT_17, hf⟩ := bf_l_e hf
        have hd := hd.of (congrArg (bf_pT G σ o) eT_17.symm)
        obtain ⟨x1_18, ex1_18, hf⟩ := bf_l_e hf
        refine lv_iinc (v := x1_18) (lv' := [(1, .int x1_18), (0, .ref o)]) hx hb dX5_thinks_21 hl (k := 1) rfl (by rw [ex1_18]; rfl) (by decide) rfl (fun ls hl => ?_)
        refine lv_goto (tgt := 2) hx hb dX5_thinks_24 (by decide) ?_
        exact ih2 x1_18 T_17 _ _ _ hf hd (lv_sub hl [1, 0] rfl)
  unfold fX5_thinks at hf
  refine lv_iconst (v := 0) hx hb dX5_thinks_0 (by decide) ?_
  refine lv_istore_n (lv' := [(1, .int 0), (0, .ref o)]) hx hb dX5_thinks_1 rfl hl (by decide) rfl (fun ls hl => ?_)
  exact L2 bf_fuel 0 T _ _ _ hf hd (lv_sub hl [1, 0] rfl)
def fX5_thinksAnew_2b (k2 : Int32 → bf_TS → Option (bf_TS)) (v2_1 : Int32) (T2 : bf_TS) : Option (bf_TS) := if 136 ≤ v2_1 then (some T2) else (bf_c (bf_in v2_1 136) <| bf_c (bf_in v2_1 136) <| bf_l (bf_u2 T2 1 (v2_1).toNatClampNeg (T2 4 (v2_1).toNatClampNeg)) fun T_4 => bf_l (v2_1 + 1) fun x1_5 => k2 x1_5 T_4)
def fX5_thinksAnew_2  : Nat → Int32 → bf_TS → Option (bf_TS)
  | 0, _, _ => none
  | n + 1, v2_1, T2 => fX5_thinksAnew_2b (fX5_thinksAnew_2 n) v2_1 T2
def fX5_thinksAnew (T : bf_TS) : Option (bf_TS) := fX5_thinksAnew_2 bf_fuel 0 T
set_option maxHeartbeats 4000000 in
theorem mX5_thinksAnew (l : Launch) (G : bf_G) (σ : bf_V) (o : Nat) (T : bf_TS) {T' : bf_TS} (hf : fX5_thinksAnew T = some T') : bf_MV l G yX5_thinksAnew cX5_thinksAnew 2 (bf_rm 0) [.ref o] (bf_pT G σ o T) (fun σ' => σ' = bf_pT G σ o T') := by
  refine bf_MV.of rfl (Nat.le_of_ble_eq_true rfl) ?_
  intro p e s m below meth c Q X hlk hnm kret hd ls hl
  have hx := X.1
  have hb := X.2.1
  have hown := X.2.2.2.1
  have hts := X.2.2.2.2
  have hl : lv_has ls 2 [(0, .ref o)] := hl
  have L2 : ∀ (n2 : Nat) (v2_1 : Int32) (T2 : bf_TS) (H : Heap) (locs : List Loc) (ls : Array Slot), fX5_thinksAnew_2 n2 v2_1 T2 = some T' → bf_Dy G s H locs (bf_pT G σ o T2) → lv_has ls 2 [(0, .ref o), (1, .int v2_1)] → W p l e (bf_rm 0) s m ([.ref o] : List Value).toArray below meth c H locs 0 0 Q (F0 m 2 ls []) := by
    intro n2
    induction n2 with
    | zero =>
      intro v2_1 T2 H locs ls hf hd hl
      exact absurd (show (none : Option (bf_TS)) = some T' from hf) (by intro h; cases h)
    | succ n2 ih2 =>
      intro v2_1 T2 H locs ls hf hd hl
      have hf : fX5_thinksAnew_2b (fX5_thinksAnew_2 n2) v2_1 T2 = some T' := hf
      unfold fX5_thinksAnew_2b at hf
      refine lv_iload_n hx hb dX5_thinksAnew_2 rfl (lv_at hl 1 rfl) ?_
      refine lv_sipush (v := 136) hx hb dX5_thinksAnew_3 (by decide) ?_
      refine lv_icmp_ge (tgt := 27) hx hb dX5_thinksAnew_6 (by decide) (fun c_6 => ?_) (fun c_6 => ?_)
      · have hf := bf_it hf c_6
        exact kret _ _ _ _ _ (congrArg (bf_pT G σ o) (bf_so hf)) hd dX5_thinksAnew_27
      · have hf := bf_ie hf c_6
        refine lv_aload_n hx hb dX5_thinksAnew_9 rfl (lv_at hl 0 rfl) ?_
        refine bf_tga X hd 1 (by decide) (by decide) q1384 dX5_thinksAnew_10 ?_
        refine lv_iload_n hx hb dX5_thinksAnew_13 rfl (lv_at hl 1 rfl) ?_
        refine lv_aload_n hx hb dX5_thinksAnew_14 rfl (lv_at hl 0 rfl) ?_
        refine bf_tga X hd 4 (by decide) (by decide) q1387 dX5_thinksAnew_15 ?_
        refine lv_iload_n hx hb dX5_thinksAnew_18 rfl (lv_at hl 1 rfl) ?_
        obtain ⟨g_7, hf⟩ := bf_c_some hf
        refine bf_tld X hd 4 (by decide) g_7 dX5_thinksAnew_19 ?_
        obtain ⟨g_8, hf⟩ := bf_c_some hf
        refine bf_tst X hd 1 (by decide) g_8 dX5_thinksAnew_20 (fun H locs hd => ?_)
        obtain ⟨T_9, eT_9, hf⟩ := bf_l_e hf
        have hd := hd.of (congrArg (bf_pT G σ o) eT_9.symm)
        obtain ⟨x1_10, ex1_10, hf⟩ := bf_l_e hf
        refine lv_iinc (v := x1_10) (lv' := [(1, .int x1_10), (0, .ref o)]) hx hb dX5_thinksAnew_21 hl (k := 1) rfl (by rw [ex1_10]; rfl) (by decide) rfl (fun ls hl => ?_)
        refine lv_goto (tgt := 2) hx hb dX5_thinksAnew_24 (by decide) ?_
        exact ih2 x1_10 T_9 _ _ _ hf hd (lv_sub hl [1, 0] rfl)
  unfold fX5_thinksAnew at hf
  refine lv_iconst (v := 0) hx hb dX5_thinksAnew_0 (by decide) ?_
  refine lv_istore_n (lv' := [(1, .int 0), (0, .ref o)]) hx hb dX5_thinksAnew_1 rfl hl (by decide) rfl (fun ls hl => ?_)
  exact L2 bf_fuel 0 T _ _ _ hf hd (lv_sub hl [1, 0] rfl)
def fX5_endsThought (T : bf_TS) : Option (bf_TS) := bf_b (fX5_thinksAnew T) fun T_1 => bf_l (bf_u2 T_1 5 0 0) fun T_2 => some T_2
set_option maxHeartbeats 4000000 in
theorem mX5_endsThought (l : Launch) (G : bf_G) (σ : bf_V) (o : Nat) (T : bf_TS) {T' : bf_TS} (hf : fX5_endsThought T = some T') : bf_MV l G yX5_endsThought cX5_endsThought 1 (bf_rm 1) [.ref o] (bf_pT G σ o T) (fun σ' => σ' = bf_pT G σ o T') := by
  refine bf_MV.of rfl (Nat.le_of_ble_eq_true rfl) ?_
  intro p e s m below meth c Q X hlk hnm kret hd ls hl
  have hx := X.1
  have hb := X.2.1
  have hown := X.2.2.2.1
  have hts := X.2.2.2.2
  have hl : lv_has ls 1 [(0, .ref o)] := hl
  unfold fX5_endsThought at hf
  refine lv_aload_n hx hb dX5_endsThought_0 rfl (lv_at hl 0 rfl) ?_
  obtain ⟨T_3, eT_3, hf⟩ := bf_b_some hf
  refine bf_tcv (n := 0) (As := []) (rest := []) X hd (mX5_thinksAnew l G σ o T eT_3) (lw_V q1946 q1948 qs134 q156 q1949) (by decide +kernel) ⟨Nat.le_of_ble_eq_true rfl, Nat.le_of_ble_eq_true rfl⟩ rfl hl.1 rfl (Nat.le_of_ble_eq_true rfl) dX5_endsThought_1 ⟨Nat.le_of_ble_eq_true rfl, Nat.le_of_ble_eq_true rfl⟩ (fun H locs hd => ?_)
  refine lv_aload_n hx hb dX5_endsThought_4 rfl (lv_at hl 0 rfl) ?_
  refine lv_iconst (v := 0) hx hb dX5_endsThought_5 (by decide) ?_
  refine bf_tpz X hd 5 (by decide) ⟨rfl, rfl, rfl⟩ q1388 (Or.inl rfl) dX5_endsThought_6 (fun H locs hd => ?_)
  obtain ⟨T_4, eT_4, hf⟩ := bf_l_e hf
  have hd := hd.of (congrArg (bf_pT G σ o) eT_4.symm)
  exact kret _ _ _ _ _ (congrArg (bf_pT G σ o) (bf_so hf)) hd dX5_endsThought_9
def fX5_state (T : bf_TS) (x1 : Int32) : Option (Int32 × bf_TS) := bf_l (bf_u2 T 0 0 0) fun T_1 => bf_l ((T_1 1 1)) fun x2_2 => bf_l (bf_u2 T_1 1 1 x1) fun T_3 => bf_l (bf_u2 T_3 3 0 0) fun T_4 => some (x2_2, T_4)
set_option maxHeartbeats 4000000 in
theorem mX5_state (l : Launch) (G : bf_G) (σ : bf_V) (o : Nat) (T : bf_TS) (x1 : Int32) {r : Int32} {T' : bf_TS} (hf : fX5_state T x1 = some (r, T')) : bf_MI l G yX5_state cX5_state 3 (bf_rm 0) [.ref o, .int x1] (bf_pT G σ o T) (fun v σ' => v = r ∧ σ' = bf_pT G σ o T') := by
  refine bf_MI.of rfl (Nat.le_of_ble_eq_true rfl) ?_
  intro p e s m below meth c Q X hlk hnm kret hd ls hl
  have hx := X.1
  have hb := X.2.1
  have hown := X.2.2.2.1
  have hts := X.2.2.2.2
  have hl : lv_has ls 3 [(0, .ref o), (1, .int x1)] := hl
  unfold fX5_state at hf
  refine lv_aload_n hx hb dX5_state_0 rfl (lv_at hl 0 rfl) ?_
  refine lv_iconst (v := 0) hx hb dX5_state_1 (by decide) ?_
  refine bf_tpi X hd 0 (by decide) ⟨rfl, rfl, rfl⟩ q1383 dX5_state_2 (fun H locs hd => ?_)
  obtain ⟨T_5, eT_5, hf⟩ := bf_l_e hf
  have hd := hd.of (congrArg (bf_pT G σ o) eT_5.symm)
  refine lv_aload_n hx hb dX5_state_5 rfl (lv_at hl 0 rfl) ?_
  refine bf_tga X hd 1 (by decide) (by decide) q1384 dX5_state_6 ?_
  refine lv_iconst (v := 1) hx hb dX5_state_9 (by decide) ?_
  refine bf_tld X hd 1 (by decide) (by decide) dX5_state_10 ?_
  obtain ⟨x2_6, ex2_6, hf⟩ := bf_l_e hf
  refine bf_top ex2_6 ?_
  refine lv_istore_n (lv' := [(2, .int x2_6), (0, .ref o), (1, .int x1)]) hx hb dX5_state_11 rfl hl (by decide) rfl (fun ls hl => ?_)
  refine lv_aload_n hx hb dX5_state_12 rfl (lv_at hl 1 rfl) ?_
  refine bf_tga X hd 1 (by decide) (by decide) q1384 dX5_state_13 ?_
  refine lv_iconst (v := 1) hx hb dX5_state_16 (by decide) ?_
  refine lv_iload_n hx hb dX5_state_17 rfl (lv_at hl 2 rfl) ?_
  refine bf_tst X hd 1 (by decide) (by decide) dX5_state_18 (fun H locs hd => ?_)
  obtain ⟨T_7, eT_7, hf⟩ := bf_l_e hf
  have hd := hd.of (congrArg (bf_pT G σ o) eT_7.symm)
  refine lv_aload_n hx hb dX5_state_19 rfl (lv_at hl 1 rfl) ?_
  refine lv_iconst (v := 0) hx hb dX5_state_20 (by decide) ?_
  refine bf_tpi X hd 3 (by decide) ⟨rfl, rfl, rfl⟩ q1386 dX5_state_21 (fun H locs hd => ?_)
  obtain ⟨T_8, eT_8, hf⟩ := bf_l_e hf
  have hd := hd.of (congrArg (bf_pT G σ o) eT_8.symm)
  refine lv_iload_n hx hb dX5_state_24 rfl (lv_at hl 0 rfl) ?_
  exact kret _ _ _ _ _ _ ⟨(bf_pr hf).1, congrArg (bf_pT G σ o) (bf_pr hf).2⟩ hd dX5_state_25
def fX5_draw (T : bf_TS) (x1 : Int32) : Option (Int32 × bf_TS) := bf_l (bf_u2 T 1 1 ((1664525 * (T 1 1)) + 1013904223)) fun T_1 => bf_c (bf_nz x1) <| some (((((T_1 1 1).toUInt32 >>> (Int32.toUInt32 8 &&& Int32.toUInt32 31)).toInt32) - (((T_1 1 1).toUInt32 >>> (Int32.toUInt32 8 &&& Int32.toUInt32 31)).toInt32) / x1 * x1), T_1)
set_option maxHeartbeats 4000000 in
theorem mX5_draw (l : Launch) (G : bf_G) (σ : bf_V) (o : Nat) (T : bf_TS) (x1 : Int32) {r : Int32} {T' : bf_TS} (hf : fX5_draw T x1 = some (r, T')) : bf_MI l G yX5_draw cX5_draw 2 (bf_rm 0) [.ref o, .int x1] (bf_pT G σ o T) (fun v σ' => v = r ∧ σ' = bf_pT G σ o T') := by
  refine bf_MI.of rfl (Nat.le_of_ble_eq_true rfl) ?_
  intro p e s m below meth c Q X hlk hnm kret hd ls hl
  have hx := X.1
  have hb := X.2.1
  have hown := X.2.2.2.1
  have hts := X.2.2.2.2
  have hl : lv_has ls 2 [(0, .ref o), (1, .int x1)] := hl
  unfold fX5_draw at hf
  refine lv_aload_n hx hb dX5_draw_0 rfl (lv_at hl 0 rfl) ?_
  refine bf_tga X hd 1 (by decide) (by decide) q1384 dX5_draw_1 ?_
  refine lv_iconst (v := 1) hx hb dX5_draw_4 (by decide) ?_
  refine lv_ldc (v := 1664525) hx hb hown (hts _ q1872) dX5_draw_5 ?_
  refine lv_aload_n hx hb dX5_draw_7 rfl (lv_at hl 0 rfl) ?_
  refine bf_tga X hd 1 (by decide) (by decide) q1384 dX5_draw_8 ?_
  refine lv_iconst (v := 1) hx hb dX5_draw_11 (by decide) ?_
  refine bf_tld X hd 1 (by decide) (by decide) dX5_draw_12 ?_
  refine lv_imul hx hb dX5_draw_13 ?_
  refine lv_ldc (v := 1013904223) hx hb hown (hts _ q1873) dX5_draw_14 ?_
  refine lv_iadd hx hb dX5_draw_16 ?_
  refine bf_tst X hd 1 (by decide) (by decide) dX5_draw_17 (fun H locs hd => ?_)
  obtain ⟨T_3, eT_3, hf⟩ := bf_l_e hf
  have hd := hd.of (congrArg (bf_pT G σ o) eT_3.symm)
  refine lv_aload_n hx hb dX5_draw_18 rfl (lv_at hl 0 rfl) ?_
  refine bf_tga X hd 1 (by decide) (by decide) q1384 dX5_draw_19 ?_
  refine lv_iconst (v := 1) hx hb dX5_draw_22 (by decide) ?_
  refine bf_tld X hd 1 (by decide) (by decide) dX5_draw_23 ?_
  refine lv_bipush (v := 8) hx hb dX5_draw_24 (by decide) ?_
  refine lv_iushr (v := ((T_3 1 1).toUInt32 >>> (Int32.toUInt32 8 &&& Int32.toUInt32 31)).toInt32) hx hb dX5_draw_26 rfl ?_
  refine lv_iload_n hx hb dX5_draw_27 rfl (lv_at hl 1 rfl) ?_
  obtain ⟨g_4, hf⟩ := bf_c_some hf
  refine lv_irem hx hb dX5_draw_28 (bf_nz_t g_4) ?_
  exact kret _ _ _ _ _ _ ⟨(bf_pr hf).1, congrArg (bf_pT G σ o) (bf_pr hf).2⟩ hd dX5_draw_29
def fX5_chairs (T : bf_TS) : Int32 := ((T 10 0) + 9)
set_option maxHeartbeats 4000000 in
theorem mX5_chairs (l : Launch) (G : bf_G) (σ : bf_V) (o : Nat) (T : bf_TS) {r : Int32} (hf : fX5_chairs T = r) : bf_MI l G yX5_chairs cX5_chairs 1 (bf_rm 0) [.ref o] (bf_pT G σ o T) (fun v σ' => v = r ∧ σ' = bf_pT G σ o T) := by
  refine bf_MI.of rfl (Nat.le_of_ble_eq_true rfl) ?_
  intro p e s m below meth c Q X hlk hnm kret hd ls hl
  have hx := X.1
  have hb := X.2.1
  have hown := X.2.2.2.1
  have hts := X.2.2.2.2
  have hl : lv_has ls 1 [(0, .ref o)] := hl
  unfold fX5_chairs at hf
  refine lv_aload_n hx hb dX5_chairs_0 rfl (lv_at hl 0 rfl) ?_
  refine bf_tgi X hd 10 (by decide) rfl q1393 dX5_chairs_1 ?_
  refine lv_bipush (v := 9) hx hb dX5_chairs_4 (by decide) ?_
  refine lv_iadd hx hb dX5_chairs_6 ?_
  exact kret _ _ _ _ _ _ ⟨hf, rfl⟩ hd dX5_chairs_7
def fX5_every (T : bf_TS) : Int32 := ((T 11 0) + 4)
set_option maxHeartbeats 4000000 in
theorem mX5_every (l : Launch) (G : bf_G) (σ : bf_V) (o : Nat) (T : bf_TS) {r : Int32} (hf : fX5_every T = r) : bf_MI l G yX5_every cX5_every 1 (bf_rm 0) [.ref o] (bf_pT G σ o T) (fun v σ' => v = r ∧ σ' = bf_pT G σ o T) := by
  refine bf_MI.of rfl (Nat.le_of_ble_eq_true rfl) ?_
  intro p e s m below meth c Q X hlk hnm kret hd ls hl
  have hx := X.1
  have hb := X.2.1
  have hown := X.2.2.2.1
  have hts := X.2.2.2.2
  have hl : lv_has ls 1 [(0, .ref o)] := hl
  unfold fX5_every at hf
  refine lv_aload_n hx hb dX5_every_0 rfl (lv_at hl 0 rfl) ?_
  refine bf_tgi X hd 11 (by decide) rfl q1394 dX5_every_1 ?_
  refine lv_iconst (v := 4) hx hb dX5_every_4 (by decide) ?_
  refine lv_iadd hx hb dX5_every_5 ?_
  exact kret _ _ _ _ _ _ ⟨hf, rfl⟩ hd dX5_every_6
def fX5_isParty (T : bf_TS) (x1 : Int32) : Int32 := if x1 < 0 then (0) else (if (T 6 0) ≤ x1 then (0) else (1))
set_option maxHeartbeats 4000000 in
theorem mX5_isParty (l : Launch) (G : bf_G) (σ : bf_V) (o : Nat) (T : bf_TS) (x1 : Int32) {r : Int32} (hf : fX5_isParty T x1 = r) : bf_MZ l G yX5_isParty cX5_isParty 2 (bf_rm 0) [.ref o, .int x1] (bf_pT G σ o T) (fun v σ' => v = r ∧ σ' = bf_pT G σ o T) := by
  refine bf_MZ.of rfl (Nat.le_of_ble_eq_true rfl) ?_
  intro p e s m below meth c Q X hlk hnm kret hd ls hl
  have hx := X.1
  have hb := X.2.1
  have hown := X.2.2.2.1
  have hts := X.2.2.2.2
  have hl : lv_has ls 2 [(0, .ref o), (1, .int x1)] := hl
  unfold fX5_isParty at hf
  refine lv_iload_n hx hb dX5_isParty_0 rfl (lv_at hl 1 rfl) ?_
  refine lv_if_lt (tgt := 16) hx hb dX5_isParty_1 (by decide) (fun c_3 => ?_) (fun c_3 => ?_)
  · have hf := bf_it hf c_3
    refine lv_iconst (v := 0) hx hb dX5_isParty_16 (by decide) ?_
    exact kret _ _ _ _ _ _ ⟨hf, rfl⟩ (Or.inl rfl) hd dX5_isParty_17
  · have hf := bf_ie hf c_3
    refine lv_iload_n hx hb dX5_isParty_4 rfl (lv_at hl 1 rfl) ?_
    refine lv_aload_n hx hb dX5_isParty_5 rfl (lv_at hl 0 rfl) ?_
    refine bf_tgi X hd 6 (by decide) rfl q1389 dX5_isParty_6 ?_
    refine lv_icmp_ge (tgt := 16) hx hb dX5_isParty_9 (by decide) (fun c_4 => ?_) (fun c_4 => ?_)
    · have hf := bf_it hf c_4
      refine lv_iconst (v := 0) hx hb dX5_isParty_16 (by decide) ?_
      exact kret _ _ _ _ _ _ ⟨hf, rfl⟩ (Or.inl rfl) hd dX5_isParty_17
    · have hf := bf_ie hf c_4
      refine lv_iconst (v := 1) hx hb dX5_isParty_12 (by decide) ?_
      refine lv_goto (tgt := 17) hx hb dX5_isParty_13 (by decide) ?_
      exact kret _ _ _ _ _ _ ⟨hf, rfl⟩ (Or.inr rfl) hd dX5_isParty_17
def fX5_isEater (T : bf_TS) (x1 : Int32) : Int32 := if x1 < 0 then (0) else (if (T 7 0) ≤ x1 then (0) else (1))
set_option maxHeartbeats 4000000 in
theorem mX5_isEater (l : Launch) (G : bf_G) (σ : bf_V) (o : Nat) (T : bf_TS) (x1 : Int32) {r : Int32} (hf : fX5_isEater T x1 = r) : bf_MZ l G yX5_isEater cX5_isEater 2 (bf_rm 0) [.ref o, .int x1] (bf_pT G σ o T) (fun v σ' => v = r ∧ σ' = bf_pT G σ o T) := by
  refine bf_MZ.of rfl (Nat.le_of_ble_eq_true rfl) ?_
  intro p e s m below meth c Q X hlk hnm kret hd ls hl
  have hx := X.1
  have hb := X.2.1
  have hown := X.2.2.2.1
  have hts := X.2.2.2.2
  have hl : lv_has ls 2 [(0, .ref o), (1, .int x1)] := hl
  unfold fX5_isEater at hf
  refine lv_iload_n hx hb dX5_isEater_0 rfl (lv_at hl 1 rfl) ?_
  refine lv_if_lt (tgt := 16) hx hb dX5_isEater_1 (by decide) (fun c_3 => ?_) (fun c_3 => ?_)
  · have hf := bf_it hf c_3
    refine lv_iconst (v := 0) hx hb dX5_isEater_16 (by decide) ?_
    exact kret _ _ _ _ _ _ ⟨hf, rfl⟩ (Or.inl rfl) hd dX5_isEater_17
  · have hf := bf_ie hf c_3
    refine lv_iload_n hx hb dX5_isEater_4 rfl (lv_at hl 1 rfl) ?_
    refine lv_aload_n hx hb dX5_isEater_5 rfl (lv_at hl 0 rfl) ?_
    refine bf_tgi X hd 7 (by decide) rfl q1390 dX5_isEater_6 ?_
    refine lv_icmp_ge (tgt := 16) hx hb dX5_isEater_9 (by decide) (fun c_4 => ?_) (fun c_4 => ?_)
    · have hf := bf_it hf c_4
      refine lv_iconst (v := 0) hx hb dX5_isEater_16 (by decide) ?_
      exact kret _ _ _ _ _ _ ⟨hf, rfl⟩ (Or.inl rfl) hd dX5_isEater_17
    · have hf := bf_ie hf c_4
      refine lv_iconst (v := 1) hx hb dX5_isEater_12 (by decide) ?_
      refine lv_goto (tgt := 17) hx hb dX5_isEater_13 (by decide) ?_
      exact kret _ _ _ _ _ _ ⟨hf, rfl⟩ (Or.inr rfl) hd dX5_isEater_17
def fX5_isPlace (x1 : Int32) : Int32 := if x1 < 0 then (0) else (if 10 ≤ x1 then (0) else (1))
set_option maxHeartbeats 4000000 in
theorem mX5_isPlace (l : Launch) (G : bf_G) (σ : bf_V) (o : Nat) (T : bf_TS) (x1 : Int32) {r : Int32} (hf : fX5_isPlace x1 = r) : bf_MZ l G yX5_isPlace cX5_isPlace 2 (bf_rm 0) [.ref o, .int x1] (bf_pT G σ o T) (fun v σ' => v = r ∧ σ' = bf_pT G σ o T) := by
  refine bf_MZ.of rfl (Nat.le_of_ble_eq_true rfl) ?_
  intro p e s m below meth c Q X hlk hnm kret hd ls hl
  have hx := X.1
  have hb := X.2.1
  have hown := X.2.2.2.1
  have hts := X.2.2.2.2
  have hl : lv_has ls 2 [(0, .ref o), (1, .int x1)] := hl
  unfold fX5_isPlace at hf
  refine lv_iload_n hx hb dX5_isPlace_0 rfl (lv_at hl 1 rfl) ?_
  refine lv_if_lt (tgt := 14) hx hb dX5_isPlace_1 (by decide) (fun c_3 => ?_) (fun c_3 => ?_)
  · have hf := bf_it hf c_3
    refine lv_iconst (v := 0) hx hb dX5_isPlace_14 (by decide) ?_
    exact kret _ _ _ _ _ _ ⟨hf, rfl⟩ (Or.inl rfl) hd dX5_isPlace_15
  · have hf := bf_ie hf c_3
    refine lv_iload_n hx hb dX5_isPlace_4 rfl (lv_at hl 1 rfl) ?_
    refine lv_bipush (v := 10) hx hb dX5_isPlace_5 (by decide) ?_
    refine lv_icmp_ge (tgt := 14) hx hb dX5_isPlace_7 (by decide) (fun c_4 => ?_) (fun c_4 => ?_)
    · have hf := bf_it hf c_4
      refine lv_iconst (v := 0) hx hb dX5_isPlace_14 (by decide) ?_
      exact kret _ _ _ _ _ _ ⟨hf, rfl⟩ (Or.inl rfl) hd dX5_isPlace_15
    · have hf := bf_ie hf c_4
      refine lv_iconst (v := 1) hx hb dX5_isPlace_10 (by decide) ?_
      refine lv_goto (tgt := 15) hx hb dX5_isPlace_11 (by decide) ?_
      exact kret _ _ _ _ _ _ ⟨hf, rfl⟩ (Or.inr rfl) hd dX5_isPlace_15
def fX5_isTree (T : bf_TS) (x1 : Int32) : Int32 := if x1 < 0 then (0) else (if (T 1 4) ≤ x1 then (0) else (1))
set_option maxHeartbeats 4000000 in
theorem mX5_isTree (l : Launch) (G : bf_G) (σ : bf_V) (o : Nat) (T : bf_TS) (x1 : Int32) {r : Int32} (hf : fX5_isTree T x1 = r) : bf_MZ l G yX5_isTree cX5_isTree 2 (bf_rm 0) [.ref o, .int x1] (bf_pT G σ o T) (fun v σ' => v = r ∧ σ' = bf_pT G σ o T) := by
  refine bf_MZ.of rfl (Nat.le_of_ble_eq_true rfl) ?_
  intro p e s m below meth c Q X hlk hnm kret hd ls hl
  have hx := X.1
  have hb := X.2.1
  have hown := X.2.2.2.1
  have hts := X.2.2.2.2
  have hl : lv_has ls 2 [(0, .ref o), (1, .int x1)] := hl
  unfold fX5_isTree at hf
  refine lv_iload_n hx hb dX5_isTree_0 rfl (lv_at hl 1 rfl) ?_
  refine lv_if_lt (tgt := 18) hx hb dX5_isTree_1 (by decide) (fun c_3 => ?_) (fun c_3 => ?_)
  · have hf := bf_it hf c_3
    refine lv_iconst (v := 0) hx hb dX5_isTree_18 (by decide) ?_
    exact kret _ _ _ _ _ _ ⟨hf, rfl⟩ (Or.inl rfl) hd dX5_isTree_19
  · have hf := bf_ie hf c_3
    refine lv_iload_n hx hb dX5_isTree_4 rfl (lv_at hl 1 rfl) ?_
    refine lv_aload_n hx hb dX5_isTree_5 rfl (lv_at hl 0 rfl) ?_
    refine bf_tga X hd 1 (by decide) (by decide) q1384 dX5_isTree_6 ?_
    refine lv_iconst (v := 4) hx hb dX5_isTree_9 (by decide) ?_
    refine bf_tld X hd 1 (by decide) (by decide) dX5_isTree_10 ?_
    refine lv_icmp_ge (tgt := 18) hx hb dX5_isTree_11 (by decide) (fun c_4 => ?_) (fun c_4 => ?_)
    · have hf := bf_it hf c_4
      refine lv_iconst (v := 0) hx hb dX5_isTree_18 (by decide) ?_
      exact kret _ _ _ _ _ _ ⟨hf, rfl⟩ (Or.inl rfl) hd dX5_isTree_19
    · have hf := bf_ie hf c_4
      refine lv_iconst (v := 1) hx hb dX5_isTree_14 (by decide) ?_
      refine lv_goto (tgt := 19) hx hb dX5_isTree_15 (by decide) ?_
      exact kret _ _ _ _ _ _ ⟨hf, rfl⟩ (Or.inr rfl) hd dX5_isTree_19
def fX5_tasteOf (T : bf_TS) (x1 x2 : Int32) : Option (Int32) := bf_c (bf_in ((86 + (5 * x1)) + x2) 136) <| some ((T 1 ((86 + (5 * x1)) + x2).toNatClampNeg) + 5)
set_option maxHeartbeats 4000000 in
theorem mX5_tasteOf (l : Launch) (G : bf_G) (σ : bf_V) (o : Nat) (T : bf_TS) (x1 x2 : Int32) {r : Int32} (hf : fX5_tasteOf T x1 x2 = some r) : bf_MI l G yX5_tasteOf cX5_tasteOf 3 (bf_rm 0) [.ref o, .int x1, .int x2] (bf_pT G σ o T) (fun v σ' => v = r ∧ σ' = bf_pT G σ o T) := by
  refine bf_MI.of rfl (Nat.le_of_ble_eq_true rfl) ?_
  intro p e s m below meth c Q X hlk hnm kret hd ls hl
  have hx := X.1
  have hb := X.2.1
  have hown := X.2.2.2.1
  have hts := X.2.2.2.2
  have hl : lv_has ls 3 [(0, .ref o), (1, .int x1), (2, .int x2)] := hl
  unfold fX5_tasteOf at hf
  refine lv_aload_n hx hb dX5_tasteOf_0 rfl (lv_at hl 0 rfl) ?_
  refine bf_tga X hd 1 (by decide) (by decide) q1384 dX5_tasteOf_1 ?_
  refine lv_bipush (v := 86) hx hb dX5_tasteOf_4 (by decide) ?_
  refine lv_iconst (v := 5) hx hb dX5_tasteOf_6 (by decide) ?_
  refine lv_iload_n hx hb dX5_tasteOf_7 rfl (lv_at hl 1 rfl) ?_
  refine lv_imul hx hb dX5_tasteOf_8 ?_
  refine lv_iadd hx hb dX5_tasteOf_9 ?_
  refine lv_iload_n hx hb dX5_tasteOf_10 rfl (lv_at hl 2 rfl) ?_
  refine lv_iadd hx hb dX5_tasteOf_11 ?_
  obtain ⟨g_2, hf⟩ := bf_c_some hf
  refine bf_tld X hd 1 (by decide) g_2 dX5_tasteOf_12 ?_
  refine lv_iconst (v := 5) hx hb dX5_tasteOf_13 (by decide) ?_
  refine lv_iadd hx hb dX5_tasteOf_14 ?_
  exact kret _ _ _ _ _ _ ⟨bf_so hf, rfl⟩ hd dX5_tasteOf_15
def fX5_tasteBe (T : bf_TS) (x1 x2 x3 : Int32) : Option (bf_TS) := bf_c (bf_in ((86 + (5 * x1)) + x2) 136) <| bf_l (bf_u2 T 1 ((86 + (5 * x1)) + x2).toNatClampNeg ((fX5_held x3 0 9) - 5)) fun T_2 => some T_2
set_option maxHeartbeats 4000000 in
theorem mX5_tasteBe (l : Launch) (G : bf_G) (σ : bf_V) (o : Nat) (T : bf_TS) (x1 x2 x3 : Int32) {T' : bf_TS} (hf : fX5_tasteBe T x1 x2 x3 = some T') : bf_MV l G yX5_tasteBe cX5_tasteBe 4 (bf_rm 1) [.ref o, .int x1, .int x2, .int x3] (bf_pT G σ o T) (fun σ' => σ' = bf_pT G σ o T') := by
  refine bf_MV.of rfl (Nat.le_of_ble_eq_true rfl) ?_
  intro p e s m below meth c Q X hlk hnm kret hd ls hl
  have hx := X.1
  have hb := X.2.1
  have hown := X.2.2.2.1
  have hts := X.2.2.2.2
  have hl : lv_has ls 4 [(0, .ref o), (1, .int x1), (2, .int x2), (3, .int x3)] := hl
  unfold fX5_tasteBe at hf
  refine lv_aload_n hx hb dX5_tasteBe_0 rfl (lv_at hl 0 rfl) ?_
  refine bf_tga X hd 1 (by decide) (by decide) q1384 dX5_tasteBe_1 ?_
  refine lv_bipush (v := 86) hx hb dX5_tasteBe_4 (by decide) ?_
  refine lv_iconst (v := 5) hx hb dX5_tasteBe_6 (by decide) ?_
  refine lv_iload_n hx hb dX5_tasteBe_7 rfl (lv_at hl 1 rfl) ?_
  refine lv_imul hx hb dX5_tasteBe_8 ?_
  refine lv_iadd hx hb dX5_tasteBe_9 ?_
  refine lv_iload_n hx hb dX5_tasteBe_10 rfl (lv_at hl 2 rfl) ?_
  refine lv_iadd hx hb dX5_tasteBe_11 ?_
  refine lv_aload_n hx hb dX5_tasteBe_12 rfl (lv_at hl 0 rfl) ?_
  refine lv_iload_n hx hb dX5_tasteBe_13 rfl (lv_at hl 3 rfl) ?_
  refine lv_iconst (v := 0) hx hb dX5_tasteBe_14 (by decide) ?_
  refine lv_bipush (v := 9) hx hb dX5_tasteBe_15 (by decide) ?_
  refine bf_tci (n := 3) (As := [.int x3, .int 0, .int 9]) (rest := [.int ((86 + (5 * x1)) + x2), .ref (o + bf_to 1)]) X hd (mX5_held l G σ o T x3 0 9 rfl) (lw_V q1588 q1590 qs60 q156 q1591) (by decide +kernel) ⟨Nat.le_of_ble_eq_true rfl, Nat.le_of_ble_eq_true rfl⟩ rfl hl.1 rfl (Nat.le_of_ble_eq_true rfl) dX5_tasteBe_17 ⟨Nat.le_of_ble_eq_true rfl, Nat.le_of_ble_eq_true rfl⟩ (fun H locs hd => ?_)
  refine lv_iconst (v := 5) hx hb dX5_tasteBe_20 (by decide) ?_
  refine lv_isub hx hb dX5_tasteBe_21 ?_
  obtain ⟨g_3, hf⟩ := bf_c_some hf
  refine bf_tst X hd 1 (by decide) g_3 dX5_tasteBe_22 (fun H locs hd => ?_)
  obtain ⟨T_4, eT_4, hf⟩ := bf_l_e hf
  have hd := hd.of (congrArg (bf_pT G σ o) eT_4.symm)
  exact kret _ _ _ _ _ (congrArg (bf_pT G σ o) (bf_so hf)) hd dX5_tasteBe_23
def fX5_party (T : bf_TS) (x1 : Int32) : Option (Int32 × bf_TS) := bf_l (bf_u2 T 0 0 0) fun T_1 => if (fX5_isIn x1 0 999) = 0 then (some ((-1), T_1)) else (if (T_1 6 0) = 5 then (some ((-1), T_1)) else (bf_c (bf_in (15 + (T_1 6 0)) 136) <| bf_l (bf_u2 T_1 1 (15 + (T_1 6 0)).toNatClampNeg x1) fun T_6 => bf_l (bf_u2 T_6 6 0 ((T_6 6 0) + 1)) fun T_7 => bf_l (bf_u2 T_7 3 0 0) fun T_8 => some (((T_8 6 0) - 1), T_8)))
set_option maxHeartbeats 4000000 in
theorem mX5_party (l : Launch) (G : bf_G) (σ : bf_V) (o : Nat) (T : bf_TS) (x1 : Int32) {r : Int32} {T' : bf_TS} (hf : fX5_party T x1 = some (r, T')) : bf_MI l G yX5_party cX5_party 2 (bf_rm 1) [.ref o, .int x1] (bf_pT G σ o T) (fun v σ' => v = r ∧ σ' = bf_pT G σ o T') := by
  refine bf_MI.of rfl (Nat.le_of_ble_eq_true rfl) ?_
  intro p e s m below meth c Q X hlk hnm kret hd ls hl
  have hx := X.1
  have hb := X.2.1
  have hown := X.2.2.2.1
  have hts := X.2.2.2.2
  have hl : lv_has ls 2 [(0, .ref o), (1, .int x1)] := hl
  unfold fX5_party at hf
  refine lv_aload_n hx hb dX5_party_0 rfl (lv_at hl 0 rfl) ?_
  refine lv_iconst (v := 0) hx hb dX5_party_1 (by decide) ?_
  refine bf_tpi X hd 0 (by decide) ⟨rfl, rfl, rfl⟩ q1383 dX5_party_2 (fun H locs hd => ?_)
  obtain ⟨T_9, eT_9, hf⟩ := bf_l_e hf
  have hd := hd.of (congrArg (bf_pT G σ o) eT_9.symm)
  refine lv_aload_n hx hb dX5_party_5 rfl (lv_at hl 0 rfl) ?_
  refine lv_iload_n hx hb dX5_party_6 rfl (lv_at hl 1 rfl) ?_
  refine lv_iconst (v := 0) hx hb dX5_party_7 (by decide) ?_
  refine lv_sipush (v := 999) hx hb dX5_party_8 (by decide) ?_
  refine bf_tcz (n := 3) (As := [.int x1, .int 0, .int 999]) (rest := []) X hd (mX5_isIn l G σ o T_9 x1 0 999 rfl) (lw_V q1564 q1566 qs56 q156 q1567) (by decide +kernel) ⟨Nat.le_of_ble_eq_true rfl, Nat.le_of_ble_eq_true rfl⟩ rfl hl.1 rfl (Nat.le_of_ble_eq_true rfl) dX5_party_11 ⟨Nat.le_of_ble_eq_true rfl, Nat.le_of_ble_eq_true rfl⟩ (fun H locs z_10 hd => ?_)
  refine lv_if_eq (tgt := 25) hx hb dX5_party_14 (by decide) (fun c_11 => ?_) (fun c_11 => ?_)
  · have hf := bf_it hf c_11
    refine lv_iconst (v := (-1)) hx hb dX5_party_25 (by decide) ?_
    exact kret _ _ _ _ _ _ ⟨(bf_pr hf).1, congrArg (bf_pT G σ o) (bf_pr hf).2⟩ hd dX5_party_26
  · have hf := bf_ie hf c_11
    refine lv_aload_n hx hb dX5_party_17 rfl (lv_at hl 0 rfl) ?_
    refine bf_tgi X hd 6 (by decide) rfl q1389 dX5_party_18 ?_
    refine lv_iconst (v := 5) hx hb dX5_party_21 (by decide) ?_
    refine lv_icmp_ne (tgt := 27) hx hb dX5_party_22 (by decide) (fun c_12 => ?_) (fun c_12 => ?_)
    · have hf := bf_ie hf c_12
      refine lv_aload_n hx hb dX5_party_27 rfl (lv_at hl 0 rfl) ?_
      refine bf_tga X hd 1 (by decide) (by decide) q1384 dX5_party_28 ?_
      refine lv_bipush (v := 15) hx hb dX5_party_31 (by decide) ?_
      refine lv_aload_n hx hb dX5_party_33 rfl (lv_at hl 0 rfl) ?_
      refine bf_tgi X hd 6 (by decide) rfl q1389 dX5_party_34 ?_
      refine lv_iadd hx hb dX5_party_37 ?_
      refine lv_iload_n hx hb dX5_party_38 rfl (lv_at hl 1 rfl) ?_
      obtain ⟨g_13, hf⟩ := bf_c_some hf
      refine bf_tst X hd 1 (by decide) g_13 dX5_party_39 (fun H locs hd => ?_)
      obtain ⟨T_14, eT_14, hf⟩ := bf_l_e hf
      have hd := hd.of (congrArg (bf_pT G σ o) eT_14.symm)
      refine lv_aload_n hx hb dX5_party_40 rfl (lv_at hl 0 rfl) ?_
      refine lv_aload_n hx hb dX5_party_41 rfl (lv_at hl 0 rfl) ?_
      refine bf_tgi X hd 6 (by decide) rfl q1389 dX5_party_42 ?_
      refine lv_iconst (v := 1) hx hb dX5_party_45 (by decide) ?_
      refine lv_iadd hx hb dX5_party_46 ?_
      refine bf_tpi X hd 6 (by decide) ⟨rfl, rfl, rfl⟩ q1389 dX5_party_47 (fun H locs hd => ?_)
      obtain ⟨T_15, eT_15, hf⟩ := bf_l_e hf
      have hd := hd.of (congrArg (bf_pT G σ o) eT_15.symm)
      refine lv_aload_n hx hb dX5_party_50 rfl (lv_at hl 0 rfl) ?_
      refine lv_iconst (v := 0) hx hb dX5_party_51 (by decide) ?_
      refine bf_tpi X hd 3 (by decide) ⟨rfl, rfl, rfl⟩ q1386 dX5_party_52 (fun H locs hd => ?_)
      obtain ⟨T_16, eT_16, hf⟩ := bf_l_e hf
      have hd := hd.of (congrArg (bf_pT G σ o) eT_16.symm)
      refine lv_aload_n hx hb dX5_party_55 rfl (lv_at hl 0 rfl) ?_
      refine bf_tgi X hd 6 (by decide) rfl q1389 dX5_party_56 ?_
      refine lv_iconst (v := 1) hx hb dX5_party_59 (by decide) ?_
      refine lv_isub hx hb dX5_party_60 ?_
      exact kret _ _ _ _ _ _ ⟨(bf_pr hf).1, congrArg (bf_pT G σ o) (bf_pr hf).2⟩ hd dX5_party_61
    · have hf := bf_it hf c_12
      refine lv_iconst (v := (-1)) hx hb dX5_party_25 (by decide) ?_
      exact kret _ _ _ _ _ _ ⟨(bf_pr hf).1, congrArg (bf_pT G σ o) (bf_pr hf).2⟩ hd dX5_party_26
def fX5_eater (T : bf_TS) (x1 : Int32) : Option (Int32 × bf_TS) := bf_l (bf_u2 T 0 0 0) fun T_1 => if (fX5_isIn x1 0 20) = 0 then (some ((-1), T_1)) else (if (T_1 7 0) = 10 then (some ((-1), T_1)) else (bf_c (bf_in (76 + (T_1 7 0)) 136) <| bf_l (bf_u2 T_1 1 (76 + (T_1 7 0)).toNatClampNeg x1) fun T_6 => bf_l (bf_u2 T_6 7 0 ((T_6 7 0) + 1)) fun T_7 => bf_l (bf_u2 T_7 3 0 0) fun T_8 => some (((T_8 7 0) - 1), T_8)))
set_option maxHeartbeats 4000000 in
theorem mX5_eater (l : Launch) (G : bf_G) (σ : bf_V) (o : Nat) (T : bf_TS) (x1 : Int32) {r : Int32} {T' : bf_TS} (hf : fX5_eater T x1 = some (r, T')) : bf_MI l G yX5_eater cX5_eater 2 (bf_rm 1) [.ref o, .int x1] (bf_pT G σ o T) (fun v σ' => v = r ∧ σ' = bf_pT G σ o T') := by
  refine bf_MI.of rfl (Nat.le_of_ble_eq_true rfl) ?_
  intro p e s m below meth c Q X hlk hnm kret hd ls hl
  have hx := X.1
  have hb := X.2.1
  have hown := X.2.2.2.1
  have hts := X.2.2.2.2
  have hl : lv_has ls 2 [(0, .ref o), (1, .int x1)] := hl
  unfold fX5_eater at hf
  refine lv_aload_n hx hb dX5_eater_0 rfl (lv_at hl 0 rfl) ?_
  refine lv_iconst (v := 0) hx hb dX5_eater_1 (by decide) ?_
  refine bf_tpi X hd 0 (by decide) ⟨rfl, rfl, rfl⟩ q1383 dX5_eater_2 (fun H locs hd => ?_)
  obtain ⟨T_9, eT_9, hf⟩ := bf_l_e hf
  have hd := hd.of (congrArg (bf_pT G σ o) eT_9.symm)
  refine lv_aload_n hx hb dX5_eater_5 rfl (lv_at hl 0 rfl) ?_
  refine lv_iload_n hx hb dX5_eater_6 rfl (lv_at hl 1 rfl) ?_
  refine lv_iconst (v := 0) hx hb dX5_eater_7 (by decide) ?_
  refine lv_bipush (v := 20) hx hb dX5_eater_8 (by decide) ?_
  refine bf_tcz (n := 3) (As := [.int x1, .int 0, .int 20]) (rest := []) X hd (mX5_isIn l G σ o T_9 x1 0 20 rfl) (lw_V q1564 q1566 qs56 q156 q1567) (by decide +kernel) ⟨Nat.le_of_ble_eq_true rfl, Nat.le_of_ble_eq_true rfl⟩ rfl hl.1 rfl (Nat.le_of_ble_eq_true rfl) dX5_eater_10 ⟨Nat.le_of_ble_eq_true rfl, Nat.le_of_ble_eq_true rfl⟩ (fun H locs z_10 hd => ?_)
  refine lv_if_eq (tgt := 25) hx hb dX5_eater_13 (by decide) (fun c_11 => ?_) (fun c_11 => ?_)
  · have hf := bf_it hf c_11
    refine lv_iconst (v := (-1)) hx hb dX5_eater_25 (by decide) ?_
    exact kret _ _ _ _ _ _ ⟨(bf_pr hf).1, congrArg (bf_pT G σ o) (bf_pr hf).2⟩ hd dX5_eater_26
  · have hf := bf_ie hf c_11
    refine lv_aload_n hx hb dX5_eater_16 rfl (lv_at hl 0 rfl) ?_
    refine bf_tgi X hd 7 (by decide) rfl q1390 dX5_eater_17 ?_
    refine lv_bipush (v := 10) hx hb dX5_eater_20 (by decide) ?_
    refine lv_icmp_ne (tgt := 27) hx hb dX5_eater_22 (by decide) (fun c_12 => ?_) (fun c_12 => ?_)
    · have hf := bf_ie hf c_12
      refine lv_aload_n hx hb dX5_eater_27 rfl (lv_at hl 0 rfl) ?_
      refine bf_tga X hd 1 (by decide) (by decide) q1384 dX5_eater_28 ?_
      refine lv_bipush (v := 76) hx hb dX5_eater_31 (by decide) ?_
      refine lv_aload_n hx hb dX5_eater_33 rfl (lv_at hl 0 rfl) ?_
      refine bf_tgi X hd 7 (by decide) rfl q1390 dX5_eater_34 ?_
      refine lv_iadd hx hb dX5_eater_37 ?_
      refine lv_iload_n hx hb dX5_eater_38 rfl (lv_at hl 1 rfl) ?_
      obtain ⟨g_13, hf⟩ := bf_c_some hf
      refine bf_tst X hd 1 (by decide) g_13 dX5_eater_39 (fun H locs hd => ?_)
      obtain ⟨T_14, eT_14, hf⟩ := bf_l_e hf
      have hd := hd.of (congrArg (bf_pT G σ o) eT_14.symm)
      refine lv_aload_n hx hb dX5_eater_40 rfl (lv_at hl 0 rfl) ?_
      refine lv_aload_n hx hb dX5_eater_41 rfl (lv_at hl 0 rfl) ?_
      refine bf_tgi X hd 7 (by decide) rfl q1390 dX5_eater_42 ?_
      refine lv_iconst (v := 1) hx hb dX5_eater_45 (by decide) ?_
      refine lv_iadd hx hb dX5_eater_46 ?_
      refine bf_tpi X hd 7 (by decide) ⟨rfl, rfl, rfl⟩ q1390 dX5_eater_47 (fun H locs hd => ?_)
      obtain ⟨T_15, eT_15, hf⟩ := bf_l_e hf
      have hd := hd.of (congrArg (bf_pT G σ o) eT_15.symm)
      refine lv_aload_n hx hb dX5_eater_50 rfl (lv_at hl 0 rfl) ?_
      refine lv_iconst (v := 0) hx hb dX5_eater_51 (by decide) ?_
      refine bf_tpi X hd 3 (by decide) ⟨rfl, rfl, rfl⟩ q1386 dX5_eater_52 (fun H locs hd => ?_)
      obtain ⟨T_16, eT_16, hf⟩ := bf_l_e hf
      have hd := hd.of (congrArg (bf_pT G σ o) eT_16.symm)
      refine lv_aload_n hx hb dX5_eater_55 rfl (lv_at hl 0 rfl) ?_
      refine bf_tgi X hd 7 (by decide) rfl q1390 dX5_eater_56 ?_
      refine lv_iconst (v := 1) hx hb dX5_eater_59 (by decide) ?_
      refine lv_isub hx hb dX5_eater_60 ?_
      exact kret _ _ _ _ _ _ ⟨(bf_pr hf).1, congrArg (bf_pT G σ o) (bf_pr hf).2⟩ hd dX5_eater_61
    · have hf := bf_it hf c_12
      refine lv_iconst (v := (-1)) hx hb dX5_eater_25 (by decide) ?_
      exact kret _ _ _ _ _ _ ⟨(bf_pr hf).1, congrArg (bf_pT G σ o) (bf_pr hf).2⟩ hd dX5_eater_26
def fX5_taste (T : bf_TS) (x1 x2 x3 : Int32) : Option (Int32 × bf_TS) := bf_l (bf_u2 T 0 0 0) fun T_1 => if (fX5_isEater T_1 x1) = 0 then (some (0, T_1)) else (if (fX5_isParty T_1 x2) = 0 then (some (0, T_1)) else (if (fX5_isIn x3 0 9) = 0 then (some (0, T_1)) else (bf_b (fX5_tasteBe T_1 x1 x2 x3) fun T_8 => bf_l (bf_u2 T_8 3 0 0) fun T_9 => some (1, T_9))))
set_option maxHeartbeats 4000000 in
theorem mX5_taste (l : Launch) (G : bf_G) (σ : bf_V) (o : Nat) (T : bf_TS) (x1 x2 x3 : Int32) {r : Int32} {T' : bf_TS} (hf : fX5_taste T x1 x2 x3 = some (r, T')) : bf_MZ l G yX5_taste cX5_taste 4 (bf_rm 2) [.ref o, .int x1, .int x2, .int x3] (bf_pT G σ o T) (fun v σ' => v = r ∧ σ' = bf_pT G σ o T') := by
  refine bf_MZ.of rfl (Nat.le_of_ble_eq_true rfl) ?_
  intro p e s m below meth c Q X hlk hnm kret hd ls hl
  have hx := X.1
  have hb := X.2.1
  have hown := X.2.2.2.1
  have hts := X.2.2.2.2
  have hl : lv_has ls 4 [(0, .ref o), (1, .int x1), (2, .int x2), (3, .int x3)] := hl
  unfold fX5_taste at hf
  refine lv_aload_n hx hb dX5_taste_0 rfl (lv_at hl 0 rfl) ?_
  refine lv_iconst (v := 0) hx hb dX5_taste_1 (by decide) ?_
  refine bf_tpi X hd 0 (by decide) ⟨rfl, rfl, rfl⟩ q1383 dX5_taste_2 (fun H locs hd => ?_)
  obtain ⟨T_10, eT_10, hf⟩ := bf_l_e hf
  have hd := hd.of (congrArg (bf_pT G σ o) eT_10.symm)
  refine lv_aload_n hx hb dX5_taste_5 rfl (lv_at hl 0 rfl) ?_
  refine lv_iload_n hx hb dX5_taste_6 rfl (lv_at hl 1 rfl) ?_
  refine bf_tcz (n := 1) (As := [.int x1]) (rest := []) X hd (mX5_isEater l G σ o T_10 x1 rfl) (lw_V q1576 q1578 qs57 q156 q1579) (by decide +kernel) ⟨Nat.le_of_ble_eq_true rfl, Nat.le_of_ble_eq_true rfl⟩ rfl hl.1 rfl (Nat.le_of_ble_eq_true rfl) dX5_taste_7 ⟨Nat.le_of_ble_eq_true rfl, Nat.le_of_ble_eq_true rfl⟩ (fun H locs z_11 hd => ?_)
  refine lv_if_eq (tgt := 32) hx hb dX5_taste_10 (by decide) (fun c_12 => ?_) (fun c_12 => ?_)
  · have hf := bf_it hf c_12
    refine lv_iconst (v := 0) hx hb dX5_taste_32 (by decide) ?_
    exact kret _ _ _ _ _ _ ⟨(bf_pr hf).1, congrArg (bf_pT G σ o) (bf_pr hf).2⟩ (Or.inl rfl) hd dX5_taste_33
  · have hf := bf_ie hf c_12
    refine lv_aload_n hx hb dX5_taste_13 rfl (lv_at hl 0 rfl) ?_
    refine lv_iload_n hx hb dX5_taste_14 rfl (lv_at hl 2 rfl) ?_
    refine bf_tcz (n := 1) (As := [.int x2]) (rest := []) X hd (mX5_isParty l G σ o T_10 x2 rfl) (lw_V q1580 q1582 qs58 q156 q1583) (by decide +kernel) ⟨Nat.le_of_ble_eq_true rfl, Nat.le_of_ble_eq_true rfl⟩ rfl hl.1 rfl (Nat.le_of_ble_eq_true rfl) dX5_taste_15 ⟨Nat.le_of_ble_eq_true rfl, Nat.le_of_ble_eq_true rfl⟩ (fun H locs z_13 hd => ?_)
    refine lv_if_eq (tgt := 32) hx hb dX5_taste_18 (by decide) (fun c_14 => ?_) (fun c_14 => ?_)
    · have hf := bf_it hf c_14
      refine lv_iconst (v := 0) hx hb dX5_taste_32 (by decide) ?_
      exact kret _ _ _ _ _ _ ⟨(bf_pr hf).1, congrArg (bf_pT G σ o) (bf_pr hf).2⟩ (Or.inl rfl) hd dX5_taste_33
    · have hf := bf_ie hf c_14
      refine lv_aload_n hx hb dX5_taste_21 rfl (lv_at hl 0 rfl) ?_
      refine lv_iload_n hx hb dX5_taste_22 rfl (lv_at hl 3 rfl) ?_
      refine lv_iconst (v := 0) hx hb dX5_taste_23 (by decide) ?_
      refine lv_bipush (v := 9) hx hb dX5_taste_24 (by decide) ?_
      refine bf_tcz (n := 3) (As := [.int x3, .int 0, .int 9]) (rest := []) X hd (mX5_isIn l G σ o T_10 x3 0 9 rfl) (lw_V q1564 q1566 qs56 q156 q1567) (by decide +kernel) ⟨Nat.le_of_ble_eq_true rfl, Nat.le_of_ble_eq_true rfl⟩ rfl hl.1 rfl (Nat.le_of_ble_eq_true rfl) dX5_taste_26 ⟨Nat.le_of_ble_eq_true rfl, Nat.le_of_ble_eq_true rfl⟩ (fun H locs z_15 hd => ?_)
      refine lv_if_ne (tgt := 34) hx hb dX5_taste_29 (by decide) (fun c_16 => ?_) (fun c_16 => ?_)
      · have hf := bf_ie hf c_16
        refine lv_aload_n hx hb dX5_taste_34 rfl (lv_at hl 0 rfl) ?_
        refine lv_iload_n hx hb dX5_taste_35 rfl (lv_at hl 1 rfl) ?_
        refine lv_iload_n hx hb dX5_taste_36 rfl (lv_at hl 2 rfl) ?_
        refine lv_iload_n hx hb dX5_taste_37 rfl (lv_at hl 3 rfl) ?_
        obtain ⟨T_17, eT_17, hf⟩ := bf_b_some hf
        refine bf_tcv (n := 3) (As := [.int x1, .int x2, .int x3]) (rest := []) X hd (mX5_tasteBe l G σ o T_10 x1 x2 x3 eT_17) (lw_V q1584 q1586 qs59 q156 q1587) (by decide +kernel) ⟨Nat.le_of_ble_eq_true rfl, Nat.le_of_ble_eq_true rfl⟩ rfl hl.1 rfl (Nat.le_of_ble_eq_true rfl) dX5_taste_38 ⟨Nat.le_of_ble_eq_true rfl, Nat.le_of_ble_eq_true rfl⟩ (fun H locs hd => ?_)
        refine lv_aload_n hx hb dX5_taste_41 rfl (lv_at hl 0 rfl) ?_
        refine lv_iconst (v := 0) hx hb dX5_taste_42 (by decide) ?_
        refine bf_tpi X hd 3 (by decide) ⟨rfl, rfl, rfl⟩ q1386 dX5_taste_43 (fun H locs hd => ?_)
        obtain ⟨T_18, eT_18, hf⟩ := bf_l_e hf
        have hd := hd.of (congrArg (bf_pT G σ o) eT_18.symm)
        refine lv_iconst (v := 1) hx hb dX5_taste_46 (by decide) ?_
        exact kret _ _ _ _ _ _ ⟨(bf_pr hf).1, congrArg (bf_pT G σ o) (bf_pr hf).2⟩ (Or.inr rfl) hd dX5_taste_47
      · have hf := bf_it hf c_16
        refine lv_iconst (v := 0) hx hb dX5_taste_32 (by decide) ?_
        exact kret _ _ _ _ _ _ ⟨(bf_pr hf).1, congrArg (bf_pT G σ o) (bf_pr hf).2⟩ (Or.inl rfl) hd dX5_taste_33
def fX5_canSet_9 (T : bf_TS) (x3 : Int32) : Int32 := (fX5_isIn x3 0 1000)
def fX5_canSet_145 (T : bf_TS) (t145_0 : Int32) (t145_1 : Int32) (t145_2 : Int32) : Int32 := if (fX5_isIn t145_2 t145_1 t145_0) = 0 then (0) else (1)
def fX5_canSet (T : bf_TS) (x1 x2 x3 : Int32) : Int32 := if x1 = 0 then (fX5_canSet_9 T x3) else (if x1 = 1 then (fX5_canSet_9 T x3) else (if x1 = 2 then ((fX5_isIn x3 1 99)) else (if x1 = 3 then ((fX5_isIn x3 1 52)) else (if x1 = 4 then (if (fX5_isTree T x2) = 0 then (0) else (if (fX5_isIn x3 0 99) = 0 then (0) else (1))) else (if x1 = 5 then (if (fX5_isEater T x2) = 0 then (0) else (if (fX5_isIn x3 0 20) = 0 then (0) else (1))) else (if (fX5_isIn x1 6 7) = 0 then (0) else (if (fX5_isParty T x2) = 0 then (0) else (if x1 = 6 then (fX5_canSet_145 T 999 0 x3) else (fX5_canSet_145 T 9999 0 x3)))))))))
set_option maxHeartbeats 4000000 in
theorem mX5_canSet (l : Launch) (G : bf_G) (σ : bf_V) (o : Nat) (T : bf_TS) (x1 x2 x3 : Int32) {r : Int32} (hf : fX5_canSet T x1 x2 x3 = r) : bf_MZ l G yX5_canSet cX5_canSet 4 (bf_rm 1) [.ref o, .int x1, .int x2, .int x3] (bf_pT G σ o T) (fun v σ' => v = r ∧ σ' = bf_pT G σ o T) := by
  refine bf_MZ.of rfl (Nat.le_of_ble_eq_true rfl) ?_
  intro p e s m below meth c Q X hlk hnm kret hd ls hl
  have hx := X.1
  have hb := X.2.1
  have hown := X.2.2.2.1
  have hts := X.2.2.2.2
  have hl : lv_has ls 4 [(0, .ref o), (1, .int x1), (2, .int x2), (3, .int x3)] := hl
  have J9 : ∀ (H : Heap) (locs : List Loc) (ls : Array Slot), fX5_canSet_9 T x3 = r → bf_Dy G s H locs (bf_pT G σ o T) → lv_has ls 4 [(0, .ref o), (3, .int x3)] → W p l e (bf_rm 1) s m ([.ref o, .int x1, .int x2, .int x3] : List Value).toArray below meth c H locs 0 0 Q (F0 m 9 ls []) := by
    intro H locs ls hf hd hl
    unfold fX5_canSet_9 at hf
    refine lv_aload_n hx hb dX5_canSet_9 rfl (lv_at hl 0 rfl) ?_
    refine lv_iload_n hx hb dX5_canSet_10 rfl (lv_at hl 1 rfl) ?_
    refine lv_iconst (v := 0) hx hb dX5_canSet_11 (by decide) ?_
    refine lv_sipush (v := 1000) hx hb dX5_canSet_12 (by decide) ?_
    refine bf_tcz (n := 3) (As := [.int x3, .int 0, .int 1000]) (rest := []) X hd (mX5_isIn l G σ o T x3 0 1000 rfl) (lw_V q1564 q1566 qs56 q156 q1567) (by decide +kernel) ⟨Nat.le_of_ble_eq_true rfl, Nat.le_of_ble_eq_true rfl⟩ rfl hl.1 rfl (Nat.le_of_ble_eq_true rfl) dX5_canSet_15 ⟨Nat.le_of_ble_eq_true rfl, Nat.le_of_ble_eq_true rfl⟩ (fun H locs z_25 hd => ?_)
    exact kret _ _ _ _ _ _ ⟨hf, rfl⟩ z_25 hd dX5_canSet_18
  have J145 : ∀ (t145_0 : Int32) (t145_1 : Int32) (t145_2 : Int32) (H : Heap) (locs : List Loc) (ls : Array Slot), fX5_canSet_145 T t145_0 t145_1 t145_2 = r → bf_Dy G s H locs (bf_pT G σ o T) → lv_has ls 4 [] → W p l e (bf_rm 1) s m ([.ref o, .int x1, .int x2, .int x3] : List Value).toArray below meth c H locs 0 0 Q (F0 m 145 ls [.int t145_0, .int t145_1, .int t145_2, .ref o]) := by
    intro t145_0 t145_1 t145_2 H locs ls hf hd hl
    unfold fX5_canSet_145 at hf
    refine bf_tcz (n := 3) (As := [.int t145_2, .int t145_1, .int t145_0]) (rest := []) X hd (mX5_isIn l G σ o T t145_2 t145_1 t145_0 rfl) (lw_V q1564 q1566 qs56 q156 q1567) (by decide +kernel) ⟨Nat.le_of_ble_eq_true rfl, Nat.le_of_ble_eq_true rfl⟩ rfl hl.1 rfl (Nat.le_of_ble_eq_true rfl) dX5_canSet_145 ⟨Nat.le_of_ble_eq_true rfl, Nat.le_of_ble_eq_true rfl⟩ (fun H locs z_26 hd => ?_)
    refine lv_if_eq (tgt := 155) hx hb dX5_canSet_148 (by decide) (fun c_27 => ?_) (fun c_27 => ?_)
    · have hf := bf_it hf c_27
      refine lv_iconst (v := 0) hx hb dX5_canSet_155 (by decide) ?_
      exact kret _ _ _ _ _ _ ⟨hf, rfl⟩ (Or.inl rfl) hd dX5_canSet_156
    · have hf := bf_ie hf c_27
      refine lv_iconst (v := 1) hx hb dX5_canSet_151 (by decide) ?_
      refine lv_goto (tgt := 156) hx hb dX5_canSet_152 (by decide) ?_
      exact kret _ _ _ _ _ _ ⟨hf, rfl⟩ (Or.inr rfl) hd dX5_canSet_156
  unfold fX5_canSet at hf
  refine lv_iload_n hx hb dX5_canSet_0 rfl (lv_at hl 1 rfl) ?_
  refine lv_if_eq (tgt := 9) hx hb dX5_canSet_1 (by decide) (fun c_28 => ?_) (fun c_28 => ?_)
  · have hf := bf_it hf c_28
    exact J9  _ _ _ hf hd (lv_sub hl [0, 3] rfl)
  · have hf := bf_ie hf c_28
    refine lv_iload_n hx hb dX5_canSet_4 rfl (lv_at hl 1 rfl) ?_
    refine lv_iconst (v := 1) hx hb dX5_canSet_5 (by decide) ?_
    refine lv_icmp_ne (tgt := 19) hx hb dX5_canSet_6 (by decide) (fun c_29 => ?_) (fun c_29 => ?_)
    · have hf := bf_ie hf c_29
      refine lv_iload_n hx hb dX5_canSet_19 rfl (lv_at hl 1 rfl) ?_
      refine lv_iconst (v := 2) hx hb dX5_canSet_20 (by decide) ?_
      refine lv_icmp_ne (tgt := 33) hx hb dX5_canSet_21 (by decide) (fun c_30 => ?_) (fun c_30 => ?_)
      · have hf := bf_ie hf c_30
        refine lv_iload_n hx hb dX5_canSet_33 rfl (lv_at hl 1 rfl) ?_
        refine lv_iconst (v := 3) hx hb dX5_canSet_34 (by decide) ?_
        refine lv_icmp_ne (tgt := 47) hx hb dX5_canSet_35 (by decide) (fun c_31 => ?_) (fun c_31 => ?_)
        · have hf := bf_ie hf c_31
          refine lv_iload_n hx hb dX5_canSet_47 rfl (lv_at hl 1 rfl) ?_
          refine lv_iconst (v := 4) hx hb dX5_canSet_48 (by decide) ?_
          refine lv_icmp_ne (tgt := 77) hx hb dX5_canSet_49 (by decide) (fun c_32 => ?_) (fun c_32 => ?_)
          · have hf := bf_ie hf c_32
            refine lv_iload_n hx hb dX5_canSet_77 rfl (lv_at hl 1 rfl) ?_
            refine lv_iconst (v := 5) hx hb dX5_canSet_78 (by decide) ?_
            refine lv_icmp_ne (tgt := 107) hx hb dX5_canSet_79 (by decide) (fun c_33 => ?_) (fun c_33 => ?_)
            · have hf := bf_ie hf c_33
              refine lv_aload_n hx hb dX5_canSet_107 rfl (lv_at hl 0 rfl) ?_
              refine lv_iload_n hx hb dX5_canSet_108 rfl (lv_at hl 1 rfl) ?_
              refine lv_bipush (v := 6) hx hb dX5_canSet_109 (by decide) ?_
              refine lv_bipush (v := 7) hx hb dX5_canSet_111 (by decide) ?_
              refine bf_tcz (n := 3) (As := [.int x1, .int 6, .int 7]) (rest := []) X hd (mX5_isIn l G σ o T x1 6 7 rfl) (lw_V q1564 q1566 qs56 q156 q1567) (by decide +kernel) ⟨Nat.le_of_ble_eq_true rfl, Nat.le_of_ble_eq_true rfl⟩ rfl hl.1 rfl (Nat.le_of_ble_eq_true rfl) dX5_canSet_113 ⟨Nat.le_of_ble_eq_true rfl, Nat.le_of_ble_eq_true rfl⟩ (fun H locs z_34 hd => ?_)
              refine lv_if_eq (tgt := 155) hx hb dX5_canSet_116 (by decide) (fun c_35 => ?_) (fun c_35 => ?_)
              · have hf := bf_it hf c_35
                refine lv_iconst (v := 0) hx hb dX5_canSet_155 (by decide) ?_
                exact kret _ _ _ _ _ _ ⟨hf, rfl⟩ (Or.inl rfl) hd dX5_canSet_156
              · have hf := bf_ie hf c_35
                refine lv_aload_n hx hb dX5_canSet_119 rfl (lv_at hl 0 rfl) ?_
                refine lv_iload_n hx hb dX5_canSet_120 rfl (lv_at hl 2 rfl) ?_
                refine bf_tcz (n := 1) (As := [.int x2]) (rest := []) X hd (mX5_isParty l G σ o T x2 rfl) (lw_V q1580 q1582 qs58 q156 q1583) (by decide +kernel) ⟨Nat.le_of_ble_eq_true rfl, Nat.le_of_ble_eq_true rfl⟩ rfl hl.1 rfl (Nat.le_of_ble_eq_true rfl) dX5_canSet_121 ⟨Nat.le_of_ble_eq_true rfl, Nat.le_of_ble_eq_true rfl⟩ (fun H locs z_36 hd => ?_)
                refine lv_if_eq (tgt := 155) hx hb dX5_canSet_124 (by decide) (fun c_37 => ?_) (fun c_37 => ?_)
                · have hf := bf_it hf c_37
                  refine lv_iconst (v := 0) hx hb dX5_canSet_155 (by decide) ?_
                  exact kret _ _ _ _ _ _ ⟨hf, rfl⟩ (Or.inl rfl) hd dX5_canSet_156
                · have hf := bf_ie hf c_37
                  refine lv_aload_n hx hb dX5_canSet_127 rfl (lv_at hl 0 rfl) ?_
                  refine lv_iload_n hx hb dX5_canSet_128 rfl (lv_at hl 3 rfl) ?_
                  refine lv_iconst (v := 0) hx hb dX5_canSet_129 (by decide) ?_
                  refine lv_iload_n hx hb dX5_canSet_130 rfl (lv_at hl 1 rfl) ?_
                  refine lv_bipush (v := 6) hx hb dX5_canSet_131 (by decide) ?_
                  refine lv_icmp_ne (tgt := 142) hx hb dX5_canSet_133 (by decide) (fun c_38 => ?_) (fun c_38 => ?_)
                  · have hf := bf_ie hf c_38
                    refine lv_sipush (v := 9999) hx hb dX5_canSet_142 (by decide) ?_
                    exact J145 9999 0 x3 _ _ _ hf hd (lv_sub hl [] rfl)
                  · have hf := bf_it hf c_38
                    refine lv_sipush (v := 999) hx hb dX5_canSet_136 (by decide) ?_
                    refine lv_goto (tgt := 145) hx hb dX5_canSet_139 (by decide) ?_
                    exact J145 999 0 x3 _ _ _ hf hd (lv_sub hl [] rfl)
            · have hf := bf_it hf c_33
              refine lv_aload_n hx hb dX5_canSet_82 rfl (lv_at hl 0 rfl) ?_
              refine lv_iload_n hx hb dX5_canSet_83 rfl (lv_at hl 2 rfl) ?_
              refine bf_tcz (n := 1) (As := [.int x2]) (rest := []) X hd (mX5_isEater l G σ o T x2 rfl) (lw_V q1576 q1578 qs57 q156 q1579) (by decide +kernel) ⟨Nat.le_of_ble_eq_true rfl, Nat.le_of_ble_eq_true rfl⟩ rfl hl.1 rfl (Nat.le_of_ble_eq_true rfl) dX5_canSet_84 ⟨Nat.le_of_ble_eq_true rfl, Nat.le_of_ble_eq_true rfl⟩ (fun H locs z_39 hd => ?_)
              refine lv_if_eq (tgt := 105) hx hb dX5_canSet_87 (by decide) (fun c_40 => ?_) (fun c_40 => ?_)
              · have hf := bf_it hf c_40
                refine lv_iconst (v := 0) hx hb dX5_canSet_105 (by decide) ?_
                exact kret _ _ _ _ _ _ ⟨hf, rfl⟩ (Or.inl rfl) hd dX5_canSet_106
              · have hf := bf_ie hf c_40
                refine lv_aload_n hx hb dX5_canSet_90 rfl (lv_at hl 0 rfl) ?_
                refine lv_iload_n hx hb dX5_canSet_91 rfl (lv_at hl 3 rfl) ?_
                refine lv_iconst (v := 0) hx hb dX5_canSet_92 (by decide) ?_
                refine lv_bipush (v := 20) hx hb dX5_canSet_93 (by decide) ?_
                refine bf_tcz (n := 3) (As := [.int x3, .int 0, .int 20]) (rest := []) X hd (mX5_isIn l G σ o T x3 0 20 rfl) (lw_V q1564 q1566 qs56 q156 q1567) (by decide +kernel) ⟨Nat.le_of_ble_eq_true rfl, Nat.le_of_ble_eq_true rfl⟩ rfl hl.1 rfl (Nat.le_of_ble_eq_true rfl) dX5_canSet_95 ⟨Nat.le_of_ble_eq_true rfl, Nat.le_of_ble_eq_true rfl⟩ (fun H locs z_41 hd => ?_)
                refine lv_if_eq (tgt := 105) hx hb dX5_canSet_98 (by decide) (fun c_42 => ?_) (fun c_42 => ?_)
                · have hf := bf_it hf c_42
                  refine lv_iconst (v := 0) hx hb dX5_canSet_105 (by decide) ?_
                  exact kret _ _ _ _ _ _ ⟨hf, rfl⟩ (Or.inl rfl) hd dX5_canSet_106
                · have hf := bf_ie hf c_42
                  refine lv_iconst (v := 1) hx hb dX5_canSet_101 (by decide) ?_
                  refine lv_goto (tgt := 106) hx hb dX5_canSet_102 (by decide) ?_
                  exact kret _ _ _ _ _ _ ⟨hf, rfl⟩ (Or.inr rfl) hd dX5_canSet_106
          · have hf := bf_it hf c_32
            refine lv_aload_n hx hb dX5_canSet_52 rfl (lv_at hl 0 rfl) ?_
            refine lv_iload_n hx hb dX5_canSet_53 rfl (lv_at hl 2 rfl) ?_
            refine bf_tcz (n := 1) (As := [.int x2]) (rest := []) X hd (mX5_isTree l G σ o T x2 rfl) (lw_V q1600 q1602 qs62 q156 q1603) (by decide +kernel) ⟨Nat.le_of_ble_eq_true rfl, Nat.le_of_ble_eq_true rfl⟩ rfl hl.1 rfl (Nat.le_of_ble_eq_true rfl) dX5_canSet_54 ⟨Nat.le_of_ble_eq_true rfl, Nat.le_of_ble_eq_true rfl⟩ (fun H locs z_43 hd => ?_)
            refine lv_if_eq (tgt := 75) hx hb dX5_canSet_57 (by decide) (fun c_44 => ?_) (fun c_44 => ?_)
            · have hf := bf_it hf c_44
              refine lv_iconst (v := 0) hx hb dX5_canSet_75 (by decide) ?_
              exact kret _ _ _ _ _ _ ⟨hf, rfl⟩ (Or.inl rfl) hd dX5_canSet_76
            · have hf := bf_ie hf c_44
              refine lv_aload_n hx hb dX5_canSet_60 rfl (lv_at hl 0 rfl) ?_
              refine lv_iload_n hx hb dX5_canSet_61 rfl (lv_at hl 3 rfl) ?_
              refine lv_iconst (v := 0) hx hb dX5_canSet_62 (by decide) ?_
              refine lv_bipush (v := 99) hx hb dX5_canSet_63 (by decide) ?_
              refine bf_tcz (n := 3) (As := [.int x3, .int 0, .int 99]) (rest := []) X hd (mX5_isIn l G σ o T x3 0 99 rfl) (lw_V q1564 q1566 qs56 q156 q1567) (by decide +kernel) ⟨Nat.le_of_ble_eq_true rfl, Nat.le_of_ble_eq_true rfl⟩ rfl hl.1 rfl (Nat.le_of_ble_eq_true rfl) dX5_canSet_65 ⟨Nat.le_of_ble_eq_true rfl, Nat.le_of_ble_eq_true rfl⟩ (fun H locs z_45 hd => ?_)
              refine lv_if_eq (tgt := 75) hx hb dX5_canSet_68 (by decide) (fun c_46 => ?_) (fun c_46 => ?_)
              · have hf := bf_it hf c_46
                refine lv_iconst (v := 0) hx hb dX5_canSet_75 (by decide) ?_
                exact kret _ _ _ _ _ _ ⟨hf, rfl⟩ (Or.inl rfl) hd dX5_canSet_76
              · have hf := bf_ie hf c_46
                refine lv_iconst (v := 1) hx hb dX5_canSet_71 (by decide) ?_
                refine lv_goto (tgt := 76) hx hb dX5_canSet_72 (by decide) ?_
                exact kret _ _ _ _ _ _ ⟨hf, rfl⟩ (Or.inr rfl) hd dX5_canSet_76
        · have hf := bf_it hf c_31
          refine lv_aload_n hx hb dX5_canSet_38 rfl (lv_at hl 0 rfl) ?_
          refine lv_iload_n hx hb dX5_canSet_39 rfl (lv_at hl 3 rfl) ?_
          refine lv_iconst (v := 1) hx hb dX5_canSet_40 (by decide) ?_
          refine lv_bipush (v := 52) hx hb dX5_canSet_41 (by decide) ?_
          refine bf_tcz (n := 3) (As := [.int x3, .int 1, .int 52]) (rest := []) X hd (mX5_isIn l G σ o T x3 1 52 rfl) (lw_V q1564 q1566 qs56 q156 q1567) (by decide +kernel) ⟨Nat.le_of_ble_eq_true rfl, Nat.le_of_ble_eq_true rfl⟩ rfl hl.1 rfl (Nat.le_of_ble_eq_true rfl) dX5_canSet_43 ⟨Nat.le_of_ble_eq_true rfl, Nat.le_of_ble_eq_true rfl⟩ (fun H locs z_47 hd => ?_)
          exact kret _ _ _ _ _ _ ⟨hf, rfl⟩ z_47 hd dX5_canSet_46
      · have hf := bf_it hf c_30
        refine lv_aload_n hx hb dX5_canSet_24 rfl (lv_at hl 0 rfl) ?_
        refine lv_iload_n hx hb dX5_canSet_25 rfl (lv_at hl 3 rfl) ?_
        refine lv_iconst (v := 1) hx hb dX5_canSet_26 (by decide) ?_
        refine lv_bipush (v := 99) hx hb dX5_canSet_27 (by decide) ?_
        refine bf_tcz (n := 3) (As := [.int x3, .int 1, .int 99]) (rest := []) X hd (mX5_isIn l G σ o T x3 1 99 rfl) (lw_V q1564 q1566 qs56 q156 q1567) (by decide +kernel) ⟨Nat.le_of_ble_eq_true rfl, Nat.le_of_ble_eq_true rfl⟩ rfl hl.1 rfl (Nat.le_of_ble_eq_true rfl) dX5_canSet_29 ⟨Nat.le_of_ble_eq_true rfl, Nat.le_of_ble_eq_true rfl⟩ (fun H locs z_48 hd => ?_)
        exact kret _ _ _ _ _ _ ⟨hf, rfl⟩ z_48 hd dX5_canSet_32
    · have hf := bf_it hf c_29
      exact J9  _ _ _ hf hd (lv_sub hl [0, 3] rfl)
def fX5_set_122 (T122 : bf_TS) : Option (Int32 × bf_TS) := bf_l (bf_u2 T122 3 0 0) fun T_19 => some (1, T_19)
def fX5_set_107 (x1 : Int32) (x2 : Int32) (x3 : Int32) (T107 : bf_TS) : Option (Int32 × bf_TS) := if x1 = 7 then (bf_c (bf_in (5 + x2) 136) <| bf_l (bf_u2 T107 1 (5 + x2).toNatClampNeg x3) fun T_18 => fX5_set_122 T_18) else (fX5_set_122 T107)
def fX5_set_91 (x1 : Int32) (x2 : Int32) (x3 : Int32) (T91 : bf_TS) : Option (Int32 × bf_TS) := if x1 = 6 then (bf_c (bf_in (15 + x2) 136) <| bf_l (bf_u2 T91 1 (15 + x2).toNatClampNeg x3) fun T_15 => fX5_set_107 x1 x2 x3 T_15) else (fX5_set_107 x1 x2 x3 T91)
def fX5_set_76 (x1 : Int32) (x2 : Int32) (x3 : Int32) (T76 : bf_TS) : Option (Int32 × bf_TS) := if x1 = 5 then (bf_c (bf_in (76 + x2) 136) <| bf_l (bf_u2 T76 1 (76 + x2).toNatClampNeg x3) fun T_12 => fX5_set_91 x1 x2 x3 T_12) else (fX5_set_91 x1 x2 x3 T76)
def fX5_set_61 (x1 : Int32) (x2 : Int32) (x3 : Int32) (T61 : bf_TS) : Option (Int32 × bf_TS) := if x1 = 4 then (bf_c (bf_in (62 + x2) 136) <| bf_l (bf_u2 T61 1 (62 + x2).toNatClampNeg x3) fun T_9 => fX5_set_76 x1 x2 x3 T_9) else (fX5_set_76 x1 x2 x3 T61)
def fX5_set_49 (x1 : Int32) (x2 : Int32) (x3 : Int32) (T49 : bf_TS) : Option (Int32 × bf_TS) := if x1 = 3 then (bf_l (bf_u2 T49 11 0 (x3 - 4)) fun T_6 => fX5_set_61 x1 x2 x3 T_6) else (fX5_set_61 x1 x2 x3 T49)
def fX5_set_36 (x1 : Int32) (x2 : Int32) (x3 : Int32) (T36 : bf_TS) : Option (Int32 × bf_TS) := if x1 = 2 then (bf_l (bf_u2 T36 10 0 (x3 - 9)) fun T_4 => fX5_set_49 x1 x2 x3 T_4) else (fX5_set_49 x1 x2 x3 T36)
def fX5_set_26 (x1 : Int32) (x2 : Int32) (x3 : Int32) (T26 : bf_TS) : Option (Int32 × bf_TS) := if x1 = 1 then (bf_l (bf_u2 T26 9 0 x3) fun T_2 => fX5_set_36 x1 x2 x3 T_2) else (fX5_set_36 x1 x2 x3 T26)
def fX5_set (T : bf_TS) (x1 x2 x3 : Int32) : Option (Int32 × bf_TS) := bf_l (bf_u2 T 0 0 0) fun T_20 => if (fX5_canSet T_20 x1 x2 x3) = 0 then (some (0, T_20)) else (if x1 = 0 then (bf_l (bf_u2 T_20 8 0 x3) fun T_24 => fX5_set_26 x1 x2 x3 T_24) else (fX5_set_26 x1 x2 x3 T_20))
set_option maxHeartbeats 4000000 in
theorem mX5_set (l : Launch) (G : bf_G) (σ : bf_V) (o : Nat) (T : bf_TS) (x1 x2 x3 : Int32) {r : Int32} {T' : bf_TS} (hf : fX5_set T x1 x2 x3 = some (r, T')) : bf_MZ l G yX5_set cX5_set 4 (bf_rm 2) [.ref o, .int x1, .int x2, .int x3] (bf_pT G σ o T) (fun v σ' => v = r ∧ σ' = bf_pT G σ o T') := by
  refine bf_MZ.of rfl (Nat.le_of_ble_eq_true rfl) ?_
  intro p e s m below meth c Q X hlk hnm kret hd ls hl
  have hx := X.1
  have hb := X.2.1
  have hown := X.2.2.2.1
  have hts := X.2.2.2.2
  have hl : lv_has ls 4 [(0, .ref o), (1, .int x1), (2, .int x2), (3, .int x3)] := hl
  have J122 : ∀ (T122 : bf_TS) (H : Heap) (locs : List Loc) (ls : Array Slot), fX5_set_122 T122 = some (r, T') → bf_Dy G s H locs (bf_pT G σ o T122) → lv_has ls 4 [(0, .ref o)] → W p l e (bf_rm 2) s m ([.ref o, .int x1, .int x2, .int x3] : List Value).toArray below meth c H locs 0 0 Q (F0 m 122 ls []) := by
    intro T122 H locs ls hf hd hl
    unfold fX5_set_122 at hf
    refine lv_aload_n hx hb dX5_set_122 rfl (lv_at hl 0 rfl) ?_
    refine lv_iconst (v := 0) hx hb dX5_set_123 (by decide) ?_
    refine bf_tpi X hd 3 (by decide) ⟨rfl, rfl, rfl⟩ q1386 dX5_set_124 (fun H locs hd => ?_)
    obtain ⟨T_25, eT_25, hf⟩ := bf_l_e hf
    have hd := hd.of (congrArg (bf_pT G σ o) eT_25.symm)
    refine lv_iconst (v := 1) hx hb dX5_set_127 (by decide) ?_
    exact kret _ _ _ _ _ _ ⟨(bf_pr hf).1, congrArg (bf_pT G σ o) (bf_pr hf).2⟩ (Or.inr rfl) hd dX5_set_128
  have J107 : ∀ (T107 : bf_TS) (H : Heap) (locs : List Loc) (ls : Array Slot), fX5_set_107 x1 x2 x3 T107 = some (r, T') → bf_Dy G s H locs (bf_pT G σ o T107) → lv_has ls 4 [(0, .ref o), (1, .int x1), (2, .int x2), (3, .int x3)] → W p l e (bf_rm 2) s m ([.ref o, .int x1, .int x2, .int x3] : List Value).toArray below meth c H locs 0 0 Q (F0 m 107 ls []) := by
    intro T107 H locs ls hf hd hl
    unfold fX5_set_107 at hf
    refine lv_iload_n hx hb dX5_set_107 rfl (lv_at hl 1 rfl) ?_
    refine lv_bipush (v := 7) hx hb dX5_set_108 (by decide) ?_
    refine lv_icmp_ne (tgt := 122) hx hb dX5_set_110 (by decide) (fun c_26 => ?_) (fun c_26 => ?_)
    · have hf := bf_ie hf c_26
      exact J122 T107 _ _ _ hf hd (lv_sub hl [0] rfl)
    · have hf := bf_it hf c_26
      refine lv_aload_n hx hb dX5_set_113 rfl (lv_at hl 0 rfl) ?_
      refine bf_tga X hd 1 (by decide) (by decide) q1384 dX5_set_114 ?_
      refine lv_iconst (v := 5) hx hb dX5_set_117 (by decide) ?_
      refine lv_iload_n hx hb dX5_set_118 rfl (lv_at hl 2 rfl) ?_
      refine lv_iadd hx hb dX5_set_119 ?_
      refine lv_iload_n hx hb dX5_set_120 rfl (lv_at hl 3 rfl) ?_
      obtain ⟨g_27, hf⟩ := bf_c_some hf
      refine bf_tst X hd 1 (by decide) g_27 dX5_set_121 (fun H locs hd => ?_)
      obtain ⟨T_28, eT_28, hf⟩ := bf_l_e hf
      have hd := hd.of (congrArg (bf_pT G σ o) eT_28.symm)
      exact J122 T_28 _ _ _ hf hd (lv_sub hl [0] rfl)
  have J91 : ∀ (T91 : bf_TS) (H : Heap) (locs : List Loc) (ls : Array Slot), fX5_set_91 x1 x2 x3 T91 = some (r, T') → bf_Dy G s H locs (bf_pT G σ o T91) → lv_has ls 4 [(0, .ref o), (1, .int x1), (2, .int x2), (3, .int x3)] → W p l e (bf_rm 2) s m ([.ref o, .int x1, .int x2, .int x3] : List Value).toArray below meth c H locs 0 0 Q (F0 m 91 ls []) := by
    intro T91 H locs ls hf hd hl
    unfold fX5_set_91 at hf
    refine lv_iload_n hx hb dX5_set_91 rfl (lv_at hl 1 rfl) ?_
    refine lv_bipush (v := 6) hx hb dX5_set_92 (by decide) ?_
    refine lv_icmp_ne (tgt := 107) hx hb dX5_set_94 (by decide) (fun c_29 => ?_) (fun c_29 => ?_)
    · have hf := bf_ie hf c_29
      exact J107 T91 _ _ _ hf hd (lv_sub hl [0, 1, 2, 3] rfl)
    · have hf := bf_it hf c_29
      refine lv_aload_n hx hb dX5_set_97 rfl (lv_at hl 0 rfl) ?_
      refine bf_tga X hd 1 (by decide) (by decide) q1384 dX5_set_98 ?_
      refine lv_bipush (v := 15) hx hb dX5_set_101 (by decide) ?_
      refine lv_iload_n hx hb dX5_set_103 rfl (lv_at hl 2 rfl) ?_
      refine lv_iadd hx hb dX5_set_104 ?_
      refine lv_iload_n hx hb dX5_set_105 rfl (lv_at hl 3 rfl) ?_
      obtain ⟨g_30, hf⟩ := bf_c_some hf
      refine bf_tst X hd 1 (by decide) g_30 dX5_set_106 (fun H locs hd => ?_)
      obtain ⟨T_31, eT_31, hf⟩ := bf_l_e hf
      have hd := hd.of (congrArg (bf_pT G σ o) eT_31.symm)
      exact J107 T_31 _ _ _ hf hd (lv_sub hl [0, 1, 2, 3] rfl)
  have J76 : ∀ (T76 : bf_TS) (H : Heap) (locs : List Loc) (ls : Array Slot), fX5_set_76 x1 x2 x3 T76 = some (r, T') → bf_Dy G s H locs (bf_pT G σ o T76) → lv_has ls 4 [(0, .ref o), (1, .int x1), (2, .int x2), (3, .int x3)] → W p l e (bf_rm 2) s m ([.ref o, .int x1, .int x2, .int x3] : List Value).toArray below meth c H locs 0 0 Q (F0 m 76 ls []) := by
    intro T76 H locs ls hf hd hl
    unfold fX5_set_76 at hf
    refine lv_iload_n hx hb dX5_set_76 rfl (lv_at hl 1 rfl) ?_
    refine lv_iconst (v := 5) hx hb dX5_set_77 (by decide) ?_
    refine lv_icmp_ne (tgt := 91) hx hb dX5_set_78 (by decide) (fun c_32 => ?_) (fun c_32 => ?_)
    · have hf := bf_ie hf c_32
      exact J91 T76 _ _ _ hf hd (lv_sub hl [0, 1, 2, 3] rfl)
    · have hf := bf_it hf c_32
      refine lv_aload_n hx hb dX5_set_81 rfl (lv_at hl 0 rfl) ?_
      refine bf_tga X hd 1 (by decide) (by decide) q1384 dX5_set_82 ?_
      refine lv_bipush (v := 76) hx hb dX5_set_85 (by decide) ?_
      refine lv_iload_n hx hb dX5_set_87 rfl (lv_at hl 2 rfl) ?_
      refine lv_iadd hx hb dX5_set_88 ?_
      refine lv_iload_n hx hb dX5_set_89 rfl (lv_at hl 3 rfl) ?_
      obtain ⟨g_33, hf⟩ := bf_c_some hf
      refine bf_tst X hd 1 (by decide) g_33 dX5_set_90 (fun H locs hd => ?_)
      obtain ⟨T_34, eT_34, hf⟩ := bf_l_e hf
      have hd := hd.of (congrArg (bf_pT G σ o) eT_34.symm)
      exact J91 T_34 _ _ _ hf hd (lv_sub hl [0, 1, 2, 3] rfl)
  have J61 : ∀ (T61 : bf_TS) (H : Heap) (locs : List Loc) (ls : Array Slot), fX5_set_61 x1 x2 x3 T61 = some (r, T') → bf_Dy G s H locs (bf_pT G σ o T61) → lv_has ls 4 [(0, .ref o), (1, .int x1), (2, .int x2), (3, .int x3)] → W p l e (bf_rm 2) s m ([.ref o, .int x1, .int x2, .int x3] : List Value).toArray below meth c H locs 0 0 Q (F0 m 61 ls []) := by
    intro T61 H locs ls hf hd hl
    unfold fX5_set_61 at hf
    refine lv_iload_n hx hb dX5_set_61 rfl (lv_at hl 1 rfl) ?_
    refine lv_iconst (v := 4) hx hb dX5_set_62 (by decide) ?_
    refine lv_icmp_ne (tgt := 76) hx hb dX5_set_63 (by decide) (fun c_35 => ?_) (fun c_35 => ?_)
    · have hf := bf_ie hf c_35
      exact J76 T61 _ _ _ hf hd (lv_sub hl [0, 1, 2, 3] rfl)
    · have hf := bf_it hf c_35
      refine lv_aload_n hx hb dX5_set_66 rfl (lv_at hl 0 rfl) ?_
      refine bf_tga X hd 1 (by decide) (by decide) q1384 dX5_set_67 ?_
      refine lv_bipush (v := 62) hx hb dX5_set_70 (by decide) ?_
      refine lv_iload_n hx hb dX5_set_72 rfl (lv_at hl 2 rfl) ?_
      refine lv_iadd hx hb dX5_set_73 ?_
      refine lv_iload_n hx hb dX5_set_74 rfl (lv_at hl 3 rfl) ?_
      obtain ⟨g_36, hf⟩ := bf_c_some hf
      refine bf_tst X hd 1 (by decide) g_36 dX5_set_75 (fun H locs hd => ?_)
      obtain ⟨T_37, eT_37, hf⟩ := bf_l_e hf
      have hd := hd.of (congrArg (bf_pT G σ o) eT_37.symm)
      exact J76 T_37 _ _ _ hf hd (lv_sub hl [0, 1, 2, 3] rfl)
  have J49 : ∀ (T49 : bf_TS) (H : Heap) (locs : List Loc) (ls : Array Slot), fX5_set_49 x1 x2 x3 T49 = some (r, T') → bf_Dy G s H locs (bf_pT G σ o T49) → lv_has ls 4 [(0, .ref o), (1, .int x1), (2, .int x2), (3, .int x3)] → W p l e (bf_rm 2) s m ([.ref o, .int x1, .int x2, .int x3] : List Value).toArray below meth c H locs 0 0 Q (F0 m 49 ls []) := by
    intro T49 H locs ls hf hd hl
    unfold fX5_set_49 at hf
    refine lv_iload_n hx hb dX5_set_49 rfl (lv_at hl 1 rfl) ?_
    refine lv_iconst (v := 3) hx hb dX5_set_50 (by decide) ?_
    refine lv_icmp_ne (tgt := 61) hx hb dX5_set_51 (by decide) (fun c_38 => ?_) (fun c_38 => ?_)
    · have hf := bf_ie hf c_38
      exact J61 T49 _ _ _ hf hd (lv_sub hl [0, 1, 2, 3] rfl)
    · have hf := bf_it hf c_38
      refine lv_aload_n hx hb dX5_set_54 rfl (lv_at hl 0 rfl) ?_
      refine lv_iload_n hx hb dX5_set_55 rfl (lv_at hl 3 rfl) ?_
      refine lv_iconst (v := 4) hx hb dX5_set_56 (by decide) ?_
      refine lv_isub hx hb dX5_set_57 ?_
      refine bf_tpi X hd 11 (by decide) ⟨rfl, rfl, rfl⟩ q1394 dX5_set_58 (fun H locs hd => ?_)
      obtain ⟨T_39, eT_39, hf⟩ := bf_l_e hf
      have hd := hd.of (congrArg (bf_pT G σ o) eT_39.symm)
      exact J61 T_39 _ _ _ hf hd (lv_sub hl [0, 1, 2, 3] rfl)
  have J36 : ∀ (T36 : bf_TS) (H : Heap) (locs : List Loc) (ls : Array Slot), fX5_set_36 x1 x2 x3 T36 = some (r, T') → bf_Dy G s H locs (bf_pT G σ o T36) → lv_has ls 4 [(0, .ref o), (1, .int x1), (2, .int x2), (3, .int x3)] → W p l e (bf_rm 2) s m ([.ref o, .int x1, .int x2, .int x3] : List Value).toArray below meth c H locs 0 0 Q (F0 m 36 ls []) := by
    intro T36 H locs ls hf hd hl
    unfold fX5_set_36 at hf
    refine lv_iload_n hx hb dX5_set_36 rfl (lv_at hl 1 rfl) ?_
    refine lv_iconst (v := 2) hx hb dX5_set_37 (by decide) ?_
    refine lv_icmp_ne (tgt := 49) hx hb dX5_set_38 (by decide) (fun c_40 => ?_) (fun c_40 => ?_)
    · have hf := bf_ie hf c_40
      exact J49 T36 _ _ _ hf hd (lv_sub hl [0, 1, 2, 3] rfl)
    · have hf := bf_it hf c_40
      refine lv_aload_n hx hb dX5_set_41 rfl (lv_at hl 0 rfl) ?_
      refine lv_iload_n hx hb dX5_set_42 rfl (lv_at hl 3 rfl) ?_
      refine lv_bipush (v := 9) hx hb dX5_set_43 (by decide) ?_
      refine lv_isub hx hb dX5_set_45 ?_
      refine bf_tpi X hd 10 (by decide) ⟨rfl, rfl, rfl⟩ q1393 dX5_set_46 (fun H locs hd => ?_)
      obtain ⟨T_41, eT_41, hf⟩ := bf_l_e hf
      have hd := hd.of (congrArg (bf_pT G σ o) eT_41.symm)
      exact J49 T_41 _ _ _ hf hd (lv_sub hl [0, 1, 2, 3] rfl)
  have J26 : ∀ (T26 : bf_TS) (H : Heap) (locs : List Loc) (ls : Array Slot), fX5_set_26 x1 x2 x3 T26 = some (r, T') → bf_Dy G s H locs (bf_pT G σ o T26) → lv_has ls 4 [(0, .ref o), (1, .int x1), (2, .int x2), (3, .int x3)] → W p l e (bf_rm 2) s m ([.ref o, .int x1, .int x2, .int x3] : List Value).toArray below meth c H locs 0 0 Q (F0 m 26 ls []) := by
    intro T26 H locs ls hf hd hl
    unfold fX5_set_26 at hf
    refine lv_iload_n hx hb dX5_set_26 rfl (lv_at hl 1 rfl) ?_
    refine lv_iconst (v := 1) hx hb dX5_set_27 (by decide) ?_
    refine lv_icmp_ne (tgt := 36) hx hb dX5_set_28 (by decide) (fun c_42 => ?_) (fun c_42 => ?_)
    · have hf := bf_ie hf c_42
      exact J36 T26 _ _ _ hf hd (lv_sub hl [0, 1, 2, 3] rfl)
    · have hf := bf_it hf c_42
      refine lv_aload_n hx hb dX5_set_31 rfl (lv_at hl 0 rfl) ?_
      refine lv_iload_n hx hb dX5_set_32 rfl (lv_at hl 3 rfl) ?_
      refine bf_tpi X hd 9 (by decide) ⟨rfl, rfl, rfl⟩ q1392 dX5_set_33 (fun H locs hd => ?_)
      obtain ⟨T_43, eT_43, hf⟩ := bf_l_e hf
      have hd := hd.of (congrArg (bf_pT G σ o) eT_43.symm)
      exact J36 T_43 _ _ _ hf hd (lv_sub hl [0, 1, 2, 3] rfl)
  unfold fX5_set at hf
  refine lv_aload_n hx hb dX5_set_0 rfl (lv_at hl 0 rfl) ?_
  refine lv_iconst (v := 0) hx hb dX5_set_1 (by decide) ?_
  refine bf_tpi X hd 0 (by decide) ⟨rfl, rfl, rfl⟩ q1383 dX5_set_2 (fun H locs hd => ?_)
  obtain ⟨T_44, eT_44, hf⟩ := bf_l_e hf
  have hd := hd.of (congrArg (bf_pT G σ o) eT_44.symm)
  refine lv_aload_n hx hb dX5_set_5 rfl (lv_at hl 0 rfl) ?_
  refine lv_iload_n hx hb dX5_set_6 rfl (lv_at hl 1 rfl) ?_
  refine lv_iload_n hx hb dX5_set_7 rfl (lv_at hl 2 rfl) ?_
  refine lv_iload_n hx hb dX5_set_8 rfl (lv_at hl 3 rfl) ?_
  refine bf_tcz (n := 3) (As := [.int x1, .int x2, .int x3]) (rest := []) X hd (mX5_canSet l G σ o T_44 x1 x2 x3 rfl) (lw_V q1596 q1598 qs61 q156 q1599) (by decide +kernel) ⟨Nat.le_of_ble_eq_true rfl, Nat.le_of_ble_eq_true rfl⟩ rfl hl.1 rfl (Nat.le_of_ble_eq_true rfl) dX5_set_9 ⟨Nat.le_of_ble_eq_true rfl, Nat.le_of_ble_eq_true rfl⟩ (fun H locs z_45 hd => ?_)
  refine lv_if_ne (tgt := 17) hx hb dX5_set_12 (by decide) (fun c_46 => ?_) (fun c_46 => ?_)
  · have hf := bf_ie hf c_46
    refine lv_iload_n hx hb dX5_set_17 rfl (lv_at hl 1 rfl) ?_
    refine lv_if_ne (tgt := 26) hx hb dX5_set_18 (by decide) (fun c_47 => ?_) (fun c_47 => ?_)
    · have hf := bf_ie hf c_47
      exact J26 T_44 _ _ _ hf hd (lv_sub hl [0, 1, 2, 3] rfl)
    · have hf := bf_it hf c_47
      refine lv_aload_n hx hb dX5_set_21 rfl (lv_at hl 0 rfl) ?_
      refine lv_iload_n hx hb dX5_set_22 rfl (lv_at hl 3 rfl) ?_
      refine bf_tpi X hd 8 (by decide) ⟨rfl, rfl, rfl⟩ q1391 dX5_set_23 (fun H locs hd => ?_)
      obtain ⟨T_48, eT_48, hf⟩ := bf_l_e hf
      have hd := hd.of (congrArg (bf_pT G σ o) eT_48.symm)
      exact J26 T_48 _ _ _ hf hd (lv_sub hl [0, 1, 2, 3] rfl)
  · have hf := bf_it hf c_46
    refine lv_iconst (v := 0) hx hb dX5_set_15 (by decide) ?_
    exact kret _ _ _ _ _ _ ⟨(bf_pr hf).1, congrArg (bf_pT G σ o) (bf_pr hf).2⟩ (Or.inl rfl) hd dX5_set_16
def fX5_types_3b (x1 : Int32) (k3 : Int32 → bf_TS → Option (bf_TS)) (v3_2 : Int32) (T3 : bf_TS) : Option (bf_TS) := if v3_2 < 0 then (some T3) else (bf_c (bf_in (T3 14 0) 400) <| bf_l (bf_u2 T3 13 (T3 14 0).toNatClampNeg ((x1 >>> (v3_2 &&& 31)) &&& 255)) fun T_3 => bf_l (bf_u2 T_3 14 0 ((T_3 14 0) + 1)) fun T_4 => bf_l (v3_2 + (-8)) fun x2_5 => k3 x2_5 T_4)
def fX5_types_3 (x1 : Int32) : Nat → Int32 → bf_TS → Option (bf_TS)
  | 0, _, _ => none
  | n + 1, v3_2, T3 => fX5_types_3b x1 (fX5_types_3 x1 n) v3_2 T3
def fX5_types (T : bf_TS) (x1 : Int32) : Option (bf_TS) := fX5_types_3 x1 bf_fuel 24 T
set_option maxHeartbeats 4000000 in
theorem mX5_types (l : Launch) (G : bf_G) (σ : bf_V) (o : Nat) (T : bf_TS) (x1 : Int32) {T' : bf_TS} (hf : fX5_types T x1 = some T') : bf_MV l G yX5_types cX5_types 3 (bf_rm 0) [.ref o, .int x1] (bf_pT G σ o T) (fun σ' => σ' = bf_pT G σ o T') := by
  refine bf_MV.of rfl (Nat.le_of_ble_eq_true rfl) ?_
  intro p e s m below meth c Q X hlk hnm kret hd ls hl
  have hx := X.1
  have hb := X.2.1
  have hown := X.2.2.2.1
  have hts := X.2.2.2.2
  have hl : lv_has ls 3 [(0, .ref o), (1, .int x1)] := hl
  have L3 : ∀ (n3 : Nat) (v3_2 : Int32) (T3 : bf_TS) (H : Heap) (locs : List Loc) (ls : Array Slot), fX5_types_3 x1 n3 v3_2 T3 = some T' → bf_Dy G s H locs (bf_pT G σ o T3) → lv_has ls 3 [(0, .ref o), (1, .int x1), (2, .int v3_2)] → W p l e (bf_rm 0) s m ([.ref o, .int x1] : List Value).toArray below meth c H locs 0 0 Q (F0 m 3 ls []) := by
    intro n3
    induction n3 with
    | zero =>
      intro v3_2 T3 H locs ls hf hd hl
      exact absurd (show (none : Option (bf_TS)) = some T' from hf) (by intro h; cases h)
    | succ n3 ih3 =>
      intro v3_2 T3 H locs ls hf hd hl
      have hf : fX5_types_3b x1 (fX5_types_3 x1 n3) v3_2 T3 = some T' := hf
      unfold fX5_types_3b at hf
      refine lv_iload_n hx hb dX5_types_3 rfl (lv_at hl 2 rfl) ?_
      refine lv_if_lt (tgt := 39) hx hb dX5_types_4 (by decide) (fun c_6 => ?_) (fun c_6 => ?_)
      · have hf := bf_it hf c_6
        exact kret _ _ _ _ _ (congrArg (bf_pT G σ o) (bf_so hf)) hd dX5_types_39
      · have hf := bf_ie hf c_6
        refine lv_aload_n hx hb dX5_types_7 rfl (lv_at hl 0 rfl) ?_
        refine bf_tga X hd 13 (by decide) (by decide) q1396 dX5_types_8 ?_
        refine lv_aload_n hx hb dX5_types_11 rfl (lv_at hl 0 rfl) ?_
        refine bf_tgi X hd 14 (by decide) rfl q1397 dX5_types_12 ?_
        refine lv_iload_n hx hb dX5_types_15 rfl (lv_at hl 1 rfl) ?_
        refine lv_iload_n hx hb dX5_types_16 rfl (lv_at hl 2 rfl) ?_
        refine lv_ishr hx hb dX5_types_17 ?_
        refine lv_sipush (v := 255) hx hb dX5_types_18 (by decide) ?_
        refine lv_iand hx hb dX5_types_21 ?_
        obtain ⟨g_7, hf⟩ := bf_c_some hf
        refine bf_tst X hd 13 (by decide) g_7 dX5_types_22 (fun H locs hd => ?_)
        obtain ⟨T_8, eT_8, hf⟩ := bf_l_e hf
        have hd := hd.of (congrArg (bf_pT G σ o) eT_8.symm)
        refine lv_aload_n hx hb dX5_types_23 rfl (lv_at hl 0 rfl) ?_
        refine lv_aload_n hx hb dX5_types_24 rfl (lv_at hl 0 rfl) ?_
        refine bf_tgi X hd 14 (by decide) rfl q1397 dX5_types_25 ?_
        refine lv_iconst (v := 1) hx hb dX5_types_28 (by decide) ?_
        refine lv_iadd hx hb dX5_types_29 ?_
        refine bf_tpi X hd 14 (by decide) ⟨rfl, rfl, rfl⟩ q1397 dX5_types_30 (fun H locs hd => ?_)
        obtain ⟨T_9, eT_9, hf⟩ := bf_l_e hf
        have hd := hd.of (congrArg (bf_pT G σ o) eT_9.symm)
        obtain ⟨x2_10, ex2_10, hf⟩ := bf_l_e hf
        refine lv_iinc (v := x2_10) (lv' := [(2, .int x2_10), (0, .ref o), (1, .int x1)]) hx hb dX5_types_33 hl (k := 2) rfl (by rw [ex2_10]; rfl) (by decide) rfl (fun ls hl => ?_)
        refine lv_goto (tgt := 3) hx hb dX5_types_36 (by decide) ?_
        exact ih3 x2_10 T_9 _ _ _ hf hd (lv_sub hl [1, 2, 0] rfl)
  unfold fX5_types at hf
  refine lv_bipush (v := 24) hx hb dX5_types_0 (by decide) ?_
  refine lv_istore_n (lv' := [(2, .int 24), (0, .ref o), (1, .int x1)]) hx hb dX5_types_2 rfl hl (by decide) rfl (fun ls hl => ?_)
  exact L3 bf_fuel 24 T _ _ _ hf hd (lv_sub hl [1, 2, 0] rfl)
def fX5_feed (T : bf_TS) (x1 x2 x3 x4 x5 : Int32) : Option (Int32 × bf_TS) := bf_l (bf_u2 T 0 0 0) fun T_1 => if (T_1 14 0) ≤ 380 then (bf_b (fX5_types T_1 x1) fun T_3 => bf_b (fX5_types T_3 x2) fun T_4 => bf_b (fX5_types T_4 x3) fun T_5 => bf_b (fX5_types T_5 x4) fun T_6 => bf_b (fX5_types T_6 x5) fun T_7 => some ((T_7 14 0), T_7)) else (some ((-1), T_1))
set_option maxHeartbeats 4000000 in
theorem mX5_feed (l : Launch) (G : bf_G) (σ : bf_V) (o : Nat) (T : bf_TS) (x1 x2 x3 x4 x5 : Int32) {r : Int32} {T' : bf_TS} (hf : fX5_feed T x1 x2 x3 x4 x5 = some (r, T')) : bf_MI l G yX5_feed cX5_feed 6 (bf_rm 1) [.ref o, .int x1, .int x2, .int x3, .int x4, .int x5] (bf_pT G σ o T) (fun v σ' => v = r ∧ σ' = bf_pT G σ o T') := by
  refine bf_MI.of rfl (Nat.le_of_ble_eq_true rfl) ?_
  intro p e s m below meth c Q X hlk hnm kret hd ls hl
  have hx := X.1
  have hb := X.2.1
  have hown := X.2.2.2.1
  have hts := X.2.2.2.2
  have hl : lv_has ls 6 [(0, .ref o), (1, .int x1), (2, .int x2), (3, .int x3), (4, .int x4), (5, .int x5)] := hl
  unfold fX5_feed at hf
  refine lv_aload_n hx hb dX5_feed_0 rfl (lv_at hl 0 rfl) ?_
  refine lv_iconst (v := 0) hx hb dX5_feed_1 (by decide) ?_
  refine bf_tpi X hd 0 (by decide) ⟨rfl, rfl, rfl⟩ q1383 dX5_feed_2 (fun H locs hd => ?_)
  obtain ⟨T_8, eT_8, hf⟩ := bf_l_e hf
  have hd := hd.of (congrArg (bf_pT G σ o) eT_8.symm)
  refine lv_aload_n hx hb dX5_feed_5 rfl (lv_at hl 0 rfl) ?_
  refine bf_tgi X hd 14 (by decide) rfl q1397 dX5_feed_6 ?_
  refine lv_sipush (v := 380) hx hb dX5_feed_9 (by decide) ?_
  refine lv_icmp_le (tgt := 17) hx hb dX5_feed_12 (by decide) (fun c_9 => ?_) (fun c_9 => ?_)
  · have hf := bf_it hf c_9
    refine lv_aload_n hx hb dX5_feed_17 rfl (lv_at hl 0 rfl) ?_
    refine lv_iload_n hx hb dX5_feed_18 rfl (lv_at hl 1 rfl) ?_
    obtain ⟨T_10, eT_10, hf⟩ := bf_b_some hf
    refine bf_tcv (n := 1) (As := [.int x1]) (rest := []) X hd (mX5_types l G σ o T_8 x1 eT_10) (lw_V q1608 q1610 qs63 q156 q1611) (by decide +kernel) ⟨Nat.le_of_ble_eq_true rfl, Nat.le_of_ble_eq_true rfl⟩ rfl hl.1 rfl (Nat.le_of_ble_eq_true rfl) dX5_feed_19 ⟨Nat.le_of_ble_eq_true rfl, Nat.le_of_ble_eq_true rfl⟩ (fun H locs hd => ?_)
    refine lv_aload_n hx hb dX5_feed_22 rfl (lv_at hl 0 rfl) ?_
    refine lv_iload_n hx hb dX5_feed_23 rfl (lv_at hl 2 rfl) ?_
    obtain ⟨T_11, eT_11, hf⟩ := bf_b_some hf
    refine bf_tcv (n := 1) (As := [.int x2]) (rest := []) X hd (mX5_types l G σ o T_10 x2 eT_11) (lw_V q1608 q1610 qs63 q156 q1611) (by decide +kernel) ⟨Nat.le_of_ble_eq_true rfl, Nat.le_of_ble_eq_true rfl⟩ rfl hl.1 rfl (Nat.le_of_ble_eq_true rfl) dX5_feed_24 ⟨Nat.le_of_ble_eq_true rfl, Nat.le_of_ble_eq_true rfl⟩ (fun H locs hd => ?_)
    refine lv_aload_n hx hb dX5_feed_27 rfl (lv_at hl 0 rfl) ?_
    refine lv_iload_n hx hb dX5_feed_28 rfl (lv_at hl 3 rfl) ?_
    obtain ⟨T_12, eT_12, hf⟩ := bf_b_some hf
    refine bf_tcv (n := 1) (As := [.int x3]) (rest := []) X hd (mX5_types l G σ o T_11 x3 eT_12) (lw_V q1608 q1610 qs63 q156 q1611) (by decide +kernel) ⟨Nat.le_of_ble_eq_true rfl, Nat.le_of_ble_eq_true rfl⟩ rfl hl.1 rfl (Nat.le_of_ble_eq_true rfl) dX5_feed_29 ⟨Nat.le_of_ble_eq_true rfl, Nat.le_of_ble_eq_true rfl⟩ (fun H locs hd => ?_)
    refine lv_aload_n hx hb dX5_feed_32 rfl (lv_at hl 0 rfl) ?_
    refine lv_iload hx hb dX5_feed_33 (lv_at hl 4 rfl) ?_
    obtain ⟨T_13, eT_13, hf⟩ := bf_b_some hf
    refine bf_tcv (n := 1) (As := [.int x4]) (rest := []) X hd (mX5_types l G σ o T_12 x4 eT_13) (lw_V q1608 q1610 qs63 q156 q1611) (by decide +kernel) ⟨Nat.le_of_ble_eq_true rfl, Nat.le_of_ble_eq_true rfl⟩ rfl hl.1 rfl (Nat.le_of_ble_eq_true rfl) dX5_feed_35 ⟨Nat.le_of_ble_eq_true rfl, Nat.le_of_ble_eq_true rfl⟩ (fun H locs hd => ?_)
    refine lv_aload_n hx hb dX5_feed_38 rfl (lv_at hl 0 rfl) ?_
    refine lv_iload hx hb dX5_feed_39 (lv_at hl 5 rfl) ?_
    obtain ⟨T_14, eT_14, hf⟩ := bf_b_some hf
    refine bf_tcv (n := 1) (As := [.int x5]) (rest := []) X hd (mX5_types l G σ o T_13 x5 eT_14) (lw_V q1608 q1610 qs63 q156 q1611) (by decide +kernel) ⟨Nat.le_of_ble_eq_true rfl, Nat.le_of_ble_eq_true rfl⟩ rfl hl.1 rfl (Nat.le_of_ble_eq_true rfl) dX5_feed_41 ⟨Nat.le_of_ble_eq_true rfl, Nat.le_of_ble_eq_true rfl⟩ (fun H locs hd => ?_)
    refine lv_aload_n hx hb dX5_feed_44 rfl (lv_at hl 0 rfl) ?_
    refine bf_tgi X hd 14 (by decide) rfl q1397 dX5_feed_45 ?_
    exact kret _ _ _ _ _ _ ⟨(bf_pr hf).1, congrArg (bf_pT G σ o) (bf_pr hf).2⟩ hd dX5_feed_48
  · have hf := bf_ie hf c_9
    refine lv_iconst (v := (-1)) hx hb dX5_feed_15 (by decide) ?_
    exact kret _ _ _ _ _ _ ⟨(bf_pr hf).1, congrArg (bf_pT G σ o) (bf_pr hf).2⟩ hd dX5_feed_16
def fX5_end (T : bf_TS) (x1 : Int32) : Option (Int32 × bf_TS) := bf_l (bf_u2 T 0 0 0) fun T_1 => if (fX5_isIn x1 0 (T_1 14 0)) = 0 then (some (0, T_1)) else (bf_l (bf_u2 T_1 14 0 x1) fun T_4 => some (1, T_4))
set_option maxHeartbeats 4000000 in
theorem mX5_end (l : Launch) (G : bf_G) (σ : bf_V) (o : Nat) (T : bf_TS) (x1 : Int32) {r : Int32} {T' : bf_TS} (hf : fX5_end T x1 = some (r, T')) : bf_MZ l G yX5_end cX5_end 2 (bf_rm 1) [.ref o, .int x1] (bf_pT G σ o T) (fun v σ' => v = r ∧ σ' = bf_pT G σ o T') := by
  refine bf_MZ.of rfl (Nat.le_of_ble_eq_true rfl) ?_
  intro p e s m below meth c Q X hlk hnm kret hd ls hl
  have hx := X.1
  have hb := X.2.1
  have hown := X.2.2.2.1
  have hts := X.2.2.2.2
  have hl : lv_has ls 2 [(0, .ref o), (1, .int x1)] := hl
  unfold fX5_end at hf
  refine lv_aload_n hx hb dX5_end_0 rfl (lv_at hl 0 rfl) ?_
  refine lv_iconst (v := 0) hx hb dX5_end_1 (by decide) ?_
  refine bf_tpi X hd 0 (by decide) ⟨rfl, rfl, rfl⟩ q1383 dX5_end_2 (fun H locs hd => ?_)
  obtain ⟨T_5, eT_5, hf⟩ := bf_l_e hf
  have hd := hd.of (congrArg (bf_pT G σ o) eT_5.symm)
  refine lv_aload_n hx hb dX5_end_5 rfl (lv_at hl 0 rfl) ?_
  refine lv_iload_n hx hb dX5_end_6 rfl (lv_at hl 1 rfl) ?_
  refine lv_iconst (v := 0) hx hb dX5_end_7 (by decide) ?_
  refine lv_aload_n hx hb dX5_end_8 rfl (lv_at hl 0 rfl) ?_
  refine bf_tgi X hd 14 (by decide) rfl q1397 dX5_end_9 ?_
  refine bf_tcz (n := 3) (As := [.int x1, .int 0, .int (T_5 14 0)]) (rest := []) X hd (mX5_isIn l G σ o T_5 x1 0 (T_5 14 0) rfl) (lw_V q1564 q1566 qs56 q156 q1567) (by decide +kernel) ⟨Nat.le_of_ble_eq_true rfl, Nat.le_of_ble_eq_true rfl⟩ rfl hl.1 rfl (Nat.le_of_ble_eq_true rfl) dX5_end_12 ⟨Nat.le_of_ble_eq_true rfl, Nat.le_of_ble_eq_true rfl⟩ (fun H locs z_6 hd => ?_)
  refine lv_if_ne (tgt := 20) hx hb dX5_end_15 (by decide) (fun c_7 => ?_) (fun c_7 => ?_)
  · have hf := bf_ie hf c_7
    refine lv_aload_n hx hb dX5_end_20 rfl (lv_at hl 0 rfl) ?_
    refine lv_iload_n hx hb dX5_end_21 rfl (lv_at hl 1 rfl) ?_
    refine bf_tpi X hd 14 (by decide) ⟨rfl, rfl, rfl⟩ q1397 dX5_end_22 (fun H locs hd => ?_)
    obtain ⟨T_8, eT_8, hf⟩ := bf_l_e hf
    have hd := hd.of (congrArg (bf_pT G σ o) eT_8.symm)
    refine lv_iconst (v := 1) hx hb dX5_end_25 (by decide) ?_
    exact kret _ _ _ _ _ _ ⟨(bf_pr hf).1, congrArg (bf_pT G σ o) (bf_pr hf).2⟩ (Or.inr rfl) hd dX5_end_26
  · have hf := bf_it hf c_7
    refine lv_iconst (v := 0) hx hb dX5_end_18 (by decide) ?_
    exact kret _ _ _ _ _ _ ⟨(bf_pr hf).1, congrArg (bf_pT G σ o) (bf_pr hf).2⟩ (Or.inl rfl) hd dX5_end_19
def fX5_raw (T : bf_TS) (x1 : Int32) : Option (Int32) := if (T 14 0) ≤ x1 then (some (-1)) else (bf_c (bf_in x1 400) <| some (T 13 (x1).toNatClampNeg))
set_option maxHeartbeats 4000000 in
theorem mX5_raw (l : Launch) (G : bf_G) (σ : bf_V) (o : Nat) (T : bf_TS) (x1 : Int32) {r : Int32} (hf : fX5_raw T x1 = some r) : bf_MI l G yX5_raw cX5_raw 2 (bf_rm 0) [.ref o, .int x1] (bf_pT G σ o T) (fun v σ' => v = r ∧ σ' = bf_pT G σ o T) := by
  refine bf_MI.of rfl (Nat.le_of_ble_eq_true rfl) ?_
  intro p e s m below meth c Q X hlk hnm kret hd ls hl
  have hx := X.1
  have hb := X.2.1
  have hown := X.2.2.2.1
  have hts := X.2.2.2.2
  have hl : lv_has ls 2 [(0, .ref o), (1, .int x1)] := hl
  unfold fX5_raw at hf
  refine lv_iload_n hx hb dX5_raw_0 rfl (lv_at hl 1 rfl) ?_
  refine lv_aload_n hx hb dX5_raw_1 rfl (lv_at hl 0 rfl) ?_
  refine bf_tgi X hd 14 (by decide) rfl q1397 dX5_raw_2 ?_
  refine lv_icmp_ge (tgt := 17) hx hb dX5_raw_5 (by decide) (fun c_3 => ?_) (fun c_3 => ?_)
  · have hf := bf_it hf c_3
    refine lv_iconst (v := (-1)) hx hb dX5_raw_17 (by decide) ?_
    exact kret _ _ _ _ _ _ ⟨bf_so hf, rfl⟩ hd dX5_raw_18
  · have hf := bf_ie hf c_3
    refine lv_aload_n hx hb dX5_raw_8 rfl (lv_at hl 0 rfl) ?_
    refine bf_tga X hd 13 (by decide) (by decide) q1396 dX5_raw_9 ?_
    refine lv_iload_n hx hb dX5_raw_12 rfl (lv_at hl 1 rfl) ?_
    obtain ⟨g_4, hf⟩ := bf_c_some hf
    refine bf_tld X hd 13 (by decide) g_4 dX5_raw_13 ?_
    refine lv_goto (tgt := 18) hx hb dX5_raw_14 (by decide) ?_
    exact kret _ _ _ _ _ _ ⟨bf_so hf, rfl⟩ hd dX5_raw_18
def fX5_isLetter (x1 : Int32) : Int32 := if (fX5_isIn x1 97 122) = 0 then (if (fX5_isIn x1 65 90) = 0 then (0) else (1)) else (1)
set_option maxHeartbeats 4000000 in
theorem mX5_isLetter (l : Launch) (G : bf_G) (σ : bf_V) (o : Nat) (T : bf_TS) (x1 : Int32) {r : Int32} (hf : fX5_isLetter x1 = r) : bf_MZ l G yX5_isLetter cX5_isLetter 2 (bf_rm 1) [.ref o, .int x1] (bf_pT G σ o T) (fun v σ' => v = r ∧ σ' = bf_pT G σ o T) := by
  refine bf_MZ.of rfl (Nat.le_of_ble_eq_true rfl) ?_
  intro p e s m below meth c Q X hlk hnm kret hd ls hl
  have hx := X.1
  have hb := X.2.1
  have hown := X.2.2.2.1
  have hts := X.2.2.2.2
  have hl : lv_has ls 2 [(0, .ref o), (1, .int x1)] := hl
  unfold fX5_isLetter at hf
  refine lv_aload_n hx hb dX5_isLetter_0 rfl (lv_at hl 0 rfl) ?_
  refine lv_iload_n hx hb dX5_isLetter_1 rfl (lv_at hl 1 rfl) ?_
  refine lv_bipush (v := 97) hx hb dX5_isLetter_2 (by decide) ?_
  refine lv_bipush (v := 122) hx hb dX5_isLetter_4 (by decide) ?_
  refine bf_tcz (n := 3) (As := [.int x1, .int 97, .int 122]) (rest := []) X hd (mX5_isIn l G σ o T x1 97 122 rfl) (lw_V q1564 q1566 qs56 q156 q1567) (by decide +kernel) ⟨Nat.le_of_ble_eq_true rfl, Nat.le_of_ble_eq_true rfl⟩ rfl hl.1 rfl (Nat.le_of_ble_eq_true rfl) dX5_isLetter_6 ⟨Nat.le_of_ble_eq_true rfl, Nat.le_of_ble_eq_true rfl⟩ (fun H locs z_5 hd => ?_)
  refine lv_if_ne (tgt := 24) hx hb dX5_isLetter_9 (by decide) (fun c_6 => ?_) (fun c_6 => ?_)
  · have hf := bf_ie hf c_6
    refine lv_iconst (v := 1) hx hb dX5_isLetter_24 (by decide) ?_
    refine lv_goto (tgt := 29) hx hb dX5_isLetter_25 (by decide) ?_
    exact kret _ _ _ _ _ _ ⟨hf, rfl⟩ (Or.inr rfl) hd dX5_isLetter_29
  · have hf := bf_it hf c_6
    refine lv_aload_n hx hb dX5_isLetter_12 rfl (lv_at hl 0 rfl) ?_
    refine lv_iload_n hx hb dX5_isLetter_13 rfl (lv_at hl 1 rfl) ?_
    refine lv_bipush (v := 65) hx hb dX5_isLetter_14 (by decide) ?_
    refine lv_bipush (v := 90) hx hb dX5_isLetter_16 (by decide) ?_
    refine bf_tcz (n := 3) (As := [.int x1, .int 65, .int 90]) (rest := []) X hd (mX5_isIn l G σ o T x1 65 90 rfl) (lw_V q1564 q1566 qs56 q156 q1567) (by decide +kernel) ⟨Nat.le_of_ble_eq_true rfl, Nat.le_of_ble_eq_true rfl⟩ rfl hl.1 rfl (Nat.le_of_ble_eq_true rfl) dX5_isLetter_18 ⟨Nat.le_of_ble_eq_true rfl, Nat.le_of_ble_eq_true rfl⟩ (fun H locs z_7 hd => ?_)
    refine lv_if_eq (tgt := 28) hx hb dX5_isLetter_21 (by decide) (fun c_8 => ?_) (fun c_8 => ?_)
    · have hf := bf_it hf c_8
      refine lv_iconst (v := 0) hx hb dX5_isLetter_28 (by decide) ?_
      exact kret _ _ _ _ _ _ ⟨hf, rfl⟩ (Or.inl rfl) hd dX5_isLetter_29
    · have hf := bf_ie hf c_8
      refine lv_iconst (v := 1) hx hb dX5_isLetter_24 (by decide) ?_
      refine lv_goto (tgt := 29) hx hb dX5_isLetter_25 (by decide) ?_
      exact kret _ _ _ _ _ _ ⟨hf, rfl⟩ (Or.inr rfl) hd dX5_isLetter_29
def fX5_isDigit (x1 : Int32) : Int32 := (fX5_isIn x1 48 57)
set_option maxHeartbeats 4000000 in
theorem mX5_isDigit (l : Launch) (G : bf_G) (σ : bf_V) (o : Nat) (T : bf_TS) (x1 : Int32) {r : Int32} (hf : fX5_isDigit x1 = r) : bf_MZ l G yX5_isDigit cX5_isDigit 2 (bf_rm 1) [.ref o, .int x1] (bf_pT G σ o T) (fun v σ' => v = r ∧ σ' = bf_pT G σ o T) := by
  refine bf_MZ.of rfl (Nat.le_of_ble_eq_true rfl) ?_
  intro p e s m below meth c Q X hlk hnm kret hd ls hl
  have hx := X.1
  have hb := X.2.1
  have hown := X.2.2.2.1
  have hts := X.2.2.2.2
  have hl : lv_has ls 2 [(0, .ref o), (1, .int x1)] := hl
  unfold fX5_isDigit at hf
  refine lv_aload_n hx hb dX5_isDigit_0 rfl (lv_at hl 0 rfl) ?_
  refine lv_iload_n hx hb dX5_isDigit_1 rfl (lv_at hl 1 rfl) ?_
  refine lv_bipush (v := 48) hx hb dX5_isDigit_2 (by decide) ?_
  refine lv_bipush (v := 57) hx hb dX5_isDigit_4 (by decide) ?_
  refine bf_tcz (n := 3) (As := [.int x1, .int 48, .int 57]) (rest := []) X hd (mX5_isIn l G σ o T x1 48 57 rfl) (lw_V q1564 q1566 qs56 q156 q1567) (by decide +kernel) ⟨Nat.le_of_ble_eq_true rfl, Nat.le_of_ble_eq_true rfl⟩ rfl hl.1 rfl (Nat.le_of_ble_eq_true rfl) dX5_isDigit_6 ⟨Nat.le_of_ble_eq_true rfl, Nat.le_of_ble_eq_true rfl⟩ (fun H locs z_2 hd => ?_)
  exact kret _ _ _ _ _ _ ⟨hf, rfl⟩ z_2 hd dX5_isDigit_9
def fX5_isMarkSign (x1 : Int32) : Int32 := if x1 = 59 then (1) else (if x1 = 43 then (1) else (if x1 = 45 then (1) else (if x1 = 42 then (1) else (if x1 = 47 then (1) else (if x1 = 40 then (1) else (if x1 = 41 then (1) else (if x1 = 60 then (1) else (if x1 = 61 then (1) else (if x1 = 62 then (1) else (0))))))))))
set_option maxHeartbeats 4000000 in
theorem mX5_isMarkSign (l : Launch) (G : bf_G) (σ : bf_V) (o : Nat) (T : bf_TS) (x1 : Int32) {r : Int32} (hf : fX5_isMarkSign x1 = r) : bf_MZ l G yX5_isMarkSign cX5_isMarkSign 2 (bf_rm 0) [.ref o, .int x1] (bf_pT G σ o T) (fun v σ' => v = r ∧ σ' = bf_pT G σ o T) := by
  refine bf_MZ.of rfl (Nat.le_of_ble_eq_true rfl) ?_
  intro p e s m below meth c Q X hlk hnm kret hd ls hl
  have hx := X.1
  have hb := X.2.1
  have hown := X.2.2.2.1
  have hts := X.2.2.2.2
  have hl : lv_has ls 2 [(0, .ref o), (1, .int x1)] := hl
  unfold fX5_isMarkSign at hf
  refine lv_iload_n hx hb dX5_isMarkSign_0 rfl (lv_at hl 1 rfl) ?_
  refine lv_bipush (v := 59) hx hb dX5_isMarkSign_1 (by decide) ?_
  refine lv_icmp_eq (tgt := 60) hx hb dX5_isMarkSign_3 (by decide) (fun c_11 => ?_) (fun c_11 => ?_)
  · have hf := bf_it hf c_11
    refine lv_iconst (v := 1) hx hb dX5_isMarkSign_60 (by decide) ?_
    refine lv_goto (tgt := 65) hx hb dX5_isMarkSign_61 (by decide) ?_
    exact kret _ _ _ _ _ _ ⟨hf, rfl⟩ (Or.inr rfl) hd dX5_isMarkSign_65
  · have hf := bf_ie hf c_11
    refine lv_iload_n hx hb dX5_isMarkSign_6 rfl (lv_at hl 1 rfl) ?_
    refine lv_bipush (v := 43) hx hb dX5_isMarkSign_7 (by decide) ?_
    refine lv_icmp_eq (tgt := 60) hx hb dX5_isMarkSign_9 (by decide) (fun c_12 => ?_) (fun c_12 => ?_)
    · have hf := bf_it hf c_12
      refine lv_iconst (v := 1) hx hb dX5_isMarkSign_60 (by decide) ?_
      refine lv_goto (tgt := 65) hx hb dX5_isMarkSign_61 (by decide) ?_
      exact kret _ _ _ _ _ _ ⟨hf, rfl⟩ (Or.inr rfl) hd dX5_isMarkSign_65
    · have hf := bf_ie hf c_12
      refine lv_iload_n hx hb dX5_isMarkSign_12 rfl (lv_at hl 1 rfl) ?_
      refine lv_bipush (v := 45) hx hb dX5_isMarkSign_13 (by decide) ?_
      refine lv_icmp_eq (tgt := 60) hx hb dX5_isMarkSign_15 (by decide) (fun c_13 => ?_) (fun c_13 => ?_)
      · have hf := bf_it hf c_13
        refine lv_iconst (v := 1) hx hb dX5_isMarkSign_60 (by decide) ?_
        refine lv_goto (tgt := 65) hx hb dX5_isMarkSign_61 (by decide) ?_
        exact kret _ _ _ _ _ _ ⟨hf, rfl⟩ (Or.inr rfl) hd dX5_isMarkSign_65
      · have hf := bf_ie hf c_13
        refine lv_iload_n hx hb dX5_isMarkSign_18 rfl (lv_at hl 1 rfl) ?_
        refine lv_bipush (v := 42) hx hb dX5_isMarkSign_19 (by decide) ?_
        refine lv_icmp_eq (tgt := 60) hx hb dX5_isMarkSign_21 (by decide) (fun c_14 => ?_) (fun c_14 => ?_)
        · have hf := bf_it hf c_14
          refine lv_iconst (v := 1) hx hb dX5_isMarkSign_60 (by decide) ?_
          refine lv_goto (tgt := 65) hx hb dX5_isMarkSign_61 (by decide) ?_
          exact kret _ _ _ _ _ _ ⟨hf, rfl⟩ (Or.inr rfl) hd dX5_isMarkSign_65
        · have hf := bf_ie hf c_14
          refine lv_iload_n hx hb dX5_isMarkSign_24 rfl (lv_at hl 1 rfl) ?_
          refine lv_bipush (v := 47) hx hb dX5_isMarkSign_25 (by decide) ?_
          refine lv_icmp_eq (tgt := 60) hx hb dX5_isMarkSign_27 (by decide) (fun c_15 => ?_) (fun c_15 => ?_)
          · have hf := bf_it hf c_15
            refine lv_iconst (v := 1) hx hb dX5_isMarkSign_60 (by decide) ?_
            refine lv_goto (tgt := 65) hx hb dX5_isMarkSign_61 (by decide) ?_
            exact kret _ _ _ _ _ _ ⟨hf, rfl⟩ (Or.inr rfl) hd dX5_isMarkSign_65
          · have hf := bf_ie hf c_15
            refine lv_iload_n hx hb dX5_isMarkSign_30 rfl (lv_at hl 1 rfl) ?_
            refine lv_bipush (v := 40) hx hb dX5_isMarkSign_31 (by decide) ?_
            refine lv_icmp_eq (tgt := 60) hx hb dX5_isMarkSign_33 (by decide) (fun c_16 => ?_) (fun c_16 => ?_)
            · have hf := bf_it hf c_16
              refine lv_iconst (v := 1) hx hb dX5_isMarkSign_60 (by decide) ?_
              refine lv_goto (tgt := 65) hx hb dX5_isMarkSign_61 (by decide) ?_
              exact kret _ _ _ _ _ _ ⟨hf, rfl⟩ (Or.inr rfl) hd dX5_isMarkSign_65
            · have hf := bf_ie hf c_16
              refine lv_iload_n hx hb dX5_isMarkSign_36 rfl (lv_at hl 1 rfl) ?_
              refine lv_bipush (v := 41) hx hb dX5_isMarkSign_37 (by decide) ?_
              refine lv_icmp_eq (tgt := 60) hx hb dX5_isMarkSign_39 (by decide) (fun c_17 => ?_) (fun c_17 => ?_)
              · have hf := bf_it hf c_17
                refine lv_iconst (v := 1) hx hb dX5_isMarkSign_60 (by decide) ?_
                refine lv_goto (tgt := 65) hx hb dX5_isMarkSign_61 (by decide) ?_
                exact kret _ _ _ _ _ _ ⟨hf, rfl⟩ (Or.inr rfl) hd dX5_isMarkSign_65
              · have hf := bf_ie hf c_17
                refine lv_iload_n hx hb dX5_isMarkSign_42 rfl (lv_at hl 1 rfl) ?_
                refine lv_bipush (v := 60) hx hb dX5_isMarkSign_43 (by decide) ?_
                refine lv_icmp_eq (tgt := 60) hx hb dX5_isMarkSign_45 (by decide) (fun c_18 => ?_) (fun c_18 => ?_)
                · have hf := bf_it hf c_18
                  refine lv_iconst (v := 1) hx hb dX5_isMarkSign_60 (by decide) ?_
                  refine lv_goto (tgt := 65) hx hb dX5_isMarkSign_61 (by decide) ?_
                  exact kret _ _ _ _ _ _ ⟨hf, rfl⟩ (Or.inr rfl) hd dX5_isMarkSign_65
                · have hf := bf_ie hf c_18
                  refine lv_iload_n hx hb dX5_isMarkSign_48 rfl (lv_at hl 1 rfl) ?_
                  refine lv_bipush (v := 61) hx hb dX5_isMarkSign_49 (by decide) ?_
                  refine lv_icmp_eq (tgt := 60) hx hb dX5_isMarkSign_51 (by decide) (fun c_19 => ?_) (fun c_19 => ?_)
                  · have hf := bf_it hf c_19
                    refine lv_iconst (v := 1) hx hb dX5_isMarkSign_60 (by decide) ?_
                    refine lv_goto (tgt := 65) hx hb dX5_isMarkSign_61 (by decide) ?_
                    exact kret _ _ _ _ _ _ ⟨hf, rfl⟩ (Or.inr rfl) hd dX5_isMarkSign_65
                  · have hf := bf_ie hf c_19
                    refine lv_iload_n hx hb dX5_isMarkSign_54 rfl (lv_at hl 1 rfl) ?_
                    refine lv_bipush (v := 62) hx hb dX5_isMarkSign_55 (by decide) ?_
                    refine lv_icmp_ne (tgt := 64) hx hb dX5_isMarkSign_57 (by decide) (fun c_20 => ?_) (fun c_20 => ?_)
                    · have hf := bf_ie hf c_20
                      refine lv_iconst (v := 0) hx hb dX5_isMarkSign_64 (by decide) ?_
                      exact kret _ _ _ _ _ _ ⟨hf, rfl⟩ (Or.inl rfl) hd dX5_isMarkSign_65
                    · have hf := bf_it hf c_20
                      refine lv_iconst (v := 1) hx hb dX5_isMarkSign_60 (by decide) ?_
                      refine lv_goto (tgt := 65) hx hb dX5_isMarkSign_61 (by decide) ?_
                      exact kret _ _ _ _ _ _ ⟨hf, rfl⟩ (Or.inr rfl) hd dX5_isMarkSign_65
