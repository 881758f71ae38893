set_option maxRecDepth 100000
def fX5_weighs_62 (k19 : Int32 → Int32 → bf_TS → Option (Int32 × bf_TS)) (x1 : Int32) (w62_2 : Int32) (w62_3 : Int32) (T62 : bf_TS) : Option (Int32 × bf_TS) := bf_l (w62_3 + 1) fun x3_11 => k19 w62_2 x3_11 T62
def fX5_weighs_19b (x1 : Int32) (k19 : Int32 → Int32 → bf_TS → Option (Int32 × bf_TS)) (v19_2 : Int32) (v19_3 : Int32) (T19 : bf_TS) : Option (Int32 × bf_TS) := if (1 <<< ((T19 6 0) &&& 31)) ≤ v19_3 then (some (v19_2, T19)) else (if (fX5_has v19_3 x1) = 0 then (bf_b (fX5_doesRule T19 v19_3) fun r_4 => if r_4 = 0 then (bf_b (fX5_doesRule T19 (v19_3 ||| (1 <<< (x1 &&& 31)))) fun r_7 => if r_7 = 0 then (fX5_weighs_62 k19 x1 v19_2 v19_3 T19) else (bf_l ((v19_2 + 1)) fun x2_10 => fX5_weighs_62 k19 x1 x2_10 v19_3 T19)) else (fX5_weighs_62 k19 x1 v19_2 v19_3 T19)) else (fX5_weighs_62 k19 x1 v19_2 v19_3 T19))
def fX5_weighs_19 (x1 : Int32) : Nat → Int32 → Int32 → bf_TS → Option (Int32 × bf_TS)
  | 0, _, _, _ => none
  | n + 1, v19_2, v19_3, T19 => fX5_weighs_19b x1 (fX5_weighs_19 x1 n) v19_2 v19_3 T19
def fX5_weighs (T : bf_TS) (x1 : Int32) : Option (Int32 × bf_TS) := bf_l (bf_u2 T 0 0 0) fun T_12 => if (fX5_isParty T_12 x1) = 0 then (some ((-1), T_12)) else (fX5_weighs_19 x1 bf_fuel 0 0 T_12)
set_option maxHeartbeats 4000000 in
theorem mX5_weighs (l : Launch) (G : bf_G) (σ : bf_V) (o : Nat) (T : bf_TS) (x1 : Int32) {r : Int32} {T' : bf_TS} (hf : fX5_weighs T x1 = some (r, T')) : bf_MI l G yX5_weighs cX5_weighs 4 (bf_rm 3) [.ref o, .int x1] (bf_pT G σ o T) (fun v σ' => v = r ∧ σ' = bf_pT G σ o T') := by
  refine bf_MI.of rfl (Nat.le_of_ble_eq_true rfl) ?_
  intro p e s m below meth c Q X hlk hnm kret hd ls hl
  have hx := X.1
  have hb := X.2.1
  have hown := X.2.2.2.1
  have hts := X.2.2.2.2
  have hl : lv_has ls 4 [(0, .ref o), (1, .int x1)] := hl
  have L19 : ∀ (n19 : Nat) (v19_2 : Int32) (v19_3 : Int32) (T19 : bf_TS) (H : Heap) (locs : List Loc) (ls : Array Slot), fX5_weighs_19 x1 n19 v19_2 v19_3 T19 = some (r, T') → bf_Dy G s H locs (bf_pT G σ o T19) → lv_has ls 4 [(0, .ref o), (1, .int x1), (2, .int v19_2), (3, .int v19_3)] → W p l e (bf_rm 3) s m ([.ref o, .int x1] : List Value).toArray below meth c H locs 0 0 Q (F0 m 19 ls []) := by
    intro n19
    induction n19 with
    | zero =>
      intro v19_2 v19_3 T19 H locs ls hf hd hl
      exact absurd (show (none : Option (Int32 × bf_TS)) = some (r, T') from hf) (by intro h; cases h)
    | succ n19 ih19 =>
      intro v19_2 v19_3 T19 H locs ls hf hd hl
      have hf : fX5_weighs_19b x1 (fX5_weighs_19 x1 n19) v19_2 v19_3 T19 = some (r, T') := hf
      unfold fX5_weighs_19b at hf
      have J62 : ∀ (w62_2 : Int32) (w62_3 : Int32) (T62 : bf_TS) (H : Heap) (locs : List Loc) (ls : Array Slot), fX5_weighs_62 (fX5_weighs_19 x1 n19) x1 w62_2 w62_3 T62 = some (r, T') → bf_Dy G s H locs (bf_pT G σ o T62) → lv_has ls 4 [(0, .ref o), (1, .int x1), (2, .int w62_2), (3, .int w62_3)] → W p l e (bf_rm 3) s m ([.ref o, .int x1] : List Value).toArray below meth c H locs 0 0 Q (F0 m 62 ls []) := by
        intro w62_2 w62_3 T62 H locs ls hf hd hl
        unfold fX5_weighs_62 at hf
        obtain ⟨x3_15, ex3_15, hf⟩ := bf_l_e hf
        refine lv_iinc (v := x3_15) (lv' := [(3, .int x3_15), (0, .ref o), (1, .int x1), (2, .int w62_2)]) hx hb dX5_weighs_62 hl (k := 3) rfl (by rw [ex3_15]; rfl) (by decide) rfl (fun ls hl => ?_)
        refine lv_goto (tgt := 19) hx hb dX5_weighs_65 (by decide) ?_
        exact ih19 w62_2 x3_15 T62 _ _ _ hf hd (lv_sub hl [1, 2, 3, 0] rfl)
      refine lv_iload_n hx hb dX5_weighs_19 rfl (lv_at hl 3 rfl) ?_
      refine lv_iconst (v := 1) hx hb dX5_weighs_20 (by decide) ?_
      refine lv_aload_n hx hb dX5_weighs_21 rfl (lv_at hl 0 rfl) ?_
      refine bf_tgi X hd 6 (by decide) rfl q1389 dX5_weighs_22 ?_
      refine lv_ishl hx hb dX5_weighs_25 ?_
      refine lv_icmp_ge (tgt := 68) hx hb dX5_weighs_26 (by decide) (fun c_16 => ?_) (fun c_16 => ?_)
      · have hf := bf_it hf c_16
        refine lv_iload_n hx hb dX5_weighs_68 rfl (lv_at hl 2 rfl) ?_
        exact kret _ _ _ _ _ _ ⟨(bf_pr hf).1, congrArg (bf_pT G σ o) (bf_pr hf).2⟩ hd dX5_weighs_69
      · have hf := bf_ie hf c_16
        refine lv_aload_n hx hb dX5_weighs_29 rfl (lv_at hl 0 rfl) ?_
        refine lv_iload_n hx hb dX5_weighs_30 rfl (lv_at hl 3 rfl) ?_
        refine lv_iload_n hx hb dX5_weighs_31 rfl (lv_at hl 1 rfl) ?_
        refine bf_tcz (n := 2) (As := [.int v19_3, .int x1]) (rest := []) X hd (mX5_has l G σ o T19 v19_3 x1 rfl) (lw_V q1776 q1778 qs100 q156 q1779) (by decide +kernel) ⟨Nat.le_of_ble_eq_true rfl, Nat.le_of_ble_eq_true rfl⟩ rfl hl.1 rfl (Nat.le_of_ble_eq_true rfl) dX5_weighs_32 ⟨Nat.le_of_ble_eq_true rfl, Nat.le_of_ble_eq_true rfl⟩ (fun H locs z_17 hd => ?_)
        refine lv_if_ne (tgt := 62) hx hb dX5_weighs_35 (by decide) (fun c_18 => ?_) (fun c_18 => ?_)
        · have hf := bf_ie hf c_18
          exact J62 v19_2 v19_3 T19 _ _ _ hf hd (lv_sub hl [0, 1, 2, 3] rfl)
        · have hf := bf_it hf c_18
          refine lv_aload_n hx hb dX5_weighs_38 rfl (lv_at hl 0 rfl) ?_
          refine lv_iload_n hx hb dX5_weighs_39 rfl (lv_at hl 3 rfl) ?_
          obtain ⟨r_19, er_19, hf⟩ := bf_b_some hf
          refine bf_tcz (n := 1) (As := [.int v19_3]) (rest := []) X hd (mX5_doesRule l G σ o T19 v19_3 er_19) (lw_V q2012 q2014 qs142 q156 q2015) (by decide +kernel) ⟨Nat.le_of_ble_eq_true rfl, Nat.le_of_ble_eq_true rfl⟩ rfl hl.1 rfl (Nat.le_of_ble_eq_true rfl) dX5_weighs_40 ⟨Nat.le_of_ble_eq_true rfl, Nat.le_of_ble_eq_true rfl⟩ (fun H locs z_20 hd => ?_)
          refine lv_if_ne (tgt := 62) hx hb dX5_weighs_43 (by decide) (fun c_21 => ?_) (fun c_21 => ?_)
          · have hf := bf_ie hf c_21
            exact J62 v19_2 v19_3 T19 _ _ _ hf hd (lv_sub hl [0, 1, 2, 3] rfl)
          · have hf := bf_it hf c_21
            refine lv_aload_n hx hb dX5_weighs_46 rfl (lv_at hl 0 rfl) ?_
            refine lv_iload_n hx hb dX5_weighs_47 rfl (lv_at hl 3 rfl) ?_
            refine lv_iconst (v := 1) hx hb dX5_weighs_48 (by decide) ?_
            refine lv_iload_n hx hb dX5_weighs_49 rfl (lv_at hl 1 rfl) ?_
            refine lv_ishl hx hb dX5_weighs_50 ?_
            refine lv_ior hx hb dX5_weighs_51 ?_
            obtain ⟨r_22, er_22, hf⟩ := bf_b_some hf
            refine bf_tcz (n := 1) (As := [.int (v19_3 ||| (1 <<< (x1 &&& 31)))]) (rest := []) X hd (mX5_doesRule l G σ o T19 (v19_3 ||| (1 <<< (x1 &&& 31))) er_22) (lw_V q2012 q2014 qs142 q156 q2015) (by decide +kernel) ⟨Nat.le_of_ble_eq_true rfl, Nat.le_of_ble_eq_true rfl⟩ rfl hl.1 rfl (Nat.le_of_ble_eq_true rfl) dX5_weighs_52 ⟨Nat.le_of_ble_eq_true rfl, Nat.le_of_ble_eq_true rfl⟩ (fun H locs z_23 hd => ?_)
            refine lv_if_eq (tgt := 62) hx hb dX5_weighs_55 (by decide) (fun c_24 => ?_) (fun c_24 => ?_)
            · have hf := bf_it hf c_24
              exact J62 v19_2 v19_3 T19 _ _ _ hf hd (lv_sub hl [0, 1, 2, 3] rfl)
            · have hf := bf_ie hf c_24
              refine lv_iload_n hx hb dX5_weighs_58 rfl (lv_at hl 2 rfl) ?_
              refine lv_iconst (v := 1) hx hb dX5_weighs_59 (by decide) ?_
              refine lv_iadd hx hb dX5_weighs_60 ?_
              obtain ⟨x2_25, ex2_25, hf⟩ := bf_l_e hf
              refine bf_top ex2_25 ?_
              refine lv_istore_n (lv' := [(2, .int x2_25), (0, .ref o), (1, .int x1), (3, .int v19_3)]) hx hb dX5_weighs_61 rfl hl (by decide) rfl (fun ls hl => ?_)
              exact J62 x2_25 v19_3 T19 _ _ _ hf hd (lv_sub hl [1, 2, 0, 3] rfl)
  unfold fX5_weighs at hf
  refine lv_aload_n hx hb dX5_weighs_0 rfl (lv_at hl 0 rfl) ?_
  refine lv_iconst (v := 0) hx hb dX5_weighs_1 (by decide) ?_
  refine bf_tpi X hd 0 (by decide) ⟨rfl, rfl, rfl⟩ q1383 dX5_weighs_2 (fun H locs hd => ?_)
  obtain ⟨T_26, eT_26, hf⟩ := bf_l_e hf
  have hd := hd.of (congrArg (bf_pT G σ o) eT_26.symm)
  refine lv_aload_n hx hb dX5_weighs_5 rfl (lv_at hl 0 rfl) ?_
  refine lv_iload_n hx hb dX5_weighs_6 rfl (lv_at hl 1 rfl) ?_
  refine bf_tcz (n := 1) (As := [.int x1]) (rest := []) X hd (mX5_isParty l G σ o T_26 x1 rfl) (lw_V q1580 q1582 qs58 q156 q1583) (by decide +kernel) ⟨Nat.le_of_ble_eq_true rfl, Nat.le_of_ble_eq_true rfl⟩ rfl hl.1 rfl (Nat.le_of_ble_eq_true rfl) dX5_weighs_7 ⟨Nat.le_of_ble_eq_true rfl, Nat.le_of_ble_eq_true rfl⟩ (fun H locs z_27 hd => ?_)
  refine lv_if_ne (tgt := 15) hx hb dX5_weighs_10 (by decide) (fun c_28 => ?_) (fun c_28 => ?_)
  · have hf := bf_ie hf c_28
    refine lv_iconst (v := 0) hx hb dX5_weighs_15 (by decide) ?_
    refine lv_istore_n (lv' := [(2, .int 0), (0, .ref o), (1, .int x1)]) hx hb dX5_weighs_16 rfl hl (by decide) rfl (fun ls hl => ?_)
    refine lv_iconst (v := 0) hx hb dX5_weighs_17 (by decide) ?_
    refine lv_istore_n (lv' := [(3, .int 0), (2, .int 0), (0, .ref o), (1, .int x1)]) hx hb dX5_weighs_18 rfl hl (by decide) rfl (fun ls hl => ?_)
    exact L19 bf_fuel 0 0 T_26 _ _ _ hf hd (lv_sub hl [2, 3, 1, 0] rfl)
  · have hf := bf_it hf c_28
    refine lv_iconst (v := (-1)) hx hb dX5_weighs_13 (by decide) ?_
    exact kret _ _ _ _ _ _ ⟨(bf_pr hf).1, congrArg (bf_pT G σ o) (bf_pr hf).2⟩ hd dX5_weighs_14
def fX5_lasts_50 (x1 : Int32) (w50_2 : Int32) (T50 : bf_TS) : Option (Int32 × bf_TS) := if w50_2 = 0 then (some ((-1), T50)) else (bf_c (bf_in (15 + x1) 136) <| bf_c (bf_nz w50_2) <| some (((((T50 1 (15 + x1).toNatClampNeg) + w50_2) - 1) / w50_2), T50))
def fX5_lasts_44 (k19 : Int32 → Int32 → bf_TS → Option (Int32 × bf_TS)) (x1 : Int32) (w44_2 : Int32) (w44_3 : Int32) (T44 : bf_TS) : Option (Int32 × bf_TS) := bf_l (w44_3 + 1) fun x3_7 => k19 w44_2 x3_7 T44
def fX5_lasts_19b (x1 : Int32) (k19 : Int32 → Int32 → bf_TS → Option (Int32 × bf_TS)) (v19_2 : Int32) (v19_3 : Int32) (T19 : bf_TS) : Option (Int32 × bf_TS) := if (T19 7 0) ≤ v19_3 then (fX5_lasts_50 x1 v19_2 T19) else (bf_b (fX5_tasteOf T19 v19_3 x1) fun r_2 => if r_2 ≤ 0 then (fX5_lasts_44 k19 x1 v19_2 v19_3 T19) else (bf_b2 (fX5_wantOf T19 v19_3) fun r_5 T_4 => bf_l ((v19_2 + r_5)) fun x2_6 => fX5_lasts_44 k19 x1 x2_6 v19_3 T_4))
def fX5_lasts_19 (x1 : Int32) : Nat → Int32 → Int32 → bf_TS → Option (Int32 × bf_TS)
  | 0, _, _, _ => none
  | n + 1, v19_2, v19_3, T19 => fX5_lasts_19b x1 (fX5_lasts_19 x1 n) v19_2 v19_3 T19
def fX5_lasts (T : bf_TS) (x1 : Int32) : Option (Int32 × bf_TS) := bf_l (bf_u2 T 0 0 0) fun T_11 => if (fX5_isParty T_11 x1) = 0 then (some ((-1), T_11)) else (fX5_lasts_19 x1 bf_fuel 0 0 T_11)
set_option maxHeartbeats 4000000 in
theorem mX5_lasts (l : Launch) (G : bf_G) (σ : bf_V) (o : Nat) (T : bf_TS) (x1 : Int32) {r : Int32} {T' : bf_TS} (hf : fX5_lasts T x1 = some (r, T')) : bf_MI l G yX5_lasts cX5_lasts 4 (bf_rm 5) [.ref o, .int x1] (bf_pT G σ o T) (fun v σ' => v = r ∧ σ' = bf_pT G σ o T') := by
  refine bf_MI.of rfl (Nat.le_of_ble_eq_true rfl) ?_
  intro p e s m below meth c Q X hlk hnm kret hd ls hl
  have hx := X.1
  have hb := X.2.1
  have hown := X.2.2.2.1
  have hts := X.2.2.2.2
  have hl : lv_has ls 4 [(0, .ref o), (1, .int x1)] := hl
  have J50 : ∀ (w50_2 : Int32) (T50 : bf_TS) (H : Heap) (locs : List Loc) (ls : Array Slot), fX5_lasts_50 x1 w50_2 T50 = some (r, T') → bf_Dy G s H locs (bf_pT G σ o T50) → lv_has ls 4 [(0, .ref o), (1, .int x1), (2, .int w50_2)] → W p l e (bf_rm 5) s m ([.ref o, .int x1] : List Value).toArray below meth c H locs 0 0 Q (F0 m 50 ls []) := by
    intro w50_2 T50 H locs ls hf hd hl
    unfold fX5_lasts_50 at hf
    refine lv_iload_n hx hb dX5_lasts_50 rfl (lv_at hl 2 rfl) ?_
    refine lv_if_ne (tgt := 58) hx hb dX5_lasts_51 (by decide) (fun c_14 => ?_) (fun c_14 => ?_)
    · have hf := bf_ie hf c_14
      refine lv_aload_n hx hb dX5_lasts_58 rfl (lv_at hl 0 rfl) ?_
      refine bf_tga X hd 1 (by decide) (by decide) q1384 dX5_lasts_59 ?_
      refine lv_bipush (v := 15) hx hb dX5_lasts_62 (by decide) ?_
      refine lv_iload_n hx hb dX5_lasts_64 rfl (lv_at hl 1 rfl) ?_
      refine lv_iadd hx hb dX5_lasts_65 ?_
      obtain ⟨g_15, hf⟩ := bf_c_some hf
      refine bf_tld X hd 1 (by decide) g_15 dX5_lasts_66 ?_
      refine lv_iload_n hx hb dX5_lasts_67 rfl (lv_at hl 2 rfl) ?_
      refine lv_iadd hx hb dX5_lasts_68 ?_
      refine lv_iconst (v := 1) hx hb dX5_lasts_69 (by decide) ?_
      refine lv_isub hx hb dX5_lasts_70 ?_
      refine lv_iload_n hx hb dX5_lasts_71 rfl (lv_at hl 2 rfl) ?_
      obtain ⟨g_16, hf⟩ := bf_c_some hf
      refine lv_idiv hx hb dX5_lasts_72 (bf_nz_t g_16) ?_
      exact kret _ _ _ _ _ _ ⟨(bf_pr hf).1, congrArg (bf_pT G σ o) (bf_pr hf).2⟩ hd dX5_lasts_73
    · have hf := bf_it hf c_14
      refine lv_iconst (v := (-1)) hx hb dX5_lasts_54 (by decide) ?_
      refine lv_goto (tgt := 73) hx hb dX5_lasts_55 (by decide) ?_
      exact kret _ _ _ _ _ _ ⟨(bf_pr hf).1, congrArg (bf_pT G σ o) (bf_pr hf).2⟩ hd dX5_lasts_73
  have L19 : ∀ (n19 : Nat) (v19_2 : Int32) (v19_3 : Int32) (T19 : bf_TS) (H : Heap) (locs : List Loc) (ls : Array Slot), fX5_lasts_19 x1 n19 v19_2 v19_3 T19 = some (r, T') → bf_Dy G s H locs (bf_pT G σ o T19) → lv_has ls 4 [(0, .ref o), (1, .int x1), (2, .int v19_2), (3, .int v19_3)] → W p l e (bf_rm 5) s m ([.ref o, .int x1] : List Value).toArray below meth c H locs 0 0 Q (F0 m 19 ls []) := by
    intro n19
    induction n19 with
    | zero =>
      intro v19_2 v19_3 T19 H locs ls hf hd hl
      exact absurd (show (none : Option (Int32 × bf_TS)) = some (r, T') from hf) (by intro h; cases h)
    | succ n19 ih19 =>
      intro v19_2 v19_3 T19 H locs ls hf hd hl
      have hf : fX5_lasts_19b x1 (fX5_lasts_19 x1 n19) v19_2 v19_3 T19 = some (r, T') := hf
      unfold fX5_lasts_19b at hf
      have J44 : ∀ (w44_2 : Int32) (w44_3 : Int32) (T44 : bf_TS) (H : Heap) (locs : List Loc) (ls : Array Slot), fX5_lasts_44 (fX5_lasts_19 x1 n19) x1 w44_2 w44_3 T44 = some (r, T') → bf_Dy G s H locs (bf_pT G σ o T44) → lv_has ls 4 [(0, .ref o), (1, .int x1), (2, .int w44_2), (3, .int w44_3)] → W p l e (bf_rm 5) s m ([.ref o, .int x1] : List Value).toArray below meth c H locs 0 0 Q (F0 m 44 ls []) := by
        intro w44_2 w44_3 T44 H locs ls hf hd hl
        unfold fX5_lasts_44 at hf
        obtain ⟨x3_17, ex3_17, hf⟩ := bf_l_e hf
        refine lv_iinc (v := x3_17) (lv' := [(3, .int x3_17), (0, .ref o), (1, .int x1), (2, .int w44_2)]) hx hb dX5_lasts_44 hl (k := 3) rfl (by rw [ex3_17]; rfl) (by decide) rfl (fun ls hl => ?_)
        refine lv_goto (tgt := 19) hx hb dX5_lasts_47 (by decide) ?_
        exact ih19 w44_2 x3_17 T44 _ _ _ hf hd (lv_sub hl [1, 2, 3, 0] rfl)
      refine lv_iload_n hx hb dX5_lasts_19 rfl (lv_at hl 3 rfl) ?_
      refine lv_aload_n hx hb dX5_lasts_20 rfl (lv_at hl 0 rfl) ?_
      refine bf_tgi X hd 7 (by decide) rfl q1390 dX5_lasts_21 ?_
      refine lv_icmp_ge (tgt := 50) hx hb dX5_lasts_24 (by decide) (fun c_18 => ?_) (fun c_18 => ?_)
      · have hf := bf_it hf c_18
        exact J50 v19_2 T19 _ _ _ hf hd (lv_sub hl [0, 1, 2] rfl)
      · have hf := bf_ie hf c_18
        refine lv_aload_n hx hb dX5_lasts_27 rfl (lv_at hl 0 rfl) ?_
        refine lv_iload_n hx hb dX5_lasts_28 rfl (lv_at hl 3 rfl) ?_
        refine lv_iload_n hx hb dX5_lasts_29 rfl (lv_at hl 1 rfl) ?_
        obtain ⟨r_19, er_19, hf⟩ := bf_b_some hf
        refine bf_tci (n := 2) (As := [.int v19_3, .int x1]) (rest := []) X hd (mX5_tasteOf l G σ o T19 v19_3 x1 er_19) (lw_V q1852 q1854 qs117 q156 q1855) (by decide +kernel) ⟨Nat.le_of_ble_eq_true rfl, Nat.le_of_ble_eq_true rfl⟩ rfl hl.1 rfl (Nat.le_of_ble_eq_true rfl) dX5_lasts_30 ⟨Nat.le_of_ble_eq_true rfl, Nat.le_of_ble_eq_true rfl⟩ (fun H locs hd => ?_)
        refine lv_if_le (tgt := 44) hx hb dX5_lasts_33 (by decide) (fun c_20 => ?_) (fun c_20 => ?_)
        · have hf := bf_it hf c_20
          exact J44 v19_2 v19_3 T19 _ _ _ hf hd (lv_sub hl [0, 1, 2, 3] rfl)
        · have hf := bf_ie hf c_20
          refine lv_iload_n hx hb dX5_lasts_36 rfl (lv_at hl 2 rfl) ?_
          refine lv_aload_n hx hb dX5_lasts_37 rfl (lv_at hl 0 rfl) ?_
          refine lv_iload_n hx hb dX5_lasts_38 rfl (lv_at hl 3 rfl) ?_
          obtain ⟨r_22, T_21, er_22, hf⟩ := bf_b2_some hf
          refine bf_tci (n := 1) (As := [.int v19_3]) (rest := [.int v19_2]) X hd (mX5_wantOf l G σ o T19 v19_3 er_22) (lw_V q1840 q1842 qs114 q156 q1843) (by decide +kernel) ⟨Nat.le_of_ble_eq_true rfl, Nat.le_of_ble_eq_true rfl⟩ rfl hl.1 rfl (Nat.le_of_ble_eq_true rfl) dX5_lasts_39 ⟨Nat.le_of_ble_eq_true rfl, Nat.le_of_ble_eq_true rfl⟩ (fun H locs hd => ?_)
          refine lv_iadd hx hb dX5_lasts_42 ?_
          obtain ⟨x2_23, ex2_23, hf⟩ := bf_l_e hf
          refine bf_top ex2_23 ?_
          refine lv_istore_n (lv' := [(2, .int x2_23), (0, .ref o), (1, .int x1), (3, .int v19_3)]) hx hb dX5_lasts_43 rfl hl (by decide) rfl (fun ls hl => ?_)
          exact J44 x2_23 v19_3 T_21 _ _ _ hf hd (lv_sub hl [1, 2, 0, 3] rfl)
  unfold fX5_lasts at hf
  refine lv_aload_n hx hb dX5_lasts_0 rfl (lv_at hl 0 rfl) ?_
  refine lv_iconst (v := 0) hx hb dX5_lasts_1 (by decide) ?_
  refine bf_tpi X hd 0 (by decide) ⟨rfl, rfl, rfl⟩ q1383 dX5_lasts_2 (fun H locs hd => ?_)
  obtain ⟨T_24, eT_24, hf⟩ := bf_l_e hf
  have hd := hd.of (congrArg (bf_pT G σ o) eT_24.symm)
  refine lv_aload_n hx hb dX5_lasts_5 rfl (lv_at hl 0 rfl) ?_
  refine lv_iload_n hx hb dX5_lasts_6 rfl (lv_at hl 1 rfl) ?_
  refine bf_tcz (n := 1) (As := [.int x1]) (rest := []) X hd (mX5_isParty l G σ o T_24 x1 rfl) (lw_V q1580 q1582 qs58 q156 q1583) (by decide +kernel) ⟨Nat.le_of_ble_eq_true rfl, Nat.le_of_ble_eq_true rfl⟩ rfl hl.1 rfl (Nat.le_of_ble_eq_true rfl) dX5_lasts_7 ⟨Nat.le_of_ble_eq_true rfl, Nat.le_of_ble_eq_true rfl⟩ (fun H locs z_25 hd => ?_)
  refine lv_if_ne (tgt := 15) hx hb dX5_lasts_10 (by decide) (fun c_26 => ?_) (fun c_26 => ?_)
  · have hf := bf_ie hf c_26
    refine lv_iconst (v := 0) hx hb dX5_lasts_15 (by decide) ?_
    refine lv_istore_n (lv' := [(2, .int 0), (0, .ref o), (1, .int x1)]) hx hb dX5_lasts_16 rfl hl (by decide) rfl (fun ls hl => ?_)
    refine lv_iconst (v := 0) hx hb dX5_lasts_17 (by decide) ?_
    refine lv_istore_n (lv' := [(3, .int 0), (2, .int 0), (0, .ref o), (1, .int x1)]) hx hb dX5_lasts_18 rfl hl (by decide) rfl (fun ls hl => ?_)
    exact L19 bf_fuel 0 0 T_24 _ _ _ hf hd (lv_sub hl [2, 3, 1, 0] rfl)
  · have hf := bf_it hf c_26
    refine lv_iconst (v := (-1)) hx hb dX5_lasts_13 (by decide) ?_
    exact kret _ _ _ _ _ _ ⟨(bf_pr hf).1, congrArg (bf_pT G σ o) (bf_pr hf).2⟩ hd dX5_lasts_14
def fX5_meets (T : bf_TS) (x1 x2 : Int32) : Option (Int32 × bf_TS) := bf_l (bf_u2 T 0 0 0) fun T_1 => if (fX5_isEater T_1 x1) = 0 then (some ((-1), T_1)) else (if (fX5_isEater T_1 x2) = 0 then (some ((-1), T_1)) else (bf_b (fX5_placesOf T_1 x1) fun r_6 => bf_b (fX5_placesOf T_1 x2) fun r_7 => some ((r_6 &&& r_7), T_1)))
set_option maxHeartbeats 4000000 in
theorem mX5_meets (l : Launch) (G : bf_G) (σ : bf_V) (o : Nat) (T : bf_TS) (x1 x2 : Int32) {r : Int32} {T' : bf_TS} (hf : fX5_meets T x1 x2 = some (r, T')) : bf_MI l G yX5_meets cX5_meets 3 (bf_rm 1) [.ref o, .int x1, .int x2] (bf_pT G σ o T) (fun v σ' => v = r ∧ σ' = bf_pT G σ o T') := by
  refine bf_MI.of rfl (Nat.le_of_ble_eq_true rfl) ?_
  intro p e s m below meth c Q X hlk hnm kret hd ls hl
  have hx := X.1
  have hb := X.2.1
  have hown := X.2.2.2.1
  have hts := X.2.2.2.2
  have hl : lv_has ls 3 [(0, .ref o), (1, .int x1), (2, .int x2)] := hl
  unfold fX5_meets at hf
  refine lv_aload_n hx hb dX5_meets_0 rfl (lv_at hl 0 rfl) ?_
  refine lv_iconst (v := 0) hx hb dX5_meets_1 (by decide) ?_
  refine bf_tpi X hd 0 (by decide) ⟨rfl, rfl, rfl⟩ q1383 dX5_meets_2 (fun H locs hd => ?_)
  obtain ⟨T_8, eT_8, hf⟩ := bf_l_e hf
  have hd := hd.of (congrArg (bf_pT G σ o) eT_8.symm)
  refine lv_aload_n hx hb dX5_meets_5 rfl (lv_at hl 0 rfl) ?_
  refine lv_iload_n hx hb dX5_meets_6 rfl (lv_at hl 1 rfl) ?_
  refine bf_tcz (n := 1) (As := [.int x1]) (rest := []) X hd (mX5_isEater l G σ o T_8 x1 rfl) (lw_V q1576 q1578 qs57 q156 q1579) (by decide +kernel) ⟨Nat.le_of_ble_eq_true rfl, Nat.le_of_ble_eq_true rfl⟩ rfl hl.1 rfl (Nat.le_of_ble_eq_true rfl) dX5_meets_7 ⟨Nat.le_of_ble_eq_true rfl, Nat.le_of_ble_eq_true rfl⟩ (fun H locs z_9 hd => ?_)
  refine lv_if_eq (tgt := 35) hx hb dX5_meets_10 (by decide) (fun c_10 => ?_) (fun c_10 => ?_)
  · have hf := bf_it hf c_10
    refine lv_iconst (v := (-1)) hx hb dX5_meets_35 (by decide) ?_
    exact kret _ _ _ _ _ _ ⟨(bf_pr hf).1, congrArg (bf_pT G σ o) (bf_pr hf).2⟩ hd dX5_meets_36
  · have hf := bf_ie hf c_10
    refine lv_aload_n hx hb dX5_meets_13 rfl (lv_at hl 0 rfl) ?_
    refine lv_iload_n hx hb dX5_meets_14 rfl (lv_at hl 2 rfl) ?_
    refine bf_tcz (n := 1) (As := [.int x2]) (rest := []) X hd (mX5_isEater l G σ o T_8 x2 rfl) (lw_V q1576 q1578 qs57 q156 q1579) (by decide +kernel) ⟨Nat.le_of_ble_eq_true rfl, Nat.le_of_ble_eq_true rfl⟩ rfl hl.1 rfl (Nat.le_of_ble_eq_true rfl) dX5_meets_15 ⟨Nat.le_of_ble_eq_true rfl, Nat.le_of_ble_eq_true rfl⟩ (fun H locs z_11 hd => ?_)
    refine lv_if_eq (tgt := 35) hx hb dX5_meets_18 (by decide) (fun c_12 => ?_) (fun c_12 => ?_)
    · have hf := bf_it hf c_12
      refine lv_iconst (v := (-1)) hx hb dX5_meets_35 (by decide) ?_
      exact kret _ _ _ _ _ _ ⟨(bf_pr hf).1, congrArg (bf_pT G σ o) (bf_pr hf).2⟩ hd dX5_meets_36
    · have hf := bf_ie hf c_12
      refine lv_aload_n hx hb dX5_meets_21 rfl (lv_at hl 0 rfl) ?_
      refine lv_iload_n hx hb dX5_meets_22 rfl (lv_at hl 1 rfl) ?_
      obtain ⟨r_13, er_13, hf⟩ := bf_b_some hf
      refine bf_tci (n := 1) (As := [.int x1]) (rest := []) X hd (mX5_placesOf l G σ o T_8 x1 er_13) (lw_V q1982 q1984 qs139 q156 q1985) (by decide +kernel) ⟨Nat.le_of_ble_eq_true rfl, Nat.le_of_ble_eq_true rfl⟩ rfl hl.1 rfl (Nat.le_of_ble_eq_true rfl) dX5_meets_23 ⟨Nat.le_of_ble_eq_true rfl, Nat.le_of_ble_eq_true rfl⟩ (fun H locs hd => ?_)
      refine lv_aload_n hx hb dX5_meets_26 rfl (lv_at hl 0 rfl) ?_
      refine lv_iload_n hx hb dX5_meets_27 rfl (lv_at hl 2 rfl) ?_
      obtain ⟨r_14, er_14, hf⟩ := bf_b_some hf
      refine bf_tci (n := 1) (As := [.int x2]) (rest := [.int r_13]) X hd (mX5_placesOf l G σ o T_8 x2 er_14) (lw_V q1982 q1984 qs139 q156 q1985) (by decide +kernel) ⟨Nat.le_of_ble_eq_true rfl, Nat.le_of_ble_eq_true rfl⟩ rfl hl.1 rfl (Nat.le_of_ble_eq_true rfl) dX5_meets_28 ⟨Nat.le_of_ble_eq_true rfl, Nat.le_of_ble_eq_true rfl⟩ (fun H locs hd => ?_)
      refine lv_iand hx hb dX5_meets_31 ?_
      refine lv_goto (tgt := 36) hx hb dX5_meets_32 (by decide) ?_
      exact kret _ _ _ _ _ _ ⟨(bf_pr hf).1, congrArg (bf_pT G σ o) (bf_pr hf).2⟩ hd dX5_meets_36
def fX5_game_123 (k53 : Int32 → bf_TS → Option (Int32 × bf_TS)) (x1 : Int32) (u53_2 : Int32) (w123_3 : Int32) (T123 : bf_TS) : Option (Int32 × bf_TS) := bf_l (w123_3 + 1) fun x3_12 => k53 x3_12 T123
def fX5_game_106 (x1 : Int32) (w106_3 : Int32) (w106_5 : Int32) (T106 : bf_TS) : Option (Int32 × bf_TS) := if x1 = 0 then (some (w106_3, T106)) else (some (w106_5, T106))
def fX5_game_77b (k53 : Int32 → bf_TS → Option (Int32 × bf_TS)) (x1 : Int32) (u53_2 : Int32) (u77_3 : Int32) (u77_4 : Int32) (k77 : Int32 → bf_TS → Option (Int32 × bf_TS)) (v77_5 : Int32) (T77 : bf_TS) : Option (Int32 × bf_TS) := if (fX5_lesser 3 u77_4) < v77_5 then (fX5_game_123 k53 x1 u53_2 u77_3 T77) else (if ((u53_2 ^^^ (u77_4 - u77_4 / 4 * 4)) ^^^ ((u77_4 - v77_5) - (u77_4 - v77_5) / 4 * 4)) = 0 then (fX5_game_106 x1 u77_3 v77_5 T77) else (bf_l (v77_5 + 1) fun x5_10 => k77 x5_10 T77))
def fX5_game_77 (k53 : Int32 → bf_TS → Option (Int32 × bf_TS)) (x1 : Int32) (u53_2 : Int32) (u77_3 : Int32) (u77_4 : Int32) : Nat → Int32 → bf_TS → Option (Int32 × bf_TS)
  | 0, _, _ => none
  | n + 1, v77_5, T77 => fX5_game_77b k53 x1 u53_2 u77_3 u77_4 (fX5_game_77 k53 x1 u53_2 u77_3 u77_4 n) v77_5 T77
def fX5_game_53b (x1 : Int32) (u53_2 : Int32) (k53 : Int32 → bf_TS → Option (Int32 × bf_TS)) (v53_3 : Int32) (T53 : bf_TS) : Option (Int32 × bf_TS) := if (T53 1 4) ≤ v53_3 then (some ((-1), T53)) else (bf_c (bf_in (62 + v53_3) 136) <| bf_l ((T53 1 (62 + v53_3).toNatClampNeg)) fun x4_7 => fX5_game_77 k53 x1 u53_2 v53_3 x4_7 bf_fuel 1 T53)
def fX5_game_53 (x1 : Int32) (u53_2 : Int32) : Nat → Int32 → bf_TS → Option (Int32 × bf_TS)
  | 0, _, _ => none
  | n + 1, v53_3, T53 => fX5_game_53b x1 u53_2 (fX5_game_53 x1 u53_2 n) v53_3 T53
def fX5_game_51 (x1 : Int32) (w51_2 : Int32) (T51 : bf_TS) : Option (Int32 × bf_TS) := fX5_game_53 x1 w51_2 bf_fuel 0 T51
def fX5_game_21b (x1 : Int32) (k21 : Int32 → Int32 → bf_TS → Option (Int32 × bf_TS)) (v21_2 : Int32) (v21_3 : Int32) (T21 : bf_TS) : Option (Int32 × bf_TS) := if (T21 1 4) ≤ v21_3 then (fX5_game_51 x1 v21_2 T21) else (bf_c (bf_in (62 + v21_3) 136) <| bf_l ((v21_2 ^^^ ((T21 1 (62 + v21_3).toNatClampNeg) - (T21 1 (62 + v21_3).toNatClampNeg) / 4 * 4))) fun x2_3 => bf_l (v21_3 + 1) fun x3_4 => k21 x2_3 x3_4 T21)
def fX5_game_21 (x1 : Int32) : Nat → Int32 → Int32 → bf_TS → Option (Int32 × bf_TS)
  | 0, _, _, _ => none
  | n + 1, v21_2, v21_3, T21 => fX5_game_21b x1 (fX5_game_21 x1 n) v21_2 v21_3 T21
def fX5_game (T : bf_TS) (x1 : Int32) : Option (Int32 × bf_TS) := bf_l (bf_u2 T 0 0 0) fun T_13 => if (fX5_isIn x1 0 1) = 0 then (some ((-1), T_13)) else (fX5_game_21 x1 bf_fuel 0 0 T_13)
set_option maxHeartbeats 4000000 in
theorem mX5_game (l : Launch) (G : bf_G) (σ : bf_V) (o : Nat) (T : bf_TS) (x1 : Int32) {r : Int32} {T' : bf_TS} (hf : fX5_game T x1 = some (r, T')) : bf_MI l G yX5_game cX5_game 6 (bf_rm 1) [.ref o, .int x1] (bf_pT G σ o T) (fun v σ' => v = r ∧ σ' = bf_pT G σ o T') := by
  refine bf_MI.of rfl (Nat.le_of_ble_eq_true rfl) ?_
  intro p e s m below meth c Q X hlk hnm kret hd ls hl
  have hx := X.1
  have hb := X.2.1
  have hown := X.2.2.2.1
  have hts := X.2.2.2.2
  have hl : lv_has ls 6 [(0, .ref o), (1, .int x1)] := hl
  have J106 : ∀ (w106_3 : Int32) (w106_5 : Int32) (T106 : bf_TS) (H : Heap) (locs : List Loc) (ls : Array Slot), fX5_game_106 x1 w106_3 w106_5 T106 = some (r, T') → bf_Dy G s H locs (bf_pT G σ o T106) → lv_has ls 6 [(1, .int x1), (3, .int w106_3), (5, .int w106_5)] → W p l e (bf_rm 1) s m ([.ref o, .int x1] : List Value).toArray below meth c H locs 0 0 Q (F0 m 106 ls []) := by
    intro w106_3 w106_5 T106 H locs ls hf hd hl
    unfold fX5_game_106 at hf
    refine lv_iload_n hx hb dX5_game_106 rfl (lv_at hl 0 rfl) ?_
    refine lv_if_ne (tgt := 114) hx hb dX5_game_107 (by decide) (fun c_16 => ?_) (fun c_16 => ?_)
    · have hf := bf_ie hf c_16
      refine lv_iload hx hb dX5_game_114 (lv_at hl 2 rfl) ?_
      exact kret _ _ _ _ _ _ ⟨(bf_pr hf).1, congrArg (bf_pT G σ o) (bf_pr hf).2⟩ hd dX5_game_116
    · have hf := bf_it hf c_16
      refine lv_iload_n hx hb dX5_game_110 rfl (lv_at hl 1 rfl) ?_
      refine lv_goto (tgt := 116) hx hb dX5_game_111 (by decide) ?_
      exact kret _ _ _ _ _ _ ⟨(bf_pr hf).1, congrArg (bf_pT G σ o) (bf_pr hf).2⟩ hd dX5_game_116
  have L53 : ∀ (u53_2 : Int32) (n53 : Nat) (v53_3 : Int32) (T53 : bf_TS) (H : Heap) (locs : List Loc) (ls : Array Slot), fX5_game_53 x1 u53_2 n53 v53_3 T53 = some (r, T') → bf_Dy G s H locs (bf_pT G σ o T53) → lv_has ls 6 [(0, .ref o), (1, .int x1), (2, .int u53_2), (3, .int v53_3)] → W p l e (bf_rm 1) s m ([.ref o, .int x1] : List Value).toArray below meth c H locs 0 0 Q (F0 m 53 ls []) := by
    intro u53_2 n53
    induction n53 with
    | zero =>
      intro v53_3 T53 H locs ls hf hd hl
      exact absurd (show (none : Option (Int32 × bf_TS)) = some (r, T') from hf) (by intro h; cases h)
    | succ n53 ih53 =>
      intro v53_3 T53 H locs ls hf hd hl
      have hf : fX5_game_53b x1 u53_2 (fX5_game_53 x1 u53_2 n53) v53_3 T53 = some (r, T') := hf
      unfold fX5_game_53b at hf
      have J123 : ∀ (w123_3 : Int32) (T123 : bf_TS) (H : Heap) (locs : List Loc) (ls : Array Slot), fX5_game_123 (fX5_game_53 x1 u53_2 n53) x1 u53_2 w123_3 T123 = some (r, T') → bf_Dy G s H locs (bf_pT G σ o T123) → lv_has ls 6 [(0, .ref o), (1, .int x1), (2, .int u53_2), (3, .int w123_3)] → W p l e (bf_rm 1) s m ([.ref o, .int x1] : List Value).toArray below meth c H locs 0 0 Q (F0 m 123 ls []) := by
        intro w123_3 T123 H locs ls hf hd hl
        unfold fX5_game_123 at hf
        obtain ⟨x3_17, ex3_17, hf⟩ := bf_l_e hf
        refine lv_iinc (v := x3_17) (lv' := [(3, .int x3_17), (0, .ref o), (1, .int x1), (2, .int u53_2)]) hx hb dX5_game_123 hl (k := 3) rfl (by rw [ex3_17]; rfl) (by decide) rfl (fun ls hl => ?_)
        refine lv_goto (tgt := 53) hx hb dX5_game_126 (by decide) ?_
        exact ih53 x3_17 T123 _ _ _ hf hd (lv_sub hl [1, 2, 3, 0] rfl)
      have L77 : ∀ (u77_3 : Int32) (u77_4 : Int32) (n77 : Nat) (v77_5 : Int32) (T77 : bf_TS) (H : Heap) (locs : List Loc) (ls : Array Slot), fX5_game_77 (fX5_game_53 x1 u53_2 n53) x1 u53_2 u77_3 u77_4 n77 v77_5 T77 = some (r, T') → bf_Dy G s H locs (bf_pT G σ o T77) → lv_has ls 6 [(0, .ref o), (1, .int x1), (2, .int u53_2), (3, .int u77_3), (4, .int u77_4), (5, .int v77_5)] → W p l e (bf_rm 1) s m ([.ref o, .int x1] : List Value).toArray below meth c H locs 0 0 Q (F0 m 77 ls []) := by
        intro u77_3 u77_4 n77
        induction n77 with
        | zero =>
          intro v77_5 T77 H locs ls hf hd hl
          exact absurd (show (none : Option (Int32 × bf_TS)) = some (r, T') from hf) (by intro h; cases h)
        | succ n77 ih77 =>
          intro v77_5 T77 H locs ls hf hd hl
          have hf : fX5_game_77b (fX5_game_53 x1 u53_2 n53) x1 u53_2 u77_3 u77_4 (fX5_game_77 (fX5_game_53 x1 u53_2 n53) x1 u53_2 u77_3 u77_4 n77) v77_5 T77 = some (r, T') := hf
          unfold fX5_game_77b at hf
          refine lv_iload hx hb dX5_game_77 (lv_at hl 5 rfl) ?_
          refine lv_aload_n hx hb dX5_game_79 rfl (lv_at hl 0 rfl) ?_
          refine lv_iconst (v := 3) hx hb dX5_game_80 (by decide) ?_
          refine lv_iload hx hb dX5_game_81 (lv_at hl 4 rfl) ?_
          refine bf_tci (n := 2) (As := [.int 3, .int u77_4]) (rest := [.int v77_5]) X hd (mX5_lesser l G σ o T77 3 u77_4 rfl) (lw_V q1792 q1794 qs103 q156 q1795) (by decide +kernel) ⟨Nat.le_of_ble_eq_true rfl, Nat.le_of_ble_eq_true rfl⟩ rfl hl.1 rfl (Nat.le_of_ble_eq_true rfl) dX5_game_83 ⟨Nat.le_of_ble_eq_true rfl, Nat.le_of_ble_eq_true rfl⟩ (fun H locs hd => ?_)
          refine lv_icmp_gt (tgt := 123) hx hb dX5_game_86 (by decide) (fun c_18 => ?_) (fun c_18 => ?_)
          · have hf := bf_it hf c_18
            exact J123 u77_3 T77 _ _ _ hf hd (lv_sub hl [0, 1, 2, 3] rfl)
          · have hf := bf_ie hf c_18
            refine lv_iload_n hx hb dX5_game_89 rfl (lv_at hl 2 rfl) ?_
            refine lv_iload hx hb dX5_game_90 (lv_at hl 4 rfl) ?_
            refine lv_iconst (v := 4) hx hb dX5_game_92 (by decide) ?_
            refine lv_irem hx hb dX5_game_93 (by decide) ?_
            refine lv_ixor hx hb dX5_game_94 ?_
            refine lv_iload hx hb dX5_game_95 (lv_at hl 4 rfl) ?_
            refine lv_iload hx hb dX5_game_97 (lv_at hl 5 rfl) ?_
            refine lv_isub hx hb dX5_game_99 ?_
            refine lv_iconst (v := 4) hx hb dX5_game_100 (by decide) ?_
            refine lv_irem hx hb dX5_game_101 (by decide) ?_
            refine lv_ixor hx hb dX5_game_102 ?_
            refine lv_if_ne (tgt := 117) hx hb dX5_game_103 (by decide) (fun c_19 => ?_) (fun c_19 => ?_)
            · have hf := bf_ie hf c_19
              obtain ⟨x5_20, ex5_20, hf⟩ := bf_l_e hf
              refine lv_iinc (v := x5_20) (lv' := [(5, .int x5_20), (0, .ref o), (1, .int x1), (2, .int u53_2), (3, .int u77_3), (4, .int u77_4)]) hx hb dX5_game_117 hl (k := 5) rfl (by rw [ex5_20]; rfl) (by decide) rfl (fun ls hl => ?_)
              refine lv_goto (tgt := 77) hx hb dX5_game_120 (by decide) ?_
              exact ih77 x5_20 T77 _ _ _ hf hd (lv_sub hl [1, 2, 3, 4, 5, 0] rfl)
            · have hf := bf_it hf c_19
              exact J106 u77_3 v77_5 T77 _ _ _ hf hd (lv_sub hl [1, 3, 5] rfl)
      refine lv_iload_n hx hb dX5_game_53 rfl (lv_at hl 3 rfl) ?_
      refine lv_aload_n hx hb dX5_game_54 rfl (lv_at hl 0 rfl) ?_
      refine bf_tga X hd 1 (by decide) (by decide) q1384 dX5_game_55 ?_
      refine lv_iconst (v := 4) hx hb dX5_game_58 (by decide) ?_
      refine bf_tld X hd 1 (by decide) (by decide) dX5_game_59 ?_
      refine lv_icmp_ge (tgt := 129) hx hb dX5_game_60 (by decide) (fun c_21 => ?_) (fun c_21 => ?_)
      · have hf := bf_it hf c_21
        refine lv_iconst (v := (-1)) hx hb dX5_game_129 (by decide) ?_
        exact kret _ _ _ _ _ _ ⟨(bf_pr hf).1, congrArg (bf_pT G σ o) (bf_pr hf).2⟩ hd dX5_game_130
      · have hf := bf_ie hf c_21
        refine lv_aload_n hx hb dX5_game_63 rfl (lv_at hl 0 rfl) ?_
        refine bf_tga X hd 1 (by decide) (by decide) q1384 dX5_game_64 ?_
        refine lv_bipush (v := 62) hx hb dX5_game_67 (by decide) ?_
        refine lv_iload_n hx hb dX5_game_69 rfl (lv_at hl 3 rfl) ?_
        refine lv_iadd hx hb dX5_game_70 ?_
        obtain ⟨g_22, hf⟩ := bf_c_some hf
        refine bf_tld X hd 1 (by decide) g_22 dX5_game_71 ?_
        obtain ⟨x4_23, ex4_23, hf⟩ := bf_l_e hf
        refine bf_top ex4_23 ?_
        refine lv_istore (lv' := [(4, .int x4_23), (0, .ref o), (1, .int x1), (2, .int u53_2), (3, .int v53_3)]) hx hb dX5_game_72 hl (by decide) rfl (fun ls hl => ?_)
        refine lv_iconst (v := 1) hx hb dX5_game_74 (by decide) ?_
        refine lv_istore (lv' := [(5, .int 1), (4, .int x4_23), (0, .ref o), (1, .int x1), (2, .int u53_2), (3, .int v53_3)]) hx hb dX5_game_75 hl (by decide) rfl (fun ls hl => ?_)
        exact L77 v53_3 x4_23 bf_fuel 1 T53 _ _ _ hf hd (lv_sub hl [2, 3, 4, 5, 1, 0] rfl)
  have J51 : ∀ (w51_2 : Int32) (T51 : bf_TS) (H : Heap) (locs : List Loc) (ls : Array Slot), fX5_game_51 x1 w51_2 T51 = some (r, T') → bf_Dy G s H locs (bf_pT G σ o T51) → lv_has ls 6 [(0, .ref o), (1, .int x1), (2, .int w51_2)] → W p l e (bf_rm 1) s m ([.ref o, .int x1] : List Value).toArray below meth c H locs 0 0 Q (F0 m 51 ls []) := by
    intro w51_2 T51 H locs ls hf hd hl
    unfold fX5_game_51 at hf
    refine lv_iconst (v := 0) hx hb dX5_game_51 (by decide) ?_
    refine lv_istore_n (lv' := [(3, .int 0), (0, .ref o), (1, .int x1), (2, .int w51_2)]) hx hb dX5_game_52 rfl hl (by decide) rfl (fun ls hl => ?_)
    exact L53 w51_2 bf_fuel 0 T51 _ _ _ hf hd (lv_sub hl [1, 2, 3, 0] rfl)
  have L21 : ∀ (n21 : Nat) (v21_2 : Int32) (v21_3 : Int32) (T21 : bf_TS) (H : Heap) (locs : List Loc) (ls : Array Slot), fX5_game_21 x1 n21 v21_2 v21_3 T21 = some (r, T') → bf_Dy G s H locs (bf_pT G σ o T21) → lv_has ls 6 [(0, .ref o), (1, .int x1), (2, .int v21_2), (3, .int v21_3)] → W p l e (bf_rm 1) s m ([.ref o, .int x1] : List Value).toArray below meth c H locs 0 0 Q (F0 m 21 ls []) := by
    intro n21
    induction n21 with
    | zero =>
      intro v21_2 v21_3 T21 H locs ls hf hd hl
      exact absurd (show (none : Option (Int32 × bf_TS)) = some (r, T') from hf) (by intro h; cases h)
    | succ n21 ih21 =>
      intro v21_2 v21_3 T21 H locs ls hf hd hl
      have hf : fX5_game_21b x1 (fX5_game_21 x1 n21) v21_2 v21_3 T21 = some (r, T') := hf
      unfold fX5_game_21b at hf
      refine lv_iload_n hx hb dX5_game_21 rfl (lv_at hl 3 rfl) ?_
      refine lv_aload_n hx hb dX5_game_22 rfl (lv_at hl 0 rfl) ?_
      refine bf_tga X hd 1 (by decide) (by decide) q1384 dX5_game_23 ?_
      refine lv_iconst (v := 4) hx hb dX5_game_26 (by decide) ?_
      refine bf_tld X hd 1 (by decide) (by decide) dX5_game_27 ?_
      refine lv_icmp_ge (tgt := 51) hx hb dX5_game_28 (by decide) (fun c_24 => ?_) (fun c_24 => ?_)
      · have hf := bf_it hf c_24
        exact J51 v21_2 T21 _ _ _ hf hd (lv_sub hl [0, 1, 2] rfl)
      · have hf := bf_ie hf c_24
        refine lv_iload_n hx hb dX5_game_31 rfl (lv_at hl 2 rfl) ?_
        refine lv_aload_n hx hb dX5_game_32 rfl (lv_at hl 0 rfl) ?_
        refine bf_tga X hd 1 (by decide) (by decide) q1384 dX5_game_33 ?_
        refine lv_bipush (v := 62) hx hb dX5_game_36 (by decide) ?_
        refine lv_iload_n hx hb dX5_game_38 rfl (lv_at hl 3 rfl) ?_
        refine lv_iadd hx hb dX5_game_39 ?_
        obtain ⟨g_25, hf⟩ := bf_c_some hf
        refine bf_tld X hd 1 (by decide) g_25 dX5_game_40 ?_
        refine lv_iconst (v := 4) hx hb dX5_game_41 (by decide) ?_
        refine lv_irem hx hb dX5_game_42 (by decide) ?_
        refine lv_ixor hx hb dX5_game_43 ?_
        obtain ⟨x2_26, ex2_26, hf⟩ := bf_l_e hf
        refine bf_top ex2_26 ?_
        refine lv_istore_n (lv' := [(2, .int x2_26), (0, .ref o), (1, .int x1), (3, .int v21_3)]) hx hb dX5_game_44 rfl hl (by decide) rfl (fun ls hl => ?_)
        obtain ⟨x3_27, ex3_27, hf⟩ := bf_l_e hf
        refine lv_iinc (v := x3_27) (lv' := [(3, .int x3_27), (2, .int x2_26), (0, .ref o), (1, .int x1)]) hx hb dX5_game_45 hl (k := 3) rfl (by rw [ex3_27]; rfl) (by decide) rfl (fun ls hl => ?_)
        refine lv_goto (tgt := 21) hx hb dX5_game_48 (by decide) ?_
        exact ih21 x2_26 x3_27 T21 _ _ _ hf hd (lv_sub hl [2, 3, 1, 0] rfl)
  unfold fX5_game at hf
  refine lv_aload_n hx hb dX5_game_0 rfl (lv_at hl 0 rfl) ?_
  refine lv_iconst (v := 0) hx hb dX5_game_1 (by decide) ?_
  refine bf_tpi X hd 0 (by decide) ⟨rfl, rfl, rfl⟩ q1383 dX5_game_2 (fun H locs hd => ?_)
  obtain ⟨T_28, eT_28, hf⟩ := bf_l_e hf
  have hd := hd.of (congrArg (bf_pT G σ o) eT_28.symm)
  refine lv_aload_n hx hb dX5_game_5 rfl (lv_at hl 0 rfl) ?_
  refine lv_iload_n hx hb dX5_game_6 rfl (lv_at hl 1 rfl) ?_
  refine lv_iconst (v := 0) hx hb dX5_game_7 (by decide) ?_
  refine lv_iconst (v := 1) hx hb dX5_game_8 (by decide) ?_
  refine bf_tcz (n := 3) (As := [.int x1, .int 0, .int 1]) (rest := []) X hd (mX5_isIn l G σ o T_28 x1 0 1 rfl) (lw_V q1564 q1566 qs56 q156 q1567) (by decide +kernel) ⟨Nat.le_of_ble_eq_true rfl, Nat.le_of_ble_eq_true rfl⟩ rfl hl.1 rfl (Nat.le_of_ble_eq_true rfl) dX5_game_9 ⟨Nat.le_of_ble_eq_true rfl, Nat.le_of_ble_eq_true rfl⟩ (fun H locs z_29 hd => ?_)
  refine lv_if_ne (tgt := 17) hx hb dX5_game_12 (by decide) (fun c_30 => ?_) (fun c_30 => ?_)
  · have hf := bf_ie hf c_30
    refine lv_iconst (v := 0) hx hb dX5_game_17 (by decide) ?_
    refine lv_istore_n (lv' := [(2, .int 0), (0, .ref o), (1, .int x1)]) hx hb dX5_game_18 rfl hl (by decide) rfl (fun ls hl => ?_)
    refine lv_iconst (v := 0) hx hb dX5_game_19 (by decide) ?_
    refine lv_istore_n (lv' := [(3, .int 0), (2, .int 0), (0, .ref o), (1, .int x1)]) hx hb dX5_game_20 rfl hl (by decide) rfl (fun ls hl => ?_)
    exact L21 bf_fuel 0 0 T_28 _ _ _ hf hd (lv_sub hl [2, 3, 1, 0] rfl)
  · have hf := bf_it hf c_30
    refine lv_iconst (v := (-1)) hx hb dX5_game_15 (by decide) ?_
    exact kret _ _ _ _ _ _ ⟨(bf_pr hf).1, congrArg (bf_pT G σ o) (bf_pr hf).2⟩ hd dX5_game_16
def fX5_keeps (T : bf_TS) (x1 : Int32) : Option (Int32 × bf_TS) := bf_l (bf_u2 T 54 0 ((T 54 0) + 1)) fun T_1 => if (T_1 52 0) = 0 then (bf_c (bf_in ((T_1 54 0) - 1) 1900) <| some ((T_1 55 ((T_1 54 0) - 1).toNatClampNeg), T_1)) else (bf_c (bf_in ((T_1 54 0) - 1) 1900) <| bf_l (bf_u2 T_1 55 ((T_1 54 0) - 1).toNatClampNeg x1) fun T_4 => some (x1, T_4))
set_option maxHeartbeats 4000000 in
theorem mX5_keeps (l : Launch) (G : bf_G) (σ : bf_V) (o : Nat) (T : bf_TS) (x1 : Int32) {r : Int32} {T' : bf_TS} (hf : fX5_keeps T x1 = some (r, T')) : bf_MI l G yX5_keeps cX5_keeps 2 (bf_rm 0) [.ref o, .int x1] (bf_pT G σ o T) (fun v σ' => v = r ∧ σ' = bf_pT G σ o T') := by
  refine bf_MI.of rfl (Nat.le_of_ble_eq_true rfl) ?_
  intro p e s m below meth c Q X hlk hnm kret hd ls hl
  have hx := X.1
  have hb := X.2.1
  have hown := X.2.2.2.1
  have hts := X.2.2.2.2
  have hl : lv_has ls 2 [(0, .ref o), (1, .int x1)] := hl
  unfold fX5_keeps at hf
  refine lv_aload_n hx hb dX5_keeps_0 rfl (lv_at hl 0 rfl) ?_
  refine lv_aload_n hx hb dX5_keeps_1 rfl (lv_at hl 0 rfl) ?_
  refine bf_tgi X hd 54 (by decide) rfl q1437 dX5_keeps_2 ?_
  refine lv_iconst (v := 1) hx hb dX5_keeps_5 (by decide) ?_
  refine lv_iadd hx hb dX5_keeps_6 ?_
  refine bf_tpi X hd 54 (by decide) ⟨rfl, rfl, rfl⟩ q1437 dX5_keeps_7 (fun H locs hd => ?_)
  obtain ⟨T_6, eT_6, hf⟩ := bf_l_e hf
  have hd := hd.of (congrArg (bf_pT G σ o) eT_6.symm)
  refine lv_aload_n hx hb dX5_keeps_10 rfl (lv_at hl 0 rfl) ?_
  refine bf_tgi X hd 52 (by decide) rfl q1435 dX5_keeps_11 ?_
  refine lv_if_ne (tgt := 29) hx hb dX5_keeps_14 (by decide) (fun c_7 => ?_) (fun c_7 => ?_)
  · have hf := bf_ie hf c_7
    refine lv_aload_n hx hb dX5_keeps_29 rfl (lv_at hl 0 rfl) ?_
    refine bf_tga X hd 55 (by decide) (by decide) q1438 dX5_keeps_30 ?_
    refine lv_aload_n hx hb dX5_keeps_33 rfl (lv_at hl 0 rfl) ?_
    refine bf_tgi X hd 54 (by decide) rfl q1437 dX5_keeps_34 ?_
    refine lv_iconst (v := 1) hx hb dX5_keeps_37 (by decide) ?_
    refine lv_isub hx hb dX5_keeps_38 ?_
    refine lv_iload_n hx hb dX5_keeps_39 rfl (lv_at hl 1 rfl) ?_
    obtain ⟨g_8, hf⟩ := bf_c_some hf
    refine bf_tst X hd 55 (by decide) g_8 dX5_keeps_40 (fun H locs hd => ?_)
    obtain ⟨T_9, eT_9, hf⟩ := bf_l_e hf
    have hd := hd.of (congrArg (bf_pT G σ o) eT_9.symm)
    refine lv_iload_n hx hb dX5_keeps_41 rfl (lv_at hl 1 rfl) ?_
    exact kret _ _ _ _ _ _ ⟨(bf_pr hf).1, congrArg (bf_pT G σ o) (bf_pr hf).2⟩ hd dX5_keeps_42
  · have hf := bf_it hf c_7
    refine lv_aload_n hx hb dX5_keeps_17 rfl (lv_at hl 0 rfl) ?_
    refine bf_tga X hd 55 (by decide) (by decide) q1438 dX5_keeps_18 ?_
    refine lv_aload_n hx hb dX5_keeps_21 rfl (lv_at hl 0 rfl) ?_
    refine bf_tgi X hd 54 (by decide) rfl q1437 dX5_keeps_22 ?_
    refine lv_iconst (v := 1) hx hb dX5_keeps_25 (by decide) ?_
    refine lv_isub hx hb dX5_keeps_26 ?_
    obtain ⟨g_10, hf⟩ := bf_c_some hf
    refine bf_tld X hd 55 (by decide) g_10 dX5_keeps_27 ?_
    exact kret _ _ _ _ _ _ ⟨(bf_pr hf).1, congrArg (bf_pT G σ o) (bf_pr hf).2⟩ hd dX5_keeps_28
def fX5_keepsLaw_96b (k96 : Int32 → bf_TS → Option (bf_TS)) (v96_1 : Int32) (T96 : bf_TS) : Option (bf_TS) := if 400 ≤ v96_1 then (some T96) else (bf_c (bf_in v96_1 1200) <| bf_b2 (fX5_keeps T96 (T96 25 (v96_1).toNatClampNeg)) fun r_26 T_25 => bf_c (bf_in v96_1 1200) <| bf_l (bf_u2 T_25 25 (v96_1).toNatClampNeg r_26) fun T_28 => bf_c (bf_in v96_1 1200) <| bf_b2 (fX5_keeps T_28 (T_28 26 (v96_1).toNatClampNeg)) fun r_31 T_30 => bf_c (bf_in v96_1 1200) <| bf_l (bf_u2 T_30 26 (v96_1).toNatClampNeg r_31) fun T_33 => bf_l (v96_1 + 1) fun x1_34 => k96 x1_34 T_33)
def fX5_keepsLaw_96  : Nat → Int32 → bf_TS → Option (bf_TS)
  | 0, _, _ => none
  | n + 1, v96_1, T96 => fX5_keepsLaw_96b (fX5_keepsLaw_96 n) v96_1 T96
def fX5_keepsLaw_94 (T94 : bf_TS) : Option (bf_TS) := fX5_keepsLaw_96 bf_fuel 0 T94
def fX5_keepsLaw_18b (k18 : Int32 → bf_TS → Option (bf_TS)) (v18_1 : Int32) (T18 : bf_TS) : Option (bf_TS) := if 16 ≤ v18_1 then (fX5_keepsLaw_94 T18) else (bf_c (bf_in v18_1 48) <| bf_b2 (fX5_keeps T18 (T18 21 (v18_1).toNatClampNeg)) fun r_4 T_3 => bf_c (bf_in v18_1 48) <| bf_l (bf_u2 T_3 21 (v18_1).toNatClampNeg r_4) fun T_6 => bf_c (bf_in v18_1 48) <| bf_b2 (fX5_keeps T_6 (T_6 22 (v18_1).toNatClampNeg)) fun r_9 T_8 => bf_c (bf_in v18_1 48) <| bf_l (bf_u2 T_8 22 (v18_1).toNatClampNeg r_9) fun T_11 => bf_c (bf_in v18_1 48) <| bf_b2 (fX5_keeps T_11 (T_11 23 (v18_1).toNatClampNeg)) fun r_14 T_13 => bf_c (bf_in v18_1 48) <| bf_l (bf_u2 T_13 23 (v18_1).toNatClampNeg r_14) fun T_16 => bf_c (bf_in v18_1 48) <| bf_b2 (fX5_keeps T_16 (T_16 24 (v18_1).toNatClampNeg)) fun r_19 T_18 => bf_c (bf_in v18_1 48) <| bf_l (bf_u2 T_18 24 (v18_1).toNatClampNeg r_19) fun T_21 => bf_l (v18_1 + 1) fun x1_22 => k18 x1_22 T_21)
def fX5_keepsLaw_18  : Nat → Int32 → bf_TS → Option (bf_TS)
  | 0, _, _ => none
  | n + 1, v18_1, T18 => fX5_keepsLaw_18b (fX5_keepsLaw_18 n) v18_1 T18
def fX5_keepsLaw (T : bf_TS) : Option (bf_TS) := bf_b2 (fX5_keeps T (T 20 0)) fun r_36 T_35 => bf_l (bf_u2 T_35 20 0 r_36) fun T_37 => fX5_keepsLaw_18 bf_fuel 0 T_37
set_option maxHeartbeats 4000000 in
theorem mX5_keepsLaw (l : Launch) (G : bf_G) (σ : bf_V) (o : Nat) (T : bf_TS) {T' : bf_TS} (hf : fX5_keepsLaw T = some T') : bf_MV l G yX5_keepsLaw cX5_keepsLaw 2 (bf_rm 1) [.ref o] (bf_pT G σ o T) (fun σ' => σ' = bf_pT G σ o T') := by
  refine bf_MV.of rfl (Nat.le_of_ble_eq_true rfl) ?_
  intro p e s m below meth c Q X hlk hnm kret hd ls hl
  have hx := X.1
  have hb := X.2.1
  have hown := X.2.2.2.1
  have hts := X.2.2.2.2
  have hl : lv_has ls 2 [(0, .ref o)] := hl
  have L96 : ∀ (n96 : Nat) (v96_1 : Int32) (T96 : bf_TS) (H : Heap) (locs : List Loc) (ls : Array Slot), fX5_keepsLaw_96 n96 v96_1 T96 = some T' → bf_Dy G s H locs (bf_pT G σ o T96) → lv_has ls 2 [(0, .ref o), (1, .int v96_1)] → W p l e (bf_rm 1) s m ([.ref o] : List Value).toArray below meth c H locs 0 0 Q (F0 m 96 ls []) := by
    intro n96
    induction n96 with
    | zero =>
      intro v96_1 T96 H locs ls hf hd hl
      exact absurd (show (none : Option (bf_TS)) = some T' from hf) (by intro h; cases h)
    | succ n96 ih96 =>
      intro v96_1 T96 H locs ls hf hd hl
      have hf : fX5_keepsLaw_96b (fX5_keepsLaw_96 n96) v96_1 T96 = some T' := hf
      unfold fX5_keepsLaw_96b at hf
      refine lv_iload_n hx hb dX5_keepsLaw_96 rfl (lv_at hl 1 rfl) ?_
      refine lv_sipush (v := 400) hx hb dX5_keepsLaw_97 (by decide) ?_
      refine lv_icmp_ge (tgt := 141) hx hb dX5_keepsLaw_100 (by decide) (fun c_38 => ?_) (fun c_38 => ?_)
      · have hf := bf_it hf c_38
        exact kret _ _ _ _ _ (congrArg (bf_pT G σ o) (bf_so hf)) hd dX5_keepsLaw_141
      · have hf := bf_ie hf c_38
        refine lv_aload_n hx hb dX5_keepsLaw_103 rfl (lv_at hl 0 rfl) ?_
        refine bf_tga X hd 25 (by decide) (by decide) q1408 dX5_keepsLaw_104 ?_
        refine lv_iload_n hx hb dX5_keepsLaw_107 rfl (lv_at hl 1 rfl) ?_
        refine lv_aload_n hx hb dX5_keepsLaw_108 rfl (lv_at hl 0 rfl) ?_
        refine lv_aload_n hx hb dX5_keepsLaw_109 rfl (lv_at hl 0 rfl) ?_
        refine bf_tga X hd 25 (by decide) (by decide) q1408 dX5_keepsLaw_110 ?_
        refine lv_iload_n hx hb dX5_keepsLaw_113 rfl (lv_at hl 1 rfl) ?_
        obtain ⟨g_39, hf⟩ := bf_c_some hf
        refine bf_tld X hd 25 (by decide) g_39 dX5_keepsLaw_114 ?_
        obtain ⟨r_41, T_40, er_41, hf⟩ := bf_b2_some hf
        refine bf_tci (n := 1) (As := [.int (T96 25 (v96_1).toNatClampNeg)]) (rest := [.int v96_1, .ref (o + bf_to 25)]) X hd (mX5_keeps l G σ o T96 (T96 25 (v96_1).toNatClampNeg) er_41) (lw_V q2040 q2042 qs144 q156 q2043) (by decide +kernel) ⟨Nat.le_of_ble_eq_true rfl, Nat.le_of_ble_eq_true rfl⟩ rfl hl.1 rfl (Nat.le_of_ble_eq_true rfl) dX5_keepsLaw_115 ⟨Nat.le_of_ble_eq_true rfl, Nat.le_of_ble_eq_true rfl⟩ (fun H locs hd => ?_)
        obtain ⟨g_42, hf⟩ := bf_c_some hf
        refine bf_tst X hd 25 (by decide) g_42 dX5_keepsLaw_118 (fun H locs hd => ?_)
        obtain ⟨T_43, eT_43, hf⟩ := bf_l_e hf
        have hd := hd.of (congrArg (bf_pT G σ o) eT_43.symm)
        refine lv_aload_n hx hb dX5_keepsLaw_119 rfl (lv_at hl 0 rfl) ?_
        refine bf_tga X hd 26 (by decide) (by decide) q1409 dX5_keepsLaw_120 ?_
        refine lv_iload_n hx hb dX5_keepsLaw_123 rfl (lv_at hl 1 rfl) ?_
        refine lv_aload_n hx hb dX5_keepsLaw_124 rfl (lv_at hl 0 rfl) ?_
        refine lv_aload_n hx hb dX5_keepsLaw_125 rfl (lv_at hl 0 rfl) ?_
        refine bf_tga X hd 26 (by decide) (by decide) q1409 dX5_keepsLaw_126 ?_
        refine lv_iload_n hx hb dX5_keepsLaw_129 rfl (lv_at hl 1 rfl) ?_
        obtain ⟨g_44, hf⟩ := bf_c_some hf
        refine bf_tld X hd 26 (by decide) g_44 dX5_keepsLaw_130 ?_
        obtain ⟨r_46, T_45, er_46, hf⟩ := bf_b2_some hf
        refine bf_tci (n := 1) (As := [.int (T_43 26 (v96_1).toNatClampNeg)]) (rest := [.int v96_1, .ref (o + bf_to 26)]) X hd (mX5_keeps l G σ o T_43 (T_43 26 (v96_1).toNatClampNeg) er_46) (lw_V q2040 q2042 qs144 q156 q2043) (by decide +kernel) ⟨Nat.le_of_ble_eq_true rfl, Nat.le_of_ble_eq_true rfl⟩ rfl hl.1 rfl (Nat.le_of_ble_eq_true rfl) dX5_keepsLaw_131 ⟨Nat.le_of_ble_eq_true rfl, Nat.le_of_ble_eq_true rfl⟩ (fun H locs hd => ?_)
        obtain ⟨g_47, hf⟩ := bf_c_some hf
        refine bf_tst X hd 26 (by decide) g_47 dX5_keepsLaw_134 (fun H locs hd => ?_)
        obtain ⟨T_48, eT_48, hf⟩ := bf_l_e hf
        have hd := hd.of (congrArg (bf_pT G σ o) eT_48.symm)
        obtain ⟨x1_49, ex1_49, hf⟩ := bf_l_e hf
        refine lv_iinc (v := x1_49) (lv' := [(1, .int x1_49), (0, .ref o)]) hx hb dX5_keepsLaw_135 hl (k := 1) rfl (by rw [ex1_49]; rfl) (by decide) rfl (fun ls hl => ?_)
        refine lv_goto (tgt := 96) hx hb dX5_keepsLaw_138 (by decide) ?_
        exact ih96 x1_49 T_48 _ _ _ hf hd (lv_sub hl [1, 0] rfl)
  have J94 : ∀ (T94 : bf_TS) (H : Heap) (locs : List Loc) (ls : Array Slot), fX5_keepsLaw_94 T94 = some T' → bf_Dy G s H locs (bf_pT G σ o T94) → lv_has ls 2 [(0, .ref o)] → W p l e (bf_rm 1) s m ([.ref o] : List Value).toArray below meth c H locs 0 0 Q (F0 m 94 ls []) := by
    intro T94 H locs ls hf hd hl
    unfold fX5_keepsLaw_94 at hf
    refine lv_iconst (v := 0) hx hb dX5_keepsLaw_94 (by decide) ?_
    refine lv_istore_n (lv' := [(1, .int 0), (0, .ref o)]) hx hb dX5_keepsLaw_95 rfl hl (by decide) rfl (fun ls hl => ?_)
    exact L96 bf_fuel 0 T94 _ _ _ hf hd (lv_sub hl [1, 0] rfl)
  have L18 : ∀ (n18 : Nat) (v18_1 : Int32) (T18 : bf_TS) (H : Heap) (locs : List Loc) (ls : Array Slot), fX5_keepsLaw_18 n18 v18_1 T18 = some T' → bf_Dy G s H locs (bf_pT G σ o T18) → lv_has ls 2 [(0, .ref o), (1, .int v18_1)] → W p l e (bf_rm 1) s m ([.ref o] : List Value).toArray below meth c H locs 0 0 Q (F0 m 18 ls []) := by
    intro n18
    induction n18 with
    | zero =>
      intro v18_1 T18 H locs ls hf hd hl
      exact absurd (show (none : Option (bf_TS)) = some T' from hf) (by intro h; cases h)
    | succ n18 ih18 =>
      intro v18_1 T18 H locs ls hf hd hl
      have hf : fX5_keepsLaw_18b (fX5_keepsLaw_18 n18) v18_1 T18 = some T' := hf
      unfold fX5_keepsLaw_18b at hf
      refine lv_iload_n hx hb dX5_keepsLaw_18 rfl (lv_at hl 1 rfl) ?_
      refine lv_bipush (v := 16) hx hb dX5_keepsLaw_19 (by decide) ?_
      refine lv_icmp_ge (tgt := 94) hx hb dX5_keepsLaw_21 (by decide) (fun c_50 => ?_) (fun c_50 => ?_)
      · have hf := bf_it hf c_50
        exact J94 T18 _ _ _ hf hd (lv_sub hl [0] rfl)
      · have hf := bf_ie hf c_50
        refine lv_aload_n hx hb dX5_keepsLaw_24 rfl (lv_at hl 0 rfl) ?_
        refine bf_tga X hd 21 (by decide) (by decide) q1404 dX5_keepsLaw_25 ?_
        refine lv_iload_n hx hb dX5_keepsLaw_28 rfl (lv_at hl 1 rfl) ?_
        refine lv_aload_n hx hb dX5_keepsLaw_29 rfl (lv_at hl 0 rfl) ?_
        refine lv_aload_n hx hb dX5_keepsLaw_30 rfl (lv_at hl 0 rfl) ?_
        refine bf_tga X hd 21 (by decide) (by decide) q1404 dX5_keepsLaw_31 ?_
        refine lv_iload_n hx hb dX5_keepsLaw_34 rfl (lv_at hl 1 rfl) ?_
        obtain ⟨g_51, hf⟩ := bf_c_some hf
        refine bf_tld X hd 21 (by decide) g_51 dX5_keepsLaw_35 ?_
        obtain ⟨r_53, T_52, er_53, hf⟩ := bf_b2_some hf
        refine bf_tci (n := 1) (As := [.int (T18 21 (v18_1).toNatClampNeg)]) (rest := [.int v18_1, .ref (o + bf_to 21)]) X hd (mX5_keeps l G σ o T18 (T18 21 (v18_1).toNatClampNeg) er_53) (lw_V q2040 q2042 qs144 q156 q2043) (by decide +kernel) ⟨Nat.le_of_ble_eq_true rfl, Nat.le_of_ble_eq_true rfl⟩ rfl hl.1 rfl (Nat.le_of_ble_eq_true rfl) dX5_keepsLaw_36 ⟨Nat.le_of_ble_eq_true rfl, Nat.le_of_ble_eq_true rfl⟩ (fun H locs hd => ?_)
        obtain ⟨g_54, hf⟩ := bf_c_some hf
        refine bf_tst X hd 21 (by decide) g_54 dX5_keepsLaw_39 (fun H locs hd => ?_)
        obtain ⟨T_55, eT_55, hf⟩ := bf_l_e hf
        have hd := hd.of (congrArg (bf_pT G σ o) eT_55.symm)
        refine lv_aload_n hx hb dX5_keepsLaw_40 rfl (lv_at hl 0 rfl) ?_
        refine bf_tga X hd 22 (by decide) (by decide) q1405 dX5_keepsLaw_41 ?_
        refine lv_iload_n hx hb dX5_keepsLaw_44 rfl (lv_at hl 1 rfl) ?_
        refine lv_aload_n hx hb dX5_keepsLaw_45 rfl (lv_at hl 0 rfl) ?_
        refine lv_aload_n hx hb dX5_keepsLaw_46 rfl (lv_at hl 0 rfl) ?_
        refine bf_tga X hd 22 (by decide) (by decide) q1405 dX5_keepsLaw_47 ?_
        refine lv_iload_n hx hb dX5_keepsLaw_50 rfl (lv_at hl 1 rfl) ?_
        obtain ⟨g_56, hf⟩ := bf_c_some hf
        refine bf_tld X hd 22 (by decide) g_56 dX5_keepsLaw_51 ?_
        obtain ⟨r_58, T_57, er_58, hf⟩ := bf_b2_some hf
        refine bf_tci (n := 1) (As := [.int (T_55 22 (v18_1).toNatClampNeg)]) (rest := [.int v18_1, .ref (o + bf_to 22)]) X hd (mX5_keeps l G σ o T_55 (T_55 22 (v18_1).toNatClampNeg) er_58) (lw_V q2040 q2042 qs144 q156 q2043) (by decide +kernel) ⟨Nat.le_of_ble_eq_true rfl, Nat.le_of_ble_eq_true rfl⟩ rfl hl.1 rfl (Nat.le_of_ble_eq_true rfl) dX5_keepsLaw_52 ⟨Nat.le_of_ble_eq_true rfl, Nat.le_of_ble_eq_true rfl⟩ (fun H locs hd => ?_)
        obtain ⟨g_59, hf⟩ := bf_c_some hf
        refine bf_tst X hd 22 (by decide) g_59 dX5_keepsLaw_55 (fun H locs hd => ?_)
        obtain ⟨T_60, eT_60, hf⟩ := bf_l_e hf
        have hd := hd.of (congrArg (bf_pT G σ o) eT_60.symm)
        refine lv_aload_n hx hb dX5_keepsLaw_56 rfl (lv_at hl 0 rfl) ?_
        refine bf_tga X hd 23 (by decide) (by decide) q1406 dX5_keepsLaw_57 ?_
        refine lv_iload_n hx hb dX5_keepsLaw_60 rfl (lv_at hl 1 rfl) ?_
        refine lv_aload_n hx hb dX5_keepsLaw_61 rfl (lv_at hl 0 rfl) ?_
        refine lv_aload_n hx hb dX5_keepsLaw_62 rfl (lv_at hl 0 rfl) ?_
        refine bf_tga X hd 23 (by decide) (by decide) q1406 dX5_keepsLaw_63 ?_
        refine lv_iload_n hx hb dX5_keepsLaw_66 rfl (lv_at hl 1 rfl) ?_
        obtain ⟨g_61, hf⟩ := bf_c_some hf
        refine bf_tld X hd 23 (by decide) g_61 dX5_keepsLaw_67 ?_
        obtain ⟨r_63, T_62, er_63, hf⟩ := bf_b2_some hf
        refine bf_tci (n := 1) (As := [.int (T_60 23 (v18_1).toNatClampNeg)]) (rest := [.int v18_1, .ref (o + bf_to 23)]) X hd (mX5_keeps l G σ o T_60 (T_60 23 (v18_1).toNatClampNeg) er_63) (lw_V q2040 q2042 qs144 q156 q2043) (by decide +kernel) ⟨Nat.le_of_ble_eq_true rfl, Nat.le_of_ble_eq_true rfl⟩ rfl hl.1 rfl (Nat.le_of_ble_eq_true rfl) dX5_keepsLaw_68 ⟨Nat.le_of_ble_eq_true rfl, Nat.le_of_ble_eq_true rfl⟩ (fun H locs hd => ?_)
        obtain ⟨g_64, hf⟩ := bf_c_some hf
        refine bf_tst X hd 23 (by decide) g_64 dX5_keepsLaw_71 (fun H locs hd => ?_)
        obtain ⟨T_65, eT_65, hf⟩ := bf_l_e hf
        have hd := hd.of (congrArg (bf_pT G σ o) eT_65.symm)
        refine lv_aload_n hx hb dX5_keepsLaw_72 rfl (lv_at hl 0 rfl) ?_
        refine bf_tga X hd 24 (by decide) (by decide) q1407 dX5_keepsLaw_73 ?_
        refine lv_iload_n hx hb dX5_keepsLaw_76 rfl (lv_at hl 1 rfl) ?_
        refine lv_aload_n hx hb dX5_keepsLaw_77 rfl (lv_at hl 0 rfl) ?_
        refine lv_aload_n hx hb dX5_keepsLaw_78 rfl (lv_at hl 0 rfl) ?_
        refine bf_tga X hd 24 (by decide) (by decide) q1407 dX5_keepsLaw_79 ?_
        refine lv_iload_n hx hb dX5_keepsLaw_82 rfl (lv_at hl 1 rfl) ?_
        obtain ⟨g_66, hf⟩ := bf_c_some hf
        refine bf_tld X hd 24 (by decide) g_66 dX5_keepsLaw_83 ?_
        obtain ⟨r_68, T_67, er_68, hf⟩ := bf_b2_some hf
        refine bf_tci (n := 1) (As := [.int (T_65 24 (v18_1).toNatClampNeg)]) (rest := [.int v18_1, .ref (o + bf_to 24)]) X hd (mX5_keeps l G σ o T_65 (T_65 24 (v18_1).toNatClampNeg) er_68) (lw_V q2040 q2042 qs144 q156 q2043) (by decide +kernel) ⟨Nat.le_of_ble_eq_true rfl, Nat.le_of_ble_eq_true rfl⟩ rfl hl.1 rfl (Nat.le_of_ble_eq_true rfl) dX5_keepsLaw_84 ⟨Nat.le_of_ble_eq_true rfl, Nat.le_of_ble_eq_true rfl⟩ (fun H locs hd => ?_)
        obtain ⟨g_69, hf⟩ := bf_c_some hf
        refine bf_tst X hd 24 (by decide) g_69 dX5_keepsLaw_87 (fun H locs hd => ?_)
        obtain ⟨T_70, eT_70, hf⟩ := bf_l_e hf
        have hd := hd.of (congrArg (bf_pT G σ o) eT_70.symm)
        obtain ⟨x1_71, ex1_71, hf⟩ := bf_l_e hf
        refine lv_iinc (v := x1_71) (lv' := [(1, .int x1_71), (0, .ref o)]) hx hb dX5_keepsLaw_88 hl (k := 1) rfl (by rw [ex1_71]; rfl) (by decide) rfl (fun ls hl => ?_)
        refine lv_goto (tgt := 18) hx hb dX5_keepsLaw_91 (by decide) ?_
        exact ih18 x1_71 T_70 _ _ _ hf hd (lv_sub hl [1, 0] rfl)
  unfold fX5_keepsLaw at hf
  refine lv_aload_n hx hb dX5_keepsLaw_0 rfl (lv_at hl 0 rfl) ?_
  refine bf_tga X hd 20 (by decide) (by decide) q1403 dX5_keepsLaw_1 ?_
  refine lv_iconst (v := 0) hx hb dX5_keepsLaw_4 (by decide) ?_
  refine lv_aload_n hx hb dX5_keepsLaw_5 rfl (lv_at hl 0 rfl) ?_
  refine lv_aload_n hx hb dX5_keepsLaw_6 rfl (lv_at hl 0 rfl) ?_
  refine bf_tga X hd 20 (by decide) (by decide) q1403 dX5_keepsLaw_7 ?_
  refine lv_iconst (v := 0) hx hb dX5_keepsLaw_10 (by decide) ?_
  refine bf_tld X hd 20 (by decide) (by decide) dX5_keepsLaw_11 ?_
  obtain ⟨r_73, T_72, er_73, hf⟩ := bf_b2_some hf
  refine bf_tci (n := 1) (As := [.int (T 20 0)]) (rest := [.int 0, .ref (o + bf_to 20)]) X hd (mX5_keeps l G σ o T (T 20 0) er_73) (lw_V q2040 q2042 qs144 q156 q2043) (by decide +kernel) ⟨Nat.le_of_ble_eq_true rfl, Nat.le_of_ble_eq_true rfl⟩ rfl hl.1 rfl (Nat.le_of_ble_eq_true rfl) dX5_keepsLaw_12 ⟨Nat.le_of_ble_eq_true rfl, Nat.le_of_ble_eq_true rfl⟩ (fun H locs hd => ?_)
  refine bf_tst X hd 20 (by decide) (by decide) dX5_keepsLaw_15 (fun H locs hd => ?_)
  obtain ⟨T_74, eT_74, hf⟩ := bf_l_e hf
  have hd := hd.of (congrArg (bf_pT G σ o) eT_74.symm)
  refine lv_iconst (v := 0) hx hb dX5_keepsLaw_16 (by decide) ?_
  refine lv_istore_n (lv' := [(1, .int 0), (0, .ref o)]) hx hb dX5_keepsLaw_17 rfl hl (by decide) rfl (fun ls hl => ?_)
  exact L18 bf_fuel 0 T_74 _ _ _ hf hd (lv_sub hl [1, 0] rfl)
def fX5_keepsTold_170b (k170 : Int32 → bf_TS → Option (bf_TS)) (v170_1 : Int32) (T170 : bf_TS) : Option (bf_TS) := if 64 ≤ v170_1 then (some T170) else (bf_c (bf_in v170_1 128) <| bf_b2 (fX5_keeps T170 (T170 39 (v170_1).toNatClampNeg)) fun r_18 T_17 => bf_c (bf_in v170_1 128) <| bf_l (bf_u2 T_17 39 (v170_1).toNatClampNeg r_18) fun T_20 => bf_l (v170_1 + 1) fun x1_21 => k170 x1_21 T_20)
def fX5_keepsTold_170  : Nat → Int32 → bf_TS → Option (bf_TS)
  | 0, _, _ => none
  | n + 1, v170_1, T170 => fX5_keepsTold_170b (fX5_keepsTold_170 n) v170_1 T170
def fX5_keepsTold_168 (T168 : bf_TS) : Option (bf_TS) := fX5_keepsTold_170 bf_fuel 0 T168
def fX5_keepsTold_140b (k140 : Int32 → bf_TS → Option (bf_TS)) (v140_1 : Int32) (T140 : bf_TS) : Option (bf_TS) := if 90 ≤ v140_1 then (fX5_keepsTold_168 T140) else (bf_c (bf_in v140_1 180) <| bf_b2 (fX5_keeps T140 (T140 37 (v140_1).toNatClampNeg)) fun r_11 T_10 => bf_c (bf_in v140_1 180) <| bf_l (bf_u2 T_10 37 (v140_1).toNatClampNeg r_11) fun T_13 => bf_l (v140_1 + 1) fun x1_14 => k140 x1_14 T_13)
def fX5_keepsTold_140  : Nat → Int32 → bf_TS → Option (bf_TS)
  | 0, _, _ => none
  | n + 1, v140_1, T140 => fX5_keepsTold_140b (fX5_keepsTold_140 n) v140_1 T140
def fX5_keepsTold_138 (T138 : bf_TS) : Option (bf_TS) := fX5_keepsTold_140 bf_fuel 0 T138
def fX5_keepsTold_110b (k110 : Int32 → bf_TS → Option (bf_TS)) (v110_1 : Int32) (T110 : bf_TS) : Option (bf_TS) := if 16 ≤ v110_1 then (fX5_keepsTold_138 T110) else (bf_c (bf_in v110_1 16) <| bf_b2 (fX5_keeps T110 (T110 49 (v110_1).toNatClampNeg)) fun r_4 T_3 => bf_c (bf_in v110_1 16) <| bf_l (bf_u2 T_3 49 (v110_1).toNatClampNeg r_4) fun T_6 => bf_l (v110_1 + 1) fun x1_7 => k110 x1_7 T_6)
def fX5_keepsTold_110  : Nat → Int32 → bf_TS → Option (bf_TS)
  | 0, _, _ => none
  | n + 1, v110_1, T110 => fX5_keepsTold_110b (fX5_keepsTold_110 n) v110_1 T110
def fX5_keepsTold (T : bf_TS) : Option (bf_TS) := bf_b2 (fX5_keeps T (T 6 0)) fun r_23 T_22 => bf_l (bf_u2 T_22 6 0 r_23) fun T_24 => bf_b2 (fX5_keeps T_24 (T_24 7 0)) fun r_26 T_25 => bf_l (bf_u2 T_25 7 0 r_26) fun T_27 => bf_b2 (fX5_keeps T_27 (T_27 8 0)) fun r_29 T_28 => bf_l (bf_u2 T_28 8 0 r_29) fun T_30 => bf_b2 (fX5_keeps T_30 (T_30 9 0)) fun r_32 T_31 => bf_l (bf_u2 T_31 9 0 r_32) fun T_33 => bf_b2 (fX5_keeps T_33 (T_33 10 0)) fun r_35 T_34 => bf_l (bf_u2 T_34 10 0 r_35) fun T_36 => bf_b2 (fX5_keeps T_36 (T_36 11 0)) fun r_38 T_37 => bf_l (bf_u2 T_37 11 0 r_38) fun T_39 => bf_b2 (fX5_keeps T_39 (T_39 36 0)) fun r_41 T_40 => bf_l (bf_u2 T_40 36 0 r_41) fun T_42 => bf_b2 (fX5_keeps T_42 (T_42 38 0)) fun r_44 T_43 => bf_l (bf_u2 T_43 38 0 r_44) fun T_45 => bf_b2 (fX5_keeps T_45 (T_45 48 0)) fun r_47 T_46 => bf_l (bf_u2 T_46 48 0 r_47) fun T_48 => fX5_keepsTold_110 bf_fuel 0 T_48
set_option maxHeartbeats 4000000 in
theorem mX5_keepsTold (l : Launch) (G : bf_G) (σ : bf_V) (o : Nat) (T : bf_TS) {T' : bf_TS} (hf : fX5_keepsTold T = some T') : bf_MV l G yX5_keepsTold cX5_keepsTold 2 (bf_rm 1) [.ref o] (bf_pT G σ o T) (fun σ' => σ' = bf_pT G σ o T') := by
  refine bf_MV.of rfl (Nat.le_of_ble_eq_true rfl) ?_
  intro p e s m below meth c Q X hlk hnm kret hd ls hl
  have hx := X.1
  have hb := X.2.1
  have hown := X.2.2.2.1
  have hts := X.2.2.2.2
  have hl : lv_has ls 2 [(0, .ref o)] := hl
  have L170 : ∀ (n170 : Nat) (v170_1 : Int32) (T170 : bf_TS) (H : Heap) (locs : List Loc) (ls : Array Slot), fX5_keepsTold_170 n170 v170_1 T170 = some T' → bf_Dy G s H locs (bf_pT G σ o T170) → lv_has ls 2 [(0, .ref o), (1, .int v170_1)] → W p l e (bf_rm 1) s m ([.ref o] : List Value).toArray below meth c H locs 0 0 Q (F0 m 170 ls []) := by
    intro n170
    induction n170 with
    | zero =>
      intro v170_1 T170 H locs ls hf hd hl
      exact absurd (show (none : Option (bf_TS)) = some T' from hf) (by intro h; cases h)
    | succ n170 ih170 =>
      intro v170_1 T170 H locs ls hf hd hl
      have hf : fX5_keepsTold_170b (fX5_keepsTold_170 n170) v170_1 T170 = some T' := hf
      unfold fX5_keepsTold_170b at hf
      refine lv_iload_n hx hb dX5_keepsTold_170 rfl (lv_at hl 1 rfl) ?_
      refine lv_bipush (v := 64) hx hb dX5_keepsTold_171 (by decide) ?_
      refine lv_icmp_ge (tgt := 198) hx hb dX5_keepsTold_173 (by decide) (fun c_49 => ?_) (fun c_49 => ?_)
      · have hf := bf_it hf c_49
        exact kret _ _ _ _ _ (congrArg (bf_pT G σ o) (bf_so hf)) hd dX5_keepsTold_198
      · have hf := bf_ie hf c_49
        refine lv_aload_n hx hb dX5_keepsTold_176 rfl (lv_at hl 0 rfl) ?_
        refine bf_tga X hd 39 (by decide) (by decide) q1422 dX5_keepsTold_177 ?_
        refine lv_iload_n hx hb dX5_keepsTold_180 rfl (lv_at hl 1 rfl) ?_
        refine lv_aload_n hx hb dX5_keepsTold_181 rfl (lv_at hl 0 rfl) ?_
        refine lv_aload_n hx hb dX5_keepsTold_182 rfl (lv_at hl 0 rfl) ?_
        refine bf_tga X hd 39 (by decide) (by decide) q1422 dX5_keepsTold_183 ?_
        refine lv_iload_n hx hb dX5_keepsTold_186 rfl (lv_at hl 1 rfl) ?_
        obtain ⟨g_50, hf⟩ := bf_c_some hf
        refine bf_tld X hd 39 (by decide) g_50 dX5_keepsTold_187 ?_
        obtain ⟨r_52, T_51, er_52, hf⟩ := bf_b2_some hf
        refine bf_tci (n := 1) (As := [.int (T170 39 (v170_1).toNatClampNeg)]) (rest := [.int v170_1, .ref (o + bf_to 39)]) X hd (mX5_keeps l G σ o T170 (T170 39 (v170_1).toNatClampNeg) er_52) (lw_V q2040 q2042 qs144 q156 q2043) (by decide +kernel) ⟨Nat.le_of_ble_eq_true rfl, Nat.le_of_ble_eq_true rfl⟩ rfl hl.1 rfl (Nat.le_of_ble_eq_true rfl) dX5_keepsTold_188 ⟨Nat.le_of_ble_eq_true rfl, Nat.le_of_ble_eq_true rfl⟩ (fun H locs hd => ?_)
        obtain ⟨g_53, hf⟩ := bf_c_some hf
        refine bf_tst X hd 39 (by decide) g_53 dX5_keepsTold_191 (fun H locs hd => ?_)
        obtain ⟨T_54, eT_54, hf⟩ := bf_l_e hf
        have hd := hd.of (congrArg (bf_pT G σ o) eT_54.symm)
        obtain ⟨x1_55, ex1_55, hf⟩ := bf_l_e hf
        refine lv_iinc (v := x1_55) (lv' := [(1, .int x1_55), (0, .ref o)]) hx hb dX5_keepsTold_192 hl (k := 1) rfl (by rw [ex1_55]; rfl) (by decide) rfl (fun ls hl => ?_)
        refine lv_goto (tgt := 170) hx hb dX5_keepsTold_195 (by decide) ?_
        exact ih170 x1_55 T_54 _ _ _ hf hd (lv_sub hl [1, 0] rfl)
  have J168 : ∀ (T168 : bf_TS) (H : Heap) (locs : List Loc) (ls : Array Slot), fX5_keepsTold_168 T168 = some T' → bf_Dy G s H locs (bf_pT G σ o T168) → lv_has ls 2 [(0, .ref o)] → W p l e (bf_rm 1) s m ([.ref o] : List Value).toArray below meth c H locs 0 0 Q (F0 m 168 ls []) := by
    intro T168 H locs ls hf hd hl
    unfold fX5_keepsTold_168 at hf
    refine lv_iconst (v := 0) hx hb dX5_keepsTold_168 (by decide) ?_
    refine lv_istore_n (lv' := [(1, .int 0), (0, .ref o)]) hx hb dX5_keepsTold_169 rfl hl (by decide) rfl (fun ls hl => ?_)
    exact L170 bf_fuel 0 T168 _ _ _ hf hd (lv_sub hl [1, 0] rfl)
  have L140 : ∀ (n140 : Nat) (v140_1 : Int32) (T140 : bf_TS) (H : Heap) (locs : List Loc) (ls : Array Slot), fX5_keepsTold_140 n140 v140_1 T140 = some T' → bf_Dy G s H locs (bf_pT G σ o T140) → lv_has ls 2 [(0, .ref o), (1, .int v140_1)] → W p l e (bf_rm 1) s m ([.ref o] : List Value).toArray below meth c H locs 0 0 Q (F0 m 140 ls []) := by
    intro n140
    induction n140 with
    | zero =>
      intro v140_1 T140 H locs ls hf hd hl
      exact absurd (show (none : Option (bf_TS)) = some T' from hf) (by intro h; cases h)
    | succ n140 ih140 =>
      intro v140_1 T140 H locs ls hf hd hl
      have hf : fX5_keepsTold_140b (fX5_keepsTold_140 n140) v140_1 T140 = some T' := hf
      unfold fX5_keepsTold_140b at hf
      refine lv_iload_n hx hb dX5_keepsTold_140 rfl (lv_at hl 1 rfl) ?_
      refine lv_bipush (v := 90) hx hb dX5_keepsTold_141 (by decide) ?_
      refine lv_icmp_ge (tgt := 168) hx hb dX5_keepsTold_143 (by decide) (fun c_56 => ?_) (fun c_56 => ?_)
      · have hf := bf_it hf c_56
        exact J168 T140 _ _ _ hf hd (lv_sub hl [0] rfl)
      · have hf := bf_ie hf c_56
        refine lv_aload_n hx hb dX5_keepsTold_146 rfl (lv_at hl 0 rfl) ?_
        refine bf_tga X hd 37 (by decide) (by decide) q1420 dX5_keepsTold_147 ?_
        refine lv_iload_n hx hb dX5_keepsTold_150 rfl (lv_at hl 1 rfl) ?_
        refine lv_aload_n hx hb dX5_keepsTold_151 rfl (lv_at hl 0 rfl) ?_
        refine lv_aload_n hx hb dX5_keepsTold_152 rfl (lv_at hl 0 rfl) ?_
        refine bf_tga X hd 37 (by decide) (by decide) q1420 dX5_keepsTold_153 ?_
        refine lv_iload_n hx hb dX5_keepsTold_156 rfl (lv_at hl 1 rfl) ?_
        obtain ⟨g_57, hf⟩ := bf_c_some hf
        refine bf_tld X hd 37 (by decide) g_57 dX5_keepsTold_157 ?_
        obtain ⟨r_59, T_58, er_59, hf⟩ := bf_b2_some hf
        refine bf_tci (n := 1) (As := [.int (T140 37 (v140_1).toNatClampNeg)]) (rest := [.int v140_1, .ref (o + bf_to 37)]) X hd (mX5_keeps l G σ o T140 (T140 37 (v140_1).toNatClampNeg) er_59) (lw_V q2040 q2042 qs144 q156 q2043) (by decide +kernel) ⟨Nat.le_of_ble_eq_true rfl, Nat.le_of_ble_eq_true rfl⟩ rfl hl.1 rfl (Nat.le_of_ble_eq_true rfl) dX5_keepsTold_158 ⟨Nat.le_of_ble_eq_true rfl, Nat.le_of_ble_eq_true rfl⟩ (fun H locs hd => ?_)
        obtain ⟨g_60, hf⟩ := bf_c_some hf
        refine bf_tst X hd 37 (by decide) g_60 dX5_keepsTold_161 (fun H locs hd => ?_)
        obtain ⟨T_61, eT_61, hf⟩ := bf_l_e hf
        have hd := hd.of (congrArg (bf_pT G σ o) eT_61.symm)
        obtain ⟨x1_62, ex1_62, hf⟩ := bf_l_e hf
        refine lv_iinc (v := x1_62) (lv' := [(1, .int x1_62), (0, .ref o)]) hx hb dX5_keepsTold_162 hl (k := 1) rfl (by rw [ex1_62]; rfl) (by decide) rfl (fun ls hl => ?_)
        refine lv_goto (tgt := 140) hx hb dX5_keepsTold_165 (by decide) ?_
        exact ih140 x1_62 T_61 _ _ _ hf hd (lv_sub hl [1, 0] rfl)
  have J138 : ∀ (T138 : bf_TS) (H : Heap) (locs : List Loc) (ls : Array Slot), fX5_keepsTold_138 T138 = some T' → bf_Dy G s H locs (bf_pT G σ o T138) → lv_has ls 2 [(0, .ref o)] → W p l e (bf_rm 1) s m ([.ref o] : List Value).toArray below meth c H locs 0 0 Q (F0 m 138 ls []) := by
    intro T138 H locs ls hf hd hl
    unfold fX5_keepsTold_138 at hf
    refine lv_iconst (v := 0) hx hb dX5_keepsTold_138 (by decide) ?_
    refine lv_istore_n (lv' := [(1, .int 0), (0, .ref o)]) hx hb dX5_keepsTold_139 rfl hl (by decide) rfl (fun ls hl => ?_)
    exact L140 bf_fuel 0 T138 _ _ _ hf hd (lv_sub hl [1, 0] rfl)
  have L110 : ∀ (n110 : Nat) (v110_1 : Int32) (T110 : bf_TS) (H : Heap) (locs : List Loc) (ls : Array Slot), fX5_keepsTold_110 n110 v110_1 T110 = some T' → bf_Dy G s H locs (bf_pT G σ o T110) → lv_has ls 2 [(0, .ref o), (1, .int v110_1)] → W p l e (bf_rm 1) s m ([.ref o] : List Value).toArray below meth c H locs 0 0 Q (F0 m 110 ls []) := by
    intro n110
    induction n110 with
    | zero =>
      intro v110_1 T110 H locs ls hf hd hl
      exact absurd (show (none : Option (bf_TS)) = some T' from hf) (by intro h; cases h)
    | succ n110 ih110 =>
      intro v110_1 T110 H locs ls hf hd hl
      have hf : fX5_keepsTold_110b (fX5_keepsTold_110 n110) v110_1 T110 = some T' := hf
      unfold fX5_keepsTold_110b at hf
      refine lv_iload_n hx hb dX5_keepsTold_110 rfl (lv_at hl 1 rfl) ?_
      refine lv_bipush (v := 16) hx hb dX5_keepsTold_111 (by decide) ?_
      refine lv_icmp_ge (tgt := 138) hx hb dX5_keepsTold_113 (by decide) (fun c_63 => ?_) (fun c_63 => ?_)
      · have hf := bf_it hf c_63
        exact J138 T110 _ _ _ hf hd (lv_sub hl [0] rfl)
      · have hf := bf_ie hf c_63
        refine lv_aload_n hx hb dX5_keepsTold_116 rfl (lv_at hl 0 rfl) ?_
        refine bf_tga X hd 49 (by decide) (by decide) q1432 dX5_keepsTold_117 ?_
        refine lv_iload_n hx hb dX5_keepsTold_120 rfl (lv_at hl 1 rfl) ?_
        refine lv_aload_n hx hb dX5_keepsTold_121 rfl (lv_at hl 0 rfl) ?_
        refine lv_aload_n hx hb dX5_keepsTold_122 rfl (lv_at hl 0 rfl) ?_
        refine bf_tga X hd 49 (by decide) (by decide) q1432 dX5_keepsTold_123 ?_
        refine lv_iload_n hx hb dX5_keepsTold_126 rfl (lv_at hl 1 rfl) ?_
        obtain ⟨g_64, hf⟩ := bf_c_some hf
        refine bf_tld X hd 49 (by decide) g_64 dX5_keepsTold_127 ?_
        obtain ⟨r_66, T_65, er_66, hf⟩ := bf_b2_some hf
        refine bf_tci (n := 1) (As := [.int (T110 49 (v110_1).toNatClampNeg)]) (rest := [.int v110_1, .ref (o + bf_to 49)]) X hd (mX5_keeps l G σ o T110 (T110 49 (v110_1).toNatClampNeg) er_66) (lw_V q2040 q2042 qs144 q156 q2043) (by decide +kernel) ⟨Nat.le_of_ble_eq_true rfl, Nat.le_of_ble_eq_true rfl⟩ rfl hl.1 rfl (Nat.le_of_ble_eq_true rfl) dX5_keepsTold_128 ⟨Nat.le_of_ble_eq_true rfl, Nat.le_of_ble_eq_true rfl⟩ (fun H locs hd => ?_)
        obtain ⟨g_67, hf⟩ := bf_c_some hf
        refine bf_tst X hd 49 (by decide) g_67 dX5_keepsTold_131 (fun H locs hd => ?_)
        obtain ⟨T_68, eT_68, hf⟩ := bf_l_e hf
        have hd := hd.of (congrArg (bf_pT G σ o) eT_68.symm)
        obtain ⟨x1_69, ex1_69, hf⟩ := bf_l_e hf
        refine lv_iinc (v := x1_69) (lv' := [(1, .int x1_69), (0, .ref o)]) hx hb dX5_keepsTold_132 hl (k := 1) rfl (by rw [ex1_69]; rfl) (by decide) rfl (fun ls hl => ?_)
        refine lv_goto (tgt := 110) hx hb dX5_keepsTold_135 (by decide) ?_
        exact ih110 x1_69 T_68 _ _ _ hf hd (lv_sub hl [1, 0] rfl)
  unfold fX5_keepsTold at hf
  refine lv_aload_n hx hb dX5_keepsTold_0 rfl (lv_at hl 0 rfl) ?_
  refine lv_aload_n hx hb dX5_keepsTold_1 rfl (lv_at hl 0 rfl) ?_
  refine lv_aload_n hx hb dX5_keepsTold_2 rfl (lv_at hl 0 rfl) ?_
  refine bf_tgi X hd 6 (by decide) rfl q1389 dX5_keepsTold_3 ?_
  obtain ⟨r_71, T_70, er_71, hf⟩ := bf_b2_some hf
  refine bf_tci (n := 1) (As := [.int (T 6 0)]) (rest := [.ref o]) X hd (mX5_keeps l G σ o T (T 6 0) er_71) (lw_V q2040 q2042 qs144 q156 q2043) (by decide +kernel) ⟨Nat.le_of_ble_eq_true rfl, Nat.le_of_ble_eq_true rfl⟩ rfl hl.1 rfl (Nat.le_of_ble_eq_true rfl) dX5_keepsTold_6 ⟨Nat.le_of_ble_eq_true rfl, Nat.le_of_ble_eq_true rfl⟩ (fun H locs hd => ?_)
  refine bf_tpi X hd 6 (by decide) ⟨rfl, rfl, rfl⟩ q1389 dX5_keepsTold_9 (fun H locs hd => ?_)
  obtain ⟨T_72, eT_72, hf⟩ := bf_l_e hf
  have hd := hd.of (congrArg (bf_pT G σ o) eT_72.symm)
  refine lv_aload_n hx hb dX5_keepsTold_12 rfl (lv_at hl 0 rfl) ?_
  refine lv_aload_n hx hb dX5_keepsTold_13 rfl (lv_at hl 0 rfl) ?_
  refine lv_aload_n hx hb dX5_keepsTold_14 rfl (lv_at hl 0 rfl) ?_
  refine bf_tgi X hd 7 (by decide) rfl q1390 dX5_keepsTold_15 ?_
  obtain ⟨r_74, T_73, er_74, hf⟩ := bf_b2_some hf
  refine bf_tci (n := 1) (As := [.int (T_72 7 0)]) (rest := [.ref o]) X hd (mX5_keeps l G σ o T_72 (T_72 7 0) er_74) (lw_V q2040 q2042 qs144 q156 q2043) (by decide +kernel) ⟨Nat.le_of_ble_eq_true rfl, Nat.le_of_ble_eq_true rfl⟩ rfl hl.1 rfl (Nat.le_of_ble_eq_true rfl) dX5_keepsTold_18 ⟨Nat.le_of_ble_eq_true rfl, Nat.le_of_ble_eq_true rfl⟩ (fun H locs hd => ?_)
  refine bf_tpi X hd 7 (by decide) ⟨rfl, rfl, rfl⟩ q1390 dX5_keepsTold_21 (fun H locs hd => ?_)
  obtain ⟨T_75, eT_75, hf⟩ := bf_l_e hf
  have hd := hd.of (congrArg (bf_pT G σ o) eT_75.symm)
  refine lv_aload_n hx hb dX5_keepsTold_24 rfl (lv_at hl 0 rfl) ?_
  refine lv_aload_n hx hb dX5_keepsTold_25 rfl (lv_at hl 0 rfl) ?_
  refine lv_aload_n hx hb dX5_keepsTold_26 rfl (lv_at hl 0 rfl) ?_
  refine bf_tgi X hd 8 (by decide) rfl q1391 dX5_keepsTold_27 ?_
  obtain ⟨r_77, T_76, er_77, hf⟩ := bf_b2_some hf
  refine bf_tci (n := 1) (As := [.int (T_75 8 0)]) (rest := [.ref o]) X hd (mX5_keeps l G σ o T_75 (T_75 8 0) er_77) (lw_V q2040 q2042 qs144 q156 q2043) (by decide +kernel) ⟨Nat.le_of_ble_eq_true rfl, Nat.le_of_ble_eq_true rfl⟩ rfl hl.1 rfl (Nat.le_of_ble_eq_true rfl) dX5_keepsTold_30 ⟨Nat.le_of_ble_eq_true rfl, Nat.le_of_ble_eq_true rfl⟩ (fun H locs hd => ?_)
  refine bf_tpi X hd 8 (by decide) ⟨rfl, rfl, rfl⟩ q1391 dX5_keepsTold_33 (fun H locs hd => ?_)
  obtain ⟨T_78, eT_78, hf⟩ := bf_l_e hf
  have hd := hd.of (congrArg (bf_pT G σ o) eT_78.symm)
  refine lv_aload_n hx hb dX5_keepsTold_36 rfl (lv_at hl 0 rfl) ?_
  refine lv_aload_n hx hb dX5_keepsTold_37 rfl (lv_at hl 0 rfl) ?_
  refine lv_aload_n hx hb dX5_keepsTold_38 rfl (lv_at hl 0 rfl) ?_
  refine bf_tgi X hd 9 (by decide) rfl q1392 dX5_keepsTold_39 ?_
  obtain ⟨r_80, T_79, er_80, hf⟩ := bf_b2_some hf
  refine bf_tci (n := 1) (As := [.int (T_78 9 0)]) (rest := [.ref o]) X hd (mX5_keeps l G σ o T_78 (T_78 9 0) er_80) (lw_V q2040 q2042 qs144 q156 q2043) (by decide +kernel) ⟨Nat.le_of_ble_eq_true rfl, Nat.le_of_ble_eq_true rfl⟩ rfl hl.1 rfl (Nat.le_of_ble_eq_true rfl) dX5_keepsTold_42 ⟨Nat.le_of_ble_eq_true rfl, Nat.le_of_ble_eq_true rfl⟩ (fun H locs hd => ?_)
  refine bf_tpi X hd 9 (by decide) ⟨rfl, rfl, rfl⟩ q1392 dX5_keepsTold_45 (fun H locs hd => ?_)
  obtain ⟨T_81, eT_81, hf⟩ := bf_l_e hf
  have hd := hd.of (congrArg (bf_pT G σ o) eT_81.symm)
  refine lv_aload_n hx hb dX5_keepsTold_48 rfl (lv_at hl 0 rfl) ?_
  refine lv_aload_n hx hb dX5_keepsTold_49 rfl (lv_at hl 0 rfl) ?_
  refine lv_aload_n hx hb dX5_keepsTold_50 rfl (lv_at hl 0 rfl) ?_
  refine bf_tgi X hd 10 (by decide) rfl q1393 dX5_keepsTold_51 ?_
  obtain ⟨r_83, T_82, er_83, hf⟩ := bf_b2_some hf
  refine bf_tci (n := 1) (As := [.int (T_81 10 0)]) (rest := [.ref o]) X hd (mX5_keeps l G σ o T_81 (T_81 10 0) er_83) (lw_V q2040 q2042 qs144 q156 q2043) (by decide +kernel) ⟨Nat.le_of_ble_eq_true rfl, Nat.le_of_ble_eq_true rfl⟩ rfl hl.1 rfl (Nat.le_of_ble_eq_true rfl) dX5_keepsTold_54 ⟨Nat.le_of_ble_eq_true rfl, Nat.le_of_ble_eq_true rfl⟩ (fun H locs hd => ?_)
  refine bf_tpi X hd 10 (by decide) ⟨rfl, rfl, rfl⟩ q1393 dX5_keepsTold_57 (fun H locs hd => ?_)
  obtain ⟨T_84, eT_84, hf⟩ := bf_l_e hf
  have hd := hd.of (congrArg (bf_pT G σ o) eT_84.symm)
  refine lv_aload_n hx hb dX5_keepsTold_60 rfl (lv_at hl 0 rfl) ?_
  refine lv_aload_n hx hb dX5_keepsTold_61 rfl (lv_at hl 0 rfl) ?_
  refine lv_aload_n hx hb dX5_keepsTold_62 rfl (lv_at hl 0 rfl) ?_
  refine bf_tgi X hd 11 (by decide) rfl q1394 dX5_keepsTold_63 ?_
  obtain ⟨r_86, T_85, er_86, hf⟩ := bf_b2_some hf
  refine bf_tci (n := 1) (As := [.int (T_84 11 0)]) (rest := [.ref o]) X hd (mX5_keeps l G σ o T_84 (T_84 11 0) er_86) (lw_V q2040 q2042 qs144 q156 q2043) (by decide +kernel) ⟨Nat.le_of_ble_eq_true rfl, Nat.le_of_ble_eq_true rfl⟩ rfl hl.1 rfl (Nat.le_of_ble_eq_true rfl) dX5_keepsTold_66 ⟨Nat.le_of_ble_eq_true rfl, Nat.le_of_ble_eq_true rfl⟩ (fun H locs hd => ?_)
  refine bf_tpi X hd 11 (by decide) ⟨rfl, rfl, rfl⟩ q1394 dX5_keepsTold_69 (fun H locs hd => ?_)
  obtain ⟨T_87, eT_87, hf⟩ := bf_l_e hf
  have hd := hd.of (congrArg (bf_pT G σ o) eT_87.symm)
  refine lv_aload_n hx hb dX5_keepsTold_72 rfl (lv_at hl 0 rfl) ?_
  refine lv_aload_n hx hb dX5_keepsTold_73 rfl (lv_at hl 0 rfl) ?_
  refine lv_aload_n hx hb dX5_keepsTold_74 rfl (lv_at hl 0 rfl) ?_
  refine bf_tgi X hd 36 (by decide) rfl q1419 dX5_keepsTold_75 ?_
  obtain ⟨r_89, T_88, er_89, hf⟩ := bf_b2_some hf
  refine bf_tci (n := 1) (As := [.int (T_87 36 0)]) (rest := [.ref o]) X hd (mX5_keeps l G σ o T_87 (T_87 36 0) er_89) (lw_V q2040 q2042 qs144 q156 q2043) (by decide +kernel) ⟨Nat.le_of_ble_eq_true rfl, Nat.le_of_ble_eq_true rfl⟩ rfl hl.1 rfl (Nat.le_of_ble_eq_true rfl) dX5_keepsTold_78 ⟨Nat.le_of_ble_eq_true rfl, Nat.le_of_ble_eq_true rfl⟩ (fun H locs hd => ?_)
  refine bf_tpi X hd 36 (by decide) ⟨rfl, rfl, rfl⟩ q1419 dX5_keepsTold_81 (fun H locs hd => ?_)
  obtain ⟨T_90, eT_90, hf⟩ := bf_l_e hf
  have hd := hd.of (congrArg (bf_pT G σ o) eT_90.symm)
  refine lv_aload_n hx hb dX5_keepsTold_84 rfl (lv_at hl 0 rfl) ?_
  refine lv_aload_n hx hb dX5_keepsTold_85 rfl (lv_at hl 0 rfl) ?_
  refine lv_aload_n hx hb dX5_keepsTold_86 rfl (lv_at hl 0 rfl) ?_
  refine bf_tgi X hd 38 (by decide) rfl q1421 dX5_keepsTold_87 ?_
  obtain ⟨r_92, T_91, er_92, hf⟩ := bf_b2_some hf
  refine bf_tci (n := 1) (As := [.int (T_90 38 0)]) (rest := [.ref o]) X hd (mX5_keeps l G σ o T_90 (T_90 38 0) er_92) (lw_V q2040 q2042 qs144 q156 q2043) (by decide +kernel) ⟨Nat.le_of_ble_eq_true rfl, Nat.le_of_ble_eq_true rfl⟩ rfl hl.1 rfl (Nat.le_of_ble_eq_true rfl) dX5_keepsTold_90 ⟨Nat.le_of_ble_eq_true rfl, Nat.le_of_ble_eq_true rfl⟩ (fun H locs hd => ?_)
  refine bf_tpi X hd 38 (by decide) ⟨rfl, rfl, rfl⟩ q1421 dX5_keepsTold_93 (fun H locs hd => ?_)
  obtain ⟨T_93, eT_93, hf⟩ := bf_l_e hf
  have hd := hd.of (congrArg (bf_pT G σ o) eT_93.symm)
  refine lv_aload_n hx hb dX5_keepsTold_96 rfl (lv_at hl 0 rfl) ?_
  refine lv_aload_n hx hb dX5_keepsTold_97 rfl (lv_at hl 0 rfl) ?_
  refine lv_aload_n hx hb dX5_keepsTold_98 rfl (lv_at hl 0 rfl) ?_
  refine bf_tgi X hd 48 (by decide) rfl q1431 dX5_keepsTold_99 ?_
  obtain ⟨r_95, T_94, er_95, hf⟩ := bf_b2_some hf
  refine bf_tci (n := 1) (As := [.int (T_93 48 0)]) (rest := [.ref o]) X hd (mX5_keeps l G σ o T_93 (T_93 48 0) er_95) (lw_V q2040 q2042 qs144 q156 q2043) (by decide +kernel) ⟨Nat.le_of_ble_eq_true rfl, Nat.le_of_ble_eq_true rfl⟩ rfl hl.1 rfl (Nat.le_of_ble_eq_true rfl) dX5_keepsTold_102 ⟨Nat.le_of_ble_eq_true rfl, Nat.le_of_ble_eq_true rfl⟩ (fun H locs hd => ?_)
  refine bf_tpi X hd 48 (by decide) ⟨rfl, rfl, rfl⟩ q1431 dX5_keepsTold_105 (fun H locs hd => ?_)
  obtain ⟨T_96, eT_96, hf⟩ := bf_l_e hf
  have hd := hd.of (congrArg (bf_pT G σ o) eT_96.symm)
  refine lv_iconst (v := 0) hx hb dX5_keepsTold_108 (by decide) ?_
  refine lv_istore_n (lv' := [(1, .int 0), (0, .ref o)]) hx hb dX5_keepsTold_109 rfl hl (by decide) rfl (fun ls hl => ?_)
  exact L110 bf_fuel 0 T_96 _ _ _ hf hd (lv_sub hl [1, 0] rfl)
def fX5_image_99 (x1 : Int32) (T99 : bf_TS) : Option (Int32 × bf_TS) := bf_b (fX5_keepsLaw T99) fun T_19 => if x1 = 0 then (bf_l (bf_u2 T_19 3 0 0) fun T_21 => some (1, T_21)) else (some (1, T_19))
def fX5_image_70b (x1 : Int32) (k70 : Int32 → bf_TS → Option (Int32 × bf_TS)) (v70_2 : Int32) (T70 : bf_TS) : Option (Int32 × bf_TS) := if 600 ≤ v70_2 then (fX5_image_99 x1 T70) else (bf_c (bf_in v70_2 600) <| bf_b2 (fX5_keeps T70 (T70 12 (v70_2).toNatClampNeg)) fun r_15 T_14 => bf_c (bf_in v70_2 600) <| bf_l (bf_u2 T_14 12 (v70_2).toNatClampNeg r_15) fun T_17 => bf_l (v70_2 + 1) fun x2_18 => k70 x2_18 T_17)
def fX5_image_70 (x1 : Int32) : Nat → Int32 → bf_TS → Option (Int32 × bf_TS)
  | 0, _, _ => none
  | n + 1, v70_2, T70 => fX5_image_70b x1 (fX5_image_70 x1 n) v70_2 T70
def fX5_image_64 (x1 : Int32) (T64 : bf_TS) : Option (Int32 × bf_TS) := bf_b (fX5_keepsTold T64) fun T_11 => fX5_image_70 x1 bf_fuel 0 T_11
def fX5_image_35b (x1 : Int32) (k35 : Int32 → bf_TS → Option (Int32 × bf_TS)) (v35_2 : Int32) (T35 : bf_TS) : Option (Int32 × bf_TS) := if 136 ≤ v35_2 then (fX5_image_64 x1 T35) else (bf_c (bf_in v35_2 136) <| bf_b2 (fX5_keeps T35 (T35 1 (v35_2).toNatClampNeg)) fun r_7 T_6 => bf_c (bf_in v35_2 136) <| bf_l (bf_u2 T_6 1 (v35_2).toNatClampNeg r_7) fun T_9 => bf_l (v35_2 + 1) fun x2_10 => k35 x2_10 T_9)
def fX5_image_35 (x1 : Int32) : Nat → Int32 → bf_TS → Option (Int32 × bf_TS)
  | 0, _, _ => none
  | n + 1, v35_2, T35 => fX5_image_35b x1 (fX5_image_35 x1 n) v35_2 T35
def fX5_image_18 (x1 : Int32) (T18 : bf_TS) : Option (Int32 × bf_TS) := bf_l (bf_u2 T18 52 0 x1) fun T_1 => bf_l (bf_u2 T_1 53 0 1) fun T_2 => bf_l (bf_u2 T_2 54 0 0) fun T_3 => fX5_image_35 x1 bf_fuel 0 T_3
def fX5_image (T : bf_TS) (x1 : Int32) : Option (Int32 × bf_TS) := bf_l (bf_u2 T 0 0 0) fun T_22 => if x1 = 0 then (if (T_22 53 0) = 0 then (some (0, T_22)) else (fX5_image_18 x1 T_22)) else (fX5_image_18 x1 T_22)
set_option maxHeartbeats 4000000 in
theorem mX5_image (l : Launch) (G : bf_G) (σ : bf_V) (o : Nat) (T : bf_TS) (x1 : Int32) (hz1 : x1 = 0 ∨ x1 = 1) {r : Int32} {T' : bf_TS} (hf : fX5_image T x1 = some (r, T')) : bf_MZ l G yX5_image cX5_image 3 (bf_rm 2) [.ref o, .int x1] (bf_pT G σ o T) (fun v σ' => v = r ∧ σ' = bf_pT G σ o T') := by
  refine bf_MZ.of rfl (Nat.le_of_ble_eq_true rfl) ?_
  intro p e s m below meth c Q X hlk hnm kret hd ls hl
  have hx := X.1
  have hb := X.2.1
  have hown := X.2.2.2.1
  have hts := X.2.2.2.2
  have hl : lv_has ls 3 [(0, .ref o), (1, .int x1)] := hl
  have J99 : ∀ (T99 : bf_TS) (H : Heap) (locs : List Loc) (ls : Array Slot), fX5_image_99 x1 T99 = some (r, T') → bf_Dy G s H locs (bf_pT G σ o T99) → lv_has ls 3 [(0, .ref o), (1, .int x1)] → W p l e (bf_rm 2) s m ([.ref o, .int x1] : List Value).toArray below meth c H locs 0 0 Q (F0 m 99 ls []) := by
    intro T99 H locs ls hf hd hl
    unfold fX5_image_99 at hf
    refine lv_aload_n hx hb dX5_image_99 rfl (lv_at hl 0 rfl) ?_
    obtain ⟨T_25, eT_25, hf⟩ := bf_b_some hf
    refine bf_tcv (n := 0) (As := []) (rest := []) X hd (mX5_keepsLaw l G σ o T99 eT_25) (lw_V q2048 q2050 qs146 q156 q2051) (by decide +kernel) ⟨Nat.le_of_ble_eq_true rfl, Nat.le_of_ble_eq_true rfl⟩ rfl hl.1 rfl (Nat.le_of_ble_eq_true rfl) dX5_image_100 ⟨Nat.le_of_ble_eq_true rfl, Nat.le_of_ble_eq_true rfl⟩ (fun H locs hd => ?_)
    refine lv_iload_n hx hb dX5_image_103 rfl (lv_at hl 1 rfl) ?_
    refine lv_if_ne (tgt := 112) hx hb dX5_image_104 (by decide) (fun c_26 => ?_) (fun c_26 => ?_)
    · have hf := bf_ie hf c_26
      refine lv_iconst (v := 1) hx hb dX5_image_112 (by decide) ?_
      exact kret _ _ _ _ _ _ ⟨(bf_pr hf).1, congrArg (bf_pT G σ o) (bf_pr hf).2⟩ (Or.inr rfl) hd dX5_image_113
    · have hf := bf_it hf c_26
      refine lv_aload_n hx hb dX5_image_107 rfl (lv_at hl 0 rfl) ?_
      refine lv_iconst (v := 0) hx hb dX5_image_108 (by decide) ?_
      refine bf_tpi X hd 3 (by decide) ⟨rfl, rfl, rfl⟩ q1386 dX5_image_109 (fun H locs hd => ?_)
      obtain ⟨T_27, eT_27, hf⟩ := bf_l_e hf
      have hd := hd.of (congrArg (bf_pT G σ o) eT_27.symm)
      refine lv_iconst (v := 1) hx hb dX5_image_112 (by decide) ?_
      exact kret _ _ _ _ _ _ ⟨(bf_pr hf).1, congrArg (bf_pT G σ o) (bf_pr hf).2⟩ (Or.inr rfl) hd dX5_image_113
  have L70 : ∀ (n70 : Nat) (v70_2 : Int32) (T70 : bf_TS) (H : Heap) (locs : List Loc) (ls : Array Slot), fX5_image_70 x1 n70 v70_2 T70 = some (r, T') → bf_Dy G s H locs (bf_pT G σ o T70) → lv_has ls 3 [(0, .ref o), (1, .int x1), (2, .int v70_2)] → W p l e (bf_rm 2) s m ([.ref o, .int x1] : List Value).toArray below meth c H locs 0 0 Q (F0 m 70 ls []) := by
    intro n70
    induction n70 with
    | zero =>
      intro v70_2 T70 H locs ls hf hd hl
      exact absurd (show (none : Option (Int32 × bf_TS)) = some (r, T') from hf) (by intro h; cases h)
    | succ n70 ih70 =>
      intro v70_2 T70 H locs ls hf hd hl
      have hf : fX5_image_70b x1 (fX5_image_70 x1 n70) v70_2 T70 = some (r, T') := hf
      unfold fX5_image_70b at hf
      refine lv_iload_n hx hb dX5_image_70 rfl (lv_at hl 2 rfl) ?_
      refine lv_sipush (v := 600) hx hb dX5_image_71 (by decide) ?_
      refine lv_icmp_ge (tgt := 99) hx hb dX5_image_74 (by decide) (fun c_28 => ?_) (fun c_28 => ?_)
      · have hf := bf_it hf c_28
        exact J99 T70 _ _ _ hf hd (lv_sub hl [0, 1] rfl)
      · have hf := bf_ie hf c_28
        refine lv_aload_n hx hb dX5_image_77 rfl (lv_at hl 0 rfl) ?_
        refine bf_tga X hd 12 (by decide) (by decide) q1395 dX5_image_78 ?_
        refine lv_iload_n hx hb dX5_image_81 rfl (lv_at hl 2 rfl) ?_
        refine lv_aload_n hx hb dX5_image_82 rfl (lv_at hl 0 rfl) ?_
        refine lv_aload_n hx hb dX5_image_83 rfl (lv_at hl 0 rfl) ?_
        refine bf_tga X hd 12 (by decide) (by decide) q1395 dX5_image_84 ?_
        refine lv_iload_n hx hb dX5_image_87 rfl (lv_at hl 2 rfl) ?_
        obtain ⟨g_29, hf⟩ := bf_c_some hf
        refine bf_tld X hd 12 (by decide) g_29 dX5_image_88 ?_
        obtain ⟨r_31, T_30, er_31, hf⟩ := bf_b2_some hf
        refine bf_tci (n := 1) (As := [.int (T70 12 (v70_2).toNatClampNeg)]) (rest := [.int v70_2, .ref (o + bf_to 12)]) X hd (mX5_keeps l G σ o T70 (T70 12 (v70_2).toNatClampNeg) er_31) (lw_V q2040 q2042 qs144 q156 q2043) (by decide +kernel) ⟨Nat.le_of_ble_eq_true rfl, Nat.le_of_ble_eq_true rfl⟩ rfl hl.1 rfl (Nat.le_of_ble_eq_true rfl) dX5_image_89 ⟨Nat.le_of_ble_eq_true rfl, Nat.le_of_ble_eq_true rfl⟩ (fun H locs hd => ?_)
        obtain ⟨g_32, hf⟩ := bf_c_some hf
        refine bf_tst X hd 12 (by decide) g_32 dX5_image_92 (fun H locs hd => ?_)
        obtain ⟨T_33, eT_33, hf⟩ := bf_l_e hf
        have hd := hd.of (congrArg (bf_pT G σ o) eT_33.symm)
        obtain ⟨x2_34, ex2_34, hf⟩ := bf_l_e hf
        refine lv_iinc (v := x2_34) (lv' := [(2, .int x2_34), (0, .ref o), (1, .int x1)]) hx hb dX5_image_93 hl (k := 2) rfl (by rw [ex2_34]; rfl) (by decide) rfl (fun ls hl => ?_)
        refine lv_goto (tgt := 70) hx hb dX5_image_96 (by decide) ?_
        exact ih70 x2_34 T_33 _ _ _ hf hd (lv_sub hl [1, 2, 0] rfl)
  have J64 : ∀ (T64 : bf_TS) (H : Heap) (locs : List Loc) (ls : Array Slot), fX5_image_64 x1 T64 = some (r, T') → bf_Dy G s H locs (bf_pT G σ o T64) → lv_has ls 3 [(0, .ref o), (1, .int x1)] → W p l e (bf_rm 2) s m ([.ref o, .int x1] : List Value).toArray below meth c H locs 0 0 Q (F0 m 64 ls []) := by
    intro T64 H locs ls hf hd hl
    unfold fX5_image_64 at hf
    refine lv_aload_n hx hb dX5_image_64 rfl (lv_at hl 0 rfl) ?_
    obtain ⟨T_35, eT_35, hf⟩ := bf_b_some hf
    refine bf_tcv (n := 0) (As := []) (rest := []) X hd (mX5_keepsTold l G σ o T64 eT_35) (lw_V q2044 q2046 qs145 q156 q2047) (by decide +kernel) ⟨Nat.le_of_ble_eq_true rfl, Nat.le_of_ble_eq_true rfl⟩ rfl hl.1 rfl (Nat.le_of_ble_eq_true rfl) dX5_image_65 ⟨Nat.le_of_ble_eq_true rfl, Nat.le_of_ble_eq_true rfl⟩ (fun H locs hd => ?_)
    refine lv_iconst (v := 0) hx hb dX5_image_68 (by decide) ?_
    refine lv_istore_n (lv' := [(2, .int 0), (0, .ref o), (1, .int x1)]) hx hb dX5_image_69 rfl hl (by decide) rfl (fun ls hl => ?_)
    exact L70 bf_fuel 0 T_35 _ _ _ hf hd (lv_sub hl [1, 2, 0] rfl)
  have L35 : ∀ (n35 : Nat) (v35_2 : Int32) (T35 : bf_TS) (H : Heap) (locs : List Loc) (ls : Array Slot), fX5_image_35 x1 n35 v35_2 T35 = some (r, T') → bf_Dy G s H locs (bf_pT G σ o T35) → lv_has ls 3 [(0, .ref o), (1, .int x1), (2, .int v35_2)] → W p l e (bf_rm 2) s m ([.ref o, .int x1] : List Value).toArray below meth c H locs 0 0 Q (F0 m 35 ls []) := by
    intro n35
    induction n35 with
    | zero =>
      intro v35_2 T35 H locs ls hf hd hl
      exact absurd (show (none : Option (Int32 × bf_TS)) = some (r, T') from hf) (by intro h; cases h)
    | succ n35 ih35 =>
      intro v35_2 T35 H locs ls hf hd hl
      have hf : fX5_image_35b x1 (fX5_image_35 x1 n35) v35_2 T35 = some (r, T') := hf
      unfold fX5_image_35b at hf
      refine lv_iload_n hx hb dX5_image_35 rfl (lv_at hl 2 rfl) ?_
      refine lv_sipush (v := 136) hx hb dX5_image_36 (by decide) ?_
      refine lv_icmp_ge (tgt := 64) hx hb dX5_image_39 (by decide) (fun c_36 => ?_) (fun c_36 => ?_)
      · have hf := bf_it hf c_36
        exact J64 T35 _ _ _ hf hd (lv_sub hl [0, 1] rfl)
      · have hf := bf_ie hf c_36
        refine lv_aload_n hx hb dX5_image_42 rfl (lv_at hl 0 rfl) ?_
        refine bf_tga X hd 1 (by decide) (by decide) q1384 dX5_image_43 ?_
        refine lv_iload_n hx hb dX5_image_46 rfl (lv_at hl 2 rfl) ?_
        refine lv_aload_n hx hb dX5_image_47 rfl (lv_at hl 0 rfl) ?_
        refine lv_aload_n hx hb dX5_image_48 rfl (lv_at hl 0 rfl) ?_
        refine bf_tga X hd 1 (by decide) (by decide) q1384 dX5_image_49 ?_
        refine lv_iload_n hx hb dX5_image_52 rfl (lv_at hl 2 rfl) ?_
        obtain ⟨g_37, hf⟩ := bf_c_some hf
        refine bf_tld X hd 1 (by decide) g_37 dX5_image_53 ?_
        obtain ⟨r_39, T_38, er_39, hf⟩ := bf_b2_some hf
        refine bf_tci (n := 1) (As := [.int (T35 1 (v35_2).toNatClampNeg)]) (rest := [.int v35_2, .ref (o + bf_to 1)]) X hd (mX5_keeps l G σ o T35 (T35 1 (v35_2).toNatClampNeg) er_39) (lw_V q2040 q2042 qs144 q156 q2043) (by decide +kernel) ⟨Nat.le_of_ble_eq_true rfl, Nat.le_of_ble_eq_true rfl⟩ rfl hl.1 rfl (Nat.le_of_ble_eq_true rfl) dX5_image_54 ⟨Nat.le_of_ble_eq_true rfl, Nat.le_of_ble_eq_true rfl⟩ (fun H locs hd => ?_)
        obtain ⟨g_40, hf⟩ := bf_c_some hf
        refine bf_tst X hd 1 (by decide) g_40 dX5_image_57 (fun H locs hd => ?_)
        obtain ⟨T_41, eT_41, hf⟩ := bf_l_e hf
        have hd := hd.of (congrArg (bf_pT G σ o) eT_41.symm)
        obtain ⟨x2_42, ex2_42, hf⟩ := bf_l_e hf
        refine lv_iinc (v := x2_42) (lv' := [(2, .int x2_42), (0, .ref o), (1, .int x1)]) hx hb dX5_image_58 hl (k := 2) rfl (by rw [ex2_42]; rfl) (by decide) rfl (fun ls hl => ?_)
        refine lv_goto (tgt := 35) hx hb dX5_image_61 (by decide) ?_
        exact ih35 x2_42 T_41 _ _ _ hf hd (lv_sub hl [1, 2, 0] rfl)
  have J18 : ∀ (T18 : bf_TS) (H : Heap) (locs : List Loc) (ls : Array Slot), fX5_image_18 x1 T18 = some (r, T') → bf_Dy G s H locs (bf_pT G σ o T18) → lv_has ls 3 [(0, .ref o), (1, .int x1)] → W p l e (bf_rm 2) s m ([.ref o, .int x1] : List Value).toArray below meth c H locs 0 0 Q (F0 m 18 ls []) := by
    intro T18 H locs ls hf hd hl
    unfold fX5_image_18 at hf
    refine lv_aload_n hx hb dX5_image_18 rfl (lv_at hl 0 rfl) ?_
    refine lv_iload_n hx hb dX5_image_19 rfl (lv_at hl 1 rfl) ?_
    refine bf_tpz X hd 52 (by decide) ⟨rfl, rfl, rfl⟩ q1435 hz1 dX5_image_20 (fun H locs hd => ?_)
    obtain ⟨T_43, eT_43, hf⟩ := bf_l_e hf
    have hd := hd.of (congrArg (bf_pT G σ o) eT_43.symm)
    refine lv_aload_n hx hb dX5_image_23 rfl (lv_at hl 0 rfl) ?_
    refine lv_iconst (v := 1) hx hb dX5_image_24 (by decide) ?_
    refine bf_tpz X hd 53 (by decide) ⟨rfl, rfl, rfl⟩ q1436 (Or.inr rfl) dX5_image_25 (fun H locs hd => ?_)
    obtain ⟨T_44, eT_44, hf⟩ := bf_l_e hf
    have hd := hd.of (congrArg (bf_pT G σ o) eT_44.symm)
    refine lv_aload_n hx hb dX5_image_28 rfl (lv_at hl 0 rfl) ?_
    refine lv_iconst (v := 0) hx hb dX5_image_29 (by decide) ?_
    refine bf_tpi X hd 54 (by decide) ⟨rfl, rfl, rfl⟩ q1437 dX5_image_30 (fun H locs hd => ?_)
    obtain ⟨T_45, eT_45, hf⟩ := bf_l_e hf
    have hd := hd.of (congrArg (bf_pT G σ o) eT_45.symm)
    refine lv_iconst (v := 0) hx hb dX5_image_33 (by decide) ?_
    refine lv_istore_n (lv' := [(2, .int 0), (0, .ref o), (1, .int x1)]) hx hb dX5_image_34 rfl hl (by decide) rfl (fun ls hl => ?_)
    exact L35 bf_fuel 0 T_45 _ _ _ hf hd (lv_sub hl [1, 2, 0] rfl)
  unfold fX5_image at hf
  refine lv_aload_n hx hb dX5_image_0 rfl (lv_at hl 0 rfl) ?_
  refine lv_iconst (v := 0) hx hb dX5_image_1 (by decide) ?_
  refine bf_tpi X hd 0 (by decide) ⟨rfl, rfl, rfl⟩ q1383 dX5_image_2 (fun H locs hd => ?_)
  obtain ⟨T_46, eT_46, hf⟩ := bf_l_e hf
  have hd := hd.of (congrArg (bf_pT G σ o) eT_46.symm)
  refine lv_iload_n hx hb dX5_image_5 rfl (lv_at hl 1 rfl) ?_
  refine lv_if_ne (tgt := 18) hx hb dX5_image_6 (by decide) (fun c_47 => ?_) (fun c_47 => ?_)
  · have hf := bf_ie hf c_47
    exact J18 T_46 _ _ _ hf hd (lv_sub hl [0, 1] rfl)
  · have hf := bf_it hf c_47
    refine lv_aload_n hx hb dX5_image_9 rfl (lv_at hl 0 rfl) ?_
    refine bf_tgi X hd 53 (by decide) rfl q1436 dX5_image_10 ?_
    refine lv_if_ne (tgt := 18) hx hb dX5_image_13 (by decide) (fun c_48 => ?_) (fun c_48 => ?_)
    · have hf := bf_ie hf c_48
      exact J18 T_46 _ _ _ hf hd (lv_sub hl [0, 1] rfl)
    · have hf := bf_it hf c_48
      refine lv_iconst (v := 0) hx hb dX5_image_16 (by decide) ?_
      exact kret _ _ _ _ _ _ ⟨(bf_pr hf).1, congrArg (bf_pT G σ o) (bf_pr hf).2⟩ (Or.inl rfl) hd dX5_image_17
def fX5_look (T : bf_TS) (x1 : Int32) : Option (Int32 × bf_TS) := bf_l (bf_u2 T 0 0 0) fun T_1 => if x1 = 0 then (some ((T_1 6 0), T_1)) else (if x1 = 1 then (some ((T_1 1 4), T_1)) else (if x1 = 2 then (some ((T_1 7 0), T_1)) else (if x1 = 3 then (some ((T_1 1 0), T_1)) else (if x1 = 4 then (some ((T_1 8 0), T_1)) else (if x1 = 5 then (some ((T_1 9 0), T_1)) else (if x1 = 6 then (some ((fX5_chairs T_1), T_1)) else (if x1 = 7 then (some ((fX5_every T_1), T_1)) else (if x1 = 8 then (some ((T_1 1 2), T_1)) else (if x1 = 9 then (some ((T_1 1 1), T_1)) else (if x1 = 10 then (some ((T_1 20 0), T_1)) else (if x1 = 11 then (some ((T_1 36 0), T_1)) else (if x1 = 12 then (some ((T_1 38 0), T_1)) else (if x1 = 13 then (some ((T_1 48 0), T_1)) else (if x1 = 14 then (some ((T_1 3 0), T_1)) else (if x1 = 15 then (some ((T_1 1 3), T_1)) else (some ((-1), T_1)))))))))))))))))
set_option maxHeartbeats 4000000 in
theorem mX5_look (l : Launch) (G : bf_G) (σ : bf_V) (o : Nat) (T : bf_TS) (x1 : Int32) {r : Int32} {T' : bf_TS} (hf : fX5_look T x1 = some (r, T')) : bf_MI l G yX5_look cX5_look 2 (bf_rm 1) [.ref o, .int x1] (bf_pT G σ o T) (fun v σ' => v = r ∧ σ' = bf_pT G σ o T') := by
  refine bf_MI.of rfl (Nat.le_of_ble_eq_true rfl) ?_
  intro p e s m below meth c Q X hlk hnm kret hd ls hl
  have hx := X.1
  have hb := X.2.1
  have hown := X.2.2.2.1
  have hts := X.2.2.2.2
  have hl : lv_has ls 2 [(0, .ref o), (1, .int x1)] := hl
  unfold fX5_look at hf
  refine lv_aload_n hx hb dX5_look_0 rfl (lv_at hl 0 rfl) ?_
  refine lv_iconst (v := 0) hx hb dX5_look_1 (by decide) ?_
  refine bf_tpi X hd 0 (by decide) ⟨rfl, rfl, rfl⟩ q1383 dX5_look_2 (fun H locs hd => ?_)
  obtain ⟨T_18, eT_18, hf⟩ := bf_l_e hf
  have hd := hd.of (congrArg (bf_pT G σ o) eT_18.symm)
  refine lv_iload_n hx hb dX5_look_5 rfl (lv_at hl 1 rfl) ?_
  refine lv_if_ne (tgt := 14) hx hb dX5_look_6 (by decide) (fun c_19 => ?_) (fun c_19 => ?_)
  · have hf := bf_ie hf c_19
    refine lv_iload_n hx hb dX5_look_14 rfl (lv_at hl 1 rfl) ?_
    refine lv_iconst (v := 1) hx hb dX5_look_15 (by decide) ?_
    refine lv_icmp_ne (tgt := 26) hx hb dX5_look_16 (by decide) (fun c_20 => ?_) (fun c_20 => ?_)
    · have hf := bf_ie hf c_20
      refine lv_iload_n hx hb dX5_look_26 rfl (lv_at hl 1 rfl) ?_
      refine lv_iconst (v := 2) hx hb dX5_look_27 (by decide) ?_
      refine lv_icmp_ne (tgt := 36) hx hb dX5_look_28 (by decide) (fun c_21 => ?_) (fun c_21 => ?_)
      · have hf := bf_ie hf c_21
        refine lv_iload_n hx hb dX5_look_36 rfl (lv_at hl 1 rfl) ?_
        refine lv_iconst (v := 3) hx hb dX5_look_37 (by decide) ?_
        refine lv_icmp_ne (tgt := 48) hx hb dX5_look_38 (by decide) (fun c_22 => ?_) (fun c_22 => ?_)
        · have hf := bf_ie hf c_22
          refine lv_iload_n hx hb dX5_look_48 rfl (lv_at hl 1 rfl) ?_
          refine lv_iconst (v := 4) hx hb dX5_look_49 (by decide) ?_
          refine lv_icmp_ne (tgt := 58) hx hb dX5_look_50 (by decide) (fun c_23 => ?_) (fun c_23 => ?_)
          · have hf := bf_ie hf c_23
            refine lv_iload_n hx hb dX5_look_58 rfl (lv_at hl 1 rfl) ?_
            refine lv_iconst (v := 5) hx hb dX5_look_59 (by decide) ?_
            refine lv_icmp_ne (tgt := 68) hx hb dX5_look_60 (by decide) (fun c_24 => ?_) (fun c_24 => ?_)
            · have hf := bf_ie hf c_24
              refine lv_iload_n hx hb dX5_look_68 rfl (lv_at hl 1 rfl) ?_
              refine lv_bipush (v := 6) hx hb dX5_look_69 (by decide) ?_
              refine lv_icmp_ne (tgt := 79) hx hb dX5_look_71 (by decide) (fun c_25 => ?_) (fun c_25 => ?_)
              · have hf := bf_ie hf c_25
                refine lv_iload_n hx hb dX5_look_79 rfl (lv_at hl 1 rfl) ?_
                refine lv_bipush (v := 7) hx hb dX5_look_80 (by decide) ?_
                refine lv_icmp_ne (tgt := 90) hx hb dX5_look_82 (by decide) (fun c_26 => ?_) (fun c_26 => ?_)
                · have hf := bf_ie hf c_26
                  refine lv_iload_n hx hb dX5_look_90 rfl (lv_at hl 1 rfl) ?_
                  refine lv_bipush (v := 8) hx hb dX5_look_91 (by decide) ?_
                  refine lv_icmp_ne (tgt := 103) hx hb dX5_look_93 (by decide) (fun c_27 => ?_) (fun c_27 => ?_)
                  · have hf := bf_ie hf c_27
                    refine lv_iload_n hx hb dX5_look_103 rfl (lv_at hl 1 rfl) ?_
                    refine lv_bipush (v := 9) hx hb dX5_look_104 (by decide) ?_
                    refine lv_icmp_ne (tgt := 116) hx hb dX5_look_106 (by decide) (fun c_28 => ?_) (fun c_28 => ?_)
                    · have hf := bf_ie hf c_28
                      refine lv_iload_n hx hb dX5_look_116 rfl (lv_at hl 1 rfl) ?_
                      refine lv_bipush (v := 10) hx hb dX5_look_117 (by decide) ?_
                      refine lv_icmp_ne (tgt := 129) hx hb dX5_look_119 (by decide) (fun c_29 => ?_) (fun c_29 => ?_)
                      · have hf := bf_ie hf c_29
                        refine lv_iload_n hx hb dX5_look_129 rfl (lv_at hl 1 rfl) ?_
                        refine lv_bipush (v := 11) hx hb dX5_look_130 (by decide) ?_
                        refine lv_icmp_ne (tgt := 140) hx hb dX5_look_132 (by decide) (fun c_30 => ?_) (fun c_30 => ?_)
                        · have hf := bf_ie hf c_30
                          refine lv_iload_n hx hb dX5_look_140 rfl (lv_at hl 1 rfl) ?_
                          refine lv_bipush (v := 12) hx hb dX5_look_141 (by decide) ?_
                          refine lv_icmp_ne (tgt := 151) hx hb dX5_look_143 (by decide) (fun c_31 => ?_) (fun c_31 => ?_)
                          · have hf := bf_ie hf c_31
                            refine lv_iload_n hx hb dX5_look_151 rfl (lv_at hl 1 rfl) ?_
                            refine lv_bipush (v := 13) hx hb dX5_look_152 (by decide) ?_
                            refine lv_icmp_ne (tgt := 162) hx hb dX5_look_154 (by decide) (fun c_32 => ?_) (fun c_32 => ?_)
                            · have hf := bf_ie hf c_32
                              refine lv_iload_n hx hb dX5_look_162 rfl (lv_at hl 1 rfl) ?_
                              refine lv_bipush (v := 14) hx hb dX5_look_163 (by decide) ?_
                              refine lv_icmp_ne (tgt := 175) hx hb dX5_look_165 (by decide) (fun c_33 => ?_) (fun c_33 => ?_)
                              · have hf := bf_ie hf c_33
                                refine lv_iload_n hx hb dX5_look_175 rfl (lv_at hl 1 rfl) ?_
                                refine lv_bipush (v := 15) hx hb dX5_look_176 (by decide) ?_
                                refine lv_icmp_ne (tgt := 190) hx hb dX5_look_178 (by decide) (fun c_34 => ?_) (fun c_34 => ?_)
                                · have hf := bf_ie hf c_34
                                  refine lv_iconst (v := (-1)) hx hb dX5_look_190 (by decide) ?_
                                  exact kret _ _ _ _ _ _ ⟨(bf_pr hf).1, congrArg (bf_pT G σ o) (bf_pr hf).2⟩ hd dX5_look_191
                                · have hf := bf_it hf c_34
                                  refine lv_aload_n hx hb dX5_look_181 rfl (lv_at hl 0 rfl) ?_
                                  refine bf_tga X hd 1 (by decide) (by decide) q1384 dX5_look_182 ?_
                                  refine lv_iconst (v := 3) hx hb dX5_look_185 (by decide) ?_
                                  refine bf_tld X hd 1 (by decide) (by decide) dX5_look_186 ?_
                                  refine lv_goto (tgt := 191) hx hb dX5_look_187 (by decide) ?_
                                  exact kret _ _ _ _ _ _ ⟨(bf_pr hf).1, congrArg (bf_pT G σ o) (bf_pr hf).2⟩ hd dX5_look_191
                              · have hf := bf_it hf c_33
                                refine lv_aload_n hx hb dX5_look_168 rfl (lv_at hl 0 rfl) ?_
                                refine bf_tgi X hd 3 (by decide) rfl q1386 dX5_look_169 ?_
                                refine lv_goto (tgt := 191) hx hb dX5_look_172 (by decide) ?_
                                exact kret _ _ _ _ _ _ ⟨(bf_pr hf).1, congrArg (bf_pT G σ o) (bf_pr hf).2⟩ hd dX5_look_191
                            · have hf := bf_it hf c_32
                              refine lv_aload_n hx hb dX5_look_157 rfl (lv_at hl 0 rfl) ?_
                              refine bf_tgi X hd 48 (by decide) rfl q1431 dX5_look_158 ?_
                              exact kret _ _ _ _ _ _ ⟨(bf_pr hf).1, congrArg (bf_pT G σ o) (bf_pr hf).2⟩ hd dX5_look_161
                          · have hf := bf_it hf c_31
                            refine lv_aload_n hx hb dX5_look_146 rfl (lv_at hl 0 rfl) ?_
                            refine bf_tgi X hd 38 (by decide) rfl q1421 dX5_look_147 ?_
                            exact kret _ _ _ _ _ _ ⟨(bf_pr hf).1, congrArg (bf_pT G σ o) (bf_pr hf).2⟩ hd dX5_look_150
                        · have hf := bf_it hf c_30
                          refine lv_aload_n hx hb dX5_look_135 rfl (lv_at hl 0 rfl) ?_
                          refine bf_tgi X hd 36 (by decide) rfl q1419 dX5_look_136 ?_
                          exact kret _ _ _ _ _ _ ⟨(bf_pr hf).1, congrArg (bf_pT G σ o) (bf_pr hf).2⟩ hd dX5_look_139
                      · have hf := bf_it hf c_29
                        refine lv_aload_n hx hb dX5_look_122 rfl (lv_at hl 0 rfl) ?_
                        refine bf_tga X hd 20 (by decide) (by decide) q1403 dX5_look_123 ?_
                        refine lv_iconst (v := 0) hx hb dX5_look_126 (by decide) ?_
                        refine bf_tld X hd 20 (by decide) (by decide) dX5_look_127 ?_
                        exact kret _ _ _ _ _ _ ⟨(bf_pr hf).1, congrArg (bf_pT G σ o) (bf_pr hf).2⟩ hd dX5_look_128
                    · have hf := bf_it hf c_28
                      refine lv_aload_n hx hb dX5_look_109 rfl (lv_at hl 0 rfl) ?_
                      refine bf_tga X hd 1 (by decide) (by decide) q1384 dX5_look_110 ?_
                      refine lv_iconst (v := 1) hx hb dX5_look_113 (by decide) ?_
                      refine bf_tld X hd 1 (by decide) (by decide) dX5_look_114 ?_
                      exact kret _ _ _ _ _ _ ⟨(bf_pr hf).1, congrArg (bf_pT G σ o) (bf_pr hf).2⟩ hd dX5_look_115
                  · have hf := bf_it hf c_27
                    refine lv_aload_n hx hb dX5_look_96 rfl (lv_at hl 0 rfl) ?_
                    refine bf_tga X hd 1 (by decide) (by decide) q1384 dX5_look_97 ?_
                    refine lv_iconst (v := 2) hx hb dX5_look_100 (by decide) ?_
                    refine bf_tld X hd 1 (by decide) (by decide) dX5_look_101 ?_
                    exact kret _ _ _ _ _ _ ⟨(bf_pr hf).1, congrArg (bf_pT G σ o) (bf_pr hf).2⟩ hd dX5_look_102
                · have hf := bf_it hf c_26
                  refine lv_aload_n hx hb dX5_look_85 rfl (lv_at hl 0 rfl) ?_
                  refine bf_tci (n := 0) (As := []) (rest := []) X hd (mX5_every l G σ o T_18 rfl) (lw_V q1882 q1884 qs124 q156 q1885) (by decide +kernel) ⟨Nat.le_of_ble_eq_true rfl, Nat.le_of_ble_eq_true rfl⟩ rfl hl.1 rfl (Nat.le_of_ble_eq_true rfl) dX5_look_86 ⟨Nat.le_of_ble_eq_true rfl, Nat.le_of_ble_eq_true rfl⟩ (fun H locs hd => ?_)
                  exact kret _ _ _ _ _ _ ⟨(bf_pr hf).1, congrArg (bf_pT G σ o) (bf_pr hf).2⟩ hd dX5_look_89
              · have hf := bf_it hf c_25
                refine lv_aload_n hx hb dX5_look_74 rfl (lv_at hl 0 rfl) ?_
                refine bf_tci (n := 0) (As := []) (rest := []) X hd (mX5_chairs l G σ o T_18 rfl) (lw_V q1898 q1900 qs128 q156 q1901) (by decide +kernel) ⟨Nat.le_of_ble_eq_true rfl, Nat.le_of_ble_eq_true rfl⟩ rfl hl.1 rfl (Nat.le_of_ble_eq_true rfl) dX5_look_75 ⟨Nat.le_of_ble_eq_true rfl, Nat.le_of_ble_eq_true rfl⟩ (fun H locs hd => ?_)
                exact kret _ _ _ _ _ _ ⟨(bf_pr hf).1, congrArg (bf_pT G σ o) (bf_pr hf).2⟩ hd dX5_look_78
            · have hf := bf_it hf c_24
              refine lv_aload_n hx hb dX5_look_63 rfl (lv_at hl 0 rfl) ?_
              refine bf_tgi X hd 9 (by decide) rfl q1392 dX5_look_64 ?_
              exact kret _ _ _ _ _ _ ⟨(bf_pr hf).1, congrArg (bf_pT G σ o) (bf_pr hf).2⟩ hd dX5_look_67
          · have hf := bf_it hf c_23
            refine lv_aload_n hx hb dX5_look_53 rfl (lv_at hl 0 rfl) ?_
            refine bf_tgi X hd 8 (by decide) rfl q1391 dX5_look_54 ?_
            exact kret _ _ _ _ _ _ ⟨(bf_pr hf).1, congrArg (bf_pT G σ o) (bf_pr hf).2⟩ hd dX5_look_57
        · have hf := bf_it hf c_22
          refine lv_aload_n hx hb dX5_look_41 rfl (lv_at hl 0 rfl) ?_
          refine bf_tga X hd 1 (by decide) (by decide) q1384 dX5_look_42 ?_
          refine lv_iconst (v := 0) hx hb dX5_look_45 (by decide) ?_
          refine bf_tld X hd 1 (by decide) (by decide) dX5_look_46 ?_
          exact kret _ _ _ _ _ _ ⟨(bf_pr hf).1, congrArg (bf_pT G σ o) (bf_pr hf).2⟩ hd dX5_look_47
      · have hf := bf_it hf c_21
        refine lv_aload_n hx hb dX5_look_31 rfl (lv_at hl 0 rfl) ?_
        refine bf_tgi X hd 7 (by decide) rfl q1390 dX5_look_32 ?_
        exact kret _ _ _ _ _ _ ⟨(bf_pr hf).1, congrArg (bf_pT G σ o) (bf_pr hf).2⟩ hd dX5_look_35
    · have hf := bf_it hf c_20
      refine lv_aload_n hx hb dX5_look_19 rfl (lv_at hl 0 rfl) ?_
      refine bf_tga X hd 1 (by decide) (by decide) q1384 dX5_look_20 ?_
      refine lv_iconst (v := 4) hx hb dX5_look_23 (by decide) ?_
      refine bf_tld X hd 1 (by decide) (by decide) dX5_look_24 ?_
      exact kret _ _ _ _ _ _ ⟨(bf_pr hf).1, congrArg (bf_pT G σ o) (bf_pr hf).2⟩ hd dX5_look_25
  · have hf := bf_it hf c_19
    refine lv_aload_n hx hb dX5_look_9 rfl (lv_at hl 0 rfl) ?_
    refine bf_tgi X hd 6 (by decide) rfl q1389 dX5_look_10 ?_
    exact kret _ _ _ _ _ _ ⟨(bf_pr hf).1, congrArg (bf_pT G σ o) (bf_pr hf).2⟩ hd dX5_look_13
