set_option maxRecDepth 100000
def fX5_wordAt_115 (T : bf_TS) (k5 : Int32 → Int32 → Option (Int32)) (x1 : Int32) (x2 : Int32) (w115_3 : Int32) (w115_4 : Int32) : Option (Int32) := k5 w115_3 w115_4
def fX5_wordAt_94b (T : bf_TS) (k5 : Int32 → Int32 → Option (Int32)) (x1 : Int32) (x2 : Int32) (u94_3 : Int32) (k94 : Int32 → Option (Int32)) (v94_4 : Int32) : Option (Int32) := bf_c (bf_in v94_4 129) <| if (T 19 (v94_4).toNatClampNeg) = 32 then (fX5_wordAt_115 T k5 x1 x2 u94_3 v94_4) else (bf_l ((v94_4 + 1)) fun x4_14 => k94 x4_14)
def fX5_wordAt_94 (T : bf_TS) (k5 : Int32 → Int32 → Option (Int32)) (x1 : Int32) (x2 : Int32) (u94_3 : Int32) : Nat → Int32 → Option (Int32)
  | 0, _ => none
  | n + 1, v94_4 => fX5_wordAt_94b T k5 x1 x2 u94_3 (fX5_wordAt_94 T k5 x1 x2 u94_3 n) v94_4
def fX5_wordAt_88 (T : bf_TS) (k5 : Int32 → Int32 → Option (Int32)) (x1 : Int32) (x2 : Int32) (w88_3 : Int32) (w88_4 : Int32) : Option (Int32) := bf_l ((w88_4 + 1)) fun x4_11 => fX5_wordAt_94 T k5 x1 x2 w88_3 bf_fuel x4_11
def fX5_wordAt_61 (T : bf_TS) (k5 : Int32 → Int32 → Option (Int32)) (x1 : Int32) (x2 : Int32) (w61_3 : Int32) (w61_4 : Int32) (w61_5 : Int32) : Option (Int32) := if (x1 + w61_5) = x2 then (bf_c (bf_in ((w61_4 + 1) + w61_5) 129) <| if (T 19 ((w61_4 + 1) + w61_5).toNatClampNeg) = 32 then (some w61_3) else (fX5_wordAt_88 T k5 x1 x2 w61_3 w61_4)) else (fX5_wordAt_88 T k5 x1 x2 w61_3 w61_4)
def fX5_wordAt_20b (T : bf_TS) (k5 : Int32 → Int32 → Option (Int32)) (x1 : Int32) (x2 : Int32) (u20_3 : Int32) (u20_4 : Int32) (k20 : Int32 → Option (Int32)) (v20_5 : Int32) : Option (Int32) := if x2 ≤ (x1 + v20_5) then (fX5_wordAt_61 T k5 x1 x2 u20_3 u20_4 v20_5) else (bf_c (bf_in ((u20_4 + 1) + v20_5) 129) <| bf_c (bf_in (x1 + v20_5) 400) <| if (T 19 ((u20_4 + 1) + v20_5).toNatClampNeg) = (T 13 (x1 + v20_5).toNatClampNeg) then (bf_l ((v20_5 + 1)) fun x5_7 => k20 x5_7) else (fX5_wordAt_61 T k5 x1 x2 u20_3 u20_4 v20_5))
def fX5_wordAt_20 (T : bf_TS) (k5 : Int32 → Int32 → Option (Int32)) (x1 : Int32) (x2 : Int32) (u20_3 : Int32) (u20_4 : Int32) : Nat → Int32 → Option (Int32)
  | 0, _ => none
  | n + 1, v20_5 => fX5_wordAt_20b T k5 x1 x2 u20_3 u20_4 (fX5_wordAt_20 T k5 x1 x2 u20_3 u20_4 n) v20_5
def fX5_wordAt_5b (T : bf_TS) (x1 : Int32) (x2 : Int32) (k5 : Int32 → Int32 → Option (Int32)) (v5_3 : Int32) (v5_4 : Int32) : Option (Int32) := if 128 ≤ v5_4 then (some (-1)) else (bf_l ((v5_3 + 1)) fun x3_2 => fX5_wordAt_20 T k5 x1 x2 x3_2 v5_4 bf_fuel 0)
def fX5_wordAt_5 (T : bf_TS) (x1 : Int32) (x2 : Int32) : Nat → Int32 → Int32 → Option (Int32)
  | 0, _, _ => none
  | n + 1, v5_3, v5_4 => fX5_wordAt_5b T x1 x2 (fX5_wordAt_5 T x1 x2 n) v5_3 v5_4
def fX5_wordAt (T : bf_TS) (x1 x2 : Int32) : Option (Int32) := fX5_wordAt_5 T x1 x2 bf_fuel (-1) 0
set_option maxHeartbeats 4000000 in
theorem mX5_wordAt (l : Launch) (G : bf_G) (σ : bf_V) (o : Nat) (T : bf_TS) (x1 x2 : Int32) {r : Int32} (hf : fX5_wordAt T x1 x2 = some r) : bf_MI l G yX5_wordAt cX5_wordAt 6 (bf_rm 0) [.ref o, .int x1, .int x2] (bf_pT G σ o T) (fun v σ' => v = r ∧ σ' = bf_pT G σ o T) := by
  refine bf_MI.of rfl (Nat.le_of_ble_eq_true rfl) ?_
  intro p e s m below meth c Q X hlk hnm kret hd ls hl
  have hx := X.1
  have hb := X.2.1
  have hown := X.2.2.2.1
  have hts := X.2.2.2.2
  have hl : lv_has ls 6 [(0, .ref o), (1, .int x1), (2, .int x2)] := hl
  have L5 : ∀ (n5 : Nat) (v5_3 : Int32) (v5_4 : Int32) (H : Heap) (locs : List Loc) (ls : Array Slot), fX5_wordAt_5 T x1 x2 n5 v5_3 v5_4 = some r → bf_Dy G s H locs (bf_pT G σ o T) → lv_has ls 6 [(0, .ref o), (1, .int x1), (2, .int x2), (3, .int v5_3), (4, .int v5_4)] → W p l e (bf_rm 0) s m ([.ref o, .int x1, .int x2] : List Value).toArray below meth c H locs 0 0 Q (F0 m 5 ls []) := by
    intro n5
    induction n5 with
    | zero =>
      intro v5_3 v5_4 H locs ls hf hd hl
      exact absurd (show (none : Option (Int32)) = some r from hf) (by intro h; cases h)
    | succ n5 ih5 =>
      intro v5_3 v5_4 H locs ls hf hd hl
      have hf : fX5_wordAt_5b T x1 x2 (fX5_wordAt_5 T x1 x2 n5) v5_3 v5_4 = some r := hf
      unfold fX5_wordAt_5b at hf
      have J115 : ∀ (w115_3 : Int32) (w115_4 : Int32) (H : Heap) (locs : List Loc) (ls : Array Slot), fX5_wordAt_115 T (fX5_wordAt_5 T x1 x2 n5) x1 x2 w115_3 w115_4 = some r → bf_Dy G s H locs (bf_pT G σ o T) → lv_has ls 6 [(0, .ref o), (1, .int x1), (2, .int x2), (3, .int w115_3), (4, .int w115_4)] → W p l e (bf_rm 0) s m ([.ref o, .int x1, .int x2] : List Value).toArray below meth c H locs 0 0 Q (F0 m 115 ls []) := by
        intro w115_3 w115_4 H locs ls hf hd hl
        unfold fX5_wordAt_115 at hf
        refine lv_goto (tgt := 5) hx hb dX5_wordAt_115 (by decide) ?_
        exact ih5 w115_3 w115_4 _ _ _ hf hd (lv_sub hl [0, 1, 2, 3, 4] rfl)
      have L94 : ∀ (u94_3 : Int32) (n94 : Nat) (v94_4 : Int32) (H : Heap) (locs : List Loc) (ls : Array Slot), fX5_wordAt_94 T (fX5_wordAt_5 T x1 x2 n5) x1 x2 u94_3 n94 v94_4 = some r → bf_Dy G s H locs (bf_pT G σ o T) → lv_has ls 6 [(0, .ref o), (1, .int x1), (2, .int x2), (3, .int u94_3), (4, .int v94_4)] → W p l e (bf_rm 0) s m ([.ref o, .int x1, .int x2] : List Value).toArray below meth c H locs 0 0 Q (F0 m 94 ls []) := by
        intro u94_3 n94
        induction n94 with
        | zero =>
          intro v94_4 H locs ls hf hd hl
          exact absurd (show (none : Option (Int32)) = some r from hf) (by intro h; cases h)
        | succ n94 ih94 =>
          intro v94_4 H locs ls hf hd hl
          have hf : fX5_wordAt_94b T (fX5_wordAt_5 T x1 x2 n5) x1 x2 u94_3 (fX5_wordAt_94 T (fX5_wordAt_5 T x1 x2 n5) x1 x2 u94_3 n94) v94_4 = some r := hf
          unfold fX5_wordAt_94b at hf
          refine lv_aload_n hx hb dX5_wordAt_94 rfl (lv_at hl 0 rfl) ?_
          refine bf_tga X hd 19 (by decide) (by decide) q1402 dX5_wordAt_95 ?_
          refine lv_iload hx hb dX5_wordAt_98 (lv_at hl 4 rfl) ?_
          obtain ⟨g_15, hf⟩ := bf_c_some hf
          refine bf_tld X hd 19 (by decide) g_15 dX5_wordAt_100 ?_
          refine lv_bipush (v := 32) hx hb dX5_wordAt_101 (by decide) ?_
          refine lv_icmp_eq (tgt := 115) hx hb dX5_wordAt_103 (by decide) (fun c_16 => ?_) (fun c_16 => ?_)
          · have hf := bf_it hf c_16
            exact J115 u94_3 v94_4 _ _ _ hf hd (lv_sub hl [0, 1, 2, 3, 4] rfl)
          · have hf := bf_ie hf c_16
            refine lv_iload hx hb dX5_wordAt_106 (lv_at hl 4 rfl) ?_
            refine lv_iconst (v := 1) hx hb dX5_wordAt_108 (by decide) ?_
            refine lv_iadd hx hb dX5_wordAt_109 ?_
            obtain ⟨x4_17, ex4_17, hf⟩ := bf_l_e hf
            refine bf_top ex4_17 ?_
            refine lv_istore (lv' := [(4, .int x4_17), (0, .ref o), (1, .int x1), (2, .int x2), (3, .int u94_3)]) hx hb dX5_wordAt_110 hl (by decide) rfl (fun ls hl => ?_)
            refine lv_goto (tgt := 94) hx hb dX5_wordAt_112 (by decide) ?_
            exact ih94 x4_17 _ _ _ hf hd (lv_sub hl [1, 2, 3, 4, 0] rfl)
      have J88 : ∀ (w88_3 : Int32) (w88_4 : Int32) (H : Heap) (locs : List Loc) (ls : Array Slot), fX5_wordAt_88 T (fX5_wordAt_5 T x1 x2 n5) x1 x2 w88_3 w88_4 = some r → bf_Dy G s H locs (bf_pT G σ o T) → lv_has ls 6 [(0, .ref o), (1, .int x1), (2, .int x2), (3, .int w88_3), (4, .int w88_4)] → W p l e (bf_rm 0) s m ([.ref o, .int x1, .int x2] : List Value).toArray below meth c H locs 0 0 Q (F0 m 88 ls []) := by
        intro w88_3 w88_4 H locs ls hf hd hl
        unfold fX5_wordAt_88 at hf
        refine lv_iload hx hb dX5_wordAt_88 (lv_at hl 4 rfl) ?_
        refine lv_iconst (v := 1) hx hb dX5_wordAt_90 (by decide) ?_
        refine lv_iadd hx hb dX5_wordAt_91 ?_
        obtain ⟨x4_18, ex4_18, hf⟩ := bf_l_e hf
        refine bf_top ex4_18 ?_
        refine lv_istore (lv' := [(4, .int x4_18), (0, .ref o), (1, .int x1), (2, .int x2), (3, .int w88_3)]) hx hb dX5_wordAt_92 hl (by decide) rfl (fun ls hl => ?_)
        exact L94 w88_3 bf_fuel x4_18 _ _ _ hf hd (lv_sub hl [1, 2, 3, 4, 0] rfl)
      have J61 : ∀ (w61_3 : Int32) (w61_4 : Int32) (w61_5 : Int32) (H : Heap) (locs : List Loc) (ls : Array Slot), fX5_wordAt_61 T (fX5_wordAt_5 T x1 x2 n5) x1 x2 w61_3 w61_4 w61_5 = some r → bf_Dy G s H locs (bf_pT G σ o T) → lv_has ls 6 [(0, .ref o), (1, .int x1), (2, .int x2), (3, .int w61_3), (4, .int w61_4), (5, .int w61_5)] → W p l e (bf_rm 0) s m ([.ref o, .int x1, .int x2] : List Value).toArray below meth c H locs 0 0 Q (F0 m 61 ls []) := by
        intro w61_3 w61_4 w61_5 H locs ls hf hd hl
        unfold fX5_wordAt_61 at hf
        refine lv_iload_n hx hb dX5_wordAt_61 rfl (lv_at hl 1 rfl) ?_
        refine lv_iload hx hb dX5_wordAt_62 (lv_at hl 5 rfl) ?_
        refine lv_iadd hx hb dX5_wordAt_64 ?_
        refine lv_iload_n hx hb dX5_wordAt_65 rfl (lv_at hl 2 rfl) ?_
        refine lv_icmp_ne (tgt := 88) hx hb dX5_wordAt_66 (by decide) (fun c_19 => ?_) (fun c_19 => ?_)
        · have hf := bf_ie hf c_19
          exact J88 w61_3 w61_4 _ _ _ hf hd (lv_sub hl [0, 1, 2, 3, 4] rfl)
        · have hf := bf_it hf c_19
          refine lv_aload_n hx hb dX5_wordAt_69 rfl (lv_at hl 0 rfl) ?_
          refine bf_tga X hd 19 (by decide) (by decide) q1402 dX5_wordAt_70 ?_
          refine lv_iload hx hb dX5_wordAt_73 (lv_at hl 4 rfl) ?_
          refine lv_iconst (v := 1) hx hb dX5_wordAt_75 (by decide) ?_
          refine lv_iadd hx hb dX5_wordAt_76 ?_
          refine lv_iload hx hb dX5_wordAt_77 (lv_at hl 5 rfl) ?_
          refine lv_iadd hx hb dX5_wordAt_79 ?_
          obtain ⟨g_20, hf⟩ := bf_c_some hf
          refine bf_tld X hd 19 (by decide) g_20 dX5_wordAt_80 ?_
          refine lv_bipush (v := 32) hx hb dX5_wordAt_81 (by decide) ?_
          refine lv_icmp_ne (tgt := 88) hx hb dX5_wordAt_83 (by decide) (fun c_21 => ?_) (fun c_21 => ?_)
          · have hf := bf_ie hf c_21
            exact J88 w61_3 w61_4 _ _ _ hf hd (lv_sub hl [0, 1, 2, 3, 4] rfl)
          · have hf := bf_it hf c_21
            refine lv_iload_n hx hb dX5_wordAt_86 rfl (lv_at hl 3 rfl) ?_
            exact kret _ _ _ _ _ _ ⟨bf_so hf, rfl⟩ hd dX5_wordAt_87
      have L20 : ∀ (u20_3 : Int32) (u20_4 : Int32) (n20 : Nat) (v20_5 : Int32) (H : Heap) (locs : List Loc) (ls : Array Slot), fX5_wordAt_20 T (fX5_wordAt_5 T x1 x2 n5) x1 x2 u20_3 u20_4 n20 v20_5 = some r → bf_Dy G s H locs (bf_pT G σ o T) → lv_has ls 6 [(0, .ref o), (1, .int x1), (2, .int x2), (3, .int u20_3), (4, .int u20_4), (5, .int v20_5)] → W p l e (bf_rm 0) s m ([.ref o, .int x1, .int x2] : List Value).toArray below meth c H locs 0 0 Q (F0 m 20 ls []) := by
        intro u20_3 u20_4 n20
        induction n20 with
        | zero =>
          intro v20_5 H locs ls hf hd hl
          exact absurd (show (none : Option (Int32)) = some r from hf) (by intro h; cases h)
        | succ n20 ih20 =>
          intro v20_5 H locs ls hf hd hl
          have hf : fX5_wordAt_20b T (fX5_wordAt_5 T x1 x2 n5) x1 x2 u20_3 u20_4 (fX5_wordAt_20 T (fX5_wordAt_5 T x1 x2 n5) x1 x2 u20_3 u20_4 n20) v20_5 = some r := hf
          unfold fX5_wordAt_20b at hf
          refine lv_iload_n hx hb dX5_wordAt_20 rfl (lv_at hl 1 rfl) ?_
          refine lv_iload hx hb dX5_wordAt_21 (lv_at hl 5 rfl) ?_
          refine lv_iadd hx hb dX5_wordAt_23 ?_
          refine lv_iload_n hx hb dX5_wordAt_24 rfl (lv_at hl 2 rfl) ?_
          refine lv_icmp_ge (tgt := 61) hx hb dX5_wordAt_25 (by decide) (fun c_22 => ?_) (fun c_22 => ?_)
          · have hf := bf_it hf c_22
            exact J61 u20_3 u20_4 v20_5 _ _ _ hf hd (lv_sub hl [0, 1, 2, 3, 4, 5] rfl)
          · have hf := bf_ie hf c_22
            refine lv_aload_n hx hb dX5_wordAt_28 rfl (lv_at hl 0 rfl) ?_
            refine bf_tga X hd 19 (by decide) (by decide) q1402 dX5_wordAt_29 ?_
            refine lv_iload hx hb dX5_wordAt_32 (lv_at hl 4 rfl) ?_
            refine lv_iconst (v := 1) hx hb dX5_wordAt_34 (by decide) ?_
            refine lv_iadd hx hb dX5_wordAt_35 ?_
            refine lv_iload hx hb dX5_wordAt_36 (lv_at hl 5 rfl) ?_
            refine lv_iadd hx hb dX5_wordAt_38 ?_
            obtain ⟨g_23, hf⟩ := bf_c_some hf
            refine bf_tld X hd 19 (by decide) g_23 dX5_wordAt_39 ?_
            refine lv_aload_n hx hb dX5_wordAt_40 rfl (lv_at hl 0 rfl) ?_
            refine bf_tga X hd 13 (by decide) (by decide) q1396 dX5_wordAt_41 ?_
            refine lv_iload_n hx hb dX5_wordAt_44 rfl (lv_at hl 1 rfl) ?_
            refine lv_iload hx hb dX5_wordAt_45 (lv_at hl 5 rfl) ?_
            refine lv_iadd hx hb dX5_wordAt_47 ?_
            obtain ⟨g_24, hf⟩ := bf_c_some hf
            refine bf_tld X hd 13 (by decide) g_24 dX5_wordAt_48 ?_
            refine lv_icmp_ne (tgt := 61) hx hb dX5_wordAt_49 (by decide) (fun c_25 => ?_) (fun c_25 => ?_)
            · have hf := bf_ie hf c_25
              exact J61 u20_3 u20_4 v20_5 _ _ _ hf hd (lv_sub hl [0, 1, 2, 3, 4, 5] rfl)
            · have hf := bf_it hf c_25
              refine lv_iload hx hb dX5_wordAt_52 (lv_at hl 5 rfl) ?_
              refine lv_iconst (v := 1) hx hb dX5_wordAt_54 (by decide) ?_
              refine lv_iadd hx hb dX5_wordAt_55 ?_
              obtain ⟨x5_26, ex5_26, hf⟩ := bf_l_e hf
              refine bf_top ex5_26 ?_
              refine lv_istore (lv' := [(5, .int x5_26), (0, .ref o), (1, .int x1), (2, .int x2), (3, .int u20_3), (4, .int u20_4)]) hx hb dX5_wordAt_56 hl (by decide) rfl (fun ls hl => ?_)
              refine lv_goto (tgt := 20) hx hb dX5_wordAt_58 (by decide) ?_
              exact ih20 x5_26 _ _ _ hf hd (lv_sub hl [1, 2, 3, 4, 5, 0] rfl)
      refine lv_iload hx hb dX5_wordAt_5 (lv_at hl 4 rfl) ?_
      refine lv_sipush (v := 128) hx hb dX5_wordAt_7 (by decide) ?_
      refine lv_icmp_ge (tgt := 118) hx hb dX5_wordAt_10 (by decide) (fun c_27 => ?_) (fun c_27 => ?_)
      · have hf := bf_it hf c_27
        refine lv_iconst (v := (-1)) hx hb dX5_wordAt_118 (by decide) ?_
        exact kret _ _ _ _ _ _ ⟨bf_so hf, rfl⟩ hd dX5_wordAt_119
      · have hf := bf_ie hf c_27
        refine lv_iconst (v := 0) hx hb dX5_wordAt_13 (by decide) ?_
        refine lv_istore (lv' := [(5, .int 0), (0, .ref o), (1, .int x1), (2, .int x2), (3, .int v5_3), (4, .int v5_4)]) hx hb dX5_wordAt_14 hl (by decide) rfl (fun ls hl => ?_)
        refine lv_iload_n hx hb dX5_wordAt_16 rfl (lv_at hl 4 rfl) ?_
        refine lv_iconst (v := 1) hx hb dX5_wordAt_17 (by decide) ?_
        refine lv_iadd hx hb dX5_wordAt_18 ?_
        obtain ⟨x3_28, ex3_28, hf⟩ := bf_l_e hf
        refine bf_top ex3_28 ?_
        refine lv_istore_n (lv' := [(3, .int x3_28), (5, .int 0), (0, .ref o), (1, .int x1), (2, .int x2), (4, .int v5_4)]) hx hb dX5_wordAt_19 rfl hl (by decide) rfl (fun ls hl => ?_)
        exact L20 x3_28 v5_4 bf_fuel 0 _ _ _ hf hd (lv_sub hl [2, 3, 4, 0, 5, 1] rfl)
  unfold fX5_wordAt at hf
  refine lv_iconst (v := (-1)) hx hb dX5_wordAt_0 (by decide) ?_
  refine lv_istore_n (lv' := [(3, .int (-1)), (0, .ref o), (1, .int x1), (2, .int x2)]) hx hb dX5_wordAt_1 rfl hl (by decide) rfl (fun ls hl => ?_)
  refine lv_iconst (v := 0) hx hb dX5_wordAt_2 (by decide) ?_
  refine lv_istore (lv' := [(4, .int 0), (3, .int (-1)), (0, .ref o), (1, .int x1), (2, .int x2)]) hx hb dX5_wordAt_3 hl (by decide) rfl (fun ls hl => ?_)
  exact L5 bf_fuel (-1) 0 _ _ _ hf hd (lv_sub hl [2, 3, 4, 1, 0] rfl)
def fX5_reads_26 (k0 : bf_TS → Option (bf_TS)) (T26 : bf_TS) : Option (bf_TS) := bf_l (bf_u2 T26 15 0 ((T26 15 0) + 1)) fun T_37 => k0 T_37
def fX5_reads_239 (T239 : bf_TS) : Option (bf_TS) := if 5 ≤ ((T239 15 0) - (T239 16 0)) then (some T239) else (bf_l (bf_u2 T239 17 0 3) fun T_36 => some T_36)
def fX5_reads_223 (k171 : bf_TS → Option (bf_TS)) (t223_0 : Int32) (T223 : bf_TS) : Option (bf_TS) := bf_l (bf_u2 T223 18 0 t223_0) fun T_33 => bf_l (bf_u2 T_33 15 0 ((T_33 15 0) + 1)) fun T_34 => k171 T_34
def fX5_reads_171b (k171 : bf_TS → Option (bf_TS)) (T171 : bf_TS) : Option (bf_TS) := bf_b (fX5_raw T171 (T171 15 0)) fun r_28 => if (fX5_isDigit r_28) = 0 then (fX5_reads_239 T171) else (if 10000 ≤ (T171 18 0) then (fX5_reads_223 k171 (T171 18 0) T171) else (bf_b (fX5_raw T171 (T171 15 0)) fun r_32 => fX5_reads_223 k171 (((10 * (T171 18 0)) + r_32) - 48) T171))
def fX5_reads_171  : Nat → bf_TS → Option (bf_TS)
  | 0, _ => none
  | n + 1, T171 => fX5_reads_171b (fX5_reads_171 n) T171
def fX5_reads_123 (T123 : bf_TS) : Option (bf_TS) := bf_b (fX5_wordAt T123 (T123 16 0) (T123 15 0)) fun r_24 => bf_l (bf_u2 T123 18 0 r_24) fun T_25 => if (T_25 18 0) = (-1) then (some T_25) else (bf_l (bf_u2 T_25 17 0 2) fun T_27 => some T_27)
def fX5_reads_95b (k95 : bf_TS → Option (bf_TS)) (T95 : bf_TS) : Option (bf_TS) := bf_b (fX5_raw T95 (T95 15 0)) fun r_20 => if (fX5_isLetter r_20) = 0 then (fX5_reads_123 T95) else (bf_l (bf_u2 T95 15 0 ((T95 15 0) + 1)) fun T_23 => k95 T_23)
def fX5_reads_95  : Nat → bf_TS → Option (bf_TS)
  | 0, _ => none
  | n + 1, T95 => fX5_reads_95b (fX5_reads_95 n) T95
def fX5_reads_39 (T39 : bf_TS) : Option (bf_TS) := bf_l (bf_u2 T39 16 0 (T39 15 0)) fun T_5 => bf_l (bf_u2 T_5 17 0 1) fun T_6 => bf_b (fX5_raw T_6 (T_6 15 0)) fun r_7 => if r_7 = (-1) then (bf_l (bf_u2 T_6 17 0 0) fun T_19 => some T_19) else (bf_l (bf_u2 T_6 15 0 ((T_6 15 0) + 1)) fun T_9 => bf_l (bf_u2 T_9 18 0 r_7) fun T_10 => if (fX5_isLetter r_7) = 0 then (if (fX5_isDigit r_7) = 0 then (if (fX5_isMarkSign r_7) = 0 then (some T_10) else (bf_l (bf_u2 T_10 17 0 4) fun T_17 => some T_17)) else (bf_l (bf_u2 T_10 18 0 (r_7 - 48)) fun T_18 => fX5_reads_171 bf_fuel T_18)) else (fX5_reads_95 bf_fuel T_10))
def fX5_reads_0b (k0 : bf_TS → Option (bf_TS)) (T0 : bf_TS) : Option (bf_TS) := bf_b (fX5_raw T0 (T0 15 0)) fun r_1 => if r_1 = 32 then (fX5_reads_26 k0 T0) else (bf_b (fX5_raw T0 (T0 15 0)) fun r_3 => if r_3 = 10 then (fX5_reads_26 k0 T0) else (fX5_reads_39 T0))
def fX5_reads_0  : Nat → bf_TS → Option (bf_TS)
  | 0, _ => none
  | n + 1, T0 => fX5_reads_0b (fX5_reads_0 n) T0
def fX5_reads (T : bf_TS) : Option (bf_TS) := fX5_reads_0 bf_fuel T
set_option maxHeartbeats 4000000 in
theorem mX5_reads (l : Launch) (G : bf_G) (σ : bf_V) (o : Nat) (T : bf_TS) {T' : bf_TS} (hf : fX5_reads T = some T') : bf_MV l G yX5_reads cX5_reads 2 (bf_rm 2) [.ref o] (bf_pT G σ o T) (fun σ' => σ' = bf_pT G σ o T') := by
  refine bf_MV.of rfl (Nat.le_of_ble_eq_true rfl) ?_
  intro p e s m below meth c Q X hlk hnm kret hd ls hl
  have hx := X.1
  have hb := X.2.1
  have hown := X.2.2.2.1
  have hts := X.2.2.2.2
  have hl : lv_has ls 2 [(0, .ref o)] := hl
  have J239 : ∀ (T239 : bf_TS) (H : Heap) (locs : List Loc) (ls : Array Slot), fX5_reads_239 T239 = some T' → bf_Dy G s H locs (bf_pT G σ o T239) → lv_has ls 2 [(0, .ref o)] → W p l e (bf_rm 2) s m ([.ref o] : List Value).toArray below meth c H locs 0 0 Q (F0 m 239 ls []) := by
    intro T239 H locs ls hf hd hl
    unfold fX5_reads_239 at hf
    refine lv_aload_n hx hb dX5_reads_239 rfl (lv_at hl 0 rfl) ?_
    refine bf_tgi X hd 15 (by decide) rfl q1398 dX5_reads_240 ?_
    refine lv_aload_n hx hb dX5_reads_243 rfl (lv_at hl 0 rfl) ?_
    refine bf_tgi X hd 16 (by decide) rfl q1399 dX5_reads_244 ?_
    refine lv_isub hx hb dX5_reads_247 ?_
    refine lv_iconst (v := 5) hx hb dX5_reads_248 (by decide) ?_
    refine lv_icmp_ge (tgt := 273) hx hb dX5_reads_249 (by decide) (fun c_38 => ?_) (fun c_38 => ?_)
    · have hf := bf_it hf c_38
      exact kret _ _ _ _ _ (congrArg (bf_pT G σ o) (bf_so hf)) hd dX5_reads_273
    · have hf := bf_ie hf c_38
      refine lv_aload_n hx hb dX5_reads_252 rfl (lv_at hl 0 rfl) ?_
      refine lv_iconst (v := 3) hx hb dX5_reads_253 (by decide) ?_
      refine bf_tpi X hd 17 (by decide) ⟨rfl, rfl, rfl⟩ q1400 dX5_reads_254 (fun H locs hd => ?_)
      obtain ⟨T_39, eT_39, hf⟩ := bf_l_e hf
      have hd := hd.of (congrArg (bf_pT G σ o) eT_39.symm)
      refine lv_goto (tgt := 273) hx hb dX5_reads_257 (by decide) ?_
      exact kret _ _ _ _ _ (congrArg (bf_pT G σ o) (bf_so hf)) hd dX5_reads_273
  have L171 : ∀ (n171 : Nat) (T171 : bf_TS) (H : Heap) (locs : List Loc) (ls : Array Slot), fX5_reads_171 n171 T171 = some T' → bf_Dy G s H locs (bf_pT G σ o T171) → lv_has ls 2 [(0, .ref o)] → W p l e (bf_rm 2) s m ([.ref o] : List Value).toArray below meth c H locs 0 0 Q (F0 m 171 ls []) := by
    intro n171
    induction n171 with
    | zero =>
      intro T171 H locs ls hf hd hl
      exact absurd (show (none : Option (bf_TS)) = some T' from hf) (by intro h; cases h)
    | succ n171 ih171 =>
      intro T171 H locs ls hf hd hl
      have hf : fX5_reads_171b (fX5_reads_171 n171) T171 = some T' := hf
      unfold fX5_reads_171b at hf
      have J223 : ∀ (t223_0 : Int32) (T223 : bf_TS) (H : Heap) (locs : List Loc) (ls : Array Slot), fX5_reads_223 (fX5_reads_171 n171) t223_0 T223 = some T' → bf_Dy G s H locs (bf_pT G σ o T223) → lv_has ls 2 [(0, .ref o)] → W p l e (bf_rm 2) s m ([.ref o] : List Value).toArray below meth c H locs 0 0 Q (F0 m 223 ls [.int t223_0, .ref o]) := by
        intro t223_0 T223 H locs ls hf hd hl
        unfold fX5_reads_223 at hf
        refine bf_tpi X hd 18 (by decide) ⟨rfl, rfl, rfl⟩ q1401 dX5_reads_223 (fun H locs hd => ?_)
        obtain ⟨T_40, eT_40, hf⟩ := bf_l_e hf
        have hd := hd.of (congrArg (bf_pT G σ o) eT_40.symm)
        refine lv_aload_n hx hb dX5_reads_226 rfl (lv_at hl 0 rfl) ?_
        refine lv_aload_n hx hb dX5_reads_227 rfl (lv_at hl 0 rfl) ?_
        refine bf_tgi X hd 15 (by decide) rfl q1398 dX5_reads_228 ?_
        refine lv_iconst (v := 1) hx hb dX5_reads_231 (by decide) ?_
        refine lv_iadd hx hb dX5_reads_232 ?_
        refine bf_tpi X hd 15 (by decide) ⟨rfl, rfl, rfl⟩ q1398 dX5_reads_233 (fun H locs hd => ?_)
        obtain ⟨T_41, eT_41, hf⟩ := bf_l_e hf
        have hd := hd.of (congrArg (bf_pT G σ o) eT_41.symm)
        refine lv_goto (tgt := 171) hx hb dX5_reads_236 (by decide) ?_
        exact ih171 T_41 _ _ _ hf hd (lv_sub hl [0] rfl)
      refine lv_aload_n hx hb dX5_reads_171 rfl (lv_at hl 0 rfl) ?_
      refine lv_aload_n hx hb dX5_reads_172 rfl (lv_at hl 0 rfl) ?_
      refine lv_aload_n hx hb dX5_reads_173 rfl (lv_at hl 0 rfl) ?_
      refine bf_tgi X hd 15 (by decide) rfl q1398 dX5_reads_174 ?_
      obtain ⟨r_42, er_42, hf⟩ := bf_b_some hf
      refine bf_tci (n := 1) (As := [.int (T171 15 0)]) (rest := [.ref o]) X hd (mX5_raw l G σ o T171 (T171 15 0) er_42) (lw_V q1628 q1630 qs66 q156 q1631) (by decide +kernel) ⟨Nat.le_of_ble_eq_true rfl, Nat.le_of_ble_eq_true rfl⟩ rfl hl.1 rfl (Nat.le_of_ble_eq_true rfl) dX5_reads_177 ⟨Nat.le_of_ble_eq_true rfl, Nat.le_of_ble_eq_true rfl⟩ (fun H locs hd => ?_)
      refine bf_tcz (n := 1) (As := [.int r_42]) (rest := []) X hd (mX5_isDigit l G σ o T171 r_42 rfl) (lw_V q1640 q1642 qs69 q156 q1643) (by decide +kernel) ⟨Nat.le_of_ble_eq_true rfl, Nat.le_of_ble_eq_true rfl⟩ rfl hl.1 rfl (Nat.le_of_ble_eq_true rfl) dX5_reads_180 ⟨Nat.le_of_ble_eq_true rfl, Nat.le_of_ble_eq_true rfl⟩ (fun H locs z_43 hd => ?_)
      refine lv_if_eq (tgt := 239) hx hb dX5_reads_183 (by decide) (fun c_44 => ?_) (fun c_44 => ?_)
      · have hf := bf_it hf c_44
        exact J239 T171 _ _ _ hf hd (lv_sub hl [0] rfl)
      · have hf := bf_ie hf c_44
        refine lv_aload_n hx hb dX5_reads_186 rfl (lv_at hl 0 rfl) ?_
        refine lv_aload_n hx hb dX5_reads_187 rfl (lv_at hl 0 rfl) ?_
        refine bf_tgi X hd 18 (by decide) rfl q1401 dX5_reads_188 ?_
        refine lv_sipush (v := 10000) hx hb dX5_reads_191 (by decide) ?_
        refine lv_icmp_ge (tgt := 219) hx hb dX5_reads_194 (by decide) (fun c_45 => ?_) (fun c_45 => ?_)
        · have hf := bf_it hf c_45
          refine lv_aload_n hx hb dX5_reads_219 rfl (lv_at hl 0 rfl) ?_
          refine bf_tgi X hd 18 (by decide) rfl q1401 dX5_reads_220 ?_
          exact J223 (T171 18 0) T171 _ _ _ hf hd (lv_sub hl [0] rfl)
        · have hf := bf_ie hf c_45
          refine lv_bipush (v := 10) hx hb dX5_reads_197 (by decide) ?_
          refine lv_aload_n hx hb dX5_reads_199 rfl (lv_at hl 0 rfl) ?_
          refine bf_tgi X hd 18 (by decide) rfl q1401 dX5_reads_200 ?_
          refine lv_imul hx hb dX5_reads_203 ?_
          refine lv_aload_n hx hb dX5_reads_204 rfl (lv_at hl 0 rfl) ?_
          refine lv_aload_n hx hb dX5_reads_205 rfl (lv_at hl 0 rfl) ?_
          refine bf_tgi X hd 15 (by decide) rfl q1398 dX5_reads_206 ?_
          obtain ⟨r_46, er_46, hf⟩ := bf_b_some hf
          refine bf_tci (n := 1) (As := [.int (T171 15 0)]) (rest := [.int (10 * (T171 18 0)), .ref o]) X hd (mX5_raw l G σ o T171 (T171 15 0) er_46) (lw_V q1628 q1630 qs66 q156 q1631) (by decide +kernel) ⟨Nat.le_of_ble_eq_true rfl, Nat.le_of_ble_eq_true rfl⟩ rfl hl.1 rfl (Nat.le_of_ble_eq_true rfl) dX5_reads_209 ⟨Nat.le_of_ble_eq_true rfl, Nat.le_of_ble_eq_true rfl⟩ (fun H locs hd => ?_)
          refine lv_iadd hx hb dX5_reads_212 ?_
          refine lv_bipush (v := 48) hx hb dX5_reads_213 (by decide) ?_
          refine lv_isub hx hb dX5_reads_215 ?_
          refine lv_goto (tgt := 223) hx hb dX5_reads_216 (by decide) ?_
          exact J223 (((10 * (T171 18 0)) + r_46) - 48) T171 _ _ _ hf hd (lv_sub hl [0] rfl)
  have J123 : ∀ (T123 : bf_TS) (H : Heap) (locs : List Loc) (ls : Array Slot), fX5_reads_123 T123 = some T' → bf_Dy G s H locs (bf_pT G σ o T123) → lv_has ls 2 [(0, .ref o)] → W p l e (bf_rm 2) s m ([.ref o] : List Value).toArray below meth c H locs 0 0 Q (F0 m 123 ls []) := by
    intro T123 H locs ls hf hd hl
    unfold fX5_reads_123 at hf
    refine lv_aload_n hx hb dX5_reads_123 rfl (lv_at hl 0 rfl) ?_
    refine lv_aload_n hx hb dX5_reads_124 rfl (lv_at hl 0 rfl) ?_
    refine lv_aload_n hx hb dX5_reads_125 rfl (lv_at hl 0 rfl) ?_
    refine bf_tgi X hd 16 (by decide) rfl q1399 dX5_reads_126 ?_
    refine lv_aload_n hx hb dX5_reads_129 rfl (lv_at hl 0 rfl) ?_
    refine bf_tgi X hd 15 (by decide) rfl q1398 dX5_reads_130 ?_
    obtain ⟨r_47, er_47, hf⟩ := bf_b_some hf
    refine bf_tci (n := 2) (As := [.int (T123 16 0), .int (T123 15 0)]) (rest := [.ref o]) X hd (mX5_wordAt l G σ o T123 (T123 16 0) (T123 15 0) er_47) (lw_V q1636 q1638 qs68 q156 q1639) (by decide +kernel) ⟨Nat.le_of_ble_eq_true rfl, Nat.le_of_ble_eq_true rfl⟩ rfl hl.1 rfl (Nat.le_of_ble_eq_true rfl) dX5_reads_133 ⟨Nat.le_of_ble_eq_true rfl, Nat.le_of_ble_eq_true rfl⟩ (fun H locs hd => ?_)
    refine bf_tpi X hd 18 (by decide) ⟨rfl, rfl, rfl⟩ q1401 dX5_reads_136 (fun H locs hd => ?_)
    obtain ⟨T_48, eT_48, hf⟩ := bf_l_e hf
    have hd := hd.of (congrArg (bf_pT G σ o) eT_48.symm)
    refine lv_aload_n hx hb dX5_reads_139 rfl (lv_at hl 0 rfl) ?_
    refine bf_tgi X hd 18 (by decide) rfl q1401 dX5_reads_140 ?_
    refine lv_iconst (v := (-1)) hx hb dX5_reads_143 (by decide) ?_
    refine lv_icmp_eq (tgt := 273) hx hb dX5_reads_144 (by decide) (fun c_49 => ?_) (fun c_49 => ?_)
    · have hf := bf_it hf c_49
      exact kret _ _ _ _ _ (congrArg (bf_pT G σ o) (bf_so hf)) hd dX5_reads_273
    · have hf := bf_ie hf c_49
      refine lv_aload_n hx hb dX5_reads_147 rfl (lv_at hl 0 rfl) ?_
      refine lv_iconst (v := 2) hx hb dX5_reads_148 (by decide) ?_
      refine bf_tpi X hd 17 (by decide) ⟨rfl, rfl, rfl⟩ q1400 dX5_reads_149 (fun H locs hd => ?_)
      obtain ⟨T_50, eT_50, hf⟩ := bf_l_e hf
      have hd := hd.of (congrArg (bf_pT G σ o) eT_50.symm)
      refine lv_goto (tgt := 273) hx hb dX5_reads_152 (by decide) ?_
      exact kret _ _ _ _ _ (congrArg (bf_pT G σ o) (bf_so hf)) hd dX5_reads_273
  have L95 : ∀ (n95 : Nat) (T95 : bf_TS) (H : Heap) (locs : List Loc) (ls : Array Slot), fX5_reads_95 n95 T95 = some T' → bf_Dy G s H locs (bf_pT G σ o T95) → lv_has ls 2 [(0, .ref o)] → W p l e (bf_rm 2) s m ([.ref o] : List Value).toArray below meth c H locs 0 0 Q (F0 m 95 ls []) := by
    intro n95
    induction n95 with
    | zero =>
      intro T95 H locs ls hf hd hl
      exact absurd (show (none : Option (bf_TS)) = some T' from hf) (by intro h; cases h)
    | succ n95 ih95 =>
      intro T95 H locs ls hf hd hl
      have hf : fX5_reads_95b (fX5_reads_95 n95) T95 = some T' := hf
      unfold fX5_reads_95b at hf
      refine lv_aload_n hx hb dX5_reads_95 rfl (lv_at hl 0 rfl) ?_
      refine lv_aload_n hx hb dX5_reads_96 rfl (lv_at hl 0 rfl) ?_
      refine lv_aload_n hx hb dX5_reads_97 rfl (lv_at hl 0 rfl) ?_
      refine bf_tgi X hd 15 (by decide) rfl q1398 dX5_reads_98 ?_
      obtain ⟨r_51, er_51, hf⟩ := bf_b_some hf
      refine bf_tci (n := 1) (As := [.int (T95 15 0)]) (rest := [.ref o]) X hd (mX5_raw l G σ o T95 (T95 15 0) er_51) (lw_V q1628 q1630 qs66 q156 q1631) (by decide +kernel) ⟨Nat.le_of_ble_eq_true rfl, Nat.le_of_ble_eq_true rfl⟩ rfl hl.1 rfl (Nat.le_of_ble_eq_true rfl) dX5_reads_101 ⟨Nat.le_of_ble_eq_true rfl, Nat.le_of_ble_eq_true rfl⟩ (fun H locs hd => ?_)
      refine bf_tcz (n := 1) (As := [.int r_51]) (rest := []) X hd (mX5_isLetter l G σ o T95 r_51 rfl) (lw_V q1632 q1634 qs67 q156 q1635) (by decide +kernel) ⟨Nat.le_of_ble_eq_true rfl, Nat.le_of_ble_eq_true rfl⟩ rfl hl.1 rfl (Nat.le_of_ble_eq_true rfl) dX5_reads_104 ⟨Nat.le_of_ble_eq_true rfl, Nat.le_of_ble_eq_true rfl⟩ (fun H locs z_52 hd => ?_)
      refine lv_if_eq (tgt := 123) hx hb dX5_reads_107 (by decide) (fun c_53 => ?_) (fun c_53 => ?_)
      · have hf := bf_it hf c_53
        exact J123 T95 _ _ _ hf hd (lv_sub hl [0] rfl)
      · have hf := bf_ie hf c_53
        refine lv_aload_n hx hb dX5_reads_110 rfl (lv_at hl 0 rfl) ?_
        refine lv_aload_n hx hb dX5_reads_111 rfl (lv_at hl 0 rfl) ?_
        refine bf_tgi X hd 15 (by decide) rfl q1398 dX5_reads_112 ?_
        refine lv_iconst (v := 1) hx hb dX5_reads_115 (by decide) ?_
        refine lv_iadd hx hb dX5_reads_116 ?_
        refine bf_tpi X hd 15 (by decide) ⟨rfl, rfl, rfl⟩ q1398 dX5_reads_117 (fun H locs hd => ?_)
        obtain ⟨T_54, eT_54, hf⟩ := bf_l_e hf
        have hd := hd.of (congrArg (bf_pT G σ o) eT_54.symm)
        refine lv_goto (tgt := 95) hx hb dX5_reads_120 (by decide) ?_
        exact ih95 T_54 _ _ _ hf hd (lv_sub hl [0] rfl)
  have J39 : ∀ (T39 : bf_TS) (H : Heap) (locs : List Loc) (ls : Array Slot), fX5_reads_39 T39 = some T' → bf_Dy G s H locs (bf_pT G σ o T39) → lv_has ls 2 [(0, .ref o)] → W p l e (bf_rm 2) s m ([.ref o] : List Value).toArray below meth c H locs 0 0 Q (F0 m 39 ls []) := by
    intro T39 H locs ls hf hd hl
    unfold fX5_reads_39 at hf
    refine lv_aload_n hx hb dX5_reads_39 rfl (lv_at hl 0 rfl) ?_
    refine lv_aload_n hx hb dX5_reads_40 rfl (lv_at hl 0 rfl) ?_
    refine bf_tgi X hd 15 (by decide) rfl q1398 dX5_reads_41 ?_
    refine bf_tpi X hd 16 (by decide) ⟨rfl, rfl, rfl⟩ q1399 dX5_reads_44 (fun H locs hd => ?_)
    obtain ⟨T_55, eT_55, hf⟩ := bf_l_e hf
    have hd := hd.of (congrArg (bf_pT G σ o) eT_55.symm)
    refine lv_aload_n hx hb dX5_reads_47 rfl (lv_at hl 0 rfl) ?_
    refine lv_iconst (v := 1) hx hb dX5_reads_48 (by decide) ?_
    refine bf_tpi X hd 17 (by decide) ⟨rfl, rfl, rfl⟩ q1400 dX5_reads_49 (fun H locs hd => ?_)
    obtain ⟨T_56, eT_56, hf⟩ := bf_l_e hf
    have hd := hd.of (congrArg (bf_pT G σ o) eT_56.symm)
    refine lv_aload_n hx hb dX5_reads_52 rfl (lv_at hl 0 rfl) ?_
    refine lv_aload_n hx hb dX5_reads_53 rfl (lv_at hl 0 rfl) ?_
    refine bf_tgi X hd 15 (by decide) rfl q1398 dX5_reads_54 ?_
    obtain ⟨r_57, er_57, hf⟩ := bf_b_some hf
    refine bf_tci (n := 1) (As := [.int (T_56 15 0)]) (rest := []) X hd (mX5_raw l G σ o T_56 (T_56 15 0) er_57) (lw_V q1628 q1630 qs66 q156 q1631) (by decide +kernel) ⟨Nat.le_of_ble_eq_true rfl, Nat.le_of_ble_eq_true rfl⟩ rfl hl.1 rfl (Nat.le_of_ble_eq_true rfl) dX5_reads_57 ⟨Nat.le_of_ble_eq_true rfl, Nat.le_of_ble_eq_true rfl⟩ (fun H locs hd => ?_)
    refine lv_istore_n (lv' := [(1, .int r_57), (0, .ref o)]) hx hb dX5_reads_60 rfl hl (by decide) rfl (fun ls hl => ?_)
    refine lv_iload_n hx hb dX5_reads_61 rfl (lv_at hl 0 rfl) ?_
    refine lv_iconst (v := (-1)) hx hb dX5_reads_62 (by decide) ?_
    refine lv_icmp_ne (tgt := 72) hx hb dX5_reads_63 (by decide) (fun c_58 => ?_) (fun c_58 => ?_)
    · have hf := bf_ie hf c_58
      refine lv_aload_n hx hb dX5_reads_72 rfl (lv_at hl 1 rfl) ?_
      refine lv_aload_n hx hb dX5_reads_73 rfl (lv_at hl 1 rfl) ?_
      refine bf_tgi X hd 15 (by decide) rfl q1398 dX5_reads_74 ?_
      refine lv_iconst (v := 1) hx hb dX5_reads_77 (by decide) ?_
      refine lv_iadd hx hb dX5_reads_78 ?_
      refine bf_tpi X hd 15 (by decide) ⟨rfl, rfl, rfl⟩ q1398 dX5_reads_79 (fun H locs hd => ?_)
      obtain ⟨T_59, eT_59, hf⟩ := bf_l_e hf
      have hd := hd.of (congrArg (bf_pT G σ o) eT_59.symm)
      refine lv_aload_n hx hb dX5_reads_82 rfl (lv_at hl 1 rfl) ?_
      refine lv_iload_n hx hb dX5_reads_83 rfl (lv_at hl 0 rfl) ?_
      refine bf_tpi X hd 18 (by decide) ⟨rfl, rfl, rfl⟩ q1401 dX5_reads_84 (fun H locs hd => ?_)
      obtain ⟨T_60, eT_60, hf⟩ := bf_l_e hf
      have hd := hd.of (congrArg (bf_pT G σ o) eT_60.symm)
      refine lv_aload_n hx hb dX5_reads_87 rfl (lv_at hl 1 rfl) ?_
      refine lv_iload_n hx hb dX5_reads_88 rfl (lv_at hl 0 rfl) ?_
      refine bf_tcz (n := 1) (As := [.int r_57]) (rest := []) X hd (mX5_isLetter l G σ o T_60 r_57 rfl) (lw_V q1632 q1634 qs67 q156 q1635) (by decide +kernel) ⟨Nat.le_of_ble_eq_true rfl, Nat.le_of_ble_eq_true rfl⟩ rfl hl.1 rfl (Nat.le_of_ble_eq_true rfl) dX5_reads_89 ⟨Nat.le_of_ble_eq_true rfl, Nat.le_of_ble_eq_true rfl⟩ (fun H locs z_61 hd => ?_)
      refine lv_if_eq (tgt := 155) hx hb dX5_reads_92 (by decide) (fun c_62 => ?_) (fun c_62 => ?_)
      · have hf := bf_it hf c_62
        refine lv_aload_n hx hb dX5_reads_155 rfl (lv_at hl 1 rfl) ?_
        refine lv_iload_n hx hb dX5_reads_156 rfl (lv_at hl 0 rfl) ?_
        refine bf_tcz (n := 1) (As := [.int r_57]) (rest := []) X hd (mX5_isDigit l G σ o T_60 r_57 rfl) (lw_V q1640 q1642 qs69 q156 q1643) (by decide +kernel) ⟨Nat.le_of_ble_eq_true rfl, Nat.le_of_ble_eq_true rfl⟩ rfl hl.1 rfl (Nat.le_of_ble_eq_true rfl) dX5_reads_157 ⟨Nat.le_of_ble_eq_true rfl, Nat.le_of_ble_eq_true rfl⟩ (fun H locs z_63 hd => ?_)
        refine lv_if_eq (tgt := 260) hx hb dX5_reads_160 (by decide) (fun c_64 => ?_) (fun c_64 => ?_)
        · have hf := bf_it hf c_64
          refine lv_aload_n hx hb dX5_reads_260 rfl (lv_at hl 1 rfl) ?_
          refine lv_iload_n hx hb dX5_reads_261 rfl (lv_at hl 0 rfl) ?_
          refine bf_tcz (n := 1) (As := [.int r_57]) (rest := []) X hd (mX5_isMarkSign l G σ o T_60 r_57 rfl) (lw_V q1644 q1646 qs70 q156 q1647) (by decide +kernel) ⟨Nat.le_of_ble_eq_true rfl, Nat.le_of_ble_eq_true rfl⟩ rfl hl.1 rfl (Nat.le_of_ble_eq_true rfl) dX5_reads_262 ⟨Nat.le_of_ble_eq_true rfl, Nat.le_of_ble_eq_true rfl⟩ (fun H locs z_65 hd => ?_)
          refine lv_if_eq (tgt := 273) hx hb dX5_reads_265 (by decide) (fun c_66 => ?_) (fun c_66 => ?_)
          · have hf := bf_it hf c_66
            exact kret _ _ _ _ _ (congrArg (bf_pT G σ o) (bf_so hf)) hd dX5_reads_273
          · have hf := bf_ie hf c_66
            refine lv_aload_n hx hb dX5_reads_268 rfl (lv_at hl 1 rfl) ?_
            refine lv_iconst (v := 4) hx hb dX5_reads_269 (by decide) ?_
            refine bf_tpi X hd 17 (by decide) ⟨rfl, rfl, rfl⟩ q1400 dX5_reads_270 (fun H locs hd => ?_)
            obtain ⟨T_67, eT_67, hf⟩ := bf_l_e hf
            have hd := hd.of (congrArg (bf_pT G σ o) eT_67.symm)
            exact kret _ _ _ _ _ (congrArg (bf_pT G σ o) (bf_so hf)) hd dX5_reads_273
        · have hf := bf_ie hf c_64
          refine lv_aload_n hx hb dX5_reads_163 rfl (lv_at hl 1 rfl) ?_
          refine lv_iload_n hx hb dX5_reads_164 rfl (lv_at hl 0 rfl) ?_
          refine lv_bipush (v := 48) hx hb dX5_reads_165 (by decide) ?_
          refine lv_isub hx hb dX5_reads_167 ?_
          refine bf_tpi X hd 18 (by decide) ⟨rfl, rfl, rfl⟩ q1401 dX5_reads_168 (fun H locs hd => ?_)
          obtain ⟨T_68, eT_68, hf⟩ := bf_l_e hf
          have hd := hd.of (congrArg (bf_pT G σ o) eT_68.symm)
          exact L171 bf_fuel T_68 _ _ _ hf hd (lv_sub hl [1] rfl)
      · have hf := bf_ie hf c_62
        exact L95 bf_fuel T_60 _ _ _ hf hd (lv_sub hl [1] rfl)
    · have hf := bf_it hf c_58
      refine lv_aload_n hx hb dX5_reads_66 rfl (lv_at hl 1 rfl) ?_
      refine lv_iconst (v := 0) hx hb dX5_reads_67 (by decide) ?_
      refine bf_tpi X hd 17 (by decide) ⟨rfl, rfl, rfl⟩ q1400 dX5_reads_68 (fun H locs hd => ?_)
      obtain ⟨T_69, eT_69, hf⟩ := bf_l_e hf
      have hd := hd.of (congrArg (bf_pT G σ o) eT_69.symm)
      exact kret _ _ _ _ _ (congrArg (bf_pT G σ o) (bf_so hf)) hd dX5_reads_71
  have L0 : ∀ (n0 : Nat) (T0 : bf_TS) (H : Heap) (locs : List Loc) (ls : Array Slot), fX5_reads_0 n0 T0 = some T' → bf_Dy G s H locs (bf_pT G σ o T0) → lv_has ls 2 [(0, .ref o)] → W p l e (bf_rm 2) s m ([.ref o] : List Value).toArray below meth c H locs 0 0 Q (F0 m 0 ls []) := by
    intro n0
    induction n0 with
    | zero =>
      intro T0 H locs ls hf hd hl
      exact absurd (show (none : Option (bf_TS)) = some T' from hf) (by intro h; cases h)
    | succ n0 ih0 =>
      intro T0 H locs ls hf hd hl
      have hf : fX5_reads_0b (fX5_reads_0 n0) T0 = some T' := hf
      unfold fX5_reads_0b at hf
      have J26 : ∀ (T26 : bf_TS) (H : Heap) (locs : List Loc) (ls : Array Slot), fX5_reads_26 (fX5_reads_0 n0) T26 = some T' → bf_Dy G s H locs (bf_pT G σ o T26) → lv_has ls 2 [(0, .ref o)] → W p l e (bf_rm 2) s m ([.ref o] : List Value).toArray below meth c H locs 0 0 Q (F0 m 26 ls []) := by
        intro T26 H locs ls hf hd hl
        unfold fX5_reads_26 at hf
        refine lv_aload_n hx hb dX5_reads_26 rfl (lv_at hl 0 rfl) ?_
        refine lv_aload_n hx hb dX5_reads_27 rfl (lv_at hl 0 rfl) ?_
        refine bf_tgi X hd 15 (by decide) rfl q1398 dX5_reads_28 ?_
        refine lv_iconst (v := 1) hx hb dX5_reads_31 (by decide) ?_
        refine lv_iadd hx hb dX5_reads_32 ?_
        refine bf_tpi X hd 15 (by decide) ⟨rfl, rfl, rfl⟩ q1398 dX5_reads_33 (fun H locs hd => ?_)
        obtain ⟨T_70, eT_70, hf⟩ := bf_l_e hf
        have hd := hd.of (congrArg (bf_pT G σ o) eT_70.symm)
        refine lv_goto (tgt := 0) hx hb dX5_reads_36 (by decide) ?_
        exact ih0 T_70 _ _ _ hf hd (lv_sub hl [0] rfl)
      refine lv_aload_n hx hb dX5_reads_0 rfl (lv_at hl 0 rfl) ?_
      refine lv_aload_n hx hb dX5_reads_1 rfl (lv_at hl 0 rfl) ?_
      refine bf_tgi X hd 15 (by decide) rfl q1398 dX5_reads_2 ?_
      obtain ⟨r_71, er_71, hf⟩ := bf_b_some hf
      refine bf_tci (n := 1) (As := [.int (T0 15 0)]) (rest := []) X hd (mX5_raw l G σ o T0 (T0 15 0) er_71) (lw_V q1628 q1630 qs66 q156 q1631) (by decide +kernel) ⟨Nat.le_of_ble_eq_true rfl, Nat.le_of_ble_eq_true rfl⟩ rfl hl.1 rfl (Nat.le_of_ble_eq_true rfl) dX5_reads_5 ⟨Nat.le_of_ble_eq_true rfl, Nat.le_of_ble_eq_true rfl⟩ (fun H locs hd => ?_)
      refine lv_bipush (v := 32) hx hb dX5_reads_8 (by decide) ?_
      refine lv_icmp_eq (tgt := 26) hx hb dX5_reads_10 (by decide) (fun c_72 => ?_) (fun c_72 => ?_)
      · have hf := bf_it hf c_72
        exact J26 T0 _ _ _ hf hd (lv_sub hl [0] rfl)
      · have hf := bf_ie hf c_72
        refine lv_aload_n hx hb dX5_reads_13 rfl (lv_at hl 0 rfl) ?_
        refine lv_aload_n hx hb dX5_reads_14 rfl (lv_at hl 0 rfl) ?_
        refine bf_tgi X hd 15 (by decide) rfl q1398 dX5_reads_15 ?_
        obtain ⟨r_73, er_73, hf⟩ := bf_b_some hf
        refine bf_tci (n := 1) (As := [.int (T0 15 0)]) (rest := []) X hd (mX5_raw l G σ o T0 (T0 15 0) er_73) (lw_V q1628 q1630 qs66 q156 q1631) (by decide +kernel) ⟨Nat.le_of_ble_eq_true rfl, Nat.le_of_ble_eq_true rfl⟩ rfl hl.1 rfl (Nat.le_of_ble_eq_true rfl) dX5_reads_18 ⟨Nat.le_of_ble_eq_true rfl, Nat.le_of_ble_eq_true rfl⟩ (fun H locs hd => ?_)
        refine lv_bipush (v := 10) hx hb dX5_reads_21 (by decide) ?_
        refine lv_icmp_ne (tgt := 39) hx hb dX5_reads_23 (by decide) (fun c_74 => ?_) (fun c_74 => ?_)
        · have hf := bf_ie hf c_74
          exact J39 T0 _ _ _ hf hd (lv_sub hl [0] rfl)
        · have hf := bf_it hf c_74
          exact J26 T0 _ _ _ hf hd (lv_sub hl [0] rfl)
  unfold fX5_reads at hf
  exact L0 bf_fuel T _ _ _ hf hd (lv_sub hl [0] rfl)
def fX5_errs (T : bf_TS) (x1 : Int32) : Option (Int32 × bf_TS) := bf_l (bf_u2 T 32 0 x1) fun T_1 => bf_l (bf_u2 T_1 33 0 (T_1 16 0)) fun T_2 => some ((-1), T_2)
set_option maxHeartbeats 4000000 in
theorem mX5_errs (l : Launch) (G : bf_G) (σ : bf_V) (o : Nat) (T : bf_TS) (x1 : Int32) {r : Int32} {T' : bf_TS} (hf : fX5_errs T x1 = some (r, T')) : bf_MI l G yX5_errs cX5_errs 2 (bf_rm 0) [.ref o, .int x1] (bf_pT G σ o T) (fun v σ' => v = r ∧ σ' = bf_pT G σ o T') := by
  refine bf_MI.of rfl (Nat.le_of_ble_eq_true rfl) ?_
  intro p e s m below meth c Q X hlk hnm kret hd ls hl
  have hx := X.1
  have hb := X.2.1
  have hown := X.2.2.2.1
  have hts := X.2.2.2.2
  have hl : lv_has ls 2 [(0, .ref o), (1, .int x1)] := hl
  unfold fX5_errs at hf
  refine lv_aload_n hx hb dX5_errs_0 rfl (lv_at hl 0 rfl) ?_
  refine lv_iload_n hx hb dX5_errs_1 rfl (lv_at hl 1 rfl) ?_
  refine bf_tpi X hd 32 (by decide) ⟨rfl, rfl, rfl⟩ q1415 dX5_errs_2 (fun H locs hd => ?_)
  obtain ⟨T_3, eT_3, hf⟩ := bf_l_e hf
  have hd := hd.of (congrArg (bf_pT G σ o) eT_3.symm)
  refine lv_aload_n hx hb dX5_errs_5 rfl (lv_at hl 0 rfl) ?_
  refine lv_aload_n hx hb dX5_errs_6 rfl (lv_at hl 0 rfl) ?_
  refine bf_tgi X hd 16 (by decide) rfl q1399 dX5_errs_7 ?_
  refine bf_tpi X hd 33 (by decide) ⟨rfl, rfl, rfl⟩ q1416 dX5_errs_10 (fun H locs hd => ?_)
  obtain ⟨T_4, eT_4, hf⟩ := bf_l_e hf
  have hd := hd.of (congrArg (bf_pT G σ o) eT_4.symm)
  refine lv_iconst (v := (-1)) hx hb dX5_errs_13 (by decide) ?_
  exact kret _ _ _ _ _ _ ⟨(bf_pr hf).1, congrArg (bf_pT G σ o) (bf_pr hf).2⟩ hd dX5_errs_14
def fX5_isWord (T : bf_TS) (x1 : Int32) : Int32 := if (T 17 0) = 2 then (if (T 18 0) = x1 then (1) else (0)) else (0)
set_option maxHeartbeats 4000000 in
theorem mX5_isWord (l : Launch) (G : bf_G) (σ : bf_V) (o : Nat) (T : bf_TS) (x1 : Int32) {r : Int32} (hf : fX5_isWord T x1 = r) : bf_MZ l G yX5_isWord cX5_isWord 2 (bf_rm 0) [.ref o, .int x1] (bf_pT G σ o T) (fun v σ' => v = r ∧ σ' = bf_pT G σ o T) := by
  refine bf_MZ.of rfl (Nat.le_of_ble_eq_true rfl) ?_
  intro p e s m below meth c Q X hlk hnm kret hd ls hl
  have hx := X.1
  have hb := X.2.1
  have hown := X.2.2.2.1
  have hts := X.2.2.2.2
  have hl : lv_has ls 2 [(0, .ref o), (1, .int x1)] := hl
  unfold fX5_isWord at hf
  refine lv_aload_n hx hb dX5_isWord_0 rfl (lv_at hl 0 rfl) ?_
  refine bf_tgi X hd 17 (by decide) rfl q1400 dX5_isWord_1 ?_
  refine lv_iconst (v := 2) hx hb dX5_isWord_4 (by decide) ?_
  refine lv_icmp_ne (tgt := 20) hx hb dX5_isWord_5 (by decide) (fun c_3 => ?_) (fun c_3 => ?_)
  · have hf := bf_ie hf c_3
    refine lv_iconst (v := 0) hx hb dX5_isWord_20 (by decide) ?_
    exact kret _ _ _ _ _ _ ⟨hf, rfl⟩ (Or.inl rfl) hd dX5_isWord_21
  · have hf := bf_it hf c_3
    refine lv_aload_n hx hb dX5_isWord_8 rfl (lv_at hl 0 rfl) ?_
    refine bf_tgi X hd 18 (by decide) rfl q1401 dX5_isWord_9 ?_
    refine lv_iload_n hx hb dX5_isWord_12 rfl (lv_at hl 1 rfl) ?_
    refine lv_icmp_ne (tgt := 20) hx hb dX5_isWord_13 (by decide) (fun c_4 => ?_) (fun c_4 => ?_)
    · have hf := bf_ie hf c_4
      refine lv_iconst (v := 0) hx hb dX5_isWord_20 (by decide) ?_
      exact kret _ _ _ _ _ _ ⟨hf, rfl⟩ (Or.inl rfl) hd dX5_isWord_21
    · have hf := bf_it hf c_4
      refine lv_iconst (v := 1) hx hb dX5_isWord_16 (by decide) ?_
      refine lv_goto (tgt := 21) hx hb dX5_isWord_17 (by decide) ?_
      exact kret _ _ _ _ _ _ ⟨hf, rfl⟩ (Or.inr rfl) hd dX5_isWord_21
def fX5_isSign (T : bf_TS) (x1 : Int32) : Int32 := if (T 17 0) = 4 then (if (T 18 0) = x1 then (1) else (0)) else (0)
set_option maxHeartbeats 4000000 in
theorem mX5_isSign (l : Launch) (G : bf_G) (σ : bf_V) (o : Nat) (T : bf_TS) (x1 : Int32) {r : Int32} (hf : fX5_isSign T x1 = r) : bf_MZ l G yX5_isSign cX5_isSign 2 (bf_rm 0) [.ref o, .int x1] (bf_pT G σ o T) (fun v σ' => v = r ∧ σ' = bf_pT G σ o T) := by
  refine bf_MZ.of rfl (Nat.le_of_ble_eq_true rfl) ?_
  intro p e s m below meth c Q X hlk hnm kret hd ls hl
  have hx := X.1
  have hb := X.2.1
  have hown := X.2.2.2.1
  have hts := X.2.2.2.2
  have hl : lv_has ls 2 [(0, .ref o), (1, .int x1)] := hl
  unfold fX5_isSign at hf
  refine lv_aload_n hx hb dX5_isSign_0 rfl (lv_at hl 0 rfl) ?_
  refine bf_tgi X hd 17 (by decide) rfl q1400 dX5_isSign_1 ?_
  refine lv_iconst (v := 4) hx hb dX5_isSign_4 (by decide) ?_
  refine lv_icmp_ne (tgt := 20) hx hb dX5_isSign_5 (by decide) (fun c_3 => ?_) (fun c_3 => ?_)
  · have hf := bf_ie hf c_3
    refine lv_iconst (v := 0) hx hb dX5_isSign_20 (by decide) ?_
    exact kret _ _ _ _ _ _ ⟨hf, rfl⟩ (Or.inl rfl) hd dX5_isSign_21
  · have hf := bf_it hf c_3
    refine lv_aload_n hx hb dX5_isSign_8 rfl (lv_at hl 0 rfl) ?_
    refine bf_tgi X hd 18 (by decide) rfl q1401 dX5_isSign_9 ?_
    refine lv_iload_n hx hb dX5_isSign_12 rfl (lv_at hl 1 rfl) ?_
    refine lv_icmp_ne (tgt := 20) hx hb dX5_isSign_13 (by decide) (fun c_4 => ?_) (fun c_4 => ?_)
    · have hf := bf_ie hf c_4
      refine lv_iconst (v := 0) hx hb dX5_isSign_20 (by decide) ?_
      exact kret _ _ _ _ _ _ ⟨hf, rfl⟩ (Or.inl rfl) hd dX5_isSign_21
    · have hf := bf_it hf c_4
      refine lv_iconst (v := 1) hx hb dX5_isSign_16 (by decide) ?_
      refine lv_goto (tgt := 21) hx hb dX5_isSign_17 (by decide) ?_
      exact kret _ _ _ _ _ _ ⟨hf, rfl⟩ (Or.inr rfl) hd dX5_isSign_21
def fX5_emits (T : bf_TS) (x1 x2 : Int32) : Option (bf_TS) := bf_c (bf_in (800 + (T 28 0)) 1200) <| bf_l (bf_u2 T 25 (800 + (T 28 0)).toNatClampNeg x1) fun T_2 => bf_c (bf_in (800 + (T_2 28 0)) 1200) <| bf_l (bf_u2 T_2 26 (800 + (T_2 28 0)).toNatClampNeg x2) fun T_4 => bf_l (bf_u2 T_4 28 0 ((T_4 28 0) + 1)) fun T_5 => some T_5
set_option maxHeartbeats 4000000 in
theorem mX5_emits (l : Launch) (G : bf_G) (σ : bf_V) (o : Nat) (T : bf_TS) (x1 x2 : Int32) {T' : bf_TS} (hf : fX5_emits T x1 x2 = some T') : bf_MV l G yX5_emits cX5_emits 3 (bf_rm 0) [.ref o, .int x1, .int x2] (bf_pT G σ o T) (fun σ' => σ' = bf_pT G σ o T') := by
  refine bf_MV.of rfl (Nat.le_of_ble_eq_true rfl) ?_
  intro p e s m below meth c Q X hlk hnm kret hd ls hl
  have hx := X.1
  have hb := X.2.1
  have hown := X.2.2.2.1
  have hts := X.2.2.2.2
  have hl : lv_has ls 3 [(0, .ref o), (1, .int x1), (2, .int x2)] := hl
  unfold fX5_emits at hf
  refine lv_aload_n hx hb dX5_emits_0 rfl (lv_at hl 0 rfl) ?_
  refine bf_tga X hd 25 (by decide) (by decide) q1408 dX5_emits_1 ?_
  refine lv_sipush (v := 800) hx hb dX5_emits_4 (by decide) ?_
  refine lv_aload_n hx hb dX5_emits_7 rfl (lv_at hl 0 rfl) ?_
  refine bf_tgi X hd 28 (by decide) rfl q1411 dX5_emits_8 ?_
  refine lv_iadd hx hb dX5_emits_11 ?_
  refine lv_iload_n hx hb dX5_emits_12 rfl (lv_at hl 1 rfl) ?_
  obtain ⟨g_6, hf⟩ := bf_c_some hf
  refine bf_tst X hd 25 (by decide) g_6 dX5_emits_13 (fun H locs hd => ?_)
  obtain ⟨T_7, eT_7, hf⟩ := bf_l_e hf
  have hd := hd.of (congrArg (bf_pT G σ o) eT_7.symm)
  refine lv_aload_n hx hb dX5_emits_14 rfl (lv_at hl 0 rfl) ?_
  refine bf_tga X hd 26 (by decide) (by decide) q1409 dX5_emits_15 ?_
  refine lv_sipush (v := 800) hx hb dX5_emits_18 (by decide) ?_
  refine lv_aload_n hx hb dX5_emits_21 rfl (lv_at hl 0 rfl) ?_
  refine bf_tgi X hd 28 (by decide) rfl q1411 dX5_emits_22 ?_
  refine lv_iadd hx hb dX5_emits_25 ?_
  refine lv_iload_n hx hb dX5_emits_26 rfl (lv_at hl 2 rfl) ?_
  obtain ⟨g_8, hf⟩ := bf_c_some hf
  refine bf_tst X hd 26 (by decide) g_8 dX5_emits_27 (fun H locs hd => ?_)
  obtain ⟨T_9, eT_9, hf⟩ := bf_l_e hf
  have hd := hd.of (congrArg (bf_pT G σ o) eT_9.symm)
  refine lv_aload_n hx hb dX5_emits_28 rfl (lv_at hl 0 rfl) ?_
  refine lv_aload_n hx hb dX5_emits_29 rfl (lv_at hl 0 rfl) ?_
  refine bf_tgi X hd 28 (by decide) rfl q1411 dX5_emits_30 ?_
  refine lv_iconst (v := 1) hx hb dX5_emits_33 (by decide) ?_
  refine lv_iadd hx hb dX5_emits_34 ?_
  refine bf_tpi X hd 28 (by decide) ⟨rfl, rfl, rfl⟩ q1411 dX5_emits_35 (fun H locs hd => ?_)
  obtain ⟨T_10, eT_10, hf⟩ := bf_l_e hf
  have hd := hd.of (congrArg (bf_pT G σ o) eT_10.symm)
  exact kret _ _ _ _ _ (congrArg (bf_pT G σ o) (bf_so hf)) hd dX5_emits_38
def fX5_canAsk (x1 : Int32) : Int32 := (fX5_isIn x1 7 15)
set_option maxHeartbeats 4000000 in
theorem mX5_canAsk (l : Launch) (G : bf_G) (σ : bf_V) (o : Nat) (T : bf_TS) (x1 : Int32) {r : Int32} (hf : fX5_canAsk x1 = r) : bf_MZ l G yX5_canAsk cX5_canAsk 2 (bf_rm 1) [.ref o, .int x1] (bf_pT G σ o T) (fun v σ' => v = r ∧ σ' = bf_pT G σ o T) := by
  refine bf_MZ.of rfl (Nat.le_of_ble_eq_true rfl) ?_
  intro p e s m below meth c Q X hlk hnm kret hd ls hl
  have hx := X.1
  have hb := X.2.1
  have hown := X.2.2.2.1
  have hts := X.2.2.2.2
  have hl : lv_has ls 2 [(0, .ref o), (1, .int x1)] := hl
  unfold fX5_canAsk at hf
  refine lv_aload_n hx hb dX5_canAsk_0 rfl (lv_at hl 0 rfl) ?_
  refine lv_iload_n hx hb dX5_canAsk_1 rfl (lv_at hl 1 rfl) ?_
  refine lv_bipush (v := 7) hx hb dX5_canAsk_2 (by decide) ?_
  refine lv_bipush (v := 15) hx hb dX5_canAsk_4 (by decide) ?_
  refine bf_tcz (n := 3) (As := [.int x1, .int 7, .int 15]) (rest := []) X hd (mX5_isIn l G σ o T x1 7 15 rfl) (lw_V q1564 q1566 qs56 q156 q1567) (by decide +kernel) ⟨Nat.le_of_ble_eq_true rfl, Nat.le_of_ble_eq_true rfl⟩ rfl hl.1 rfl (Nat.le_of_ble_eq_true rfl) dX5_canAsk_6 ⟨Nat.le_of_ble_eq_true rfl, Nat.le_of_ble_eq_true rfl⟩ (fun H locs z_2 hd => ?_)
  exact kret _ _ _ _ _ _ ⟨hf, rfl⟩ z_2 hd dX5_canAsk_9
def fX5_readUnit_71 (t71_0 : Int32) (t71_1 : Int32) (T71 : bf_TS) : Option (Int32 × bf_TS) := bf_b (fX5_emits T71 t71_1 t71_0) fun T_7 => bf_b (fX5_reads T_7) fun T_8 => some (0, T_8)
def fX5_readUnit_53 (w53_1 : Int32) (t53_0 : Int32) (T53 : bf_TS) : Option (Int32 × bf_TS) := if w53_1 = 0 then (fX5_readUnit_71 (T53 18 0) t53_0 T53) else (fX5_readUnit_71 ((T53 18 0) - 7) t53_0 T53)
def fX5_readUnit_43 (w43_1 : Int32) (T43 : bf_TS) : Option (Int32 × bf_TS) := if w43_1 = 0 then (fX5_readUnit_53 w43_1 0 T43) else (fX5_readUnit_53 w43_1 1 T43)
def fX5_readUnit_24 (t24_0 : Int32) (T24 : bf_TS) : Option (Int32 × bf_TS) := if t24_0 = 0 then (if (T24 17 0) = 3 then (fX5_readUnit_43 t24_0 T24) else (bf_b2 (fX5_errs T24 1) fun r_4 T_3 => some (r_4, T_3))) else (fX5_readUnit_43 t24_0 T24)
def fX5_readUnit_23 (T23 : bf_TS) : Option (Int32 × bf_TS) := fX5_readUnit_24 0 T23
def fX5_readUnit (T : bf_TS) : Option (Int32 × bf_TS) := if (T 17 0) = 2 then (if (fX5_canAsk (T 18 0)) = 0 then (fX5_readUnit_23 T) else (fX5_readUnit_24 1 T)) else (fX5_readUnit_23 T)
set_option maxHeartbeats 4000000 in
theorem mX5_readUnit (l : Launch) (G : bf_G) (σ : bf_V) (o : Nat) (T : bf_TS) {r : Int32} {T' : bf_TS} (hf : fX5_readUnit T = some (r, T')) : bf_MI l G yX5_readUnit cX5_readUnit 2 (bf_rm 3) [.ref o] (bf_pT G σ o T) (fun v σ' => v = r ∧ σ' = bf_pT G σ o T') := by
  refine bf_MI.of rfl (Nat.le_of_ble_eq_true rfl) ?_
  intro p e s m below meth c Q X hlk hnm kret hd ls hl
  have hx := X.1
  have hb := X.2.1
  have hown := X.2.2.2.1
  have hts := X.2.2.2.2
  have hl : lv_has ls 2 [(0, .ref o)] := hl
  have J71 : ∀ (t71_0 : Int32) (t71_1 : Int32) (T71 : bf_TS) (H : Heap) (locs : List Loc) (ls : Array Slot), fX5_readUnit_71 t71_0 t71_1 T71 = some (r, T') → bf_Dy G s H locs (bf_pT G σ o T71) → lv_has ls 2 [(0, .ref o)] → W p l e (bf_rm 3) s m ([.ref o] : List Value).toArray below meth c H locs 0 0 Q (F0 m 71 ls [.int t71_0, .int t71_1, .ref o]) := by
    intro t71_0 t71_1 T71 H locs ls hf hd hl
    unfold fX5_readUnit_71 at hf
    obtain ⟨T_12, eT_12, hf⟩ := bf_b_some hf
    refine bf_tcv (n := 2) (As := [.int t71_1, .int t71_0]) (rest := []) X hd (mX5_emits l G σ o T71 t71_1 t71_0 eT_12) (lw_V q1716 q1718 qs88 q156 q1719) (by decide +kernel) ⟨Nat.le_of_ble_eq_true rfl, Nat.le_of_ble_eq_true rfl⟩ rfl hl.1 rfl (Nat.le_of_ble_eq_true rfl) dX5_readUnit_71 ⟨Nat.le_of_ble_eq_true rfl, Nat.le_of_ble_eq_true rfl⟩ (fun H locs hd => ?_)
    refine lv_aload_n hx hb dX5_readUnit_74 rfl (lv_at hl 0 rfl) ?_
    obtain ⟨T_13, eT_13, hf⟩ := bf_b_some hf
    refine bf_tcv (n := 0) (As := []) (rest := []) X hd (mX5_reads l G σ o T_12 eT_13) (lw_V q1624 q1626 qs65 q156 q1627) (by decide +kernel) ⟨Nat.le_of_ble_eq_true rfl, Nat.le_of_ble_eq_true rfl⟩ rfl hl.1 rfl (Nat.le_of_ble_eq_true rfl) dX5_readUnit_75 ⟨Nat.le_of_ble_eq_true rfl, Nat.le_of_ble_eq_true rfl⟩ (fun H locs hd => ?_)
    refine lv_iconst (v := 0) hx hb dX5_readUnit_78 (by decide) ?_
    exact kret _ _ _ _ _ _ ⟨(bf_pr hf).1, congrArg (bf_pT G σ o) (bf_pr hf).2⟩ hd dX5_readUnit_79
  have J53 : ∀ (w53_1 : Int32) (t53_0 : Int32) (T53 : bf_TS) (H : Heap) (locs : List Loc) (ls : Array Slot), fX5_readUnit_53 w53_1 t53_0 T53 = some (r, T') → bf_Dy G s H locs (bf_pT G σ o T53) → lv_has ls 2 [(0, .ref o), (1, .int w53_1)] → W p l e (bf_rm 3) s m ([.ref o] : List Value).toArray below meth c H locs 0 0 Q (F0 m 53 ls [.int t53_0, .ref o]) := by
    intro w53_1 t53_0 T53 H locs ls hf hd hl
    unfold fX5_readUnit_53 at hf
    refine lv_iload_n hx hb dX5_readUnit_53 rfl (lv_at hl 1 rfl) ?_
    refine lv_if_eq (tgt := 67) hx hb dX5_readUnit_54 (by decide) (fun c_14 => ?_) (fun c_14 => ?_)
    · have hf := bf_it hf c_14
      refine lv_aload_n hx hb dX5_readUnit_67 rfl (lv_at hl 0 rfl) ?_
      refine bf_tgi X hd 18 (by decide) rfl q1401 dX5_readUnit_68 ?_
      exact J71 (T53 18 0) t53_0 T53 _ _ _ hf hd (lv_sub hl [0] rfl)
    · have hf := bf_ie hf c_14
      refine lv_aload_n hx hb dX5_readUnit_57 rfl (lv_at hl 0 rfl) ?_
      refine bf_tgi X hd 18 (by decide) rfl q1401 dX5_readUnit_58 ?_
      refine lv_bipush (v := 7) hx hb dX5_readUnit_61 (by decide) ?_
      refine lv_isub hx hb dX5_readUnit_63 ?_
      refine lv_goto (tgt := 71) hx hb dX5_readUnit_64 (by decide) ?_
      exact J71 ((T53 18 0) - 7) t53_0 T53 _ _ _ hf hd (lv_sub hl [0] rfl)
  have J43 : ∀ (w43_1 : Int32) (T43 : bf_TS) (H : Heap) (locs : List Loc) (ls : Array Slot), fX5_readUnit_43 w43_1 T43 = some (r, T') → bf_Dy G s H locs (bf_pT G σ o T43) → lv_has ls 2 [(0, .ref o), (1, .int w43_1)] → W p l e (bf_rm 3) s m ([.ref o] : List Value).toArray below meth c H locs 0 0 Q (F0 m 43 ls []) := by
    intro w43_1 T43 H locs ls hf hd hl
    unfold fX5_readUnit_43 at hf
    refine lv_aload_n hx hb dX5_readUnit_43 rfl (lv_at hl 0 rfl) ?_
    refine lv_iload_n hx hb dX5_readUnit_44 rfl (lv_at hl 1 rfl) ?_
    refine lv_if_eq (tgt := 52) hx hb dX5_readUnit_45 (by decide) (fun c_15 => ?_) (fun c_15 => ?_)
    · have hf := bf_it hf c_15
      refine lv_iconst (v := 0) hx hb dX5_readUnit_52 (by decide) ?_
      exact J53 w43_1 0 T43 _ _ _ hf hd (lv_sub hl [0, 1] rfl)
    · have hf := bf_ie hf c_15
      refine lv_iconst (v := 1) hx hb dX5_readUnit_48 (by decide) ?_
      refine lv_goto (tgt := 53) hx hb dX5_readUnit_49 (by decide) ?_
      exact J53 w43_1 1 T43 _ _ _ hf hd (lv_sub hl [0, 1] rfl)
  have J24 : ∀ (t24_0 : Int32) (T24 : bf_TS) (H : Heap) (locs : List Loc) (ls : Array Slot), fX5_readUnit_24 t24_0 T24 = some (r, T') → bf_Dy G s H locs (bf_pT G σ o T24) → lv_has ls 2 [(0, .ref o)] → W p l e (bf_rm 3) s m ([.ref o] : List Value).toArray below meth c H locs 0 0 Q (F0 m 24 ls [.int t24_0]) := by
    intro t24_0 T24 H locs ls hf hd hl
    unfold fX5_readUnit_24 at hf
    refine lv_istore_n (lv' := [(1, .int t24_0), (0, .ref o)]) hx hb dX5_readUnit_24 rfl hl (by decide) rfl (fun ls hl => ?_)
    refine lv_iload_n hx hb dX5_readUnit_25 rfl (lv_at hl 0 rfl) ?_
    refine lv_if_ne (tgt := 43) hx hb dX5_readUnit_26 (by decide) (fun c_16 => ?_) (fun c_16 => ?_)
    · have hf := bf_ie hf c_16
      exact J43 t24_0 T24 _ _ _ hf hd (lv_sub hl [1, 0] rfl)
    · have hf := bf_it hf c_16
      refine lv_aload_n hx hb dX5_readUnit_29 rfl (lv_at hl 1 rfl) ?_
      refine bf_tgi X hd 17 (by decide) rfl q1400 dX5_readUnit_30 ?_
      refine lv_iconst (v := 3) hx hb dX5_readUnit_33 (by decide) ?_
      refine lv_icmp_eq (tgt := 43) hx hb dX5_readUnit_34 (by decide) (fun c_17 => ?_) (fun c_17 => ?_)
      · have hf := bf_it hf c_17
        exact J43 t24_0 T24 _ _ _ hf hd (lv_sub hl [1, 0] rfl)
      · have hf := bf_ie hf c_17
        refine lv_aload_n hx hb dX5_readUnit_37 rfl (lv_at hl 1 rfl) ?_
        refine lv_iconst (v := 1) hx hb dX5_readUnit_38 (by decide) ?_
        obtain ⟨r_19, T_18, er_19, hf⟩ := bf_b2_some hf
        refine bf_tci (n := 1) (As := [.int 1]) (rest := []) X hd (mX5_errs l G σ o T24 1 er_19) (lw_V q1656 q1658 qs73 q156 q1659) (by decide +kernel) ⟨Nat.le_of_ble_eq_true rfl, Nat.le_of_ble_eq_true rfl⟩ rfl hl.1 rfl (Nat.le_of_ble_eq_true rfl) dX5_readUnit_39 ⟨Nat.le_of_ble_eq_true rfl, Nat.le_of_ble_eq_true rfl⟩ (fun H locs hd => ?_)
        exact kret _ _ _ _ _ _ ⟨(bf_pr hf).1, congrArg (bf_pT G σ o) (bf_pr hf).2⟩ hd dX5_readUnit_42
  have J23 : ∀ (T23 : bf_TS) (H : Heap) (locs : List Loc) (ls : Array Slot), fX5_readUnit_23 T23 = some (r, T') → bf_Dy G s H locs (bf_pT G σ o T23) → lv_has ls 2 [(0, .ref o)] → W p l e (bf_rm 3) s m ([.ref o] : List Value).toArray below meth c H locs 0 0 Q (F0 m 23 ls []) := by
    intro T23 H locs ls hf hd hl
    unfold fX5_readUnit_23 at hf
    refine lv_iconst (v := 0) hx hb dX5_readUnit_23 (by decide) ?_
    exact J24 0 T23 _ _ _ hf hd (lv_sub hl [0] rfl)
  unfold fX5_readUnit at hf
  refine lv_aload_n hx hb dX5_readUnit_0 rfl (lv_at hl 0 rfl) ?_
  refine bf_tgi X hd 17 (by decide) rfl q1400 dX5_readUnit_1 ?_
  refine lv_iconst (v := 2) hx hb dX5_readUnit_4 (by decide) ?_
  refine lv_icmp_ne (tgt := 23) hx hb dX5_readUnit_5 (by decide) (fun c_20 => ?_) (fun c_20 => ?_)
  · have hf := bf_ie hf c_20
    exact J23 T _ _ _ hf hd (lv_sub hl [0] rfl)
  · have hf := bf_it hf c_20
    refine lv_aload_n hx hb dX5_readUnit_8 rfl (lv_at hl 0 rfl) ?_
    refine lv_aload_n hx hb dX5_readUnit_9 rfl (lv_at hl 0 rfl) ?_
    refine bf_tgi X hd 18 (by decide) rfl q1401 dX5_readUnit_10 ?_
    refine bf_tcz (n := 1) (As := [.int (T 18 0)]) (rest := []) X hd (mX5_canAsk l G σ o T (T 18 0) rfl) (lw_V q1712 q1714 qs87 q156 q1715) (by decide +kernel) ⟨Nat.le_of_ble_eq_true rfl, Nat.le_of_ble_eq_true rfl⟩ rfl hl.1 rfl (Nat.le_of_ble_eq_true rfl) dX5_readUnit_13 ⟨Nat.le_of_ble_eq_true rfl, Nat.le_of_ble_eq_true rfl⟩ (fun H locs z_21 hd => ?_)
    refine lv_if_eq (tgt := 23) hx hb dX5_readUnit_16 (by decide) (fun c_22 => ?_) (fun c_22 => ?_)
    · have hf := bf_it hf c_22
      exact J23 T _ _ _ hf hd (lv_sub hl [0] rfl)
    · have hf := bf_ie hf c_22
      refine lv_iconst (v := 1) hx hb dX5_readUnit_19 (by decide) ?_
      refine lv_goto (tgt := 24) hx hb dX5_readUnit_20 (by decide) ?_
      exact J24 1 T _ _ _ hf hd (lv_sub hl [0] rfl)
def fX5_readProduct_94 (k10 : bf_TS → Option (Int32 × bf_TS)) (t94_0 : Int32) (T94 : bf_TS) : Option (Int32 × bf_TS) := bf_b (fX5_emits T94 t94_0 0) fun T_20 => k10 T_20
def fX5_readProduct_74 (k10 : bf_TS → Option (Int32 × bf_TS)) (w74_1 : Int32) (T74 : bf_TS) : Option (Int32 × bf_TS) := bf_b2 (fX5_readUnit T74) fun r_17 T_16 => if r_17 = (-1) then (some ((-1), T_16)) else (if w74_1 = 0 then (fX5_readProduct_94 k10 5 T_16) else (fX5_readProduct_94 k10 4 T_16))
def fX5_readProduct_68 (T68 : bf_TS) : Option (Int32 × bf_TS) := bf_b2 (fX5_errs T68 2) fun r_15 T_14 => some (r_15, T_14)
def fX5_readProduct_57 (k10 : bf_TS → Option (Int32 × bf_TS)) (w57_1 : Int32) (T57 : bf_TS) : Option (Int32 × bf_TS) := if w57_1 = 0 then (if (T57 18 0) = 0 then (fX5_readProduct_68 T57) else (fX5_readProduct_74 k10 w57_1 T57)) else (fX5_readProduct_74 k10 w57_1 T57)
def fX5_readProduct_51 (T51 : bf_TS) : Option (Int32 × bf_TS) := bf_b2 (fX5_errs T51 1) fun r_11 T_10 => some (r_11, T_10)
def fX5_readProduct_28 (k10 : bf_TS → Option (Int32 × bf_TS)) (T28 : bf_TS) : Option (Int32 × bf_TS) := bf_l ((fX5_isSign T28 42)) fun x1_6 => bf_b (fX5_reads T28) fun T_7 => if x1_6 = 0 then (if (T_7 17 0) = 3 then (fX5_readProduct_57 k10 x1_6 T_7) else (fX5_readProduct_51 T_7)) else (fX5_readProduct_57 k10 x1_6 T_7)
def fX5_readProduct_10b (k10 : bf_TS → Option (Int32 × bf_TS)) (T10 : bf_TS) : Option (Int32 × bf_TS) := if (fX5_isSign T10 42) = 0 then (if (fX5_isSign T10 47) = 0 then (some (0, T10)) else (fX5_readProduct_28 k10 T10)) else (fX5_readProduct_28 k10 T10)
def fX5_readProduct_10  : Nat → bf_TS → Option (Int32 × bf_TS)
  | 0, _ => none
  | n + 1, T10 => fX5_readProduct_10b (fX5_readProduct_10 n) T10
def fX5_readProduct (T : bf_TS) : Option (Int32 × bf_TS) := bf_b2 (fX5_readUnit T) fun r_22 T_21 => if r_22 = (-1) then (some ((-1), T_21)) else (fX5_readProduct_10 bf_fuel T_21)
set_option maxHeartbeats 4000000 in
theorem mX5_readProduct (l : Launch) (G : bf_G) (σ : bf_V) (o : Nat) (T : bf_TS) {r : Int32} {T' : bf_TS} (hf : fX5_readProduct T = some (r, T')) : bf_MI l G yX5_readProduct cX5_readProduct 2 (bf_rm 4) [.ref o] (bf_pT G σ o T) (fun v σ' => v = r ∧ σ' = bf_pT G σ o T') := by
  refine bf_MI.of rfl (Nat.le_of_ble_eq_true rfl) ?_
  intro p e s m below meth c Q X hlk hnm kret hd ls hl
  have hx := X.1
  have hb := X.2.1
  have hown := X.2.2.2.1
  have hts := X.2.2.2.2
  have hl : lv_has ls 2 [(0, .ref o)] := hl
  have J68 : ∀ (T68 : bf_TS) (H : Heap) (locs : List Loc) (ls : Array Slot), fX5_readProduct_68 T68 = some (r, T') → bf_Dy G s H locs (bf_pT G σ o T68) → lv_has ls 2 [(0, .ref o)] → W p l e (bf_rm 4) s m ([.ref o] : List Value).toArray below meth c H locs 0 0 Q (F0 m 68 ls []) := by
    intro T68 H locs ls hf hd hl
    unfold fX5_readProduct_68 at hf
    refine lv_aload_n hx hb dX5_readProduct_68 rfl (lv_at hl 0 rfl) ?_
    refine lv_iconst (v := 2) hx hb dX5_readProduct_69 (by decide) ?_
    obtain ⟨r_25, T_24, er_25, hf⟩ := bf_b2_some hf
    refine bf_tci (n := 1) (As := [.int 2]) (rest := []) X hd (mX5_errs l G σ o T68 2 er_25) (lw_V q1656 q1658 qs73 q156 q1659) (by decide +kernel) ⟨Nat.le_of_ble_eq_true rfl, Nat.le_of_ble_eq_true rfl⟩ rfl hl.1 rfl (Nat.le_of_ble_eq_true rfl) dX5_readProduct_70 ⟨Nat.le_of_ble_eq_true rfl, Nat.le_of_ble_eq_true rfl⟩ (fun H locs hd => ?_)
    exact kret _ _ _ _ _ _ ⟨(bf_pr hf).1, congrArg (bf_pT G σ o) (bf_pr hf).2⟩ hd dX5_readProduct_73
  have J51 : ∀ (T51 : bf_TS) (H : Heap) (locs : List Loc) (ls : Array Slot), fX5_readProduct_51 T51 = some (r, T') → bf_Dy G s H locs (bf_pT G σ o T51) → lv_has ls 2 [(0, .ref o)] → W p l e (bf_rm 4) s m ([.ref o] : List Value).toArray below meth c H locs 0 0 Q (F0 m 51 ls []) := by
    intro T51 H locs ls hf hd hl
    unfold fX5_readProduct_51 at hf
    refine lv_aload_n hx hb dX5_readProduct_51 rfl (lv_at hl 0 rfl) ?_
    refine lv_iconst (v := 1) hx hb dX5_readProduct_52 (by decide) ?_
    obtain ⟨r_27, T_26, er_27, hf⟩ := bf_b2_some hf
    refine bf_tci (n := 1) (As := [.int 1]) (rest := []) X hd (mX5_errs l G σ o T51 1 er_27) (lw_V q1656 q1658 qs73 q156 q1659) (by decide +kernel) ⟨Nat.le_of_ble_eq_true rfl, Nat.le_of_ble_eq_true rfl⟩ rfl hl.1 rfl (Nat.le_of_ble_eq_true rfl) dX5_readProduct_53 ⟨Nat.le_of_ble_eq_true rfl, Nat.le_of_ble_eq_true rfl⟩ (fun H locs hd => ?_)
    exact kret _ _ _ _ _ _ ⟨(bf_pr hf).1, congrArg (bf_pT G σ o) (bf_pr hf).2⟩ hd dX5_readProduct_56
  have L10 : ∀ (n10 : Nat) (T10 : bf_TS) (H : Heap) (locs : List Loc) (ls : Array Slot), fX5_readProduct_10 n10 T10 = some (r, T') → bf_Dy G s H locs (bf_pT G σ o T10) → lv_has ls 2 [(0, .ref o)] → W p l e (bf_rm 4) s m ([.ref o] : List Value).toArray below meth c H locs 0 0 Q (F0 m 10 ls []) := by
    intro n10
    induction n10 with
    | zero =>
      intro T10 H locs ls hf hd hl
      exact absurd (show (none : Option (Int32 × bf_TS)) = some (r, T') from hf) (by intro h; cases h)
    | succ n10 ih10 =>
      intro T10 H locs ls hf hd hl
      have hf : fX5_readProduct_10b (fX5_readProduct_10 n10) T10 = some (r, T') := hf
      unfold fX5_readProduct_10b at hf
      have J94 : ∀ (t94_0 : Int32) (T94 : bf_TS) (H : Heap) (locs : List Loc) (ls : Array Slot), fX5_readProduct_94 (fX5_readProduct_10 n10) t94_0 T94 = some (r, T') → bf_Dy G s H locs (bf_pT G σ o T94) → lv_has ls 2 [(0, .ref o)] → W p l e (bf_rm 4) s m ([.ref o] : List Value).toArray below meth c H locs 0 0 Q (F0 m 94 ls [.int t94_0, .ref o]) := by
        intro t94_0 T94 H locs ls hf hd hl
        unfold fX5_readProduct_94 at hf
        refine lv_iconst (v := 0) hx hb dX5_readProduct_94 (by decide) ?_
        obtain ⟨T_28, eT_28, hf⟩ := bf_b_some hf
        refine bf_tcv (n := 2) (As := [.int t94_0, .int 0]) (rest := []) X hd (mX5_emits l G σ o T94 t94_0 0 eT_28) (lw_V q1716 q1718 qs88 q156 q1719) (by decide +kernel) ⟨Nat.le_of_ble_eq_true rfl, Nat.le_of_ble_eq_true rfl⟩ rfl hl.1 rfl (Nat.le_of_ble_eq_true rfl) dX5_readProduct_95 ⟨Nat.le_of_ble_eq_true rfl, Nat.le_of_ble_eq_true rfl⟩ (fun H locs hd => ?_)
        refine lv_goto (tgt := 10) hx hb dX5_readProduct_98 (by decide) ?_
        exact ih10 T_28 _ _ _ hf hd (lv_sub hl [0] rfl)
      have J74 : ∀ (w74_1 : Int32) (T74 : bf_TS) (H : Heap) (locs : List Loc) (ls : Array Slot), fX5_readProduct_74 (fX5_readProduct_10 n10) w74_1 T74 = some (r, T') → bf_Dy G s H locs (bf_pT G σ o T74) → lv_has ls 2 [(0, .ref o), (1, .int w74_1)] → W p l e (bf_rm 4) s m ([.ref o] : List Value).toArray below meth c H locs 0 0 Q (F0 m 74 ls []) := by
        intro w74_1 T74 H locs ls hf hd hl
        unfold fX5_readProduct_74 at hf
        refine lv_aload_n hx hb dX5_readProduct_74 rfl (lv_at hl 0 rfl) ?_
        obtain ⟨r_30, T_29, er_30, hf⟩ := bf_b2_some hf
        refine bf_tci (n := 0) (As := []) (rest := []) X hd (mX5_readUnit l G σ o T74 er_30) (lw_V q1708 q1710 qs86 q156 q1711) (by decide +kernel) ⟨Nat.le_of_ble_eq_true rfl, Nat.le_of_ble_eq_true rfl⟩ rfl hl.1 rfl (Nat.le_of_ble_eq_true rfl) dX5_readProduct_75 ⟨Nat.le_of_ble_eq_true rfl, Nat.le_of_ble_eq_true rfl⟩ (fun H locs hd => ?_)
        refine lv_iconst (v := (-1)) hx hb dX5_readProduct_78 (by decide) ?_
        refine lv_icmp_ne (tgt := 84) hx hb dX5_readProduct_79 (by decide) (fun c_31 => ?_) (fun c_31 => ?_)
        · have hf := bf_ie hf c_31
          refine lv_aload_n hx hb dX5_readProduct_84 rfl (lv_at hl 0 rfl) ?_
          refine lv_iload_n hx hb dX5_readProduct_85 rfl (lv_at hl 1 rfl) ?_
          refine lv_if_eq (tgt := 93) hx hb dX5_readProduct_86 (by decide) (fun c_32 => ?_) (fun c_32 => ?_)
          · have hf := bf_it hf c_32
            refine lv_iconst (v := 5) hx hb dX5_readProduct_93 (by decide) ?_
            exact J94 5 T_29 _ _ _ hf hd (lv_sub hl [0] rfl)
          · have hf := bf_ie hf c_32
            refine lv_iconst (v := 4) hx hb dX5_readProduct_89 (by decide) ?_
            refine lv_goto (tgt := 94) hx hb dX5_readProduct_90 (by decide) ?_
            exact J94 4 T_29 _ _ _ hf hd (lv_sub hl [0] rfl)
        · have hf := bf_it hf c_31
          refine lv_iconst (v := (-1)) hx hb dX5_readProduct_82 (by decide) ?_
          exact kret _ _ _ _ _ _ ⟨(bf_pr hf).1, congrArg (bf_pT G σ o) (bf_pr hf).2⟩ hd dX5_readProduct_83
      have J57 : ∀ (w57_1 : Int32) (T57 : bf_TS) (H : Heap) (locs : List Loc) (ls : Array Slot), fX5_readProduct_57 (fX5_readProduct_10 n10) w57_1 T57 = some (r, T') → bf_Dy G s H locs (bf_pT G σ o T57) → lv_has ls 2 [(0, .ref o), (1, .int w57_1)] → W p l e (bf_rm 4) s m ([.ref o] : List Value).toArray below meth c H locs 0 0 Q (F0 m 57 ls []) := by
        intro w57_1 T57 H locs ls hf hd hl
        unfold fX5_readProduct_57 at hf
        refine lv_iload_n hx hb dX5_readProduct_57 rfl (lv_at hl 1 rfl) ?_
        refine lv_if_ne (tgt := 74) hx hb dX5_readProduct_58 (by decide) (fun c_33 => ?_) (fun c_33 => ?_)
        · have hf := bf_ie hf c_33
          exact J74 w57_1 T57 _ _ _ hf hd (lv_sub hl [0, 1] rfl)
        · have hf := bf_it hf c_33
          refine lv_aload_n hx hb dX5_readProduct_61 rfl (lv_at hl 0 rfl) ?_
          refine bf_tgi X hd 18 (by decide) rfl q1401 dX5_readProduct_62 ?_
          refine lv_if_ne (tgt := 74) hx hb dX5_readProduct_65 (by decide) (fun c_34 => ?_) (fun c_34 => ?_)
          · have hf := bf_ie hf c_34
            exact J74 w57_1 T57 _ _ _ hf hd (lv_sub hl [0, 1] rfl)
          · have hf := bf_it hf c_34
            exact J68 T57 _ _ _ hf hd (lv_sub hl [0] rfl)
      have J28 : ∀ (T28 : bf_TS) (H : Heap) (locs : List Loc) (ls : Array Slot), fX5_readProduct_28 (fX5_readProduct_10 n10) T28 = some (r, T') → bf_Dy G s H locs (bf_pT G σ o T28) → lv_has ls 2 [(0, .ref o)] → W p l e (bf_rm 4) s m ([.ref o] : List Value).toArray below meth c H locs 0 0 Q (F0 m 28 ls []) := by
        intro T28 H locs ls hf hd hl
        unfold fX5_readProduct_28 at hf
        refine lv_aload_n hx hb dX5_readProduct_28 rfl (lv_at hl 0 rfl) ?_
        refine lv_bipush (v := 42) hx hb dX5_readProduct_29 (by decide) ?_
        refine bf_tcz (n := 1) (As := [.int 42]) (rest := []) X hd (mX5_isSign l G σ o T28 42 rfl) (lw_V q1676 q1678 qs78 q156 q1679) (by decide +kernel) ⟨Nat.le_of_ble_eq_true rfl, Nat.le_of_ble_eq_true rfl⟩ rfl hl.1 rfl (Nat.le_of_ble_eq_true rfl) dX5_readProduct_31 ⟨Nat.le_of_ble_eq_true rfl, Nat.le_of_ble_eq_true rfl⟩ (fun H locs z_35 hd => ?_)
        obtain ⟨x1_36, ex1_36, hf⟩ := bf_l_e hf
        refine bf_top ex1_36 ?_
        refine lv_istore_n (lv' := [(1, .int x1_36), (0, .ref o)]) hx hb dX5_readProduct_34 rfl hl (by decide) rfl (fun ls hl => ?_)
        refine lv_aload_n hx hb dX5_readProduct_35 rfl (lv_at hl 1 rfl) ?_
        obtain ⟨T_37, eT_37, hf⟩ := bf_b_some hf
        refine bf_tcv (n := 0) (As := []) (rest := []) X hd (mX5_reads l G σ o T28 eT_37) (lw_V q1624 q1626 qs65 q156 q1627) (by decide +kernel) ⟨Nat.le_of_ble_eq_true rfl, Nat.le_of_ble_eq_true rfl⟩ rfl hl.1 rfl (Nat.le_of_ble_eq_true rfl) dX5_readProduct_36 ⟨Nat.le_of_ble_eq_true rfl, Nat.le_of_ble_eq_true rfl⟩ (fun H locs hd => ?_)
        refine lv_iload_n hx hb dX5_readProduct_39 rfl (lv_at hl 0 rfl) ?_
        refine lv_if_ne (tgt := 57) hx hb dX5_readProduct_40 (by decide) (fun c_38 => ?_) (fun c_38 => ?_)
        · have hf := bf_ie hf c_38
          exact J57 x1_36 T_37 _ _ _ hf hd (lv_sub hl [1, 0] rfl)
        · have hf := bf_it hf c_38
          refine lv_aload_n hx hb dX5_readProduct_43 rfl (lv_at hl 1 rfl) ?_
          refine bf_tgi X hd 17 (by decide) rfl q1400 dX5_readProduct_44 ?_
          refine lv_iconst (v := 3) hx hb dX5_readProduct_47 (by decide) ?_
          refine lv_icmp_eq (tgt := 57) hx hb dX5_readProduct_48 (by decide) (fun c_39 => ?_) (fun c_39 => ?_)
          · have hf := bf_it hf c_39
            exact J57 x1_36 T_37 _ _ _ hf hd (lv_sub hl [1, 0] rfl)
          · have hf := bf_ie hf c_39
            exact J51 T_37 _ _ _ hf hd (lv_sub hl [1] rfl)
      refine lv_aload_n hx hb dX5_readProduct_10 rfl (lv_at hl 0 rfl) ?_
      refine lv_bipush (v := 42) hx hb dX5_readProduct_11 (by decide) ?_
      refine bf_tcz (n := 1) (As := [.int 42]) (rest := []) X hd (mX5_isSign l G σ o T10 42 rfl) (lw_V q1676 q1678 qs78 q156 q1679) (by decide +kernel) ⟨Nat.le_of_ble_eq_true rfl, Nat.le_of_ble_eq_true rfl⟩ rfl hl.1 rfl (Nat.le_of_ble_eq_true rfl) dX5_readProduct_13 ⟨Nat.le_of_ble_eq_true rfl, Nat.le_of_ble_eq_true rfl⟩ (fun H locs z_40 hd => ?_)
      refine lv_if_ne (tgt := 28) hx hb dX5_readProduct_16 (by decide) (fun c_41 => ?_) (fun c_41 => ?_)
      · have hf := bf_ie hf c_41
        exact J28 T10 _ _ _ hf hd (lv_sub hl [0] rfl)
      · have hf := bf_it hf c_41
        refine lv_aload_n hx hb dX5_readProduct_19 rfl (lv_at hl 0 rfl) ?_
        refine lv_bipush (v := 47) hx hb dX5_readProduct_20 (by decide) ?_
        refine bf_tcz (n := 1) (As := [.int 47]) (rest := []) X hd (mX5_isSign l G σ o T10 47 rfl) (lw_V q1676 q1678 qs78 q156 q1679) (by decide +kernel) ⟨Nat.le_of_ble_eq_true rfl, Nat.le_of_ble_eq_true rfl⟩ rfl hl.1 rfl (Nat.le_of_ble_eq_true rfl) dX5_readProduct_22 ⟨Nat.le_of_ble_eq_true rfl, Nat.le_of_ble_eq_true rfl⟩ (fun H locs z_42 hd => ?_)
        refine lv_if_eq (tgt := 101) hx hb dX5_readProduct_25 (by decide) (fun c_43 => ?_) (fun c_43 => ?_)
        · have hf := bf_it hf c_43
          refine lv_iconst (v := 0) hx hb dX5_readProduct_101 (by decide) ?_
          exact kret _ _ _ _ _ _ ⟨(bf_pr hf).1, congrArg (bf_pT G σ o) (bf_pr hf).2⟩ hd dX5_readProduct_102
        · have hf := bf_ie hf c_43
          exact J28 T10 _ _ _ hf hd (lv_sub hl [0] rfl)
  unfold fX5_readProduct at hf
  refine lv_aload_n hx hb dX5_readProduct_0 rfl (lv_at hl 0 rfl) ?_
  obtain ⟨r_45, T_44, er_45, hf⟩ := bf_b2_some hf
  refine bf_tci (n := 0) (As := []) (rest := []) X hd (mX5_readUnit l G σ o T er_45) (lw_V q1708 q1710 qs86 q156 q1711) (by decide +kernel) ⟨Nat.le_of_ble_eq_true rfl, Nat.le_of_ble_eq_true rfl⟩ rfl hl.1 rfl (Nat.le_of_ble_eq_true rfl) dX5_readProduct_1 ⟨Nat.le_of_ble_eq_true rfl, Nat.le_of_ble_eq_true rfl⟩ (fun H locs hd => ?_)
  refine lv_iconst (v := (-1)) hx hb dX5_readProduct_4 (by decide) ?_
  refine lv_icmp_ne (tgt := 10) hx hb dX5_readProduct_5 (by decide) (fun c_46 => ?_) (fun c_46 => ?_)
  · have hf := bf_ie hf c_46
    exact L10 bf_fuel T_44 _ _ _ hf hd (lv_sub hl [0] rfl)
  · have hf := bf_it hf c_46
    refine lv_iconst (v := (-1)) hx hb dX5_readProduct_8 (by decide) ?_
    exact kret _ _ _ _ _ _ ⟨(bf_pr hf).1, congrArg (bf_pT G σ o) (bf_pr hf).2⟩ hd dX5_readProduct_9
def fX5_readSum_42 (k10 : bf_TS → Option (Int32 × bf_TS)) (t42_0 : Int32) (T42 : bf_TS) : Option (Int32 × bf_TS) := bf_b (fX5_reads T42) fun T_6 => bf_b2 (fX5_readProduct T_6) fun r_8 T_7 => if r_8 = (-1) then (some ((-1), T_7)) else (bf_b (fX5_emits T_7 t42_0 0) fun T_10 => k10 T_10)
def fX5_readSum_28 (k10 : bf_TS → Option (Int32 × bf_TS)) (T28 : bf_TS) : Option (Int32 × bf_TS) := if (T28 18 0) = 43 then (fX5_readSum_42 k10 2 T28) else (fX5_readSum_42 k10 3 T28)
def fX5_readSum_10b (k10 : bf_TS → Option (Int32 × bf_TS)) (T10 : bf_TS) : Option (Int32 × bf_TS) := if (fX5_isSign T10 43) = 0 then (if (fX5_isSign T10 45) = 0 then (some (0, T10)) else (fX5_readSum_28 k10 T10)) else (fX5_readSum_28 k10 T10)
def fX5_readSum_10  : Nat → bf_TS → Option (Int32 × bf_TS)
  | 0, _ => none
  | n + 1, T10 => fX5_readSum_10b (fX5_readSum_10 n) T10
def fX5_readSum (T : bf_TS) : Option (Int32 × bf_TS) := bf_b2 (fX5_readProduct T) fun r_12 T_11 => if r_12 = (-1) then (some ((-1), T_11)) else (fX5_readSum_10 bf_fuel T_11)
set_option maxHeartbeats 4000000 in
theorem mX5_readSum (l : Launch) (G : bf_G) (σ : bf_V) (o : Nat) (T : bf_TS) {r : Int32} {T' : bf_TS} (hf : fX5_readSum T = some (r, T')) : bf_MI l G yX5_readSum cX5_readSum 2 (bf_rm 5) [.ref o] (bf_pT G σ o T) (fun v σ' => v = r ∧ σ' = bf_pT G σ o T') := by
  refine bf_MI.of rfl (Nat.le_of_ble_eq_true rfl) ?_
  intro p e s m below meth c Q X hlk hnm kret hd ls hl
  have hx := X.1
  have hb := X.2.1
  have hown := X.2.2.2.1
  have hts := X.2.2.2.2
  have hl : lv_has ls 2 [(0, .ref o)] := hl
  have L10 : ∀ (n10 : Nat) (T10 : bf_TS) (H : Heap) (locs : List Loc) (ls : Array Slot), fX5_readSum_10 n10 T10 = some (r, T') → bf_Dy G s H locs (bf_pT G σ o T10) → lv_has ls 2 [(0, .ref o)] → W p l e (bf_rm 5) s m ([.ref o] : List Value).toArray below meth c H locs 0 0 Q (F0 m 10 ls []) := by
    intro n10
    induction n10 with
    | zero =>
      intro T10 H locs ls hf hd hl
      exact absurd (show (none : Option (Int32 × bf_TS)) = some (r, T') from hf) (by intro h; cases h)
    | succ n10 ih10 =>
      intro T10 H locs ls hf hd hl
      have hf : fX5_readSum_10b (fX5_readSum_10 n10) T10 = some (r, T') := hf
      unfold fX5_readSum_10b at hf
      have J42 : ∀ (t42_0 : Int32) (T42 : bf_TS) (H : Heap) (locs : List Loc) (ls : Array Slot), fX5_readSum_42 (fX5_readSum_10 n10) t42_0 T42 = some (r, T') → bf_Dy G s H locs (bf_pT G σ o T42) → lv_has ls 2 [(0, .ref o)] → W p l e (bf_rm 5) s m ([.ref o] : List Value).toArray below meth c H locs 0 0 Q (F0 m 42 ls [.int t42_0]) := by
        intro t42_0 T42 H locs ls hf hd hl
        unfold fX5_readSum_42 at hf
        refine lv_istore_n (lv' := [(1, .int t42_0), (0, .ref o)]) hx hb dX5_readSum_42 rfl hl (by decide) rfl (fun ls hl => ?_)
        refine lv_aload_n hx hb dX5_readSum_43 rfl (lv_at hl 1 rfl) ?_
        obtain ⟨T_14, eT_14, hf⟩ := bf_b_some hf
        refine bf_tcv (n := 0) (As := []) (rest := []) X hd (mX5_reads l G σ o T42 eT_14) (lw_V q1624 q1626 qs65 q156 q1627) (by decide +kernel) ⟨Nat.le_of_ble_eq_true rfl, Nat.le_of_ble_eq_true rfl⟩ rfl hl.1 rfl (Nat.le_of_ble_eq_true rfl) dX5_readSum_44 ⟨Nat.le_of_ble_eq_true rfl, Nat.le_of_ble_eq_true rfl⟩ (fun H locs hd => ?_)
        refine lv_aload_n hx hb dX5_readSum_47 rfl (lv_at hl 1 rfl) ?_
        obtain ⟨r_16, T_15, er_16, hf⟩ := bf_b2_some hf
        refine bf_tci (n := 0) (As := []) (rest := []) X hd (mX5_readProduct l G σ o T_14 er_16) (lw_V q1704 q1706 qs85 q156 q1707) (by decide +kernel) ⟨Nat.le_of_ble_eq_true rfl, Nat.le_of_ble_eq_true rfl⟩ rfl hl.1 rfl (Nat.le_of_ble_eq_true rfl) dX5_readSum_48 ⟨Nat.le_of_ble_eq_true rfl, Nat.le_of_ble_eq_true rfl⟩ (fun H locs hd => ?_)
        refine lv_iconst (v := (-1)) hx hb dX5_readSum_51 (by decide) ?_
        refine lv_icmp_ne (tgt := 57) hx hb dX5_readSum_52 (by decide) (fun c_17 => ?_) (fun c_17 => ?_)
        · have hf := bf_ie hf c_17
          refine lv_aload_n hx hb dX5_readSum_57 rfl (lv_at hl 1 rfl) ?_
          refine lv_iload_n hx hb dX5_readSum_58 rfl (lv_at hl 0 rfl) ?_
          refine lv_iconst (v := 0) hx hb dX5_readSum_59 (by decide) ?_
          obtain ⟨T_18, eT_18, hf⟩ := bf_b_some hf
          refine bf_tcv (n := 2) (As := [.int t42_0, .int 0]) (rest := []) X hd (mX5_emits l G σ o T_15 t42_0 0 eT_18) (lw_V q1716 q1718 qs88 q156 q1719) (by decide +kernel) ⟨Nat.le_of_ble_eq_true rfl, Nat.le_of_ble_eq_true rfl⟩ rfl hl.1 rfl (Nat.le_of_ble_eq_true rfl) dX5_readSum_60 ⟨Nat.le_of_ble_eq_true rfl, Nat.le_of_ble_eq_true rfl⟩ (fun H locs hd => ?_)
          refine lv_goto (tgt := 10) hx hb dX5_readSum_63 (by decide) ?_
          exact ih10 T_18 _ _ _ hf hd (lv_sub hl [1] rfl)
        · have hf := bf_it hf c_17
          refine lv_iconst (v := (-1)) hx hb dX5_readSum_55 (by decide) ?_
          exact kret _ _ _ _ _ _ ⟨(bf_pr hf).1, congrArg (bf_pT G σ o) (bf_pr hf).2⟩ hd dX5_readSum_56
      have J28 : ∀ (T28 : bf_TS) (H : Heap) (locs : List Loc) (ls : Array Slot), fX5_readSum_28 (fX5_readSum_10 n10) T28 = some (r, T') → bf_Dy G s H locs (bf_pT G σ o T28) → lv_has ls 2 [(0, .ref o)] → W p l e (bf_rm 5) s m ([.ref o] : List Value).toArray below meth c H locs 0 0 Q (F0 m 28 ls []) := by
        intro T28 H locs ls hf hd hl
        unfold fX5_readSum_28 at hf
        refine lv_aload_n hx hb dX5_readSum_28 rfl (lv_at hl 0 rfl) ?_
        refine bf_tgi X hd 18 (by decide) rfl q1401 dX5_readSum_29 ?_
        refine lv_bipush (v := 43) hx hb dX5_readSum_32 (by decide) ?_
        refine lv_icmp_ne (tgt := 41) hx hb dX5_readSum_34 (by decide) (fun c_19 => ?_) (fun c_19 => ?_)
        · have hf := bf_ie hf c_19
          refine lv_iconst (v := 3) hx hb dX5_readSum_41 (by decide) ?_
          exact J42 3 T28 _ _ _ hf hd (lv_sub hl [0] rfl)
        · have hf := bf_it hf c_19
          refine lv_iconst (v := 2) hx hb dX5_readSum_37 (by decide) ?_
          refine lv_goto (tgt := 42) hx hb dX5_readSum_38 (by decide) ?_
          exact J42 2 T28 _ _ _ hf hd (lv_sub hl [0] rfl)
      refine lv_aload_n hx hb dX5_readSum_10 rfl (lv_at hl 0 rfl) ?_
      refine lv_bipush (v := 43) hx hb dX5_readSum_11 (by decide) ?_
      refine bf_tcz (n := 1) (As := [.int 43]) (rest := []) X hd (mX5_isSign l G σ o T10 43 rfl) (lw_V q1676 q1678 qs78 q156 q1679) (by decide +kernel) ⟨Nat.le_of_ble_eq_true rfl, Nat.le_of_ble_eq_true rfl⟩ rfl hl.1 rfl (Nat.le_of_ble_eq_true rfl) dX5_readSum_13 ⟨Nat.le_of_ble_eq_true rfl, Nat.le_of_ble_eq_true rfl⟩ (fun H locs z_20 hd => ?_)
      refine lv_if_ne (tgt := 28) hx hb dX5_readSum_16 (by decide) (fun c_21 => ?_) (fun c_21 => ?_)
      · have hf := bf_ie hf c_21
        exact J28 T10 _ _ _ hf hd (lv_sub hl [0] rfl)
      · have hf := bf_it hf c_21
        refine lv_aload_n hx hb dX5_readSum_19 rfl (lv_at hl 0 rfl) ?_
        refine lv_bipush (v := 45) hx hb dX5_readSum_20 (by decide) ?_
        refine bf_tcz (n := 1) (As := [.int 45]) (rest := []) X hd (mX5_isSign l G σ o T10 45 rfl) (lw_V q1676 q1678 qs78 q156 q1679) (by decide +kernel) ⟨Nat.le_of_ble_eq_true rfl, Nat.le_of_ble_eq_true rfl⟩ rfl hl.1 rfl (Nat.le_of_ble_eq_true rfl) dX5_readSum_22 ⟨Nat.le_of_ble_eq_true rfl, Nat.le_of_ble_eq_true rfl⟩ (fun H locs z_22 hd => ?_)
        refine lv_if_eq (tgt := 66) hx hb dX5_readSum_25 (by decide) (fun c_23 => ?_) (fun c_23 => ?_)
        · have hf := bf_it hf c_23
          refine lv_iconst (v := 0) hx hb dX5_readSum_66 (by decide) ?_
          exact kret _ _ _ _ _ _ ⟨(bf_pr hf).1, congrArg (bf_pT G σ o) (bf_pr hf).2⟩ hd dX5_readSum_67
        · have hf := bf_ie hf c_23
          exact J28 T10 _ _ _ hf hd (lv_sub hl [0] rfl)
  unfold fX5_readSum at hf
  refine lv_aload_n hx hb dX5_readSum_0 rfl (lv_at hl 0 rfl) ?_
  obtain ⟨r_25, T_24, er_25, hf⟩ := bf_b2_some hf
  refine bf_tci (n := 0) (As := []) (rest := []) X hd (mX5_readProduct l G σ o T er_25) (lw_V q1704 q1706 qs85 q156 q1707) (by decide +kernel) ⟨Nat.le_of_ble_eq_true rfl, Nat.le_of_ble_eq_true rfl⟩ rfl hl.1 rfl (Nat.le_of_ble_eq_true rfl) dX5_readSum_1 ⟨Nat.le_of_ble_eq_true rfl, Nat.le_of_ble_eq_true rfl⟩ (fun H locs hd => ?_)
  refine lv_iconst (v := (-1)) hx hb dX5_readSum_4 (by decide) ?_
  refine lv_icmp_ne (tgt := 10) hx hb dX5_readSum_5 (by decide) (fun c_26 => ?_) (fun c_26 => ?_)
  · have hf := bf_ie hf c_26
    exact L10 bf_fuel T_24 _ _ _ hf hd (lv_sub hl [0] rfl)
  · have hf := bf_it hf c_26
    refine lv_iconst (v := (-1)) hx hb dX5_readSum_8 (by decide) ?_
    exact kret _ _ _ _ _ _ ⟨(bf_pr hf).1, congrArg (bf_pT G σ o) (bf_pr hf).2⟩ hd dX5_readSum_9
def fX5_readCompared_73 (t73_0 : Int32) (T73 : bf_TS) : Option (Int32 × bf_TS) := bf_b (fX5_reads T73) fun T_3 => bf_b2 (fX5_readSum T_3) fun r_5 T_4 => if r_5 = (-1) then (some ((-1), T_4)) else (bf_b (fX5_emits T_4 t73_0 0) fun T_7 => some (0, T_7))
def fX5_readCompared_43 (T43 : bf_TS) : Option (Int32 × bf_TS) := if (T43 18 0) = 60 then (fX5_readCompared_73 6 T43) else (if (T43 18 0) = 61 then (fX5_readCompared_73 7 T43) else (fX5_readCompared_73 8 T43))
def fX5_readCompared (T : bf_TS) : Option (Int32 × bf_TS) := bf_b2 (fX5_readSum T) fun r_9 T_8 => if r_9 = (-1) then (some ((-1), T_8)) else (if (fX5_isSign T_8 60) = 0 then (if (fX5_isSign T_8 61) = 0 then (if (fX5_isSign T_8 62) = 0 then (bf_b2 (fX5_errs T_8 1) fun r_18 T_17 => some (r_18, T_17)) else (fX5_readCompared_43 T_8)) else (fX5_readCompared_43 T_8)) else (fX5_readCompared_43 T_8))
set_option maxHeartbeats 4000000 in
theorem mX5_readCompared (l : Launch) (G : bf_G) (σ : bf_V) (o : Nat) (T : bf_TS) {r : Int32} {T' : bf_TS} (hf : fX5_readCompared T = some (r, T')) : bf_MI l G yX5_readCompared cX5_readCompared 2 (bf_rm 6) [.ref o] (bf_pT G σ o T) (fun v σ' => v = r ∧ σ' = bf_pT G σ o T') := by
  refine bf_MI.of rfl (Nat.le_of_ble_eq_true rfl) ?_
  intro p e s m below meth c Q X hlk hnm kret hd ls hl
  have hx := X.1
  have hb := X.2.1
  have hown := X.2.2.2.1
  have hts := X.2.2.2.2
  have hl : lv_has ls 2 [(0, .ref o)] := hl
  have J73 : ∀ (t73_0 : Int32) (T73 : bf_TS) (H : Heap) (locs : List Loc) (ls : Array Slot), fX5_readCompared_73 t73_0 T73 = some (r, T') → bf_Dy G s H locs (bf_pT G σ o T73) → lv_has ls 2 [(0, .ref o)] → W p l e (bf_rm 6) s m ([.ref o] : List Value).toArray below meth c H locs 0 0 Q (F0 m 73 ls [.int t73_0]) := by
    intro t73_0 T73 H locs ls hf hd hl
    unfold fX5_readCompared_73 at hf
    refine lv_istore_n (lv' := [(1, .int t73_0), (0, .ref o)]) hx hb dX5_readCompared_73 rfl hl (by decide) rfl (fun ls hl => ?_)
    refine lv_aload_n hx hb dX5_readCompared_74 rfl (lv_at hl 1 rfl) ?_
    obtain ⟨T_19, eT_19, hf⟩ := bf_b_some hf
    refine bf_tcv (n := 0) (As := []) (rest := []) X hd (mX5_reads l G σ o T73 eT_19) (lw_V q1624 q1626 qs65 q156 q1627) (by decide +kernel) ⟨Nat.le_of_ble_eq_true rfl, Nat.le_of_ble_eq_true rfl⟩ rfl hl.1 rfl (Nat.le_of_ble_eq_true rfl) dX5_readCompared_75 ⟨Nat.le_of_ble_eq_true rfl, Nat.le_of_ble_eq_true rfl⟩ (fun H locs hd => ?_)
    refine lv_aload_n hx hb dX5_readCompared_78 rfl (lv_at hl 1 rfl) ?_
    obtain ⟨r_21, T_20, er_21, hf⟩ := bf_b2_some hf
    refine bf_tci (n := 0) (As := []) (rest := []) X hd (mX5_readSum l G σ o T_19 er_21) (lw_V q1700 q1702 qs84 q156 q1703) (by decide +kernel) ⟨Nat.le_of_ble_eq_true rfl, Nat.le_of_ble_eq_true rfl⟩ rfl hl.1 rfl (Nat.le_of_ble_eq_true rfl) dX5_readCompared_79 ⟨Nat.le_of_ble_eq_true rfl, Nat.le_of_ble_eq_true rfl⟩ (fun H locs hd => ?_)
    refine lv_iconst (v := (-1)) hx hb dX5_readCompared_82 (by decide) ?_
    refine lv_icmp_ne (tgt := 88) hx hb dX5_readCompared_83 (by decide) (fun c_22 => ?_) (fun c_22 => ?_)
    · have hf := bf_ie hf c_22
      refine lv_aload_n hx hb dX5_readCompared_88 rfl (lv_at hl 1 rfl) ?_
      refine lv_iload_n hx hb dX5_readCompared_89 rfl (lv_at hl 0 rfl) ?_
      refine lv_iconst (v := 0) hx hb dX5_readCompared_90 (by decide) ?_
      obtain ⟨T_23, eT_23, hf⟩ := bf_b_some hf
      refine bf_tcv (n := 2) (As := [.int t73_0, .int 0]) (rest := []) X hd (mX5_emits l G σ o T_20 t73_0 0 eT_23) (lw_V q1716 q1718 qs88 q156 q1719) (by decide +kernel) ⟨Nat.le_of_ble_eq_true rfl, Nat.le_of_ble_eq_true rfl⟩ rfl hl.1 rfl (Nat.le_of_ble_eq_true rfl) dX5_readCompared_91 ⟨Nat.le_of_ble_eq_true rfl, Nat.le_of_ble_eq_true rfl⟩ (fun H locs hd => ?_)
      refine lv_iconst (v := 0) hx hb dX5_readCompared_94 (by decide) ?_
      exact kret _ _ _ _ _ _ ⟨(bf_pr hf).1, congrArg (bf_pT G σ o) (bf_pr hf).2⟩ hd dX5_readCompared_95
    · have hf := bf_it hf c_22
      refine lv_iconst (v := (-1)) hx hb dX5_readCompared_86 (by decide) ?_
      exact kret _ _ _ _ _ _ ⟨(bf_pr hf).1, congrArg (bf_pT G σ o) (bf_pr hf).2⟩ hd dX5_readCompared_87
  have J43 : ∀ (T43 : bf_TS) (H : Heap) (locs : List Loc) (ls : Array Slot), fX5_readCompared_43 T43 = some (r, T') → bf_Dy G s H locs (bf_pT G σ o T43) → lv_has ls 2 [(0, .ref o)] → W p l e (bf_rm 6) s m ([.ref o] : List Value).toArray below meth c H locs 0 0 Q (F0 m 43 ls []) := by
    intro T43 H locs ls hf hd hl
    unfold fX5_readCompared_43 at hf
    refine lv_aload_n hx hb dX5_readCompared_43 rfl (lv_at hl 0 rfl) ?_
    refine bf_tgi X hd 18 (by decide) rfl q1401 dX5_readCompared_44 ?_
    refine lv_bipush (v := 60) hx hb dX5_readCompared_47 (by decide) ?_
    refine lv_icmp_ne (tgt := 57) hx hb dX5_readCompared_49 (by decide) (fun c_24 => ?_) (fun c_24 => ?_)
    · have hf := bf_ie hf c_24
      refine lv_aload_n hx hb dX5_readCompared_57 rfl (lv_at hl 0 rfl) ?_
      refine bf_tgi X hd 18 (by decide) rfl q1401 dX5_readCompared_58 ?_
      refine lv_bipush (v := 61) hx hb dX5_readCompared_61 (by decide) ?_
      refine lv_icmp_ne (tgt := 71) hx hb dX5_readCompared_63 (by decide) (fun c_25 => ?_) (fun c_25 => ?_)
      · have hf := bf_ie hf c_25
        refine lv_bipush (v := 8) hx hb dX5_readCompared_71 (by decide) ?_
        exact J73 8 T43 _ _ _ hf hd (lv_sub hl [0] rfl)
      · have hf := bf_it hf c_25
        refine lv_bipush (v := 7) hx hb dX5_readCompared_66 (by decide) ?_
        refine lv_goto (tgt := 73) hx hb dX5_readCompared_68 (by decide) ?_
        exact J73 7 T43 _ _ _ hf hd (lv_sub hl [0] rfl)
    · have hf := bf_it hf c_24
      refine lv_bipush (v := 6) hx hb dX5_readCompared_52 (by decide) ?_
      refine lv_goto (tgt := 73) hx hb dX5_readCompared_54 (by decide) ?_
      exact J73 6 T43 _ _ _ hf hd (lv_sub hl [0] rfl)
  unfold fX5_readCompared at hf
  refine lv_aload_n hx hb dX5_readCompared_0 rfl (lv_at hl 0 rfl) ?_
  obtain ⟨r_27, T_26, er_27, hf⟩ := bf_b2_some hf
  refine bf_tci (n := 0) (As := []) (rest := []) X hd (mX5_readSum l G σ o T er_27) (lw_V q1700 q1702 qs84 q156 q1703) (by decide +kernel) ⟨Nat.le_of_ble_eq_true rfl, Nat.le_of_ble_eq_true rfl⟩ rfl hl.1 rfl (Nat.le_of_ble_eq_true rfl) dX5_readCompared_1 ⟨Nat.le_of_ble_eq_true rfl, Nat.le_of_ble_eq_true rfl⟩ (fun H locs hd => ?_)
  refine lv_iconst (v := (-1)) hx hb dX5_readCompared_4 (by decide) ?_
  refine lv_icmp_ne (tgt := 10) hx hb dX5_readCompared_5 (by decide) (fun c_28 => ?_) (fun c_28 => ?_)
  · have hf := bf_ie hf c_28
    refine lv_aload_n hx hb dX5_readCompared_10 rfl (lv_at hl 0 rfl) ?_
    refine lv_bipush (v := 60) hx hb dX5_readCompared_11 (by decide) ?_
    refine bf_tcz (n := 1) (As := [.int 60]) (rest := []) X hd (mX5_isSign l G σ o T_26 60 rfl) (lw_V q1676 q1678 qs78 q156 q1679) (by decide +kernel) ⟨Nat.le_of_ble_eq_true rfl, Nat.le_of_ble_eq_true rfl⟩ rfl hl.1 rfl (Nat.le_of_ble_eq_true rfl) dX5_readCompared_13 ⟨Nat.le_of_ble_eq_true rfl, Nat.le_of_ble_eq_true rfl⟩ (fun H locs z_29 hd => ?_)
    refine lv_if_ne (tgt := 43) hx hb dX5_readCompared_16 (by decide) (fun c_30 => ?_) (fun c_30 => ?_)
    · have hf := bf_ie hf c_30
      exact J43 T_26 _ _ _ hf hd (lv_sub hl [0] rfl)
    · have hf := bf_it hf c_30
      refine lv_aload_n hx hb dX5_readCompared_19 rfl (lv_at hl 0 rfl) ?_
      refine lv_bipush (v := 61) hx hb dX5_readCompared_20 (by decide) ?_
      refine bf_tcz (n := 1) (As := [.int 61]) (rest := []) X hd (mX5_isSign l G σ o T_26 61 rfl) (lw_V q1676 q1678 qs78 q156 q1679) (by decide +kernel) ⟨Nat.le_of_ble_eq_true rfl, Nat.le_of_ble_eq_true rfl⟩ rfl hl.1 rfl (Nat.le_of_ble_eq_true rfl) dX5_readCompared_22 ⟨Nat.le_of_ble_eq_true rfl, Nat.le_of_ble_eq_true rfl⟩ (fun H locs z_31 hd => ?_)
      refine lv_if_ne (tgt := 43) hx hb dX5_readCompared_25 (by decide) (fun c_32 => ?_) (fun c_32 => ?_)
      · have hf := bf_ie hf c_32
        exact J43 T_26 _ _ _ hf hd (lv_sub hl [0] rfl)
      · have hf := bf_it hf c_32
        refine lv_aload_n hx hb dX5_readCompared_28 rfl (lv_at hl 0 rfl) ?_
        refine lv_bipush (v := 62) hx hb dX5_readCompared_29 (by decide) ?_
        refine bf_tcz (n := 1) (As := [.int 62]) (rest := []) X hd (mX5_isSign l G σ o T_26 62 rfl) (lw_V q1676 q1678 qs78 q156 q1679) (by decide +kernel) ⟨Nat.le_of_ble_eq_true rfl, Nat.le_of_ble_eq_true rfl⟩ rfl hl.1 rfl (Nat.le_of_ble_eq_true rfl) dX5_readCompared_31 ⟨Nat.le_of_ble_eq_true rfl, Nat.le_of_ble_eq_true rfl⟩ (fun H locs z_33 hd => ?_)
        refine lv_if_ne (tgt := 43) hx hb dX5_readCompared_34 (by decide) (fun c_34 => ?_) (fun c_34 => ?_)
        · have hf := bf_ie hf c_34
          exact J43 T_26 _ _ _ hf hd (lv_sub hl [0] rfl)
        · have hf := bf_it hf c_34
          refine lv_aload_n hx hb dX5_readCompared_37 rfl (lv_at hl 0 rfl) ?_
          refine lv_iconst (v := 1) hx hb dX5_readCompared_38 (by decide) ?_
          obtain ⟨r_36, T_35, er_36, hf⟩ := bf_b2_some hf
          refine bf_tci (n := 1) (As := [.int 1]) (rest := []) X hd (mX5_errs l G σ o T_26 1 er_36) (lw_V q1656 q1658 qs73 q156 q1659) (by decide +kernel) ⟨Nat.le_of_ble_eq_true rfl, Nat.le_of_ble_eq_true rfl⟩ rfl hl.1 rfl (Nat.le_of_ble_eq_true rfl) dX5_readCompared_39 ⟨Nat.le_of_ble_eq_true rfl, Nat.le_of_ble_eq_true rfl⟩ (fun H locs hd => ?_)
          exact kret _ _ _ _ _ _ ⟨(bf_pr hf).1, congrArg (bf_pT G σ o) (bf_pr hf).2⟩ hd dX5_readCompared_42
  · have hf := bf_it hf c_28
    refine lv_iconst (v := (-1)) hx hb dX5_readCompared_8 (by decide) ?_
    exact kret _ _ _ _ _ _ ⟨(bf_pr hf).1, congrArg (bf_pT G σ o) (bf_pr hf).2⟩ hd dX5_readCompared_9
def fX5_waits (T : bf_TS) (x1 : Int32) : Option (bf_TS) := bf_c (bf_in (T 31 0) 40) <| bf_l (bf_u2 T 30 (T 31 0).toNatClampNeg x1) fun T_2 => bf_l (bf_u2 T_2 31 0 ((T_2 31 0) + 1)) fun T_3 => some T_3
set_option maxHeartbeats 4000000 in
theorem mX5_waits (l : Launch) (G : bf_G) (σ : bf_V) (o : Nat) (T : bf_TS) (x1 : Int32) {T' : bf_TS} (hf : fX5_waits T x1 = some T') : bf_MV l G yX5_waits cX5_waits 2 (bf_rm 0) [.ref o, .int x1] (bf_pT G σ o T) (fun σ' => σ' = bf_pT G σ o T') := by
  refine bf_MV.of rfl (Nat.le_of_ble_eq_true rfl) ?_
  intro p e s m below meth c Q X hlk hnm kret hd ls hl
  have hx := X.1
  have hb := X.2.1
  have hown := X.2.2.2.1
  have hts := X.2.2.2.2
  have hl : lv_has ls 2 [(0, .ref o), (1, .int x1)] := hl
  unfold fX5_waits at hf
  refine lv_aload_n hx hb dX5_waits_0 rfl (lv_at hl 0 rfl) ?_
  refine bf_tga X hd 30 (by decide) (by decide) q1413 dX5_waits_1 ?_
  refine lv_aload_n hx hb dX5_waits_4 rfl (lv_at hl 0 rfl) ?_
  refine bf_tgi X hd 31 (by decide) rfl q1414 dX5_waits_5 ?_
  refine lv_iload_n hx hb dX5_waits_8 rfl (lv_at hl 1 rfl) ?_
  obtain ⟨g_4, hf⟩ := bf_c_some hf
  refine bf_tst X hd 30 (by decide) g_4 dX5_waits_9 (fun H locs hd => ?_)
  obtain ⟨T_5, eT_5, hf⟩ := bf_l_e hf
  have hd := hd.of (congrArg (bf_pT G σ o) eT_5.symm)
  refine lv_aload_n hx hb dX5_waits_10 rfl (lv_at hl 0 rfl) ?_
  refine lv_aload_n hx hb dX5_waits_11 rfl (lv_at hl 0 rfl) ?_
  refine bf_tgi X hd 31 (by decide) rfl q1414 dX5_waits_12 ?_
  refine lv_iconst (v := 1) hx hb dX5_waits_15 (by decide) ?_
  refine lv_iadd hx hb dX5_waits_16 ?_
  refine bf_tpi X hd 31 (by decide) ⟨rfl, rfl, rfl⟩ q1414 dX5_waits_17 (fun H locs hd => ?_)
  obtain ⟨T_6, eT_6, hf⟩ := bf_l_e hf
  have hd := hd.of (congrArg (bf_pT G σ o) eT_6.symm)
  exact kret _ _ _ _ _ (congrArg (bf_pT G σ o) (bf_so hf)) hd dX5_waits_20
def fX5_settles_0b (x1 : Int32) (k0 : bf_TS → Option (bf_TS)) (T0 : bf_TS) : Option (bf_TS) := if (T0 31 0) ≤ 0 then (some T0) else (bf_c (bf_in ((T0 31 0) - 1) 40) <| if (T0 30 ((T0 31 0) - 1).toNatClampNeg) = x1 then (bf_l (bf_u2 T0 31 0 ((T0 31 0) - 1)) fun T_4 => bf_b (fX5_emits T_4 x1 0) fun T_5 => if x1 = 9 then (bf_l (bf_u2 T_5 29 0 ((T_5 29 0) - 1)) fun T_7 => k0 T_7) else (k0 T_5)) else (some T0))
def fX5_settles_0 (x1 : Int32) : Nat → bf_TS → Option (bf_TS)
  | 0, _ => none
  | n + 1, T0 => fX5_settles_0b x1 (fX5_settles_0 x1 n) T0
def fX5_settles (T : bf_TS) (x1 : Int32) : Option (bf_TS) := fX5_settles_0 x1 bf_fuel T
set_option maxHeartbeats 4000000 in
theorem mX5_settles (l : Launch) (G : bf_G) (σ : bf_V) (o : Nat) (T : bf_TS) (x1 : Int32) {T' : bf_TS} (hf : fX5_settles T x1 = some T') : bf_MV l G yX5_settles cX5_settles 2 (bf_rm 1) [.ref o, .int x1] (bf_pT G σ o T) (fun σ' => σ' = bf_pT G σ o T') := by
  refine bf_MV.of rfl (Nat.le_of_ble_eq_true rfl) ?_
  intro p e s m below meth c Q X hlk hnm kret hd ls hl
  have hx := X.1
  have hb := X.2.1
  have hown := X.2.2.2.1
  have hts := X.2.2.2.2
  have hl : lv_has ls 2 [(0, .ref o), (1, .int x1)] := hl
  have L0 : ∀ (n0 : Nat) (T0 : bf_TS) (H : Heap) (locs : List Loc) (ls : Array Slot), fX5_settles_0 x1 n0 T0 = some T' → bf_Dy G s H locs (bf_pT G σ o T0) → lv_has ls 2 [(0, .ref o), (1, .int x1)] → W p l e (bf_rm 1) s m ([.ref o, .int x1] : List Value).toArray below meth c H locs 0 0 Q (F0 m 0 ls []) := by
    intro n0
    induction n0 with
    | zero =>
      intro T0 H locs ls hf hd hl
      exact absurd (show (none : Option (bf_TS)) = some T' from hf) (by intro h; cases h)
    | succ n0 ih0 =>
      intro T0 H locs ls hf hd hl
      have hf : fX5_settles_0b x1 (fX5_settles_0 x1 n0) T0 = some T' := hf
      unfold fX5_settles_0b at hf
      refine lv_aload_n hx hb dX5_settles_0 rfl (lv_at hl 0 rfl) ?_
      refine bf_tgi X hd 31 (by decide) rfl q1414 dX5_settles_1 ?_
      refine lv_if_le (tgt := 57) hx hb dX5_settles_4 (by decide) (fun c_8 => ?_) (fun c_8 => ?_)
      · have hf := bf_it hf c_8
        exact kret _ _ _ _ _ (congrArg (bf_pT G σ o) (bf_so hf)) hd dX5_settles_57
      · have hf := bf_ie hf c_8
        refine lv_aload_n hx hb dX5_settles_7 rfl (lv_at hl 0 rfl) ?_
        refine bf_tga X hd 30 (by decide) (by decide) q1413 dX5_settles_8 ?_
        refine lv_aload_n hx hb dX5_settles_11 rfl (lv_at hl 0 rfl) ?_
        refine bf_tgi X hd 31 (by decide) rfl q1414 dX5_settles_12 ?_
        refine lv_iconst (v := 1) hx hb dX5_settles_15 (by decide) ?_
        refine lv_isub hx hb dX5_settles_16 ?_
        obtain ⟨g_9, hf⟩ := bf_c_some hf
        refine bf_tld X hd 30 (by decide) g_9 dX5_settles_17 ?_
        refine lv_iload_n hx hb dX5_settles_18 rfl (lv_at hl 1 rfl) ?_
        refine lv_icmp_ne (tgt := 57) hx hb dX5_settles_19 (by decide) (fun c_10 => ?_) (fun c_10 => ?_)
        · have hf := bf_ie hf c_10
          exact kret _ _ _ _ _ (congrArg (bf_pT G σ o) (bf_so hf)) hd dX5_settles_57
        · have hf := bf_it hf c_10
          refine lv_aload_n hx hb dX5_settles_22 rfl (lv_at hl 0 rfl) ?_
          refine lv_aload_n hx hb dX5_settles_23 rfl (lv_at hl 0 rfl) ?_
          refine bf_tgi X hd 31 (by decide) rfl q1414 dX5_settles_24 ?_
          refine lv_iconst (v := 1) hx hb dX5_settles_27 (by decide) ?_
          refine lv_isub hx hb dX5_settles_28 ?_
          refine bf_tpi X hd 31 (by decide) ⟨rfl, rfl, rfl⟩ q1414 dX5_settles_29 (fun H locs hd => ?_)
          obtain ⟨T_11, eT_11, hf⟩ := bf_l_e hf
          have hd := hd.of (congrArg (bf_pT G σ o) eT_11.symm)
          refine lv_aload_n hx hb dX5_settles_32 rfl (lv_at hl 0 rfl) ?_
          refine lv_iload_n hx hb dX5_settles_33 rfl (lv_at hl 1 rfl) ?_
          refine lv_iconst (v := 0) hx hb dX5_settles_34 (by decide) ?_
          obtain ⟨T_12, eT_12, hf⟩ := bf_b_some hf
          refine bf_tcv (n := 2) (As := [.int x1, .int 0]) (rest := []) X hd (mX5_emits l G σ o T_11 x1 0 eT_12) (lw_V q1716 q1718 qs88 q156 q1719) (by decide +kernel) ⟨Nat.le_of_ble_eq_true rfl, Nat.le_of_ble_eq_true rfl⟩ rfl hl.1 rfl (Nat.le_of_ble_eq_true rfl) dX5_settles_35 ⟨Nat.le_of_ble_eq_true rfl, Nat.le_of_ble_eq_true rfl⟩ (fun H locs hd => ?_)
          refine lv_iload_n hx hb dX5_settles_38 rfl (lv_at hl 1 rfl) ?_
          refine lv_bipush (v := 9) hx hb dX5_settles_39 (by decide) ?_
          refine lv_icmp_ne (tgt := 0) hx hb dX5_settles_41 (by decide) (fun c_13 => ?_) (fun c_13 => ?_)
          · have hf := bf_ie hf c_13
            exact ih0 T_12 _ _ _ hf hd (lv_sub hl [0, 1] rfl)
          · have hf := bf_it hf c_13
            refine lv_aload_n hx hb dX5_settles_44 rfl (lv_at hl 0 rfl) ?_
            refine lv_aload_n hx hb dX5_settles_45 rfl (lv_at hl 0 rfl) ?_
            refine bf_tgi X hd 29 (by decide) rfl q1412 dX5_settles_46 ?_
            refine lv_iconst (v := 1) hx hb dX5_settles_49 (by decide) ?_
            refine lv_isub hx hb dX5_settles_50 ?_
            refine bf_tpi X hd 29 (by decide) ⟨rfl, rfl, rfl⟩ q1412 dX5_settles_51 (fun H locs hd => ?_)
            obtain ⟨T_14, eT_14, hf⟩ := bf_l_e hf
            have hd := hd.of (congrArg (bf_pT G σ o) eT_14.symm)
            refine lv_goto (tgt := 0) hx hb dX5_settles_54 (by decide) ?_
            exact ih0 T_14 _ _ _ hf hd (lv_sub hl [0, 1] rfl)
  unfold fX5_settles at hf
  exact L0 bf_fuel T _ _ _ hf hd (lv_sub hl [0, 1] rfl)
def fX5_readAny_200 (T200 : bf_TS) : Option (Int32 × bf_TS) := bf_b2 (fX5_errs T200 1) fun r_42 T_41 => some (r_42, T_41)
def fX5_readAny_78 (k9 : Int32 → Int32 → bf_TS → Option (Int32 × bf_TS)) (w78_1 : Int32) (w78_2 : Int32) (t78_0 : Int32) (T78 : bf_TS) : Option (Int32 × bf_TS) := bf_b (fX5_waits T78 t78_0) fun T_39 => bf_b (fX5_reads T_39) fun T_40 => k9 w78_1 w78_2 T_40
def fX5_readAny_66 (k9 : Int32 → Int32 → bf_TS → Option (Int32 × bf_TS)) (w66_1 : Int32) (w66_2 : Int32) (w66_3 : Int32) (T66 : bf_TS) : Option (Int32 × bf_TS) := if w66_3 = 0 then (fX5_readAny_78 k9 w66_1 w66_2 12 T66) else (fX5_readAny_78 k9 w66_1 w66_2 9 T66)
def fX5_readAny_42 (T42 : bf_TS) : Option (Int32 × bf_TS) := bf_b2 (fX5_errs T42 3) fun r_37 T_36 => some (r_37, T_36)
def fX5_readAny_33 (k9 : Int32 → Int32 → bf_TS → Option (Int32 × bf_TS)) (w33_1 : Int32) (w33_2 : Int32) (w33_3 : Int32) (T33 : bf_TS) : Option (Int32 × bf_TS) := if (T33 29 0) = 8 then (fX5_readAny_42 T33) else (bf_l (bf_u2 T33 29 0 ((T33 29 0) + 1)) fun T_33 => if w33_3 = 0 then (bf_l ((w33_1 + 1)) fun x1_35 => fX5_readAny_66 k9 x1_35 w33_2 w33_3 T_33) else (fX5_readAny_66 k9 w33_1 w33_2 w33_3 T_33))
def fX5_readAny_9b (k9 : Int32 → Int32 → bf_TS → Option (Int32 × bf_TS)) (v9_1 : Int32) (v9_2 : Int32) (T9 : bf_TS) : Option (Int32 × bf_TS) := if v9_2 = 0 then (if (fX5_isWord T9 5) = 0 then (if (fX5_isWord T9 4) = 0 then (bf_b (fX5_settles T9 10) fun T_6 => bf_b (fX5_settles T_6 11) fun T_7 => if v9_1 = 0 then (some (0, T_7)) else (if (fX5_isSign T_7 41) = 0 then (fX5_readAny_200 T_7) else (bf_l (bf_u2 T_7 31 0 ((T_7 31 0) - 1)) fun T_11 => bf_l ((v9_1 - 1)) fun x1_12 => bf_l (bf_u2 T_11 29 0 ((T_11 29 0) - 1)) fun T_13 => bf_b (fX5_settles T_13 9) fun T_14 => bf_b (fX5_reads T_14) fun T_15 => k9 x1_12 v9_2 T_15))) else (bf_b (fX5_settles T9 10) fun T_16 => bf_b (fX5_settles T_16 11) fun T_17 => bf_b (fX5_waits T_17 11) fun T_18 => bf_b (fX5_reads T_18) fun T_19 => k9 v9_1 1 T_19)) else (bf_b (fX5_settles T9 10) fun T_20 => bf_b (fX5_waits T_20 10) fun T_21 => bf_b (fX5_reads T_21) fun T_22 => k9 v9_1 1 T_22)) else (bf_l ((fX5_isWord T9 6)) fun x3_24 => if x3_24 = 0 then (if (fX5_isSign T9 40) = 0 then (bf_b2 (fX5_readCompared T9) fun r_29 T_28 => if r_29 = (-1) then (some ((-1), T_28)) else (bf_b (fX5_settles T_28 9) fun T_31 => k9 v9_1 0 T_31)) else (fX5_readAny_33 k9 v9_1 v9_2 x3_24 T9)) else (fX5_readAny_33 k9 v9_1 v9_2 x3_24 T9))
def fX5_readAny_9  : Nat → Int32 → Int32 → bf_TS → Option (Int32 × bf_TS)
  | 0, _, _, _ => none
  | n + 1, v9_1, v9_2, T9 => fX5_readAny_9b (fX5_readAny_9 n) v9_1 v9_2 T9
def fX5_readAny (T : bf_TS) : Option (Int32 × bf_TS) := bf_l (bf_u2 T 31 0 0) fun T_43 => fX5_readAny_9 bf_fuel 0 1 T_43
set_option maxHeartbeats 4000000 in
theorem mX5_readAny (l : Launch) (G : bf_G) (σ : bf_V) (o : Nat) (T : bf_TS) {r : Int32} {T' : bf_TS} (hf : fX5_readAny T = some (r, T')) : bf_MI l G yX5_readAny cX5_readAny 4 (bf_rm 7) [.ref o] (bf_pT G σ o T) (fun v σ' => v = r ∧ σ' = bf_pT G σ o T') := by
  refine bf_MI.of rfl (Nat.le_of_ble_eq_true rfl) ?_
  intro p e s m below meth c Q X hlk hnm kret hd ls hl
  have hx := X.1
  have hb := X.2.1
  have hown := X.2.2.2.1
  have hts := X.2.2.2.2
  have hl : lv_has ls 4 [(0, .ref o)] := hl
  have J200 : ∀ (T200 : bf_TS) (H : Heap) (locs : List Loc) (ls : Array Slot), fX5_readAny_200 T200 = some (r, T') → bf_Dy G s H locs (bf_pT G σ o T200) → lv_has ls 4 [(0, .ref o)] → W p l e (bf_rm 7) s m ([.ref o] : List Value).toArray below meth c H locs 0 0 Q (F0 m 200 ls []) := by
    intro T200 H locs ls hf hd hl
    unfold fX5_readAny_200 at hf
    refine lv_aload_n hx hb dX5_readAny_200 rfl (lv_at hl 0 rfl) ?_
    refine lv_iconst (v := 1) hx hb dX5_readAny_201 (by decide) ?_
    obtain ⟨r_45, T_44, er_45, hf⟩ := bf_b2_some hf
    refine bf_tci (n := 1) (As := [.int 1]) (rest := []) X hd (mX5_errs l G σ o T200 1 er_45) (lw_V q1656 q1658 qs73 q156 q1659) (by decide +kernel) ⟨Nat.le_of_ble_eq_true rfl, Nat.le_of_ble_eq_true rfl⟩ rfl hl.1 rfl (Nat.le_of_ble_eq_true rfl) dX5_readAny_202 ⟨Nat.le_of_ble_eq_true rfl, Nat.le_of_ble_eq_true rfl⟩ (fun H locs hd => ?_)
    exact kret _ _ _ _ _ _ ⟨(bf_pr hf).1, congrArg (bf_pT G σ o) (bf_pr hf).2⟩ hd dX5_readAny_205
  have J42 : ∀ (T42 : bf_TS) (H : Heap) (locs : List Loc) (ls : Array Slot), fX5_readAny_42 T42 = some (r, T') → bf_Dy G s H locs (bf_pT G σ o T42) → lv_has ls 4 [(0, .ref o)] → W p l e (bf_rm 7) s m ([.ref o] : List Value).toArray below meth c H locs 0 0 Q (F0 m 42 ls []) := by
    intro T42 H locs ls hf hd hl
    unfold fX5_readAny_42 at hf
    refine lv_aload_n hx hb dX5_readAny_42 rfl (lv_at hl 0 rfl) ?_
    refine lv_iconst (v := 3) hx hb dX5_readAny_43 (by decide) ?_
    obtain ⟨r_47, T_46, er_47, hf⟩ := bf_b2_some hf
    refine bf_tci (n := 1) (As := [.int 3]) (rest := []) X hd (mX5_errs l G σ o T42 3 er_47) (lw_V q1656 q1658 qs73 q156 q1659) (by decide +kernel) ⟨Nat.le_of_ble_eq_true rfl, Nat.le_of_ble_eq_true rfl⟩ rfl hl.1 rfl (Nat.le_of_ble_eq_true rfl) dX5_readAny_44 ⟨Nat.le_of_ble_eq_true rfl, Nat.le_of_ble_eq_true rfl⟩ (fun H locs hd => ?_)
    exact kret _ _ _ _ _ _ ⟨(bf_pr hf).1, congrArg (bf_pT G σ o) (bf_pr hf).2⟩ hd dX5_readAny_47
  have L9 : ∀ (n9 : Nat) (v9_1 : Int32) (v9_2 : Int32) (T9 : bf_TS) (H : Heap) (locs : List Loc) (ls : Array Slot), fX5_readAny_9 n9 v9_1 v9_2 T9 = some (r, T') → bf_Dy G s H locs (bf_pT G σ o T9) → lv_has ls 4 [(0, .ref o), (1, .int v9_1), (2, .int v9_2)] → W p l e (bf_rm 7) s m ([.ref o] : List Value).toArray below meth c H locs 0 0 Q (F0 m 9 ls []) := by
    intro n9
    induction n9 with
    | zero =>
      intro v9_1 v9_2 T9 H locs ls hf hd hl
      exact absurd (show (none : Option (Int32 × bf_TS)) = some (r, T') from hf) (by intro h; cases h)
    | succ n9 ih9 =>
      intro v9_1 v9_2 T9 H locs ls hf hd hl
      have hf : fX5_readAny_9b (fX5_readAny_9 n9) v9_1 v9_2 T9 = some (r, T') := hf
      unfold fX5_readAny_9b at hf
      have J78 : ∀ (w78_1 : Int32) (w78_2 : Int32) (t78_0 : Int32) (T78 : bf_TS) (H : Heap) (locs : List Loc) (ls : Array Slot), fX5_readAny_78 (fX5_readAny_9 n9) w78_1 w78_2 t78_0 T78 = some (r, T') → bf_Dy G s H locs (bf_pT G σ o T78) → lv_has ls 4 [(0, .ref o), (1, .int w78_1), (2, .int w78_2)] → W p l e (bf_rm 7) s m ([.ref o] : List Value).toArray below meth c H locs 0 0 Q (F0 m 78 ls [.int t78_0, .ref o]) := by
        intro w78_1 w78_2 t78_0 T78 H locs ls hf hd hl
        unfold fX5_readAny_78 at hf
        obtain ⟨T_48, eT_48, hf⟩ := bf_b_some hf
        refine bf_tcv (n := 1) (As := [.int t78_0]) (rest := []) X hd (mX5_waits l G σ o T78 t78_0 eT_48) (lw_V q1724 q1726 qs90 q156 q1727) (by decide +kernel) ⟨Nat.le_of_ble_eq_true rfl, Nat.le_of_ble_eq_true rfl⟩ rfl hl.1 rfl (Nat.le_of_ble_eq_true rfl) dX5_readAny_78 ⟨Nat.le_of_ble_eq_true rfl, Nat.le_of_ble_eq_true rfl⟩ (fun H locs hd => ?_)
        refine lv_aload_n hx hb dX5_readAny_81 rfl (lv_at hl 0 rfl) ?_
        obtain ⟨T_49, eT_49, hf⟩ := bf_b_some hf
        refine bf_tcv (n := 0) (As := []) (rest := []) X hd (mX5_reads l G σ o T_48 eT_49) (lw_V q1624 q1626 qs65 q156 q1627) (by decide +kernel) ⟨Nat.le_of_ble_eq_true rfl, Nat.le_of_ble_eq_true rfl⟩ rfl hl.1 rfl (Nat.le_of_ble_eq_true rfl) dX5_readAny_82 ⟨Nat.le_of_ble_eq_true rfl, Nat.le_of_ble_eq_true rfl⟩ (fun H locs hd => ?_)
        refine lv_goto (tgt := 9) hx hb dX5_readAny_85 (by decide) ?_
        exact ih9 w78_1 w78_2 T_49 _ _ _ hf hd (lv_sub hl [0, 1, 2] rfl)
      have J66 : ∀ (w66_1 : Int32) (w66_2 : Int32) (w66_3 : Int32) (T66 : bf_TS) (H : Heap) (locs : List Loc) (ls : Array Slot), fX5_readAny_66 (fX5_readAny_9 n9) w66_1 w66_2 w66_3 T66 = some (r, T') → bf_Dy G s H locs (bf_pT G σ o T66) → lv_has ls 4 [(0, .ref o), (1, .int w66_1), (2, .int w66_2), (3, .int w66_3)] → W p l e (bf_rm 7) s m ([.ref o] : List Value).toArray below meth c H locs 0 0 Q (F0 m 66 ls []) := by
        intro w66_1 w66_2 w66_3 T66 H locs ls hf hd hl
        unfold fX5_readAny_66 at hf
        refine lv_aload_n hx hb dX5_readAny_66 rfl (lv_at hl 0 rfl) ?_
        refine lv_iload_n hx hb dX5_readAny_67 rfl (lv_at hl 3 rfl) ?_
        refine lv_if_eq (tgt := 76) hx hb dX5_readAny_68 (by decide) (fun c_50 => ?_) (fun c_50 => ?_)
        · have hf := bf_it hf c_50
          refine lv_bipush (v := 12) hx hb dX5_readAny_76 (by decide) ?_
          exact J78 w66_1 w66_2 12 T66 _ _ _ hf hd (lv_sub hl [0, 1, 2] rfl)
        · have hf := bf_ie hf c_50
          refine lv_bipush (v := 9) hx hb dX5_readAny_71 (by decide) ?_
          refine lv_goto (tgt := 78) hx hb dX5_readAny_73 (by decide) ?_
          exact J78 w66_1 w66_2 9 T66 _ _ _ hf hd (lv_sub hl [0, 1, 2] rfl)
      have J33 : ∀ (w33_1 : Int32) (w33_2 : Int32) (w33_3 : Int32) (T33 : bf_TS) (H : Heap) (locs : List Loc) (ls : Array Slot), fX5_readAny_33 (fX5_readAny_9 n9) w33_1 w33_2 w33_3 T33 = some (r, T') → bf_Dy G s H locs (bf_pT G σ o T33) → lv_has ls 4 [(0, .ref o), (1, .int w33_1), (2, .int w33_2), (3, .int w33_3)] → W p l e (bf_rm 7) s m ([.ref o] : List Value).toArray below meth c H locs 0 0 Q (F0 m 33 ls []) := by
        intro w33_1 w33_2 w33_3 T33 H locs ls hf hd hl
        unfold fX5_readAny_33 at hf
        refine lv_aload_n hx hb dX5_readAny_33 rfl (lv_at hl 0 rfl) ?_
        refine bf_tgi X hd 29 (by decide) rfl q1412 dX5_readAny_34 ?_
        refine lv_bipush (v := 8) hx hb dX5_readAny_37 (by decide) ?_
        refine lv_icmp_ne (tgt := 48) hx hb dX5_readAny_39 (by decide) (fun c_51 => ?_) (fun c_51 => ?_)
        · have hf := bf_ie hf c_51
          refine lv_aload_n hx hb dX5_readAny_48 rfl (lv_at hl 0 rfl) ?_
          refine lv_aload_n hx hb dX5_readAny_49 rfl (lv_at hl 0 rfl) ?_
          refine bf_tgi X hd 29 (by decide) rfl q1412 dX5_readAny_50 ?_
          refine lv_iconst (v := 1) hx hb dX5_readAny_53 (by decide) ?_
          refine lv_iadd hx hb dX5_readAny_54 ?_
          refine bf_tpi X hd 29 (by decide) ⟨rfl, rfl, rfl⟩ q1412 dX5_readAny_55 (fun H locs hd => ?_)
          obtain ⟨T_52, eT_52, hf⟩ := bf_l_e hf
          have hd := hd.of (congrArg (bf_pT G σ o) eT_52.symm)
          refine lv_iload_n hx hb dX5_readAny_58 rfl (lv_at hl 3 rfl) ?_
          refine lv_if_ne (tgt := 66) hx hb dX5_readAny_59 (by decide) (fun c_53 => ?_) (fun c_53 => ?_)
          · have hf := bf_ie hf c_53
            exact J66 w33_1 w33_2 w33_3 T_52 _ _ _ hf hd (lv_sub hl [0, 1, 2, 3] rfl)
          · have hf := bf_it hf c_53
            refine lv_iload_n hx hb dX5_readAny_62 rfl (lv_at hl 1 rfl) ?_
            refine lv_iconst (v := 1) hx hb dX5_readAny_63 (by decide) ?_
            refine lv_iadd hx hb dX5_readAny_64 ?_
            obtain ⟨x1_54, ex1_54, hf⟩ := bf_l_e hf
            refine bf_top ex1_54 ?_
            refine lv_istore_n (lv' := [(1, .int x1_54), (0, .ref o), (2, .int w33_2), (3, .int w33_3)]) hx hb dX5_readAny_65 rfl hl (by decide) rfl (fun ls hl => ?_)
            exact J66 x1_54 w33_2 w33_3 T_52 _ _ _ hf hd (lv_sub hl [1, 0, 2, 3] rfl)
        · have hf := bf_it hf c_51
          exact J42 T33 _ _ _ hf hd (lv_sub hl [0] rfl)
      refine lv_iload_n hx hb dX5_readAny_9 rfl (lv_at hl 2 rfl) ?_
      refine lv_if_eq (tgt := 109) hx hb dX5_readAny_10 (by decide) (fun c_55 => ?_) (fun c_55 => ?_)
      · have hf := bf_it hf c_55
        refine lv_aload_n hx hb dX5_readAny_109 rfl (lv_at hl 0 rfl) ?_
        refine lv_iconst (v := 5) hx hb dX5_readAny_110 (by decide) ?_
        refine bf_tcz (n := 1) (As := [.int 5]) (rest := []) X hd (mX5_isWord l G σ o T9 5 rfl) (lw_V q1652 q1654 qs72 q156 q1655) (by decide +kernel) ⟨Nat.le_of_ble_eq_true rfl, Nat.le_of_ble_eq_true rfl⟩ rfl hl.1 rfl (Nat.le_of_ble_eq_true rfl) dX5_readAny_111 ⟨Nat.le_of_ble_eq_true rfl, Nat.le_of_ble_eq_true rfl⟩ (fun H locs z_56 hd => ?_)
        refine lv_if_eq (tgt := 138) hx hb dX5_readAny_114 (by decide) (fun c_57 => ?_) (fun c_57 => ?_)
        · have hf := bf_it hf c_57
          refine lv_aload_n hx hb dX5_readAny_138 rfl (lv_at hl 0 rfl) ?_
          refine lv_iconst (v := 4) hx hb dX5_readAny_139 (by decide) ?_
          refine bf_tcz (n := 1) (As := [.int 4]) (rest := []) X hd (mX5_isWord l G σ o T9 4 rfl) (lw_V q1652 q1654 qs72 q156 q1655) (by decide +kernel) ⟨Nat.le_of_ble_eq_true rfl, Nat.le_of_ble_eq_true rfl⟩ rfl hl.1 rfl (Nat.le_of_ble_eq_true rfl) dX5_readAny_140 ⟨Nat.le_of_ble_eq_true rfl, Nat.le_of_ble_eq_true rfl⟩ (fun H locs z_58 hd => ?_)
          refine lv_if_eq (tgt := 173) hx hb dX5_readAny_143 (by decide) (fun c_59 => ?_) (fun c_59 => ?_)
          · have hf := bf_it hf c_59
            refine lv_aload_n hx hb dX5_readAny_173 rfl (lv_at hl 0 rfl) ?_
            refine lv_bipush (v := 10) hx hb dX5_readAny_174 (by decide) ?_
            obtain ⟨T_60, eT_60, hf⟩ := bf_b_some hf
            refine bf_tcv (n := 1) (As := [.int 10]) (rest := []) X hd (mX5_settles l G σ o T9 10 eT_60) (lw_V q1732 q1734 qs92 q156 q1735) (by decide +kernel) ⟨Nat.le_of_ble_eq_true rfl, Nat.le_of_ble_eq_true rfl⟩ rfl hl.1 rfl (Nat.le_of_ble_eq_true rfl) dX5_readAny_176 ⟨Nat.le_of_ble_eq_true rfl, Nat.le_of_ble_eq_true rfl⟩ (fun H locs hd => ?_)
            refine lv_aload_n hx hb dX5_readAny_179 rfl (lv_at hl 0 rfl) ?_
            refine lv_bipush (v := 11) hx hb dX5_readAny_180 (by decide) ?_
            obtain ⟨T_61, eT_61, hf⟩ := bf_b_some hf
            refine bf_tcv (n := 1) (As := [.int 11]) (rest := []) X hd (mX5_settles l G σ o T_60 11 eT_61) (lw_V q1732 q1734 qs92 q156 q1735) (by decide +kernel) ⟨Nat.le_of_ble_eq_true rfl, Nat.le_of_ble_eq_true rfl⟩ rfl hl.1 rfl (Nat.le_of_ble_eq_true rfl) dX5_readAny_182 ⟨Nat.le_of_ble_eq_true rfl, Nat.le_of_ble_eq_true rfl⟩ (fun H locs hd => ?_)
            refine lv_iload_n hx hb dX5_readAny_185 rfl (lv_at hl 1 rfl) ?_
            refine lv_if_ne (tgt := 191) hx hb dX5_readAny_186 (by decide) (fun c_62 => ?_) (fun c_62 => ?_)
            · have hf := bf_ie hf c_62
              refine lv_aload_n hx hb dX5_readAny_191 rfl (lv_at hl 0 rfl) ?_
              refine lv_bipush (v := 41) hx hb dX5_readAny_192 (by decide) ?_
              refine bf_tcz (n := 1) (As := [.int 41]) (rest := []) X hd (mX5_isSign l G σ o T_61 41 rfl) (lw_V q1676 q1678 qs78 q156 q1679) (by decide +kernel) ⟨Nat.le_of_ble_eq_true rfl, Nat.le_of_ble_eq_true rfl⟩ rfl hl.1 rfl (Nat.le_of_ble_eq_true rfl) dX5_readAny_194 ⟨Nat.le_of_ble_eq_true rfl, Nat.le_of_ble_eq_true rfl⟩ (fun H locs z_63 hd => ?_)
              refine lv_if_ne (tgt := 206) hx hb dX5_readAny_197 (by decide) (fun c_64 => ?_) (fun c_64 => ?_)
              · have hf := bf_ie hf c_64
                refine lv_aload_n hx hb dX5_readAny_206 rfl (lv_at hl 0 rfl) ?_
                refine lv_aload_n hx hb dX5_readAny_207 rfl (lv_at hl 0 rfl) ?_
                refine bf_tgi X hd 31 (by decide) rfl q1414 dX5_readAny_208 ?_
                refine lv_iconst (v := 1) hx hb dX5_readAny_211 (by decide) ?_
                refine lv_isub hx hb dX5_readAny_212 ?_
                refine bf_tpi X hd 31 (by decide) ⟨rfl, rfl, rfl⟩ q1414 dX5_readAny_213 (fun H locs hd => ?_)
                obtain ⟨T_65, eT_65, hf⟩ := bf_l_e hf
                have hd := hd.of (congrArg (bf_pT G σ o) eT_65.symm)
                refine lv_iload_n hx hb dX5_readAny_216 rfl (lv_at hl 1 rfl) ?_
                refine lv_iconst (v := 1) hx hb dX5_readAny_217 (by decide) ?_
                refine lv_isub hx hb dX5_readAny_218 ?_
                obtain ⟨x1_66, ex1_66, hf⟩ := bf_l_e hf
                refine bf_top ex1_66 ?_
                refine lv_istore_n (lv' := [(1, .int x1_66), (0, .ref o), (2, .int v9_2)]) hx hb dX5_readAny_219 rfl hl (by decide) rfl (fun ls hl => ?_)
                refine lv_aload_n hx hb dX5_readAny_220 rfl (lv_at hl 1 rfl) ?_
                refine lv_aload_n hx hb dX5_readAny_221 rfl (lv_at hl 1 rfl) ?_
                refine bf_tgi X hd 29 (by decide) rfl q1412 dX5_readAny_222 ?_
                refine lv_iconst (v := 1) hx hb dX5_readAny_225 (by decide) ?_
                refine lv_isub hx hb dX5_readAny_226 ?_
                refine bf_tpi X hd 29 (by decide) ⟨rfl, rfl, rfl⟩ q1412 dX5_readAny_227 (fun H locs hd => ?_)
                obtain ⟨T_67, eT_67, hf⟩ := bf_l_e hf
                have hd := hd.of (congrArg (bf_pT G σ o) eT_67.symm)
                refine lv_aload_n hx hb dX5_readAny_230 rfl (lv_at hl 1 rfl) ?_
                refine lv_bipush (v := 9) hx hb dX5_readAny_231 (by decide) ?_
                obtain ⟨T_68, eT_68, hf⟩ := bf_b_some hf
                refine bf_tcv (n := 1) (As := [.int 9]) (rest := []) X hd (mX5_settles l G σ o T_67 9 eT_68) (lw_V q1732 q1734 qs92 q156 q1735) (by decide +kernel) ⟨Nat.le_of_ble_eq_true rfl, Nat.le_of_ble_eq_true rfl⟩ rfl hl.1 rfl (Nat.le_of_ble_eq_true rfl) dX5_readAny_233 ⟨Nat.le_of_ble_eq_true rfl, Nat.le_of_ble_eq_true rfl⟩ (fun H locs hd => ?_)
                refine lv_aload_n hx hb dX5_readAny_236 rfl (lv_at hl 1 rfl) ?_
                obtain ⟨T_69, eT_69, hf⟩ := bf_b_some hf
                refine bf_tcv (n := 0) (As := []) (rest := []) X hd (mX5_reads l G σ o T_68 eT_69) (lw_V q1624 q1626 qs65 q156 q1627) (by decide +kernel) ⟨Nat.le_of_ble_eq_true rfl, Nat.le_of_ble_eq_true rfl⟩ rfl hl.1 rfl (Nat.le_of_ble_eq_true rfl) dX5_readAny_237 ⟨Nat.le_of_ble_eq_true rfl, Nat.le_of_ble_eq_true rfl⟩ (fun H locs hd => ?_)
                refine lv_goto (tgt := 9) hx hb dX5_readAny_240 (by decide) ?_
                exact ih9 x1_66 v9_2 T_69 _ _ _ hf hd (lv_sub hl [1, 0, 2] rfl)
              · have hf := bf_it hf c_64
                exact J200 T_61 _ _ _ hf hd (lv_sub hl [0] rfl)
            · have hf := bf_it hf c_62
              refine lv_iconst (v := 0) hx hb dX5_readAny_189 (by decide) ?_
              exact kret _ _ _ _ _ _ ⟨(bf_pr hf).1, congrArg (bf_pT G σ o) (bf_pr hf).2⟩ hd dX5_readAny_190
          · have hf := bf_ie hf c_59
            refine lv_aload_n hx hb dX5_readAny_146 rfl (lv_at hl 0 rfl) ?_
            refine lv_bipush (v := 10) hx hb dX5_readAny_147 (by decide) ?_
            obtain ⟨T_70, eT_70, hf⟩ := bf_b_some hf
            refine bf_tcv (n := 1) (As := [.int 10]) (rest := []) X hd (mX5_settles l G σ o T9 10 eT_70) (lw_V q1732 q1734 qs92 q156 q1735) (by decide +kernel) ⟨Nat.le_of_ble_eq_true rfl, Nat.le_of_ble_eq_true rfl⟩ rfl hl.1 rfl (Nat.le_of_ble_eq_true rfl) dX5_readAny_149 ⟨Nat.le_of_ble_eq_true rfl, Nat.le_of_ble_eq_true rfl⟩ (fun H locs hd => ?_)
            refine lv_aload_n hx hb dX5_readAny_152 rfl (lv_at hl 0 rfl) ?_
            refine lv_bipush (v := 11) hx hb dX5_readAny_153 (by decide) ?_
            obtain ⟨T_71, eT_71, hf⟩ := bf_b_some hf
            refine bf_tcv (n := 1) (As := [.int 11]) (rest := []) X hd (mX5_settles l G σ o T_70 11 eT_71) (lw_V q1732 q1734 qs92 q156 q1735) (by decide +kernel) ⟨Nat.le_of_ble_eq_true rfl, Nat.le_of_ble_eq_true rfl⟩ rfl hl.1 rfl (Nat.le_of_ble_eq_true rfl) dX5_readAny_155 ⟨Nat.le_of_ble_eq_true rfl, Nat.le_of_ble_eq_true rfl⟩ (fun H locs hd => ?_)
            refine lv_aload_n hx hb dX5_readAny_158 rfl (lv_at hl 0 rfl) ?_
            refine lv_bipush (v := 11) hx hb dX5_readAny_159 (by decide) ?_
            obtain ⟨T_72, eT_72, hf⟩ := bf_b_some hf
            refine bf_tcv (n := 1) (As := [.int 11]) (rest := []) X hd (mX5_waits l G σ o T_71 11 eT_72) (lw_V q1724 q1726 qs90 q156 q1727) (by decide +kernel) ⟨Nat.le_of_ble_eq_true rfl, Nat.le_of_ble_eq_true rfl⟩ rfl hl.1 rfl (Nat.le_of_ble_eq_true rfl) dX5_readAny_161 ⟨Nat.le_of_ble_eq_true rfl, Nat.le_of_ble_eq_true rfl⟩ (fun H locs hd => ?_)
            refine lv_aload_n hx hb dX5_readAny_164 rfl (lv_at hl 0 rfl) ?_
            obtain ⟨T_73, eT_73, hf⟩ := bf_b_some hf
            refine bf_tcv (n := 0) (As := []) (rest := []) X hd (mX5_reads l G σ o T_72 eT_73) (lw_V q1624 q1626 qs65 q156 q1627) (by decide +kernel) ⟨Nat.le_of_ble_eq_true rfl, Nat.le_of_ble_eq_true rfl⟩ rfl hl.1 rfl (Nat.le_of_ble_eq_true rfl) dX5_readAny_165 ⟨Nat.le_of_ble_eq_true rfl, Nat.le_of_ble_eq_true rfl⟩ (fun H locs hd => ?_)
            refine lv_iconst (v := 1) hx hb dX5_readAny_168 (by decide) ?_
            refine lv_istore_n (lv' := [(2, .int 1), (0, .ref o), (1, .int v9_1)]) hx hb dX5_readAny_169 rfl hl (by decide) rfl (fun ls hl => ?_)
            refine lv_goto (tgt := 9) hx hb dX5_readAny_170 (by decide) ?_
            exact ih9 v9_1 1 T_73 _ _ _ hf hd (lv_sub hl [1, 2, 0] rfl)
        · have hf := bf_ie hf c_57
          refine lv_aload_n hx hb dX5_readAny_117 rfl (lv_at hl 0 rfl) ?_
          refine lv_bipush (v := 10) hx hb dX5_readAny_118 (by decide) ?_
          obtain ⟨T_74, eT_74, hf⟩ := bf_b_some hf
          refine bf_tcv (n := 1) (As := [.int 10]) (rest := []) X hd (mX5_settles l G σ o T9 10 eT_74) (lw_V q1732 q1734 qs92 q156 q1735) (by decide +kernel) ⟨Nat.le_of_ble_eq_true rfl, Nat.le_of_ble_eq_true rfl⟩ rfl hl.1 rfl (Nat.le_of_ble_eq_true rfl) dX5_readAny_120 ⟨Nat.le_of_ble_eq_true rfl, Nat.le_of_ble_eq_true rfl⟩ (fun H locs hd => ?_)
          refine lv_aload_n hx hb dX5_readAny_123 rfl (lv_at hl 0 rfl) ?_
          refine lv_bipush (v := 10) hx hb dX5_readAny_124 (by decide) ?_
          obtain ⟨T_75, eT_75, hf⟩ := bf_b_some hf
          refine bf_tcv (n := 1) (As := [.int 10]) (rest := []) X hd (mX5_waits l G σ o T_74 10 eT_75) (lw_V q1724 q1726 qs90 q156 q1727) (by decide +kernel) ⟨Nat.le_of_ble_eq_true rfl, Nat.le_of_ble_eq_true rfl⟩ rfl hl.1 rfl (Nat.le_of_ble_eq_true rfl) dX5_readAny_126 ⟨Nat.le_of_ble_eq_true rfl, Nat.le_of_ble_eq_true rfl⟩ (fun H locs hd => ?_)
          refine lv_aload_n hx hb dX5_readAny_129 rfl (lv_at hl 0 rfl) ?_
          obtain ⟨T_76, eT_76, hf⟩ := bf_b_some hf
          refine bf_tcv (n := 0) (As := []) (rest := []) X hd (mX5_reads l G σ o T_75 eT_76) (lw_V q1624 q1626 qs65 q156 q1627) (by decide +kernel) ⟨Nat.le_of_ble_eq_true rfl, Nat.le_of_ble_eq_true rfl⟩ rfl hl.1 rfl (Nat.le_of_ble_eq_true rfl) dX5_readAny_130 ⟨Nat.le_of_ble_eq_true rfl, Nat.le_of_ble_eq_true rfl⟩ (fun H locs hd => ?_)
          refine lv_iconst (v := 1) hx hb dX5_readAny_133 (by decide) ?_
          refine lv_istore_n (lv' := [(2, .int 1), (0, .ref o), (1, .int v9_1)]) hx hb dX5_readAny_134 rfl hl (by decide) rfl (fun ls hl => ?_)
          refine lv_goto (tgt := 9) hx hb dX5_readAny_135 (by decide) ?_
          exact ih9 v9_1 1 T_76 _ _ _ hf hd (lv_sub hl [1, 2, 0] rfl)
      · have hf := bf_ie hf c_55
        refine lv_aload_n hx hb dX5_readAny_13 rfl (lv_at hl 0 rfl) ?_
        refine lv_bipush (v := 6) hx hb dX5_readAny_14 (by decide) ?_
        refine bf_tcz (n := 1) (As := [.int 6]) (rest := []) X hd (mX5_isWord l G σ o T9 6 rfl) (lw_V q1652 q1654 qs72 q156 q1655) (by decide +kernel) ⟨Nat.le_of_ble_eq_true rfl, Nat.le_of_ble_eq_true rfl⟩ rfl hl.1 rfl (Nat.le_of_ble_eq_true rfl) dX5_readAny_16 ⟨Nat.le_of_ble_eq_true rfl, Nat.le_of_ble_eq_true rfl⟩ (fun H locs z_77 hd => ?_)
        obtain ⟨x3_78, ex3_78, hf⟩ := bf_l_e hf
        refine bf_top ex3_78 ?_
        refine lv_istore_n (lv' := [(3, .int x3_78), (0, .ref o), (1, .int v9_1), (2, .int v9_2)]) hx hb dX5_readAny_19 rfl hl (by decide) rfl (fun ls hl => ?_)
        refine lv_iload_n hx hb dX5_readAny_20 rfl (lv_at hl 0 rfl) ?_
        refine lv_if_ne (tgt := 33) hx hb dX5_readAny_21 (by decide) (fun c_79 => ?_) (fun c_79 => ?_)
        · have hf := bf_ie hf c_79
          exact J33 v9_1 v9_2 x3_78 T9 _ _ _ hf hd (lv_sub hl [1, 2, 3, 0] rfl)
        · have hf := bf_it hf c_79
          refine lv_aload_n hx hb dX5_readAny_24 rfl (lv_at hl 1 rfl) ?_
          refine lv_bipush (v := 40) hx hb dX5_readAny_25 (by decide) ?_
          refine bf_tcz (n := 1) (As := [.int 40]) (rest := []) X hd (mX5_isSign l G σ o T9 40 rfl) (lw_V q1676 q1678 qs78 q156 q1679) (by decide +kernel) ⟨Nat.le_of_ble_eq_true rfl, Nat.le_of_ble_eq_true rfl⟩ rfl hl.1 rfl (Nat.le_of_ble_eq_true rfl) dX5_readAny_27 ⟨Nat.le_of_ble_eq_true rfl, Nat.le_of_ble_eq_true rfl⟩ (fun H locs z_80 hd => ?_)
          refine lv_if_eq (tgt := 88) hx hb dX5_readAny_30 (by decide) (fun c_81 => ?_) (fun c_81 => ?_)
          · have hf := bf_it hf c_81
            refine lv_aload_n hx hb dX5_readAny_88 rfl (lv_at hl 1 rfl) ?_
            obtain ⟨r_83, T_82, er_83, hf⟩ := bf_b2_some hf
            refine bf_tci (n := 0) (As := []) (rest := []) X hd (mX5_readCompared l G σ o T9 er_83) (lw_V q1728 q1730 qs91 q156 q1731) (by decide +kernel) ⟨Nat.le_of_ble_eq_true rfl, Nat.le_of_ble_eq_true rfl⟩ rfl hl.1 rfl (Nat.le_of_ble_eq_true rfl) dX5_readAny_89 ⟨Nat.le_of_ble_eq_true rfl, Nat.le_of_ble_eq_true rfl⟩ (fun H locs hd => ?_)
            refine lv_iconst (v := (-1)) hx hb dX5_readAny_92 (by decide) ?_
            refine lv_icmp_ne (tgt := 98) hx hb dX5_readAny_93 (by decide) (fun c_84 => ?_) (fun c_84 => ?_)
            · have hf := bf_ie hf c_84
              refine lv_aload_n hx hb dX5_readAny_98 rfl (lv_at hl 1 rfl) ?_
              refine lv_bipush (v := 9) hx hb dX5_readAny_99 (by decide) ?_
              obtain ⟨T_85, eT_85, hf⟩ := bf_b_some hf
              refine bf_tcv (n := 1) (As := [.int 9]) (rest := []) X hd (mX5_settles l G σ o T_82 9 eT_85) (lw_V q1732 q1734 qs92 q156 q1735) (by decide +kernel) ⟨Nat.le_of_ble_eq_true rfl, Nat.le_of_ble_eq_true rfl⟩ rfl hl.1 rfl (Nat.le_of_ble_eq_true rfl) dX5_readAny_101 ⟨Nat.le_of_ble_eq_true rfl, Nat.le_of_ble_eq_true rfl⟩ (fun H locs hd => ?_)
              refine lv_iconst (v := 0) hx hb dX5_readAny_104 (by decide) ?_
              refine lv_istore_n (lv' := [(2, .int 0), (3, .int x3_78), (0, .ref o), (1, .int v9_1)]) hx hb dX5_readAny_105 rfl hl (by decide) rfl (fun ls hl => ?_)
              refine lv_goto (tgt := 9) hx hb dX5_readAny_106 (by decide) ?_
              exact ih9 v9_1 0 T_85 _ _ _ hf hd (lv_sub hl [2, 3, 0] rfl)
            · have hf := bf_it hf c_84
              refine lv_iconst (v := (-1)) hx hb dX5_readAny_96 (by decide) ?_
              exact kret _ _ _ _ _ _ ⟨(bf_pr hf).1, congrArg (bf_pT G σ o) (bf_pr hf).2⟩ hd dX5_readAny_97
          · have hf := bf_ie hf c_81
            exact J33 v9_1 v9_2 x3_78 T9 _ _ _ hf hd (lv_sub hl [1, 2, 3, 0] rfl)
  unfold fX5_readAny at hf
  refine lv_iconst (v := 0) hx hb dX5_readAny_0 (by decide) ?_
  refine lv_istore_n (lv' := [(1, .int 0), (0, .ref o)]) hx hb dX5_readAny_1 rfl hl (by decide) rfl (fun ls hl => ?_)
  refine lv_aload_n hx hb dX5_readAny_2 rfl (lv_at hl 1 rfl) ?_
  refine lv_iconst (v := 0) hx hb dX5_readAny_3 (by decide) ?_
  refine bf_tpi X hd 31 (by decide) ⟨rfl, rfl, rfl⟩ q1414 dX5_readAny_4 (fun H locs hd => ?_)
  obtain ⟨T_86, eT_86, hf⟩ := bf_l_e hf
  have hd := hd.of (congrArg (bf_pT G σ o) eT_86.symm)
  refine lv_iconst (v := 1) hx hb dX5_readAny_7 (by decide) ?_
  refine lv_istore_n (lv' := [(2, .int 1), (1, .int 0), (0, .ref o)]) hx hb dX5_readAny_8 rfl hl (by decide) rfl (fun ls hl => ?_)
  exact L9 bf_fuel 0 1 T_86 _ _ _ hf hd (lv_sub hl [2, 1, 0] rfl)
def fX5_isLineWord (T : bf_TS) : Int32 := if (fX5_isWord T 0) = 0 then (if (fX5_isWord T 1) = 0 then (if (fX5_isWord T 2) = 0 then (0) else (1)) else (1)) else (1)
set_option maxHeartbeats 4000000 in
theorem mX5_isLineWord (l : Launch) (G : bf_G) (σ : bf_V) (o : Nat) (T : bf_TS) {r : Int32} (hf : fX5_isLineWord T = r) : bf_MZ l G yX5_isLineWord cX5_isLineWord 1 (bf_rm 1) [.ref o] (bf_pT G σ o T) (fun v σ' => v = r ∧ σ' = bf_pT G σ o T) := by
  refine bf_MZ.of rfl (Nat.le_of_ble_eq_true rfl) ?_
  intro p e s m below meth c Q X hlk hnm kret hd ls hl
  have hx := X.1
  have hb := X.2.1
  have hown := X.2.2.2.1
  have hts := X.2.2.2.2
  have hl : lv_has ls 1 [(0, .ref o)] := hl
  unfold fX5_isLineWord at hf
  refine lv_aload_n hx hb dX5_isLineWord_0 rfl (lv_at hl 0 rfl) ?_
  refine lv_iconst (v := 0) hx hb dX5_isLineWord_1 (by decide) ?_
  refine bf_tcz (n := 1) (As := [.int 0]) (rest := []) X hd (mX5_isWord l G σ o T 0 rfl) (lw_V q1652 q1654 qs72 q156 q1655) (by decide +kernel) ⟨Nat.le_of_ble_eq_true rfl, Nat.le_of_ble_eq_true rfl⟩ rfl hl.1 rfl (Nat.le_of_ble_eq_true rfl) dX5_isLineWord_2 ⟨Nat.le_of_ble_eq_true rfl, Nat.le_of_ble_eq_true rfl⟩ (fun H locs z_7 hd => ?_)
  refine lv_if_ne (tgt := 24) hx hb dX5_isLineWord_5 (by decide) (fun c_8 => ?_) (fun c_8 => ?_)
  · have hf := bf_ie hf c_8
    refine lv_iconst (v := 1) hx hb dX5_isLineWord_24 (by decide) ?_
    refine lv_goto (tgt := 29) hx hb dX5_isLineWord_25 (by decide) ?_
    exact kret _ _ _ _ _ _ ⟨hf, rfl⟩ (Or.inr rfl) hd dX5_isLineWord_29
  · have hf := bf_it hf c_8
    refine lv_aload_n hx hb dX5_isLineWord_8 rfl (lv_at hl 0 rfl) ?_
    refine lv_iconst (v := 1) hx hb dX5_isLineWord_9 (by decide) ?_
    refine bf_tcz (n := 1) (As := [.int 1]) (rest := []) X hd (mX5_isWord l G σ o T 1 rfl) (lw_V q1652 q1654 qs72 q156 q1655) (by decide +kernel) ⟨Nat.le_of_ble_eq_true rfl, Nat.le_of_ble_eq_true rfl⟩ rfl hl.1 rfl (Nat.le_of_ble_eq_true rfl) dX5_isLineWord_10 ⟨Nat.le_of_ble_eq_true rfl, Nat.le_of_ble_eq_true rfl⟩ (fun H locs z_9 hd => ?_)
    refine lv_if_ne (tgt := 24) hx hb dX5_isLineWord_13 (by decide) (fun c_10 => ?_) (fun c_10 => ?_)
    · have hf := bf_ie hf c_10
      refine lv_iconst (v := 1) hx hb dX5_isLineWord_24 (by decide) ?_
      refine lv_goto (tgt := 29) hx hb dX5_isLineWord_25 (by decide) ?_
      exact kret _ _ _ _ _ _ ⟨hf, rfl⟩ (Or.inr rfl) hd dX5_isLineWord_29
    · have hf := bf_it hf c_10
      refine lv_aload_n hx hb dX5_isLineWord_16 rfl (lv_at hl 0 rfl) ?_
      refine lv_iconst (v := 2) hx hb dX5_isLineWord_17 (by decide) ?_
      refine bf_tcz (n := 1) (As := [.int 2]) (rest := []) X hd (mX5_isWord l G σ o T 2 rfl) (lw_V q1652 q1654 qs72 q156 q1655) (by decide +kernel) ⟨Nat.le_of_ble_eq_true rfl, Nat.le_of_ble_eq_true rfl⟩ rfl hl.1 rfl (Nat.le_of_ble_eq_true rfl) dX5_isLineWord_18 ⟨Nat.le_of_ble_eq_true rfl, Nat.le_of_ble_eq_true rfl⟩ (fun H locs z_11 hd => ?_)
      refine lv_if_eq (tgt := 28) hx hb dX5_isLineWord_21 (by decide) (fun c_12 => ?_) (fun c_12 => ?_)
      · have hf := bf_it hf c_12
        refine lv_iconst (v := 0) hx hb dX5_isLineWord_28 (by decide) ?_
        exact kret _ _ _ _ _ _ ⟨hf, rfl⟩ (Or.inl rfl) hd dX5_isLineWord_29
      · have hf := bf_ie hf c_12
        refine lv_iconst (v := 1) hx hb dX5_isLineWord_24 (by decide) ?_
        refine lv_goto (tgt := 29) hx hb dX5_isLineWord_25 (by decide) ?_
        exact kret _ _ _ _ _ _ ⟨hf, rfl⟩ (Or.inr rfl) hd dX5_isLineWord_29
def fX5_readLaw_128 (w128_1 : Int32) (T128 : bf_TS) : Option (Int32 × bf_TS) := if (T128 17 0) = 0 then (some (w128_1, T128)) else (bf_b2 (fX5_errs T128 1) fun r_33 T_32 => some (r_33, T_32))
def fX5_readLaw_111 (T111 : bf_TS) : Option (Int32 × bf_TS) := bf_b2 (fX5_errs T111 1) fun r_30 T_29 => some (r_30, T_29)
def fX5_readLaw_92 (k2 : Int32 → bf_TS → Option (Int32 × bf_TS)) (w92_1 : Int32) (w92_2 : Int32) (T92 : bf_TS) : Option (Int32 × bf_TS) := bf_c (bf_in w92_2 48) <| bf_l (bf_u2 T92 24 (w92_2).toNatClampNeg (T92 28 0)) fun T_24 => if (fX5_isSign T_24 59) = 0 then (fX5_readLaw_111 T_24) else (bf_b (fX5_reads T_24) fun T_27 => bf_l ((w92_1 + 1)) fun x1_28 => k2 x1_28 T_27)
def fX5_readLaw_15 (T15 : bf_TS) : Option (Int32 × bf_TS) := bf_b2 (fX5_errs T15 3) fun r_22 T_21 => some (r_22, T_21)
def fX5_readLaw_2b (k2 : Int32 → bf_TS → Option (Int32 × bf_TS)) (v2_1 : Int32) (T2 : bf_TS) : Option (Int32 × bf_TS) := if (fX5_isLineWord T2) = 0 then (fX5_readLaw_128 v2_1 T2) else (if v2_1 = 16 then (fX5_readLaw_15 T2) else (bf_l ((32 + v2_1)) fun x2_4 => bf_c (bf_in x2_4 48) <| bf_l (bf_u2 T2 21 (x2_4).toNatClampNeg (T2 18 0)) fun T_6 => bf_b (fX5_reads T_6) fun T_7 => bf_c (bf_in x2_4 48) <| bf_l (bf_u2 T_7 22 (x2_4).toNatClampNeg (T_7 28 0)) fun T_9 => bf_b2 (fX5_readSum T_9) fun r_11 T_10 => if r_11 = (-1) then (some ((-1), T_10)) else (bf_c (bf_in x2_4 48) <| bf_l (bf_u2 T_10 23 (x2_4).toNatClampNeg (T_10 28 0)) fun T_14 => if (fX5_isWord T_14 3) = 0 then (fX5_readLaw_92 k2 v2_1 x2_4 T_14) else (bf_b (fX5_reads T_14) fun T_17 => bf_b2 (fX5_readAny T_17) fun r_19 T_18 => if r_19 = (-1) then (some ((-1), T_18)) else (fX5_readLaw_92 k2 v2_1 x2_4 T_18)))))
def fX5_readLaw_2  : Nat → Int32 → bf_TS → Option (Int32 × bf_TS)
  | 0, _, _ => none
  | n + 1, v2_1, T2 => fX5_readLaw_2b (fX5_readLaw_2 n) v2_1 T2
def fX5_readLaw (T : bf_TS) : Option (Int32 × bf_TS) := fX5_readLaw_2 bf_fuel 0 T
set_option maxHeartbeats 4000000 in
theorem mX5_readLaw (l : Launch) (G : bf_G) (σ : bf_V) (o : Nat) (T : bf_TS) {r : Int32} {T' : bf_TS} (hf : fX5_readLaw T = some (r, T')) : bf_MI l G yX5_readLaw cX5_readLaw 3 (bf_rm 8) [.ref o] (bf_pT G σ o T) (fun v σ' => v = r ∧ σ' = bf_pT G σ o T') := by
  refine bf_MI.of rfl (Nat.le_of_ble_eq_true rfl) ?_
  intro p e s m below meth c Q X hlk hnm kret hd ls hl
  have hx := X.1
  have hb := X.2.1
  have hown := X.2.2.2.1
  have hts := X.2.2.2.2
  have hl : lv_has ls 3 [(0, .ref o)] := hl
  have J128 : ∀ (w128_1 : Int32) (T128 : bf_TS) (H : Heap) (locs : List Loc) (ls : Array Slot), fX5_readLaw_128 w128_1 T128 = some (r, T') → bf_Dy G s H locs (bf_pT G σ o T128) → lv_has ls 3 [(0, .ref o), (1, .int w128_1)] → W p l e (bf_rm 8) s m ([.ref o] : List Value).toArray below meth c H locs 0 0 Q (F0 m 128 ls []) := by
    intro w128_1 T128 H locs ls hf hd hl
    unfold fX5_readLaw_128 at hf
    refine lv_aload_n hx hb dX5_readLaw_128 rfl (lv_at hl 0 rfl) ?_
    refine bf_tgi X hd 17 (by decide) rfl q1400 dX5_readLaw_129 ?_
    refine lv_if_ne (tgt := 139) hx hb dX5_readLaw_132 (by decide) (fun c_34 => ?_) (fun c_34 => ?_)
    · have hf := bf_ie hf c_34
      refine lv_aload_n hx hb dX5_readLaw_139 rfl (lv_at hl 0 rfl) ?_
      refine lv_iconst (v := 1) hx hb dX5_readLaw_140 (by decide) ?_
      obtain ⟨r_36, T_35, er_36, hf⟩ := bf_b2_some hf
      refine bf_tci (n := 1) (As := [.int 1]) (rest := []) X hd (mX5_errs l G σ o T128 1 er_36) (lw_V q1656 q1658 qs73 q156 q1659) (by decide +kernel) ⟨Nat.le_of_ble_eq_true rfl, Nat.le_of_ble_eq_true rfl⟩ rfl hl.1 rfl (Nat.le_of_ble_eq_true rfl) dX5_readLaw_141 ⟨Nat.le_of_ble_eq_true rfl, Nat.le_of_ble_eq_true rfl⟩ (fun H locs hd => ?_)
      exact kret _ _ _ _ _ _ ⟨(bf_pr hf).1, congrArg (bf_pT G σ o) (bf_pr hf).2⟩ hd dX5_readLaw_144
    · have hf := bf_it hf c_34
      refine lv_iload_n hx hb dX5_readLaw_135 rfl (lv_at hl 1 rfl) ?_
      refine lv_goto (tgt := 144) hx hb dX5_readLaw_136 (by decide) ?_
      exact kret _ _ _ _ _ _ ⟨(bf_pr hf).1, congrArg (bf_pT G σ o) (bf_pr hf).2⟩ hd dX5_readLaw_144
  have J111 : ∀ (T111 : bf_TS) (H : Heap) (locs : List Loc) (ls : Array Slot), fX5_readLaw_111 T111 = some (r, T') → bf_Dy G s H locs (bf_pT G σ o T111) → lv_has ls 3 [(0, .ref o)] → W p l e (bf_rm 8) s m ([.ref o] : List Value).toArray below meth c H locs 0 0 Q (F0 m 111 ls []) := by
    intro T111 H locs ls hf hd hl
    unfold fX5_readLaw_111 at hf
    refine lv_aload_n hx hb dX5_readLaw_111 rfl (lv_at hl 0 rfl) ?_
    refine lv_iconst (v := 1) hx hb dX5_readLaw_112 (by decide) ?_
    obtain ⟨r_38, T_37, er_38, hf⟩ := bf_b2_some hf
    refine bf_tci (n := 1) (As := [.int 1]) (rest := []) X hd (mX5_errs l G σ o T111 1 er_38) (lw_V q1656 q1658 qs73 q156 q1659) (by decide +kernel) ⟨Nat.le_of_ble_eq_true rfl, Nat.le_of_ble_eq_true rfl⟩ rfl hl.1 rfl (Nat.le_of_ble_eq_true rfl) dX5_readLaw_113 ⟨Nat.le_of_ble_eq_true rfl, Nat.le_of_ble_eq_true rfl⟩ (fun H locs hd => ?_)
    exact kret _ _ _ _ _ _ ⟨(bf_pr hf).1, congrArg (bf_pT G σ o) (bf_pr hf).2⟩ hd dX5_readLaw_116
  have J15 : ∀ (T15 : bf_TS) (H : Heap) (locs : List Loc) (ls : Array Slot), fX5_readLaw_15 T15 = some (r, T') → bf_Dy G s H locs (bf_pT G σ o T15) → lv_has ls 3 [(0, .ref o)] → W p l e (bf_rm 8) s m ([.ref o] : List Value).toArray below meth c H locs 0 0 Q (F0 m 15 ls []) := by
    intro T15 H locs ls hf hd hl
    unfold fX5_readLaw_15 at hf
    refine lv_aload_n hx hb dX5_readLaw_15 rfl (lv_at hl 0 rfl) ?_
    refine lv_iconst (v := 3) hx hb dX5_readLaw_16 (by decide) ?_
    obtain ⟨r_40, T_39, er_40, hf⟩ := bf_b2_some hf
    refine bf_tci (n := 1) (As := [.int 3]) (rest := []) X hd (mX5_errs l G σ o T15 3 er_40) (lw_V q1656 q1658 qs73 q156 q1659) (by decide +kernel) ⟨Nat.le_of_ble_eq_true rfl, Nat.le_of_ble_eq_true rfl⟩ rfl hl.1 rfl (Nat.le_of_ble_eq_true rfl) dX5_readLaw_17 ⟨Nat.le_of_ble_eq_true rfl, Nat.le_of_ble_eq_true rfl⟩ (fun H locs hd => ?_)
    exact kret _ _ _ _ _ _ ⟨(bf_pr hf).1, congrArg (bf_pT G σ o) (bf_pr hf).2⟩ hd dX5_readLaw_20
  have L2 : ∀ (n2 : Nat) (v2_1 : Int32) (T2 : bf_TS) (H : Heap) (locs : List Loc) (ls : Array Slot), fX5_readLaw_2 n2 v2_1 T2 = some (r, T') → bf_Dy G s H locs (bf_pT G σ o T2) → lv_has ls 3 [(0, .ref o), (1, .int v2_1)] → W p l e (bf_rm 8) s m ([.ref o] : List Value).toArray below meth c H locs 0 0 Q (F0 m 2 ls []) := by
    intro n2
    induction n2 with
    | zero =>
      intro v2_1 T2 H locs ls hf hd hl
      exact absurd (show (none : Option (Int32 × bf_TS)) = some (r, T') from hf) (by intro h; cases h)
    | succ n2 ih2 =>
      intro v2_1 T2 H locs ls hf hd hl
      have hf : fX5_readLaw_2b (fX5_readLaw_2 n2) v2_1 T2 = some (r, T') := hf
      unfold fX5_readLaw_2b at hf
      have J92 : ∀ (w92_1 : Int32) (w92_2 : Int32) (T92 : bf_TS) (H : Heap) (locs : List Loc) (ls : Array Slot), fX5_readLaw_92 (fX5_readLaw_2 n2) w92_1 w92_2 T92 = some (r, T') → bf_Dy G s H locs (bf_pT G σ o T92) → lv_has ls 3 [(0, .ref o), (1, .int w92_1), (2, .int w92_2)] → W p l e (bf_rm 8) s m ([.ref o] : List Value).toArray below meth c H locs 0 0 Q (F0 m 92 ls []) := by
        intro w92_1 w92_2 T92 H locs ls hf hd hl
        unfold fX5_readLaw_92 at hf
        refine lv_aload_n hx hb dX5_readLaw_92 rfl (lv_at hl 0 rfl) ?_
        refine bf_tga X hd 24 (by decide) (by decide) q1407 dX5_readLaw_93 ?_
        refine lv_iload_n hx hb dX5_readLaw_96 rfl (lv_at hl 2 rfl) ?_
        refine lv_aload_n hx hb dX5_readLaw_97 rfl (lv_at hl 0 rfl) ?_
        refine bf_tgi X hd 28 (by decide) rfl q1411 dX5_readLaw_98 ?_
        obtain ⟨g_41, hf⟩ := bf_c_some hf
        refine bf_tst X hd 24 (by decide) g_41 dX5_readLaw_101 (fun H locs hd => ?_)
        obtain ⟨T_42, eT_42, hf⟩ := bf_l_e hf
        have hd := hd.of (congrArg (bf_pT G σ o) eT_42.symm)
        refine lv_aload_n hx hb dX5_readLaw_102 rfl (lv_at hl 0 rfl) ?_
        refine lv_bipush (v := 59) hx hb dX5_readLaw_103 (by decide) ?_
        refine bf_tcz (n := 1) (As := [.int 59]) (rest := []) X hd (mX5_isSign l G σ o T_42 59 rfl) (lw_V q1676 q1678 qs78 q156 q1679) (by decide +kernel) ⟨Nat.le_of_ble_eq_true rfl, Nat.le_of_ble_eq_true rfl⟩ rfl hl.1 rfl (Nat.le_of_ble_eq_true rfl) dX5_readLaw_105 ⟨Nat.le_of_ble_eq_true rfl, Nat.le_of_ble_eq_true rfl⟩ (fun H locs z_43 hd => ?_)
        refine lv_if_ne (tgt := 117) hx hb dX5_readLaw_108 (by decide) (fun c_44 => ?_) (fun c_44 => ?_)
        · have hf := bf_ie hf c_44
          refine lv_aload_n hx hb dX5_readLaw_117 rfl (lv_at hl 0 rfl) ?_
          obtain ⟨T_45, eT_45, hf⟩ := bf_b_some hf
          refine bf_tcv (n := 0) (As := []) (rest := []) X hd (mX5_reads l G σ o T_42 eT_45) (lw_V q1624 q1626 qs65 q156 q1627) (by decide +kernel) ⟨Nat.le_of_ble_eq_true rfl, Nat.le_of_ble_eq_true rfl⟩ rfl hl.1 rfl (Nat.le_of_ble_eq_true rfl) dX5_readLaw_118 ⟨Nat.le_of_ble_eq_true rfl, Nat.le_of_ble_eq_true rfl⟩ (fun H locs hd => ?_)
          refine lv_iload_n hx hb dX5_readLaw_121 rfl (lv_at hl 1 rfl) ?_
          refine lv_iconst (v := 1) hx hb dX5_readLaw_122 (by decide) ?_
          refine lv_iadd hx hb dX5_readLaw_123 ?_
          obtain ⟨x1_46, ex1_46, hf⟩ := bf_l_e hf
          refine bf_top ex1_46 ?_
          refine lv_istore_n (lv' := [(1, .int x1_46), (0, .ref o), (2, .int w92_2)]) hx hb dX5_readLaw_124 rfl hl (by decide) rfl (fun ls hl => ?_)
          refine lv_goto (tgt := 2) hx hb dX5_readLaw_125 (by decide) ?_
          exact ih2 x1_46 T_45 _ _ _ hf hd (lv_sub hl [1, 0] rfl)
        · have hf := bf_it hf c_44
          exact J111 T_42 _ _ _ hf hd (lv_sub hl [0] rfl)
      refine lv_aload_n hx hb dX5_readLaw_2 rfl (lv_at hl 0 rfl) ?_
      refine bf_tcz (n := 0) (As := []) (rest := []) X hd (mX5_isLineWord l G σ o T2 rfl) (lw_V q1696 q1698 qs83 q156 q1699) (by decide +kernel) ⟨Nat.le_of_ble_eq_true rfl, Nat.le_of_ble_eq_true rfl⟩ rfl hl.1 rfl (Nat.le_of_ble_eq_true rfl) dX5_readLaw_3 ⟨Nat.le_of_ble_eq_true rfl, Nat.le_of_ble_eq_true rfl⟩ (fun H locs z_47 hd => ?_)
      refine lv_if_eq (tgt := 128) hx hb dX5_readLaw_6 (by decide) (fun c_48 => ?_) (fun c_48 => ?_)
      · have hf := bf_it hf c_48
        exact J128 v2_1 T2 _ _ _ hf hd (lv_sub hl [0, 1] rfl)
      · have hf := bf_ie hf c_48
        refine lv_iload_n hx hb dX5_readLaw_9 rfl (lv_at hl 1 rfl) ?_
        refine lv_bipush (v := 16) hx hb dX5_readLaw_10 (by decide) ?_
        refine lv_icmp_ne (tgt := 21) hx hb dX5_readLaw_12 (by decide) (fun c_49 => ?_) (fun c_49 => ?_)
        · have hf := bf_ie hf c_49
          refine lv_bipush (v := 32) hx hb dX5_readLaw_21 (by decide) ?_
          refine lv_iload_n hx hb dX5_readLaw_23 rfl (lv_at hl 1 rfl) ?_
          refine lv_iadd hx hb dX5_readLaw_24 ?_
          obtain ⟨x2_50, ex2_50, hf⟩ := bf_l_e hf
          refine bf_top ex2_50 ?_
          refine lv_istore_n (lv' := [(2, .int x2_50), (0, .ref o), (1, .int v2_1)]) hx hb dX5_readLaw_25 rfl hl (by decide) rfl (fun ls hl => ?_)
          refine lv_aload_n hx hb dX5_readLaw_26 rfl (lv_at hl 1 rfl) ?_
          refine bf_tga X hd 21 (by decide) (by decide) q1404 dX5_readLaw_27 ?_
          refine lv_iload_n hx hb dX5_readLaw_30 rfl (lv_at hl 0 rfl) ?_
          refine lv_aload_n hx hb dX5_readLaw_31 rfl (lv_at hl 1 rfl) ?_
          refine bf_tgi X hd 18 (by decide) rfl q1401 dX5_readLaw_32 ?_
          obtain ⟨g_51, hf⟩ := bf_c_some hf
          refine bf_tst X hd 21 (by decide) g_51 dX5_readLaw_35 (fun H locs hd => ?_)
          obtain ⟨T_52, eT_52, hf⟩ := bf_l_e hf
          have hd := hd.of (congrArg (bf_pT G σ o) eT_52.symm)
          refine lv_aload_n hx hb dX5_readLaw_36 rfl (lv_at hl 1 rfl) ?_
          obtain ⟨T_53, eT_53, hf⟩ := bf_b_some hf
          refine bf_tcv (n := 0) (As := []) (rest := []) X hd (mX5_reads l G σ o T_52 eT_53) (lw_V q1624 q1626 qs65 q156 q1627) (by decide +kernel) ⟨Nat.le_of_ble_eq_true rfl, Nat.le_of_ble_eq_true rfl⟩ rfl hl.1 rfl (Nat.le_of_ble_eq_true rfl) dX5_readLaw_37 ⟨Nat.le_of_ble_eq_true rfl, Nat.le_of_ble_eq_true rfl⟩ (fun H locs hd => ?_)
          refine lv_aload_n hx hb dX5_readLaw_40 rfl (lv_at hl 1 rfl) ?_
          refine bf_tga X hd 22 (by decide) (by decide) q1405 dX5_readLaw_41 ?_
          refine lv_iload_n hx hb dX5_readLaw_44 rfl (lv_at hl 0 rfl) ?_
          refine lv_aload_n hx hb dX5_readLaw_45 rfl (lv_at hl 1 rfl) ?_
          refine bf_tgi X hd 28 (by decide) rfl q1411 dX5_readLaw_46 ?_
          obtain ⟨g_54, hf⟩ := bf_c_some hf
          refine bf_tst X hd 22 (by decide) g_54 dX5_readLaw_49 (fun H locs hd => ?_)
          obtain ⟨T_55, eT_55, hf⟩ := bf_l_e hf
          have hd := hd.of (congrArg (bf_pT G σ o) eT_55.symm)
          refine lv_aload_n hx hb dX5_readLaw_50 rfl (lv_at hl 1 rfl) ?_
          obtain ⟨r_57, T_56, er_57, hf⟩ := bf_b2_some hf
          refine bf_tci (n := 0) (As := []) (rest := []) X hd (mX5_readSum l G σ o T_55 er_57) (lw_V q1700 q1702 qs84 q156 q1703) (by decide +kernel) ⟨Nat.le_of_ble_eq_true rfl, Nat.le_of_ble_eq_true rfl⟩ rfl hl.1 rfl (Nat.le_of_ble_eq_true rfl) dX5_readLaw_51 ⟨Nat.le_of_ble_eq_true rfl, Nat.le_of_ble_eq_true rfl⟩ (fun H locs hd => ?_)
          refine lv_iconst (v := (-1)) hx hb dX5_readLaw_54 (by decide) ?_
          refine lv_icmp_ne (tgt := 60) hx hb dX5_readLaw_55 (by decide) (fun c_58 => ?_) (fun c_58 => ?_)
          · have hf := bf_ie hf c_58
            refine lv_aload_n hx hb dX5_readLaw_60 rfl (lv_at hl 1 rfl) ?_
            refine bf_tga X hd 23 (by decide) (by decide) q1406 dX5_readLaw_61 ?_
            refine lv_iload_n hx hb dX5_readLaw_64 rfl (lv_at hl 0 rfl) ?_
            refine lv_aload_n hx hb dX5_readLaw_65 rfl (lv_at hl 1 rfl) ?_
            refine bf_tgi X hd 28 (by decide) rfl q1411 dX5_readLaw_66 ?_
            obtain ⟨g_59, hf⟩ := bf_c_some hf
            refine bf_tst X hd 23 (by decide) g_59 dX5_readLaw_69 (fun H locs hd => ?_)
            obtain ⟨T_60, eT_60, hf⟩ := bf_l_e hf
            have hd := hd.of (congrArg (bf_pT G σ o) eT_60.symm)
            refine lv_aload_n hx hb dX5_readLaw_70 rfl (lv_at hl 1 rfl) ?_
            refine lv_iconst (v := 3) hx hb dX5_readLaw_71 (by decide) ?_
            refine bf_tcz (n := 1) (As := [.int 3]) (rest := []) X hd (mX5_isWord l G σ o T_60 3 rfl) (lw_V q1652 q1654 qs72 q156 q1655) (by decide +kernel) ⟨Nat.le_of_ble_eq_true rfl, Nat.le_of_ble_eq_true rfl⟩ rfl hl.1 rfl (Nat.le_of_ble_eq_true rfl) dX5_readLaw_72 ⟨Nat.le_of_ble_eq_true rfl, Nat.le_of_ble_eq_true rfl⟩ (fun H locs z_61 hd => ?_)
            refine lv_if_eq (tgt := 92) hx hb dX5_readLaw_75 (by decide) (fun c_62 => ?_) (fun c_62 => ?_)
            · have hf := bf_it hf c_62
              exact J92 v2_1 x2_50 T_60 _ _ _ hf hd (lv_sub hl [1, 2, 0] rfl)
            · have hf := bf_ie hf c_62
              refine lv_aload_n hx hb dX5_readLaw_78 rfl (lv_at hl 1 rfl) ?_
              obtain ⟨T_63, eT_63, hf⟩ := bf_b_some hf
              refine bf_tcv (n := 0) (As := []) (rest := []) X hd (mX5_reads l G σ o T_60 eT_63) (lw_V q1624 q1626 qs65 q156 q1627) (by decide +kernel) ⟨Nat.le_of_ble_eq_true rfl, Nat.le_of_ble_eq_true rfl⟩ rfl hl.1 rfl (Nat.le_of_ble_eq_true rfl) dX5_readLaw_79 ⟨Nat.le_of_ble_eq_true rfl, Nat.le_of_ble_eq_true rfl⟩ (fun H locs hd => ?_)
              refine lv_aload_n hx hb dX5_readLaw_82 rfl (lv_at hl 1 rfl) ?_
              obtain ⟨r_65, T_64, er_65, hf⟩ := bf_b2_some hf
              refine bf_tci (n := 0) (As := []) (rest := []) X hd (mX5_readAny l G σ o T_63 er_65) (lw_V q1720 q1722 qs89 q156 q1723) (by decide +kernel) ⟨Nat.le_of_ble_eq_true rfl, Nat.le_of_ble_eq_true rfl⟩ rfl hl.1 rfl (Nat.le_of_ble_eq_true rfl) dX5_readLaw_83 ⟨Nat.le_of_ble_eq_true rfl, Nat.le_of_ble_eq_true rfl⟩ (fun H locs hd => ?_)
              refine lv_iconst (v := (-1)) hx hb dX5_readLaw_86 (by decide) ?_
              refine lv_icmp_ne (tgt := 92) hx hb dX5_readLaw_87 (by decide) (fun c_66 => ?_) (fun c_66 => ?_)
              · have hf := bf_ie hf c_66
                exact J92 v2_1 x2_50 T_64 _ _ _ hf hd (lv_sub hl [1, 2, 0] rfl)
              · have hf := bf_it hf c_66
                refine lv_iconst (v := (-1)) hx hb dX5_readLaw_90 (by decide) ?_
                exact kret _ _ _ _ _ _ ⟨(bf_pr hf).1, congrArg (bf_pT G σ o) (bf_pr hf).2⟩ hd dX5_readLaw_91
          · have hf := bf_it hf c_58
            refine lv_iconst (v := (-1)) hx hb dX5_readLaw_58 (by decide) ?_
            exact kret _ _ _ _ _ _ ⟨(bf_pr hf).1, congrArg (bf_pT G σ o) (bf_pr hf).2⟩ hd dX5_readLaw_59
        · have hf := bf_it hf c_49
          exact J15 T2 _ _ _ hf hd (lv_sub hl [0] rfl)
  unfold fX5_readLaw at hf
  refine lv_iconst (v := 0) hx hb dX5_readLaw_0 (by decide) ?_
  refine lv_istore_n (lv' := [(1, .int 0), (0, .ref o)]) hx hb dX5_readLaw_1 rfl hl (by decide) rfl (fun ls hl => ?_)
  exact L2 bf_fuel 0 T _ _ _ hf hd (lv_sub hl [1, 0] rfl)
