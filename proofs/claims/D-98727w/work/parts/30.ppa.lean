set_option maxRecDepth 100000
def fX14_places_4b (pd : Nat × (Nat → Int32)) (k4 : Int32 → Int32 → Option (Int32)) (v4_1 : Int32) (v4_2 : Int32) : Option (Int32) := if (Int32.ofNat pd.1) ≤ v4_2 then (some v4_1) else (bf_c (bf_in v4_2 pd.1) <| bf_l ((v4_1 ||| (1 <<< ((pd.2 v4_2.toNatClampNeg) &&& 31)))) fun x1_3 => bf_l (v4_2 + 1) fun x2_4 => k4 x1_3 x2_4)
def fX14_places_4 (pd : Nat × (Nat → Int32)) : Nat → Int32 → Int32 → Option (Int32)
  | 0, _, _ => none
  | n + 1, v4_1, v4_2 => fX14_places_4b pd (fX14_places_4 pd n) v4_1 v4_2
def fX14_places (pd : Nat × (Nat → Int32)) : Option (Int32) := fX14_places_4 pd bf_fuel 0 0
set_option maxHeartbeats 4000000 in
theorem mX14_places (l : Launch) (G : bf_G) (σ : bf_V) (a : Nat) (V : Nat → Value) (pr : Nat) (pd : Nat × (Nat → Int32)) (ha : σ.1 a = some (.inr (13, V))) (hV : V 0 = .ref pr) (hp : σ.1 pr = some (.inl (G.2.1 0, pd.1, .inl pd.2))) {r : Int32} (hf : fX14_places pd = some r) : bf_MI l G yX14_places cX14_places 3 (bf_rm 0) [.ref a] σ (fun v σ' => v = r ∧ σ' = σ) := by
  refine bf_MI.of rfl (Nat.le_of_ble_eq_true rfl) ?_
  intro p e s m below meth c Q X hlk hnm kret hd ls hl
  have hx := X.1
  have hb := X.2.1
  have hown := X.2.2.2.1
  have hts := X.2.2.2.2
  have hl : lv_has ls 3 [(0, .ref a)] := hl
  have L4 : ∀ (n4 : Nat) (v4_1 : Int32) (v4_2 : Int32) (H : Heap) (locs : List Loc) (ls : Array Slot), fX14_places_4 pd n4 v4_1 v4_2 = some r → bf_Dy G s H locs σ → lv_has ls 3 [(0, .ref a), (1, .int v4_1), (2, .int v4_2)] → W p l e (bf_rm 0) s m ([.ref a] : List Value).toArray below meth c H locs 0 0 Q (F0 m 4 ls []) := by
    intro n4
    induction n4 with
    | zero =>
      intro v4_1 v4_2 H locs ls hf hd hl
      exact absurd (show (none : Option (Int32)) = some r from hf) (by intro h; cases h)
    | succ n4 ih4 =>
      intro v4_1 v4_2 H locs ls hf hd hl
      have hf : fX14_places_4b pd (fX14_places_4 pd n4) v4_1 v4_2 = some r := hf
      unfold fX14_places_4b at hf
      refine lv_iload_n hx hb dX14_places_4 rfl (lv_at hl 2 rfl) ?_
      refine lv_aload_n hx hb dX14_places_5 rfl (lv_at hl 0 rfl) ?_
      refine bf_get (v := .ref pr) X hd ha (ci := 13) rfl in_X14 0 (by decide) q896 rfl hV dX14_places_6 ?_
      refine bf_alen X hd hp 0 rfl dX14_places_9 ?_
      refine lv_icmp_ge (tgt := 30) hx hb dX14_places_10 (by decide) (fun c_5 => ?_) (fun c_5 => ?_)
      · have hf := bf_it hf c_5
        refine lv_iload_n hx hb dX14_places_30 rfl (lv_at hl 1 rfl) ?_
        exact kret _ _ _ _ _ _ ⟨bf_so hf, rfl⟩ hd dX14_places_31
      · have hf := bf_ie hf c_5
        refine lv_iload_n hx hb dX14_places_13 rfl (lv_at hl 1 rfl) ?_
        refine lv_iconst (v := 1) hx hb dX14_places_14 (by decide) ?_
        refine lv_aload_n hx hb dX14_places_15 rfl (lv_at hl 0 rfl) ?_
        refine bf_get (v := .ref pr) X hd ha (ci := 13) rfl in_X14 0 (by decide) q896 rfl hV dX14_places_16 ?_
        refine lv_iload_n hx hb dX14_places_19 rfl (lv_at hl 2 rfl) ?_
        obtain ⟨g_6, hf⟩ := bf_c_some hf
        refine bf_iald X hd hp g_6 dX14_places_20 ?_
        refine lv_ishl hx hb dX14_places_21 ?_
        refine lv_ior hx hb dX14_places_22 ?_
        obtain ⟨x1_7, ex1_7, hf⟩ := bf_l_e hf
        refine bf_top ex1_7 ?_
        refine lv_istore_n (lv' := [(1, .int x1_7), (0, .ref a), (2, .int v4_2)]) hx hb dX14_places_23 rfl hl (by decide) rfl (fun ls hl => ?_)
        obtain ⟨x2_8, ex2_8, hf⟩ := bf_l_e hf
        refine lv_iinc (v := x2_8) (lv' := [(2, .int x2_8), (1, .int x1_7), (0, .ref a)]) hx hb dX14_places_24 hl (k := 2) rfl (by rw [ex2_8]; rfl) (by decide) rfl (fun ls hl => ?_)
        refine lv_goto (tgt := 4) hx hb dX14_places_27 (by decide) ?_
        exact ih4 x1_7 x2_8 _ _ _ hf hd (lv_sub hl [2, 1, 0] rfl)
  unfold fX14_places at hf
  refine lv_iconst (v := 0) hx hb dX14_places_0 (by decide) ?_
  refine lv_istore_n (lv' := [(1, .int 0), (0, .ref a)]) hx hb dX14_places_1 rfl hl (by decide) rfl (fun ls hl => ?_)
  refine lv_iconst (v := 0) hx hb dX14_places_2 (by decide) ?_
  refine lv_istore_n (lv' := [(2, .int 0), (1, .int 0), (0, .ref a)]) hx hb dX14_places_3 rfl hl (by decide) rfl (fun ls hl => ?_)
  exact L4 bf_fuel 0 0 _ _ _ hf hd (lv_sub hl [2, 1, 0] rfl)
