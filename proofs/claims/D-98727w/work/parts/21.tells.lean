/-! WHAT THE LAW TELLS -/
set_option maxRecDepth 100000
def bf_tells (F : Int32 → Option Int32) (w wo mo : Int32) : List bf_Ln → Option Int32
  | [] => some (bf_mmax 0 (bf_mmin mo wo))
  | ln :: r => if ln.1 = w then bf_q ln.2.2 (bf_b (bf_val F ln.2.1) fun v => some (bf_mmax 0 (bf_mmin mo v))) (fun wh => bf_b (bf_val F wh) fun z => if z = 1 then (bf_b (bf_val F ln.2.1) fun v => some (bf_mmax 0 (bf_mmin mo v))) else bf_tells F w wo mo r) else bf_tells F w wo mo r
def fX1_tells (D : bf_D) (T : bf_CS) (x1 x2 x3 : Int32) : Option Int32 := bf_tells (fX1_fact T) x1 x2 x3 D.2.1
theorem bf_zAll_len {α : Type} {Q : Nat → α → Prop} : ∀ {es : List Nat} {xs : List α}, bf_zAll Q es xs → es.length = xs.length
  | [], [], _ => rfl
  | a :: l, x :: m, h => by simp only [List.length_cons]; rw [bf_zAll_len h.2]
  | [], _ :: _, h => h.elim
  | _ :: _, [], h => h.elim
theorem bf_zAll_get {α : Type} {Q : Nat → α → Prop} : ∀ {es : List Nat} {xs : List α} {i : Nat} {x : α}, bf_zAll Q es xs → xs[i]? = some x → ∃ a, es[i]? = some a ∧ Q a x
  | [], [], i, x, _, h => by simp at h
  | a :: l, y :: m, 0, x, h, hx => by
    simp only [List.getElem?_cons_zero, Option.some.injEq] at hx
    subst hx
    exact ⟨a, rfl, h.1⟩
  | a :: l, y :: m, i + 1, x, h, hx => by
    simp only [List.getElem?_cons_succ] at hx ⊢
    exact bf_zAll_get h.2 hx
  | [], _ :: _, _, _, h, _ => h.elim
  | _ :: _, [], _, _, h, _ => h.elim
theorem bf_in_nI {k n : Nat} (h : k < n) (hk : k < 2 ^ 31) : bf_in (nI k) n = true := by
  unfold bf_in
  rw [nI_clamp hk]
  simp only [Bool.and_eq_true, Bool.not_eq_true', decide_eq_false_iff_not, decide_eq_true_eq]
  exact ⟨nI_pos hk, h⟩
set_option maxHeartbeats 4000000 in
theorem mX1_tells (l : Launch) (G : bf_G) (ν : bf_V) (c : Nat) (q : Nat → Nat) (D : bf_D) (hz : bf_Z G ν c q D) (T : bf_CS) (x1 x2 x3 : Int32) {r : Int32} (hf : fX1_tells D T x1 x2 x3 = some r) : bf_MI l G yX1_tells cX1_tells 6 (bf_rm 430) [.ref c, .int x1, .int x2, .int x3] (bf_pC G ν c q T) (fun v σ' => v = r ∧ σ' = bf_pC G ν c q T) := by
  obtain ⟨-, ⟨es, ⟨V, hV, hV2, hlen, hE⟩, hA⟩, -⟩ := hz
  have hle := bf_zAll_len hA
  refine bf_MI.of rfl (Nat.le_of_ble_eq_true rfl) ?_
  intro p e s m below meth c' Q X hlk hnm kret hd ls hl
  have hx := X.1
  have hb := X.2.1
  have hml := X.2.2.1
  have hown := X.2.2.2.1
  have hts := X.2.2.2.2
  have hl : lv_has ls 6 [(0, .ref c), (1, .int x1), (2, .int x2), (3, .int x3)] := hl
  have hC := bf_pC_hC G ν c q T
  have L3 : ∀ (L : List bf_Ln) (k : Nat) (H : Heap) (locs : List Loc) (ls : Array Slot), k ≤ es.length → L = D.2.1.drop k → bf_tells (fX1_fact T) x1 x2 x3 L = some r → bf_Dy G s H locs (bf_pC G ν c q T) → lv_has ls 6 [(0, .ref c), (1, .int x1), (2, .int x2), (3, .int x3), (4, .int (nI k))] → W p l e (bf_rm 430) s m ([.ref c, .int x1, .int x2, .int x3] : List Value).toArray below meth c' H locs 0 0 Q (F0 m 3 ls []) := by
    intro L
    induction L with
    | nil =>
      intro k H locs ls hk hL hf hd hl
      have hk2 : es.length ≤ k := by
        have := congrArg List.length hL
        simp only [List.length_nil, List.length_drop] at this
        omega
      refine lv_iload hx hb dX1_tells_3 (lv_at hl 4 rfl) ?_
      refine lv_aload_n hx hb dX1_tells_5 rfl (lv_at hl 0 rfl) ?_
      refine bf_rC (v := .ref (q 1)) X hd hC 8 (by decide) (Or.inl q316) rfl dX1_tells_6 ?_
      refine bf_cVi (n := 0) (As := []) (rest := [.int (nI k)]) X hd (mJ2_size l G _ (q 1) V (nI es.length) (bf_fz_at hV) hV2) (lw_V q1074 q709 q710 q152 q711) (by decide +kernel) ⟨Nat.le_of_ble_eq_true rfl, Nat.le_of_ble_eq_true rfl⟩ (bf_recv hd (bf_fz_at hV) (q := (RJ2, TJ2, 3)) rfl) rfl hl.1 rfl (Nat.le_of_ble_eq_true rfl) dX1_tells_9 ⟨Nat.le_of_ble_eq_true rfl, Nat.le_of_ble_eq_true rfl⟩ (fun v σ' H locs hF hd => ?_)
      rw [hF.2] at hd
      refine bf_top hF.1.symm ?_
      refine lv_icmp_ge (tgt := 83) hx hb dX1_tells_12 (by decide) (fun c1 => ?_) (fun c1 => absurd (nI_le hk2 (by omega)) c1)
      refine lv_iconst (v := 0) hx hb dX1_tells_83 (by decide) ?_
      refine lv_iload_n hx hb dX1_tells_84 rfl (lv_at hl 3 rfl) ?_
      refine lv_iload_n hx hb dX1_tells_85 rfl (lv_at hl 2 rfl) ?_
      refine va_mmin hx hb (hml.trans hl.1.symm) hown (hts _ q1065) (hts _ q875) (hts _ q157) (hts _ q876) (Nat.le_of_ble_eq_true rfl) (Nat.le_of_ble_eq_true rfl) (Nat.le_of_ble_eq_true rfl) (Nat.le_of_ble_eq_true rfl) dX1_tells_86 ?_
      refine va_mmax hx hb (hml.trans hl.1.symm) hown (hts _ q1171) (hts _ q836) (hts _ q157) (hts _ q837) (Nat.le_of_ble_eq_true rfl) (Nat.le_of_ble_eq_true rfl) (Nat.le_of_ble_eq_true rfl) (Nat.le_of_ble_eq_true rfl) dX1_tells_89 ?_
      exact kret _ _ _ _ _ _ ⟨bf_so hf, rfl⟩ hd dX1_tells_92
    | cons ln L ih =>
      intro k H locs ls hk hL hf hd hl
      have hk2 : k < es.length := by
        have := congrArg List.length hL
        simp only [List.length_cons, List.length_drop] at this
        omega
      have hget : D.2.1[k]? = some ln := by
        have : (D.2.1.drop k)[0]? = some ln := by rw [← hL]; rfl
        rw [List.getElem?_drop] at this
        exact this
      have hL2 : L = D.2.1.drop (k + 1) := by
        have : L = (D.2.1.drop k).drop 1 := by rw [← hL]; rfl
        rw [List.drop_drop] at this
        exact this
      obtain ⟨a, ha, VL, t, hP, h0, h1, hT1, hN, hS⟩ := bf_zAll_get hA hget
      obtain ⟨b, n, f, hV1, hb1, hn, hfi⟩ := hE (by omega)
      have hk31 : k < 2 ^ 31 := by omega
      unfold bf_tells at hf
      have J77 : ∀ (H : Heap) (locs : List Loc) (ls : Array Slot), bf_tells (fX1_fact T) x1 x2 x3 L = some r → bf_Dy G s H locs (bf_pC G ν c q T) → lv_has ls 6 [(0, .ref c), (1, .int x1), (2, .int x2), (3, .int x3), (4, .int (nI k))] → W p l e (bf_rm 430) s m ([.ref c, .int x1, .int x2, .int x3] : List Value).toArray below meth c' H locs 0 0 Q (F0 m 77 ls []) := by
        intro H locs ls hf hd hl
        refine lv_iinc (v := nI (k + 1)) (lv' := [(4, .int (nI (k + 1))), (0, .ref c), (1, .int x1), (2, .int x2), (3, .int x3)]) hx hb dX1_tells_77 hl (k := 4) rfl (by rw [← nI_1]; rfl) (by decide) rfl (fun ls hl => ?_)
        refine lv_goto (tgt := 3) hx hb dX1_tells_80 (by decide) ?_
        exact ih (k + 1) _ _ _ (by omega) hL2 hf hd (lv_sub hl [1, 2, 3, 4, 0] rfl)
      have J59 : ∀ (v : Int32) (H : Heap) (locs : List Loc) (ls : Array Slot), bf_val (fX1_fact T) ln.2.1 = some v → bf_mmax 0 (bf_mmin x3 v) = r → bf_Dy G s H locs (bf_pC G ν c q T) → lv_has ls 6 [(0, .ref c), (1, .int x1), (2, .int x2), (3, .int x3), (4, .int (nI k)), (5, .ref a)] → W p l e (bf_rm 430) s m ([.ref c, .int x1, .int x2, .int x3] : List Value).toArray below meth c' H locs 0 0 Q (F0 m 59 ls []) := by
        intro v H locs ls hv hr hd hl
        refine lv_iconst (v := 0) hx hb dX1_tells_59 (by decide) ?_
        refine lv_iload_n hx hb dX1_tells_60 rfl (lv_at hl 3 rfl) ?_
        refine lv_aload hx hb dX1_tells_61 (lv_at hl 5 rfl) ?_
        refine bf_getL X hd (bf_fz_at hP) (ci := 12) rfl in_X13 1 (by decide) (Or.inr ⟨_, q806⟩) rfl h1 dX1_tells_63 ?_
        refine lv_aload_n hx hb dX1_tells_66 rfl (lv_at hl 0 rfl) ?_
        refine bf_cT X hd hT1 (bf_terms l G ν c q T 420 t ln.2.1 v hT1 (bf_zT_E1 hT1 hv)) q1144 ⟨Nat.le_of_ble_eq_true rfl, Nat.le_of_ble_eq_true rfl⟩ hl.1 (Nat.le_of_ble_eq_true rfl) dX1_tells_67 ⟨Nat.le_of_ble_eq_true rfl, Nat.le_of_ble_eq_true rfl⟩ (fun H locs hd => ?_)
        refine va_mmin hx hb (hml.trans hl.1.symm) hown (hts _ q1065) (hts _ q875) (hts _ q157) (hts _ q876) (Nat.le_of_ble_eq_true rfl) (Nat.le_of_ble_eq_true rfl) (Nat.le_of_ble_eq_true rfl) (Nat.le_of_ble_eq_true rfl) dX1_tells_70 ?_
        refine va_mmax hx hb (hml.trans hl.1.symm) hown (hts _ q1171) (hts _ q836) (hts _ q157) (hts _ q837) (Nat.le_of_ble_eq_true rfl) (Nat.le_of_ble_eq_true rfl) (Nat.le_of_ble_eq_true rfl) (Nat.le_of_ble_eq_true rfl) dX1_tells_73 ?_
        exact kret _ _ _ _ _ _ ⟨hr, rfl⟩ hd dX1_tells_76
      refine lv_iload hx hb dX1_tells_3 (lv_at hl 4 rfl) ?_
      refine lv_aload_n hx hb dX1_tells_5 rfl (lv_at hl 0 rfl) ?_
      refine bf_rC (v := .ref (q 1)) X hd hC 8 (by decide) (Or.inl q316) rfl dX1_tells_6 ?_
      refine bf_cVi (n := 0) (As := []) (rest := [.int (nI k)]) X hd (mJ2_size l G _ (q 1) V (nI es.length) (bf_fz_at hV) hV2) (lw_V q1074 q709 q710 q152 q711) (by decide +kernel) ⟨Nat.le_of_ble_eq_true rfl, Nat.le_of_ble_eq_true rfl⟩ (bf_recv hd (bf_fz_at hV) (q := (RJ2, TJ2, 3)) rfl) rfl hl.1 rfl (Nat.le_of_ble_eq_true rfl) dX1_tells_9 ⟨Nat.le_of_ble_eq_true rfl, Nat.le_of_ble_eq_true rfl⟩ (fun v σ' H locs hF hd => ?_)
      rw [hF.2] at hd
      refine bf_top hF.1.symm ?_
      refine lv_icmp_ge (tgt := 83) hx hb dX1_tells_12 (by decide) (fun c1 => absurd c1 (nI_ge hk2 (by omega))) (fun c1 => ?_)
      refine lv_aload_n hx hb dX1_tells_15 rfl (lv_at hl 0 rfl) ?_
      refine bf_rC (v := .ref (q 1)) X hd hC 8 (by decide) (Or.inl q316) rfl dX1_tells_16 ?_
      refine lv_iload hx hb dX1_tells_19 (lv_at hl 4 rfl) ?_
      refine bf_cVq (n := 1) (As := [.int (nI k)]) (rest := []) X hd (mJ2_get l G _ (q 1) V b n f (nI es.length) (nI k) (bf_fz_at hV) hV1 hV2 (bf_fz_at hb1) (nI_pos hk31) (nI_lt hk2 hlen) (bf_in_nI (by omega) hk31)) (lw_V q1075 q1076 q1077 q152 q1078) (by decide +kernel) ⟨Nat.le_of_ble_eq_true rfl, Nat.le_of_ble_eq_true rfl⟩ (bf_recv hd (bf_fz_at hV) (q := (RJ2, TJ2, 3)) rfl) rfl hl.1 rfl (Nat.le_of_ble_eq_true rfl) dX1_tells_21 ⟨Nat.le_of_ble_eq_true rfl, Nat.le_of_ble_eq_true rfl⟩ (fun w σ' H locs hF hd => ?_)
      rw [hF.2] at hd
      refine bf_ift (q' := some a) (by rw [hF.1, nI_clamp hk31, hfi k hk2, ha]) ?_
      refine va_castS hx hb hown (hts _ q1143) (hd.K.1 12 _ rfl).2 (bf_recv hd (bf_fz_at hP) (q := (RX13, TX13, 3)) rfl) dX1_tells_24 ?_
      refine lv_astore (lv' := [(5, .ref a), (0, .ref c), (1, .int x1), (2, .int x2), (3, .int x3), (4, .int (nI k))]) hx hb dX1_tells_27 hl (by decide) rfl (fun ls hl => ?_)
      refine lv_aload hx hb dX1_tells_29 (lv_at hl 0 rfl) ?_
      refine bf_getL X hd (bf_fz_at hP) (ci := 12) rfl in_X13 0 (by decide) (Or.inr ⟨_, q804⟩) rfl h0 dX1_tells_31 ?_
      refine lv_iload_n hx hb dX1_tells_34 rfl (lv_at hl 2 rfl) ?_
      refine lv_icmp_ne (tgt := 77) hx hb dX1_tells_35 (by decide) (fun c2 => ?_) (fun c2 => ?_)
      · exact J77 _ _ _ (bf_ie hf c2) hd (lv_sub hl [1, 2, 3, 4, 5] rfl)
      · have hf := bf_it hf c2
        refine lv_aload hx hb dX1_tells_38 (lv_at hl 0 rfl) ?_
        rcases bf_opt ln.2.2 with ew | ⟨wh, ew⟩
        · have hf := bf_q_n hf ew
          obtain ⟨v, hv, hf⟩ := bf_b_some hf
          refine bf_getL X hd (bf_fz_at hP) (ci := 12) rfl in_X13 2 (by decide) (Or.inr ⟨_, q808⟩) rfl (hN ew) dX1_tells_40 ?_
          refine lv_ifnullN (tgt := 59) hx hb dX1_tells_43 (by decide) ?_
          exact J59 v _ _ _ hv (bf_so hf) hd (lv_sub hl [1, 2, 3, 4, 5, 0] rfl)
        · have hf := bf_q_s hf ew
          obtain ⟨z, hv, hf⟩ := bf_b_some hf
          obtain ⟨u, hu, hT2⟩ := hS wh ew
          refine bf_getL X hd (bf_fz_at hP) (ci := 12) rfl in_X13 2 (by decide) (Or.inr ⟨_, q808⟩) rfl hu dX1_tells_40 ?_
          refine lv_ifnull hx hb dX1_tells_43 ?_
          refine lv_aload hx hb dX1_tells_46 (lv_at hl 0 rfl) ?_
          refine bf_getL X hd (bf_fz_at hP) (ci := 12) rfl in_X13 2 (by decide) (Or.inr ⟨_, q808⟩) rfl hu dX1_tells_48 ?_
          refine lv_aload_n hx hb dX1_tells_51 rfl (lv_at hl 1 rfl) ?_
          refine bf_cT X hd hT2 (bf_terms l G ν c q T 420 u wh z hT2 (bf_zT_E1 hT2 hv)) q1144 ⟨Nat.le_of_ble_eq_true rfl, Nat.le_of_ble_eq_true rfl⟩ hl.1 (Nat.le_of_ble_eq_true rfl) dX1_tells_52 ⟨Nat.le_of_ble_eq_true rfl, Nat.le_of_ble_eq_true rfl⟩ (fun H locs hd => ?_)
          refine lv_iconst (v := 1) hx hb dX1_tells_55 (by decide) ?_
          refine lv_icmp_ne (tgt := 77) hx hb dX1_tells_56 (by decide) (fun c3 => ?_) (fun c3 => ?_)
          · exact J77 _ _ _ (bf_ie hf c3) hd (lv_sub hl [1, 2, 3, 4, 5] rfl)
          · obtain ⟨v, hv, hf⟩ := bf_b_some (bf_it hf c3)
            exact J59 v _ _ _ hv (bf_so hf) hd (lv_sub hl [1, 2, 3, 4, 5, 0] rfl)
  refine lv_iconst (v := 0) hx hb dX1_tells_0 (by decide) ?_
  refine lv_istore (lv' := [(4, .int 0), (0, .ref c), (1, .int x1), (2, .int x2), (3, .int x3)]) hx hb dX1_tells_1 hl (by decide) rfl (fun ls hl => ?_)
  exact L3 D.2.1 0 _ _ _ (Nat.zero_le _) rfl hf hd (lv_sub hl [1, 2, 3, 4, 0] rfl)
