/-! TERMS: what a term's 'of' answers is what its codes come to. -/
set_option maxRecDepth 100000
theorem bf_fz_eq {ν : bf_V} {c a : Nat} {x y : bf_E} (h : bf_fz ν c a x) (h' : bf_fz ν c a y) : x = y := Option.some.inj (h.1.symm.trans h'.1)
theorem bf_ev_app (F : Int32 → Option Int32) : ∀ (c1 c2 : bf_Cd) (st : List Int32), bf_ev F (c1 ++ c2) st = (bf_ev F c1 st).bind (bf_ev F c2) := by
  intro c1
  induction c1 with
  | nil => intro c2 st; rfl
  | cons a r ih =>
    intro c2 st
    obtain ⟨k, v⟩ := a
    show bf_ev F ((k, v) :: (r ++ c2)) st = _
    unfold bf_ev
    by_cases h0 : k = 0
    · rw [if_pos h0, if_pos h0]; exact ih c2 _
    rw [if_neg h0, if_neg h0]
    by_cases h1 : k = 1
    · rw [if_pos h1, if_pos h1]
      cases F v with
      | none => rfl
      | some z => exact ih c2 _
    rw [if_neg h1, if_neg h1]
    by_cases h9 : k = 9
    · rw [if_pos h9, if_pos h9]
      cases st with
      | nil => rfl
      | cons x t => exact ih c2 _
    rw [if_neg h9, if_neg h9]
    cases st with
    | nil => rfl
    | cons y t =>
      cases t with
      | nil => rfl
      | cons x t =>
        show (match bf_op2 k x y with | none => none | some z => bf_ev F (r ++ c2) (z :: t)) = Option.bind (match bf_op2 k x y with | none => none | some z => bf_ev F r (z :: t)) _
        cases bf_op2 k x y with
        | none => rfl
        | some z => exact ih c2 _
/-- codes that come to v -/
def bf_E1 (F : Int32 → Option Int32) (cs : bf_Cd) (v : Int32) : Prop := ∀ st, bf_ev F cs st = some (v :: st)
theorem bf_opc_cases (how : Int32) : bf_opc how ≠ 0 ∧ bf_opc how ≠ 1 ∧ bf_opc how ≠ 9 := by
  unfold bf_opc
  repeat' split
  all_goals decide
theorem bf_ev_op {F : Int32 → Option Int32} {how : Int32} {x y : Int32} {st : List Int32} : bf_ev F [(bf_opc how, 0)] (y :: x :: st) = (bf_op2 (bf_opc how) x y).map (fun z => z :: st) := by
  obtain ⟨h0, h1, h9⟩ := bf_opc_cases how
  unfold bf_ev
  rw [if_neg h0, if_neg h1, if_neg h9]
  show (match bf_op2 (bf_opc how) x y with | none => none | some z => bf_ev F [] (z :: st)) = _
  cases bf_op2 (bf_opc how) x y <;> rfl
/-- a term's codes come to something, or to nothing at all -/
theorem bf_zT_ev {P : Nat → bf_E → Prop} (F : Int32 → Option Int32) : ∀ (n a : Nat) (cs : bf_Cd), bf_zT P n a cs → (∃ v, bf_E1 F cs v) ∨ ∀ st, bf_ev F cs st = none := by
  intro n
  induction n with
  | zero => intro a cs h; exact h.elim
  | succ n ih =>
    intro a cs h
    rcases h with ⟨V, v, -, -, rfl⟩ | ⟨V, w, -, -, rfl⟩ | ⟨V, t, c1, -, -, h1, rfl⟩ | ⟨V, t, u, how, c1, c2, -, -, -, -, h1, h2, rfl⟩
    · exact Or.inl ⟨v, fun st => rfl⟩
    · cases hw : F w with
      | none => exact Or.inr fun st => by show (match F w with | none => none | some z => bf_ev F [] (z :: st)) = none; rw [hw]
      | some z => exact Or.inl ⟨z, fun st => by show (match F w with | none => none | some z => bf_ev F [] (z :: st)) = _; rw [hw]; rfl⟩
    · rcases ih t c1 h1 with ⟨v, hv⟩ | hv
      · exact Or.inl ⟨1 - v, fun st => by rw [bf_ev_app, hv]; rfl⟩
      · exact Or.inr fun st => by rw [bf_ev_app, hv]; rfl
    · rcases ih t c1 h1 with ⟨x, hx⟩ | hx
      · rcases ih u c2 h2 with ⟨y, hy⟩ | hy
        · cases ho : bf_op2 (bf_opc how) x y with
          | none => exact Or.inr fun st => by rw [bf_ev_app, bf_ev_app, hx]; show Option.bind (bf_ev F c2 (x :: st)) _ = none; rw [hy]; show bf_ev F [(bf_opc how, 0)] (y :: x :: st) = none; rw [bf_ev_op, ho]; rfl
          | some z => exact Or.inl ⟨z, fun st => by rw [bf_ev_app, bf_ev_app, hx]; show Option.bind (bf_ev F c2 (x :: st)) _ = _; rw [hy]; show bf_ev F [(bf_opc how, 0)] (y :: x :: st) = _; rw [bf_ev_op, ho]; rfl⟩
        · exact Or.inr fun st => by rw [bf_ev_app, bf_ev_app, hx]; show Option.bind (bf_ev F c2 (x :: st)) _ = none; rw [hy]; rfl
      · exact Or.inr fun st => by rw [bf_ev_app, bf_ev_app, hx]; rfl
theorem bf_zT_E1 {P : Nat → bf_E → Prop} {F : Int32 → Option Int32} {n a : Nat} {cs : bf_Cd} {v : Int32} (h : bf_zT P n a cs) (hv : bf_val F cs = some v) : bf_E1 F cs v := by
  rcases bf_zT_ev F n a cs h with ⟨w, hw⟩ | hw
  · unfold bf_val at hv
    rw [hw] at hv
    cases hv
    exact hw
  · unfold bf_val at hv
    rw [hw] at hv
    cases hv
theorem bf_E1_val {F : Int32 → Option Int32} {cs : bf_Cd} {v : Int32} (h : bf_E1 F cs v) : bf_val F cs = some v := by
  unfold bf_val
  rw [h]
/-- the parts of a joined term -/
theorem bf_E1_join {P : Nat → bf_E → Prop} {F : Int32 → Option Int32} {n t u : Nat} {c1 c2 : bf_Cd} {how v : Int32} (h1 : bf_zT P n t c1) (h2 : bf_zT P n u c2) (h : bf_E1 F (c1 ++ c2 ++ [(bf_opc how, 0)]) v) : ∃ x y, bf_E1 F c1 x ∧ bf_E1 F c2 y ∧ bf_op2 (bf_opc how) x y = some v := by
  have h0 := h []
  rw [bf_ev_app, bf_ev_app] at h0
  rcases bf_zT_ev F n t c1 h1 with ⟨x, hx⟩ | hx
  · rw [hx] at h0
    rcases bf_zT_ev F n u c2 h2 with ⟨y, hy⟩ | hy
    · refine ⟨x, y, hx, hy, ?_⟩
      have h0 : Option.bind (bf_ev F c2 [x]) (bf_ev F [(bf_opc how, 0)]) = some [v] := h0
      rw [hy] at h0
      have h0 : bf_ev F [(bf_opc how, 0)] [y, x] = some [v] := h0
      rw [bf_ev_op] at h0
      cases ho : bf_op2 (bf_opc how) x y with
      | none => rw [ho] at h0; cases h0
      | some z => rw [ho] at h0; cases h0; rfl
    · have h0 : Option.bind (bf_ev F c2 [x]) (bf_ev F [(bf_opc how, 0)]) = some [v] := h0
      rw [hy] at h0
      cases h0
  · rw [hx] at h0
    cases h0
theorem bf_E1_not {P : Nat → bf_E → Prop} {F : Int32 → Option Int32} {n t : Nat} {c1 : bf_Cd} {v : Int32} (h1 : bf_zT P n t c1) (h : bf_E1 F (c1 ++ [(9, 0)]) v) : ∃ x, bf_E1 F c1 x ∧ v = 1 - x := by
  have h0 := h []
  rw [bf_ev_app] at h0
  rcases bf_zT_ev F n t c1 h1 with ⟨x, hx⟩ | hx
  · rw [hx] at h0
    refine ⟨x, hx, ?_⟩
    have h0 : some [1 - x] = some [v] := h0
    cases h0
    rfl
  · rw [hx] at h0
    cases h0
/-- the four contracts at a term -/
def bf_KT (l : Launch) (G : bf_G) (ν : bf_V) (c : Nat) (q : Nat → Nat) (S : bf_CS) (n a : Nat) (v : Int32) : Prop :=
  (∀ V, bf_fz ν c a (.inr (8, V)) → bf_MI l G yX9_of cX9_of 2 (bf_rm n) [.ref a, .ref c] (bf_pC G ν c q S) (fun v' σ' => v' = v ∧ σ' = bf_pC G ν c q S)) ∧
  (∀ V, bf_fz ν c a (.inr (9, V)) → bf_MI l G yX10_of cX10_of 2 (bf_rm n) [.ref a, .ref c] (bf_pC G ν c q S) (fun v' σ' => v' = v ∧ σ' = bf_pC G ν c q S)) ∧
  (∀ V, bf_fz ν c a (.inr (10, V)) → bf_MI l G yX11_of cX11_of 4 (bf_rm n) [.ref a, .ref c] (bf_pC G ν c q S) (fun v' σ' => v' = v ∧ σ' = bf_pC G ν c q S)) ∧
  (∀ V, bf_fz ν c a (.inr (11, V)) → bf_MI l G yX12_of cX12_of 2 (bf_rm n) [.ref a, .ref c] (bf_pC G ν c q S) (fun v' σ' => v' = v ∧ σ' = bf_pC G ν c q S))
section BFTT
variable {p : Program} {l : Launch} {e : Env} {R : Room} {s : State} {m : MethodId} {args : Array Value} {below : List Frame} {meth : Method} {c : Code} {H : Heap} {locs : List Loc} {cells slots : Nat} {Q : State → Prop}
variable {G : bf_G} {ν : bf_V} {cc : ByteArray} {nL pc o a n : Nat} {ls : Array Slot} {rest : List Value} {own : String} {q : Nat → Nat} {S : bf_CS} {cs : bf_Cd} {v : Int32} {index : Nat}
theorem bf_cT (X : CallFix p m c cc nL s args lw_all own) (hd : bf_Dy G s H locs (bf_pC G ν o q S)) (hz : bf_zT (bf_fz ν o) n a cs) (hK : bf_KT l G ν o q S n a v) (hlink : Cond.methodLink own index ⟨"BallotFruit$Term", "of", "(LBallotFruit$Asker;)I"⟩ ∈ lw_all)
    (hR : n + 1 ≤ R.frames ∧ 23 + 50 * n ≤ R.locals) (hls : ls.size = nL) (hw : (rest.map fun v => v.category).sum ≤ 8) (hdg : decode cc pc = .ok (.invokevirtual index, 3)) (hf : cells ≤ R.cells ∧ slots ≤ R.slots)
    (kk : ∀ (H : Heap) (locs : List Loc), bf_Dy G s H locs (bf_pC G ν o q S) → W p l e R s m args below meth c H locs cells slots Q (F0 m (pc + 3) ls (.int v :: rest))) : W p l e R s m args below meth c H locs cells slots Q (F0 m pc ls (.ref o :: .ref a :: rest)) := by
  have h2 : 21 + 50 * n ≤ R.locals := by omega
  have kk2 : ∀ (r : Int32) (σ' : bf_V) (H : Heap) (locs : List Loc), (r = v ∧ σ' = bf_pC G ν o q S) → bf_Dy G s H locs σ' → W p l e R s m args below meth c H locs cells slots Q (F0 m (pc + 3) ls (.int r :: rest)) := by
    intro r σ' H locs hF hd
    obtain ⟨e1, e2⟩ := hF
    subst e1; subst e2
    exact kk H locs hd
  cases n with
  | zero => exact hz.elim
  | succ n =>
    rcases hz with ⟨V, w, hP, -, -⟩ | ⟨V, w, hP, -, -⟩ | ⟨V, t, c1, hP, -⟩ | ⟨V, t, u, how, c1, c2, hP, -⟩
    · exact bf_cAi (n := 1) (As := [.ref o]) (rest := rest) X hd (hK.1 V hP) (bf_lwU hlink q1146 q1147 q1148 q168 q1149) q1145 (by decide +kernel) ⟨hR.1, h2⟩ (bf_recv hd (bf_fz_at hP) (q := (RX9, TX9, 1)) rfl) rfl hls rfl hw hdg hf kk2
    · exact bf_cAi (n := 1) (As := [.ref o]) (rest := rest) X hd (hK.2.1 V hP) (bf_lwU hlink q1146 q1169 q1154 q169 q1155) q1145 (by decide +kernel) ⟨hR.1, h2⟩ (bf_recv hd (bf_fz_at hP) (q := (RX10, TX10, 1)) rfl) rfl hls rfl hw hdg hf kk2
    · exact bf_cAi (n := 1) (As := [.ref o]) (rest := rest) X hd (hK.2.2.2 V hP) (bf_lwU hlink q1146 q1170 q1166 q171 q1167) q1145 (by decide +kernel) ⟨hR.1, h2⟩ (bf_recv hd (bf_fz_at hP) (q := (RX12, TX12, 1)) rfl) rfl hls rfl hw hdg hf kk2
    · exact bf_cAi (n := 1) (As := [.ref o]) (rest := rest) X hd (hK.2.2.1 V hP) (bf_lwU hlink q1146 q1150 q1151 q170 q1152) q1145 (by decide +kernel) ⟨hR.1, hR.2⟩ (bf_recv hd (bf_fz_at hP) (q := (RX11, TX11, 3)) rfl) rfl hls rfl hw hdg hf kk2
end BFTT
set_option maxHeartbeats 4000000 in
theorem bf_terms (l : Launch) (G : bf_G) (ν : bf_V) (c : Nat) (q : Nat → Nat) (S : bf_CS) : ∀ (n a : Nat) (cs : bf_Cd) (v : Int32), bf_zT (bf_fz ν c) n a cs → bf_E1 (fX1_fact S) cs v → bf_KT l G ν c q S n a v := by
  intro n
  induction n with
  | zero => intro a cs v h; exact h.elim
  | succ n ih =>
    intro a cs v hz hv
    refine ⟨fun V hV => ?_, fun V hV => ?_, fun V hV => ?_, fun V hV => ?_⟩
    · -- a number
      have hval : V 0 = .int v := by
        rcases hz with ⟨V', w, hP, h0, rfl⟩ | ⟨V', w, hP, -⟩ | ⟨V', t, c1, hP, -⟩ | ⟨V', t, u, how, c1, c2, hP, -⟩
        · have e := bf_fz_eq hV hP
          cases e
          have h1 : some [w] = some [v] := hv []
          cases h1
          exact h0
        · have e := bf_fz_eq hV hP; cases e
        · have e := bf_fz_eq hV hP; cases e
        · have e := bf_fz_eq hV hP; cases e
      refine bf_MI.of rfl (Nat.le_of_ble_eq_true rfl) ?_
      intro p e s m below meth c' Q X hlk hnm kret hd ls hl
      have hx := X.1
      have hb := X.2.1
      have hl : lv_has ls 2 [(0, .ref a), (1, .ref c)] := hl
      refine lv_aload_n hx hb dX9_of_0 rfl (lv_at hl 0 rfl) ?_
      refine bf_get X hd (bf_fz_at hV) (ci := 8) rfl in_X9 0 (by decide) q737 rfl hval dX9_of_1 ?_
      exact kret _ _ _ _ _ _ ⟨rfl, rfl⟩ hd dX9_of_4
    · -- what is asked
      have hval : ∃ w, V 0 = .int w ∧ fX1_fact S w = some v := by
        rcases hz with ⟨V', w, hP, -⟩ | ⟨V', w, hP, h0, rfl⟩ | ⟨V', t, c1, hP, -⟩ | ⟨V', t, u, how, c1, c2, hP, -⟩
        · have e := bf_fz_eq hV hP; cases e
        · have e := bf_fz_eq hV hP
          cases e
          refine ⟨w, h0, ?_⟩
          have h1 : (match fX1_fact S w with | none => none | some z => bf_ev (fX1_fact S) [] [z]) = some [v] := hv []
          cases hw : fX1_fact S w with
          | none => rw [hw] at h1; cases h1
          | some z => rw [hw] at h1; cases h1; rfl
        · have e := bf_fz_eq hV hP; cases e
        · have e := bf_fz_eq hV hP; cases e
      obtain ⟨w, hw0, hw⟩ := hval
      refine bf_MI.of rfl (Nat.le_of_ble_eq_true rfl) ?_
      intro p e s m below meth c' Q X hlk hnm kret hd ls hl
      have hx := X.1
      have hb := X.2.1
      have hl : lv_has ls 2 [(0, .ref a), (1, .ref c)] := hl
      refine lv_aload_n hx hb dX10_of_0 rfl (lv_at hl 1 rfl) ?_
      refine lv_aload_n hx hb dX10_of_1 rfl (lv_at hl 0 rfl) ?_
      refine bf_get X hd (bf_fz_at hV) (ci := 9) rfl in_X10 0 (by decide) q747 rfl hw0 dX10_of_2 ?_
      have hF0 : va_Fw RX1 ⟨"BallotFruit$Asker", "fact", "(I)I"⟩ yX1_fact s := va_Fw.moved (by decide) hd.1.2.1.alike (va_Fw.of (hd.1.1.2.1 _ q1159) (hd.1.1.2.1 _ q1158) (hd.1.1.2.1 _ q1164) (hd.1.1.2.1 _ q1162) (hd.1.1.2.1 _ q1160))
      refine va_callFi (va_runF (As := [.int w]) (rest := []) (hd.K.1 1 _ rfl).2 X (mX1_fact l G ν c q S w hw) (va_cwF 1 X.2.2.2.2 (bf_lwF q1157 q1161 q1163 q149 q1165) rfl rfl rfl hF0 (by decide +kernel) ⟨by show 0 + 1 ≤ n + 1; omega, by show 8 + (2 + 11) + 50 * 0 ≤ 50 * (n + 1); omega⟩) (bf_preV hd (bf_recv hd (bf_c0 (bf_pC_hC G ν c q S)) (q := (RX1, TX1, 31)) rfl)) rfl rfl hl.1 rfl (lv_room (Nat.le_of_ble_eq_true rfl)) dX10_of_5 ⟨Nat.le_refl _, Nat.le_refl _⟩) hd.2.1 (fun _ _ h => h) (fun _ h => h) (fun r u t H1 locs1 ht hvm hp hB hz hk hS => ?_)
      exact kret _ _ _ _ _ _ hp (bf_after hd ht hB hS) dX10_of_10
    · -- two, joined
      have hval : ∃ t u how c1 c2 x y, V 0 = .ref t ∧ V 1 = .ref u ∧ V 2 = .int how ∧ bf_zT (bf_fz ν c) n t c1 ∧ bf_zT (bf_fz ν c) n u c2 ∧ bf_E1 (fX1_fact S) c1 x ∧ bf_E1 (fX1_fact S) c2 y ∧ bf_op2 (bf_opc how) x y = some v := by
        rcases hz with ⟨V', w, hP, -⟩ | ⟨V', w, hP, -⟩ | ⟨V', t, c1, hP, -⟩ | ⟨V', t, u, how, c1, c2, hP, h0, h1, h2, h3, h4, rfl⟩
        · have e := bf_fz_eq hV hP; cases e
        · have e := bf_fz_eq hV hP; cases e
        · have e := bf_fz_eq hV hP; cases e
        · have e := bf_fz_eq hV hP
          cases e
          obtain ⟨x, y, e1, e2, e3⟩ := bf_E1_join h3 h4 hv
          exact ⟨t, u, how, c1, c2, x, y, h0, h1, h2, h3, h4, e1, e2, e3⟩
      obtain ⟨t, u, how, c1, c2, x, y, h0, h1, h2, h3, h4, e1, e2, e3⟩ := hval
      refine bf_MI.of rfl (Nat.le_of_ble_eq_true rfl) ?_
      intro p e s m below meth c' Q X hlk hnm kret hd ls hl
      have hx := X.1
      have hb := X.2.1
      have hl : lv_has ls 4 [(0, .ref a), (1, .ref c)] := hl
      have hRR : n + 1 ≤ (bf_rm (n + 1)).frames ∧ 23 + 50 * n ≤ (bf_rm (n + 1)).locals := ⟨Nat.le_refl _, by show 23 + 50 * n ≤ 50 * (n + 1); omega⟩
      refine lv_aload_n hx hb dX11_of_0 rfl (lv_at hl 0 rfl) ?_
      refine bf_get X hd (bf_fz_at hV) (ci := 10) rfl in_X11 0 (by decide) q757 rfl h0 dX11_of_1 ?_
      refine lv_aload_n hx hb dX11_of_4 rfl (lv_at hl 1 rfl) ?_
      refine bf_cT X hd h3 (ih t c1 x h3 e1) q1153 hRR hl.1 (Nat.le_of_ble_eq_true rfl) dX11_of_5 ⟨Nat.le_refl _, Nat.le_refl _⟩ (fun H locs hd => ?_)
      refine lv_istore_n (lv' := [(2, .int x), (0, .ref a), (1, .ref c)]) hx hb dX11_of_8 rfl hl (by decide) rfl (fun ls hl => ?_)
      refine lv_aload_n hx hb dX11_of_9 rfl (lv_at hl 1 rfl) ?_
      refine bf_get X hd (bf_fz_at hV) (ci := 10) rfl in_X11 1 (by decide) q758 rfl h1 dX11_of_10 ?_
      refine lv_aload_n hx hb dX11_of_13 rfl (lv_at hl 2 rfl) ?_
      refine bf_cT X hd h4 (ih u c2 y h4 e2) q1153 hRR hl.1 (Nat.le_of_ble_eq_true rfl) dX11_of_14 ⟨Nat.le_refl _, Nat.le_refl _⟩ (fun H locs hd => ?_)
      refine lv_istore_n (lv' := [(3, .int y), (2, .int x), (0, .ref a), (1, .ref c)]) hx hb dX11_of_17 rfl hl (by decide) rfl (fun ls hl => ?_)
      refine lv_aload_n hx hb dX11_of_18 rfl (lv_at hl 2 rfl) ?_
      refine bf_get X hd (bf_fz_at hV) (ci := 10) rfl in_X11 2 (by decide) q759 rfl h2 dX11_of_19 ?_
      have L2 : ∀ {pc : Nat}, ls[2]? = some (.val (.int x)) := fun {_} => lv_at hl 1 rfl
      have L3 : ls[3]? = some (.val (.int y)) := lv_at hl 0 rfl
      by_cases k5 : how = 5
      · refine bf_top k5.symm ?_
        rw [k5] at e3
        refine lv_lookup (tgt := 145) hx hb dX11_of_22 (by decide) rfl (by decide) ?_
        refine lv_iload_n hx hb dX11_of_145 rfl (lv_at hl 1 rfl) ?_
        refine lv_iload_n hx hb dX11_of_146 rfl (lv_at hl 0 rfl) ?_
        refine lv_iand hx hb dX11_of_147 ?_
        exact kret _ _ _ _ _ _ ⟨bf_so e3, rfl⟩ hd dX11_of_148
      by_cases k42 : how = 42
      · refine bf_top k42.symm ?_
        rw [k42] at e3
        refine lv_lookup (tgt := 104) hx hb dX11_of_22 (by decide) rfl (by decide) ?_
        refine lv_iload_n hx hb dX11_of_104 rfl (lv_at hl 1 rfl) ?_
        refine lv_iload_n hx hb dX11_of_105 rfl (lv_at hl 0 rfl) ?_
        refine lv_imul hx hb dX11_of_106 ?_
        exact kret _ _ _ _ _ _ ⟨bf_so e3, rfl⟩ hd dX11_of_107
      by_cases k43 : how = 43
      · refine bf_top k43.symm ?_
        rw [k43] at e3
        refine lv_lookup (tgt := 96) hx hb dX11_of_22 (by decide) rfl (by decide) ?_
        refine lv_iload_n hx hb dX11_of_96 rfl (lv_at hl 1 rfl) ?_
        refine lv_iload_n hx hb dX11_of_97 rfl (lv_at hl 0 rfl) ?_
        refine lv_iadd hx hb dX11_of_98 ?_
        exact kret _ _ _ _ _ _ ⟨bf_so e3, rfl⟩ hd dX11_of_99
      by_cases k45 : how = 45
      · refine bf_top k45.symm ?_
        rw [k45] at e3
        refine lv_lookup (tgt := 100) hx hb dX11_of_22 (by decide) rfl (by decide) ?_
        refine lv_iload_n hx hb dX11_of_100 rfl (lv_at hl 1 rfl) ?_
        refine lv_iload_n hx hb dX11_of_101 rfl (lv_at hl 0 rfl) ?_
        refine lv_isub hx hb dX11_of_102 ?_
        exact kret _ _ _ _ _ _ ⟨bf_so e3, rfl⟩ hd dX11_of_103
      by_cases k47 : how = 47
      · refine bf_top k47.symm ?_
        rw [k47] at e3
        have e3 : (if y = 0 then none else some (x / y)) = some v := e3
        have hy : ¬ y = 0 := fun h => by rw [if_pos h] at e3; cases e3
        rw [if_neg hy] at e3
        refine lv_lookup (tgt := 108) hx hb dX11_of_22 (by decide) rfl (by decide) ?_
        refine lv_iload_n hx hb dX11_of_108 rfl (lv_at hl 1 rfl) ?_
        refine lv_iload_n hx hb dX11_of_109 rfl (lv_at hl 0 rfl) ?_
        refine lv_idiv hx hb dX11_of_110 hy ?_
        exact kret _ _ _ _ _ _ ⟨bf_so e3, rfl⟩ hd dX11_of_111
      by_cases k60 : how = 60
      · refine bf_top k60.symm ?_
        rw [k60] at e3
        have e3 : some (if x < y then 1 else 0) = some v := e3
        refine lv_lookup (tgt := 112) hx hb dX11_of_22 (by decide) rfl (by decide) ?_
        refine lv_iload_n hx hb dX11_of_112 rfl (lv_at hl 1 rfl) ?_
        refine lv_iload_n hx hb dX11_of_113 rfl (lv_at hl 0 rfl) ?_
        refine lv_icmp_ge (tgt := 121) hx hb dX11_of_114 (by decide) (fun c9 => ?_) (fun c9 => ?_)
        · rw [if_neg (Int32.not_lt.mpr c9)] at e3
          refine lv_iconst (v := 0) hx hb dX11_of_121 (by decide) ?_
          exact kret _ _ _ _ _ _ ⟨bf_so e3, rfl⟩ hd dX11_of_122
        · rw [if_pos (Int32.not_le.mp c9)] at e3
          refine lv_iconst (v := 1) hx hb dX11_of_117 (by decide) ?_
          refine lv_goto (tgt := 122) hx hb dX11_of_118 (by decide) ?_
          exact kret _ _ _ _ _ _ ⟨bf_so e3, rfl⟩ hd dX11_of_122
      by_cases k61 : how = 61
      · refine bf_top k61.symm ?_
        rw [k61] at e3
        have e3 : some (if x = y then 1 else 0) = some v := e3
        refine lv_lookup (tgt := 123) hx hb dX11_of_22 (by decide) rfl (by decide) ?_
        refine lv_iload_n hx hb dX11_of_123 rfl (lv_at hl 1 rfl) ?_
        refine lv_iload_n hx hb dX11_of_124 rfl (lv_at hl 0 rfl) ?_
        refine lv_icmp_ne (tgt := 132) hx hb dX11_of_125 (by decide) (fun c9 => ?_) (fun c9 => ?_)
        · rw [if_neg c9] at e3
          refine lv_iconst (v := 0) hx hb dX11_of_132 (by decide) ?_
          exact kret _ _ _ _ _ _ ⟨bf_so e3, rfl⟩ hd dX11_of_133
        · rw [if_pos c9] at e3
          refine lv_iconst (v := 1) hx hb dX11_of_128 (by decide) ?_
          refine lv_goto (tgt := 133) hx hb dX11_of_129 (by decide) ?_
          exact kret _ _ _ _ _ _ ⟨bf_so e3, rfl⟩ hd dX11_of_133
      by_cases k62 : how = 62
      · refine bf_top k62.symm ?_
        rw [k62] at e3
        have e3 : some (if y < x then 1 else 0) = some v := e3
        refine lv_lookup (tgt := 134) hx hb dX11_of_22 (by decide) rfl (by decide) ?_
        refine lv_iload_n hx hb dX11_of_134 rfl (lv_at hl 1 rfl) ?_
        refine lv_iload_n hx hb dX11_of_135 rfl (lv_at hl 0 rfl) ?_
        refine lv_icmp_le (tgt := 143) hx hb dX11_of_136 (by decide) (fun c9 => ?_) (fun c9 => ?_)
        · rw [if_neg (Int32.not_lt.mpr c9)] at e3
          refine lv_iconst (v := 0) hx hb dX11_of_143 (by decide) ?_
          exact kret _ _ _ _ _ _ ⟨bf_so e3, rfl⟩ hd dX11_of_144
        · rw [if_pos (Int32.not_le.mp c9)] at e3
          refine lv_iconst (v := 1) hx hb dX11_of_139 (by decide) ?_
          refine lv_goto (tgt := 144) hx hb dX11_of_140 (by decide) ?_
          exact kret _ _ _ _ _ _ ⟨bf_so e3, rfl⟩ hd dX11_of_144
      have ho : bf_opc how = 11 := by
        unfold bf_opc
        rw [if_neg k43, if_neg k45, if_neg k42, if_neg k47, if_neg k60, if_neg k61, if_neg k62, if_neg k5]
      rw [ho] at e3
      refine lv_lookup (off := 127) (tgt := 149) hx hb dX11_of_22 (by decide) (by show Op.lookupswitch.offset [(5, 123), (42, 82), (43, 74), (45, 78), (47, 86), (60, 90), (61, 101), (62, 112)] 127 how.toInt = 127; rw [lv_osw (a := 5) k5 rfl, lv_osw (a := 42) k42 rfl, lv_osw (a := 43) k43 rfl, lv_osw (a := 45) k45 rfl, lv_osw (a := 47) k47 rfl, lv_osw (a := 60) k60 rfl, lv_osw (a := 61) k61 rfl, lv_osw (a := 62) k62 rfl]; rfl) (by decide) ?_
      refine lv_iload_n hx hb dX11_of_149 rfl (lv_at hl 1 rfl) ?_
      refine lv_iload_n hx hb dX11_of_150 rfl (lv_at hl 0 rfl) ?_
      refine lv_ior hx hb dX11_of_151 ?_
      exact kret _ _ _ _ _ _ ⟨bf_so e3, rfl⟩ hd dX11_of_152
    · -- not
      have hval : ∃ t c1 x, V 0 = .ref t ∧ bf_zT (bf_fz ν c) n t c1 ∧ bf_E1 (fX1_fact S) c1 x ∧ v = 1 - x := by
        rcases hz with ⟨V', w, hP, -⟩ | ⟨V', w, hP, -⟩ | ⟨V', t, c1, hP, h0, h1, rfl⟩ | ⟨V', t, u, how, c1, c2, hP, -⟩
        · have e := bf_fz_eq hV hP; cases e
        · have e := bf_fz_eq hV hP; cases e
        · have e := bf_fz_eq hV hP
          cases e
          obtain ⟨x, e1, e2⟩ := bf_E1_not h1 hv
          exact ⟨t, c1, x, h0, h1, e1, e2⟩
        · have e := bf_fz_eq hV hP; cases e
      obtain ⟨t, c1, x, h0, h1, e1, e2⟩ := hval
      refine bf_MI.of rfl (Nat.le_of_ble_eq_true rfl) ?_
      intro p e s m below meth c' Q X hlk hnm kret hd ls hl
      have hx := X.1
      have hb := X.2.1
      have hl : lv_has ls 2 [(0, .ref a), (1, .ref c)] := hl
      have hRR : n + 1 ≤ (bf_rm (n + 1)).frames ∧ 23 + 50 * n ≤ (bf_rm (n + 1)).locals := ⟨Nat.le_refl _, by show 23 + 50 * n ≤ 50 * (n + 1); omega⟩
      refine lv_iconst (v := 1) hx hb dX12_of_0 (by decide) ?_
      refine lv_aload_n hx hb dX12_of_1 rfl (lv_at hl 0 rfl) ?_
      refine bf_get X hd (bf_fz_at hV) (ci := 11) rfl in_X12 0 (by decide) q789 rfl h0 dX12_of_2 ?_
      refine lv_aload_n hx hb dX12_of_5 rfl (lv_at hl 1 rfl) ?_
      refine bf_cT X hd h1 (ih t c1 x h1 e1) q1168 hRR hl.1 (Nat.le_of_ble_eq_true rfl) dX12_of_6 ⟨Nat.le_refl _, Nat.le_refl _⟩ (fun H locs hd => ?_)
      refine lv_isub hx hb dX12_of_9 ?_
      exact kret _ _ _ _ _ _ ⟨e2.symm, rfl⟩ hd dX12_of_10
