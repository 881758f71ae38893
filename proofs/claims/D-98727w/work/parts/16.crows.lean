/-! ROWS over a commune's record: reads for any view that holds it, writes in the form bf_pC. -/
set_option maxRecDepth 100000
/-- a field's link: the class's own, or a nest mate's -/
def bf_lk (own : String) (index : Nat) (ref n d : String) : Prop := Cond.fieldLink own index ref n d ∈ lw_all ∨ ∃ host, Cond.fieldLinkNest own index ref n d host ∈ lw_tbl
theorem bf_TX1c : ∀ k, k < 31 → (TX1 k).1 = RX1 := by decide +kernel
theorem bf_TX2c : ∀ k, k < 3 → (TX2 k).1 = RX2 := by decide +kernel
theorem bf_TX3c : ∀ k, k < 4 → (TX3 k).1 = RX3 := by decide +kernel
theorem bf_TX4c : ∀ k, k < 2 → (TX4 k).1 = RX4 := by decide +kernel
theorem bf_ty2 : ∀ k, k < 3 → tyX2 k = .int := by decide
theorem bf_ty3 : ∀ k, k < 4 → tyX3 k = .int := by decide
theorem bf_fin2 : ∀ k, k < 3 → (TX2 k).2.2.2 = false := by decide +kernel
theorem bf_fin3 : ∀ k, k < 4 → (TX3 k).2.2.2 = false := by decide +kernel
theorem bf_in_lt {i : Int32} {n : Nat} (h : bf_in i n = true) : i.toNatClampNeg < n := by
  unfold bf_in at h
  simp only [Bool.and_eq_true, Bool.not_eq_true', decide_eq_false_iff_not, decide_eq_true_eq] at h
  exact h.2
section BFC
variable {p : Program} {l : Launch} {e : Env} {R : Room} {s : State} {m : MethodId} {args : Array Value} {below : List Frame} {meth : Method} {c : Code} {H : Heap} {locs : List Loc} {cells slots : Nat} {Q : State → Prop}
variable {G : bf_G} {σ ν : bf_V} {cc : ByteArray} {nL pc : Nat} {ls : Array Slot} {rest : List Value} {own : String}
theorem bf_getL (X : CallFix p m c cc nL s args lw_all own) (hd : bf_Dy G s H locs σ) {a ci : Nat} {V : Nat → Value} (ha : σ.1 a = some (.inr (ci, V))) {C : String} {T : u_T} {N : Nat} (hc : bf_cl[ci]? = some (C, T, N)) (hin : ∀ w ∈ u_ws C T N, w ∈ lw_all) (k : Nat) (hk : k < N) {index : Nat} {ref : String}
    (hlink : bf_lk own index ref (T k).2.1 (T k).2.2.1) (hsame : (T k).1 = ref) {v : Value} (hv : V k = v) (hdg : decode cc pc = .ok (.getfield index, 3))
    (kk : W p l e R s m args below meth c H locs cells slots Q (F0 m (pc + 3) ls (v :: rest))) : W p l e R s m args below meth c H locs cells slots Q (F0 m pc ls (.ref a :: rest)) := by
  rcases hlink with h | ⟨host, h⟩
  · exact bf_get X hd ha hc hin k hk h hsame hv hdg kk
  · exact bf_getN X hd ha hc hin k hk h hsame hv hdg kk
theorem bf_putL (X : CallFix p m c cc nL s args lw_all own) (hd : bf_Dy G s H locs σ) {a ci : Nat} {V : Nat → Value} (ha : σ.1 a = some (.inr (ci, V))) {C : String} {T : u_T} {N : Nat} (hc : bf_cl[ci]? = some (C, T, N)) (hin : ∀ w ∈ u_ws C T N, w ∈ lw_all) (ty0 : Nat → FieldType) (hty : ∀ k, k < N → parseFieldDescriptor (T k).2.2.1 = some (ty0 k)) (hnm : ∀ a, a < N → ∀ b, b < N → a ≠ b → (T a).2.1 ≠ (T b).2.1) (k : Nat) (hk : k < N) {index : Nat} {ref : String}
    (hlink : bf_lk own index ref (T k).2.1 (T k).2.2.1) (hsame : (T k).1 = ref) (hfin : (T k).2.2.2 = false) {v : Value} (hn : narrow (ty0 k) v = v) (hfit : fits (ty0 k) v = true) (hdg : decode cc pc = .ok (.putfield index, 3))
    (kk : ∀ (H1 : Heap) (locs1 : List Loc), bf_Dy G s H1 locs1 (bf_up σ a (.inr (ci, updV V k v))) → W p l e R s m args below meth c H1 locs1 cells slots Q (F0 m (pc + 3) ls rest)) : W p l e R s m args below meth c H locs cells slots Q (F0 m pc ls (v :: .ref a :: rest)) := by
  rcases hlink with h | ⟨host, h⟩
  · exact bf_put X hd ha hc hin ty0 hty hnm k hk h hsame hfin hn hfit hdg kk
  · exact bf_putN X hd ha hc hin ty0 hty hnm k hk h hsame hfin hn hfit hdg kk
variable {o : Nat} {q : Nat → Nat} {S : bf_CS} {index i : Nat}
/-- a field of the commune itself -/
theorem bf_rC (X : CallFix p m c cc nL s args lw_all own) (hd : bf_Dy G s H locs σ) (hC : bf_hC G σ o q S) (k : Nat) (hk : k < 31) (hq : bf_lk own index RX1 (TX1 k).2.1 (TX1 k).2.2.1) {v : Value} (hv : bf_cv o q S k = v) (hdg : decode cc pc = .ok (.getfield index, 3))
    (kk : W p l e R s m args below meth c H locs cells slots Q (F0 m (pc + 3) ls (v :: rest))) : W p l e R s m args below meth c H locs cells slots Q (F0 m pc ls (.ref o :: rest)) :=
  bf_getL X hd (bf_c0 hC) (ci := 1) rfl in_X1 k hk hq (bf_TX1c k hk) hv hdg kk
/-- a party's, a tree's, an eater's -/
theorem bf_rP (X : CallFix p m c cc nL s args lw_all own) (hd : bf_Dy G s H locs σ) (hC : bf_hC G σ o q S) (hi : i < 5) (k : Nat) (hk : k < 3) (hq : bf_lk own index RX2 (TX2 k).2.1 (TX2 k).2.2.1) (hdg : decode cc pc = .ok (.getfield index, 3))
    (kk : W p l e R s m args below meth c H locs cells slots Q (F0 m (pc + 3) ls (.int (S.1 1 i k) :: rest))) : W p l e R s m args below meth c H locs cells slots Q (F0 m pc ls (.ref (o + 161 + i) :: rest)) :=
  bf_getL X hd (bf_cpa hC hi) (ci := 2) rfl in_X2 k hk hq (bf_TX2c k hk) rfl hdg kk
theorem bf_rT (X : CallFix p m c cc nL s args lw_all own) (hd : bf_Dy G s H locs σ) (hC : bf_hC G σ o q S) (hi : i < 14) (k : Nat) (hk : k < 4) (hq : bf_lk own index RX3 (TX3 k).2.1 (TX3 k).2.2.1) (hdg : decode cc pc = .ok (.getfield index, 3))
    (kk : W p l e R s m args below meth c H locs cells slots Q (F0 m (pc + 3) ls (.int (S.1 2 i k) :: rest))) : W p l e R s m args below meth c H locs cells slots Q (F0 m pc ls (.ref (o + 166 + i) :: rest)) :=
  bf_getL X hd (bf_ctr hC hi) (ci := 3) rfl in_X3 k hk hq (bf_TX3c k hk) rfl hdg kk
theorem bf_rH (X : CallFix p m c cc nL s args lw_all own) (hd : bf_Dy G s H locs σ) (hC : bf_hC G σ o q S) (hi : i < 10) (hq : bf_lk own index RX4 (TX4 1).2.1 (TX4 1).2.2.1) (hdg : decode cc pc = .ok (.getfield index, 3))
    (kk : W p l e R s m args below meth c H locs cells slots Q (F0 m (pc + 3) ls (.int (S.1 3 i 0) :: rest))) : W p l e R s m args below meth c H locs cells slots Q (F0 m pc ls (.ref (o + 180 + 2 * i) :: rest)) :=
  bf_getL X hd (bf_cea hC hi) (ci := 4) rfl in_X4 1 (by decide) hq (bf_TX4c 1 (by decide)) rfl hdg kk
theorem bf_rE (X : CallFix p m c cc nL s args lw_all own) (hd : bf_Dy G s H locs σ) (hC : bf_hC G σ o q S) (hi : i < 10) (hq : bf_lk own index RX4 (TX4 0).2.1 (TX4 0).2.2.1) (hdg : decode cc pc = .ok (.getfield index, 3))
    (kk : W p l e R s m args below meth c H locs cells slots Q (F0 m (pc + 3) ls (.ref (o + (180 + 2 * i + 1)) :: rest))) : W p l e R s m args below meth c H locs cells slots Q (F0 m pc ls (.ref (o + 180 + 2 * i) :: rest)) :=
  bf_getL X hd (bf_cea hC hi) (ci := 4) rfl in_X4 0 (by decide) hq (bf_TX4c 0 (by decide)) rfl hdg kk
/-- writes -/
theorem bf_xC (X : CallFix p m c cc nL s args lw_all own) (hd : bf_Dy G s H locs (bf_pC G ν o q S)) (k : Nat) (hk : k < 31) (h0 : (10 ≤ k ∧ k ≠ 26) ∧ (TX1 k).2.2.2 = false ∧ tyX1 k = .int) (hq : bf_lk own index RX1 (TX1 k).2.1 (TX1 k).2.2.1) {v : Int32} (hdg : decode cc pc = .ok (.putfield index, 3))
    (kk : ∀ (H : Heap) (locs : List Loc), bf_Dy G s H locs (bf_pC G ν o q (bf_u3 S 0 k 0 v)) → W p l e R s m args below meth c H locs cells slots Q (F0 m (pc + 3) ls rest)) : W p l e R s m args below meth c H locs cells slots Q (F0 m pc ls (.int v :: .ref o :: rest)) :=
  bf_putL X hd (bf_c0 (bf_pC_hC G ν o q S)) (ci := 1) rfl in_X1 tyX1 tyX1_ok nmX1 k hk hq (bf_TX1c k hk) h0.2.1 (v := .int v) (by rw [h0.2.2]; rfl) (by rw [h0.2.2]; rfl) hdg (fun H1 l1 h1 => kk H1 l1 (h1.of (bf_w0 h0.1 v)))
theorem bf_xZ (X : CallFix p m c cc nL s args lw_all own) (hd : bf_Dy G s H locs (bf_pC G ν o q S)) (k : Nat) (hk : k < 31) (h0 : (10 ≤ k ∧ k ≠ 26) ∧ (TX1 k).2.2.2 = false ∧ tyX1 k = .boolean) (hq : bf_lk own index RX1 (TX1 k).2.1 (TX1 k).2.2.1) {v : Int32} (hz : v = 0 ∨ v = 1) (hdg : decode cc pc = .ok (.putfield index, 3))
    (kk : ∀ (H : Heap) (locs : List Loc), bf_Dy G s H locs (bf_pC G ν o q (bf_u3 S 0 k 0 v)) → W p l e R s m args below meth c H locs cells slots Q (F0 m (pc + 3) ls rest)) : W p l e R s m args below meth c H locs cells slots Q (F0 m pc ls (.int v :: .ref o :: rest)) :=
  bf_putL X hd (bf_c0 (bf_pC_hC G ν o q S)) (ci := 1) rfl in_X1 tyX1 tyX1_ok nmX1 k hk hq (bf_TX1c k hk) h0.2.1 (v := .int v) (by rw [h0.2.2]; rcases hz with rfl | rfl <;> rfl) (by rw [h0.2.2]; rcases hz with rfl | rfl <;> rfl) hdg (fun H1 l1 h1 => kk H1 l1 (h1.of (bf_w0 h0.1 v)))
/-- the asked tree -/
theorem bf_xA (X : CallFix p m c cc nL s args lw_all own) (hd : bf_Dy G s H locs (bf_pC G ν o q S)) (hq : bf_lk own index RX1 (TX1 26).2.1 (TX1 26).2.2.1) {t : Option Nat} (hdg : decode cc pc = .ok (.putfield index, 3))
    (kk : ∀ (H : Heap) (locs : List Loc), bf_Dy G s H locs (bf_pC G ν o q (bf_uq S t)) → W p l e R s m args below meth c H locs cells slots Q (F0 m (pc + 3) ls rest)) : W p l e R s m args below meth c H locs cells slots Q (F0 m pc ls (va_rf (t.map (fun t => o + 166 + t)) :: .ref o :: rest)) :=
  bf_putL X hd (bf_c0 (bf_pC_hC G ν o q S)) (ci := 1) rfl in_X1 tyX1 tyX1_ok nmX1 26 (by decide) hq (bf_TX1c 26 (by decide)) rfl (by cases t <;> rfl) (by cases t <;> rfl) hdg (fun H1 l1 h1 => kk H1 l1 (h1.of (bf_wt t)))
/-- paths, law, plan -/
theorem bf_xR (X : CallFix p m c cc nL s args lw_all own) (hd : bf_Dy G s H locs (bf_pC G ν o q S)) (k : Nat) (hk : 7 ≤ k ∧ k < 10) (hq : bf_lk own index RX1 (TX1 k).2.1 (TX1 k).2.2.1) (hk2 : (TX1 k).2.2.2 = false ∧ (∀ a, narrow (tyX1 k) (.ref a) = .ref a ∧ fits (tyX1 k) (.ref a) = true)) {a : Nat} (hdg : decode cc pc = .ok (.putfield index, 3))
    (kk : ∀ (H : Heap) (locs : List Loc), bf_Dy G s H locs (bf_pC G ν o (va_up q (k - 7) a) S) → W p l e R s m args below meth c H locs cells slots Q (F0 m (pc + 3) ls rest)) : W p l e R s m args below meth c H locs cells slots Q (F0 m pc ls (.ref a :: .ref o :: rest)) :=
  bf_putL X hd (bf_c0 (bf_pC_hC G ν o q S)) (ci := 1) rfl in_X1 tyX1 tyX1_ok nmX1 k (by omega) hq (bf_TX1c k (by omega)) hk2.1 (hk2.2 a).1 (hk2.2 a).2 hdg (fun H1 l1 h1 => kk H1 l1 (h1.of (bf_wr hk a)))
theorem bf_xP (X : CallFix p m c cc nL s args lw_all own) (hd : bf_Dy G s H locs (bf_pC G ν o q S)) (hi : i < 5) (k : Nat) (hk : k < 3) (hq : bf_lk own index RX2 (TX2 k).2.1 (TX2 k).2.2.1) {v : Int32} (hdg : decode cc pc = .ok (.putfield index, 3))
    (kk : ∀ (H : Heap) (locs : List Loc), bf_Dy G s H locs (bf_pC G ν o q (bf_u3 S 1 i k v)) → W p l e R s m args below meth c H locs cells slots Q (F0 m (pc + 3) ls rest)) : W p l e R s m args below meth c H locs cells slots Q (F0 m pc ls (.int v :: .ref (o + 161 + i) :: rest)) :=
  bf_putL X hd (bf_cpa (bf_pC_hC G ν o q S) hi) (ci := 2) rfl in_X2 tyX2 tyX2_ok nmX2 k hk hq (bf_TX2c k hk) (bf_fin2 k hk) (v := .int v) (by rw [bf_ty2 k hk]; rfl) (by rw [bf_ty2 k hk]; rfl) hdg (fun H1 l1 h1 => kk H1 l1 (h1.of (bf_w1 hi v)))
theorem bf_xT (X : CallFix p m c cc nL s args lw_all own) (hd : bf_Dy G s H locs (bf_pC G ν o q S)) (hi : i < 14) (k : Nat) (hk : k < 4) (hq : bf_lk own index RX3 (TX3 k).2.1 (TX3 k).2.2.1) {v : Int32} (hdg : decode cc pc = .ok (.putfield index, 3))
    (kk : ∀ (H : Heap) (locs : List Loc), bf_Dy G s H locs (bf_pC G ν o q (bf_u3 S 2 i k v)) → W p l e R s m args below meth c H locs cells slots Q (F0 m (pc + 3) ls rest)) : W p l e R s m args below meth c H locs cells slots Q (F0 m pc ls (.int v :: .ref (o + 166 + i) :: rest)) :=
  bf_putL X hd (bf_ctr (bf_pC_hC G ν o q S) hi) (ci := 3) rfl in_X3 tyX3 tyX3_ok nmX3 k hk hq (bf_TX3c k hk) (bf_fin3 k hk) (v := .int v) (by rw [bf_ty3 k hk]; rfl) (by rw [bf_ty3 k hk]; rfl) hdg (fun H1 l1 h1 => kk H1 l1 (h1.of (bf_w2 hi v)))
theorem bf_xH (X : CallFix p m c cc nL s args lw_all own) (hd : bf_Dy G s H locs (bf_pC G ν o q S)) (hi : i < 10) (hq : bf_lk own index RX4 (TX4 1).2.1 (TX4 1).2.2.1) {v : Int32} (hdg : decode cc pc = .ok (.putfield index, 3))
    (kk : ∀ (H : Heap) (locs : List Loc), bf_Dy G s H locs (bf_pC G ν o q (bf_u3 S 3 i 0 v)) → W p l e R s m args below meth c H locs cells slots Q (F0 m (pc + 3) ls rest)) : W p l e R s m args below meth c H locs cells slots Q (F0 m pc ls (.int v :: .ref (o + 180 + 2 * i) :: rest)) :=
  bf_putL X hd (bf_cea (bf_pC_hC G ν o q S) hi) (ci := 4) rfl in_X4 tyX4 tyX4_ok nmX4 1 (by decide) hq (bf_TX4c 1 (by decide)) rfl (v := .int v) rfl rfl hdg (fun H1 l1 h1 => kk H1 l1 (h1.of (bf_w3 hi v)))
/-- int arrays of the record -/
theorem bf_sE (X : CallFix p m c cc nL s args lw_all own) (hd : bf_Dy G s H locs (bf_pC G ν o q S)) (hi : i < 10) {j v : Int32} (hin : bf_in j 5 = true) (hdg : decode cc pc = .ok (.iastore, 1))
    (kk : ∀ (H : Heap) (locs : List Loc), bf_Dy G s H locs (bf_pC G ν o q (bf_u3 S 4 i j.toNatClampNeg v)) → W p l e R s m args below meth c H locs cells slots Q (F0 m (pc + 1) ls rest)) : W p l e R s m args below meth c H locs cells slots Q (F0 m pc ls (.int v :: .int j :: .ref (o + (180 + 2 * i + 1)) :: rest)) :=
  bf_iast X hd (bf_cta (bf_pC_hC G ν o q S) hi) hin hdg (fun H1 l1 h1 => kk H1 l1 (h1.of (bf_w4 hi v)))
theorem bf_sB (X : CallFix p m c cc nL s args lw_all own) (hd : bf_Dy G s H locs (bf_pC G ν o q S)) (hi : i < 150) {j v : Int32} (hin : bf_in j 4 = true) (hdg : decode cc pc = .ok (.iastore, 1))
    (kk : ∀ (H : Heap) (locs : List Loc), bf_Dy G s H locs (bf_pC G ν o q (bf_u3 S 5 i j.toNatClampNeg v)) → W p l e R s m args below meth c H locs cells slots Q (F0 m (pc + 1) ls rest)) : W p l e R s m args below meth c H locs cells slots Q (F0 m pc ls (.int v :: .int j :: .ref (o + 5 + i) :: rest)) :=
  bf_iast X hd (bf_cbk (bf_pC_hC G ν o q S) hi) hin hdg (fun H1 l1 h1 => kk H1 l1 (h1.of (bf_w5 hi v)))
theorem bf_s6 (X : CallFix p m c cc nL s args lw_all own) (hd : bf_Dy G s H locs (bf_pC G ν o q S)) {j v : Int32} (hin : bf_in j 8 = true) (hdg : decode cc pc = .ok (.iastore, 1))
    (kk : ∀ (H : Heap) (locs : List Loc), bf_Dy G s H locs (bf_pC G ν o q (bf_u3 S 6 j.toNatClampNeg 0 v)) → W p l e R s m args below meth c H locs cells slots Q (F0 m (pc + 1) ls rest)) : W p l e R s m args below meth c H locs cells slots Q (F0 m pc ls (.int v :: .int j :: .ref (o + 155) :: rest)) :=
  bf_iast X hd (bf_c155 (bf_pC_hC G ν o q S)) hin hdg (fun H1 l1 h1 => kk H1 l1 (h1.of (bf_w6 v)))
theorem bf_s7 (X : CallFix p m c cc nL s args lw_all own) (hd : bf_Dy G s H locs (bf_pC G ν o q S)) {j v : Int32} (hin : bf_in j 8 = true) (hdg : decode cc pc = .ok (.iastore, 1))
    (kk : ∀ (H : Heap) (locs : List Loc), bf_Dy G s H locs (bf_pC G ν o q (bf_u3 S 7 j.toNatClampNeg 0 v)) → W p l e R s m args below meth c H locs cells slots Q (F0 m (pc + 1) ls rest)) : W p l e R s m args below meth c H locs cells slots Q (F0 m pc ls (.int v :: .int j :: .ref (o + 156) :: rest)) :=
  bf_iast X hd (bf_c156 (bf_pC_hC G ν o q S)) hin hdg (fun H1 l1 h1 => kk H1 l1 (h1.of (bf_w7 v)))
theorem bf_s8 (X : CallFix p m c cc nL s args lw_all own) (hd : bf_Dy G s H locs (bf_pC G ν o q S)) {j v : Int32} (hin : bf_in j 5 = true) (hdg : decode cc pc = .ok (.iastore, 1))
    (kk : ∀ (H : Heap) (locs : List Loc), bf_Dy G s H locs (bf_pC G ν o q (bf_u3 S 8 j.toNatClampNeg 0 v)) → W p l e R s m args below meth c H locs cells slots Q (F0 m (pc + 1) ls rest)) : W p l e R s m args below meth c H locs cells slots Q (F0 m pc ls (.int v :: .int j :: .ref (o + 157) :: rest)) :=
  bf_iast X hd (bf_c157 (bf_pC_hC G ν o q S)) hin hdg (fun H1 l1 h1 => kk H1 l1 (h1.of (bf_w8 v)))
end BFC
