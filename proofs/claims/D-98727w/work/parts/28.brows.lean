/-! ROWS over the system's record -/
set_option maxRecDepth 100000
theorem bf_TX0c : ∀ k, k < 11 → (TX0 k).1 = RX0 := by decide +kernel
section BFBR
variable {p : Program} {l : Launch} {e : Env} {R : Room} {s : State} {m : MethodId} {args : Array Value} {below : List Frame} {meth : Method} {c : Code} {H : Heap} {locs : List Loc} {cells slots : Nat} {Q : State → Prop}
variable {G : bf_G} {ν : bf_V} {cc : ByteArray} {nL pc b : Nat} {ls : Array Slot} {rest : List Value} {own : String} {w : bf_WS} {index : Nat}
theorem bf_topl {x y : Int64} (h : y = x) (k : W p l e R s m args below meth c H locs cells slots Q (F0 m pc ls (.long y :: rest))) : W p l e R s m args below meth c H locs cells slots Q (F0 m pc ls (.long x :: rest)) := by rw [← h]; exact k
/-- own fields -/
theorem bf_yG (X : CallFix p m c cc nL s args lw_all own) (hd : bf_Dy G s H locs (bf_pB G ν b w)) (k : Nat) (hk : k < 11) (hq : bf_lk own index RX0 (TX0 k).2.1 (TX0 k).2.2.1) {v : Value} (hv : bf_bv b w k = v) (hdg : decode cc pc = .ok (.getfield index, 3))
    (kk : W p l e R s m args below meth c H locs cells slots Q (F0 m (pc + 3) ls (v :: rest))) : W p l e R s m args below meth c H locs cells slots Q (F0 m pc ls (.ref b :: rest)) :=
  bf_getL X hd (bf_pB_0 G ν b w) (ci := 0) rfl in_X0 k hk hq (bf_TX0c k hk) hv hdg kk
theorem bf_yP (X : CallFix p m c cc nL s args lw_all own) (hd : bf_Dy G s H locs (bf_pB G ν b w)) (k : Nat) (hk : k < 11) (h0 : ¬ (k = 0 ∨ k = 4 ∨ k = 5 ∨ k = 6 ∨ k = 7 ∨ k = 10) ∧ (TX0 k).2.2.2 = false ∧ tyX0 k = .int) (hq : bf_lk own index RX0 (TX0 k).2.1 (TX0 k).2.2.1) {v : Int32} (hdg : decode cc pc = .ok (.putfield index, 3))
    (kk : ∀ (H : Heap) (locs : List Loc), bf_Dy G s H locs (bf_pB G ν b (bf_uB w 0 k v)) → W p l e R s m args below meth c H locs cells slots Q (F0 m (pc + 3) ls rest)) : W p l e R s m args below meth c H locs cells slots Q (F0 m pc ls (.int v :: .ref b :: rest)) :=
  bf_putL X hd (bf_pB_0 G ν b w) (ci := 0) rfl in_X0 tyX0 tyX0_ok nmX0 k hk hq (bf_TX0c k hk) h0.2.1 (v := .int v) (by rw [h0.2.2]; rfl) (by rw [h0.2.2]; rfl) hdg (fun H1 l1 h1 => kk H1 l1 (h1.of (bf_pB_u0 h0.1 v)))
theorem bf_yZ (X : CallFix p m c cc nL s args lw_all own) (hd : bf_Dy G s H locs (bf_pB G ν b w)) (k : Nat) (hk : k < 11) (h0 : ¬ (k = 0 ∨ k = 4 ∨ k = 5 ∨ k = 6 ∨ k = 7 ∨ k = 10) ∧ (TX0 k).2.2.2 = false ∧ tyX0 k = .boolean) (hq : bf_lk own index RX0 (TX0 k).2.1 (TX0 k).2.2.1) {v : Int32} (hz : v = 0 ∨ v = 1) (hdg : decode cc pc = .ok (.putfield index, 3))
    (kk : ∀ (H : Heap) (locs : List Loc), bf_Dy G s H locs (bf_pB G ν b (bf_uB w 0 k v)) → W p l e R s m args below meth c H locs cells slots Q (F0 m (pc + 3) ls rest)) : W p l e R s m args below meth c H locs cells slots Q (F0 m pc ls (.int v :: .ref b :: rest)) :=
  bf_putL X hd (bf_pB_0 G ν b w) (ci := 0) rfl in_X0 tyX0 tyX0_ok nmX0 k hk hq (bf_TX0c k hk) h0.2.1 (v := .int v) (by rw [h0.2.2]; rcases hz with rfl | rfl <;> rfl) (by rw [h0.2.2]; rcases hz with rfl | rfl <;> rfl) hdg (fun H1 l1 h1 => kk H1 l1 (h1.of (bf_pB_u0 h0.1 v)))
/-- tape, ways -/
theorem bf_yL (X : CallFix p m c cc nL s args lw_all own) (hd : bf_Dy G s H locs (bf_pB G ν b w)) {j : Int32} (hin : bf_in j 400 = true) (hdg : decode cc pc = .ok (.baload, 1))
    (kk : W p l e R s m args below meth c H locs cells slots Q (F0 m (pc + 1) ls (.int (w.1 1 j.toNatClampNeg) :: rest))) : W p l e R s m args below meth c H locs cells slots Q (F0 m pc ls (.int j :: .ref (b + 1) :: rest)) := bf_bald X hd (bf_pB_1 G ν b w) hin hdg kk
theorem bf_yT (X : CallFix p m c cc nL s args lw_all own) (hd : bf_Dy G s H locs (bf_pB G ν b w)) {j v : Int32} (hin : bf_in j 400 = true) (hdg : decode cc pc = .ok (.bastore, 1))
    (kk : ∀ (H : Heap) (locs : List Loc), bf_Dy G s H locs (bf_pB G ν b (bf_uB w 1 j.toNatClampNeg (vp_nar .byte v))) → W p l e R s m args below meth c H locs cells slots Q (F0 m (pc + 1) ls rest)) : W p l e R s m args below meth c H locs cells slots Q (F0 m pc ls (.int v :: .int j :: .ref (b + 1) :: rest)) :=
  bf_bast X hd (bf_pB_1 G ν b w) hin hdg (fun H1 l1 h1 => kk H1 l1 (h1.of (bf_pB_u1 _)))
theorem bf_yW (X : CallFix p m c cc nL s args lw_all own) (hd : bf_Dy G s H locs (bf_pB G ν b w)) {j v : Int32} (hin : bf_in j 100 = true) (hdg : decode cc pc = .ok (.iastore, 1))
    (kk : ∀ (H : Heap) (locs : List Loc), bf_Dy G s H locs (bf_pB G ν b (bf_uB w 2 j.toNatClampNeg v)) → W p l e R s m args below meth c H locs cells slots Q (F0 m (pc + 1) ls rest)) : W p l e R s m args below meth c H locs cells slots Q (F0 m pc ls (.int v :: .int j :: .ref (b + 1803) :: rest)) :=
  bf_iast X hd (bf_pB_3 G ν b w) hin hdg (fun H1 l1 h1 => kk H1 l1 (h1.of (bf_pB_u2 _)))
/-- the row of communes -/
theorem bf_yK (X : CallFix p m c cc nL s args lw_all own) (hd : bf_Dy G s H locs (bf_pB G ν b w)) {j : Int32} {n : Nat} (hn : n < 9) (hin : bf_in j 6 = true) (hdg : decode cc pc = .ok (.aastore, 1))
    (kk : ∀ (H : Heap) (locs : List Loc), bf_Dy G s H locs (bf_pB G ν b (bf_uK w j.toNatClampNeg n)) → W p l e R s m args below meth c H locs cells slots Q (F0 m (pc + 1) ls rest)) : W p l e R s m args below meth c H locs cells slots Q (F0 m pc ls (.ref (bf_ca b n) :: .int j :: .ref (b + 602) :: rest)) :=
  bf_aast X hd (r := (RX1, TX1, 31)) (bf_pB_2 G ν b w) 7 rfl (bf_c0 (bf_pB_hC G ν b w hn)) rfl hin hdg (fun H1 l1 h1 => kk H1 l1 (h1.of bf_pB_uK))
variable {y : MethodName} {bytes : ByteArray} {maxL n : Nat} {rm : Room} {As st0 : List Value} {r : Int32} {w' : bf_WS}
/-- calls of the system's own methods -/
theorem bf_bci (X : CallFix p m c cc nL s args lw_all own) (hd : bf_Dy G s H locs (bf_pB G ν b w)) (hM : bf_MI l G y bytes maxL rm (.ref b :: As) (bf_pB G ν b w) (fun v σ' => v = r ∧ σ' = bf_pB G ν b w' ∧ bf_wok G ν b w'))
    (hG : GoodIn lw_all (wsV own index RX0 y (ws_ y bytes maxL (some .int)))) (hyd : y.cls = RX0 ∧ y.cls ≠ "java/lang/invoke/MethodHandle" ∧ y.cls ≠ "java/lang/invoke/VarHandle" ∧ (parseMethodDescriptor y.desc).map (fun d => d.parameters.length) = some n) (hR : rm.frames + 1 ≤ R.frames ∧ 8 + (maxL + 11) + rm.locals ≤ R.locals)
    (hn : As.length = n) (hls : ls.size = nL) (hst : st0 = As.reverse ++ .ref b :: rest) (hw : (rest.map fun v => v.category).sum ≤ 8) (hdg : decode cc pc = .ok (.invokevirtual index, 3)) (hf : cells + rm.cells ≤ R.cells ∧ slots + rm.slots ≤ R.slots)
    (kk : ∀ (H : Heap) (locs : List Loc), bf_wok G ν b w' → bf_Dy G s H locs (bf_pB G ν b w') → W p l e R s m args below meth c H locs (cells + rm.cells) (slots + rm.slots) Q (F0 m (pc + 3) ls (.int r :: rest))) : W p l e R s m args below meth c H locs cells slots Q (F0 m pc ls st0) := by
  refine bf_cVi X hd hM hG hyd hR (bf_recv hd (bf_pB_0 G ν b w) (q := (RX0, TX0, 11)) rfl) hn hls hst hw hdg hf (fun r' σ' H1 l1 hF hd1 => ?_)
  obtain ⟨e1, e2, e3⟩ := hF
  subst e1; subst e2
  exact kk H1 l1 e3 hd1
theorem bf_bcz (X : CallFix p m c cc nL s args lw_all own) (hd : bf_Dy G s H locs (bf_pB G ν b w)) (hM : bf_MZ l G y bytes maxL rm (.ref b :: As) (bf_pB G ν b w) (fun v σ' => v = r ∧ σ' = bf_pB G ν b w' ∧ bf_wok G ν b w'))
    (hG : GoodIn lw_all (wsV own index RX0 y (ws_ y bytes maxL (some .boolean)))) (hyd : y.cls = RX0 ∧ y.cls ≠ "java/lang/invoke/MethodHandle" ∧ y.cls ≠ "java/lang/invoke/VarHandle" ∧ (parseMethodDescriptor y.desc).map (fun d => d.parameters.length) = some n) (hR : rm.frames + 1 ≤ R.frames ∧ 8 + (maxL + 11) + rm.locals ≤ R.locals)
    (hn : As.length = n) (hls : ls.size = nL) (hst : st0 = As.reverse ++ .ref b :: rest) (hw : (rest.map fun v => v.category).sum ≤ 8) (hdg : decode cc pc = .ok (.invokevirtual index, 3)) (hf : cells + rm.cells ≤ R.cells ∧ slots + rm.slots ≤ R.slots)
    (kk : ∀ (H : Heap) (locs : List Loc), bf_wok G ν b w' → (r = 0 ∨ r = 1) → bf_Dy G s H locs (bf_pB G ν b w') → W p l e R s m args below meth c H locs (cells + rm.cells) (slots + rm.slots) Q (F0 m (pc + 3) ls (.int r :: rest))) : W p l e R s m args below meth c H locs cells slots Q (F0 m pc ls st0) := by
  refine bf_cVz X hd hM hG hyd hR (bf_recv hd (bf_pB_0 G ν b w) (q := (RX0, TX0, 11)) rfl) hn hls hst hw hdg hf (fun r' σ' H1 l1 hF hz hd1 => ?_)
  obtain ⟨e1, e2, e3⟩ := hF
  subst e1; subst e2
  exact kk H1 l1 e3 hz hd1
theorem bf_bcv (X : CallFix p m c cc nL s args lw_all own) (hd : bf_Dy G s H locs (bf_pB G ν b w)) (hM : bf_MV l G y bytes maxL rm (.ref b :: As) (bf_pB G ν b w) (fun σ' => σ' = bf_pB G ν b w' ∧ bf_wok G ν b w'))
    (hG : GoodIn lw_all (wsV own index RX0 y (ws_ y bytes maxL none))) (hyd : y.cls = RX0 ∧ y.cls ≠ "java/lang/invoke/MethodHandle" ∧ y.cls ≠ "java/lang/invoke/VarHandle" ∧ (parseMethodDescriptor y.desc).map (fun d => d.parameters.length) = some n) (hR : rm.frames + 1 ≤ R.frames ∧ 8 + (maxL + 11) + rm.locals ≤ R.locals)
    (hn : As.length = n) (hls : ls.size = nL) (hst : st0 = As.reverse ++ .ref b :: rest) (hw : (rest.map fun v => v.category).sum ≤ 8) (hdg : decode cc pc = .ok (.invokevirtual index, 3)) (hf : cells + rm.cells ≤ R.cells ∧ slots + rm.slots ≤ R.slots)
    (kk : ∀ (H : Heap) (locs : List Loc), bf_wok G ν b w' → bf_Dy G s H locs (bf_pB G ν b w') → W p l e R s m args below meth c H locs (cells + rm.cells) (slots + rm.slots) Q (F0 m (pc + 3) ls rest)) : W p l e R s m args below meth c H locs cells slots Q (F0 m pc ls st0) := by
  refine bf_cVv X hd hM hG hyd hR (bf_recv hd (bf_pB_0 G ν b w) (q := (RX0, TX0, 11)) rfl) hn hls hst hw hdg hf (fun σ' H1 l1 hF hd1 => ?_)
  obtain ⟨e2, e3⟩ := hF
  subst e2
  exact kk H1 l1 e3 hd1
end BFBR
