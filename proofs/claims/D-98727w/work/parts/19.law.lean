/-! LISTS OF THE JDK's, TERMS, WHAT THE LAW TELLS -/
set_option maxRecDepth 100000
theorem bf_lwU {own : String} {idx : Nat} {C owner : String} {x y : MethodName} {b : ByteArray} {L : Nat} {r : Option FieldType} (h1 : Cond.methodLink own idx x ∈ lw_all) (h2 : Cond.sameMethod x.cls owner x.name x.desc ∈ lw_all) (h3 : Cond.selects C x y ∈ lw_all) (h4 : Cond.instanceMethod y ∈ lw_all) (h5 : Cond.initialized y.cls ∈ lw_all) (h6 : Cond.code y b L r ∈ lw_all) : GoodIn lw_all (va_wsU own idx C owner x y (ws_ y b L r)) := by
  refine lw_app ?_ (lw_meth h6)
  intro w hw
  simp only [List.mem_cons, List.not_mem_nil, or_false] at hw
  rcases hw with e | e | e | e | e
  · rw [e]; exact h1
  · rw [e]; exact h2
  · rw [e]; exact h3
  · rw [e]; exact h4
  · rw [e]; exact h5
theorem bf_lwF {own : String} {idx : Nat} {C : String} {x y : MethodName} {b : ByteArray} {L : Nat} {r : Option FieldType} (h1 : Cond.methodLink own idx x ∈ lw_all) (h3 : Cond.selects C x y ∈ lw_all) (h4 : Cond.instanceMethod y ∈ lw_all) (h5 : Cond.initialized y.cls ∈ lw_all) (h6 : Cond.code y b L r ∈ lw_all) : GoodIn lw_all (va_wsF own idx C x y (ws_ y b L r)) := by
  refine lw_app ?_ (lw_meth h6)
  intro w hw
  simp only [List.mem_cons, List.not_mem_nil, or_false] at hw
  rcases hw with e | e | e | e
  · rw [e]; exact h1
  · rw [e]; exact h3
  · rw [e]; exact h4
  · rw [e]; exact h5
theorem bf_fr.D {G : bf_G} {s : State} (h : bf_fr G s) {x : MethodName} (hw : Cond.declares x ∈ lw_tbl) : va_Nw (.declares x) s := va_Nw.warmD h.2.1 (va_Nw.of rfl (h.1.2.1 _ hw))
theorem bf_fr.C {G : bf_G} {s : State} (h : bf_fr G s) {C T : String} (hw : Cond.castable C T ∈ lw_tbl) : va_Nw (.castable C T) s := va_Nw.warmC h.2.1 (va_Nw.of rfl (h.1.2.1 _ hw))
section BFL
variable {p : Program} {l : Launch} {e : Env} {R : Room} {s : State} {m : MethodId} {args : Array Value} {below : List Frame} {meth : Method} {c : Code} {H : Heap} {locs : List Loc} {cells slots : Nat} {Q : State → Prop}
variable {G : bf_G} {σ : bf_V} {cc : ByteArray} {nL pc : Nat} {ls : Array Slot} {rest : List Value} {own : String}
variable {x y : MethodName} {bytes : ByteArray} {maxL index n : Nat} {rm : Room} {As st0 : List Value} {b : Nat} {C owner : String}
/-- an abstract method's call, by the receiver's class -/
theorem bf_cAi (X : CallFix p m c cc nL s args lw_all own) (hd : bf_Dy G s H locs σ) {Fin : Int32 → bf_V → Prop} (hM : bf_MI l G y bytes maxL rm (.ref b :: As) σ Fin)
    (hG : GoodIn lw_all (va_wsU own index C owner x y (ws_ y bytes maxL (some .int)))) (hz : Cond.declares ⟨owner, x.name, x.desc⟩ ∈ lw_tbl) (hyd : owner ≠ "java/lang/invoke/MethodHandle" ∧ owner ≠ "java/lang/invoke/VarHandle" ∧ (parseMethodDescriptor x.desc).map (fun d => d.parameters.length) = some n) (hR : rm.frames + 1 ≤ R.frames ∧ 8 + (maxL + 11) + rm.locals ≤ R.locals)
    (hr : ∃ cell : Cell, H[b]? = some cell ∧ cell.vm.isStatics = false ∧ s.vm.findClass C = some cell.cls) (hn : As.length = n) (hls : ls.size = nL) (hst : st0 = As.reverse ++ .ref b :: rest) (hw : (rest.map fun v => v.category).sum ≤ 8) (hdg : decode cc pc = .ok (.invokevirtual index, 3)) (hf : cells + rm.cells ≤ R.cells ∧ slots + rm.slots ≤ R.slots)
    (kk : ∀ (r : Int32) (σ' : bf_V) (H1 : Heap) (locs1 : List Loc), Fin r σ' → bf_Dy G s H1 locs1 σ' → W p l e R s m args below meth c H1 locs1 (cells + rm.cells) (slots + rm.slots) Q (F0 m (pc + 3) ls (.int r :: rest))) : W p l e R s m args below meth c H locs cells slots Q (F0 m pc ls st0) := by
  refine va_calli (va_runU (As := As) (rest := rest) X hM (va_cwA n X.2.2.2.2 hG rfl rfl rfl (hd.1.D hz) hyd hR) (bf_preV hd hr) rfl hn hls hst (lv_room hw) hdg hf) hd.2.1 (fun _ _ h => h) (fun _ h => h) (fun r u t H1 locs1 ht hvm hp hB hz hk hS => ?_)
  exact kk r u H1 locs1 hp (bf_after hd ht hB hS)
theorem bf_cAv (X : CallFix p m c cc nL s args lw_all own) (hd : bf_Dy G s H locs σ) {Fin : bf_V → Prop} (hM : bf_MV l G y bytes maxL rm (.ref b :: As) σ Fin)
    (hG : GoodIn lw_all (va_wsU own index C owner x y (ws_ y bytes maxL none))) (hz : Cond.declares ⟨owner, x.name, x.desc⟩ ∈ lw_tbl) (hyd : owner ≠ "java/lang/invoke/MethodHandle" ∧ owner ≠ "java/lang/invoke/VarHandle" ∧ (parseMethodDescriptor x.desc).map (fun d => d.parameters.length) = some n) (hR : rm.frames + 1 ≤ R.frames ∧ 8 + (maxL + 11) + rm.locals ≤ R.locals)
    (hr : ∃ cell : Cell, H[b]? = some cell ∧ cell.vm.isStatics = false ∧ s.vm.findClass C = some cell.cls) (hn : As.length = n) (hls : ls.size = nL) (hst : st0 = As.reverse ++ .ref b :: rest) (hw : (rest.map fun v => v.category).sum ≤ 8) (hdg : decode cc pc = .ok (.invokevirtual index, 3)) (hf : cells + rm.cells ≤ R.cells ∧ slots + rm.slots ≤ R.slots)
    (kk : ∀ (σ' : bf_V) (H1 : Heap) (locs1 : List Loc), Fin σ' → bf_Dy G s H1 locs1 σ' → W p l e R s m args below meth c H1 locs1 (cells + rm.cells) (slots + rm.slots) Q (F0 m (pc + 3) ls rest)) : W p l e R s m args below meth c H locs cells slots Q (F0 m pc ls st0) := by
  refine va_callv (va_runU (As := As) (rest := rest) X hM (va_cwA n X.2.2.2.2 hG rfl rfl rfl (hd.1.D hz) hyd hR) (bf_preV hd hr) rfl hn hls hst (lv_room hw) hdg hf) hd.2.1 (fun _ _ h => h) (fun _ h => h) (fun u t H1 locs1 ht hvm hp hB hz hk hS => ?_)
  exact kk u H1 locs1 hp (bf_after hd ht hB hS)
/-- an inherited method's call -/
theorem bf_cUi (X : CallFix p m c cc nL s args lw_all own) (hd : bf_Dy G s H locs σ) {Fin : Int32 → bf_V → Prop} (hM : bf_MI l G y bytes maxL rm (.ref b :: As) σ Fin)
    (hG : GoodIn lw_all (va_wsU own index C owner x y (ws_ y bytes maxL (some .int)))) (hyx : y = ⟨owner, x.name, x.desc⟩) (hyd : owner ≠ "java/lang/invoke/MethodHandle" ∧ owner ≠ "java/lang/invoke/VarHandle" ∧ (parseMethodDescriptor x.desc).map (fun d => d.parameters.length) = some n) (hR : rm.frames + 1 ≤ R.frames ∧ 8 + (maxL + 11) + rm.locals ≤ R.locals)
    (hr : ∃ cell : Cell, H[b]? = some cell ∧ cell.vm.isStatics = false ∧ s.vm.findClass C = some cell.cls) (hn : As.length = n) (hls : ls.size = nL) (hst : st0 = As.reverse ++ .ref b :: rest) (hw : (rest.map fun v => v.category).sum ≤ 8) (hdg : decode cc pc = .ok (.invokevirtual index, 3)) (hf : cells + rm.cells ≤ R.cells ∧ slots + rm.slots ≤ R.slots)
    (kk : ∀ (r : Int32) (σ' : bf_V) (H1 : Heap) (locs1 : List Loc), Fin r σ' → bf_Dy G s H1 locs1 σ' → W p l e R s m args below meth c H1 locs1 (cells + rm.cells) (slots + rm.slots) Q (F0 m (pc + 3) ls (.int r :: rest))) : W p l e R s m args below meth c H locs cells slots Q (F0 m pc ls st0) := by
  refine va_calli (va_runU (As := As) (rest := rest) X hM (va_cwU n X.2.2.2.2 hG rfl rfl rfl hyx hyd hR) (bf_preV hd hr) rfl hn hls hst (lv_room hw) hdg hf) hd.2.1 (fun _ _ h => h) (fun _ h => h) (fun r u t H1 locs1 ht hvm hp hB hz hk hS => ?_)
  exact kk r u H1 locs1 hp (bf_after hd ht hB hS)
theorem bf_cUz (X : CallFix p m c cc nL s args lw_all own) (hd : bf_Dy G s H locs σ) {Fin : Int32 → bf_V → Prop} (hM : bf_MZ l G y bytes maxL rm (.ref b :: As) σ Fin)
    (hG : GoodIn lw_all (va_wsU own index C owner x y (ws_ y bytes maxL (some .boolean)))) (hyx : y = ⟨owner, x.name, x.desc⟩) (hyd : owner ≠ "java/lang/invoke/MethodHandle" ∧ owner ≠ "java/lang/invoke/VarHandle" ∧ (parseMethodDescriptor x.desc).map (fun d => d.parameters.length) = some n) (hR : rm.frames + 1 ≤ R.frames ∧ 8 + (maxL + 11) + rm.locals ≤ R.locals)
    (hr : ∃ cell : Cell, H[b]? = some cell ∧ cell.vm.isStatics = false ∧ s.vm.findClass C = some cell.cls) (hn : As.length = n) (hls : ls.size = nL) (hst : st0 = As.reverse ++ .ref b :: rest) (hw : (rest.map fun v => v.category).sum ≤ 8) (hdg : decode cc pc = .ok (.invokevirtual index, 3)) (hf : cells + rm.cells ≤ R.cells ∧ slots + rm.slots ≤ R.slots)
    (kk : ∀ (r : Int32) (σ' : bf_V) (H1 : Heap) (locs1 : List Loc), Fin r σ' → (r = 0 ∨ r = 1) → bf_Dy G s H1 locs1 σ' → W p l e R s m args below meth c H1 locs1 (cells + rm.cells) (slots + rm.slots) Q (F0 m (pc + 3) ls (.int r :: rest))) : W p l e R s m args below meth c H locs cells slots Q (F0 m pc ls st0) := by
  refine va_calli (va_runU (As := As) (rest := rest) X hM (va_cwU n X.2.2.2.2 hG rfl rfl rfl hyx hyd hR) (bf_preV hd hr) rfl hn hls hst (lv_room hw) hdg hf) hd.2.1 (fun _ _ h => h) (fun _ h => h) (fun r u t H1 locs1 ht hvm hp hB hz hk hS => ?_)
  exact kk r u H1 locs1 hp.1 hp.2 (bf_after hd ht hB hS)
end BFL
-- the list of the JDK
set_option maxHeartbeats 4000000 in
theorem mJ5_checkIndex (l : Launch) (G : bf_G) (σ : bf_V) (x0 x1 : Int32) (h0 : ¬ x0 < 0) (h1 : x0 < x1) : bf_MI l G yJ5_checkIndex cJ5_checkIndex 3 (bf_rm 0) [.int x0, .int x1, .null] σ (fun v σ' => v = x0 ∧ σ' = σ) := by
  refine bf_MI.of rfl (Nat.le_of_ble_eq_true rfl) ?_
  intro p e s m below meth c Q X hlk hnm kret hd ls hl
  have hx := X.1
  have hb := X.2.1
  have hl : lv_has ls 3 [(0, .int x0), (1, .int x1), (2, .null)] := hl
  refine lv_iload_n hx hb dJ5_checkIndex_0 rfl (lv_at hl 0 rfl) ?_
  refine lv_if_lt (tgt := 9) hx hb dJ5_checkIndex_1 (by decide) (fun c1 => absurd c1 h0) (fun c1 => ?_)
  refine lv_iload_n hx hb dJ5_checkIndex_4 rfl (lv_at hl 0 rfl) ?_
  refine lv_iload_n hx hb dJ5_checkIndex_5 rfl (lv_at hl 1 rfl) ?_
  refine lv_icmp_lt (tgt := 16) hx hb dJ5_checkIndex_6 (by decide) (fun c2 => ?_) (fun c2 => absurd h1 c2)
  refine lv_iload_n hx hb dJ5_checkIndex_16 rfl (lv_at hl 0 rfl) ?_
  exact kret _ _ _ _ _ _ ⟨rfl, rfl⟩ hd dJ5_checkIndex_17
set_option maxHeartbeats 4000000 in
theorem mJ4_checkIndex (l : Launch) (G : bf_G) (σ : bf_V) (x0 x1 : Int32) (h0 : ¬ x0 < 0) (h1 : x0 < x1) : bf_MI l G yJ4_checkIndex cJ4_checkIndex 2 (bf_rm 1) [.int x0, .int x1] σ (fun v σ' => v = x0 ∧ σ' = σ) := by
  refine bf_MI.of rfl (Nat.le_of_ble_eq_true rfl) ?_
  intro p e s m below meth c Q X hlk hnm kret hd ls hl
  have hx := X.1
  have hb := X.2.1
  have hl : lv_has ls 2 [(0, .int x0), (1, .int x1)] := hl
  refine lv_iload_n hx hb dJ4_checkIndex_0 rfl (lv_at hl 0 rfl) ?_
  refine lv_iload_n hx hb dJ4_checkIndex_1 rfl (lv_at hl 1 rfl) ?_
  refine lv_null hx hb dJ4_checkIndex_2 ?_
  refine bf_cSi (n := 3) (As := [.int x0, .int x1, .null]) (rest := []) X hd (mJ5_checkIndex l G σ x0 x1 h0 h1) (lw_S q1082 q583 q159 q584) (by decide +kernel) ⟨Nat.le_of_ble_eq_true rfl, Nat.le_of_ble_eq_true rfl⟩ rfl hl.1 rfl (Nat.le_of_ble_eq_true rfl) dJ4_checkIndex_3 ⟨Nat.le_of_ble_eq_true rfl, Nat.le_of_ble_eq_true rfl⟩ (fun r σ' H locs hF hd => ?_)
  exact kret _ _ _ _ _ _ hF hd dJ4_checkIndex_6
theorem bf_TJ2 : (TJ2 1).1 = RJ2 ∧ (TJ2 2).1 = RJ2 := by decide +kernel
set_option maxHeartbeats 4000000 in
theorem mJ2_size (l : Launch) (G : bf_G) (σ : bf_V) (a : Nat) (V : Nat → Value) (n : Int32) (ha : σ.1 a = some (.inr (18, V))) (hV : V 2 = .int n) : bf_MI l G yJ2_size cJ2_size 1 (bf_rm 0) [.ref a] σ (fun v σ' => v = n ∧ σ' = σ) := by
  refine bf_MI.of rfl (Nat.le_of_ble_eq_true rfl) ?_
  intro p e s m below meth c Q X hlk hnm kret hd ls hl
  have hx := X.1
  have hb := X.2.1
  have hl : lv_has ls 1 [(0, .ref a)] := hl
  refine lv_aload_n hx hb dJ2_size_0 rfl (lv_at hl 0 rfl) ?_
  refine bf_get X hd ha (ci := 18) rfl in_J2 2 (by decide) q222 bf_TJ2.2 hV dJ2_size_1 ?_
  exact kret _ _ _ _ _ _ ⟨rfl, rfl⟩ hd dJ2_size_4
set_option maxHeartbeats 4000000 in
theorem mJ2_elementData (l : Launch) (G : bf_G) (σ : bf_V) (a : Nat) (V : Nat → Value) (b n : Nat) (f : Nat → Option Nat) (x1 : Int32) (ha : σ.1 a = some (.inr (18, V))) (hV : V 1 = .ref b) (hb2 : σ.1 b = some (.inl (G.2.1 8, n, bf_rs f))) (hin : bf_in x1 n = true) : bf_MQ l G yJ2_elementData cJ2_elementData 2 (.object "java/lang/Object") (bf_rm 0) [.ref a, .int x1] σ (fun v σ' => v = f x1.toNatClampNeg ∧ σ' = σ) := by
  refine bf_MQ.of rfl (Or.inl ⟨_, rfl⟩) (Nat.le_of_ble_eq_true rfl) ?_
  intro p e s m below meth c Q X hlk hnm kret hd ls hl
  have hx := X.1
  have hb := X.2.1
  have hl : lv_has ls 2 [(0, .ref a), (1, .int x1)] := hl
  refine lv_aload_n hx hb dJ2_elementData_0 rfl (lv_at hl 0 rfl) ?_
  refine bf_get X hd ha (ci := 18) rfl in_J2 1 (by decide) q221 bf_TJ2.1 hV dJ2_elementData_1 ?_
  refine lv_iload_n hx hb dJ2_elementData_4 rfl (lv_at hl 1 rfl) ?_
  refine bf_aald X hd hb2 8 rfl rfl hin rfl dJ2_elementData_5 ?_
  exact kret _ _ _ _ _ _ ⟨rfl, rfl⟩ hd dJ2_elementData_6
set_option maxHeartbeats 4000000 in
theorem mJ2_get (l : Launch) (G : bf_G) (σ : bf_V) (a : Nat) (V : Nat → Value) (b n : Nat) (f : Nat → Option Nat) (sz x1 : Int32) (ha : σ.1 a = some (.inr (18, V))) (hV : V 1 = .ref b) (hV2 : V 2 = .int sz) (hb2 : σ.1 b = some (.inl (G.2.1 8, n, bf_rs f))) (h0 : ¬ x1 < 0) (h1 : x1 < sz) (hin : bf_in x1 n = true) : bf_MQ l G yJ2_get cJ2_get 2 (.object "java/lang/Object") (bf_rm 2) [.ref a, .int x1] σ (fun v σ' => v = f x1.toNatClampNeg ∧ σ' = σ) := by
  refine bf_MQ.of rfl (Or.inl ⟨_, rfl⟩) (Nat.le_of_ble_eq_true rfl) ?_
  intro p e s m below meth c Q X hlk hnm kret hd ls hl
  have hx := X.1
  have hb := X.2.1
  have hl : lv_has ls 2 [(0, .ref a), (1, .int x1)] := hl
  refine lv_iload_n hx hb dJ2_get_0 rfl (lv_at hl 1 rfl) ?_
  refine lv_aload_n hx hb dJ2_get_1 rfl (lv_at hl 0 rfl) ?_
  refine bf_get X hd ha (ci := 18) rfl in_J2 2 (by decide) q222 bf_TJ2.2 hV2 dJ2_get_2 ?_
  refine bf_cSi (n := 2) (As := [.int x1, .int sz]) (rest := []) X hd (mJ4_checkIndex l G σ x1 sz h0 h1) (lw_S q1079 q1080 q158 q1081) (by decide +kernel) ⟨Nat.le_of_ble_eq_true rfl, Nat.le_of_ble_eq_true rfl⟩ rfl hl.1 rfl (Nat.le_of_ble_eq_true rfl) dJ2_get_5 ⟨Nat.le_of_ble_eq_true rfl, Nat.le_of_ble_eq_true rfl⟩ (fun r σ' H locs hF hd => ?_)
  rw [hF.2] at hd
  refine lv_pop hx hb dJ2_get_8 rfl ?_
  refine lv_aload_n hx hb dJ2_get_9 rfl (lv_at hl 0 rfl) ?_
  refine lv_iload_n hx hb dJ2_get_10 rfl (lv_at hl 1 rfl) ?_
  refine bf_cVq (n := 1) (As := [.int x1]) (rest := []) X hd (mJ2_elementData l G _ a V b n f x1 ha hV hb2 hin) (lw_V q1083 q1084 q1085 q152 q1086) (by decide +kernel) ⟨Nat.le_of_ble_eq_true rfl, Nat.le_of_ble_eq_true rfl⟩ (bf_recv hd ha (q := (RJ2, TJ2, 3)) rfl) rfl hl.1 rfl (Nat.le_of_ble_eq_true rfl) dJ2_get_11 ⟨Nat.le_of_ble_eq_true rfl, Nat.le_of_ble_eq_true rfl⟩ (fun r σ' H locs hF hd => ?_)
  exact kret _ _ _ _ _ _ hF hd dJ2_get_14
