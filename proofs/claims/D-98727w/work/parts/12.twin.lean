/-! THE REFERENCE's RECORD: BallotFruitModel is one object and 24 int arrays behind it. -/
set_option maxRecDepth 100000
/-- field k, place j (plain fields: j = 0) -/
abbrev bf_TS : Type := Nat → Nat → Int32
def bf_u2 (T : bf_TS) (k j : Nat) (v : Int32) : bf_TS := fun a b => if a = k ∧ b = j then v else T a b
/-- where a field's array lies behind the object; 0: no array -/
def bf_to (k : Nat) : Nat := match k with
  | 1 => 1 | 2 => 2 | 4 => 3 | 12 => 4 | 13 => 5 | 19 => 6 | 20 => 7 | 21 => 8 | 22 => 9 | 23 => 10 | 24 => 11 | 25 => 12 | 26 => 13 | 30 => 14 | 37 => 15 | 39 => 16 | 40 => 17 | 41 => 18 | 46 => 19 | 47 => 20 | 49 => 21 | 50 => 22 | 51 => 23 | 55 => 24
  | _ => 0
def bf_tk (j : Nat) : Nat := match j with
  | 1 => 1 | 2 => 2 | 3 => 4 | 4 => 12 | 5 => 13 | 6 => 19 | 7 => 20 | 8 => 21 | 9 => 22 | 10 => 23 | 11 => 24 | 12 => 25 | 13 => 26 | 14 => 30 | 15 => 37 | 16 => 39 | 17 => 40 | 18 => 41 | 19 => 46 | 20 => 47 | 21 => 49 | 22 => 50 | 23 => 51 | 24 => 55
  | _ => 0
def bf_tn (k : Nat) : Nat := match k with
  | 1 => 136 | 2 => 816 | 4 => 136 | 12 => 600 | 13 => 400 | 19 => 129 | 20 => 2 | 21 => 48 | 22 => 48 | 23 => 48 | 24 => 48 | 25 => 1200 | 26 => 1200 | 30 => 40 | 37 => 180 | 39 => 128 | 40 => 9 | 41 => 420 | 46 => 5 | 47 => 5 | 49 => 16 | 50 => 100 | 51 => 100 | 55 => 1900
  | _ => 0
theorem bf_to_tk : ∀ j, j < 25 → 0 < j → bf_to (bf_tk j) = j := by decide
def bf_tv (o : Nat) (T : bf_TS) (k : Nat) : Value := if bf_to k = 0 then .int (T k 0) else .ref (o + bf_to k)
def bf_tc (G : bf_G) (o : Nat) (T : bf_TS) (j : Nat) : bf_E := if j = 0 then .inr (5, bf_tv o T) else .inl (G.2.1 0, bf_tn (bf_tk j), .inl (T (bf_tk j)))
/-- the view with the reference's record at o -/
def bf_pT (G : bf_G) (σ : bf_V) (o : Nat) (T : bf_TS) : bf_V := (fun a => if o ≤ a ∧ a < o + 25 then some (bf_tc G o T (a - o)) else σ.1 a, σ.2)
theorem bf_pT_o (G : bf_G) (σ : bf_V) (o : Nat) (T : bf_TS) : (bf_pT G σ o T).1 o = some (.inr (5, bf_tv o T)) := by
  unfold bf_pT
  dsimp only
  rw [if_pos (by omega), Nat.sub_self]
  rfl
theorem bf_pT_a (G : bf_G) (σ : bf_V) (o : Nat) (T : bf_TS) {k : Nat} (h : bf_tk (bf_to k) = k) (h0 : 0 < bf_to k) (h1 : bf_to k < 25) : (bf_pT G σ o T).1 (o + bf_to k) = some (.inl (G.2.1 0, bf_tn k, .inl (T k))) := by
  unfold bf_pT
  dsimp only
  rw [if_pos (by omega), show o + bf_to k - o = bf_to k by omega]
  unfold bf_tc
  rw [if_neg (by omega), h]
theorem bf_u2_o {T : bf_TS} {k j a : Nat} {v : Int32} (h : a ≠ k) : bf_u2 T k j v a = T a := by
  funext b
  unfold bf_u2
  rw [if_neg (fun e => h e.1)]
theorem bf_u2_k {T : bf_TS} {k j : Nat} {v : Int32} : bf_u2 T k j v k = upd (T k) j v := by
  funext b
  unfold bf_u2 upd
  by_cases e : b = j
  · rw [if_pos ⟨rfl, e⟩, if_pos e]
  · rw [if_neg (fun q => e q.2), if_neg e]
theorem bf_pT_put (G : bf_G) (σ : bf_V) (o : Nat) (T : bf_TS) {k : Nat} (h : bf_to k = 0) (v : Int32) : bf_up (bf_pT G σ o T) o (.inr (5, updV (bf_tv o T) k (.int v))) = bf_pT G σ o (bf_u2 T k 0 v) := by
  refine Prod.ext ?_ rfl
  funext a
  unfold bf_up
  dsimp only
  by_cases e : a = o
  · subst e
    rw [if_pos rfl, bf_pT_o]
    congr 3
    funext j
    unfold updV bf_tv bf_u2
    by_cases ej : j = k
    · subst ej
      simp [h]
    · simp [ej]
  · rw [if_neg e]
    unfold bf_pT
    dsimp only
    by_cases hr : o ≤ a ∧ a < o + 25
    · rw [if_pos hr, if_pos hr]
      unfold bf_tc
      rw [if_neg (by omega), if_neg (by omega), bf_u2_o]
      intro q
      have := bf_to_tk (a - o) (by omega) (by omega)
      rw [q, h] at this
      omega
    · rw [if_neg hr, if_neg hr]
theorem bf_pT_ast (G : bf_G) (σ : bf_V) (o : Nat) (T : bf_TS) {k : Nat} (h : bf_tk (bf_to k) = k) (h0 : 0 < bf_to k) (h1 : bf_to k < 25) (i : Nat) (v : Int32) : bf_up (bf_pT G σ o T) (o + bf_to k) (.inl (G.2.1 0, bf_tn k, .inl (upd (T k) i v))) = bf_pT G σ o (bf_u2 T k i v) := by
  refine Prod.ext ?_ rfl
  funext a
  unfold bf_up
  dsimp only
  by_cases e : a = o + bf_to k
  · subst e
    rw [if_pos rfl, bf_pT_a G σ o _ h h0 h1, bf_u2_k]
  · rw [if_neg e]
    unfold bf_pT
    dsimp only
    by_cases hr : o ≤ a ∧ a < o + 25
    · rw [if_pos hr, if_pos hr]
      unfold bf_tc
      by_cases ea : a - o = 0
      · rw [if_pos ea, if_pos ea]
        congr 3
        funext j
        unfold bf_tv
        by_cases ej : bf_to j = 0
        · rw [if_pos ej, if_pos ej, bf_u2_o (fun q => by rw [q] at ej; omega)]
        · rw [if_neg ej, if_neg ej]
      · rw [if_neg ea, if_neg ea, bf_u2_o]
        intro q
        have := bf_to_tk (a - o) (by omega) (by omega)
        rw [q] at this
        omega
    · rw [if_neg hr, if_neg hr]
theorem bf_TX5c : ∀ k, k < 56 → (TX5 k).1 = RX5 := by decide +kernel
section BFT
variable {p : Program} {l : Launch} {e : Env} {R : Room} {s : State} {m : MethodId} {args : Array Value} {below : List Frame} {meth : Method} {c : Code} {H : Heap} {locs : List Loc} {cells slots : Nat} {Q : State → Prop}
variable {G : bf_G} {σ : bf_V} {cc : ByteArray} {nL pc : Nat} {ls : Array Slot} {rest : List Value} {o : Nat} {T : bf_TS}
/-- getfield of a number -/
theorem bf_tgi (X : CallFix p m c cc nL s args lw_all RX5) (hd : bf_Dy G s H locs (bf_pT G σ o T)) (k : Nat) (hk : k < 56) (h0 : bf_to k = 0) {index : Nat} (hq : Cond.fieldLink RX5 index RX5 (TX5 k).2.1 (TX5 k).2.2.1 ∈ lw_all) (hdg : decode cc pc = .ok (.getfield index, 3))
    (kk : W p l e R s m args below meth c H locs cells slots Q (F0 m (pc + 3) ls (.int (T k 0) :: rest))) : W p l e R s m args below meth c H locs cells slots Q (F0 m pc ls (.ref o :: rest)) :=
  bf_get X hd (bf_pT_o G σ o T) (ci := 5) rfl in_X5 k hk hq (bf_TX5c k hk) (v := .int (T k 0)) (by unfold bf_tv; rw [if_pos h0]) hdg kk
/-- getfield of an array -/
theorem bf_tga (X : CallFix p m c cc nL s args lw_all RX5) (hd : bf_Dy G s H locs (bf_pT G σ o T)) (k : Nat) (hk : k < 56) (h0 : ¬ bf_to k = 0) {index : Nat} (hq : Cond.fieldLink RX5 index RX5 (TX5 k).2.1 (TX5 k).2.2.1 ∈ lw_all) (hdg : decode cc pc = .ok (.getfield index, 3))
    (kk : W p l e R s m args below meth c H locs cells slots Q (F0 m (pc + 3) ls (.ref (o + bf_to k) :: rest))) : W p l e R s m args below meth c H locs cells slots Q (F0 m pc ls (.ref o :: rest)) :=
  bf_get X hd (bf_pT_o G σ o T) (ci := 5) rfl in_X5 k hk hq (bf_TX5c k hk) (v := .ref (o + bf_to k)) (by unfold bf_tv; rw [if_neg h0]) hdg kk
/-- putfield of a number -/
theorem bf_tpi (X : CallFix p m c cc nL s args lw_all RX5) (hd : bf_Dy G s H locs (bf_pT G σ o T)) (k : Nat) (hk : k < 56) (h0 : bf_to k = 0 ∧ (TX5 k).2.2.2 = false ∧ tyX5 k = .int) {index : Nat} (hq : Cond.fieldLink RX5 index RX5 (TX5 k).2.1 (TX5 k).2.2.1 ∈ lw_all) {v : Int32} (hdg : decode cc pc = .ok (.putfield index, 3))
    (kk : ∀ (H : Heap) (locs : List Loc), bf_Dy G s H locs (bf_pT G σ o (bf_u2 T k 0 v)) → W p l e R s m args below meth c H locs cells slots Q (F0 m (pc + 3) ls rest)) : W p l e R s m args below meth c H locs cells slots Q (F0 m pc ls (.int v :: .ref o :: rest)) :=
  bf_put X hd (bf_pT_o G σ o T) (ci := 5) rfl in_X5 tyX5 tyX5_ok nmX5 k hk hq (bf_TX5c k hk) h0.2.1 (v := .int v) (by rw [h0.2.2]; rfl) (by rw [h0.2.2]; rfl) hdg (fun H1 l1 h1 => kk H1 l1 (h1.of (bf_pT_put G σ o T h0.1 v)))
/-- putfield of a boolean -/
theorem bf_tpz (X : CallFix p m c cc nL s args lw_all RX5) (hd : bf_Dy G s H locs (bf_pT G σ o T)) (k : Nat) (hk : k < 56) (h0 : bf_to k = 0 ∧ (TX5 k).2.2.2 = false ∧ tyX5 k = .boolean) {index : Nat} (hq : Cond.fieldLink RX5 index RX5 (TX5 k).2.1 (TX5 k).2.2.1 ∈ lw_all) {v : Int32} (hz : v = 0 ∨ v = 1) (hdg : decode cc pc = .ok (.putfield index, 3))
    (kk : ∀ (H : Heap) (locs : List Loc), bf_Dy G s H locs (bf_pT G σ o (bf_u2 T k 0 v)) → W p l e R s m args below meth c H locs cells slots Q (F0 m (pc + 3) ls rest)) : W p l e R s m args below meth c H locs cells slots Q (F0 m pc ls (.int v :: .ref o :: rest)) :=
  bf_put X hd (bf_pT_o G σ o T) (ci := 5) rfl in_X5 tyX5 tyX5_ok nmX5 k hk hq (bf_TX5c k hk) h0.2.1 (v := .int v) (by rw [h0.2.2]; rcases hz with rfl | rfl <;> rfl) (by rw [h0.2.2]; rcases hz with rfl | rfl <;> rfl) hdg (fun H1 l1 h1 => kk H1 l1 (h1.of (bf_pT_put G σ o T h0.1 v)))
/-- iaload -/
theorem bf_tld (X : CallFix p m c cc nL s args lw_all RX5) (hd : bf_Dy G s H locs (bf_pT G σ o T)) (k : Nat) (h : bf_tk (bf_to k) = k ∧ 0 < bf_to k ∧ bf_to k < 25) {i : Int32} (hin : bf_in i (bf_tn k) = true) (hdg : decode cc pc = .ok (.iaload, 1))
    (kk : W p l e R s m args below meth c H locs cells slots Q (F0 m (pc + 1) ls (.int (T k i.toNatClampNeg) :: rest))) : W p l e R s m args below meth c H locs cells slots Q (F0 m pc ls (.int i :: .ref (o + bf_to k) :: rest)) :=
  bf_iald X hd (bf_pT_a G σ o T h.1 h.2.1 h.2.2) hin hdg kk
/-- iastore -/
theorem bf_tst (X : CallFix p m c cc nL s args lw_all RX5) (hd : bf_Dy G s H locs (bf_pT G σ o T)) (k : Nat) (h : bf_tk (bf_to k) = k ∧ 0 < bf_to k ∧ bf_to k < 25) {i x : Int32} (hin : bf_in i (bf_tn k) = true) (hdg : decode cc pc = .ok (.iastore, 1))
    (kk : ∀ (H : Heap) (locs : List Loc), bf_Dy G s H locs (bf_pT G σ o (bf_u2 T k i.toNatClampNeg x)) → W p l e R s m args below meth c H locs cells slots Q (F0 m (pc + 1) ls rest)) : W p l e R s m args below meth c H locs cells slots Q (F0 m pc ls (.int x :: .int i :: .ref (o + bf_to k) :: rest)) :=
  bf_iast X hd (bf_pT_a G σ o T h.1 h.2.1 h.2.2) hin hdg (fun H1 l1 h1 => kk H1 l1 (h1.of (bf_pT_ast G σ o T h.1 h.2.1 h.2.2 _ _)))
variable {y : MethodName} {bytes : ByteArray} {maxL index n : Nat} {rm : Room} {As : List Value} {st0 : List Value} {T' : bf_TS} {r : Int32}
/-- calls -/
theorem bf_tci (X : CallFix p m c cc nL s args lw_all RX5) (hd : bf_Dy G s H locs (bf_pT G σ o T)) (hM : bf_MI l G y bytes maxL rm (.ref o :: As) (bf_pT G σ o T) (fun v σ' => v = r ∧ σ' = bf_pT G σ o T'))
    (hG : GoodIn lw_all (wsV RX5 index RX5 y (ws_ y bytes maxL (some .int)))) (hyd : y.cls = RX5 ∧ y.cls ≠ "java/lang/invoke/MethodHandle" ∧ y.cls ≠ "java/lang/invoke/VarHandle" ∧ (parseMethodDescriptor y.desc).map (fun d => d.parameters.length) = some n) (hR : rm.frames + 1 ≤ R.frames ∧ 8 + (maxL + 11) + rm.locals ≤ R.locals)
    (hn : As.length = n) (hls : ls.size = nL) (hst : st0 = As.reverse ++ .ref o :: rest) (hw : (rest.map fun v => v.category).sum ≤ 8) (hdg : decode cc pc = .ok (.invokevirtual index, 3)) (hf : cells + rm.cells ≤ R.cells ∧ slots + rm.slots ≤ R.slots)
    (kk : ∀ (H : Heap) (locs : List Loc), bf_Dy G s H locs (bf_pT G σ o T') → W p l e R s m args below meth c H locs (cells + rm.cells) (slots + rm.slots) Q (F0 m (pc + 3) ls (.int r :: rest))) : W p l e R s m args below meth c H locs cells slots Q (F0 m pc ls st0) := by
  refine bf_cVi X hd hM hG hyd hR (bf_recv hd (bf_pT_o G σ o T) (q := (RX5, TX5, 56)) rfl) hn hls hst hw hdg hf (fun r' σ' H1 l1 hF hd1 => ?_)
  obtain ⟨e1, e2⟩ := hF
  subst e1; subst e2
  exact kk H1 l1 hd1
theorem bf_tcz (X : CallFix p m c cc nL s args lw_all RX5) (hd : bf_Dy G s H locs (bf_pT G σ o T)) (hM : bf_MZ l G y bytes maxL rm (.ref o :: As) (bf_pT G σ o T) (fun v σ' => v = r ∧ σ' = bf_pT G σ o T'))
    (hG : GoodIn lw_all (wsV RX5 index RX5 y (ws_ y bytes maxL (some .boolean)))) (hyd : y.cls = RX5 ∧ y.cls ≠ "java/lang/invoke/MethodHandle" ∧ y.cls ≠ "java/lang/invoke/VarHandle" ∧ (parseMethodDescriptor y.desc).map (fun d => d.parameters.length) = some n) (hR : rm.frames + 1 ≤ R.frames ∧ 8 + (maxL + 11) + rm.locals ≤ R.locals)
    (hn : As.length = n) (hls : ls.size = nL) (hst : st0 = As.reverse ++ .ref o :: rest) (hw : (rest.map fun v => v.category).sum ≤ 8) (hdg : decode cc pc = .ok (.invokevirtual index, 3)) (hf : cells + rm.cells ≤ R.cells ∧ slots + rm.slots ≤ R.slots)
    (kk : ∀ (H : Heap) (locs : List Loc), (r = 0 ∨ r = 1) → bf_Dy G s H locs (bf_pT G σ o T') → W p l e R s m args below meth c H locs (cells + rm.cells) (slots + rm.slots) Q (F0 m (pc + 3) ls (.int r :: rest))) : W p l e R s m args below meth c H locs cells slots Q (F0 m pc ls st0) := by
  refine bf_cVz X hd hM hG hyd hR (bf_recv hd (bf_pT_o G σ o T) (q := (RX5, TX5, 56)) rfl) hn hls hst hw hdg hf (fun r' σ' H1 l1 hF hz hd1 => ?_)
  obtain ⟨e1, e2⟩ := hF
  subst e1; subst e2
  exact kk H1 l1 hz hd1
theorem bf_tcv (X : CallFix p m c cc nL s args lw_all RX5) (hd : bf_Dy G s H locs (bf_pT G σ o T)) (hM : bf_MV l G y bytes maxL rm (.ref o :: As) (bf_pT G σ o T) (fun σ' => σ' = bf_pT G σ o T'))
    (hG : GoodIn lw_all (wsV RX5 index RX5 y (ws_ y bytes maxL none))) (hyd : y.cls = RX5 ∧ y.cls ≠ "java/lang/invoke/MethodHandle" ∧ y.cls ≠ "java/lang/invoke/VarHandle" ∧ (parseMethodDescriptor y.desc).map (fun d => d.parameters.length) = some n) (hR : rm.frames + 1 ≤ R.frames ∧ 8 + (maxL + 11) + rm.locals ≤ R.locals)
    (hn : As.length = n) (hls : ls.size = nL) (hst : st0 = As.reverse ++ .ref o :: rest) (hw : (rest.map fun v => v.category).sum ≤ 8) (hdg : decode cc pc = .ok (.invokevirtual index, 3)) (hf : cells + rm.cells ≤ R.cells ∧ slots + rm.slots ≤ R.slots)
    (kk : ∀ (H : Heap) (locs : List Loc), bf_Dy G s H locs (bf_pT G σ o T') → W p l e R s m args below meth c H locs (cells + rm.cells) (slots + rm.slots) Q (F0 m (pc + 3) ls rest)) : W p l e R s m args below meth c H locs cells slots Q (F0 m pc ls st0) := by
  refine bf_cVv X hd hM hG hyd hR (bf_recv hd (bf_pT_o G σ o T) (q := (RX5, TX5, 56)) rfl) hn hls hst hw hdg hf (fun σ' H1 l1 hF hd1 => ?_)
  subst hF
  exact kk H1 l1 hd1
end BFT
/-- partial programs: a value with a name; a call that answers and changes the record -/
def bf_l {α β : Type} (x : α) (k : α → β) : β := k x
theorem bf_l_e {α β : Type} {x : α} {k : α → β} {r : β} (h : bf_l x k = r) : ∃ a, a = x ∧ k a = r := ⟨x, rfl, h⟩
def bf_b2 {α β γ : Type} (x : Option (α × β)) (k : α → β → Option γ) : Option γ := match x with
  | none => none
  | some a => k a.1 a.2
theorem bf_b2_some {α β γ : Type} {x : Option (α × β)} {k : α → β → Option γ} {r : γ} (h : bf_b2 x k = some r) : ∃ a b, x = some (a, b) ∧ k a b = some r := by
  cases x with
  | none => cases h
  | some a => exact ⟨a.1, a.2, rfl, h⟩
theorem bf_b2_t {α β γ : Type} {x : Option (α × β)} {k : α → β → Option γ} {a : α} {b : β} (h : x = some (a, b)) : bf_b2 x k = k a b := by rw [h]; rfl
theorem bf_it {α : Type} {c : Prop} [Decidable c] {x y : α} {r : α} (h : (if c then x else y) = r) (hc : c) : x = r := by rwa [if_pos hc] at h
theorem bf_ie {α : Type} {c : Prop} [Decidable c] {x y : α} {r : α} (h : (if c then x else y) = r) (hc : ¬ c) : y = r := by rwa [if_neg hc] at h
theorem bf_pr {α β : Type} {a c : α} {b d : β} (h : some (a, b) = some (c, d)) : a = c ∧ b = d := by
  cases h
  exact ⟨rfl, rfl⟩
theorem bf_so {α : Type} {a c : α} (h : some a = some c) : a = c := Option.some.inj h
def bf_nz (y : Int32) : Bool := !(decide (y = 0))
theorem bf_nz_t {y : Int32} (h : bf_nz y = true) : ¬ y = 0 := by
  unfold bf_nz at h
  simpa using h
section BFW
variable {p : Program} {l : Launch} {e : Env} {R : Room} {s : State} {m : MethodId} {args : Array Value} {below : List Frame} {meth : Method} {c : Code} {H : Heap} {locs : List Loc} {cells slots : Nat} {Q : State → Prop} {pc : Nat} {ls : Array Slot} {rest : List Value}
theorem bf_top {x y : Int32} (h : y = x) (k : W p l e R s m args below meth c H locs cells slots Q (F0 m pc ls (.int y :: rest))) : W p l e R s m args below meth c H locs cells slots Q (F0 m pc ls (.int x :: rest)) := by rw [← h]; exact k
end BFW
