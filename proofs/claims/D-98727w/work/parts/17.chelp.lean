/-! THE COMMUNE's METHODS: what they share. What texts told (paths, law, plan) lies in cells that no method of the commune writes. -/
set_option maxRecDepth 100000
/-- a line of the law: its word, what it comes to, when (codes one behind another) -/
abbrev bf_Cd : Type := List (Nat × Int32)
abbrev bf_Ln : Type := Int32 × bf_Cd × Option bf_Cd
/-- a deed: kind, week, one, the rest -/
abbrev bf_Dd : Type := Nat × Int32 × Int32 × Int32
/-- what texts told: each eater's path (how many places, which), the law's lines, the plan's deeds -/
abbrev bf_D : Type := (Nat → Option (Nat × (Nat → Int32))) × List bf_Ln × List bf_Dd
/-- a cell that no commune method at c writes -/
def bf_fz (ν : bf_V) (c a : Nat) (x : bf_E) : Prop := ν.1 a = some x ∧ ¬ bf_own c a
theorem bf_fz_at {G : bf_G} {ν : bf_V} {c a : Nat} {x : bf_E} {q : Nat → Nat} {S : bf_CS} (h : bf_fz ν c a x) : (bf_pC G ν c q S).1 a = some x := by rw [bf_pC_out h.2]; exact h.1
/-- paths at a -/
def bf_zp (G : bf_G) (P : Nat → bf_E → Prop) (a : Nat) (D : Nat → Option (Nat × (Nat → Int32))) : Prop :=
  ∃ pe : Nat → Option Nat, P a (.inl (G.2.1 6, 10, bf_rs pe)) ∧ ∀ i, (D i = none → pe i = none) ∧ ∀ pd, D i = some pd → ∃ (b r : Nat) (V : Nat → Value), pe i = some b ∧ P b (.inr (13, V)) ∧ V 0 = .ref r ∧ P r (.inl (G.2.1 0, pd.1, .inl pd.2))
/-- a list of the JDK's at a: the elements' addresses -/
def bf_zL (G : bf_G) (P : Nat → bf_E → Prop) (a : Nat) (es : List Nat) : Prop :=
  ∃ V : Nat → Value, P a (.inr (18, V)) ∧ V 2 = .int (nI es.length) ∧ es.length < 2 ^ 31 ∧ (0 < es.length → ∃ (b n : Nat) (f : Nat → Option Nat), V 1 = .ref b ∧ P b (.inl (G.2.1 8, n, bf_rs f)) ∧ es.length ≤ n ∧ ∀ i, i < es.length → f i = es[i]?)
def bf_opc (how : Int32) : Nat := if how = 43 then 2 else if how = 45 then 3 else if how = 42 then 4 else if how = 47 then 5 else if how = 60 then 6 else if how = 61 then 7 else if how = 62 then 8 else if how = 5 then 10 else 11
/-- a term at a, as codes; of depth below n -/
def bf_zT (P : Nat → bf_E → Prop) : Nat → Nat → bf_Cd → Prop
  | 0, _, _ => False
  | n + 1, a, cs => (∃ (V : Nat → Value) (v : Int32), P a (.inr (8, V)) ∧ V 0 = .int v ∧ cs = [(0, v)]) ∨
    (∃ (V : Nat → Value) (w : Int32), P a (.inr (9, V)) ∧ V 0 = .int w ∧ cs = [(1, w)]) ∨
    (∃ (V : Nat → Value) (t : Nat) (c1 : bf_Cd), P a (.inr (11, V)) ∧ V 0 = .ref t ∧ bf_zT P n t c1 ∧ cs = c1 ++ [(9, 0)]) ∨
    (∃ (V : Nat → Value) (t u : Nat) (how : Int32) (c1 c2 : bf_Cd), P a (.inr (10, V)) ∧ V 0 = .ref t ∧ V 1 = .ref u ∧ V 2 = .int how ∧ bf_zT P n t c1 ∧ bf_zT P n u c2 ∧ cs = c1 ++ c2 ++ [(bf_opc how, 0)])
def bf_zLn (P : Nat → bf_E → Prop) (a : Nat) (ln : bf_Ln) : Prop :=
  ∃ (V : Nat → Value) (t : Nat), P a (.inr (12, V)) ∧ V 0 = .int ln.1 ∧ V 1 = .ref t ∧ bf_zT P 420 t ln.2.1 ∧ (ln.2.2 = none → V 2 = .null) ∧ ∀ w, ln.2.2 = some w → ∃ u, V 2 = .ref u ∧ bf_zT P 420 u w
def bf_zDd (P : Nat → bf_E → Prop) (a : Nat) (d : bf_Dd) : Prop :=
  ∃ V : Nat → Value, V 0 = .int d.2.1 ∧ V 1 = .int d.2.2.1 ∧ ((d.1 = 0 ∧ P a (.inr (14, V)) ∧ V 2 = .int d.2.2.2) ∨ (d.1 = 1 ∧ P a (.inr (15, V)) ∧ V 2 = .int d.2.2.2 ∧ (d.2.2.2 = 0 ∨ d.2.2.2 = 1)) ∨ (d.1 = 2 ∧ P a (.inr (16, V)) ∧ V 2 = .int d.2.2.2) ∨ (d.1 = 3 ∧ P a (.inr (17, V))))
def bf_zAll {α : Type} (Q : Nat → α → Prop) : List Nat → List α → Prop
  | [], [] => True
  | a :: l, x :: m => Q a x ∧ bf_zAll Q l m
  | _, _ => False
def bf_zl (G : bf_G) (P : Nat → bf_E → Prop) (a : Nat) (L : List bf_Ln) : Prop := ∃ es, bf_zL G P a es ∧ bf_zAll (bf_zLn P) es L
def bf_zd (G : bf_G) (P : Nat → bf_E → Prop) (a : Nat) (L : List bf_Dd) : Prop := ∃ es, bf_zL G P a es ∧ bf_zAll (bf_zDd P) es L
def bf_Z (G : bf_G) (ν : bf_V) (c : Nat) (q : Nat → Nat) (D : bf_D) : Prop := bf_zp G (bf_fz ν c) (q 0) D.1 ∧ bf_zl G (bf_fz ν c) (q 1) D.2.1 ∧ bf_zd G (bf_fz ν c) (q 2) D.2.2
/-- partial programs: a choice by null -/
def bf_q {α β : Type} (w : Option α) (a : β) (k : α → β) : β := match w with
  | none => a
  | some t => k t
theorem bf_q_n {α β : Type} {w : Option α} {a : β} {k : α → β} {r : β} (h : bf_q w a k = r) (e : w = none) : a = r := by rw [e] at h; exact h
theorem bf_q_s {α β : Type} {w : Option α} {a : β} {k : α → β} {r : β} {t : α} (h : bf_q w a k = r) (e : w = some t) : k t = r := by rw [e] at h; exact h
def bf_qn {α β : Type} (w : Option α) (k : α → Option β) : Option β := match w with
  | none => none
  | some t => k t
theorem bf_qn_some {α β : Type} {w : Option α} {k : α → Option β} {r : β} (h : bf_qn w k = some r) : ∃ t, w = some t ∧ k t = some r := by
  cases w with
  | none => cases h
  | some t => exact ⟨t, rfl, h⟩
theorem bf_opt {α : Type} (w : Option α) : w = none ∨ ∃ t, w = some t := by
  cases w with
  | none => exact Or.inl rfl
  | some t => exact Or.inr ⟨t, rfl⟩
abbrev bf_mmin (x y : Int32) : Int32 := if y < x then y else x
abbrev bf_mmax (x y : Int32) : Int32 := if x < y then y else x
section BFH
variable {p : Program} {l : Launch} {e : Env} {R : Room} {s : State} {m : MethodId} {args : Array Value} {below : List Frame} {meth : Method} {c : Code} {H : Heap} {locs : List Loc} {cells slots : Nat} {Q : State → Prop} {pc : Nat} {ls : Array Slot} {rest : List Value}
theorem bf_ift {q q' : Option Nat} (h : q = q') (k : W p l e R s m args below meth c H locs cells slots Q (F0 m pc ls (va_rf q' :: rest))) : W p l e R s m args below meth c H locs cells slots Q (F0 m pc ls (va_rf q :: rest)) := by rw [h]; exact k
variable {G : bf_G} {ν : bf_V} {cc : ByteArray} {nL : Nat} {o : Nat} {q : Nat → Nat} {S S' : bf_CS} {own : String}
variable {y : MethodName} {bytes : ByteArray} {maxL index n : Nat} {rm : Room} {As : List Value} {st0 : List Value} {r : Int32}
/-- calls of a commune's methods -/
theorem bf_cci (X : CallFix p m c cc nL s args lw_all own) (hd : bf_Dy G s H locs (bf_pC G ν o q S)) (hM : bf_MI l G y bytes maxL rm (.ref o :: As) (bf_pC G ν o q S) (fun v σ' => v = r ∧ σ' = bf_pC G ν o q S'))
    (hG : GoodIn lw_all (wsV own index RX1 y (ws_ y bytes maxL (some .int)))) (hyd : y.cls = RX1 ∧ y.cls ≠ "java/lang/invoke/MethodHandle" ∧ y.cls ≠ "java/lang/invoke/VarHandle" ∧ (parseMethodDescriptor y.desc).map (fun d => d.parameters.length) = some n) (hR : rm.frames + 1 ≤ R.frames ∧ 8 + (maxL + 11) + rm.locals ≤ R.locals)
    (hn : As.length = n) (hls : ls.size = nL) (hst : st0 = As.reverse ++ .ref o :: rest) (hw : (rest.map fun v => v.category).sum ≤ 8) (hdg : decode cc pc = .ok (.invokevirtual index, 3)) (hf : cells + rm.cells ≤ R.cells ∧ slots + rm.slots ≤ R.slots)
    (kk : ∀ (H : Heap) (locs : List Loc), bf_Dy G s H locs (bf_pC G ν o q S') → W p l e R s m args below meth c H locs (cells + rm.cells) (slots + rm.slots) Q (F0 m (pc + 3) ls (.int r :: rest))) : W p l e R s m args below meth c H locs cells slots Q (F0 m pc ls st0) := by
  refine bf_cVi X hd hM hG hyd hR (bf_recv hd (bf_c0 (bf_pC_hC G ν o q S)) (q := (RX1, TX1, 31)) rfl) hn hls hst hw hdg hf (fun r' σ' H1 l1 hF hd1 => ?_)
  obtain ⟨e1, e2⟩ := hF
  subst e1; subst e2
  exact kk H1 l1 hd1
theorem bf_ccz (X : CallFix p m c cc nL s args lw_all own) (hd : bf_Dy G s H locs (bf_pC G ν o q S)) (hM : bf_MZ l G y bytes maxL rm (.ref o :: As) (bf_pC G ν o q S) (fun v σ' => v = r ∧ σ' = bf_pC G ν o q S'))
    (hG : GoodIn lw_all (wsV own index RX1 y (ws_ y bytes maxL (some .boolean)))) (hyd : y.cls = RX1 ∧ y.cls ≠ "java/lang/invoke/MethodHandle" ∧ y.cls ≠ "java/lang/invoke/VarHandle" ∧ (parseMethodDescriptor y.desc).map (fun d => d.parameters.length) = some n) (hR : rm.frames + 1 ≤ R.frames ∧ 8 + (maxL + 11) + rm.locals ≤ R.locals)
    (hn : As.length = n) (hls : ls.size = nL) (hst : st0 = As.reverse ++ .ref o :: rest) (hw : (rest.map fun v => v.category).sum ≤ 8) (hdg : decode cc pc = .ok (.invokevirtual index, 3)) (hf : cells + rm.cells ≤ R.cells ∧ slots + rm.slots ≤ R.slots)
    (kk : ∀ (H : Heap) (locs : List Loc), (r = 0 ∨ r = 1) → bf_Dy G s H locs (bf_pC G ν o q S') → W p l e R s m args below meth c H locs (cells + rm.cells) (slots + rm.slots) Q (F0 m (pc + 3) ls (.int r :: rest))) : W p l e R s m args below meth c H locs cells slots Q (F0 m pc ls st0) := by
  refine bf_cVz X hd hM hG hyd hR (bf_recv hd (bf_c0 (bf_pC_hC G ν o q S)) (q := (RX1, TX1, 31)) rfl) hn hls hst hw hdg hf (fun r' σ' H1 l1 hF hz hd1 => ?_)
  obtain ⟨e1, e2⟩ := hF
  subst e1; subst e2
  exact kk H1 l1 hz hd1
theorem bf_ccv (X : CallFix p m c cc nL s args lw_all own) (hd : bf_Dy G s H locs (bf_pC G ν o q S)) (hM : bf_MV l G y bytes maxL rm (.ref o :: As) (bf_pC G ν o q S) (fun σ' => σ' = bf_pC G ν o q S'))
    (hG : GoodIn lw_all (wsV own index RX1 y (ws_ y bytes maxL none))) (hyd : y.cls = RX1 ∧ y.cls ≠ "java/lang/invoke/MethodHandle" ∧ y.cls ≠ "java/lang/invoke/VarHandle" ∧ (parseMethodDescriptor y.desc).map (fun d => d.parameters.length) = some n) (hR : rm.frames + 1 ≤ R.frames ∧ 8 + (maxL + 11) + rm.locals ≤ R.locals)
    (hn : As.length = n) (hls : ls.size = nL) (hst : st0 = As.reverse ++ .ref o :: rest) (hw : (rest.map fun v => v.category).sum ≤ 8) (hdg : decode cc pc = .ok (.invokevirtual index, 3)) (hf : cells + rm.cells ≤ R.cells ∧ slots + rm.slots ≤ R.slots)
    (kk : ∀ (H : Heap) (locs : List Loc), bf_Dy G s H locs (bf_pC G ν o q S') → W p l e R s m args below meth c H locs (cells + rm.cells) (slots + rm.slots) Q (F0 m (pc + 3) ls rest)) : W p l e R s m args below meth c H locs cells slots Q (F0 m pc ls st0) := by
  refine bf_cVv X hd hM hG hyd hR (bf_recv hd (bf_c0 (bf_pC_hC G ν o q S)) (q := (RX1, TX1, 31)) rfl) hn hls hst hw hdg hf (fun σ' H1 l1 hF hd1 => ?_)
  subst hF
  exact kk H1 l1 hd1
theorem bf_ccq (X : CallFix p m c cc nL s args lw_all own) (hd : bf_Dy G s H locs (bf_pC G ν o q S)) {rt : FieldType} {rq : Option Nat} (hM : bf_MQ l G y bytes maxL rt rm (.ref o :: As) (bf_pC G ν o q S) (fun v σ' => v = rq ∧ σ' = bf_pC G ν o q S'))
    (hG : GoodIn lw_all (wsV own index RX1 y (ws_ y bytes maxL (some rt)))) (hyd : y.cls = RX1 ∧ y.cls ≠ "java/lang/invoke/MethodHandle" ∧ y.cls ≠ "java/lang/invoke/VarHandle" ∧ (parseMethodDescriptor y.desc).map (fun d => d.parameters.length) = some n) (hR : rm.frames + 1 ≤ R.frames ∧ 8 + (maxL + 11) + rm.locals ≤ R.locals)
    (hn : As.length = n) (hls : ls.size = nL) (hst : st0 = As.reverse ++ .ref o :: rest) (hw : (rest.map fun v => v.category).sum ≤ 8) (hdg : decode cc pc = .ok (.invokevirtual index, 3)) (hf : cells + rm.cells ≤ R.cells ∧ slots + rm.slots ≤ R.slots)
    (kk : ∀ (H : Heap) (locs : List Loc), bf_Dy G s H locs (bf_pC G ν o q S') → W p l e R s m args below meth c H locs (cells + rm.cells) (slots + rm.slots) Q (F0 m (pc + 3) ls (va_rf rq :: rest))) : W p l e R s m args below meth c H locs cells slots Q (F0 m pc ls st0) := by
  refine bf_cVq X hd hM hG hyd hR (bf_recv hd (bf_c0 (bf_pC_hC G ν o q S)) (q := (RX1, TX1, 31)) rfl) hn hls hst hw hdg hf (fun r' σ' H1 l1 hF hd1 => ?_)
  obtain ⟨e1, e2⟩ := hF
  subst e1; subst e2
  exact kk H1 l1 hd1
end BFH
/-- what a term's codes come to (F: what the law asks) -/
def bf_op2 (k : Nat) (x y : Int32) : Option Int32 := if k = 2 then some (x + y) else if k = 3 then some (x - y) else if k = 4 then some (x * y) else if k = 5 then (if y = 0 then none else some (x / y)) else if k = 6 then some (if x < y then 1 else 0) else if k = 7 then some (if x = y then 1 else 0) else if k = 8 then some (if y < x then 1 else 0) else if k = 10 then some (x &&& y) else some (x ||| y)
def bf_ev (F : Int32 → Option Int32) : bf_Cd → List Int32 → Option (List Int32)
  | [], st => some st
  | (k, v) :: r, st => if k = 0 then bf_ev F r (v :: st) else if k = 1 then (match F v with | none => none | some z => bf_ev F r (z :: st)) else if k = 9 then (match st with | x :: t => bf_ev F r ((1 - x) :: t) | [] => none) else (match st with | y :: x :: t => (match bf_op2 k x y with | none => none | some z => bf_ev F r (z :: t)) | _ => none)
def bf_val (F : Int32 → Option Int32) (cs : bf_Cd) : Option Int32 := match bf_ev F cs [] with
  | some [v] => some v
  | _ => none
