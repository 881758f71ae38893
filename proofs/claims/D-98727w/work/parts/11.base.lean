/-! BASE: one view of the heap for every contract: what the run owns since the law's start. -/
set_option maxRecDepth 100000
/-- a cell: an array (class, length, contents) or an object (number of its class, fields) -/
abbrev bf_E : Type := (ClassId × vp_A) ⊕ (Nat × (Nat → Value))
/-- a view: the cells that the run owns, and the heap's size -/
abbrev bf_V : Type := (Nat → Option bf_E) × Nat
/-- class numbers and slots; array classes; the law's start and its arguments -/
abbrev bf_G : Type := va_G × (Nat → ClassId) × State × Array Value
abbrev bf_G.s0 (G : bf_G) : State := G.2.2.1
abbrev bf_G.sz (G : bf_G) : Nat := G.2.2.1.heap.size
abbrev bf_cl : List vw_C := [(RX0, TX0, 11), (RX1, TX1, 31), (RX2, TX2, 3), (RX3, TX3, 4), (RX4, TX4, 2), (RX5, TX5, 56), (RX6, TX6, 10), (RX7, TX7, 8), (RX9, TX9, 1), (RX10, TX10, 1), (RX11, TX11, 3), (RX12, TX12, 1), (RX13, TX13, 3), (RX14, TX14, 1), (RX16, TX16, 3), (RX17, TX17, 3), (RX18, TX18, 3), (RX19, TX19, 2), (RJ2, TJ2, 3)]
abbrev bf_tl : List FieldType := [.int, .byte, .object "BallotFruit$Party", .object "BallotFruit$Tree", .object "BallotFruit$Eater", .array .int, .object "BallotFruit$Path", .object "BallotFruit$Commune", .object "java/lang/Object"]
abbrev bf_tys (G : bf_G) : List (ClassId × FieldType) := [(G.2.1 0, .int), (G.2.1 1, .byte), (G.2.1 2, .object "BallotFruit$Party"), (G.2.1 3, .object "BallotFruit$Tree"), (G.2.1 4, .object "BallotFruit$Eater"), (G.2.1 5, .array .int), (G.2.1 6, .object "BallotFruit$Path"), (G.2.1 7, .object "BallotFruit$Commune"), (G.2.1 8, .object "java/lang/Object")]
def bf_at (G : bf_G) (a : Nat) (x : bf_E) (H : Heap) : Prop := match x with
  | .inl y => H[a]? = some (vp_cell y.1 y.2)
  | .inr o => ∃ r : vw_C, bf_cl[o.1]? = some r ∧ t_OB a (G.1.1 o.1) r.2.2 (G.1.2 o.1) H o.2
def bf_A (G : bf_G) : Nat → Prop := fun q => G.sz ≤ q
def bf_P (G : bf_G) (σ : bf_V) (H : Heap) : Prop := H.size = σ.2 ∧ ∀ (a : Nat) (x : bf_E), σ.1 a = some x → G.sz ≤ a ∧ bf_at G a x H
def bf_ok (G : bf_G) : Prop := va_K G.1 bf_cl (bf_tys G) G.s0 ∧ (∀ w ∈ lw_tbl, w.before G.2.2.2 G.s0 = true) ∧ (Jvm.Cond.and given_1 narrow_1).before G.2.2.2 G.s0 = true
def bf_fr (G : bf_G) (U : State) : Prop := bf_ok G ∧ G.s0.WarmedH U.vm ∧ G.sz ≤ U.heap.size ∧ ∀ q, q < G.sz → U.heap[q]? = G.s0.heap[q]?
/-- a contract's world -/
def bf_I (G : bf_G) (σ : bf_V) (U : State) : Prop := bf_fr G U ∧ bf_P G σ U.heap
/-- the world within a walk: the frame's start is s, the heap is H -/
def bf_Dy (G : bf_G) (s : State) (H : Heap) (locs : List Loc) (σ : bf_V) : Prop := bf_fr G s ∧ va_S (bf_A G) s.heap H locs ∧ bf_P G σ H
theorem bf_at.kept {G : bf_G} {a : Nat} {x : bf_E} {H H1 : Heap} (h : bf_at G a x H) (hq : H1[a]? = H[a]?) : bf_at G a x H1 := by
  cases x with
  | inl y => exact hq.trans h
  | inr o =>
    obtain ⟨r, h1, h2⟩ := h
    exact ⟨r, h1, h2.kept hq⟩
theorem bf_at.lt {G : bf_G} {a : Nat} {x : bf_E} {H : Heap} (h : bf_at G a x H) : a < H.size := by
  cases x with
  | inl y => exact (Array.getElem?_eq_some_iff.mp h).1
  | inr o =>
    obtain ⟨r, h1, cell, h2, -⟩ := h
    exact (Array.getElem?_eq_some_iff.mp h2).1
theorem bf_fr.K {G : bf_G} {U : State} (h : bf_fr G U) : va_K G.1 bf_cl (bf_tys G) U := va_K.moved h.2.1.alike h.1.1
theorem bf_Dy.K {G : bf_G} {s : State} {H : Heap} {locs : List Loc} {σ : bf_V} (h : bf_Dy G s H locs σ) : va_K G.1 bf_cl (bf_tys G) s := h.1.K
theorem bf_I.start {G : bf_G} {σ : bf_V} {s : State} (h : bf_I G σ s) : bf_Dy G s s.heap [] σ := ⟨h.1, va_S.rf, h.2⟩
theorem bf_Dy.leave {G : bf_G} {s t : State} {H : Heap} {locs : List Loc} {σ : bf_V} (h : bf_Dy G s H locs σ) (ht : t.heap = H) (hW : s.WarmedH t.vm) : bf_I G σ t := by
  obtain ⟨⟨h1, h2, h3, h4⟩, h5, h6⟩ := h
  subst ht
  refine ⟨⟨h1, State.WarmedH.trans h2 hW, Nat.le_trans h3 h5.1, fun q hq => ?_⟩, h6⟩
  rw [h5.2.1 q (Nat.lt_of_lt_of_le hq h3) (fun z => absurd z (Nat.not_le.mpr hq))]
  exact h4 q hq
theorem bf_Dy.lF {G : bf_G} {s t : State} {H : Heap} {locs : List Loc} {σ : bf_V} (h : bf_Dy G s H locs σ) (ht : t.heap = H) : va_F (bf_A G) s t := h.2.1.F ht
theorem bf_I.blind {G : bf_G} {σ : bf_V} {U : State} (g : JFrame) (mk : MethodId) (a : Array Value) (h : bf_I G σ U) : bf_I G σ (U.calling g mk a) := h
/-- an update of a view at one address -/
def bf_up (σ : bf_V) (a : Nat) (x : bf_E) : bf_V := (fun q => if q = a then some x else σ.1 q, σ.2)
/-- a new cell -/
def bf_ps (σ : bf_V) (x : bf_E) : bf_V := (fun q => if q = σ.2 then some x else σ.1 q, σ.2 + 1)
theorem bf_P.set {G : bf_G} {σ : bf_V} {H H1 : Heap} {a : Nat} {x0 x : bf_E} (h : bf_P G σ H) (ha : σ.1 a = some x0) (hz : H1.size = H.size) (hx : bf_at G a x H1) (oq : ∀ q, q ≠ a → H1[q]? = H[q]?) : bf_P G (bf_up σ a x) H1 := by
  refine ⟨hz.trans h.1, ?_⟩
  intro b y hb
  unfold bf_up at hb
  dsimp only at hb
  split at hb
  · next e => subst e; cases hb; exact ⟨(h.2 _ _ ha).1, hx⟩
  · next e => exact ⟨(h.2 b y hb).1, (h.2 b y hb).2.kept (oq b e)⟩
theorem bf_P.push {G : bf_G} {σ : bf_V} {H H1 : Heap} {x : bf_E} (h : bf_P G σ H) (hz : G.sz ≤ H.size) (hz1 : H1.size = H.size + 1) (hx : bf_at G H.size x H1) (oq : ∀ q, q < H.size → H1[q]? = H[q]?) : bf_P G (bf_ps σ x) H1 := by
  refine ⟨by rw [hz1, h.1]; rfl, ?_⟩
  intro b y hb
  unfold bf_ps at hb
  dsimp only at hb
  split at hb
  · next e => rw [← h.1] at e; subst e; cases hb; exact ⟨hz, hx⟩
  · next e => exact ⟨(h.2 b y hb).1, (h.2 b y hb).2.kept (oq b ((h.2 b y hb).2.lt))⟩
theorem bf_Dy.of {G : bf_G} {s : State} {H : Heap} {locs : List Loc} {σ σ' : bf_V} (h : bf_Dy G s H locs σ) (e : σ = σ') : bf_Dy G s H locs σ' := e ▸ h
theorem bf_Dy.none {G : bf_G} {s : State} {H : Heap} {locs : List Loc} {σ : bf_V} (h : bf_Dy G s H locs σ) {a : Nat} (ha : σ.2 ≤ a) : σ.1 a = none := by
  cases e : σ.1 a with
  | none => rfl
  | some x =>
    have h1 := (h.2.2.2 a x e).2.lt
    have h2 := h.2.2.1
    exact absurd h1 (by omega)
/-- contracts: an int, a boolean, nothing, a reference or null; Fin says which answer and which world -/
def bf_MI (l : Launch) (G : bf_G) (y : MethodName) (cc : ByteArray) (nL : Nat) (rm : Room) (av : List Value) (σ : bf_V) (Fin : Int32 → bf_V → Prop) : Prop :=
  Met l y (ws_ y cc nL (some .int)) rm (va_Pc av (bf_I G σ)) (va_Qi (fun r u => Fin r u) (bf_I G) (bf_A G)) rm.cells rm.slots (bf_A G)
def bf_MZ (l : Launch) (G : bf_G) (y : MethodName) (cc : ByteArray) (nL : Nat) (rm : Room) (av : List Value) (σ : bf_V) (Fin : Int32 → bf_V → Prop) : Prop :=
  Met l y (ws_ y cc nL (some .boolean)) rm (va_Pc av (bf_I G σ)) (va_Qi (fun r u => Fin r u ∧ (r = 0 ∨ r = 1)) (bf_I G) (bf_A G)) rm.cells rm.slots (bf_A G)
def bf_MV (l : Launch) (G : bf_G) (y : MethodName) (cc : ByteArray) (nL : Nat) (rm : Room) (av : List Value) (σ : bf_V) (Fin : bf_V → Prop) : Prop :=
  Met l y (ws_ y cc nL none) rm (va_Pc av (bf_I G σ)) (va_Qv (fun u => Fin u) (bf_I G) (bf_A G)) rm.cells rm.slots (bf_A G)
section BFM
variable {l : Launch} {G : bf_G} {y : MethodName} {cc : ByteArray} {nL : Nat} {rm : Room} {av : List Value} {σ : bf_V}
theorem bf_MI.of {Fin : Int32 → bf_V → Prop} (hy : plainName y.cls = true) (hlen : (lg_sl av).length ≤ nL)
    (body : ∀ (p : Program) (e : Env) (s : State) (m : MethodId) (below : List Frame) (meth : Method) (c : Code) (Q : State → Prop), CallFix p m c cc nL s av.toArray lw_all y.cls → meth.locks = false → meth.name = y.name →
      (∀ (v : Int32) (σ' : bf_V) (H : Heap) (locs : List Loc) (ls : Array Slot) (pc : Nat), Fin v σ' → bf_Dy G s H locs σ' → decode cc pc = .ok (.ireturn, 1) → W p l e rm s m av.toArray below meth c H locs rm.cells rm.slots Q (F0 m pc ls [.int v])) →
      bf_Dy G s s.heap [] σ → ∀ ls : Array Slot, lv_has ls nL (lv_args 0 av) → W p l e rm s m av.toArray below meth c s.heap [] 0 0 Q (F0 m 0 ls [])) : bf_MI l G y cc nL rm av σ Fin := by
  refine Met.ofW (cc := cc) (maxL := nL) (ret := some .int) hy rfl ?_
  intro p e s m args below meth c s₁ B hml hv
  obtain ⟨rfl, hI⟩ := hv
  have hts := atoms_spec (ws := ws_ y cc nL (some .int)) B.pre
  have hts : ∀ w ∈ lw_all, w.before _ s = true := fun w h => hts w (List.mem_cons_of_mem _ h)
  have hl := lv_entry av (n := nL) hlen
  rw [lg_entry_eq]
  generalize (lg_sl av ++ List.replicate (nL - (lg_sl av).length) Slot.unset).toArray = ls at hl ⊢
  refine body p e s m below meth c _ ⟨B.exec, B.bytes, hml, findClass_of_methodNamed B.named, hts⟩ B.notSynchronized (name_of_methodNamed B.named B.method).1 ?_ hI.start ls hl
  intro v σ' H locs ls pc hF hd hdg
  have hlk := B.notSynchronized
  exact W.iret (v := v) B.exec B.bytes B.returns (fun t ht hW => ⟨⟨v, σ', rfl, hF, hd.leave ht hW⟩, hd.lF ht⟩) hd.2.1.2.2 hdg hlk
theorem bf_MZ.of {Fin : Int32 → bf_V → Prop} (hy : plainName y.cls = true) (hlen : (lg_sl av).length ≤ nL)
    (body : ∀ (p : Program) (e : Env) (s : State) (m : MethodId) (below : List Frame) (meth : Method) (c : Code) (Q : State → Prop), CallFix p m c cc nL s av.toArray lw_all y.cls → meth.locks = false → meth.name = y.name →
      (∀ (v : Int32) (σ' : bf_V) (H : Heap) (locs : List Loc) (ls : Array Slot) (pc : Nat), Fin v σ' → (v = 0 ∨ v = 1) → bf_Dy G s H locs σ' → decode cc pc = .ok (.ireturn, 1) → W p l e rm s m av.toArray below meth c H locs rm.cells rm.slots Q (F0 m pc ls [.int v])) →
      bf_Dy G s s.heap [] σ → ∀ ls : Array Slot, lv_has ls nL (lv_args 0 av) → W p l e rm s m av.toArray below meth c s.heap [] 0 0 Q (F0 m 0 ls [])) : bf_MZ l G y cc nL rm av σ Fin := by
  refine Met.ofW (cc := cc) (maxL := nL) (ret := some .boolean) hy rfl ?_
  intro p e s m args below meth c s₁ B hml hv
  obtain ⟨rfl, hI⟩ := hv
  have hts := atoms_spec (ws := ws_ y cc nL (some .boolean)) B.pre
  have hts : ∀ w ∈ lw_all, w.before _ s = true := fun w h => hts w (List.mem_cons_of_mem _ h)
  have hl := lv_entry av (n := nL) hlen
  rw [lg_entry_eq]
  generalize (lg_sl av ++ List.replicate (nL - (lg_sl av).length) Slot.unset).toArray = ls at hl ⊢
  refine body p e s m below meth c _ ⟨B.exec, B.bytes, hml, findClass_of_methodNamed B.named, hts⟩ B.notSynchronized (name_of_methodNamed B.named B.method).1 ?_ hI.start ls hl
  intro v σ' H locs ls pc hF hz hd hdg
  have hlk := B.notSynchronized
  have hn : narrow .boolean (.int v) = .int v := by rcases hz with rfl | rfl <;> rfl
  exact W.zret (v := v) B.exec B.bytes B.returns hn (fun t ht hW => ⟨⟨v, σ', rfl, ⟨hF, hz⟩, hd.leave ht hW⟩, hd.lF ht⟩) hd.2.1.2.2 hdg hlk
theorem bf_MV.of {Fin : bf_V → Prop} (hy : plainName y.cls = true) (hlen : (lg_sl av).length ≤ nL)
    (body : ∀ (p : Program) (e : Env) (s : State) (m : MethodId) (below : List Frame) (meth : Method) (c : Code) (Q : State → Prop), CallFix p m c cc nL s av.toArray lw_all y.cls → meth.locks = false → meth.name = y.name →
      (∀ (σ' : bf_V) (H : Heap) (locs : List Loc) (ls : Array Slot) (pc : Nat), Fin σ' → bf_Dy G s H locs σ' → decode cc pc = .ok (.return_, 1) → W p l e rm s m av.toArray below meth c H locs rm.cells rm.slots Q (F0 m pc ls [])) →
      bf_Dy G s s.heap [] σ → ∀ ls : Array Slot, lv_has ls nL (lv_args 0 av) → W p l e rm s m av.toArray below meth c s.heap [] 0 0 Q (F0 m 0 ls [])) : bf_MV l G y cc nL rm av σ Fin := by
  refine Met.ofW (cc := cc) (maxL := nL) (ret := none) hy rfl ?_
  intro p e s m args below meth c s₁ B hml hv
  obtain ⟨rfl, hI⟩ := hv
  have hts := atoms_spec (ws := ws_ y cc nL none) B.pre
  have hts : ∀ w ∈ lw_all, w.before _ s = true := fun w h => hts w (List.mem_cons_of_mem _ h)
  have hl := lv_entry av (n := nL) hlen
  rw [lg_entry_eq]
  generalize (lg_sl av ++ List.replicate (nL - (lg_sl av).length) Slot.unset).toArray = ls at hl ⊢
  refine body p e s m below meth c _ ⟨B.exec, B.bytes, hml, findClass_of_methodNamed B.named, hts⟩ B.notSynchronized (name_of_methodNamed B.named B.method).1 ?_ hI.start ls hl
  intro σ' H locs ls pc hF hd hdg
  have hlk := B.notSynchronized
  exact W.vret B.exec B.bytes B.returns (fun t ht hW => ⟨⟨σ', rfl, hF, hd.leave ht hW⟩, hd.lF ht⟩) hd.2.1.2.2 hdg hlk
end BFM
section BFR
variable {p : Program} {l : Launch} {e : Env} {R : Room} {s : State} {m : MethodId} {args : Array Value} {below : List Frame} {meth : Method} {c : Code} {H : Heap} {locs : List Loc} {cells slots : Nat} {Q : State → Prop}
variable {G : bf_G} {σ : bf_V} {cc : ByteArray} {nL pc : Nat} {ls : Array Slot} {rest : List Value} {own : String}
/-- getfield -/
theorem bf_get (X : CallFix p m c cc nL s args lw_all own) (hd : bf_Dy G s H locs σ) {a ci : Nat} {V : Nat → Value} (ha : σ.1 a = some (.inr (ci, V))) {C : String} {T : u_T} {N : Nat} (hc : bf_cl[ci]? = some (C, T, N)) (hin : ∀ w ∈ u_ws C T N, w ∈ lw_all) (k : Nat) (hk : k < N) {index : Nat} {ref : String}
    (hlink : Cond.fieldLink own index ref (T k).2.1 (T k).2.2.1 ∈ lw_all) (hsame : (T k).1 = ref) {v : Value} (hv : V k = v) (hdg : decode cc pc = .ok (.getfield index, 3))
    (kk : W p l e R s m args below meth c H locs cells slots Q (F0 m (pc + 3) ls (v :: rest))) : W p l e R s m args below meth c H locs cells slots Q (F0 m pc ls (.ref a :: rest)) := by
  obtain ⟨hx, hb, -, hown, hts⟩ := X
  obtain ⟨r, h1, cell, q1, q2, q3, q4⟩ := (hd.2.2.2 a _ ha).2
  have hr : r = (C, T, N) := Option.some.inj (h1.symm.trans hc)
  subst hr
  subst hsame
  obtain ⟨hS, hfc, kC, hkC, hkind⟩ := hd.K.1 ci _ hc
  obtain ⟨cf, kf, fi, f, hi, hsl⟩ := hS k hk
  refine W.getf hx hb hown (hts _ hlink) hi (u_facts hfc hkC (u_lays hts hin hk) hi).1 q1 (by rw [q3]; exact fun h => by cases h) (v := v) ?_ rfl rfl hdg kk
  rw [hsl, q4 k hk, ← hv]
theorem bf_apart (X : CallFix p m c cc nL s args lw_all own) (hd : bf_Dy G s H locs σ) {ci : Nat} {C : String} {T : u_T} {N : Nat} (hc : bf_cl[ci]? = some (C, T, N)) (hin : ∀ w ∈ u_ws C T N, w ∈ lw_all) (ty : Nat → FieldType) (hty : ∀ k, k < N → parseFieldDescriptor (T k).2.2.1 = some (ty k)) (hnm : ∀ a, a < N → ∀ b, b < N → a ≠ b → (T a).2.1 ≠ (T b).2.1) : ∀ x y, x < N → y < N → x ≠ y → (G.1.2 ci) x ≠ (G.1.2 ci) y :=
  va_apart (own := own) X.2.2.2.2 hin ty hty hnm hd.K hc
theorem bf_S1 {a k : Nat} {H1 : Heap} (h : va_S (bf_A G) s.heap H locs) (z : H1.size = H.size) (oq : ∀ q : Nat, q ≠ a → H1[q]? = H[q]?) (ha : G.sz ≤ a) : va_S (bf_A G) s.heap H1 (locs ++ [⟨a, k⟩]) := h.put z oq ha
/-- putfield -/
theorem bf_put (X : CallFix p m c cc nL s args lw_all own) (hd : bf_Dy G s H locs σ) {a ci : Nat} {V : Nat → Value} (ha : σ.1 a = some (.inr (ci, V))) {C : String} {T : u_T} {N : Nat} (hc : bf_cl[ci]? = some (C, T, N)) (hin : ∀ w ∈ u_ws C T N, w ∈ lw_all) (ty0 : Nat → FieldType) (hty : ∀ k, k < N → parseFieldDescriptor (T k).2.2.1 = some (ty0 k)) (hnm : ∀ a, a < N → ∀ b, b < N → a ≠ b → (T a).2.1 ≠ (T b).2.1) (k : Nat) (hk : k < N) {index : Nat} {ref : String}
    (hlink : Cond.fieldLink own index ref (T k).2.1 (T k).2.2.1 ∈ lw_all) (hsame : (T k).1 = ref) (hfin : (T k).2.2.2 = false) {v : Value} (hn : narrow (ty0 k) v = v) (hfit : fits (ty0 k) v = true) (hdg : decode cc pc = .ok (.putfield index, 3))
    (kk : ∀ (H1 : Heap) (locs1 : List Loc), bf_Dy G s H1 locs1 (bf_up σ a (.inr (ci, updV V k v))) → W p l e R s m args below meth c H1 locs1 cells slots Q (F0 m (pc + 3) ls rest)) : W p l e R s m args below meth c H locs cells slots Q (F0 m pc ls (v :: .ref a :: rest)) := by
  have hap := bf_apart X hd hc hin ty0 hty hnm
  obtain ⟨hx, hb, -, hown, hts⟩ := X
  obtain ⟨r, h1, cell, q1, q2, q3, q4⟩ := (hd.2.2.2 a _ ha).2
  have hr : r = (C, T, N) := Option.some.inj (h1.symm.trans hc)
  subst hr
  subst hsame
  obtain ⟨hS, hfc, kC, hkC, hkind⟩ := hd.K.1 ci _ hc
  obtain ⟨cf, kf, fi, f, hi, hsl⟩ := hS k hk
  have hlay := hts _ (hin _ (u_in_lay hk))
  unfold u_lay at hlay
  rw [if_neg (by rw [hfin]; decide)] at hlay
  have hst := (u_facts hfc hkC (u_lays hts hin hk) hi).1
  have h6 := u_store hfc hkC hkind hlay hi (hty k hk) hn hfit
  refine W.putK hx hb (f := f) ⟨hown, hts _ hlink, ⟨_, _, _, hi⟩, hst⟩ (by rw [q2]; exact h6) q1 q3 (by rw [hsl]; exact k2_hasslot (q4 k hk)) rfl rfl hdg fun H' e1 e2 e3 => ?_
  rw [hsl] at e1 ⊢
  exact kk H' _ ⟨hd.1, bf_S1 hd.2.1 e2 e3 (hd.2.2.2 a _ ha).1, hd.2.2.set ha e2 ⟨_, hc, ⟨_, e1, q2, q3, t_set q4 hap hk v⟩⟩ e3⟩
/-- putfield of a final field, in its constructor -/
theorem bf_putF (X : CallFix p m c cc nL s args lw_all own) (hd : bf_Dy G s H locs σ) {a ci : Nat} {V : Nat → Value} (ha : σ.1 a = some (.inr (ci, V))) {C : String} {T : u_T} {N : Nat} (hc : bf_cl[ci]? = some (C, T, N)) (hin : ∀ w ∈ u_ws C T N, w ∈ lw_all) (ty0 : Nat → FieldType) (hty : ∀ k, k < N → parseFieldDescriptor (T k).2.2.1 = some (ty0 k)) (hnm : ∀ a, a < N → ∀ b, b < N → a ≠ b → (T a).2.1 ≠ (T b).2.1) (k : Nat) (hk : k < N) {index : Nat} {ref : String}
    (hlink : Cond.fieldLink own index ref (T k).2.1 (T k).2.2.1 ∈ lw_all) (hsame : (T k).1 = ref) (hfin : (T k).2.2.2 = true) (hin2 : meth.name = "<init>") (hdecl : (T k).1 = own) {v : Value} (hn : narrow (ty0 k) v = v) (hfit : fits (ty0 k) v = true) (hdg : decode cc pc = .ok (.putfield index, 3))
    (kk : ∀ (H1 : Heap) (locs1 : List Loc), bf_Dy G s H1 locs1 (bf_up σ a (.inr (ci, updV V k v))) → W p l e R s m args below meth c H1 locs1 cells slots Q (F0 m (pc + 3) ls rest)) : W p l e R s m args below meth c H locs cells slots Q (F0 m pc ls (v :: .ref a :: rest)) := by
  have hap := bf_apart X hd hc hin ty0 hty hnm
  obtain ⟨hx, hb, -, hown, hts⟩ := X
  obtain ⟨r, h1, cell, q1, q2, q3, q4⟩ := (hd.2.2.2 a _ ha).2
  have hr : r = (C, T, N) := Option.some.inj (h1.symm.trans hc)
  subst hr
  subst hsame
  obtain ⟨hS, hfc, kC, hkC, hkind⟩ := hd.K.1 ci _ hc
  obtain ⟨cf, kf, fi, f, hi, hsl⟩ := hS k hk
  have hlay := hts _ (hin _ (u_in_lay hk))
  unfold u_lay at hlay
  rw [if_pos hfin] at hlay
  have hst := (u_facts hfc hkC (u_lays hts hin hk) hi).1
  have hcf : m.cls = cf := by
    obtain ⟨_, _, c', _, _, _, -, -, hf', -, -, -, hown2, -⟩ := Cond.laysFinal_spec hlay
    have e1 : c' = cf := by have := hi.symm.trans hf'; simp at this; exact this.1.symm
    rw [hdecl] at hown2
    rw [← e1]; exact Option.some.inj (hown.symm.trans hown2)
  have h6 := u_fits hfc hkC hkind (Or.inr hlay) hi (hty k hk) hn hfit
  refine W.putFinK hx hb hown (hts _ hlink) hi hst hcf hin2 (by rw [q2]; exact h6) q1 q3 (by rw [hsl]; exact k2_hasslot (q4 k hk)) rfl rfl hdg fun H' e1 e2 e3 => ?_
  rw [hsl] at e1 ⊢
  exact kk H' _ ⟨hd.1, bf_S1 hd.2.1 e2 e3 (hd.2.2.2 a _ ha).1, hd.2.2.set ha e2 ⟨_, hc, ⟨_, e1, q2, q3, t_set q4 hap hk v⟩⟩ e3⟩
def bf_in (i : Int32) (n : Nat) : Bool := !(decide (i < 0)) && decide (i.toNatClampNeg < n)
theorem bf_in_vp {i : Int32} {n : Nat} (h : bf_in i n = true) : vp_in i n := by
  unfold bf_in at h
  simp only [Bool.and_eq_true, Bool.not_eq_true', decide_eq_false_iff_not, decide_eq_true_eq] at h
  rintro (q | q)
  · exact h.1 q
  · omega
/-- iaload -/
theorem bf_iald (X : CallFix p m c cc nL s args lw_all own) (hd : bf_Dy G s H locs σ) {a n : Nat} {f : Nat → Int32} (ha : σ.1 a = some (.inl (G.2.1 0, n, .inl f))) {i : Int32} (hin : bf_in i n = true) (hdg : decode cc pc = .ok (.iaload, 1))
    (kk : W p l e R s m args below meth c H locs cells slots Q (F0 m (pc + 1) ls (.int (f i.toNatClampNeg) :: rest))) : W p l e R s m args below meth c H locs cells slots Q (F0 m pc ls (.int i :: .ref a :: rest)) := by
  have h1 : H[a]? = some (vp_cell (G.2.1 0) (n, .inl f)) := (hd.2.2.2 a _ ha).2
  have hP : va_P G.1 bf_cl [(a, .inl (G.2.1 0, n, .inl f))] H := by
    intro k q hk
    have hz : k < 1 := (List.getElem?_eq_some_iff.mp hk).1
    rw [show k = 0 by omega] at hk
    cases hk
    exact h1
  exact va_iald X.1 X.2.1 hd.K hP 0 0 rfl rfl (bf_in_vp hin) hdg kk
/-- iastore -/
theorem bf_iast (X : CallFix p m c cc nL s args lw_all own) (hd : bf_Dy G s H locs σ) {a n : Nat} {f : Nat → Int32} (ha : σ.1 a = some (.inl (G.2.1 0, n, .inl f))) {i x : Int32} (hin : bf_in i n = true) (hdg : decode cc pc = .ok (.iastore, 1))
    (kk : ∀ (H1 : Heap) (locs1 : List Loc), bf_Dy G s H1 locs1 (bf_up σ a (.inl (G.2.1 0, n, .inl (upd f i.toNatClampNeg x)))) → W p l e R s m args below meth c H1 locs1 cells slots Q (F0 m (pc + 1) ls rest)) : W p l e R s m args below meth c H locs cells slots Q (F0 m pc ls (.int x :: .int i :: .ref a :: rest)) := by
  have h1 : H[a]? = some (vp_cell (G.2.1 0) (n, .inl f)) := (hd.2.2.2 a _ ha).2
  have hin := bf_in_vp hin
  refine W.iast X.1 X.2.1 h1 ((hd.K.2 0 _ rfl).1 n (fun j => .int (f j))) (fun q => by cases q) (by show ¬ (i < 0 ∨ (arrV _ _ _).slots.size ≤ _); rw [arrV_size]; exact hin) rfl rfl hdg fun H1 e z oq => ?_
  refine kk H1 _ ⟨hd.1, bf_S1 hd.2.1 z oq (hd.2.2.2 a _ ha).1, hd.2.2.set ha z ?_ oq⟩
  show H1[a]? = some (vp_cell _ _)
  rw [e]
  rw [vp_cell_i, vp_cell_i, arrV_store]
  congr 2
  funext q
  by_cases hq : q = i.toNatClampNeg
  · subst hq
    simp [updV, upd]
  · simp [updV, upd, hq]
/-- arraylength -/
theorem bf_alen (X : CallFix p m c cc nL s args lw_all own) (hd : bf_Dy G s H locs σ) {a : Nat} {cA : ClassId} {x : vp_A} (ha : σ.1 a = some (.inl (cA, x))) (t0 : Nat) {ty : FieldType} (ht : (bf_tys G)[t0]? = some (cA, ty)) (hdg : decode cc pc = .ok (.arraylength, 1))
    (kk : W p l e R s m args below meth c H locs cells slots Q (F0 m (pc + 1) ls (.int (Int32.ofNat x.1) :: rest))) : W p l e R s m args below meth c H locs cells slots Q (F0 m pc ls (.ref a :: rest)) := by
  have h1 : H[a]? = some (vp_cell cA x) := (hd.2.2.2 a _ ha).2
  have hP : va_P G.1 bf_cl [(a, .inl (cA, x))] H := by
    intro k q hk
    have hz : k < 1 := (List.getElem?_eq_some_iff.mp hk).1
    rw [show k = 0 by omega] at hk
    cases hk
    exact h1
  exact va_alen X.1 X.2.1 hd.K hP 0 t0 rfl ht rfl hdg kk
/-- a receiver -/
theorem bf_recv (hd : bf_Dy G s H locs σ) {a ci : Nat} {V : Nat → Value} (ha : σ.1 a = some (.inr (ci, V))) {q : vw_C} (hc : bf_cl[ci]? = some q) : ∃ cell : Cell, H[a]? = some cell ∧ cell.vm.isStatics = false ∧ s.vm.findClass q.1 = some cell.cls := by
  obtain ⟨q', h1, cell, g1, g2, g3, -⟩ := (hd.2.2.2 a _ ha).2
  exact ⟨cell, g1, by rw [g3]; rfl, by rw [g2]; exact (hd.K.1 ci q hc).2.1⟩
/-- calls -/
theorem bf_preV (hd : bf_Dy G s H locs σ) {C : String} {b : Nat} {As : List Value} (hr : ∃ cell : Cell, H[b]? = some cell ∧ cell.vm.isStatics = false ∧ s.vm.findClass C = some cell.cls) : PreV s H C b (va_Pc (.ref b :: As) (bf_I G σ)) As :=
  ⟨fun _ _ _ _ q => q, hr, fun _ hU hW => ⟨rfl, hd.leave hU hW⟩⟩
theorem bf_preS (hd : bf_Dy G s H locs σ) {As : List Value} : PreS s H (va_Pc As (bf_I G σ)) As :=
  ⟨fun _ _ _ _ q => q, fun _ hU hW => ⟨rfl, hd.leave hU hW⟩⟩
theorem bf_after (hd : bf_Dy G s H locs σ) {σ' : bf_V} {t : State} {H1 : Heap} {locs1 : List Loc} (ht : t.heap = H1) (hI : bf_I G σ' t) (hS : va_S (bf_A G) s.heap H1 locs1) : bf_Dy G s H1 locs1 σ' := ⟨hd.1, hS, ht ▸ hI.2⟩
/-- invokevirtual of a class's own method: an int -/
theorem bf_cVi (X : CallFix p m c cc nL s args lw_all own) (hd : bf_Dy G s H locs σ) {y : MethodName} {bytes : ByteArray} {maxL : Nat} {rm : Room} {b : Nat} {As : List Value} {Fin : Int32 → bf_V → Prop} (hM : bf_MI l G y bytes maxL rm (.ref b :: As) σ Fin) {C : String} {index n : Nat}
    (hG : GoodIn lw_all (wsV own index C y (ws_ y bytes maxL (some .int)))) (hyd : y.cls = C ∧ y.cls ≠ "java/lang/invoke/MethodHandle" ∧ y.cls ≠ "java/lang/invoke/VarHandle" ∧ (parseMethodDescriptor y.desc).map (fun d => d.parameters.length) = some n) (hR : rm.frames + 1 ≤ R.frames ∧ 8 + (maxL + 11) + rm.locals ≤ R.locals)
    (hr : ∃ cell : Cell, H[b]? = some cell ∧ cell.vm.isStatics = false ∧ s.vm.findClass C = some cell.cls) (hn : As.length = n) (hls : ls.size = nL) {st0 : List Value} (hst : st0 = As.reverse ++ .ref b :: rest) (hw : (rest.map fun v => v.category).sum ≤ 8) (hdg : decode cc pc = .ok (.invokevirtual index, 3)) (hf : cells + rm.cells ≤ R.cells ∧ slots + rm.slots ≤ R.slots)
    (kk : ∀ (r : Int32) (σ' : bf_V) (H1 : Heap) (locs1 : List Loc), Fin r σ' → bf_Dy G s H1 locs1 σ' → W p l e R s m args below meth c H1 locs1 (cells + rm.cells) (slots + rm.slots) Q (F0 m (pc + 3) ls (.int r :: rest))) : W p l e R s m args below meth c H locs cells slots Q (F0 m pc ls st0) := by
  refine va_calli (va_runV (As := As) (rest := rest) X hM (cwV n X.2.2.2.2 hG rfl rfl rfl hyd hR) (bf_preV hd hr) rfl hn hls hst (lv_room hw) hdg hf) hd.2.1 (fun _ _ h => h) (fun _ h => h) (fun r u t H1 locs1 ht hvm hp hB hz hk hS => ?_)
  exact kk r u H1 locs1 hp (bf_after hd ht hB hS)
/-- invokevirtual: a boolean -/
theorem bf_cVz (X : CallFix p m c cc nL s args lw_all own) (hd : bf_Dy G s H locs σ) {y : MethodName} {bytes : ByteArray} {maxL : Nat} {rm : Room} {b : Nat} {As : List Value} {Fin : Int32 → bf_V → Prop} (hM : bf_MZ l G y bytes maxL rm (.ref b :: As) σ Fin) {C : String} {index n : Nat}
    (hG : GoodIn lw_all (wsV own index C y (ws_ y bytes maxL (some .boolean)))) (hyd : y.cls = C ∧ y.cls ≠ "java/lang/invoke/MethodHandle" ∧ y.cls ≠ "java/lang/invoke/VarHandle" ∧ (parseMethodDescriptor y.desc).map (fun d => d.parameters.length) = some n) (hR : rm.frames + 1 ≤ R.frames ∧ 8 + (maxL + 11) + rm.locals ≤ R.locals)
    (hr : ∃ cell : Cell, H[b]? = some cell ∧ cell.vm.isStatics = false ∧ s.vm.findClass C = some cell.cls) (hn : As.length = n) (hls : ls.size = nL) {st0 : List Value} (hst : st0 = As.reverse ++ .ref b :: rest) (hw : (rest.map fun v => v.category).sum ≤ 8) (hdg : decode cc pc = .ok (.invokevirtual index, 3)) (hf : cells + rm.cells ≤ R.cells ∧ slots + rm.slots ≤ R.slots)
    (kk : ∀ (r : Int32) (σ' : bf_V) (H1 : Heap) (locs1 : List Loc), Fin r σ' → (r = 0 ∨ r = 1) → bf_Dy G s H1 locs1 σ' → W p l e R s m args below meth c H1 locs1 (cells + rm.cells) (slots + rm.slots) Q (F0 m (pc + 3) ls (.int r :: rest))) : W p l e R s m args below meth c H locs cells slots Q (F0 m pc ls st0) := by
  refine va_calli (va_runV (As := As) (rest := rest) X hM (cwV n X.2.2.2.2 hG rfl rfl rfl hyd hR) (bf_preV hd hr) rfl hn hls hst (lv_room hw) hdg hf) hd.2.1 (fun _ _ h => h) (fun _ h => h) (fun r u t H1 locs1 ht hvm hp hB hz hk hS => ?_)
  exact kk r u H1 locs1 hp.1 hp.2 (bf_after hd ht hB hS)
/-- invokevirtual: nothing -/
theorem bf_cVv (X : CallFix p m c cc nL s args lw_all own) (hd : bf_Dy G s H locs σ) {y : MethodName} {bytes : ByteArray} {maxL : Nat} {rm : Room} {b : Nat} {As : List Value} {Fin : bf_V → Prop} (hM : bf_MV l G y bytes maxL rm (.ref b :: As) σ Fin) {C : String} {index n : Nat}
    (hG : GoodIn lw_all (wsV own index C y (ws_ y bytes maxL none))) (hyd : y.cls = C ∧ y.cls ≠ "java/lang/invoke/MethodHandle" ∧ y.cls ≠ "java/lang/invoke/VarHandle" ∧ (parseMethodDescriptor y.desc).map (fun d => d.parameters.length) = some n) (hR : rm.frames + 1 ≤ R.frames ∧ 8 + (maxL + 11) + rm.locals ≤ R.locals)
    (hr : ∃ cell : Cell, H[b]? = some cell ∧ cell.vm.isStatics = false ∧ s.vm.findClass C = some cell.cls) (hn : As.length = n) (hls : ls.size = nL) {st0 : List Value} (hst : st0 = As.reverse ++ .ref b :: rest) (hw : (rest.map fun v => v.category).sum ≤ 8) (hdg : decode cc pc = .ok (.invokevirtual index, 3)) (hf : cells + rm.cells ≤ R.cells ∧ slots + rm.slots ≤ R.slots)
    (kk : ∀ (σ' : bf_V) (H1 : Heap) (locs1 : List Loc), Fin σ' → bf_Dy G s H1 locs1 σ' → W p l e R s m args below meth c H1 locs1 (cells + rm.cells) (slots + rm.slots) Q (F0 m (pc + 3) ls rest)) : W p l e R s m args below meth c H locs cells slots Q (F0 m pc ls st0) := by
  refine va_callv (va_runV (As := As) (rest := rest) X hM (cwV n X.2.2.2.2 hG rfl rfl rfl hyd hR) (bf_preV hd hr) rfl hn hls hst (lv_room hw) hdg hf) hd.2.1 (fun _ _ h => h) (fun _ h => h) (fun u t H1 locs1 ht hvm hp hB hz hk hS => ?_)
  exact kk u H1 locs1 hp (bf_after hd ht hB hS)
end BFR
/-- partial programs: a check -/
def bf_c {α : Type} (b : Bool) (k : Option α) : Option α := if b = true then k else none
theorem bf_c_some {α : Type} {b : Bool} {k : Option α} {r : α} (h : bf_c b k = some r) : b = true ∧ k = some r := by
  unfold bf_c at h
  split at h
  · next e => exact ⟨e, h⟩
  · cases h
theorem bf_c_t {α : Type} {b : Bool} {k : Option α} (h : b = true) : bf_c b k = k := by unfold bf_c; rw [if_pos h]
/-- partial programs: a call that may fail -/
def bf_b {α β : Type} (x : Option α) (k : α → Option β) : Option β := match x with
  | none => none
  | some a => k a
theorem bf_b_some {α β : Type} {x : Option α} {k : α → Option β} {r : β} (h : bf_b x k = some r) : ∃ a, x = some a ∧ k a = some r := by
  cases x with
  | none => cases h
  | some a => exact ⟨a, rfl, h⟩
theorem bf_b_t {α β : Type} {x : Option α} {k : α → Option β} {a : α} (h : x = some a) : bf_b x k = k a := by rw [h]; rfl
theorem bf_if_t {α : Type} {c : Prop} [Decidable c] {x y : Option α} {r : α} (h : (if c then x else y) = some r) (hc : c) : x = some r := by rwa [if_pos hc] at h
theorem bf_if_f {α : Type} {c : Prop} [Decidable c] {x y : Option α} {r : α} (h : (if c then x else y) = some r) (hc : ¬ c) : y = some r := by rwa [if_neg hc] at h
/-- the loops' fuel -/
def bf_fuel : Nat := 3000
