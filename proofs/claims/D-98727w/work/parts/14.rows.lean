/-! MORE ROWS over the view: nest mates' fields, arrays of references and bytes, new cells, calls that are static, answers that are references. -/
set_option maxRecDepth 100000
/-- contracts whose answer is a reference or null -/
def bf_MQ (l : Launch) (G : bf_G) (y : MethodName) (cc : ByteArray) (nL : Nat) (rt : FieldType) (rm : Room) (av : List Value) (σ : bf_V) (Fin : Option Nat → bf_V → Prop) : Prop :=
  Met l y (ws_ y cc nL (some rt)) rm (va_Pc av (bf_I G σ)) (va_Qq (fun r u => Fin r u) (bf_I G) (bf_A G)) rm.cells rm.slots (bf_A G)
theorem bf_MQ.of {l : Launch} {G : bf_G} {y : MethodName} {cc : ByteArray} {nL : Nat} {rt : FieldType} {rm : Room} {av : List Value} {σ : bf_V} {Fin : Option Nat → bf_V → Prop} (hy : plainName y.cls = true) (hrt : (∃ n, rt = .object n) ∨ ∃ t, rt = .array t) (hlen : (lg_sl av).length ≤ nL)
    (body : ∀ (p : Program) (e : Env) (s : State) (m : MethodId) (below : List Frame) (meth : Method) (c : Code) (Q : State → Prop), CallFix p m c cc nL s av.toArray lw_all y.cls → meth.locks = false → meth.name = y.name →
      (∀ (v : Option Nat) (σ' : bf_V) (H : Heap) (locs : List Loc) (ls : Array Slot) (pc : Nat), Fin v σ' → bf_Dy G s H locs σ' → decode cc pc = .ok (.areturn, 1) → W p l e rm s m av.toArray below meth c H locs rm.cells rm.slots Q (F0 m pc ls [va_rf v])) →
      bf_Dy G s s.heap [] σ → ∀ ls : Array Slot, lv_has ls nL (lv_args 0 av) → W p l e rm s m av.toArray below meth c s.heap [] 0 0 Q (F0 m 0 ls [])) : bf_MQ l G y cc nL rt rm av σ Fin := by
  refine Met.ofW (cc := cc) (maxL := nL) (ret := some rt) hy rfl ?_
  intro p e s m args below meth c s₁ B hml hv
  obtain ⟨rfl, hI⟩ := hv
  have hts := atoms_spec (ws := ws_ y cc nL (some rt)) B.pre
  have hts : ∀ w ∈ lw_all, w.before _ s = true := fun w h => hts w (List.mem_cons_of_mem _ h)
  have hl := lv_entry av (n := nL) hlen
  rw [lg_entry_eq]
  generalize (lg_sl av ++ List.replicate (nL - (lg_sl av).length) Slot.unset).toArray = ls at hl ⊢
  refine body p e s m below meth c _ ⟨B.exec, B.bytes, hml, findClass_of_methodNamed B.named, hts⟩ B.notSynchronized (name_of_methodNamed B.named B.method).1 ?_ hI.start ls hl
  intro v σ' H locs ls pc hF hd hdg
  have hlk := B.notSynchronized
  exact W.aret (v := va_rf v) B.exec B.bytes B.returns hrt (by cases v with | none => exact Or.inl rfl | some a => exact Or.inr ⟨a, rfl⟩) (fun t ht hW => ⟨⟨v, σ', rfl, hF, hd.leave ht hW⟩, hd.lF ht⟩) hd.2.1.2.2 hdg hlk
theorem bf_fr.F {G : bf_G} {s : State} (h : bf_fr G s) {A : Array Value} {a : String} {i : Nat} {b n d q : String} (hw : Cond.fieldLinkNest a i b n d q ∈ lw_tbl) : (Cond.fieldLinkNest a i b n d q).before A s = true :=
  va_Nw.use rfl (va_Nw.warmF h.2.1 (va_Nw.of rfl (h.1.2.1 _ hw)))
theorem bf_fr.M {G : bf_G} {s : State} (h : bf_fr G s) {A : Array Value} {a : String} {i : Nat} {x : MethodName} {q : String} (hw : Cond.methodLinkNest a i x q ∈ lw_tbl) : (Cond.methodLinkNest a i x q).before A s = true :=
  va_Nw.use rfl (va_Nw.warmM h.2.1 (va_Nw.of rfl (h.1.2.1 _ hw)))
theorem bf_fr.O {G : bf_G} {s : State} (h : bf_fr G s) {C : String} (hw : Cond.arrayOver (.object C) ∈ lw_tbl) : va_AO C s :=
  va_AO.moved h.2.1.alike (va_AO.of (h.1.2.1 _ hw))
theorem bf_Dy.sz {G : bf_G} {s : State} {H : Heap} {locs : List Loc} {σ : bf_V} (h : bf_Dy G s H locs σ) : G.sz ≤ H.size := Nat.le_trans h.1.2.2.1 h.2.1.1
theorem bf_Dy.lt {G : bf_G} {s : State} {H : Heap} {locs : List Loc} {σ : bf_V} (h : bf_Dy G s H locs σ) {a : Nat} {x : bf_E} (ha : σ.1 a = some x) : a < σ.2 := by
  have h1 := (h.2.2.2 a x ha).2.lt
  have h2 := h.2.2.1
  omega
section BFN
variable {p : Program} {l : Launch} {e : Env} {R : Room} {s : State} {m : MethodId} {args : Array Value} {below : List Frame} {meth : Method} {c : Code} {H : Heap} {locs : List Loc} {cells slots : Nat} {Q : State → Prop}
variable {G : bf_G} {σ : bf_V} {cc : ByteArray} {nL pc : Nat} {ls : Array Slot} {rest : List Value} {own : String}
/-- getfield, a nest mate's -/
theorem bf_getN (X : CallFix p m c cc nL s args lw_all own) (hd : bf_Dy G s H locs σ) {a ci : Nat} {V : Nat → Value} (ha : σ.1 a = some (.inr (ci, V))) {C : String} {T : u_T} {N : Nat} (hc : bf_cl[ci]? = some (C, T, N)) (hin : ∀ w ∈ u_ws C T N, w ∈ lw_all) (k : Nat) (hk : k < N) {index : Nat} {ref host : String}
    (hlink : Cond.fieldLinkNest own index ref (T k).2.1 (T k).2.2.1 host ∈ lw_tbl) (hsame : (T k).1 = ref) {v : Value} (hv : V k = v) (hdg : decode cc pc = .ok (.getfield index, 3))
    (kk : W p l e R s m args below meth c H locs cells slots Q (F0 m (pc + 3) ls (v :: rest))) : W p l e R s m args below meth c H locs cells slots Q (F0 m pc ls (.ref a :: rest)) := by
  obtain ⟨hx, hb, -, hown, hts⟩ := X
  obtain ⟨r, h1, cell, q1, q2, q3, q4⟩ := (hd.2.2.2 a _ ha).2
  have hr : r = (C, T, N) := Option.some.inj (h1.symm.trans hc)
  subst hr
  subst hsame
  obtain ⟨hS, hfc, kC, hkC, hkind⟩ := hd.K.1 ci _ hc
  obtain ⟨cf, kf, fi, f, hi, hsl⟩ := hS k hk
  refine va_Wgetf hx hb hown (hd.1.F hlink) hi (u_facts hfc hkC (u_lays hts hin hk) hi).1 q1 (by rw [q3]; exact fun h => by cases h) (v := v) ?_ rfl rfl hdg kk
  rw [hsl, q4 k hk, ← hv]
/-- putfield, a nest mate's -/
theorem bf_putN (X : CallFix p m c cc nL s args lw_all own) (hd : bf_Dy G s H locs σ) {a ci : Nat} {V : Nat → Value} (ha : σ.1 a = some (.inr (ci, V))) {C : String} {T : u_T} {N : Nat} (hc : bf_cl[ci]? = some (C, T, N)) (hin : ∀ w ∈ u_ws C T N, w ∈ lw_all) (ty0 : Nat → FieldType) (hty : ∀ k, k < N → parseFieldDescriptor (T k).2.2.1 = some (ty0 k)) (hnm : ∀ a, a < N → ∀ b, b < N → a ≠ b → (T a).2.1 ≠ (T b).2.1) (k : Nat) (hk : k < N) {index : Nat} {ref host : String}
    (hlink : Cond.fieldLinkNest own index ref (T k).2.1 (T k).2.2.1 host ∈ lw_tbl) (hsame : (T k).1 = ref) (hfin : (T k).2.2.2 = false) {v : Value} (hn : narrow (ty0 k) v = v) (hfit : fits (ty0 k) v = true) (hdg : decode cc pc = .ok (.putfield index, 3))
    (kk : ∀ (H1 : Heap) (locs1 : List Loc), bf_Dy G s H1 locs1 (bf_up σ a (.inr (ci, updV V k v))) → W p l e R s m args below meth c H1 locs1 cells slots Q (F0 m (pc + 3) ls rest)) : W p l e R s m args below meth c H locs cells slots Q (F0 m pc ls (v :: .ref a :: rest)) := by
  have hap := bf_apart X hd hc hin ty0 hty hnm
  obtain ⟨hx, hb, -, hown, hts⟩ := X
  obtain ⟨r, h1, cell, q1, q2, q3, q4⟩ := (hd.2.2.2 a _ ha).2
  have hr : r = (C, T, N) := Option.some.inj (h1.symm.trans hc)
  subst hr
  subst hsame
  obtain ⟨hS, hfc, kC, hkC, hkind⟩ := hd.K.1 ci _ hc
  obtain ⟨cf, kf, fi, f, hi, hsl⟩ := hS k hk
  have hlay := hts _ (hin _ (u_in_lay hk))
  unfold u_lay at hlay
  rw [if_neg (by rw [hfin]; decide)] at hlay
  have hst := (u_facts hfc hkC (u_lays hts hin hk) hi).1
  have h6 := u_store hfc hkC hkind hlay hi (hty k hk) hn hfit
  refine va_WputK hx hb (f := f) hown (hd.1.F hlink) hi hst (by rw [q2]; exact h6) q1 q3 (by rw [hsl]; exact k2_hasslot (q4 k hk)) rfl rfl hdg fun H' e1 e2 e3 => ?_
  rw [hsl] at e1 ⊢
  exact kk H' _ ⟨hd.1, bf_S1 hd.2.1 e2 e3 (hd.2.2.2 a _ ha).1, hd.2.2.set ha e2 ⟨_, hc, ⟨_, e1, q2, q3, t_set q4 hap hk v⟩⟩ e3⟩
/-- aaload -/
theorem bf_aald (X : CallFix p m c cc nL s args lw_all own) (hd : bf_Dy G s H locs σ) {a n : Nat} {cA : ClassId} {f : Nat → Option Nat} (ha : σ.1 a = some (.inl (cA, n, .inr (.inr (.inr (.inr f)))))) (t0 : Nat) {ty : FieldType} (ht : (bf_tys G)[t0]? = some (cA, ty)) (hr : ty.isReference = true) {i : Int32} (hin : bf_in i n = true) {v : Value} (hv : va_rf (f i.toNatClampNeg) = v) (hdg : decode cc pc = .ok (.aaload, 1))
    (kk : W p l e R s m args below meth c H locs cells slots Q (F0 m (pc + 1) ls (v :: rest))) : W p l e R s m args below meth c H locs cells slots Q (F0 m pc ls (.int i :: .ref a :: rest)) := by
  have h1 : H[a]? = some (vp_cell cA (n, .inr (.inr (.inr (.inr f))))) := (hd.2.2.2 a _ ha).2
  have hin := bf_in_vp hin
  have hlt : i.toNatClampNeg < n := Nat.not_le.mp fun q => hin (Or.inr q)
  subst hv
  exact W.aald (v := va_rf (f i.toNatClampNeg)) (ty := ty) X.1 X.2.1 h1 ((hd.K.2 t0 _ ht).1 n (fun j => va_rf (f j))) hr (fun q => by cases q) (by show ¬ (i < 0 ∨ (arrV _ _ _).slots.size ≤ _); rw [arrV_size]; exact hin) (by show (arrV _ _ _).slots[_]? = _; rw [arrV_read _ _ hlt]) rfl rfl hdg kk
/-- aastore of an object of the array's own class -/
theorem bf_aast (X : CallFix p m c cc nL s args lw_all own) (hd : bf_Dy G s H locs σ) {a n v ci : Nat} {cA : ClassId} {f : Nat → Option Nat} {V : Nat → Value} {r : vw_C} (ha : σ.1 a = some (.inl (cA, n, .inr (.inr (.inr (.inr f)))))) (t0 : Nat) (ht : (bf_tys G)[t0]? = some (cA, .object r.1)) (hv : σ.1 v = some (.inr (ci, V))) (hc : bf_cl[ci]? = some r) {i : Int32} (hin : bf_in i n = true) (hdg : decode cc pc = .ok (.aastore, 1))
    (kk : ∀ (H1 : Heap) (locs1 : List Loc), bf_Dy G s H1 locs1 (bf_up σ a (.inl (cA, n, .inr (.inr (.inr (.inr (va_up f i.toNatClampNeg (some v)))))))) → W p l e R s m args below meth c H1 locs1 cells slots Q (F0 m (pc + 1) ls rest)) : W p l e R s m args below meth c H locs cells slots Q (F0 m pc ls (.ref v :: .int i :: .ref a :: rest)) := by
  have h1 : H[a]? = some (vp_cell cA (n, .inr (.inr (.inr (.inr f))))) := (hd.2.2.2 a _ ha).2
  have hin := bf_in_vp hin
  have hlt : i.toNatClampNeg < n := Nat.not_le.mp fun q => hin (Or.inr q)
  have h0 : ¬ i < 0 := fun q => hin (Or.inl q)
  obtain ⟨r', hr', cellV, g1, g2, g3, -⟩ := (hd.2.2.2 v _ hv).2
  have hcls := (hd.K.1 ci r hc).2
  obtain ⟨kA, comp, k1, k2, k3, -⟩ := (hd.K.2 t0 _ ht).2
  have hcomp : comp = G.1.1 ci := Option.some.inj (k3.symm.trans hcls.1)
  subst hcomp
  obtain ⟨kC, hkC, -⟩ := hcls.2
  refine W.aast X.1 X.2.1 h1 (fun q h => by cases h) (fun h => by cases h) k1 k2 rfl hkC ⟨h0, by show _ < (arrV _ _ _).slots.size; rw [arrV_size]; exact hlt⟩ g1 (fun q h => by rw [g3] at h; cases h) (by rw [g2]; exact hkC) (by rw [g2]; exact va_assign hcls) rfl rfl hdg fun H1 e z oq => ?_
  refine kk H1 _ ⟨hd.1, bf_S1 hd.2.1 z oq (hd.2.2.2 a _ ha).1, hd.2.2.set ha z ?_ oq⟩
  show H1[a]? = some (vp_cell _ _)
  rw [e]
  rw [vp_cell_q, vp_cell_q, arrV_store]
  congr 2
  funext q
  by_cases hq : q = i.toNatClampNeg
  · subst hq
    simp [updV, va_up, va_rf]
  · simp [updV, va_up, hq]
/-- baload, bastore -/
theorem bf_bald (X : CallFix p m c cc nL s args lw_all own) (hd : bf_Dy G s H locs σ) {a n : Nat} {f : Nat → Int32} (ha : σ.1 a = some (.inl (G.2.1 1, n, .inl f))) {i : Int32} (hin : bf_in i n = true) (hdg : decode cc pc = .ok (.baload, 1))
    (kk : W p l e R s m args below meth c H locs cells slots Q (F0 m (pc + 1) ls (.int (f i.toNatClampNeg) :: rest))) : W p l e R s m args below meth c H locs cells slots Q (F0 m pc ls (.int i :: .ref a :: rest)) := by
  have h1 : H[a]? = some (vp_cell (G.2.1 1) (n, .inl f)) := (hd.2.2.2 a _ ha).2
  have hP : va_P G.1 bf_cl [(a, .inl (G.2.1 1, n, .inl f))] H := by
    intro k q hk
    have hz : k < 1 := (List.getElem?_eq_some_iff.mp hk).1
    rw [show k = 0 by omega] at hk
    cases hk
    exact h1
  exact va_bald X.1 X.2.1 hd.K hP 0 1 rfl rfl (bf_in_vp hin) hdg kk
theorem bf_bast (X : CallFix p m c cc nL s args lw_all own) (hd : bf_Dy G s H locs σ) {a n : Nat} {f : Nat → Int32} (ha : σ.1 a = some (.inl (G.2.1 1, n, .inl f))) {i x : Int32} (hin : bf_in i n = true) (hdg : decode cc pc = .ok (.bastore, 1))
    (kk : ∀ (H1 : Heap) (locs1 : List Loc), bf_Dy G s H1 locs1 (bf_up σ a (.inl (G.2.1 1, n, .inl (upd f i.toNatClampNeg (vp_nar .byte x))))) → W p l e R s m args below meth c H1 locs1 cells slots Q (F0 m (pc + 1) ls rest)) : W p l e R s m args below meth c H locs cells slots Q (F0 m pc ls (.int x :: .int i :: .ref a :: rest)) := by
  have h1 : H[a]? = some (vp_cell (G.2.1 1) (n, .inl f)) := (hd.2.2.2 a _ ha).2
  have hin := bf_in_vp hin
  refine W.bast X.1 X.2.1 h1 ((hd.K.2 1 _ rfl).1 n (fun j => .int (f j))) (fun q => by cases q) (by show ¬ (i < 0 ∨ (arrV _ _ _).slots.size ≤ _); rw [arrV_size]; exact hin) rfl rfl hdg fun H1 e z oq => ?_
  refine kk H1 _ ⟨hd.1, bf_S1 hd.2.1 z oq (hd.2.2.2 a _ ha).1, hd.2.2.set ha z ?_ oq⟩
  show H1[a]? = some (vp_cell _ _)
  rw [e]
  rw [vp_cell_i, vp_cell_i, arrV_store]
  congr 2
  funext q
  by_cases hq : q = i.toNatClampNeg
  · subst hq
    simp [updV, upd, vp_nar_byte, narrow]
  · simp [updV, upd, hq]
/-- new -/
theorem bf_new (X : CallFix p m c cc nL s args lw_all own) (hd : bf_Dy G s H locs σ) {ci : Nat} {C : String} {T : u_T} {N : Nat} (hc : bf_cl[ci]? = some (C, T, N)) (hin : ∀ w ∈ u_ws C T N, w ∈ lw_all) (ty : Nat → FieldType) (hty : ∀ k, k < N → parseFieldDescriptor (T k).2.2.1 = some (ty k)) {index : Nat} (hcl : Cond.classLink own index C ∈ lw_all) (hinst : Cond.instantiable C N ∈ lw_all) (hini : Cond.initialized C ∈ lw_all)
    (hcells : cells + 1 ≤ R.cells) (hslots : slots + N ≤ R.slots) (hdg : decode cc pc = .ok (.new index, 3))
    (kk : ∀ (H1 : Heap), bf_Dy G s H1 locs (bf_ps σ (.inr (ci, fun k => defaultValue (ty k)))) → W p l e R s m args below meth c H1 locs (cells + 1) (slots + N) Q (F0 m (pc + 3) ls (.ref σ.2 :: rest))) : W p l e R s m args below meth c H locs cells slots Q (F0 m pc ls rest) := by
  have hKn := hd.K.1 ci _ hc
  have hts := X.2.2.2.2
  refine W.newcK X.1 X.2.1 X.2.2.2.1 (hts _ hcl) (hts _ hinst) (hts _ hini) rfl hdg hcells hslots hKn.2.1 rfl fun H1 kC hkC e1 z1 o1 => ?_
  have hz := hd.2.2.1
  rw [hz]
  have h2 := hd.2.1
  refine kk H1 ⟨hd.1, ⟨Nat.le_trans h2.1 (by omega), fun x h3 h4 => (o1 x (Nat.lt_of_lt_of_le h3 h2.1)).trans (h2.2.1 x h3 h4), h2.2.2⟩, hd.2.2.push hd.sz z1 ⟨_, hc, u_born ty hts hin hKn hkC e1 hty⟩ o1⟩
/-- newarray -/
theorem bf_newa (X : CallFix p m c cc nL s args lw_all own) (hd : bf_Dy G s H locs σ) {atype : ArrayType} (t0 : Nat) {ty : FieldType} {cA : ClassId} (hty : newarray.typeOf atype = ty) (ht : (bf_tys G)[t0]? = some (cA, ty)) (harr : Cond.arrayClass ty ∈ lw_all) (hdv : defaultValue ty = .int 0) (hra : ∀ U cA, va_RA U cA ty → U.vm.findClass ("[" ++ ty.toString) = some cA)
    {n : Int32} {N' : Nat} (hn : ¬ n < 0) (hN : n.toNatClampNeg = N') (hbytes : N' * componentBytes ty ≤ 536870912) (hcells : cells + 1 ≤ R.cells) (hslots : slots + N' ≤ R.slots) (hdg : decode cc pc = .ok (.newarray atype, 2))
    (kk : ∀ (H1 : Heap), bf_Dy G s H1 locs (bf_ps σ (.inl (cA, N', .inl (fun _ => 0)))) → W p l e R s m args below meth c H1 locs (cells + 1) (slots + N') Q (F0 m (pc + 2) ls (.ref σ.2 :: rest))) : W p l e R s m args below meth c H locs cells slots Q (F0 m pc ls (.int n :: rest)) := by
  subst hty
  refine va_newaK X.1 X.2.1 (X.2.2.2.2 _ harr) rfl hdg rfl hn hN hbytes hcells hslots rfl fun H1 cB e1 z1 o1 hAr hNm => ?_
  have he : cB = cA := Option.some.inj (hNm.symm.trans (hra _ _ (hd.K.2 t0 _ ht).2))
  subst he
  have hz := hd.2.2.1
  have h2 := hd.2.1
  rw [hz]
  refine kk H1 ⟨hd.1, ⟨Nat.le_trans h2.1 (by omega), fun x h3 h4 => (o1 x (Nat.lt_of_lt_of_le h3 h2.1)).trans (h2.2.1 x h3 h4), h2.2.2⟩, hd.2.2.push hd.sz z1 ?_ o1⟩
  show H1[H.size]? = some (vp_cell _ _)
  rw [e1, hdv]
  rfl
/-- anewarray -/
theorem bf_newq (X : CallFix p m c cc nL s args lw_all own) (hd : bf_Dy G s H locs σ) (t0 : Nat) {C : String} {cA : ClassId} (ht : (bf_tys G)[t0]? = some (cA, .object C)) {index : Nat} (hcl : Cond.classLink own index C ∈ lw_all) (hov : Cond.arrayOver (.object C) ∈ lw_tbl)
    {n : Int32} {N' : Nat} (hn : ¬ n < 0) (hN : n.toNatClampNeg = N') (hbytes : N' * 4 ≤ 536870912) (hcells : cells + 1 ≤ R.cells) (hslots : slots + N' ≤ R.slots) (hdg : decode cc pc = .ok (.anewarray index, 3))
    (kk : ∀ (H1 : Heap), bf_Dy G s H1 locs (bf_ps σ (.inl (cA, N', .inr (.inr (.inr (.inr (fun _ => none))))))) → W p l e R s m args below meth c H1 locs (cells + 1) (slots + N') Q (F0 m (pc + 3) ls (.ref σ.2 :: rest))) : W p l e R s m args below meth c H locs cells slots Q (F0 m pc ls (.int n :: rest)) := by
  subst hN
  refine W.anew X.1 X.2.1 X.2.2.2.1 (X.2.2.2.2 _ hcl) (va_AO.use (hd.1.O hov)) rfl hdg rfl hn hbytes hcells hslots fun cB kA comp f1 f2 f3 f4 => ?_
  have he : cB = cA := by
    obtain ⟨_, _, -, -, -, h4⟩ := (hd.K.2 t0 _ ht).2
    exact Option.some.inj (f1.symm.trans h4)
  subst he
  generalize hH1 : H.push ({ cls := cB, slots := Array.replicate n.toNatClampNeg .null, vm := .none } : Cell) = H1
  have z1 : H1.size = H.size + 1 := by rw [← hH1, Array.size_push]
  have e1 : H1[H.size]? = some (arrV cB n.toNatClampNeg (fun _ => .null)) := by rw [← hH1, Array.getElem?_push_size, ← arrV_new]
  have o1 : ∀ q : Nat, q < H.size → H1[q]? = H[q]? := fun q hq => by rw [← hH1, Array.getElem?_push, if_neg (Nat.ne_of_lt hq)]
  have hz := hd.2.2.1
  have h2 := hd.2.1
  rw [hz]
  refine kk H1 ⟨hd.1, ⟨Nat.le_trans h2.1 (by omega), fun x h3 h4 => (o1 x (Nat.lt_of_lt_of_le h3 h2.1)).trans (h2.2.1 x h3 h4), h2.2.2⟩, hd.2.2.push hd.sz z1 ?_ o1⟩
  show H1[H.size]? = some (vp_cell _ _)
  rw [e1]
  rfl
/-- a branch on null -/
theorem bf_ifnull (hx : p.tables.exec = Jvm.exec) (hb : c.code = cc) {q : Option Nat} {off : Int} {tgt : Nat} (hdg : decode cc pc = .ok (.ifnull off, 3)) (ht : (pc : Int) + off = (tgt : Int)) (k1 : q = none → W p l e R s m args below meth c H locs cells slots Q (F0 m tgt ls rest)) (k2 : ∀ a, q = some a → W p l e R s m args below meth c H locs cells slots Q (F0 m (pc + 3) ls rest)) : W p l e R s m args below meth c H locs cells slots Q (F0 m pc ls (va_rf q :: rest)) := by
  cases q with
  | none => exact lv_ifnullN hx hb hdg ht (k1 rfl)
  | some a => exact lv_ifnull hx hb hdg (k2 a rfl)
theorem bf_ifnonnull (hx : p.tables.exec = Jvm.exec) (hb : c.code = cc) {q : Option Nat} {off : Int} {tgt : Nat} (hdg : decode cc pc = .ok (.ifnonnull off, 3)) (ht : (pc : Int) + off = (tgt : Int)) (k1 : ∀ a, q = some a → W p l e R s m args below meth c H locs cells slots Q (F0 m tgt ls rest)) (k2 : q = none → W p l e R s m args below meth c H locs cells slots Q (F0 m (pc + 3) ls rest)) : W p l e R s m args below meth c H locs cells slots Q (F0 m pc ls (va_rf q :: rest)) := by
  cases q with
  | none => exact lv_ifnonnullN hx hb hdg (k2 rfl)
  | some a => exact lv_ifnonnull hx hb hdg ht (k1 a rfl)
/-- locals that hold a reference or null -/
theorem bf_aload_n (hx : p.tables.exec = Jvm.exec) (hb : c.code = cc) {k : Fin 4} {i : Nat} {q : Option Nat} (hdg : decode cc pc = .ok (.aload_n k, 1)) (hi : (k : Nat) = i) (hl : ls[i]? = some (.val (va_rf q))) (kk : W p l e R s m args below meth c H locs cells slots Q (F0 m (pc + 1) ls (va_rf q :: rest))) : W p l e R s m args below meth c H locs cells slots Q (F0 m pc ls rest) := by
  cases q with
  | none => exact lv_aload_nN hx hb hdg hi hl kk
  | some a => exact lv_aload_n hx hb hdg hi hl kk
theorem bf_aload (hx : p.tables.exec = Jvm.exec) (hb : c.code = cc) {i : Nat} {q : Option Nat} (hdg : decode cc pc = .ok (.aload i, 2)) (hl : ls[i]? = some (.val (va_rf q))) (kk : W p l e R s m args below meth c H locs cells slots Q (F0 m (pc + 2) ls (va_rf q :: rest))) : W p l e R s m args below meth c H locs cells slots Q (F0 m pc ls rest) := by
  cases q with
  | none => exact lv_aloadN hx hb hdg hl kk
  | some a => exact lv_aload hx hb hdg hl kk
theorem bf_astore_n (hx : p.tables.exec = Jvm.exec) (hb : c.code = cc) {k : Fin 4} {i nL : Nat} {q : Option Nat} {lv lv' : List (Nat × Value)} (hdg : decode cc pc = .ok (.astore_n k, 1)) (hi : (k : Nat) = i) (h : lv_has ls nL lv) (hn : i < nL) (hl : (i, va_rf q) :: lv.filter (fun q => !(q.1 == i) && !(q.1 + 1 == i && q.2.category == 2)) = lv')
    (kk : ∀ ls' : Array Slot, lv_has ls' nL lv' → W p l e R s m args below meth c H locs cells slots Q (F0 m (pc + 1) ls' rest)) : W p l e R s m args below meth c H locs cells slots Q (F0 m pc ls (va_rf q :: rest)) := by
  cases q with
  | none => exact lv_astore_nN hx hb hdg hi h hn hl kk
  | some a => exact lv_astore_n hx hb hdg hi h hn hl kk
theorem bf_astore (hx : p.tables.exec = Jvm.exec) (hb : c.code = cc) {i nL : Nat} {q : Option Nat} {lv lv' : List (Nat × Value)} (hdg : decode cc pc = .ok (.astore i, 2)) (h : lv_has ls nL lv) (hn : i < nL) (hl : (i, va_rf q) :: lv.filter (fun q => !(q.1 == i) && !(q.1 + 1 == i && q.2.category == 2)) = lv')
    (kk : ∀ ls' : Array Slot, lv_has ls' nL lv' → W p l e R s m args below meth c H locs cells slots Q (F0 m (pc + 2) ls' rest)) : W p l e R s m args below meth c H locs cells slots Q (F0 m pc ls (va_rf q :: rest)) := by
  cases q with
  | none => exact lv_astoreN hx hb hdg h hn hl kk
  | some a => exact lv_astore hx hb hdg h hn hl kk
variable {y : MethodName} {bytes : ByteArray} {maxL index n : Nat} {rm : Room} {As st0 : List Value} {b : Nat} {C : String}
/-- invokevirtual: a reference or null -/
theorem bf_cVq (X : CallFix p m c cc nL s args lw_all own) (hd : bf_Dy G s H locs σ) {rt : FieldType} {Fin : Option Nat → bf_V → Prop} (hM : bf_MQ l G y bytes maxL rt rm (.ref b :: As) σ Fin)
    (hG : GoodIn lw_all (wsV own index C y (ws_ y bytes maxL (some rt)))) (hyd : y.cls = C ∧ y.cls ≠ "java/lang/invoke/MethodHandle" ∧ y.cls ≠ "java/lang/invoke/VarHandle" ∧ (parseMethodDescriptor y.desc).map (fun d => d.parameters.length) = some n) (hR : rm.frames + 1 ≤ R.frames ∧ 8 + (maxL + 11) + rm.locals ≤ R.locals)
    (hr : ∃ cell : Cell, H[b]? = some cell ∧ cell.vm.isStatics = false ∧ s.vm.findClass C = some cell.cls) (hn : As.length = n) (hls : ls.size = nL) (hst : st0 = As.reverse ++ .ref b :: rest) (hw : (rest.map fun v => v.category).sum ≤ 8) (hdg : decode cc pc = .ok (.invokevirtual index, 3)) (hf : cells + rm.cells ≤ R.cells ∧ slots + rm.slots ≤ R.slots)
    (kk : ∀ (r : Option Nat) (σ' : bf_V) (H1 : Heap) (locs1 : List Loc), Fin r σ' → bf_Dy G s H1 locs1 σ' → W p l e R s m args below meth c H1 locs1 (cells + rm.cells) (slots + rm.slots) Q (F0 m (pc + 3) ls (va_rf r :: rest))) : W p l e R s m args below meth c H locs cells slots Q (F0 m pc ls st0) := by
  refine va_callq (va_runV (As := As) (rest := rest) X hM (cwV n X.2.2.2.2 hG rfl rfl rfl hyd hR) (bf_preV hd hr) rfl hn hls hst (lv_room hw) hdg hf) hd.2.1 (fun _ _ h => h) (fun _ h => h) (fun r u t H1 locs1 ht hvm hp hB hz hk hS => ?_)
  exact kk r u H1 locs1 hp (bf_after hd ht hB hS)
/-- invokestatic -/
theorem bf_cSi (X : CallFix p m c cc nL s args lw_all own) (hd : bf_Dy G s H locs σ) {Fin : Int32 → bf_V → Prop} (hM : bf_MI l G y bytes maxL rm As σ Fin)
    (hG : GoodIn lw_all (va_wsS own index y (ws_ y bytes maxL (some .int)))) (hyd : y.cls ≠ "java/lang/invoke/MethodHandle" ∧ y.cls ≠ "java/lang/invoke/VarHandle" ∧ (parseMethodDescriptor y.desc).map (fun d => d.parameters.length) = some n) (hR : rm.frames + 1 ≤ R.frames ∧ 8 + (maxL + 11) + rm.locals ≤ R.locals)
    (hn : As.length = n) (hls : ls.size = nL) (hst : st0 = As.reverse ++ rest) (hw : (rest.map fun v => v.category).sum ≤ 8) (hdg : decode cc pc = .ok (.invokestatic index, 3)) (hf : cells + rm.cells ≤ R.cells ∧ slots + rm.slots ≤ R.slots)
    (kk : ∀ (r : Int32) (σ' : bf_V) (H1 : Heap) (locs1 : List Loc), Fin r σ' → bf_Dy G s H1 locs1 σ' → W p l e R s m args below meth c H1 locs1 (cells + rm.cells) (slots + rm.slots) Q (F0 m (pc + 3) ls (.int r :: rest))) : W p l e R s m args below meth c H locs cells slots Q (F0 m pc ls st0) := by
  refine va_calli (va_runS (As := As) (rest := rest) X hM (va_cwS n X.2.2.2.2 hG rfl rfl rfl hyd hR) (bf_preS hd) rfl hn hls hst (lv_room hw) hdg hf) hd.2.1 (fun _ _ h => h) (fun _ h => h) (fun r u t H1 locs1 ht hvm hp hB hz hk hS => ?_)
  exact kk r u H1 locs1 hp (bf_after hd ht hB hS)
theorem bf_cSz (X : CallFix p m c cc nL s args lw_all own) (hd : bf_Dy G s H locs σ) {Fin : Int32 → bf_V → Prop} (hM : bf_MZ l G y bytes maxL rm As σ Fin)
    (hG : GoodIn lw_all (va_wsS own index y (ws_ y bytes maxL (some .boolean)))) (hyd : y.cls ≠ "java/lang/invoke/MethodHandle" ∧ y.cls ≠ "java/lang/invoke/VarHandle" ∧ (parseMethodDescriptor y.desc).map (fun d => d.parameters.length) = some n) (hR : rm.frames + 1 ≤ R.frames ∧ 8 + (maxL + 11) + rm.locals ≤ R.locals)
    (hn : As.length = n) (hls : ls.size = nL) (hst : st0 = As.reverse ++ rest) (hw : (rest.map fun v => v.category).sum ≤ 8) (hdg : decode cc pc = .ok (.invokestatic index, 3)) (hf : cells + rm.cells ≤ R.cells ∧ slots + rm.slots ≤ R.slots)
    (kk : ∀ (r : Int32) (σ' : bf_V) (H1 : Heap) (locs1 : List Loc), Fin r σ' → (r = 0 ∨ r = 1) → bf_Dy G s H1 locs1 σ' → W p l e R s m args below meth c H1 locs1 (cells + rm.cells) (slots + rm.slots) Q (F0 m (pc + 3) ls (.int r :: rest))) : W p l e R s m args below meth c H locs cells slots Q (F0 m pc ls st0) := by
  refine va_calli (va_runS (As := As) (rest := rest) X hM (va_cwS n X.2.2.2.2 hG rfl rfl rfl hyd hR) (bf_preS hd) rfl hn hls hst (lv_room hw) hdg hf) hd.2.1 (fun _ _ h => h) (fun _ h => h) (fun r u t H1 locs1 ht hvm hp hB hz hk hS => ?_)
  exact kk r u H1 locs1 hp.1 hp.2 (bf_after hd ht hB hS)
/-- invokespecial <init> -/
theorem bf_cI (X : CallFix p m c cc nL s args lw_all own) (hd : bf_Dy G s H locs σ) {Fin : bf_V → Prop} (hM : bf_MV l G y bytes maxL rm (.ref b :: As) σ Fin)
    (hcode : Cond.code y bytes maxL none ∈ lw_all) (hini : Cond.initialized y.cls ∈ lw_all) (hlk : Cond.methodLink own index y ∈ lw_all) (hins : Cond.instanceMethod y ∈ lw_all) (hy1 : y.name = "<init>") (hyd : y.cls ≠ "java/lang/invoke/MethodHandle" ∧ y.cls ≠ "java/lang/invoke/VarHandle" ∧ (parseMethodDescriptor y.desc).map (fun d => d.parameters.length) = some n) (hR : rm.frames + 1 ≤ R.frames ∧ 8 + (maxL + 11) + rm.locals ≤ R.locals)
    (hn : As.length = n) (hls : ls.size = nL) (hst : st0 = As.reverse ++ .ref b :: rest) (hw : (rest.map fun v => v.category).sum ≤ 8) (hdg : decode cc pc = .ok (.invokespecial index, 3)) (hf : cells + rm.cells ≤ R.cells ∧ slots + rm.slots ≤ R.slots)
    (kk : ∀ (σ' : bf_V) (H1 : Heap) (locs1 : List Loc), Fin σ' → bf_Dy G s H1 locs1 σ' → W p l e R s m args below meth c H1 locs1 (cells + rm.cells) (slots + rm.slots) Q (F0 m (pc + 3) ls rest)) : W p l e R s m args below meth c H locs cells slots Q (F0 m pc ls st0) := by
  have hts := X.2.2.2.2
  refine va_callv (va_runI (As := As) (rest := rest) X hM (cwI n hts (lw_meth hcode) rfl rfl rfl (hts _ hini) (hts _ hlk) (hts _ hins) hy1 hyd hR) (bf_preS hd) rfl hn hls hst (lv_room hw) hdg hf) hd.2.1 (fun _ _ h => h) (fun _ h => h) (fun u t H1 locs1 ht hvm hp hB hz hk hS => ?_)
  exact kk u H1 locs1 hp (bf_after hd ht hB hS)
end BFN
