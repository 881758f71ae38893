/-! THE WHOLE SYSTEM's RECORD: BallotFruit at b, its tape, nine communes, their row of six, ways: 1804 cells from b on. -/
set_option maxRecDepth 100000
/-- numbers (0: own fields, 1: tape, 2: ways); the row of communes; communes; where their texts lie; what these tell -/
abbrev bf_WS : Type := (Nat → Nat → Int32) × (Nat → Nat) × (Nat → bf_CS) × (Nat → Nat → Nat) × (Nat → bf_D)
abbrev bf_S (w : bf_WS) (i : Nat) : bf_CS := w.2.2.1 i
abbrev bf_qs (w : bf_WS) (i : Nat) : Nat → Nat := w.2.2.2.1 i
abbrev bf_Ds (w : bf_WS) (i : Nat) : bf_D := w.2.2.2.2 i
def bf_uB (w : bf_WS) (k j : Nat) (v : Int32) : bf_WS := (bf_u2 w.1 k j v, w.2)
def bf_uK (w : bf_WS) (j n : Nat) : bf_WS := (w.1, va_up w.2.1 j n, w.2.2)
def bf_uS (w : bf_WS) (i : Nat) (S : bf_CS) : bf_WS := (w.1, w.2.1, va_up w.2.2.1 i S, w.2.2.2)
/-- a commune thinks, or takes, another: i takes over j -/
def bf_uT (w : bf_WS) (i j : Nat) (S : bf_CS) : bf_WS := (w.1, w.2.1, va_up w.2.2.1 i S, va_up w.2.2.2.1 i (bf_q3 (w.2.2.2.1 i) (w.2.2.2.1 j)), va_up w.2.2.2.2 i (w.2.2.2.2 j))
/-- where communes lie -/
def bf_ca (b i : Nat) : Nat := if i < 3 then b + 2 + 200 * i else b + 3 + 200 * i
def bf_ci (b a : Nat) : Option Nat := if b + 2 ≤ a ∧ a < b + 602 then some ((a - b - 2) / 200) else if b + 603 ≤ a ∧ a < b + 1803 then some ((a - b - 3) / 200) else none
theorem bf_ci_ca {b i j : Nat} (hi : i < 9) (hj : j < 200) : bf_ci b (bf_ca b i + j) = some i := by
  unfold bf_ci bf_ca
  by_cases h : i < 3
  · rw [if_pos h, if_pos (by omega)]
    congr 1
    omega
  · rw [if_neg h, if_neg (by omega), if_pos (by omega)]
    congr 1
    omega
theorem bf_ci_in {b a i : Nat} (h : bf_ci b a = some i) : i < 9 ∧ bf_ca b i ≤ a ∧ a < bf_ca b i + 200 := by
  unfold bf_ci at h
  unfold bf_ca
  by_cases h1 : b + 2 ≤ a ∧ a < b + 602
  · rw [if_pos h1] at h
    cases h
    by_cases h3 : (a - b - 2) / 200 < 3
    · rw [if_pos h3]; omega
    · rw [if_neg h3]; omega
  · rw [if_neg h1] at h
    by_cases h2 : b + 603 ≤ a ∧ a < b + 1803
    · rw [if_pos h2] at h
      cases h
      by_cases h3 : (a - b - 3) / 200 < 3
      · rw [if_pos h3]; omega
      · rw [if_neg h3]; omega
    · rw [if_neg h2] at h
      cases h
theorem bf_ci_not {b a i : Nat} (hi : i < 9) (h : ¬ bf_ci b a = some i) : ¬ (bf_ca b i ≤ a ∧ a < bf_ca b i + 200) := by
  intro hr
  apply h
  have := bf_ci_ca (b := b) hi (j := a - bf_ca b i) (by omega)
  rwa [show bf_ca b i + (a - bf_ca b i) = a by omega] at this
theorem bf_ca_dis {b i j : Nat} (hi : i < 9) (hj : j < 9) (h : i ≠ j) : bf_ca b i + 200 ≤ bf_ca b j ∨ bf_ca b j + 200 ≤ bf_ca b i := by
  unfold bf_ca
  by_cases h1 : i < 3 <;> by_cases h2 : j < 3 <;> simp only [h1, h2, if_true, if_false] <;> omega
def bf_bv (b : Nat) (w : bf_WS) (k : Nat) : Value := if k = 0 then .ref (b + 1) else if k = 4 then .ref (bf_ca b 0) else if k = 5 then .ref (bf_ca b 1) else if k = 6 then .ref (bf_ca b 2) else if k = 7 then .ref (b + 602) else if k = 10 then .ref (b + 1803) else .int (w.1 0 k)
def bf_b4 (G : bf_G) (b : Nat) (w : bf_WS) (a : Nat) : Option bf_E := if a = b then some (.inr (0, bf_bv b w)) else if a = b + 1 then some (.inl (G.2.1 1, 400, .inl (w.1 1))) else if a = b + 602 then some (.inl (G.2.1 7, 6, bf_rs (fun k => some (bf_ca b (w.2.1 k))))) else if a = b + 1803 then some (.inl (G.2.1 0, 100, .inl (w.1 2))) else none
def bf_bc (G : bf_G) (b : Nat) (w : bf_WS) (a : Nat) : Option bf_E := match bf_ci b a with
  | some i => bf_cc G (bf_ca b i) (bf_qs w i) (bf_S w i) (a - bf_ca b i)
  | none => bf_b4 G b w a
def bf_pB (G : bf_G) (ν : bf_V) (b : Nat) (w : bf_WS) : bf_V := (fun a => match bf_bc G b w a with | some x => some x | none => ν.1 a, ν.2)
theorem bf_pB_at {G : bf_G} {ν : bf_V} {b a : Nat} {w : bf_WS} {x : bf_E} (h : bf_bc G b w a = some x) : (bf_pB G ν b w).1 a = some x := by
  unfold bf_pB
  dsimp only
  rw [h]
theorem bf_pB_out {G : bf_G} {ν : bf_V} {b a : Nat} {w : bf_WS} (h : bf_bc G b w a = none) : (bf_pB G ν b w).1 a = ν.1 a := by
  unfold bf_pB
  dsimp only
  rw [h]
theorem bf_bc_c {G : bf_G} {b i j : Nat} {w : bf_WS} (hi : i < 9) (hj : j < 200) : bf_bc G b w (bf_ca b i + j) = bf_cc G (bf_ca b i) (bf_qs w i) (bf_S w i) j := by
  unfold bf_bc
  rw [bf_ci_ca hi hj]
  show bf_cc G (bf_ca b i) (bf_qs w i) (bf_S w i) (bf_ca b i + j - bf_ca b i) = _
  rw [show bf_ca b i + j - bf_ca b i = j by omega]
theorem bf_bc_4 {G : bf_G} {b a : Nat} {w : bf_WS} (h : a = b ∨ a = b + 1 ∨ a = b + 602 ∨ a = b + 1803) : bf_bc G b w a = bf_b4 G b w a := by
  unfold bf_bc
  have : bf_ci b a = none := by
    unfold bf_ci
    rw [if_neg (by omega), if_neg (by omega)]
  rw [this]
theorem bf_pB_hC (G : bf_G) (ν : bf_V) (b : Nat) (w : bf_WS) {i : Nat} (hi : i < 9) : bf_hC G (bf_pB G ν b w) (bf_ca b i) (bf_qs w i) (bf_S w i) := by
  intro j x hj hx
  exact bf_pB_at (by rw [bf_bc_c hi hj]; exact hx)
theorem bf_pB_0 (G : bf_G) (ν : bf_V) (b : Nat) (w : bf_WS) : (bf_pB G ν b w).1 b = some (.inr (0, bf_bv b w)) := bf_pB_at (by rw [bf_bc_4 (Or.inl rfl)]; unfold bf_b4; rw [if_pos rfl])
theorem bf_pB_1 (G : bf_G) (ν : bf_V) (b : Nat) (w : bf_WS) : (bf_pB G ν b w).1 (b + 1) = some (.inl (G.2.1 1, 400, .inl (w.1 1))) := bf_pB_at (by rw [bf_bc_4 (Or.inr (Or.inl rfl))]; unfold bf_b4; rw [if_neg (by omega), if_pos rfl])
theorem bf_pB_2 (G : bf_G) (ν : bf_V) (b : Nat) (w : bf_WS) : (bf_pB G ν b w).1 (b + 602) = some (.inl (G.2.1 7, 6, bf_rs (fun k => some (bf_ca b (w.2.1 k))))) := bf_pB_at (by rw [bf_bc_4 (Or.inr (Or.inr (Or.inl rfl)))]; unfold bf_b4; rw [if_neg (by omega), if_neg (by omega), if_pos rfl])
theorem bf_pB_3 (G : bf_G) (ν : bf_V) (b : Nat) (w : bf_WS) : (bf_pB G ν b w).1 (b + 1803) = some (.inl (G.2.1 0, 100, .inl (w.1 2))) := bf_pB_at (by rw [bf_bc_4 (Or.inr (Or.inr (Or.inr rfl)))]; unfold bf_b4; rw [if_neg (by omega), if_neg (by omega), if_neg (by omega), if_pos rfl])
theorem bf_b4_none {G : bf_G} {b a : Nat} {w : bf_WS} : bf_b4 G b w a = none ↔ ¬ (a = b ∨ a = b + 1 ∨ a = b + 602 ∨ a = b + 1803) := by
  unfold bf_b4
  by_cases h0 : a = b
  · rw [if_pos h0]; constructor
    · intro h; cases h
    · intro h; exact absurd (Or.inl h0) h
  rw [if_neg h0]
  by_cases h1 : a = b + 1
  · rw [if_pos h1]; constructor
    · intro h; cases h
    · intro h; exact absurd (Or.inr (Or.inl h1)) h
  rw [if_neg h1]
  by_cases h2 : a = b + 602
  · rw [if_pos h2]; constructor
    · intro h; cases h
    · intro h; exact absurd (Or.inr (Or.inr (Or.inl h2))) h
  rw [if_neg h2]
  by_cases h3 : a = b + 1803
  · rw [if_pos h3]; constructor
    · intro h; cases h
    · intro h; exact absurd (Or.inr (Or.inr (Or.inr h3))) h
  rw [if_neg h3]
  constructor
  · intro _ h; omega
  · intro _; rfl
/-- the system's own cells -/
def bf_ownB (b a : Nat) : Prop := a = b ∨ a = b + 1 ∨ a = b + 602 ∨ a = b + 1803 ∨ ∃ i, i < 9 ∧ bf_own (bf_ca b i) a
theorem bf_bc_none {G : bf_G} {b a : Nat} {w : bf_WS} (h : ¬ bf_ownB b a) : bf_bc G b w a = none := by
  unfold bf_bc
  cases e : bf_ci b a with
  | none =>
    show bf_b4 G b w a = none
    refine bf_b4_none.mpr (fun q => h ?_)
    rcases q with q | q | q | q
    · exact Or.inl q
    · exact Or.inr (Or.inl q)
    · exact Or.inr (Or.inr (Or.inl q))
    · exact Or.inr (Or.inr (Or.inr (Or.inl q)))
  | some i =>
    have hi := bf_ci_in e
    show bf_cc G (bf_ca b i) (bf_qs w i) (bf_S w i) (a - bf_ca b i) = none
    refine (bf_cc_none (by omega)).mpr ?_
    have : ¬ bf_own (bf_ca b i) a := fun q => h (Or.inr (Or.inr (Or.inr (Or.inr ⟨i, hi.1, q⟩))))
    unfold bf_own at this
    omega
theorem bf_bc_some {G : bf_G} {b a : Nat} {w : bf_WS} (h : bf_ownB b a) : ∃ x, bf_bc G b w a = some x := by
  rcases h with h | h | h | h | ⟨i, hi, h⟩
  · rw [bf_bc_4 (Or.inl h)]
    cases e : bf_b4 G b w a with
    | none => exact absurd (Or.inl h) (bf_b4_none.mp e)
    | some x => exact ⟨x, rfl⟩
  · rw [bf_bc_4 (Or.inr (Or.inl h))]
    cases e : bf_b4 G b w a with
    | none => exact absurd (Or.inr (Or.inl h)) (bf_b4_none.mp e)
    | some x => exact ⟨x, rfl⟩
  · rw [bf_bc_4 (Or.inr (Or.inr (Or.inl h)))]
    cases e : bf_b4 G b w a with
    | none => exact absurd (Or.inr (Or.inr (Or.inl h))) (bf_b4_none.mp e)
    | some x => exact ⟨x, rfl⟩
  · rw [bf_bc_4 (Or.inr (Or.inr (Or.inr h)))]
    cases e : bf_b4 G b w a with
    | none => exact absurd (Or.inr (Or.inr (Or.inr h))) (bf_b4_none.mp e)
    | some x => exact ⟨x, rfl⟩
  · unfold bf_own at h
    have := bf_bc_c (G := G) (b := b) (w := w) hi (j := a - bf_ca b i) (by omega)
    rw [show bf_ca b i + (a - bf_ca b i) = a by omega] at this
    rw [this]
    cases e : bf_cc G (bf_ca b i) (bf_qs w i) (bf_S w i) (a - bf_ca b i) with
    | none =>
      have := (bf_cc_none (by omega)).mp e
      omega
    | some x => exact ⟨x, rfl⟩
/-- one view out of another: equal cells -/
theorem bf_pB_eq {G : bf_G} {ν : bf_V} {b : Nat} {w w' : bf_WS} (h : ∀ a, bf_bc G b w a = bf_bc G b w' a) : bf_pB G ν b w = bf_pB G ν b w' := by
  refine Prod.ext ?_ rfl
  funext a
  unfold bf_pB
  dsimp only
  rw [h a]
/-- a write at one cell -/
theorem bf_pB_w {G : bf_G} {ν : bf_V} {b a : Nat} {w w' : bf_WS} {x : bf_E} (hx : bf_bc G b w' a = some x) (ho : ∀ a', a' ≠ a → bf_bc G b w' a' = bf_bc G b w a') : bf_up (bf_pB G ν b w) a x = bf_pB G ν b w' := by
  refine Prod.ext ?_ rfl
  funext a'
  show (if a' = a then some x else (bf_pB G ν b w).1 a') = (bf_pB G ν b w').1 a'
  by_cases e : a' = a
  · rw [if_pos e, e, bf_pB_at hx]
  · rw [if_neg e]
    unfold bf_pB
    dsimp only
    rw [ho a' e]
/-- a commune of it changes -/
theorem bf_pB_pC {G : bf_G} {ν : bf_V} {b i : Nat} {w w' : bf_WS} {q' : Nat → Nat} {S' : bf_CS} (hi : i < 9) (h1 : bf_S w' i = S') (h2 : bf_qs w' i = q') (h3 : ∀ j, j ≠ i → bf_S w' j = bf_S w j ∧ bf_qs w' j = bf_qs w j) (h4 : w'.1 = w.1) (h5 : w'.2.1 = w.2.1) : bf_pC G (bf_pB G ν b w) (bf_ca b i) q' S' = bf_pB G ν b w' := by
  refine Prod.ext ?_ rfl
  funext a
  by_cases e : bf_ci b a = some i
  · have hr := bf_ci_in e
    have e1 : bf_bc G b w' a = bf_cc G (bf_ca b i) q' S' (a - bf_ca b i) := by
      unfold bf_bc
      rw [e]
      show bf_cc G (bf_ca b i) (bf_qs w' i) (bf_S w' i) (a - bf_ca b i) = _
      rw [h1, h2]
    unfold bf_pC
    dsimp only
    rw [if_pos (by omega)]
    cases ec : bf_cc G (bf_ca b i) q' S' (a - bf_ca b i) with
    | some x => rw [bf_pB_at (e1.trans ec)]
    | none =>
      rw [bf_pB_out (e1.trans ec)]
      show (bf_pB G ν b w).1 a = ν.1 a
      refine bf_pB_out ?_
      unfold bf_bc
      rw [e]
      exact (bf_cc_none (by omega)).mpr ((bf_cc_none (by omega)).mp ec)
  · have hr := bf_ci_not hi e
    have e1 : bf_bc G b w' a = bf_bc G b w a := by
      unfold bf_bc
      cases ec : bf_ci b a with
      | none =>
        show bf_b4 G b w' a = bf_b4 G b w a
        unfold bf_b4 bf_bv
        rw [h4, h5]
      | some j =>
        have hj : j ≠ i := fun q => e (by rw [ec, q])
        show bf_cc G (bf_ca b j) (bf_qs w' j) (bf_S w' j) (a - bf_ca b j) = bf_cc G (bf_ca b j) (bf_qs w j) (bf_S w j) (a - bf_ca b j)
        rw [(h3 j hj).1, (h3 j hj).2]
    unfold bf_pC
    dsimp only
    rw [if_neg (by omega)]
    unfold bf_pB
    dsimp only
    rw [e1]
theorem bf_vs {α : Type} (f : Nat → α) (k : Nat) (v : α) : va_up f k v k = v := by unfold va_up; rw [if_pos rfl]
theorem bf_vn {α : Type} (f : Nat → α) {k j : Nat} (v : α) (h : j ≠ k) : va_up f k v j = f j := by unfold va_up; rw [if_neg h]
theorem bf_pB_uS {G : bf_G} {ν : bf_V} {b i : Nat} {w : bf_WS} {S' : bf_CS} (hi : i < 9) : bf_pC G (bf_pB G ν b w) (bf_ca b i) (bf_qs w i) S' = bf_pB G ν b (bf_uS w i S') :=
  bf_pB_pC (w' := bf_uS w i S') hi (bf_vs _ _ _) rfl (fun j hj => ⟨bf_vn _ _ hj, rfl⟩) rfl rfl
theorem bf_pB_uT {G : bf_G} {ν : bf_V} {b i j : Nat} {w : bf_WS} {S' : bf_CS} (hi : i < 9) : bf_pC G (bf_pB G ν b w) (bf_ca b i) (bf_q3 (bf_qs w i) (bf_qs w j)) S' = bf_pB G ν b (bf_uT w i j S') :=
  bf_pB_pC (w' := bf_uT w i j S') hi (bf_vs _ _ _) (bf_vs _ _ _) (fun k hk => ⟨bf_vn _ _ hk, bf_vn _ _ hk⟩) rfl rfl
/-- own numbers -/
theorem bf_pB_u0 {G : bf_G} {ν : bf_V} {b k : Nat} {w : bf_WS} (hk : ¬ (k = 0 ∨ k = 4 ∨ k = 5 ∨ k = 6 ∨ k = 7 ∨ k = 10)) (v : Int32) : bf_up (bf_pB G ν b w) b (.inr (0, updV (bf_bv b w) k (.int v))) = bf_pB G ν b (bf_uB w 0 k v) := by
  refine bf_pB_w ?_ (fun a ha => ?_)
  · rw [bf_bc_4 (Or.inl rfl)]
    unfold bf_b4
    rw [if_pos rfl]
    congr 3
    funext j
    unfold updV
    by_cases e : j = k
    · rw [if_pos e, e]
      unfold bf_bv bf_uB
      rw [if_neg (by omega), if_neg (by omega), if_neg (by omega), if_neg (by omega), if_neg (by omega), if_neg (by omega)]
      dsimp only
      rw [bf_u2_k]
      unfold upd
      rw [if_pos rfl]
    · rw [if_neg e]
      unfold bf_bv bf_uB
      dsimp only
      rw [show bf_u2 w.1 0 k v 0 j = w.1 0 j by unfold bf_u2; rw [if_neg (fun q => e q.2)]]
  · unfold bf_bc
    cases bf_ci b a with
    | some i => rfl
    | none =>
      show bf_b4 G b (bf_uB w 0 k v) a = bf_b4 G b w a
      unfold bf_b4
      rw [if_neg ha, if_neg ha]
      unfold bf_uB
      dsimp only
      rw [bf_u2_o (by decide), bf_u2_o (by decide)]
theorem bf_pB_u1 {G : bf_G} {ν : bf_V} {b j : Nat} {w : bf_WS} (v : Int32) : bf_up (bf_pB G ν b w) (b + 1) (.inl (G.2.1 1, 400, .inl (upd (w.1 1) j v))) = bf_pB G ν b (bf_uB w 1 j v) := by
  refine bf_pB_w ?_ (fun a ha => ?_)
  · rw [bf_bc_4 (Or.inr (Or.inl rfl))]
    unfold bf_b4
    rw [if_neg (by omega), if_pos rfl]
    unfold bf_uB
    dsimp only
    rw [bf_u2_k]
  · unfold bf_bc
    cases bf_ci b a with
    | some i => rfl
    | none =>
      show bf_b4 G b (bf_uB w 1 j v) a = bf_b4 G b w a
      unfold bf_b4
      rw [if_neg ha, if_neg ha]
      unfold bf_bv bf_uB
      dsimp only
      rw [bf_u2_o (by decide), bf_u2_o (by decide)]
theorem bf_pB_u2 {G : bf_G} {ν : bf_V} {b j : Nat} {w : bf_WS} (v : Int32) : bf_up (bf_pB G ν b w) (b + 1803) (.inl (G.2.1 0, 100, .inl (upd (w.1 2) j v))) = bf_pB G ν b (bf_uB w 2 j v) := by
  refine bf_pB_w ?_ (fun a ha => ?_)
  · rw [bf_bc_4 (Or.inr (Or.inr (Or.inr rfl)))]
    unfold bf_b4
    rw [if_neg (by omega), if_neg (by omega), if_neg (by omega), if_pos rfl]
    unfold bf_uB
    dsimp only
    rw [bf_u2_k]
  · unfold bf_bc
    cases bf_ci b a with
    | some i => rfl
    | none =>
      show bf_b4 G b (bf_uB w 2 j v) a = bf_b4 G b w a
      unfold bf_b4
      rw [if_neg ha, if_neg ha]
      unfold bf_bv bf_uB
      dsimp only
      rw [bf_u2_o (by decide), bf_u2_o (by decide)]
theorem bf_pB_uK {G : bf_G} {ν : bf_V} {b j n : Nat} {w : bf_WS} : bf_up (bf_pB G ν b w) (b + 602) (.inl (G.2.1 7, 6, bf_rs (va_up (fun k => some (bf_ca b (w.2.1 k))) j (some (bf_ca b n))))) = bf_pB G ν b (bf_uK w j n) := by
  refine bf_pB_w ?_ (fun a ha => ?_)
  · rw [bf_bc_4 (Or.inr (Or.inr (Or.inl rfl)))]
    unfold bf_b4
    rw [if_neg (by omega), if_neg (by omega), if_pos rfl]
    congr 5
    funext k
    unfold bf_uK va_up
    dsimp only
    by_cases e : k = j
    · rw [if_pos e, if_pos e]
    · rw [if_neg e, if_neg e]
  · unfold bf_bc
    cases bf_ci b a with
    | some i => rfl
    | none =>
      show bf_b4 G b (bf_uK w j n) a = bf_b4 G b w a
      unfold bf_b4
      rw [if_neg ha, if_neg ha]
      rfl
/-- cells that the system doesn't write -/
def bf_fzB (ν : bf_V) (b a : Nat) (x : bf_E) : Prop := ν.1 a = some x ∧ ¬ bf_ownB b a
theorem bf_fzB_at {G : bf_G} {ν : bf_V} {b a : Nat} {x : bf_E} {w : bf_WS} (h : bf_fzB ν b a x) : (bf_pB G ν b w).1 a = some x := by rw [bf_pB_out (bf_bc_none h.2)]; exact h.1
theorem bf_fzB_fz {G : bf_G} {ν : bf_V} {b a i : Nat} {x : bf_E} {w : bf_WS} (hi : i < 9) (h : bf_fzB ν b a x) : bf_fz (bf_pB G ν b w) (bf_ca b i) a x := ⟨bf_fzB_at h, fun q => h.2 (Or.inr (Or.inr (Or.inr (Or.inr ⟨i, hi, q⟩))))⟩
theorem bf_zT_mono {P P' : Nat → bf_E → Prop} (h : ∀ a x, P a x → P' a x) : ∀ (n a : Nat) (cs : bf_Cd), bf_zT P n a cs → bf_zT P' n a cs := by
  intro n
  induction n with
  | zero => intro a cs q; exact q
  | succ n ih =>
    intro a cs q
    rcases q with ⟨V, v, h1, h2⟩ | ⟨V, v, h1, h2⟩ | ⟨V, t, c1, h1, h2, h3, h4⟩ | ⟨V, t, u, how, c1, c2, h1, h2, h3, h4, h5, h6, h7⟩
    · exact Or.inl ⟨V, v, h _ _ h1, h2⟩
    · exact Or.inr (Or.inl ⟨V, v, h _ _ h1, h2⟩)
    · exact Or.inr (Or.inr (Or.inl ⟨V, t, c1, h _ _ h1, h2, ih _ _ h3, h4⟩))
    · exact Or.inr (Or.inr (Or.inr ⟨V, t, u, how, c1, c2, h _ _ h1, h2, h3, h4, ih _ _ h5, ih _ _ h6, h7⟩))
theorem bf_zL_mono {G : bf_G} {P P' : Nat → bf_E → Prop} (h : ∀ a x, P a x → P' a x) {a : Nat} {es : List Nat} (q : bf_zL G P a es) : bf_zL G P' a es := by
  obtain ⟨V, h1, h2, h3, h4⟩ := q
  refine ⟨V, h _ _ h1, h2, h3, fun h0 => ?_⟩
  obtain ⟨b, n, f, g1, g2, g3⟩ := h4 h0
  exact ⟨b, n, f, g1, h _ _ g2, g3⟩
theorem bf_zAll_mono {α : Type} {Q Q' : Nat → α → Prop} (h : ∀ a x, Q a x → Q' a x) : ∀ {es : List Nat} {xs : List α}, bf_zAll Q es xs → bf_zAll Q' es xs
  | [], [], _ => trivial
  | a :: l, x :: m, q => ⟨h _ _ q.1, bf_zAll_mono h q.2⟩
  | [], _ :: _, q => q.elim
  | _ :: _, [], q => q.elim
theorem bf_zp_mono {G : bf_G} {P P' : Nat → bf_E → Prop} (h : ∀ a x, P a x → P' a x) {a : Nat} {D : Nat → Option (Nat × (Nat → Int32))} (q : bf_zp G P a D) : bf_zp G P' a D := by
  obtain ⟨pe, h1, h2⟩ := q
  refine ⟨pe, h _ _ h1, fun i => ⟨(h2 i).1, fun pd hp => ?_⟩⟩
  obtain ⟨b, r, V, g1, g2, g3, g4⟩ := (h2 i).2 pd hp
  exact ⟨b, r, V, g1, h _ _ g2, g3, h _ _ g4⟩
theorem bf_zLn_mono {P P' : Nat → bf_E → Prop} (h : ∀ a x, P a x → P' a x) {a : Nat} {ln : bf_Ln} (q : bf_zLn P a ln) : bf_zLn P' a ln := by
  obtain ⟨V, t, h1, h2, h3, h4, h5, h6⟩ := q
  refine ⟨V, t, h _ _ h1, h2, h3, bf_zT_mono h _ _ _ h4, h5, fun w hw => ?_⟩
  obtain ⟨u, g1, g2⟩ := h6 w hw
  exact ⟨u, g1, bf_zT_mono h _ _ _ g2⟩
theorem bf_zDd_mono {P P' : Nat → bf_E → Prop} (h : ∀ a x, P a x → P' a x) {a : Nat} {d : bf_Dd} (q : bf_zDd P a d) : bf_zDd P' a d := by
  obtain ⟨V, h1, h2, h3⟩ := q
  refine ⟨V, h1, h2, ?_⟩
  rcases h3 with ⟨g1, g2, g3⟩ | ⟨g1, g2, g3⟩ | ⟨g1, g2, g3⟩ | ⟨g1, g2⟩
  · exact Or.inl ⟨g1, h _ _ g2, g3⟩
  · exact Or.inr (Or.inl ⟨g1, h _ _ g2, g3⟩)
  · exact Or.inr (Or.inr (Or.inl ⟨g1, h _ _ g2, g3⟩))
  · exact Or.inr (Or.inr (Or.inr ⟨g1, h _ _ g2⟩))
/-- what texts told a commune of the system -/
def bf_ZB (G : bf_G) (ν : bf_V) (b : Nat) (q : Nat → Nat) (D : bf_D) : Prop := bf_zp G (bf_fzB ν b) (q 0) D.1 ∧ bf_zl G (bf_fzB ν b) (q 1) D.2.1 ∧ bf_zd G (bf_fzB ν b) (q 2) D.2.2
theorem bf_ZB_Z {G : bf_G} {ν : bf_V} {b i : Nat} {q : Nat → Nat} {D : bf_D} {w : bf_WS} (hi : i < 9) (h : bf_ZB G ν b q D) : bf_Z G (bf_pB G ν b w) (bf_ca b i) q D := by
  obtain ⟨h1, ⟨es, h2, h3⟩, ⟨fs, h4, h5⟩⟩ := h
  have m : ∀ a x, bf_fzB ν b a x → bf_fz (bf_pB G ν b w) (bf_ca b i) a x := fun a x q => bf_fzB_fz hi q
  exact ⟨bf_zp_mono m h1, ⟨es, bf_zL_mono m h2, bf_zAll_mono (fun _ _ => bf_zLn_mono m) h3⟩, ⟨fs, bf_zL_mono m h4, bf_zAll_mono (fun _ _ => bf_zDd_mono m) h5⟩⟩
def bf_wok (G : bf_G) (ν : bf_V) (b : Nat) (w : bf_WS) : Prop := ∀ i, i < 3 → bf_ZB G ν b (bf_qs w i) (bf_Ds w i)
theorem bf_wok_uB {G : bf_G} {ν : bf_V} {b k j : Nat} {w w' : bf_WS} {v : Int32} (h : bf_wok G ν b w) (e : w' = bf_uB w k j v) : bf_wok G ν b w' := by subst e; exact h
theorem bf_wok_uK {G : bf_G} {ν : bf_V} {b j n : Nat} {w w' : bf_WS} (h : bf_wok G ν b w) (e : w' = bf_uK w j n) : bf_wok G ν b w' := by subst e; exact h
theorem bf_wok_uS {G : bf_G} {ν : bf_V} {b i : Nat} {w w' : bf_WS} {S : bf_CS} (h : bf_wok G ν b w) (e : w' = bf_uS w i S) : bf_wok G ν b w' := by subst e; exact h
theorem bf_wok_uT {G : bf_G} {ν : bf_V} {b i j : Nat} {w w' : bf_WS} {S : bf_CS} (hj : j < 3) (h : bf_wok G ν b w) (e : w' = bf_uT w i j S) : bf_wok G ν b w' := by
  subst e
  intro k hk
  by_cases e : k = i
  · subst e
    have h1 : bf_qs (bf_uT w k j S) k = bf_q3 (bf_qs w k) (bf_qs w j) := bf_vs _ _ _
    have h2 : bf_Ds (bf_uT w k j S) k = bf_Ds w j := bf_vs _ _ _
    rw [h1, h2]
    have := h j hj
    exact ⟨this.1, this.2.1, this.2.2⟩
  · have h1 : bf_qs (bf_uT w i j S) k = bf_qs w k := bf_vn _ _ e
    have h2 : bf_Ds (bf_uT w i j S) k = bf_Ds w k := bf_vn _ _ e
    rw [h1, h2]
    exact h k hk
section BFB
variable {s : State} {H : Heap} {locs : List Loc} {G : bf_G} {ν : bf_V} {b i : Nat} {w : bf_WS} {S' : bf_CS}
theorem bf_toC (hd : bf_Dy G s H locs (bf_pB G ν b w)) (hi : i < 9) : bf_Dy G s H locs (bf_pC G (bf_pB G ν b w) (bf_ca b i) (bf_qs w i) (bf_S w i)) := hd.of (bf_hC_pC (bf_pB_hC G ν b w hi)).symm
theorem bf_fromC (hi : i < 9) (hd : bf_Dy G s H locs (bf_pC G (bf_pB G ν b w) (bf_ca b i) (bf_qs w i) S')) : bf_Dy G s H locs (bf_pB G ν b (bf_uS w i S')) := hd.of (bf_pB_uS hi)
theorem bf_fromC0 (hi : i < 9) (hd : bf_Dy G s H locs (bf_pC G (bf_pB G ν b w) (bf_ca b i) (bf_qs w i) (bf_S w i))) : bf_Dy G s H locs (bf_pB G ν b w) := hd.of (bf_hC_pC (bf_pB_hC G ν b w hi))
theorem bf_fromT {j : Nat} (hi : i < 9) (hd : bf_Dy G s H locs (bf_pC G (bf_pB G ν b w) (bf_ca b i) (bf_q3 (bf_qs w i) (bf_qs w j)) S')) : bf_Dy G s H locs (bf_pB G ν b (bf_uT w i j S')) := hd.of (bf_pB_uT hi)
end BFB
