/-! TWO COMMUNES -/
set_option maxRecDepth 100000
def bf_q3 (q q2 : Nat → Nat) : Nat → Nat := va_up (va_up (va_up q 0 (q2 0)) 1 (q2 1)) 2 (q2 2)
/-- a record apart stays -/
theorem bf_hC_dis {G : bf_G} {ν : bf_V} {c d : Nat} {q q2 : Nat → Nat} {S S2 : bf_CS} (h : bf_hC G ν d q2 S2) (hdis : c + 200 ≤ d ∨ d + 200 ≤ c) : bf_hC G (bf_pC G ν c q S) d q2 S2 := by
  intro j x hj hx
  rw [bf_pC_out (by unfold bf_own; omega)]
  exact h j x hj hx
