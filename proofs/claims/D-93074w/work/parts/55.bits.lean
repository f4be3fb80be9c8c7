/-! PLAIN SIDE: sizes of sets -/
set_option maxRecDepth 100000
def tot (f : Nat → Nat) (s : Nat) : Nat → Nat → Nat
  | 0, _ => 0
  | d + 1, l => (if s.testBit l = true then f l else 0) + tot f s d (l + 1)
def bc (s : Nat) : Nat := tot (fun _ => 1) s 12 0
set_option maxHeartbeats 4000000 in
theorem bc_okN : ∀ x, x < 4096 → f_J17_bitCount (nI x) = some (nI (bc x)) := by decide +kernel
set_option maxHeartbeats 4000000 in
theorem bc_okM : ∀ x, x < 4096 → f_X9_bits FU (nI x) = some (nI (bc x)) := by decide +kernel
