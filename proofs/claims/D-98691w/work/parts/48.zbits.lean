/-! bits counted -/
set_option maxRecDepth 100000
theorem bits_all : ((List.range 4096).all (fun s => M_bits (nI s) == some (B_J17_bitCount (nI s)))) = true := by decide +kernel
theorem bits_eq {s : Nat} (hs : s < 4096) : M_bits (nI s) = some (B_J17_bitCount (nI s)) := by
  have := List.all_eq_true.mp bits_all s (List.mem_range.mpr hs)
  exact eq_of_beq this
