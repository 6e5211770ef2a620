/-! Math's code as the kit's rows have it -/
set_option maxRecDepth 100000
theorem mc_max : Cond.code Lib.Math.max.name Lib.Math.max.code 2 (some .int) ∈ lw_all := q596
theorem mc_min : Cond.code Lib.Math.min.name Lib.Math.min.code 2 (some .int) ∈ lw_all := q634
theorem mc_abs : Cond.code Lib.Math.abs.name Lib.Math.abs.code 1 (some .int) ∈ lw_all := q1151
abbrev rm_ (f n : Nat) : Room := { frames := f, cells := 0, slots := 0, locals := n }
