/-! small laws for texts -/
set_option maxRecDepth 100000
theorem e_sh0 (n : Nat) : nI n >>> ((0 : Int32) &&& 31) = nI n := sb_shr0 _
