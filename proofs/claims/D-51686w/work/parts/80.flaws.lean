/-! quotients of whole numbers are numbers -/
set_option maxRecDepth 100000
theorem e_try (a b : UInt32) : FP.Core.val32 (FP.Core.fdiv a b) = FP.Core.quotient FP.Core.b32 (FP.Core.val32 a) (FP.Core.val32 b) := FP.Core.val32_fdiv a b
