/-! quotients of whole numbers are numbers -/
set_option maxRecDepth 100000
section FLA

theorem e_led {n : Nat} (h : 0 < n) : FP.Core.leading n 1 = (n.log2 : Int) := by
  have h1 : (1 : Nat).log2 = 0 := by decide
  have h2 := Nat.log2_self_le (n := n) (by omega)
  unfold FP.Core.leading
  rw [h1]
  dsimp only
  rw [if_pos]
  · omega
  · rw [show ((n.log2 : Int) - ((0 : Nat) : Int)).toNat = n.log2 by omega, show (-((n.log2 : Int) - ((0 : Nat) : Int))).toNat = 0 by omega]
    omega
theorem e_near {a b : Nat} (hb : 0 < b) (h : b ≤ a) : 1 ≤ FP.Core.nearest a b := by
  have h1 : 1 ≤ a / b := (Nat.le_div_iff_mul_le hb).mpr (by omega)
  unfold FP.Core.nearest
  split
  · exact h1
  · split <;> omega

def e_g32 : FP.Core.Datum → Prop
  | .nan => False
  | .inf _ => True
  | .fin _ c q => c < 2 ^ 24 ∧ q ≤ 104
theorem e_bd32 {s : Bool} {c : Nat} {q : Int} (h : c < 2 ^ 24) : e_g32 (FP.Core.bound FP.Core.b32 s c q) := by
  unfold FP.Core.bound
  split
  · rename_i hq; exact ⟨h, hq⟩
  · exact trivial
theorem e_rr32 (s : Bool) (a b : Nat) (e : Int) : e_g32 (FP.Core.roundRatio FP.Core.b32 s a b e) := by
  unfold FP.Core.roundRatio
  split
  · exact ⟨by decide, by decide⟩
  · unfold FP.Core.roundAt FP.Core.settle
    split
    · rename_i hc; exact e_bd32 hc
    · exact e_bd32 (by decide)
theorem e_en32 {d : FP.Core.Datum} (h : e_g32 d) : FP.Core.encode FP.Core.b32 d % 2 ^ 31 ≤ 255 * 8388608 := by
  have t1 : FP.Core.b32.tails = 8388608 := by decide
  have t2 : FP.Core.b32.exps = 256 := by decide
  have t3 : FP.Core.b32.qmin = -149 := by decide
  cases d with
  | nan => exact h.elim
  | inf s =>
    unfold FP.Core.encode FP.Core.assemble
    rw [t1, t2]; cases s <;> decide
  | fin s c q =>
    obtain ⟨h1, h2⟩ := h
    unfold FP.Core.encode FP.Core.assemble
    simp only [t1, t2, t3]
    split
    · cases s <;> simp only [Bool.toNat_false, Bool.toNat_true] <;> omega
    · cases s <;> simp only [Bool.toNat_false, Bool.toNat_true] <;> omega
theorem e_in32 {i : Int} (hi : i.natAbs ≤ 2 ^ 31) : FP.Core.fromInt FP.Core.b32 i % 2 ^ 31 < 255 * 8388608 ∧ FP.Core.fromInt FP.Core.b32 i < 2 ^ 32 ∧ (i ≠ 0 → FP.Core.fromInt FP.Core.b32 i % 2 ^ 31 ≠ 0) := by
  have t1 : FP.Core.b32.tails = 8388608 := by decide
  have t2 : FP.Core.b32.exps = 256 := by decide
  have t3 : FP.Core.b32.qmin = -149 := by decide
  have t4 : FP.Core.b32.qmax = 104 := by decide
  have key : ∃ (s : Bool) (c : Nat) (q : Int), FP.Core.round FP.Core.b32 (FP.Core.ofInt i) = .fin s c q ∧ c < 2 ^ 24 ∧ -149 ≤ q ∧ q ≤ 10 ∧ (i ≠ 0 → 1 ≤ c) := by
    show ∃ (s : Bool) (c : Nat) (q : Int), FP.Core.roundRatio FP.Core.b32 (decide (i < 0)) i.natAbs 1 0 = .fin s c q ∧ c < 2 ^ 24 ∧ -149 ≤ q ∧ q ≤ 10 ∧ (i ≠ 0 → 1 ≤ c)
    unfold FP.Core.roundRatio
    by_cases h0 : i.natAbs = 0
    · rw [if_pos h0]
      exact ⟨_, _, _, rfl, by decide, by decide, by decide, fun z => by omega⟩
    · rw [if_neg h0]
      have hl : i.natAbs.log2 ≤ 31 := by
        have := Nat.log2_self_le (n := i.natAbs) h0
        rcases Nat.lt_or_ge i.natAbs.log2 32 with z | z
        · omega
        · have z2 : 2 ^ 32 ≤ 2 ^ i.natAbs.log2 := Nat.pow_le_pow_right (by decide) z
          omega
      have hp := Nat.log2_self_le (n := i.natAbs) h0
      obtain ⟨q, hq⟩ : ∃ z, z = FP.Core.quantum FP.Core.b32 i.natAbs 1 0 := ⟨_, rfl⟩
      have hq2 : q = max (-149) ((i.natAbs.log2 : Int) + 0 - (24 - 1)) := by
        rw [hq]; unfold FP.Core.quantum; rw [e_led (by omega), t3]; rfl
      rw [← hq]
      unfold FP.Core.roundAt
      have hc : 1 ≤ FP.Core.nearest (FP.Core.unitsNum i.natAbs 0 q) (FP.Core.unitsDen 1 0 q) := by
        refine e_near ?_ ?_
        · unfold FP.Core.unitsDen; rw [Nat.one_mul]; exact Nat.two_pow_pos _
        · unfold FP.Core.unitsDen FP.Core.unitsNum
          rw [Nat.one_mul]
          by_cases hz : q ≤ 0
          · rw [show (q - 0).toNat = 0 by omega]
            exact Nat.le_trans (by omega : 2 ^ 0 ≤ i.natAbs) (Nat.le_mul_of_pos_right _ (Nat.two_pow_pos _))
          · rw [show (0 - q).toNat = 0 by omega, Nat.pow_zero, Nat.mul_one]
            exact Nat.le_trans (Nat.pow_le_pow_right (by decide) (by omega)) hp
      unfold FP.Core.settle
      split
      · rename_i hc2
        unfold FP.Core.bound
        rw [if_pos (by rw [t4]; omega)]
        exact ⟨_, _, _, rfl, hc2, by omega, by omega, fun _ => hc⟩
      · unfold FP.Core.bound
        rw [if_pos (by rw [t4]; omega)]
        exact ⟨_, _, _, rfl, by decide, by omega, by omega, fun _ => by decide⟩
  obtain ⟨s, c, q, e, h1, h2, h3, h4⟩ := key
  unfold FP.Core.fromInt
  rw [e]
  unfold FP.Core.encode FP.Core.assemble
  simp only [t1, t2, t3]
  split
  · cases s <;> simp only [Bool.toNat_false, Bool.toNat_true] <;> refine ⟨?_, ?_, fun z => ?_⟩ <;> (try have := h4 z) <;> omega
  · cases s <;> simp only [Bool.toNat_false, Bool.toNat_true] <;> refine ⟨?_, ?_, fun z => ?_⟩ <;> omega
theorem e_de32 {n : Nat} (h : n % 2 ^ 31 < 255 * 8388608) : ∃ (s : Bool) (c : Nat) (q : Int), FP.Core.decode FP.Core.b32 n = .fin s c q ∧ (n % 2 ^ 31 ≠ 0 → c ≠ 0) := by
  have t1 : FP.Core.b32.tails = 8388608 := by decide
  have t2 : FP.Core.b32.exps = 256 := by decide
  unfold FP.Core.decode FP.Core.fieldE FP.Core.fieldT
  simp only [t1, t2]
  rw [if_neg (by omega)]
  split
  · exact ⟨_, _, _, rfl, fun z => by omega⟩
  · exact ⟨_, _, _, rfl, fun z => by omega⟩
theorem e_fdiv {x y : Int32} (h : y ≠ 0) : vf_n32 (FP.Core.fdiv (FP.Core.i2f x) (FP.Core.i2f y)) := by
  have ab : ∀ v : Int32, v.toInt.natAbs ≤ 2 ^ 31 := fun v => by have h1 := v.toInt_lt; have h2 := v.le_toInt; omega
  have hy : y.toInt ≠ 0 := fun z => h (Int32.toInt.inj (by rw [z]; rfl))
  have i1 := e_in32 (ab x)
  have i2 := e_in32 (ab y)
  have n1 : (FP.Core.i2f x).toNat = FP.Core.fromInt FP.Core.b32 x.toInt := by unfold FP.Core.i2f; rw [UInt32.toNat_ofNat']; exact Nat.mod_eq_of_lt i1.2.1
  have n2 : (FP.Core.i2f y).toNat = FP.Core.fromInt FP.Core.b32 y.toInt := by unfold FP.Core.i2f; rw [UInt32.toNat_ofNat']; exact Nat.mod_eq_of_lt i2.2.1
  obtain ⟨s, c, q, e1, -⟩ := e_de32 i1.1
  obtain ⟨t, d, r, e2, hd⟩ := e_de32 i2.1
  have hd := hd (i2.2.2 hy)
  have hb : FP.Core.encode FP.Core.b32 (FP.Core.roundRatio FP.Core.b32 (s != t) c d (q - r)) % 2 ^ 31 ≤ 255 * 8388608 := e_en32 (e_rr32 _ _ _ _)
  have e3 : FP.Core.fdiv (FP.Core.i2f x) (FP.Core.i2f y) = .ofNat (FP.Core.encode FP.Core.b32 (FP.Core.roundRatio FP.Core.b32 (s != t) c d (q - r))) := by
    unfold FP.Core.fdiv FP.Core.div
    rw [n1, n2, e1, e2]
    show UInt32.ofNat (FP.Core.encode _ (if d = 0 then _ else _)) = _
    rw [if_neg hd]
  rw [e3]
  unfold vf_n32
  rw [UInt32.le_iff_toNat_le, UInt32.toNat_and, show (0x7fffffff : UInt32).toNat = 2 ^ 31 - 1 from rfl, Nat.and_two_pow_sub_one_eq_mod, UInt32.toNat_ofNat']
  show _ ≤ 255 * 8388608
  omega

def e_g64 : FP.Core.Datum → Prop
  | .nan => False
  | .inf _ => True
  | .fin _ c q => c < 2 ^ 53 ∧ q ≤ 971
theorem e_bd64 {s : Bool} {c : Nat} {q : Int} (h : c < 2 ^ 53) : e_g64 (FP.Core.bound FP.Core.b64 s c q) := by
  unfold FP.Core.bound
  split
  · rename_i hq; exact ⟨h, hq⟩
  · exact trivial
theorem e_rr64 (s : Bool) (a b : Nat) (e : Int) : e_g64 (FP.Core.roundRatio FP.Core.b64 s a b e) := by
  unfold FP.Core.roundRatio
  split
  · exact ⟨by decide, by decide⟩
  · unfold FP.Core.roundAt FP.Core.settle
    split
    · rename_i hc; exact e_bd64 hc
    · exact e_bd64 (by decide)
theorem e_en64 {d : FP.Core.Datum} (h : e_g64 d) : FP.Core.encode FP.Core.b64 d % 2 ^ 63 ≤ 2047 * 4503599627370496 := by
  have t1 : FP.Core.b64.tails = 4503599627370496 := by decide
  have t2 : FP.Core.b64.exps = 2048 := by decide
  have t3 : FP.Core.b64.qmin = -1074 := by decide
  cases d with
  | nan => exact h.elim
  | inf s =>
    unfold FP.Core.encode FP.Core.assemble
    rw [t1, t2]; cases s <;> decide
  | fin s c q =>
    obtain ⟨h1, h2⟩ := h
    unfold FP.Core.encode FP.Core.assemble
    simp only [t1, t2, t3]
    split
    · cases s <;> simp only [Bool.toNat_false, Bool.toNat_true] <;> omega
    · cases s <;> simp only [Bool.toNat_false, Bool.toNat_true] <;> omega
theorem e_in64 {i : Int} (hi : i.natAbs ≤ 2 ^ 31) : FP.Core.fromInt FP.Core.b64 i % 2 ^ 63 < 2047 * 4503599627370496 ∧ FP.Core.fromInt FP.Core.b64 i < 2 ^ 64 ∧ (i ≠ 0 → FP.Core.fromInt FP.Core.b64 i % 2 ^ 63 ≠ 0) := by
  have t1 : FP.Core.b64.tails = 4503599627370496 := by decide
  have t2 : FP.Core.b64.exps = 2048 := by decide
  have t3 : FP.Core.b64.qmin = -1074 := by decide
  have t4 : FP.Core.b64.qmax = 971 := by decide
  have key : ∃ (s : Bool) (c : Nat) (q : Int), FP.Core.round FP.Core.b64 (FP.Core.ofInt i) = .fin s c q ∧ c < 2 ^ 53 ∧ -1074 ≤ q ∧ q ≤ 10 ∧ (i ≠ 0 → 1 ≤ c) := by
    show ∃ (s : Bool) (c : Nat) (q : Int), FP.Core.roundRatio FP.Core.b64 (decide (i < 0)) i.natAbs 1 0 = .fin s c q ∧ c < 2 ^ 53 ∧ -1074 ≤ q ∧ q ≤ 10 ∧ (i ≠ 0 → 1 ≤ c)
    unfold FP.Core.roundRatio
    by_cases h0 : i.natAbs = 0
    · rw [if_pos h0]
      exact ⟨_, _, _, rfl, by decide, by decide, by decide, fun z => by omega⟩
    · rw [if_neg h0]
      have hl : i.natAbs.log2 ≤ 31 := by
        have := Nat.log2_self_le (n := i.natAbs) h0
        rcases Nat.lt_or_ge i.natAbs.log2 32 with z | z
        · omega
        · have z2 : 2 ^ 32 ≤ 2 ^ i.natAbs.log2 := Nat.pow_le_pow_right (by decide) z
          omega
      have hp := Nat.log2_self_le (n := i.natAbs) h0
      obtain ⟨q, hq⟩ : ∃ z, z = FP.Core.quantum FP.Core.b64 i.natAbs 1 0 := ⟨_, rfl⟩
      have hq2 : q = max (-1074) ((i.natAbs.log2 : Int) + 0 - (53 - 1)) := by
        rw [hq]; unfold FP.Core.quantum; rw [e_led (by omega), t3]; rfl
      rw [← hq]
      unfold FP.Core.roundAt
      have hc : 1 ≤ FP.Core.nearest (FP.Core.unitsNum i.natAbs 0 q) (FP.Core.unitsDen 1 0 q) := by
        refine e_near ?_ ?_
        · unfold FP.Core.unitsDen; rw [Nat.one_mul]; exact Nat.two_pow_pos _
        · unfold FP.Core.unitsDen FP.Core.unitsNum
          rw [Nat.one_mul]
          by_cases hz : q ≤ 0
          · rw [show (q - 0).toNat = 0 by omega]
            exact Nat.le_trans (by omega : 2 ^ 0 ≤ i.natAbs) (Nat.le_mul_of_pos_right _ (Nat.two_pow_pos _))
          · rw [show (0 - q).toNat = 0 by omega, Nat.pow_zero, Nat.mul_one]
            exact Nat.le_trans (Nat.pow_le_pow_right (by decide) (by omega)) hp
      unfold FP.Core.settle
      split
      · rename_i hc2
        unfold FP.Core.bound
        rw [if_pos (by rw [t4]; omega)]
        exact ⟨_, _, _, rfl, hc2, by omega, by omega, fun _ => hc⟩
      · unfold FP.Core.bound
        rw [if_pos (by rw [t4]; omega)]
        exact ⟨_, _, _, rfl, by decide, by omega, by omega, fun _ => by decide⟩
  obtain ⟨s, c, q, e, h1, h2, h3, h4⟩ := key
  unfold FP.Core.fromInt
  rw [e]
  unfold FP.Core.encode FP.Core.assemble
  simp only [t1, t2, t3]
  split
  · cases s <;> simp only [Bool.toNat_false, Bool.toNat_true] <;> refine ⟨?_, ?_, fun z => ?_⟩ <;> (try have := h4 z) <;> omega
  · cases s <;> simp only [Bool.toNat_false, Bool.toNat_true] <;> refine ⟨?_, ?_, fun z => ?_⟩ <;> omega
theorem e_de64 {n : Nat} (h : n % 2 ^ 63 < 2047 * 4503599627370496) : ∃ (s : Bool) (c : Nat) (q : Int), FP.Core.decode FP.Core.b64 n = .fin s c q ∧ (n % 2 ^ 63 ≠ 0 → c ≠ 0) := by
  have t1 : FP.Core.b64.tails = 4503599627370496 := by decide
  have t2 : FP.Core.b64.exps = 2048 := by decide
  unfold FP.Core.decode FP.Core.fieldE FP.Core.fieldT
  simp only [t1, t2]
  rw [if_neg (by omega)]
  split
  · exact ⟨_, _, _, rfl, fun z => by omega⟩
  · exact ⟨_, _, _, rfl, fun z => by omega⟩
theorem e_ddiv {x y : Int32} (h : y ≠ 0) : vf_n64 (FP.Core.ddiv (FP.Core.i2d x) (FP.Core.i2d y)) := by
  have ab : ∀ v : Int32, v.toInt.natAbs ≤ 2 ^ 31 := fun v => by have h1 := v.toInt_lt; have h2 := v.le_toInt; omega
  have hy : y.toInt ≠ 0 := fun z => h (Int32.toInt.inj (by rw [z]; rfl))
  have i1 := e_in64 (ab x)
  have i2 := e_in64 (ab y)
  have n1 : (FP.Core.i2d x).toNat = FP.Core.fromInt FP.Core.b64 x.toInt := by unfold FP.Core.i2d; rw [UInt64.toNat_ofNat']; exact Nat.mod_eq_of_lt i1.2.1
  have n2 : (FP.Core.i2d y).toNat = FP.Core.fromInt FP.Core.b64 y.toInt := by unfold FP.Core.i2d; rw [UInt64.toNat_ofNat']; exact Nat.mod_eq_of_lt i2.2.1
  obtain ⟨s, c, q, e1, -⟩ := e_de64 i1.1
  obtain ⟨t, d, r, e2, hd⟩ := e_de64 i2.1
  have hd := hd (i2.2.2 hy)
  have hb : FP.Core.encode FP.Core.b64 (FP.Core.roundRatio FP.Core.b64 (s != t) c d (q - r)) % 2 ^ 63 ≤ 2047 * 4503599627370496 := e_en64 (e_rr64 _ _ _ _)
  have e3 : FP.Core.ddiv (FP.Core.i2d x) (FP.Core.i2d y) = .ofNat (FP.Core.encode FP.Core.b64 (FP.Core.roundRatio FP.Core.b64 (s != t) c d (q - r))) := by
    unfold FP.Core.ddiv FP.Core.div
    rw [n1, n2, e1, e2]
    show UInt64.ofNat (FP.Core.encode _ (if d = 0 then _ else _)) = _
    rw [if_neg hd]
  rw [e3]
  unfold vf_n64
  rw [UInt64.le_iff_toNat_le, UInt64.toNat_and, show (0x7fffffffffffffff : UInt64).toNat = 2 ^ 63 - 1 from rfl, Nat.and_two_pow_sub_one_eq_mod, UInt64.toNat_ofNat']
  show _ ≤ 2047 * 4503599627370496
  omega

end FLA
