/-! texts: the page's bytes and how many -/
set_option maxRecDepth 100000
abbrev g_Tx : Type := g_Wd × Nat
def w_b (T : g_Tx) (c : Int32) : g_Tx := (g_up2 T.1 18 T.2 c.toInt8.toInt32, T.2 + 1)
def w_d (T : g_Tx) (d : Int32) : g_Tx := w_b T (if d = -1 then 63 else 48 + d)
def w_row (T : g_Tx) (f : Nat → Int32) : Nat → g_Tx
  | 0 => T
  | p + 1 => w_d (w_row T f p) (f p)
def w_sep (T : g_Tx) (i : Nat) (c : Int32) : g_Tx := if i = 0 then T else w_b T c
def w_msg (T : g_Tx) (M : Nat → Int32) : Nat → g_Tx
  | 0 => T
  | i + 1 => w_row (w_sep (w_msg T M i) i 47) (fun p => s_has M i p) (s_len M)
theorem w_row_2 (T : g_Tx) (f : Nat → Int32) (p : Nat) : (w_row T f p).2 = T.2 + p := by
  induction p with
  | zero => rfl
  | succ p ih => show (w_row T f p).2 + 1 = _; rw [ih]; omega
theorem w_msg_2 (T : g_Tx) (M : Nat → Int32) (i : Nat) : (w_msg T M i).2 ≤ T.2 + i * (s_len M + 1) := by
  induction i with
  | zero => exact Nat.le_add_right _ _
  | succ i ih =>
    show (w_row (w_sep (w_msg T M i) i 47) (fun p => s_has M i p) (s_len M)).2 ≤ _
    rw [w_row_2, Nat.succ_mul]
    have h : (w_sep (w_msg T M i) i 47).2 ≤ (w_msg T M i).2 + 1 := by
      unfold w_sep; split
      · omega
      · exact Nat.le_refl _
    omega
/-- a level's wires -/
def w_wire (T : Nat → Int32) (w : Nat) : Int32 := if T (5 * w + 2) = 1 then 120 else 48 + T (5 * w + 0)
def w_wires (T : g_Tx) (R : Nat → Int32) (k : Nat) : Nat → g_Tx
  | 0 => T
  | i + 1 => w_b (if i % 3 = 0 ∧ 0 < i then w_b (w_wires T R k i) 32 else w_wires T R k i) (w_wire R (9 * k + i))
theorem w_wires_2 (T : g_Tx) (R : Nat → Int32) (k i : Nat) : (w_wires T R k i).2 ≤ T.2 + 2 * i ∧ T.2 + i ≤ (w_wires T R k i).2 := by
  induction i with
  | zero => exact ⟨Nat.le_refl _, Nat.le_refl _⟩
  | succ i ih =>
    have e : w_wires T R k (i + 1) = w_b (if i % 3 = 0 ∧ 0 < i then w_b (w_wires T R k i) 32 else w_wires T R k i) (w_wire R (9 * k + i)) := rfl
    rw [e]
    split
    · show (w_wires T R k i).2 + 1 + 1 ≤ _ ∧ _ ≤ (w_wires T R k i).2 + 1 + 1; omega
    · show (w_wires T R k i).2 + 1 ≤ _ ∧ _ ≤ (w_wires T R k i).2 + 1; omega
/-- a number, its digits from the greatest on: b = 10^(digits - 1) -/
def w_pow (v : Nat) : Nat := if v < 10 then 0 else if v < 100 then 1 else if v < 1000 then 2 else if v < 10000 then 3 else if v < 100000 then 4 else if v < 1000000 then 5 else 6
def w_num (T : g_Tx) (v : Nat) : Nat → g_Tx
  | 0 => w_b T (nI (48 + v % 10))
  | e + 1 => w_num (w_b T (nI (48 + v / 10 ^ (e + 1) % 10))) v e
def w_n (T : g_Tx) (v : Nat) : g_Tx := w_num T v (w_pow v)
theorem w_num_2 (v : Nat) : ∀ (e : Nat) (T : g_Tx), (w_num T v e).2 = T.2 + e + 1 := by
  intro e
  induction e with
  | zero => intro T; rfl
  | succ e ih => intro T; show (w_num (w_b T _) v e).2 = _; rw [ih]; show T.2 + 1 + e + 1 = _; omega
theorem w_pow_le (v : Nat) : w_pow v ≤ 6 := by unfold w_pow; (repeat' split) <;> omega
theorem w_pow_lt {v e : Nat} (hv : v < 10000000) (he : e ≤ 6) : 9 < v / 10 ^ e ↔ e < w_pow v := by
  unfold w_pow
  rcases (show e = 0 ∨ e = 1 ∨ e = 2 ∨ e = 3 ∨ e = 4 ∨ e = 5 ∨ e = 6 by omega) with rfl | rfl | rfl | rfl | rfl | rfl | rfl <;> simp only [Nat.reducePow] <;> (repeat' split) <;> omega
theorem w_ten (e : Nat) (he : e ≤ 6) : 0 < 10 ^ e ∧ 10 ^ e ≤ 1000000 := by
  rcases (show e = 0 ∨ e = 1 ∨ e = 2 ∨ e = 3 ∨ e = 4 ∨ e = 5 ∨ e = 6 by omega) with rfl | rfl | rfl | rfl | rfl | rfl | rfl <;> decide
def w_by : Nat → Nat
  | 0 => 0
  | e + 1 => 10 ^ e
theorem w_by_div (e : Nat) : 10 ^ e / 10 = w_by e := by
  cases e with
  | zero => rfl
  | succ e => show 10 ^ e * 10 / 10 = 10 ^ e; omega
def w_rest (T : g_Tx) (v : Nat) : Nat → g_Tx
  | 0 => T
  | e + 1 => w_num T v e
theorem w_rest_s (T : g_Tx) (v e : Nat) : w_rest (w_b T (nI (48 + v / 10 ^ e % 10))) v e = w_rest T v (e + 1) := by
  cases e with
  | zero => show w_b T (nI (48 + v / 1 % 10)) = w_b T (nI (48 + v % 10)); rw [Nat.div_one]
  | succ e => rfl
theorem w_by_lt (r : Nat) (h : r ≤ 7) : w_by r < 2 ^ 31 := by
  cases r with
  | zero => decide
  | succ r => have := w_ten r (by omega); show 10 ^ r < 2 ^ 31; omega
theorem w_by_0 {r : Nat} (h : w_by r ≤ 0) : r = 0 := by
  cases r with
  | zero => rfl
  | succ r => have : 0 < 10 ^ r := Nat.pow_pos (by decide); exact absurd h (by show ¬ 10 ^ r ≤ 0; omega)
theorem vw_nar (x : Int32) : vp_nar .byte x.toInt8.toInt32 = x.toInt8.toInt32 := pk_vb x
def s_abs (x : Int32) : Int32 := if 0 ≤ x then x else 0 - x
def s_gap (X : g_Wd) : Int32 := s_abs (X 0 5 - s_wsum X 3) + s_abs (X 0 6 - s_wsum X 4) + s_isum (fun m => nI (s_unlM (X (3 + m)))) (s_M X)
def s_nt (x : Int32) : Nat := x.toNatClampNeg
/-- the log's rows are numbers of a few digits -/
def s_okl (X : g_Wd) : Prop := ∀ g, g < s_G X → (X 2 (4 * g) = nI (s_nt (X 2 (4 * g))) ∧ s_nt (X 2 (4 * g)) < 10000000) ∧ (X 2 (4 * g + 1) = nI (s_nt (X 2 (4 * g + 1))) ∧ s_nt (X 2 (4 * g + 1)) < 4) ∧ X 2 (4 * g + 2) = nI (s_nt (X 2 (4 * g + 2))) ∧ s_nt (X 2 (4 * g + 2)) < 6
def w_ent (T : g_Tx) (X : g_Wd) (g : Nat) : g_Tx := w_n (w_b (w_n (w_sep T g 32) (s_nt (X 2 (4 * g)))) (s_sign (X 2 (4 * g + 1)))) (s_nt (X 2 (4 * g + 2)))
def w_logN (T : g_Tx) (X : g_Wd) : Nat → g_Tx
  | 0 => T
  | g + 1 => w_ent (w_logN T X g) X g
def w_log (T : g_Tx) (X : g_Wd) : g_Tx := if s_G X = 0 then w_b T 45 else w_logN T X (s_G X)
theorem w_n_2 (T : g_Tx) (v : Nat) : (w_n T v).2 = T.2 + w_pow v + 1 := w_num_2 v _ T
theorem w_sep_2 (T : g_Tx) (i : Nat) (c : Int32) : (w_sep T i c).2 ≤ T.2 + 1 ∧ T.2 ≤ (w_sep T i c).2 := by
  unfold w_sep; split
  · omega
  · exact ⟨Nat.le_refl _, Nat.le_succ _⟩
theorem w_pow_6 {v : Nat} (h : v < 6) : w_pow v = 0 := by unfold w_pow; rw [if_pos (by omega)]
theorem w_ent_2 {T : g_Tx} {X : g_Wd} {g : Nat} (h : s_nt (X 2 (4 * g + 2)) < 6) : (w_ent T X g).2 ≤ T.2 + 10 ∧ T.2 + 3 ≤ (w_ent T X g).2 := by
  unfold w_ent
  rw [w_n_2, w_pow_6 h]
  have h1 := w_sep_2 T g 32
  have h2 := w_n_2 (w_sep T g 32) (s_nt (X 2 (4 * g)))
  have h3 := w_pow_le (s_nt (X 2 (4 * g)))
  show (w_n (w_sep T g 32) _).2 + 1 + 0 + 1 ≤ _ ∧ _ ≤ (w_n (w_sep T g 32) _).2 + 1 + 0 + 1
  omega
theorem w_logN_2 {T : g_Tx} {X : g_Wd} (h : s_okl X) {g : Nat} (hg : g ≤ s_G X) : (w_logN T X g).2 ≤ T.2 + 10 * g ∧ T.2 + 3 * g ≤ (w_logN T X g).2 := by
  induction g with
  | zero => exact ⟨Nat.le_refl _, Nat.le_refl _⟩
  | succ g ih =>
    have h1 := ih (by omega)
    have h2 := w_ent_2 (T := w_logN T X g) (h g (by omega)).2.2.2
    show (w_ent _ X g).2 ≤ _ ∧ _ ≤ (w_ent _ X g).2
    omega
theorem w_b_2 (T : g_Tx) (c : Int32) : (w_b T c).2 = T.2 + 1 := rfl
theorem w_d_2 (T : g_Tx) (c : Int32) : (w_d T c).2 = T.2 + 1 := rfl
