/-! WHAT THE METHODS SAY, as plain functions: M a message's row, T the wires' row -/
def s_n (b : Bool) : Nat := match b with
  | true => 1
  | false => 0
theorem g_bN (b : Bool) : g_b b = nI (s_n b) := by cases b <;> rfl
def s_cnt (f : Nat → Bool) : Nat → Nat
  | 0 => 0
  | k + 1 => s_cnt f k + s_n (f k)
theorem s_n_le (b : Bool) : s_n b ≤ 1 := by cases b <;> decide
theorem s_cnt_le (f : Nat → Bool) (k : Nat) : s_cnt f k ≤ k := by
  induction k with
  | zero => exact Nat.le_refl _
  | succ k ih => have := s_n_le (f k); show s_cnt f k + s_n (f k) ≤ k + 1; omega
theorem s_cnt_t {f : Nat → Bool} {k : Nat} (h : f k = true) : s_cnt f (k + 1) = s_cnt f k + 1 := by show s_cnt f k + s_n (f k) = _; rw [h]; rfl
theorem s_cnt_f {f : Nat → Bool} {k : Nat} (h : f k = false) : s_cnt f (k + 1) = s_cnt f k := by show s_cnt f k + s_n (f k) = _; rw [h]; rfl
theorem s_cnt_congr {f g : Nat → Bool} (k : Nat) (h : ∀ j, j < k → f j = g j) : s_cnt f k = s_cnt g k := by
  induction k with
  | zero => rfl
  | succ k ih =>
    show s_cnt f k + s_n (f k) = s_cnt g k + s_n (g k)
    rw [ih (fun j hj => h j (by omega)), h k (by omega)]
def s_in (v lo hi : Int32) : Bool := decide (lo ≤ v) && decide (v ≤ hi)
/-- a length is written in a message's row -/
def s_len (M : Nat → Int32) : Nat := (M 0).toNatClampNeg
def s_okL (M : Nat → Int32) : Prop := M 0 = nI (s_len M) ∧ s_len M ≤ 12
def s_vote (a b c : Int32) : Int32 := if a ≠ -1 ∧ (a = b ∨ a = c) then a else if b ≠ -1 ∧ b = c then b else -1
abbrev s_has (M : Nat → Int32) (i p : Nat) : Int32 := M (17 + 12 * i + p)
abbrev s_cpy (M : Nat → Int32) (i p f : Nat) : Int32 := M (89 + 3 * (12 * i + p) + f)
abbrev s_dig (M : Nat → Int32) (p : Nat) : Int32 := M (5 + p)
def s_votedAt (M : Nat → Int32) (i p : Nat) : Int32 := s_vote (s_cpy M i p 0) (s_cpy M i p 1) (s_cpy M i p 2)
def s_uns (M : Nat → Int32) (i : Nat) : Nat := s_cnt (fun p => decide (s_has M i p = -1)) (s_len M)
def s_unsAll (M : Nat → Int32) : Nat := s_uns M 0 + s_uns M 1 + s_uns M 2
def s_rig (M : Nat → Int32) (i : Nat) : Nat := s_cnt (fun p => decide (s_has M i p = s_dig M p)) (s_len M)
def s_bel (M : Nat → Int32) (p : Nat) : Int32 := s_vote (s_has M 0 p) (s_has M 1 p) (s_has M 2 p)
def s_rigP (M : Nat → Int32) : Nat := s_cnt (fun p => decide (s_bel M p = s_dig M p)) (s_len M)
def s_lies (M : Nat → Int32) (i : Nat) : Nat := s_cnt (fun p => !decide (s_bel M p = -1) && !decide (s_has M i p = s_bel M p)) (s_len M)
def s_doub (M : Nat → Int32) (p : Nat) : Bool := decide (s_has M 0 p = -1) || (!decide (s_has M 0 p = s_has M 1 p) || !decide (s_has M 0 p = s_has M 2 p))
def s_doubM (M : Nat → Int32) : Nat := s_cnt (fun p => s_doub M p) (s_len M)
def s_same (M : Nat → Int32) (i j : Nat) : Nat := s_cnt (fun p => !decide (s_has M i p = -1) && decide (s_has M i p = s_has M j p)) (s_len M)
def s_came (M : Nat → Int32) (i p : Nat) : Nat := s_cnt (fun f => !decide (s_cpy M i p f = -1)) 3
def s_agr (M : Nat → Int32) (i p : Nat) : Bool := decide (s_cpy M i p 0 = s_cpy M i p 1) && decide (s_cpy M i p 1 = s_cpy M i p 2)
def s_voteAt (M : Nat → Int32) (i p : Nat) : Int32 := if M 1 = 0 then 0 else if s_came M i p < 2 then 5 else if s_votedAt M i p = -1 then (if s_came M i p = 3 then 3 else 4) else if s_agr M i p = true then 1 else 2
/-- a wire is garbled in an hour at a place -/
def s_garb (T : Nat → Int32) (w : Nat) (hour p : Int32) : Bool := decide (g_rem (7 * hour + 3 * p + T (5 * w + 1)) 10 < T (5 * w + 0))
def s_arr (T : Nat → Int32) (w : Nat) (hour p digit : Int32) : Int32 := if s_garb T w hour p = true then g_rem (digit + 1 + g_rem (hour + p) 9) 10 else digit
/-- the numbers of a world that are bounds -/
def s_L (X : g_Wd) : Nat := (X 0 0).toNatClampNeg
def s_M (X : g_Wd) : Nat := (X 0 3).toNatClampNeg
def s_G (X : g_Wd) : Nat := (X 0 4).toNatClampNeg
def s_ok (X : g_Wd) : Prop := (X 0 0 = nI (s_L X) ∧ 2 ≤ s_L X ∧ s_L X ≤ 6) ∧ (X 0 3 = nI (s_M X) ∧ s_M X ≤ 6) ∧ (X 0 4 = nI (s_G X) ∧ s_G X ≤ 40) ∧ ∀ m, m < s_M X → s_okL (X (3 + m))
theorem s_in_lt {v : Int32} {n : Nat} (h : s_in v 0 (nI n - 1) = true) (hn : n < 2 ^ 31) : ∃ j, j < n ∧ v = nI j := by
  unfold s_in at h
  simp only [Bool.and_eq_true, decide_eq_true_eq] at h
  obtain ⟨h1, h2⟩ := h
  cases n with
  | zero =>
    exfalso
    have : (nI 0 - 1 : Int32) = -1 := by decide
    rw [this] at h2
    have h3 := Int32.le_trans h1 h2
    exact absurd h3 (by decide)
  | succ n =>
    rw [nI_pred] at h2
    obtain ⟨j, hj, rfl⟩ := nI_of (x := v) (fun z => Int32.lt_irrefl (Int32.lt_of_lt_of_le z h1))
    exact ⟨j, by have := (nI_leI hj (by omega)).mp h2; omega, rfl⟩
theorem s_in_nI {j n : Nat} (h : j < n) (hn : n < 2 ^ 31) : s_in (nI j) 0 (nI n - 1) = true := by
  cases n with
  | zero => omega
  | succ n =>
    unfold s_in
    rw [nI_pred]
    simp only [Bool.and_eq_true, decide_eq_true_eq]
    exact ⟨nI_pos' (by omega), (nI_leI (by omega) (by omega)).mpr (by omega)⟩
theorem s_uns_le {M : Nat → Int32} (h : s_len M ≤ 12) (i : Nat) : s_uns M i ≤ 12 := Nat.le_trans (s_cnt_le _ _) h
theorem s_unsAll_le {M : Nat → Int32} (h : s_len M ≤ 12) : s_unsAll M ≤ 36 := by
  have h0 := s_uns_le h 0; have h1 := s_uns_le h 1; have h2 := s_uns_le h 2
  unfold s_unsAll; omega
def s_will (X : g_Wd) (m : Nat) : Bool := decide (0 < X (3 + m) 1) && (decide (X (3 + m) 2 < X 0 1) && decide (0 < s_unsAll (X (3 + m))))
def s_mayA (X : g_Wd) (m : Nat) : Bool := decide (X (3 + m) 1 = nI (s_L X - 1)) && (decide (s_unsAll (X (3 + m)) = 0) || decide (X 0 1 ≤ X (3 + m) 2))
def s_arrd (X : g_Wd) : Nat := s_cnt (fun m => !decide (X (3 + m) 4 = -1)) (s_M X)
def s_W (X : g_Wd) : Nat := 9 * (s_L X - 1)
def s_wwith (X : g_Wd) (k : Nat) : Nat := s_cnt (fun w => decide (0 < X 1 (5 * w + k))) (s_W X)
def s_isWire (F : Nat → Int32) (X : g_Wd) (k a b : Int32) : Bool := !decide (F 6 = 0) && (s_in k 0 (X 0 0 - 2) && (s_in a 0 2 && s_in b 0 2))
def s_isWN (F : Nat → Int32) (X : g_Wd) (w : Int32) : Bool := !decide (F 6 = 0) && s_in w 0 (nI (s_W X) - 1)
def s_isMsg (F : Nat → Int32) (X : g_Wd) (m : Int32) : Bool := !decide (F 6 = 0) && s_in m 0 (X 0 3 - 1)
def s_isPl (F : Nat → Int32) (X : g_Wd) (m p : Int32) : Bool := s_isMsg F X m && s_in p 0 (X (3 + m.toNatClampNeg) 0 - 1)
def s_any (f : Nat → Bool) : Nat → Bool
  | 0 => false
  | k + 1 => s_any f k || f k
theorem s_any_t {f : Nat → Bool} {j n : Nat} (h : f j = true) (hj : j < n) : s_any f n = true := by
  induction n with
  | zero => omega
  | succ n ih =>
    show (s_any f n || f n) = true
    rcases Nat.lt_or_ge j n with q | q
    · rw [ih q]; rfl
    · rw [show n = j by omega, h, Bool.or_true]
theorem s_any_congr {f g : Nat → Bool} (k : Nat) (h : ∀ j, j < k → f j = g j) : s_any f k = s_any g k := by
  induction k with
  | zero => rfl
  | succ k ih =>
    show (s_any f k || f k) = (s_any g k || g k)
    rw [ih (fun j hj => h j (by omega)), h k (by omega)]
def s_sum (f : Nat → Nat) : Nat → Nat
  | 0 => 0
  | k + 1 => s_sum f k + f k
theorem s_sum_le {f : Nat → Nat} {b : Nat} (h : ∀ j, f j ≤ b) (n : Nat) : s_sum f n ≤ b * n := by
  induction n with
  | zero => exact Nat.le_refl _
  | succ n ih => have := h n; show s_sum f n + f n ≤ b * (n + 1); rw [Nat.mul_succ]; omega
def s_isum (f : Nat → Int32) : Nat → Int32
  | 0 => 0
  | k + 1 => s_isum f k + f k
def s_storm (T : Nat → Int32) (w : Nat) (hour : Int32) : Bool := s_any (fun p => s_garb T w hour (nI p)) 12
def s_gIn (X : g_Wd) (hour : Int32) : Nat := s_sum (fun w => s_cnt (fun p => s_garb (X 1) w hour (nI p)) 12) (s_W X)
def s_gWs (X : g_Wd) (hour p : Int32) : Nat := s_cnt (fun w => s_garb (X 1) w hour p) (s_W X)
def s_next (X : g_Wd) (m : Nat) : Int32 := if ¬ X (3 + m) 4 = -1 then 0 else if s_will X m = true then 1 else if X (3 + m) 1 < nI (s_L X - 1) then 2 else 3
def s_unl (M : Nat → Int32) (i : Nat) : Nat := s_cnt (fun p => !decide (s_has M i p = s_votedAt M i p)) (s_len M)
def s_unlM (M : Nat → Int32) : Nat := if M 1 = 0 then 0 else s_sum (fun i => s_unl M i) 3
def s_wsum (X : g_Wd) (k : Nat) : Int32 := s_isum (fun w => X 1 (5 * w + k)) (s_W X)
def s_hours (X : g_Wd) : Int32 := s_isum (fun m => if X (3 + m) 4 = -1 then 0 else X (3 + m) 4 - X (3 + m) 3 + 1) (s_M X)
def s_sign (k : Int32) : Int32 := if k = 0 then 115 else if k = 1 then 103 else if k = 2 then 97 else 114
def s_tenth (v : Int32) : Nat → Int32
  | 0 => v
  | k + 1 => s_tenth v k / 10
def s_areD (v : Int32) (n : Nat) : Bool := decide (0 ≤ v) && decide (s_tenth v n = 0)
theorem s_isMsg_nat {F : Nat → Int32} {X : g_Wd} {v : Int32} (h : s_isMsg F X v = true) (hW : ¬ F 6 = 0 → s_ok X) : ∃ j, j < s_M X ∧ v = nI j ∧ ¬ F 6 = 0 := by
  unfold s_isMsg at h
  simp only [Bool.and_eq_true, Bool.not_eq_true', decide_eq_false_iff_not] at h
  obtain ⟨h1, h2⟩ := h
  obtain ⟨-, ⟨e3, l3⟩, -⟩ := hW h1
  rw [e3] at h2
  obtain ⟨j, hj, rfl⟩ := s_in_lt h2 (by omega)
  exact ⟨j, hj, rfl, h1⟩
