/-! what is answered when it may be asked -/
set_option maxRecDepth 100000
def s_count (X : g_Wd) (w : Nat) : Int32 := if w = 0 then X 0 0 else if w = 1 then X 0 1 else if w = 2 then X 0 2 else if w = 3 then X 0 3 else if w = 4 then X 0 3 - nI (s_arrd X) else if w = 5 then nI (s_arrd X) else if w = 6 then X 0 5 else if w = 7 then X 0 6 else if w = 8 then X 0 7 else if w = 9 then X 0 8 else if w = 10 then nI (s_wwith X 0) else nI (s_wwith X 2)
def s_best (f : Nat → Int32) : Nat → Int32 × Int32
  | 0 => (-1, 0)
  | k + 1 => if f k ≤ (s_best f k).2 then s_best f k else (nI k, f k)
def s_sH (X : g_Wd) (w n : Nat) : Nat := s_cnt (fun h => s_storm (X 1) w (X 0 2 + nI h)) n
def s_calm (X : g_Wd) : Nat → Int32 × Nat
  | 0 => (X 0 2, s_gIn X (X 0 2))
  | k + 1 => if s_gIn X (nI (s_H X + 1 + k)) < (s_calm X k).2 then (nI (s_H X + 1 + k), s_gIn X (nI (s_H X + 1 + k))) else s_calm X k
def s_msg (X : g_Wd) (j w : Nat) : Int32 := if w = 5 then nI (s_unsAll (X (3 + j))) else if w = 6 then nI (s_rig (X (3 + j)) 0 + s_rig (X (3 + j)) 1 + s_rig (X (3 + j)) 2) else if w = 7 then nI (3 * s_len (X (3 + j))) - nI (s_unsAll (X (3 + j))) - nI (s_rig (X (3 + j)) 0 + s_rig (X (3 + j)) 1 + s_rig (X (3 + j)) 2) else X (3 + j) w
def s_liar (M : Nat → Int32) : Int32 := (s_best (fun i => nI (s_lies M i)) 3).1
def s_fstN (f : Nat → Bool) : Nat → Int32
  | 0 => -1
  | k + 1 => if s_any f k = true then s_fstN f k else if f k = true then nI k else -1
theorem s_fstN_none {f : Nat → Bool} {n : Nat} (h : s_any f n = false) : s_fstN f n = -1 := by
  cases n with
  | zero => rfl
  | succ n =>
    have h' : (s_any f n || f n) = false := h
    simp only [Bool.or_eq_false_iff] at h'
    show (if s_any f n = true then _ else if f n = true then _ else _) = _
    rw [if_neg (by simp [h'.1]), if_neg (by simp [h'.2])]
theorem s_fstN_at {f : Nat → Bool} {j n : Nat} (h : s_any f j = false) (h2 : f j = true) (hj : j < n) : s_fstN f n = nI j := by
  induction n with
  | zero => omega
  | succ n ih =>
    show (if s_any f n = true then _ else if f n = true then _ else _) = _
    rcases Nat.lt_or_ge j n with q | q
    · rw [if_pos (s_any_t h2 q)]; exact ih q
    · rw [show n = j by omega, if_neg (by simp [h]), if_pos h2]
def s_fw (M : Nat → Int32) : Int32 := s_fstN (fun p => !decide (s_bel M p = s_dig M p)) (s_len M)
def s_agree (M : Nat → Int32) : Int32 := if s_same M 0 2 ≤ s_same M 0 1 ∧ s_same M 1 2 ≤ s_same M 0 1 then 0 else if s_same M 1 2 ≤ s_same M 0 2 then 1 else 2
def s_old (X : g_Wd) : Nat → Int32
  | 0 => -1
  | m + 1 => if X (3 + m) 4 = -1 ∧ (s_old X m = -1 ∨ X (3 + m) 3 < X (3 + (s_old X m).toNatClampNeg) 3) then nI m else s_old X m
theorem s_old_nat {X : g_Wd} {m : Nat} (hm : m ≤ 6) (h : ¬ s_old X m = -1) : ∃ b, b < m ∧ s_old X m = nI b := by
  induction m with
  | zero => exact absurd rfl h
  | succ m ih =>
    have e : s_old X (m + 1) = if X (3 + m) 4 = -1 ∧ (s_old X m = -1 ∨ X (3 + m) 3 < X (3 + (s_old X m).toNatClampNeg) 3) then nI m else s_old X m := rfl
    rw [e] at h ⊢
    split
    · exact ⟨m, by omega, rfl⟩
    · rename_i h2
      rw [if_neg h2] at h
      obtain ⟨b, hb, e2⟩ := ih (by omega) h
      exact ⟨b, by omega, e2⟩
def s_logd (X : g_Wd) (i : Int32) (w : Nat) : Int32 := if s_in i 0 (nI (s_G X) - 1) = true then X 2 (4 * i.toNatClampNeg + w) else -1
def s_ents (X : g_Wd) (kd : Int32) : Nat := s_cnt (fun k => decide (X 2 (4 * k + 1) = kd)) (s_G X)
theorem s_calm_b (X : g_Wd) (k : Nat) {b : Nat} (h : ∀ v, s_gIn X v ≤ b) : (s_calm X k).2 ≤ b := by
  induction k with
  | zero => exact h _
  | succ k ih =>
    show (if _ then _ else _ : Int32 × Nat).2 ≤ b
    split
    · exact h _
    · exact ih
