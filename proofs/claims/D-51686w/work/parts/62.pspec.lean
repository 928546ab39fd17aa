/-! the text that is read: its bytes, its tokens; P = (code, where, cursor, start, token) -/
set_option maxRecDepth 100000
def c_b (T : g_Tx) (c : Int32) : g_Tx := (g_up2 T.1 8 T.2 c.toInt8.toInt32, T.2 + 1)
def c_four (T : g_Tx) (v : Int32) : g_Tx := c_b (c_b (c_b (c_b T (v >>> (nI 24 &&& 31))) (v >>> (nI 16 &&& 31))) (v >>> (nI 8 &&& 31))) (v >>> (nI 0 &&& 31))
def c_app (T : g_Tx) (a b c d e : Int32) : g_Tx := c_four (c_four (c_four (c_four (c_four T a) b) c) d) e
theorem c_four_2 (T : g_Tx) (v : Int32) : (c_four T v).2 = T.2 + 4 := rfl
theorem c_app_2 (T : g_Tx) (a b c d e : Int32) : (c_app T a b c d e).2 = T.2 + 20 := rfl
theorem upd_own {F : Nat → Int32} {k : Nat} {v : Int32} (h : F k = v) : F = upd F k v := by
  funext q; unfold upd; by_cases e : q = k
  · rw [if_pos e, e, h]
  · rw [if_neg e]
abbrev g_P : Type := Nat × Int32 × Nat × Nat × Nat
def p_F (F : Nat → Int32) (P : g_P) : Nat → Int32 := fun k => match k with
  | 10 => nI P.1
  | 11 => P.2.1
  | 13 => nI P.2.2.1
  | 14 => nI P.2.2.2.1
  | 15 => nI P.2.2.2.2
  | k => F k
def p_ok (n : Nat) (P : g_P) : Prop := P.1 ≤ 3 ∧ P.2.2.1 ≤ n ∧ P.2.2.2.1 ≤ P.2.2.1 ∧ P.2.2.2.2 ≤ 4 ∧ (P.2.2.2.2 = 3 → P.2.2.2.1 < P.2.2.1 ∧ P.2.2.1 - P.2.2.2.1 ≤ 12)
def q_skF (f : Nat → Bool) : Nat → Nat → Nat
  | 0, k => k
  | d + 1, k => if f k = true then q_skF f d (k + 1) else k
def q_sk (f : Nat → Bool) (n k : Nat) : Nat := q_skF f (n - k) k
theorem q_sk_s {f : Nat → Bool} {n k : Nat} (h : k < n) (hf : f k = true) : q_sk f n (k + 1) = q_sk f n k := by
  unfold q_sk
  rw [show n - k = n - (k + 1) + 1 by omega]
  show _ = q_skF f (n - (k + 1) + 1) k
  unfold q_skF
  rw [if_pos hf]
  cases n - (k + 1) <;> rfl
theorem q_sk_e {f : Nat → Bool} {n k : Nat} (hf : ¬ (k < n ∧ f k = true)) : q_sk f n k = k := by
  unfold q_sk
  rcases Nat.lt_or_ge k n with h | h
  · rw [show n - k = n - (k + 1) + 1 by omega]
    unfold q_skF
    rw [if_neg (fun z => hf ⟨h, z⟩)]
  · rw [show n - k = 0 by omega]; rfl
theorem q_skF_le (f : Nat → Bool) : ∀ d k, k ≤ q_skF f d k ∧ q_skF f d k ≤ k + d := by
  intro d
  induction d with
  | zero => intro k; exact ⟨Nat.le_refl _, Nat.le_refl _⟩
  | succ d ih =>
    intro k; unfold q_skF
    split
    · have := ih (k + 1); omega
    · omega
theorem q_sk_le {f : Nat → Bool} {n k : Nat} (h : k ≤ n) : k ≤ q_sk f n k ∧ q_sk f n k ≤ n := by
  have := q_skF_le f (n - k) k; unfold q_sk; omega
def q_let (b : Nat → Int32) (k : Nat) : Bool := s_in (b k) 97 122
def q_dgt (b : Nat → Int32) (k : Nat) : Bool := s_in (b k) 48 57
def q_sp (b : Nat → Int32) (k : Nat) : Bool := decide (b k = 32)
/-- the token that begins at s -/
def q_tok (b : Nat → Int32) (n : Nat) (c : Nat) (a : Int32) (s : Nat) : g_P :=
  if s = n then (c, a, s, s, 1)
  else if q_let b s = true then (c, a, q_sk (q_let b) n s, s, if q_sk (q_let b) n s - s ≤ 6 then 2 else 0)
  else if q_dgt b s = true then (c, a, q_sk (q_dgt b) n s, s, if q_sk (q_dgt b) n s - s ≤ 12 then 3 else 0)
  else (c, a, s + 1, s, if b s = 59 then 4 else 0)
def q_goes (b : Nat → Int32) (n : Nat) (P : g_P) : g_P := if 0 < P.1 then P else q_tok b n P.1 P.2.1 (q_sk (q_sp b) n P.2.2.1)
theorem q_goes_ok {b : Nat → Int32} {n : Nat} {P : g_P} (h : p_ok n P) : p_ok n (q_goes b n P) := by
  unfold q_goes
  split
  · exact h
  · obtain ⟨h1, h2, -, -, -⟩ := h
    have h3 := q_sk_le (f := q_sp b) h2
    generalize q_sk (q_sp b) n P.2.2.1 = s at h3 ⊢
    unfold q_tok
    split
    · exact ⟨h1, by show s ≤ n; omega, Nat.le_refl _, (by decide : 1 ≤ 4), fun z => by cases z⟩
    · rename_i hne
      split
      · rename_i hl
        have h4 := q_sk_le (f := q_let b) (n := n) (k := s) h3.2
        refine ⟨h1, h4.2, h4.1, ?_, ?_⟩
        · show (if _ then 2 else 0) ≤ 4; split <;> decide
        · show (if _ then 2 else 0) = 3 → _; split <;> intro z <;> cases z
      · split
        · rename_i hd
          have h4 := q_sk_le (f := q_dgt b) (n := n) (k := s + 1) (by omega)
          have h5 := q_sk_s (f := q_dgt b) (n := n) (k := s) (by omega) hd
          rw [h5] at h4
          refine ⟨h1, h4.2, by show s ≤ q_sk (q_dgt b) n s; omega, ?_, ?_⟩
          · show (if _ then 3 else 0) ≤ 4; split <;> decide
          · show (if _ then 3 else 0) = 3 → s < q_sk (q_dgt b) n s ∧ q_sk (q_dgt b) n s - s ≤ 12
            split
            · intro _; omega
            · intro z; cases z
        · refine ⟨h1, by show s + 1 ≤ n; omega, Nat.le_succ _, ?_, ?_⟩
          · show (if _ then 4 else 0) ≤ 4; split <;> decide
          · show (if _ then 4 else 0) = 3 → _; split <;> intro z <;> cases z
def q_f (P : g_P) (c : Nat) : g_P := if 0 < P.1 then P else (c, nI P.2.2.2.1, P.2.2.1, P.2.2.2.1, P.2.2.2.2)
theorem q_f_ok {n : Nat} {P : g_P} {c : Nat} (h : p_ok n P) (hc : c ≤ 3) : p_ok n (q_f P c) := by
  unfold q_f; split
  · exact h
  · exact ⟨hc, h.2⟩
def q_is (P : g_P) (t : Nat) : Bool := decide (P.1 = 0) && decide (P.2.2.2.2 = t)
def q_told (b : Nat → Int32) (P : g_P) : Int32 := if P.2.2.1 - P.2.2.2.1 = 2 then nI 10 * (b P.2.2.2.1 - 48) + b (P.2.2.2.1 + 1) - 48 else b P.2.2.2.1 - 48
def q_nH (b : Nat → Int32) (P : g_P) (lo hi : Int32) : g_P := if q_is P 3 = true ∧ P.2.2.1 - P.2.2.2.1 ≤ 2 then (if s_in (q_told b P) lo hi = true then P else q_f P 2) else q_f P 1
def q_nV (b : Nat → Int32) (P : g_P) (lo hi : Int32) : Int32 := if 0 < (q_nH b P lo hi).1 then lo else q_told b (q_nH b P lo hi)
def q_num (b : Nat → Int32) (n : Nat) (P : g_P) (lo hi : Int32) : g_P := q_goes b n (q_nH b P lo hi)
theorem q_nH_ok {b : Nat → Int32} {n : Nat} {P : g_P} {lo hi : Int32} (h : p_ok n P) : p_ok n (q_nH b P lo hi) := by
  unfold q_nH; split
  · split
    · exact h
    · exact q_f_ok h (by decide)
  · exact q_f_ok h (by decide)
theorem q_num_ok {b : Nat → Int32} {n : Nat} {P : g_P} {lo hi : Int32} (h : p_ok n P) : p_ok n (q_num b n P lo hi) := q_goes_ok (q_nH_ok h)
theorem q_goes_1 {b : Nat → Int32} {n : Nat} {P : g_P} : (q_goes b n P).1 = P.1 := by
  unfold q_goes; split
  · rfl
  · unfold q_tok; (repeat' split) <;> rfl
theorem q_f_1 {P : g_P} {c : Nat} : 0 < P.1 → q_f P c = P := fun h => by unfold q_f; rw [if_pos h]
theorem q_f_n {P : g_P} {c : Nat} (h : 0 < c) : 0 < (q_f P c).1 := by
  unfold q_f; split
  · assumption
  · exact h
theorem q_is_0 {P : g_P} {t : Nat} (h : q_is P t = true) : P.1 = 0 ∧ P.2.2.2.2 = t := by
  unfold q_is at h; simpa using h
/-- where no fault was found, a number is in its range -/
theorem q_nH_0 {b : Nat → Int32} {P : g_P} {lo hi : Int32} (h : (q_nH b P lo hi).1 = 0) : q_nH b P lo hi = P ∧ P.1 = 0 ∧ P.2.2.2.2 = 3 ∧ P.2.2.1 - P.2.2.2.1 ≤ 2 ∧ s_in (q_told b P) lo hi = true ∧ q_nV b P lo hi = q_told b P := by
  have e : q_nH b P lo hi = P ∧ (q_is P 3 = true ∧ P.2.2.1 - P.2.2.2.1 ≤ 2) ∧ s_in (q_told b P) lo hi = true := by
    unfold q_nH at h ⊢
    by_cases h1 : q_is P 3 = true ∧ P.2.2.1 - P.2.2.2.1 ≤ 2
    · rw [if_pos h1] at h ⊢
      by_cases h2 : s_in (q_told b P) lo hi = true
      · rw [if_pos h2]; exact ⟨rfl, h1, h2⟩
      · rw [if_neg h2] at h
        have := q_f_n (P := P) (c := 2) (by decide); omega
    · rw [if_neg h1] at h
      have := q_f_n (P := P) (c := 1) (by decide); omega
  obtain ⟨e, h1, h2⟩ := e
  have h3 := q_is_0 h1.1
  refine ⟨e, h3.1, h3.2, h1.2, h2, ?_⟩
  unfold q_nV; rw [e, if_neg (by omega)]
theorem q_nH_m {b : Nat → Int32} {P : g_P} {lo hi : Int32} (h : 0 < P.1) : q_nH b P lo hi = P := by
  unfold q_nH
  rw [if_neg (fun z => by have := q_is_0 z.1; omega), q_f_1 h]
theorem q_num_1 {b : Nat → Int32} {n : Nat} {P : g_P} {lo hi : Int32} : (q_num b n P lo hi).1 = (q_nH b P lo hi).1 := q_goes_1
theorem q_num_0 {b : Nat → Int32} {n : Nat} {P : g_P} {lo hi : Int32} (h : (q_num b n P lo hi).1 = 0) : P.1 = 0 ∧ s_in (q_nV b P lo hi) lo hi = true := by
  rw [q_num_1] at h
  obtain ⟨h1, h2, h3, h4, h5, h6⟩ := q_nH_0 h
  exact ⟨h2, by rw [h6]; exact h5⟩
theorem q_num_m {b : Nat → Int32} {n : Nat} {P : g_P} {lo hi : Int32} (h : 0 < P.1) : q_num b n P lo hi = P := by
  unfold q_num; rw [q_nH_m h]; unfold q_goes; rw [if_pos h]
theorem q_goes_m {b : Nat → Int32} {n : Nat} {P : g_P} (h : 0 < P.1) : q_goes b n P = P := by
  unfold q_goes; rw [if_pos h]
def p_w (n : Nat) (P : g_P) : Prop := P.1 ≤ 3 ∧ P.2.2.1 ≤ n
theorem p_ok.w {n : Nat} {P : g_P} (h : p_ok n P) : p_w n P := ⟨h.1, h.2.1⟩
theorem q_goes_ok0 {b : Nat → Int32} {n : Nat} {P : g_P} (h0 : P.1 = 0) (hu : P.2.2.1 ≤ n) : p_ok n (q_goes b n P) := by
  have e : q_goes b n P = q_goes b n (P.1, P.2.1, P.2.2.1, 0, 0) := by
    unfold q_goes
    rw [if_neg (by omega), if_neg (show ¬ 0 < P.1 by omega)]
  rw [e]
  exact q_goes_ok ⟨by show P.1 ≤ 3; omega, hu, Nat.zero_le _, Nat.zero_le _, fun z => by cases z⟩
