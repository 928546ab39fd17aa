/-! the lines by their words, the whole text -/
set_option maxRecDepth 100000
def q_isW (b : Nat → Int32) (P : g_P) (n : Nat) (f : Nat → Int32) : Bool := q_is P 2 && (decide (P.2.2.1 - P.2.2.2.1 = n) && !s_any (fun k => !decide (b (P.2.2.2.1 + k) = f k &&& 255)) n)
def q_w (b : Nat → Int32) (P : g_P) (i n : Nat) : Bool := q_isW b P n (e_tx i)
def r_otX (b : Nat → Int32) (n : Nat) (X : g_Wd) (P : g_P) : g_Wd := if q_w b P 4 4 = true then r_cuX b n X P 0 else if q_w b P 5 4 = true then r_saX b n X P else if q_w b P 7 4 = true then r_asX b n X P else if q_w b P 8 4 = true then x_cW X 0 (9 * (s_L X - 1)) else if q_w b P 6 4 = true then r_drX b n X P else X
def r_otP (b : Nat → Int32) (n : Nat) (X : g_Wd) (P : g_P) : g_P := if q_w b P 4 4 = true then q_goes b n (r_c4 b n X P 0) else if q_w b P 5 4 = true then r_s3 b n X P else if q_w b P 7 4 = true then q_num b n (q_goes b n P) 0 5 else if q_w b P 8 4 = true then q_goes b n P else if q_w b P 6 4 = true then q_goes b n (r_d3 b n X P) else q_f P 1
def r_lnX (b : Nat → Int32) (n : Nat) (X : g_Wd) (P : g_P) : g_Wd := if q_w b P 1 5 = true then r_stX b n X P else if q_w b P 2 3 = true then r_cuX b n X P 1 else if q_w b P 3 4 = true then r_seX b n X P else if q_w b P 9 4 = true then r_paX b n X P else r_otX b n X P
def r_lnP (b : Nat → Int32) (n : Nat) (X : g_Wd) (P : g_P) : g_P := if q_w b P 1 5 = true then r_l5 b n X P else if q_w b P 2 3 = true then q_goes b n (r_c4 b n X P 1) else if q_w b P 3 4 = true then r_eP b n X P else if q_w b P 9 4 = true then q_num b n (q_goes b n P) 1 50 else r_otP b n X P
theorem r_otP_ok {b : Nat → Int32} {n : Nat} {X : g_Wd} {P : g_P} (h : p_ok n P) : p_ok n (r_otP b n X P) := by
  unfold r_otP
  split
  · exact q_goes_ok (r_c4_ok h)
  · split
    · exact q_num_ok (q_num_ok (q_goes_ok (r_m0_ok h)))
    · split
      · exact q_num_ok (q_goes_ok h)
      · split
        · exact q_goes_ok h
        · split
          · exact q_goes_ok (r_d3_ok h)
          · exact q_f_ok h (by decide)
theorem r_eP_ok {b : Nat → Int32} {n : Nat} {X : g_Wd} {P : g_P} (h : p_ok n P) : p_ok n (r_eP b n X P) := by
  unfold r_eP; split
  · exact r_e2_ok h
  · exact q_goes_ok (r_e2_ok h)
theorem r_lnP_ok {b : Nat → Int32} {n : Nat} {X : g_Wd} {P : g_P} (h : p_ok n P) : p_ok n (r_lnP b n X P) := by
  unfold r_lnP
  split
  · exact q_num_ok (q_num_ok (q_num_ok (q_num_ok (q_num_ok (q_goes_ok h)))))
  · split
    · exact q_goes_ok (r_c4_ok h)
    · split
      · exact r_eP_ok h
      · split
        · exact q_num_ok (q_goes_ok h)
        · exact r_otP_ok h
/-- the cursor only goes on -/
def p_le (P P' : g_P) : Prop := P.2.2.1 ≤ P'.2.2.1
theorem p_le.rf {P : g_P} : p_le P P := Nat.le_refl _
theorem p_le.tr {P P' P2 : g_P} (h : p_le P P') (g : p_le P' P2) : p_le P P2 := Nat.le_trans h g
theorem q_tok_le {b : Nat → Int32} {n c s : Nat} {a : Int32} (hs : s ≤ n) : s ≤ (q_tok b n c a s).2.2.1 ∧ ((q_tok b n c a s).2.2.2.2 ≠ 1 → s < (q_tok b n c a s).2.2.1) := by
  unfold q_tok
  split
  · exact ⟨Nat.le_refl _, fun z => absurd rfl z⟩
  · rename_i hne
    split
    · rename_i hl
      have h4 := q_sk_le (f := q_let b) (n := n) (k := s + 1) (by omega)
      rw [q_sk_s (f := q_let b) (n := n) (k := s) (by omega) hl] at h4
      exact ⟨by show s ≤ q_sk (q_let b) n s; omega, fun _ => by show s < q_sk (q_let b) n s; omega⟩
    · split
      · rename_i hd
        have h4 := q_sk_le (f := q_dgt b) (n := n) (k := s + 1) (by omega)
        rw [q_sk_s (f := q_dgt b) (n := n) (k := s) (by omega) hd] at h4
        exact ⟨by show s ≤ q_sk (q_dgt b) n s; omega, fun _ => by show s < q_sk (q_dgt b) n s; omega⟩
      · exact ⟨Nat.le_succ _, fun _ => Nat.lt_succ_self _⟩
theorem q_goes_le {b : Nat → Int32} {n : Nat} {P : g_P} (h : p_ok n P) : p_le P (q_goes b n P) := by
  unfold p_le q_goes
  split
  · exact Nat.le_refl _
  · have h3 := q_sk_le (f := q_sp b) h.2.1
    exact Nat.le_trans h3.1 (q_tok_le h3.2).1
theorem q_goes_lt {b : Nat → Int32} {n : Nat} {P : g_P} (h : p_ok n P) (h0 : P.1 = 0) (ht : (q_goes b n P).2.2.2.2 ≠ 1) : P.2.2.1 < (q_goes b n P).2.2.1 := by
  unfold q_goes at ht ⊢
  rw [if_neg (by omega)] at ht ⊢
  have h3 := q_sk_le (f := q_sp b) h.2.1
  exact Nat.lt_of_le_of_lt h3.1 ((q_tok_le h3.2).2 ht)
theorem q_f_le {P : g_P} {c : Nat} : p_le P (q_f P c) := by
  unfold q_f; split <;> exact Nat.le_refl _
theorem q_nH_le {b : Nat → Int32} {P : g_P} {lo hi : Int32} : p_le P (q_nH b P lo hi) := by
  unfold q_nH
  split
  · split
    · exact p_le.rf
    · exact q_f_le
  · exact q_f_le
theorem q_num_le {b : Nat → Int32} {n : Nat} {P : g_P} {lo hi : Int32} (h : p_ok n P) : p_le P (q_num b n P lo hi) := q_nH_le.tr (q_goes_le (q_nH_ok h))
theorem r_m0_le {X : g_Wd} {P : g_P} : p_le P (r_m0 X P) := by
  unfold r_m0; split
  · exact q_f_le
  · exact p_le.rf
theorem r_c4_le {b : Nat → Int32} {n c : Nat} {X : g_Wd} {P : g_P} (h : p_ok n P) : p_le P (r_c4 b n X P c) := by
  have h3 : p_le P (r_c3 b n X P) := ((q_goes_le h).tr ((q_num_le (q_goes_ok h)).tr (q_num_le (q_num_ok (q_goes_ok h))))).tr q_nH_le
  unfold r_c4; split
  · exact h3.tr q_f_le
  · exact h3
theorem r_d3_le {b : Nat → Int32} {n : Nat} {X : g_Wd} {P : g_P} (h : p_ok n P) : p_le P (r_d3 b n X P) := by
  have h3 : p_le P (r_d2 b n X P) := (q_goes_le h).tr q_nH_le
  unfold r_d3; split
  · exact h3.tr q_f_le
  · exact h3
theorem r_e2_le {b : Nat → Int32} {n : Nat} {X : g_Wd} {P : g_P} (h : p_ok n P) : p_le P (r_e2 b n X P) := by
  have h3 : p_le P (r_s1 b n X P) := r_m0_le.tr (q_goes_le (r_m0_ok h))
  unfold r_e2; split
  · exact h3
  · exact h3.tr q_f_le
theorem r_otP_le {b : Nat → Int32} {n : Nat} {X : g_Wd} {P : g_P} (h : p_ok n P) : p_le P (r_otP b n X P) := by
  have h1 := q_goes_ok (b := b) (r_m0_ok (X := X) h)
  unfold r_otP
  split
  · exact (r_c4_le h).tr (q_goes_le (r_c4_ok h))
  · split
    · exact (r_m0_le.tr (q_goes_le (r_m0_ok h))).tr ((q_num_le h1).tr (q_num_le (q_num_ok h1)))
    · split
      · exact (q_goes_le h).tr (q_num_le (q_goes_ok h))
      · split
        · exact q_goes_le h
        · split
          · exact (r_d3_le h).tr (q_goes_le (r_d3_ok h))
          · exact q_f_le
theorem r_lnP_le {b : Nat → Int32} {n : Nat} {X : g_Wd} {P : g_P} (h : p_ok n P) : p_le P (r_lnP b n X P) := by
  have h1 := q_goes_ok (b := b) h
  unfold r_lnP
  split
  · exact (q_goes_le h).tr ((q_num_le h1).tr ((q_num_le (q_num_ok h1)).tr ((q_num_le (q_num_ok (q_num_ok h1))).tr ((q_num_le (q_num_ok (q_num_ok (q_num_ok h1)))).tr (q_num_le (q_num_ok (q_num_ok (q_num_ok (q_num_ok h1)))))))))
  · split
    · exact (r_c4_le h).tr (q_goes_le (r_c4_ok h))
    · split
      · unfold r_eP; split
        · exact r_e2_le h
        · exact (r_e2_le h).tr (q_goes_le (r_e2_ok h))
      · split
        · exact (q_goes_le h).tr (q_num_le h1)
        · exact r_otP_le h
theorem q_w_2 {b : Nat → Int32} {P : g_P} {i n : Nat} (h : q_w b P i n = true) : P.1 = 0 ∧ P.2.2.2.2 = 2 := by
  unfold q_w q_isW at h
  simp only [Bool.and_eq_true] at h
  exact q_is_0 h.1
theorem r_lnP_2 {b : Nat → Int32} {n : Nat} {X : g_Wd} {P : g_P} (h : (r_lnP b n X P).1 = 0) : P.2.2.2.2 = 2 := by
  unfold r_lnP at h
  by_cases h0 : q_w b P 1 5 = true
  · exact (q_w_2 h0).2
  rw [if_neg h0] at h
  by_cases h1 : q_w b P 2 3 = true
  · exact (q_w_2 h1).2
  rw [if_neg h1] at h
  by_cases h2 : q_w b P 3 4 = true
  · exact (q_w_2 h2).2
  rw [if_neg h2] at h
  by_cases h3 : q_w b P 9 4 = true
  · exact (q_w_2 h3).2
  rw [if_neg h3] at h
  unfold r_otP at h
  by_cases g0 : q_w b P 4 4 = true
  · exact (q_w_2 g0).2
  rw [if_neg g0] at h
  by_cases g1 : q_w b P 5 4 = true
  · exact (q_w_2 g1).2
  rw [if_neg g1] at h
  by_cases g2 : q_w b P 7 4 = true
  · exact (q_w_2 g2).2
  rw [if_neg g2] at h
  by_cases g3 : q_w b P 8 4 = true
  · exact (q_w_2 g3).2
  rw [if_neg g3] at h
  by_cases g4 : q_w b P 6 4 = true
  · exact (q_w_2 g4).2
  rw [if_neg g4] at h
  have := q_f_n (P := P) (c := 1) (by decide)
  omega
/-- the lines, one after another -/
def r_loop (b : Nat → Int32) (n : Nat) : Nat → g_Wd → g_P → g_Wd × g_P
  | 0, X, P => (X, P)
  | d + 1, X, P => if q_is P 4 = true then r_loop b n d (r_lnX b n X (q_goes b n P)) (r_lnP b n X (q_goes b n P)) else (X, P)
theorem r_step {b : Nat → Int32} {n : Nat} {X : g_Wd} {P : g_P} (h : p_ok n P) (hs : q_is P 4 = true) (hn : (r_lnP b n X (q_goes b n P)).1 = 0) : P.2.2.1 < (r_lnP b n X (q_goes b n P)).2.2.1 := by
  have h1 := r_lnP_2 hn
  have h2 := q_goes_lt (b := b) h (q_is_0 hs).1 (by omega)
  exact Nat.lt_of_lt_of_le h2 (r_lnP_le (q_goes_ok h))
theorem r_loop_f {b : Nat → Int32} {n : Nat} : ∀ (d d' : Nat) (X : g_Wd) (P : g_P), p_ok n P → n + 1 - P.2.2.1 ≤ d → n + 1 - P.2.2.1 ≤ d' → r_loop b n d X P = r_loop b n d' X P := by
  intro d
  induction d with
  | zero => intro d' X P h h1 h2; have := h.2.1; omega
  | succ d ih =>
    intro d' X P h h1 h2
    cases d' with
    | zero => have := h.2.1; omega
    | succ d' =>
      show (if q_is P 4 = true then _ else _) = (if q_is P 4 = true then _ else _)
      by_cases hs : q_is P 4 = true
      · rw [if_pos hs, if_pos hs]
        have h3 := r_lnP_ok (b := b) (X := X) (q_goes_ok (b := b) h)
        by_cases hz : (r_lnP b n X (q_goes b n P)).1 = 0
        · have := r_step h hs hz
          exact ih d' _ _ h3 (by omega) (by omega)
        · have e : ∀ d9, r_loop b n d9 (r_lnX b n X (q_goes b n P)) (r_lnP b n X (q_goes b n P)) = (r_lnX b n X (q_goes b n P), r_lnP b n X (q_goes b n P)) := by
            intro d9
            cases d9 with
            | zero => rfl
            | succ d9 => show (if q_is _ 4 = true then _ else _) = _; rw [if_neg (fun z => hz (q_is_0 z).1)]
          rw [e, e]
      · rw [if_neg hs, if_neg hs]
def r_lp (b : Nat → Int32) (n : Nat) (X : g_Wd) (P : g_P) : g_Wd × g_P := r_loop b n (n + 1) X P
theorem r_lp_s {b : Nat → Int32} {n : Nat} {X : g_Wd} {P : g_P} (h : p_ok n P) (hs : q_is P 4 = true) : r_lp b n (r_lnX b n X (q_goes b n P)) (r_lnP b n X (q_goes b n P)) = r_lp b n X P := by
  have e : r_lp b n X P = r_loop b n n (r_lnX b n X (q_goes b n P)) (r_lnP b n X (q_goes b n P)) := by
    show (if q_is P 4 = true then _ else _) = _; rw [if_pos hs]
  have h3 := r_lnP_ok (b := b) (X := X) (q_goes_ok (b := b) h)
  rw [e]
  by_cases hz : (r_lnP b n X (q_goes b n P)).1 = 0
  · have := r_step h hs hz
    exact r_loop_f _ _ _ _ h3 (by omega) (by omega)
  · have e2 : ∀ d9, r_loop b n d9 (r_lnX b n X (q_goes b n P)) (r_lnP b n X (q_goes b n P)) = (r_lnX b n X (q_goes b n P), r_lnP b n X (q_goes b n P)) := by
      intro d9
      cases d9 with
      | zero => rfl
      | succ d9 => show (if q_is _ 4 = true then _ else _) = _; rw [if_neg (fun z => hz (q_is_0 z).1)]
    rw [e2]; exact e2 _
theorem r_lp_e {b : Nat → Int32} {n : Nat} {X : g_Wd} {P : g_P} (hs : q_is P 4 = false) : r_lp b n X P = (X, P) := by
  show (if q_is P 4 = true then _ else _) = _; rw [if_neg (fun z => Bool.noConfusion (hs.symm.trans z))]
/-- how much is left to be read -/
def r_mz (n : Nat) (P : g_P) : Nat := if P.1 = 0 then n + 1 - P.2.2.1 else 0
theorem r_mz_lt {b : Nat → Int32} {n : Nat} {X : g_Wd} {P : g_P} (h : p_ok n P) (hs : q_is P 4 = true) : r_mz n (r_lnP b n X (q_goes b n P)) < r_mz n P := by
  have h0 := (q_is_0 hs).1
  have hu := h.2.1
  unfold r_mz
  rw [if_pos h0]
  split
  · rename_i hz
    have := r_step h hs hz
    omega
  · omega
