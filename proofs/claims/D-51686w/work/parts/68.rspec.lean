/-! what the lines of a text do: to the world X and to P -/
set_option maxRecDepth 100000
def q_n (b : Nat → Int32) (P : g_P) (lo hi : Int32) : Nat := (q_nV b P lo hi).toNatClampNeg
abbrev r_l1 (b : Nat → Int32) (n : Nat) (X : g_Wd) (P : g_P) : g_P := q_num b n (q_goes b n P) 0 (nI (s_L X - 2))
abbrev r_l2 (b : Nat → Int32) (n : Nat) (X : g_Wd) (P : g_P) : g_P := q_num b n (r_l1 b n X P) 0 2
abbrev r_l3 (b : Nat → Int32) (n : Nat) (X : g_Wd) (P : g_P) : g_P := q_num b n (r_l2 b n X P) 0 2
abbrev r_l4 (b : Nat → Int32) (n : Nat) (X : g_Wd) (P : g_P) : g_P := q_num b n (r_l3 b n X P) 0 9
abbrev r_l5 (b : Nat → Int32) (n : Nat) (X : g_Wd) (P : g_P) : g_P := q_num b n (r_l4 b n X P) 0 9
def r_w (b : Nat → Int32) (n : Nat) (X : g_Wd) (P : g_P) : Nat := 9 * q_n b (q_goes b n P) 0 (nI (s_L X - 2)) + 3 * q_n b (r_l1 b n X P) 0 2 + q_n b (r_l2 b n X P) 0 2
def r_stX (b : Nat → Int32) (n : Nat) (X : g_Wd) (P : g_P) : g_Wd := if (r_l5 b n X P).1 = 0 then x_storms X (r_w b n X P) (q_nV b (r_l3 b n X P) 0 9) (q_nV b (r_l4 b n X P) 0 9) else X
def r_c3 (b : Nat → Int32) (n : Nat) (X : g_Wd) (P : g_P) : g_P := q_nH b (r_l2 b n X P) 0 2
def r_c4 (b : Nat → Int32) (n : Nat) (X : g_Wd) (P : g_P) (c : Nat) : g_P := if (r_c3 b n X P).1 = 0 ∧ X 1 (5 * r_w b n X P + 2) = nI c then q_f (r_c3 b n X P) 3 else r_c3 b n X P
def r_cuX (b : Nat → Int32) (n : Nat) (X : g_Wd) (P : g_P) (c : Nat) : g_Wd := if (r_c4 b n X P c).1 = 0 then g_up2 X 1 (5 * r_w b n X P + 2) (nI c) else X
def r_m0 (X : g_Wd) (P : g_P) : g_P := if s_M X = 6 then q_f P 3 else P
abbrev r_s1 (b : Nat → Int32) (n : Nat) (X : g_Wd) (P : g_P) : g_P := q_goes b n (r_m0 X P)
abbrev r_s2 (b : Nat → Int32) (n : Nat) (X : g_Wd) (P : g_P) : g_P := q_num b n (r_s1 b n X P) 0 9
abbrev r_s3 (b : Nat → Int32) (n : Nat) (X : g_Wd) (P : g_P) : g_P := q_num b n (r_s2 b n X P) 1 12
def r_saX (b : Nat → Int32) (n : Nat) (X : g_Wd) (P : g_P) : g_Wd := if 0 < (r_s3 b n X P).1 then X else x_sendS X (q_nV b (r_s1 b n X P) 0 9) (q_n b (r_s2 b n X P) 1 12)
def r_asX (b : Nat → Int32) (n : Nat) (X : g_Wd) (P : g_P) : g_Wd := if (q_num b n (q_goes b n P) 0 5).1 = 0 then g_up2 X 0 1 (q_nV b (q_goes b n P) 0 5) else X
def r_d2 (b : Nat → Int32) (n : Nat) (X : g_Wd) (P : g_P) : g_P := q_nH b (q_goes b n P) 0 (X 0 3 - 1)
def r_dm (b : Nat → Int32) (n : Nat) (X : g_Wd) (P : g_P) : Nat := q_n b (q_goes b n P) 0 (X 0 3 - 1)
def r_d3 (b : Nat → Int32) (n : Nat) (X : g_Wd) (P : g_P) : g_P := if (r_d2 b n X P).1 = 0 ∧ X (3 + r_dm b n X P) 4 = -1 then q_f (r_d2 b n X P) 3 else r_d2 b n X P
def r_drX (b : Nat → Int32) (n : Nat) (X : g_Wd) (P : g_P) : g_Wd := if (r_d3 b n X P).1 = 0 then x_drop X (r_dm b n X P) else X
def r_e2 (b : Nat → Int32) (n : Nat) (X : g_Wd) (P : g_P) : g_P := if q_is (r_s1 b n X P) 3 = true then r_s1 b n X P else q_f (r_s1 b n X P) 1
def r_el (P : g_P) : Nat := P.2.2.1 - P.2.2.2.1
def r_eX (b : Nat → Int32) (X : g_Wd) (P : g_P) : g_Wd := x_log (x_fN (x_beg X (nI (r_el P))) (s_M X) (fun p => b (P.2.2.2.1 + p) - 48) (r_el P)) 0 (s_M X)
def r_seX (b : Nat → Int32) (n : Nat) (X : g_Wd) (P : g_P) : g_Wd := if 0 < (r_e2 b n X P).1 then X else r_eX b X (r_e2 b n X P)
def r_paX (b : Nat → Int32) (n : Nat) (X : g_Wd) (P : g_P) : g_Wd := if 0 < (q_num b n (q_goes b n P) 1 50).1 then X else x_pH X (q_n b (q_goes b n P) 1 50)
theorem q_nn {b : Nat → Int32} {n : Nat} {P : g_P} {lo hi : Int32} {k : Nat} (h : (q_num b n P lo hi).1 = 0) (h0 : 0 ≤ lo) (hk : hi = nI k) (hk2 : k < 2 ^ 31) : q_nV b P lo hi = nI (q_n b P lo hi) ∧ q_n b P lo hi ≤ k ∧ P.1 = 0 := by
  obtain ⟨h1, h2⟩ := q_num_0 h
  unfold s_in at h2
  simp only [Bool.and_eq_true, decide_eq_true_eq] at h2
  obtain ⟨j, hj, e⟩ := nI_of (x := q_nV b P lo hi) (fun z => Int32.lt_irrefl (Int32.lt_of_lt_of_le (Int32.lt_of_lt_of_le z h0) h2.1))
  have e2 : q_n b P lo hi = j := by unfold q_n; rw [e]; exact nI_clamp hj
  rw [e2, e]
  rw [e, hk] at h2
  exact ⟨rfl, (nI_leI hj hk2).mp h2.2, h1⟩
theorem q_nnH {b : Nat → Int32} {P : g_P} {lo hi : Int32} {k : Nat} (h : (q_nH b P lo hi).1 = 0) (h0 : 0 ≤ lo) (hk : hi = nI k) (hk2 : k < 2 ^ 31) : q_nV b P lo hi = nI (q_n b P lo hi) ∧ q_n b P lo hi ≤ k ∧ P.1 = 0 := by
  refine q_nn (n := 0) ?_ h0 hk hk2
  rw [q_num_1]; exact h
theorem q_nn1 {b : Nat → Int32} {n : Nat} {P : g_P} {lo hi : Int32} {k : Nat} (h : (q_num b n P lo hi).1 = 0) (hlo : lo = nI k) (hk2 : k < 2 ^ 31) (hq : q_nV b P lo hi = nI (q_n b P lo hi)) (hq2 : q_n b P lo hi < 2 ^ 31) : k ≤ q_n b P lo hi := by
  obtain ⟨h1, h2⟩ := q_num_0 h
  unfold s_in at h2
  simp only [Bool.and_eq_true, decide_eq_true_eq] at h2
  rw [hq, hlo] at h2
  rw [hlo] at hq2 ⊢
  exact (nI_leI hk2 hq2).mp h2.1
/-- a message's number, where there may be none -/
theorem q_nnM {b : Nat → Int32} {P : g_P} {k : Nat} (h : (q_nH b P 0 (nI k - 1)).1 = 0) (hk : k < 2 ^ 31) : q_nV b P 0 (nI k - 1) = nI (q_n b P 0 (nI k - 1)) ∧ q_n b P 0 (nI k - 1) < k ∧ P.1 = 0 := by
  have h9 := q_nH_0 h
  have h2 := h9.2.2.2.2.1
  rw [← h9.2.2.2.2.2] at h2
  obtain ⟨j, hj, e⟩ := s_in_lt h2 hk
  have e2 : q_n b P 0 (nI k - 1) = j := by unfold q_n; rw [e]; exact nI_clamp (by omega)
  rw [e2, e]
  exact ⟨rfl, hj, h9.2.1⟩
theorem r_m0_ok {n : Nat} {X : g_Wd} {P : g_P} (h : p_ok n P) : p_ok n (r_m0 X P) := by
  unfold r_m0; split
  · exact q_f_ok h (by decide)
  · exact h
theorem r_c3_ok {b : Nat → Int32} {n : Nat} {X : g_Wd} {P : g_P} (h : p_ok n P) : p_ok n (r_c3 b n X P) := q_nH_ok (q_num_ok (q_num_ok (q_goes_ok h)))
theorem r_c4_ok {b : Nat → Int32} {n c : Nat} {X : g_Wd} {P : g_P} (h : p_ok n P) : p_ok n (r_c4 b n X P c) := by
  unfold r_c4; split
  · exact q_f_ok (r_c3_ok h) (by decide)
  · exact r_c3_ok h
theorem r_d2_ok {b : Nat → Int32} {n : Nat} {X : g_Wd} {P : g_P} (h : p_ok n P) : p_ok n (r_d2 b n X P) := q_nH_ok (q_goes_ok h)
theorem r_d3_ok {b : Nat → Int32} {n : Nat} {X : g_Wd} {P : g_P} (h : p_ok n P) : p_ok n (r_d3 b n X P) := by
  unfold r_d3; split
  · exact q_f_ok (r_d2_ok h) (by decide)
  · exact r_d2_ok h
theorem r_e2_ok {b : Nat → Int32} {n : Nat} {X : g_Wd} {P : g_P} (h : p_ok n P) : p_ok n (r_e2 b n X P) := by
  unfold r_e2; split
  · exact q_goes_ok (r_m0_ok h)
  · exact q_f_ok (q_goes_ok (r_m0_ok h)) (by decide)
theorem r_m0_0 {X : g_Wd} {P : g_P} (h : (r_m0 X P).1 = 0) : ¬ s_M X = 6 := by
  intro e
  unfold r_m0 at h
  rw [if_pos e] at h
  have := q_f_n (P := P) (c := 3) (by decide)
  omega
theorem r_e2_0 {b : Nat → Int32} {n : Nat} {X : g_Wd} {P : g_P} (h : (r_e2 b n X P).1 = 0) : (r_e2 b n X P).2.2.2.2 = 3 ∧ ¬ s_M X = 6 := by
  unfold r_e2 at h ⊢
  by_cases e : q_is (r_s1 b n X P) 3 = true
  · rw [if_pos e] at h ⊢
    exact ⟨(q_is_0 e).2, r_m0_0 (by rw [← q_goes_1]; exact h)⟩
  · rw [if_neg e] at h
    have := q_f_n (P := r_s1 b n X P) (c := 1) (by decide)
    omega
def r_eP (b : Nat → Int32) (n : Nat) (X : g_Wd) (P : g_P) : g_P := if 0 < (r_e2 b n X P).1 then r_e2 b n X P else q_goes b n (r_e2 b n X P)
