/-! the whole text -/
set_option maxRecDepth 100000
def r_t2 (b : Nat → Int32) (n : Nat) (P : g_P) : g_P := if q_w b (q_goes b n P) 10 4 = true then q_goes b n P else q_f (q_goes b n P) 1
abbrev r_t3 (b : Nat → Int32) (n : Nat) (P : g_P) : g_P := q_goes b n (r_t2 b n P)
abbrev r_t4 (b : Nat → Int32) (n : Nat) (P : g_P) : g_P := q_num b n (r_t3 b n P) 2 6
abbrev r_t5 (b : Nat → Int32) (n : Nat) (P : g_P) : g_P := q_num b n (r_t4 b n P) 0 5
def r_tX (b : Nat → Int32) (n : Nat) (X : g_Wd) (P : g_P) : g_Wd := g_up2 (g_up2 X 0 0 (q_nV b (r_t3 b n P) 2 6)) 0 1 (q_nV b (r_t4 b n P) 0 5)
def r_txX (b : Nat → Int32) (n : Nat) (X : g_Wd) (P : g_P) : g_Wd := (r_lp b n (r_tX b n X P) (r_t5 b n P)).1
def r_txP (b : Nat → Int32) (n : Nat) (X : g_Wd) (P : g_P) : g_P := if q_is (r_lp b n (r_tX b n X P) (r_t5 b n P)).2 1 = true then (r_lp b n (r_tX b n X P) (r_t5 b n P)).2 else q_f (r_lp b n (r_tX b n X P) (r_t5 b n P)).2 1
theorem r_t2_ok {b : Nat → Int32} {n : Nat} {P : g_P} (h : p_ok n P) : p_ok n (r_t2 b n P) := by
  unfold r_t2; split
  · exact q_goes_ok h
  · exact q_f_ok (q_goes_ok h) (by decide)
theorem r_t2_ok0 {b : Nat → Int32} {n : Nat} {P : g_P} (h0 : P.1 = 0) (hu : P.2.2.1 ≤ n) : p_ok n (r_t2 b n P) := by
  unfold r_t2; split
  · exact q_goes_ok0 h0 hu
  · exact q_f_ok (q_goes_ok0 h0 hu) (by decide)
theorem q_nV_in {b : Nat → Int32} {P : g_P} {lo hi : Nat} (h : lo ≤ hi) (hh : hi < 2 ^ 31) : ∃ j, q_nV b P (nI lo) (nI hi) = nI j ∧ lo ≤ j ∧ j ≤ hi := by
  by_cases hz : 0 < (q_nH b P (nI lo) (nI hi)).1
  · exact ⟨lo, by unfold q_nV; rw [if_pos hz], Nat.le_refl _, h⟩
  · have h9 := q_nH_0 (b := b) (P := P) (lo := nI lo) (hi := nI hi) (by omega)
    have h2 := h9.2.2.2.2.1
    rw [← h9.2.2.2.2.2] at h2
    unfold s_in at h2
    simp only [Bool.and_eq_true, decide_eq_true_eq] at h2
    obtain ⟨j, hj, e⟩ := nI_of (x := q_nV b P (nI lo) (nI hi)) (fun z => Int32.lt_irrefl (Int32.lt_of_lt_of_le (Int32.lt_of_lt_of_le z (nI_pos' (by omega))) h2.1))
    rw [e] at h2 ⊢
    exact ⟨j, rfl, (nI_leI (by omega) hj).mp h2.1, (nI_leI hj hh).mp h2.2⟩
theorem r_tX_wm {b : Nat → Int32} {n : Nat} {X : g_Wd} {P : g_P} (h0 : ∀ k, k < 5 → X 0 k = 0) : s_wm 0 (r_tX b n X P) := by
  obtain ⟨v, ev, v1, v2⟩ := q_nV_in (b := b) (P := r_t3 b n P) (lo := 2) (hi := 6) (by decide) (by decide)
  obtain ⟨a, ea, a1, a2⟩ := q_nV_in (b := b) (P := r_t4 b n P) (lo := 0) (hi := 5) (by decide) (by decide)
  have e : ∀ k, k < 5 → r_tX b n X P 0 k = if k = 1 then nI a else if k = 0 then nI v else 0 := by
    intro k hk
    unfold r_tX
    rw [g_up2_own]; unfold upd
    by_cases h1 : k = 1
    · rw [if_pos h1, if_pos h1]; exact ea
    · rw [if_neg h1, if_neg h1, g_up2_own]; unfold upd
      by_cases h2 : k = 0
      · rw [if_pos h2, if_pos h2]; exact ev
      · rw [if_neg h2, if_neg h2]; exact h0 k hk
  have eL : s_L (r_tX b n X P) = v := by rw [s_L, e 0 (by omega)]; exact nI_clamp (by omega)
  have eM : s_M (r_tX b n X P) = 0 := by rw [s_M, e 3 (by omega)]; rfl
  have eG : s_G (r_tX b n X P) = 0 := by rw [s_G, e 4 (by omega)]; rfl
  have eA : s_A (r_tX b n X P) = a := by rw [s_A, e 1 (by omega)]; exact nI_clamp (by omega)
  have eH : s_H (r_tX b n X P) = 0 := by rw [s_H, e 2 (by omega)]; rfl
  refine ⟨⟨⟨⟨by rw [eL, e 0 (by omega)]; rfl, by omega, by omega⟩, ⟨by rw [eM, e 3 (by omega)]; rfl, by omega⟩, ⟨by rw [eG, e 4 (by omega)]; rfl, by omega⟩, fun m hm => by omega⟩, fun m hm => by omega⟩, ⟨by rw [eA, e 1 (by omega)]; rfl, by omega⟩, ⟨by rw [eH, e 2 (by omega)]; rfl, by omega⟩, fun m hm => by omega⟩
/-- all places cleared, one after another -/
def x_z (X : g_Wd) (k : Nat) : g_Wd := fun r q => if ∃ j, j < k ∧ g_row j = r ∧ g_plc j = q then 0 else X r q
theorem x_z_0 {X : g_Wd} : X = x_z X 0 := by
  funext r q; unfold x_z; rw [if_neg (by rintro ⟨j, h, -⟩; omega)]
theorem x_z_s {X X1 : g_Wd} {k : Nat} (h : X1 = x_z X k) : upd (g_fl X1) k 0 = g_fl (x_z X (k + 1)) := by
  subst h
  rw [g_flu]
  congr 1
  funext r q
  unfold g_up2 x_z
  by_cases h1 : r = g_row k ∧ q = g_plc k
  · rw [if_pos h1, if_pos ⟨k, by omega, h1.1.symm, h1.2.symm⟩]
  · rw [if_neg h1]
    by_cases h2 : ∃ j, j < k ∧ g_row j = r ∧ g_plc j = q
    · obtain ⟨j, a, c, d⟩ := h2
      rw [if_pos ⟨j, a, c, d⟩, if_pos ⟨j, by omega, c, d⟩]
    · rw [if_neg h2, if_neg]
      rintro ⟨j, a, c, d⟩
      by_cases e : j = k
      · subst e; exact h1 ⟨c.symm, d.symm⟩
      · exact h2 ⟨j, by omega, c, d⟩
theorem x_z_num {X : g_Wd} {k q : Nat} (h : q < k) (h9 : q < 9) : x_z X k 0 q = 0 := by
  unfold x_z; rw [if_pos ⟨q, h, (g_row0 h9).1, (g_row0 h9).2⟩]
abbrev p_new (sa tk : Nat) : g_P := (0, -1, 0, sa, tk)
theorem r_loop_ok {b : Nat → Int32} {n : Nat} : ∀ (d : Nat) (X : g_Wd) (P : g_P), p_ok n P → p_ok n (r_loop b n d X P).2 := by
  intro d
  induction d with
  | zero => intro X P h; exact h
  | succ d ih =>
    intro X P h
    show p_ok n (if q_is P 4 = true then r_loop b n d (r_lnX b n X (q_goes b n P)) (r_lnP b n X (q_goes b n P)) else (X, P)).2
    split
    · exact ih _ _ (r_lnP_ok (q_goes_ok h))
    · exact h
theorem r_txP_ok {b : Nat → Int32} {n : Nat} {X : g_Wd} {P : g_P} (h0 : P.1 = 0) (hu : P.2.2.1 ≤ n) : p_ok n (r_txP b n X P) := by
  have h := r_loop_ok (b := b) (n + 1) (r_tX b n X P) (r_t5 b n P) (q_num_ok (q_num_ok (q_goes_ok (r_t2_ok0 h0 hu))))
  unfold r_txP
  split
  · exact h
  · exact q_f_ok h (by decide)
