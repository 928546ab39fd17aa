/-! every message arrives; what a message's way rests on -/
set_option maxRecDepth 100000
def s_okA (M : Nat → Int32) : Prop := M 2 = nI (s_ask M) ∧ s_ask M ≤ 5
theorem s_okA_of {M N : Nat → Int32} (h : N 2 = M 2) (g : s_okA M) : s_okA N := by unfold s_okA s_ask at *; rw [h]; exact g
/-- a world that goes on: its hour is at most b -/
def s_wm (b : Nat) (X : g_Wd) : Prop := s_wl X ∧ (X 0 1 = nI (s_A X) ∧ s_A X ≤ 5) ∧ (X 0 2 = nI (s_H X) ∧ s_H X ≤ b) ∧ ∀ m, m < s_M X → s_okA (X (3 + m))
def s_mu (X : g_Wd) (m : Nat) : Nat := if X (3 + m) 4 = -1 then 7 * (s_L X - 1 - s_lev (X (3 + m))) + (6 - s_ask (X (3 + m))) + 1 else 0
theorem x_asks_row {X : g_Wd} {m k : Nat} (ho : s_okL (X (3 + m))) (hk : k < 17) (h2 : k ≠ 2) : x_asks X m (3 + m) k = X (3 + m) k := by
  unfold x_asks; rw [x_log_row (by omega)]; unfold x_asks0; rw [g_up2_own]; unfold upd; rw [if_neg h2]
  exact (x_aN_k X (Nat.le_refl 3) ho.2).2.2.2.2.1 k hk
theorem x_asks_2 {X : g_Wd} {m : Nat} (ho : s_okL (X (3 + m))) : x_asks X m (3 + m) 2 = X (3 + m) 2 + 1 := by
  unfold x_asks; rw [x_log_row (by omega)]; unfold x_asks0; rw [g_up2_own]; unfold upd; rw [if_pos rfl]
  rw [(x_aN_k X (Nat.le_refl 3) ho.2).2.2.2.2.1 2 (by omega)]
theorem x_goes_row {X : g_Wd} {m k : Nat} (ho : s_okL (X (3 + m))) (hk : k < 17) (h1 : k ≠ 1) (h2 : k ≠ 2) : x_goes X m (3 + m) k = X (3 + m) k := by
  unfold x_goes; rw [x_log_row (by omega), (x_goes0_k ho).2.2.2.2.1 k hk]; exact x_lv_0 (by omega) h1 h2
theorem x_goes_1 {X : g_Wd} {m : Nat} (ho : s_okL (X (3 + m))) : x_goes X m (3 + m) 1 = nI (s_lev (X (3 + m)) + 1) := by
  unfold x_goes; rw [x_log_row (by omega), (x_goes0_k ho).2.2.2.2.1 1 (by omega), x_lv_1]
theorem x_goes_2 {X : g_Wd} {m : Nat} (ho : s_okL (X (3 + m))) : x_goes X m (3 + m) 2 = 0 := by
  unfold x_goes; rw [x_log_row (by omega), (x_goes0_k ho).2.2.2.2.1 2 (by omega)]; unfold x_lv; rw [g_up2_own]; simp [upd]
theorem nI_ne_m1 {n : Nat} (h : n < 2 ^ 31) : ¬ nI n = -1 := by
  intro z
  have h1 := congrArg Int32.toInt z
  rw [nI_toInt h] at h1
  have h2 : (-1 : Int32).toInt = -1 := by decide
  omega
/-- a message's step, its asked hours -/
theorem x_mv1_A {X : g_Wd} {m : Nat} (ho : s_okL (X (3 + m))) (ha : s_okA (X (3 + m))) (hA : X 0 1 = nI (s_A X) ∧ s_A X ≤ 5) : s_okA (x_mv1 X m (3 + m)) := by
  unfold x_mv1
  split
  · rename_i h
    unfold s_will at h
    simp only [Bool.and_eq_true, decide_eq_true_eq] at h
    have h2 := h.2.1
    rw [ha.1, hA.1] at h2
    have h3 := (nI_ltI (by have := ha.2; omega) (by omega)).mp h2
    have e := x_asks_2 ho
    rw [ha.1, nI_1] at e
    have e2 : s_ask (x_asks X m (3 + m)) = s_ask (X (3 + m)) + 1 := by rw [s_ask, e]; exact nI_clamp (by have := ha.2; omega)
    exact ⟨by rw [e2]; exact e, by omega⟩
  · split
    · have e := x_goes_2 (X := X) ho
      have e2 : s_ask (x_goes X m (3 + m)) = 0 := by rw [s_ask, e]; rfl
      exact ⟨by rw [e2]; exact e, by omega⟩
    · exact ha
theorem x_moves_A {X : g_Wd} {m : Nat} (ho : s_okL (X (3 + m))) (ha : s_okA (X (3 + m))) (hA : X 0 1 = nI (s_A X) ∧ s_A X ≤ 5) : s_okA (x_moves X m (3 + m)) := by
  have h := x_mv1_A ho ha hA
  unfold x_moves
  split
  · exact s_okA_of (by rw [x_log_row (by omega), g_up2_own]; unfold upd; rw [if_neg (by omega)]) h
  · exact h
theorem x_moves_wm {b : Nat} {X : g_Wd} {m : Nat} (h : s_wm b X) (hm : m < s_M X) : s_wm b (x_moves X m) := by
  obtain ⟨hwl, hA, hH, ha⟩ := h
  have ho := hwl.1.2.2.2 m hm
  have hk := k_m.moves (X := X) ho
  have eA : s_A (x_moves X m) = s_A X := by unfold s_A; rw [hk.1 1 (by omega)]
  have eH : s_H (x_moves X m) = s_H X := by unfold s_H; rw [hk.1 2 (by omega)]
  refine ⟨s_wl_moves hm hwl, by rw [eA, hk.1 1 (by omega)]; exact hA, by rw [eH, hk.1 2 (by omega)]; exact hH, fun j hj => ?_⟩
  rw [hk.M] at hj
  by_cases e : j = m
  · subst e; exact x_moves_A ho (ha j hj) hA
  · exact s_okA_of (hk.2.2.1 (3 + j) 2 (by omega) (by omega)) (ha j hj)
theorem x_pM_wm {b n : Nat} {X : g_Wd} (h : s_wm b X) (hn : n ≤ s_M X) : s_wm b (x_pM X n) ∧ s_M (x_pM X n) = s_M X ∧ s_L (x_pM X n) = s_L X ∧ (∀ k, k < 4 → x_pM X n 0 k = X 0 k) := by
  induction n with
  | zero => exact ⟨h, rfl, rfl, fun _ _ => rfl⟩
  | succ n ih =>
    obtain ⟨h1, h2, h3, h4⟩ := ih (by omega)
    have e : x_pM X (n + 1) = if x_pM X n (3 + n) 4 = -1 then x_moves (x_pM X n) n else x_pM X n := rfl
    rw [e]
    split
    · have hk := k_m.moves (X := x_pM X n) (h1.1.1.2.2.2 n (by omega))
      exact ⟨x_moves_wm h1 (by omega), hk.M.trans h2, hk.L.trans h3, fun k hk4 => (hk.1 k hk4).trans (h4 k hk4)⟩
    · exact ⟨h1, h2, h3, h4⟩
theorem x_pH_wm {b n : Nat} {X : g_Wd} (h : s_wm b X) (hb : b + n < 2 ^ 31) : s_wm (b + n) (x_pH X n) ∧ s_M (x_pH X n) = s_M X ∧ s_L (x_pH X n) = s_L X ∧ s_H (x_pH X n) = s_H X + n ∧ (∀ k, k < 4 → k ≠ 2 → x_pH X n 0 k = X 0 k) := by
  induction n with
  | zero => exact ⟨h, rfl, rfl, rfl, fun _ _ _ => rfl⟩
  | succ n ih =>
    obtain ⟨h1, h2, h3, h4, h9⟩ := ih (by omega)
    obtain ⟨g1, g2, g3, g4⟩ := x_pM_wm h1 (n := s_M X) (by omega)
    have e2 : x_pM (x_pH X n) (s_M X) 0 2 = nI (s_H X + n) := by rw [g4 2 (by omega), h1.2.2.1.1, h4]
    have hb2 := h.2.2.1.2
    have e3 : x_pM (x_pH X n) (s_M X) 0 2 + 1 = nI (s_H X + (n + 1)) := by rw [e2, nI_1]; rfl
    have hw := s_wl_hour (v := x_pM (x_pH X n) (s_M X) 0 2 + 1) g1.1
    have eH : s_H (x_pH X (n + 1)) = s_H X + (n + 1) := by
      show ((g_up2 (x_pM (x_pH X n) (s_M X)) 0 2 _) 0 2).toNatClampNeg = _
      rw [g_up2_own]; unfold upd; rw [if_pos rfl, e3]; exact nI_clamp (by omega)
    have e0 : ∀ k, k ≠ 2 → x_pH X (n + 1) 0 k = x_pM (x_pH X n) (s_M X) 0 k := fun k hk => by
      show (g_up2 (x_pM (x_pH X n) (s_M X)) 0 2 _) 0 k = _
      rw [g_up2_own]; unfold upd; rw [if_neg hk]
    have er : ∀ r, r ≠ 0 → x_pH X (n + 1) r = x_pM (x_pH X n) (s_M X) r := fun r hr => g_up2_row hr
    have eM : s_M (x_pH X (n + 1)) = s_M X := by rw [show x_pH X (n + 1) = g_up2 _ _ _ _ from rfl, hw.2.1, g2, h2]
    have eL : s_L (x_pH X (n + 1)) = s_L X := by rw [show x_pH X (n + 1) = g_up2 _ _ _ _ from rfl, hw.2.2, g3, h3]
    refine ⟨⟨hw.1, ?_, ⟨?_, by rw [eH]; omega⟩, fun m hm => ?_⟩, eM, eL, eH, fun k h1 h2 => ?_⟩
    · have eA : s_A (x_pH X (n + 1)) = s_A (x_pM (x_pH X n) (s_M X)) := by unfold s_A; rw [e0 1 (by omega)]
      rw [eA, e0 1 (by omega)]; exact g1.2.1
    · rw [eH]
      show (g_up2 (x_pM (x_pH X n) (s_M X)) 0 2 _) 0 2 = _
      rw [g_up2_own]; unfold upd; rw [if_pos rfl, e3]
    · rw [er (3 + m) (by omega)]; exact g1.2.2.2 m (by rw [eM] at hm; omega)
    · rw [e0 k h2, g4 k h1, h9 k h1 h2]
theorem x_moves_4 {X : g_Wd} {m : Nat} (ho : s_okL (X (3 + m))) (h : s_mayA (x_mv1 X m) m = false) : x_moves X m (3 + m) 4 = X (3 + m) 4 := by
  unfold x_moves; rw [if_neg (by simp [h])]
  unfold x_mv1
  split
  · exact x_asks_row ho (by omega) (by omega)
  · split
    · exact x_goes_row ho (by omega) (by omega) (by omega)
    · rfl
theorem x_moves_mu {b : Nat} {X : g_Wd} {m : Nat} (h : s_wm b X) (hb : b < 2 ^ 31) (hm : m < s_M X) (hu : X (3 + m) 4 = -1) : s_mu (x_moves X m) m < s_mu X m := by
  obtain ⟨hwl, hA, hH, ha⟩ := h
  have ho := hwl.1.2.2.2 m hm
  have hv := hwl.2 m hm
  have hak := ha m hm
  have hL := hwl.1.1
  have hk := k_m.moves (X := X) ho
  have hk1 := k_m.mv1 (X := X) ho
  have e0 : s_mu X m = 7 * (s_L X - 1 - s_lev (X (3 + m))) + (6 - s_ask (X (3 + m))) + 1 := by unfold s_mu; rw [if_pos hu]
  rw [e0]
  cases hq : s_mayA (x_mv1 X m) m with
  | true =>
    have e4 : x_moves X m (3 + m) 4 = nI (s_H X) := by
      unfold x_moves; rw [if_pos hq, x_log_row (by omega), g_up2_own]; unfold upd; rw [if_pos rfl, hk1.1 2 (by omega)]; exact hH.1
    unfold s_mu
    rw [if_neg (by rw [e4]; exact nI_ne_m1 (by omega))]
    omega
  | false =>
    have e4 := x_moves_4 ho hq
    have ex : x_moves X m = x_mv1 X m := by unfold x_moves; rw [if_neg (by simp [hq])]
    have h2 : s_mu (x_moves X m) m = 7 * (s_L X - 1 - s_lev (x_mv1 X m (3 + m))) + (6 - s_ask (x_mv1 X m (3 + m))) + 1 := by
      unfold s_mu; rw [if_pos (by rw [e4]; exact hu), hk.L, ex]
    rw [h2]
    have hA2 := x_mv1_A ho hak hA
    by_cases hw : s_will X m = true
    · have e : x_mv1 X m = x_asks X m := by unfold x_mv1; rw [if_pos hw]
      have hw2 := hw
      unfold s_will at hw2
      simp only [Bool.and_eq_true, decide_eq_true_eq] at hw2
      have h3 := hw2.2.1
      rw [hak.1, hA.1] at h3
      have h4 := (nI_ltI (by have := hak.2; omega) (by omega)).mp h3
      have e1 : s_lev (x_mv1 X m (3 + m)) = s_lev (X (3 + m)) := s_lev_of (by rw [e]; exact x_asks_row ho (by omega) (by omega))
      have e2 : s_ask (x_mv1 X m (3 + m)) = s_ask (X (3 + m)) + 1 := by rw [e, s_ask, x_asks_2 ho, hak.1, nI_1]; exact nI_clamp (by omega)
      rw [e1, e2]; omega
    · by_cases hg : X (3 + m) 1 < nI (s_L X - 1)
      · have e : x_mv1 X m = x_goes X m := by unfold x_mv1; rw [if_neg hw, if_pos hg]
        have h3 : s_lev (X (3 + m)) < s_L X - 1 := by rw [hv.1] at hg; exact (nI_ltI (by omega) (by omega)).mp hg
        have e1 : s_lev (x_mv1 X m (3 + m)) = s_lev (X (3 + m)) + 1 := by rw [e, s_lev, x_goes_1 ho]; exact nI_clamp (by omega)
        have e2 : s_ask (x_mv1 X m (3 + m)) = 0 := by rw [e, s_ask, x_goes_2 ho]; rfl
        have := hak.2
        rw [e1, e2]; omega
      · exfalso
        have e : x_mv1 X m = X := by unfold x_mv1; rw [if_neg hw, if_neg hg]
        have h3 : s_lev (X (3 + m)) = s_L X - 1 := by
          have := hv.2
          rcases Nat.lt_or_ge (s_lev (X (3 + m))) (s_L X - 1) with q | q
          · exact absurd (by rw [hv.1]; exact nI_lt q (by omega)) hg
          · omega
        rw [e] at hq
        have h5 : X (3 + m) 1 = nI (s_L X - 1) := by rw [hv.1, h3]
        have h6 : 0 < X (3 + m) 1 := by rw [h5]; exact nI_lt (a := 0) (by omega) (by omega)
        unfold s_mayA at hq
        unfold s_will at hw
        simp only [h5, decide_true, Bool.true_and, Bool.or_eq_false_iff, decide_eq_false_iff_not] at hq
        apply hw
        simp only [Bool.and_eq_true, decide_eq_true_eq]
        exact ⟨h6, (Int32.not_le).mp hq.2, by omega⟩
theorem x_pM_row {b n m : Nat} {X : g_Wd} (h : s_wm b X) (hn : n ≤ s_M X) (hm : n ≤ m) : x_pM X n (3 + m) = X (3 + m) := by
  induction n with
  | zero => rfl
  | succ n ih =>
    have h1 := x_pM_wm h (n := n) (by omega)
    show (if _ then _ else _ : g_Wd) (3 + m) = _
    split
    · rw [show x_moves (x_pM X n) n (3 + m) = x_pM X n (3 + m) from funext fun k => (k_m.moves (X := x_pM X n) (h1.1.1.1.2.2.2 n (by omega))).2.2.1 (3 + m) k (by omega) (by omega)]
      exact ih (by omega) (by omega)
    · exact ih (by omega) (by omega)
theorem x_pM_row2 {b n m : Nat} {X : g_Wd} (h : s_wm b X) (hn : n ≤ s_M X) (hm : m < n) : x_pM X n (3 + m) = x_pM X (m + 1) (3 + m) := by
  induction n with
  | zero => omega
  | succ n ih =>
    rcases Nat.lt_or_ge m n with q | q
    · have h1 := x_pM_wm h (n := n) (by omega)
      show (if _ then _ else _ : g_Wd) (3 + m) = _
      split
      · rw [show x_moves (x_pM X n) n (3 + m) = x_pM X n (3 + m) from funext fun k => (k_m.moves (X := x_pM X n) (h1.1.1.1.2.2.2 n (by omega))).2.2.1 (3 + m) k (by omega) (by omega)]
        exact ih (by omega) q
      · exact ih (by omega) q
    · rw [show n = m by omega]
theorem s_mu_of {X Y : g_Wd} {m : Nat} (h : Y (3 + m) = X (3 + m)) (hL : s_L Y = s_L X) : s_mu Y m = s_mu X m := by unfold s_mu; rw [h, hL]
theorem x_hour_mu {b m : Nat} {X : g_Wd} (h : s_wm b X) (hb : b < 2 ^ 31) (hm : m < s_M X) : s_mu (x_pM X (s_M X)) m ≤ s_mu X m - 1 := by
  have h1 := x_pM_wm h (n := m) (by omega)
  have e1 : x_pM X (s_M X) (3 + m) = x_pM X (m + 1) (3 + m) := x_pM_row2 h (Nat.le_refl _) hm
  have h2 := x_pM_wm h (n := m + 1) (by omega)
  have h3 := x_pM_wm h (n := s_M X) (by omega)
  rw [s_mu_of e1 (by rw [h3.2.2.1, h2.2.2.1])]
  have e2 : s_mu (x_pM X m) m = s_mu X m := s_mu_of (x_pM_row h (by omega) (Nat.le_refl _)) h1.2.2.1
  by_cases hu : x_pM X m (3 + m) 4 = -1
  · have e3 : x_pM X (m + 1) = x_moves (x_pM X m) m := by show (if _ then _ else _) = _; rw [if_pos hu]
    rw [e3]
    have := x_moves_mu h1.1 hb (by omega) hu
    omega
  · have e3 : x_pM X (m + 1) = x_pM X m := by show (if _ then _ else _) = _; rw [if_neg hu]
    rw [e3]
    unfold s_mu; rw [if_neg hu]; omega
theorem x_pH_mu {b m n : Nat} {X : g_Wd} (h : s_wm b X) (hb : b + n < 2 ^ 31) (hm : m < s_M X) : s_mu (x_pH X n) m ≤ s_mu X m - n := by
  induction n with
  | zero => exact Nat.le_refl _
  | succ n ih =>
    have h1 := x_pH_wm h (n := n) (by omega)
    have h2 := x_hour_mu h1.1 (by omega) (m := m) (by omega)
    rw [h1.2.1] at h2
    have e : s_mu (x_pH X (n + 1)) m = s_mu (x_pM (x_pH X n) (s_M X)) m := s_mu_of (g_up2_row (by omega)) (by
      show s_L (g_up2 _ 0 2 _) = _
      unfold s_L; rw [g_up2_own]; unfold upd; rw [if_neg (by omega)])
    have := ih (by omega)
    omega
/-- every message arrives -/
theorem s_arv_of {b m : Nat} {X : g_Wd} (h : s_wm b X) (hb : b + 50 < 2 ^ 31) (hm : m < s_M X) : s_arv X m := by
  have h1 := x_pH_mu h (n := 42) (by omega) hm
  have h2 : s_mu X m ≤ 42 := by
    unfold s_mu
    split
    · have := h.1.1.1; omega
    · omega
  have h3 : x_pH X 42 (3 + m) 4 ≠ -1 := by
    intro z
    have : s_mu (x_pH X 42) m = 7 * (s_L (x_pH X 42) - 1 - s_lev (x_pH X 42 (3 + m))) + (6 - s_ask (x_pH X 42 (3 + m))) + 1 := by unfold s_mu; rw [if_pos z]
    omega
  have h4 := s_first_spec (fun t => !decide (x_pH X t (3 + m) 4 = -1)) 50 0 ⟨42, by omega, by omega, by simp [h3]⟩
  refine ⟨?_, by have := h4.2.1; unfold s_T; omega, fun t ht => ?_⟩
  · have := h4.1; simp only [Bool.not_eq_true', decide_eq_false_iff_not] at this; exact this
  · have := h4.2.2.2 t (by omega) ht
    simp only [Bool.not_eq_false', decide_eq_true_eq] at this
    exact this
