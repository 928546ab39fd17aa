/-! laws of the world's changes that the walks ask -/
set_option maxRecDepth 100000
def s_okV (M : Nat → Int32) : Prop := M 1 = nI (s_lev M) ∧ s_lev M ≤ 5
def s_okG (X : g_Wd) : Prop := X 0 4 = nI (s_G X) ∧ s_G X ≤ 40
theorem s_okG_of {X Y : g_Wd} (h : Y 0 4 = X 0 4) (g : s_okG X) : s_okG Y := by
  unfold s_okG s_G at *; rw [h]; exact g
theorem s_okL_of {M N : Nat → Int32} (h : N 0 = M 0) (g : s_okL M) : s_okL N := by
  unfold s_okL s_len at *; rw [h]; exact g
theorem s_okV_of {M N : Nat → Int32} (h : N 1 = M 1) (g : s_okV M) : s_okV N := by
  unfold s_okV s_lev at *; rw [h]; exact g
theorem k_g.okV {m : Nat} {X Y : g_Wd} (h : k_g m X Y) (g : s_okV (X (3 + m))) : s_okV (Y (3 + m)) := s_okV_of (h.2.2.2.2.1 1 (by omega)) g
theorem k_g.okL {m : Nat} {X Y : g_Wd} (h : k_g m X Y) (g : s_okL (X (3 + m))) : s_okL (Y (3 + m)) := s_okL_of (h.2.2.2.2.1 0 (by omega)) g
theorem x_shN_s {X X1 : g_Wd} {j : Nat} (h : X1 = x_shN X j) : g_up2 X1 2 j (X1 2 (j + 4)) = x_shN X (j + 1) := by
  subst h
  funext r k
  unfold g_up2 x_shN
  by_cases h1 : r = 2 ∧ k = j
  · rw [if_pos h1, if_neg (by omega), if_pos (by omega), h1.2]
  · rw [if_neg h1]
    by_cases h2 : r = 2 ∧ k < j
    · rw [if_pos h2, if_pos (by omega)]
    · rw [if_neg h2, if_neg (by omega)]
theorem x_shN_0 {X : g_Wd} : X = x_shN X 0 := by
  funext r k; unfold x_shN; rw [if_neg (by omega)]
theorem x_log0_G {X : g_Wd} (h : s_okG X) : s_okG (x_log0 X) ∧ s_G (x_log0 X) ≤ 39 := by
  unfold x_log0
  split
  · have e : (g_up2 (x_shN X 156) 0 4 (nI 39)) 0 4 = nI 39 := by simp [g_up2]
    have e2 : s_G (g_up2 (x_shN X 156) 0 4 (nI 39)) = 39 := by unfold s_G; rw [e]; exact nI_clamp (by omega)
    exact ⟨⟨by rw [e2, e], by omega⟩, by omega⟩
  · rename_i h1
    refine ⟨h, ?_⟩
    have := h.2
    rcases Nat.lt_or_ge (s_G X) 40 with q | q
    · omega
    · exact absurd (by rw [h.1, show s_G X = 40 by omega]; rfl) h1
theorem x_log0_row {X : g_Wd} {r : Nat} (h : 3 ≤ r) : x_log0 X r = X r := by
  unfold x_log0
  split
  · rw [g_up2_row (by omega)]; funext k; unfold x_shN; rw [if_neg (by omega)]
  · rfl
theorem x_log0_r1 {X : g_Wd} : x_log0 X 1 = X 1 := by
  unfold x_log0
  split
  · rw [g_up2_row (by omega)]; funext k; unfold x_shN; rw [if_neg (by omega)]
  · rfl
theorem x_log0_r0 {X : g_Wd} {k : Nat} (h : k ≠ 4) : x_log0 X 0 k = X 0 k := by
  unfold x_log0
  split
  · unfold g_up2 x_shN; rw [if_neg (by omega), if_neg (by omega)]
  · rfl
theorem x_log_row {X : g_Wd} {kind : Int32} {m r : Nat} (h : 3 ≤ r) : x_log X kind m r = X r := by
  unfold x_log x_log1
  rw [g_up2_row (by omega), g_up2_row (by omega), g_up2_row (by omega), g_up2_row (by omega), g_up2_row (by omega), x_log0_row h]
theorem x_log_r1 {X : g_Wd} {kind : Int32} {m : Nat} : x_log X kind m 1 = X 1 := by
  unfold x_log x_log1
  rw [g_up2_row (by omega), g_up2_row (by omega), g_up2_row (by omega), g_up2_row (by omega), g_up2_row (by omega), x_log0_r1]
theorem x_log_r0 {X : g_Wd} {kind : Int32} {m k : Nat} (h : k ≠ 4) : x_log X kind m 0 k = X 0 k := by
  unfold x_log x_log1
  rw [g_up2_own]
  unfold upd
  rw [if_neg h, g_up2_row (by omega), g_up2_row (by omega), g_up2_row (by omega), g_up2_row (by omega), x_log0_r0 h]
theorem x_log_G {X : g_Wd} {kind : Int32} {m : Nat} (h : s_okG X) : s_okG (x_log X kind m) := by
  have h1 := x_log0_G h
  have e : x_log X kind m 0 4 = nI (s_G (x_log0 X) + 1) := by unfold x_log x_log1; rw [g_up2_own]; simp [upd]
  have e2 : s_G (x_log X kind m) = s_G (x_log0 X) + 1 := by unfold s_G at *; rw [e]; exact nI_clamp (by omega)
  exact ⟨by rw [e, e2], by omega⟩
theorem x_hN_lt {X : g_Wd} {m j k : Nat} (h : k < 53) : x_hN X m j (3 + m) k = X (3 + m) k := by
  induction j with
  | zero => rfl
  | succ j ih => show g_up2 _ _ _ _ _ _ = _; unfold g_up2; rw [if_neg (by omega)]; exact ih
theorem x_hN_row {X : g_Wd} {m j r : Nat} (h : r ≠ 3 + m) : x_hN X m j r = X r := by
  induction j with
  | zero => rfl
  | succ j ih => show g_up2 _ _ _ _ _ = _; rw [g_up2_row h]; exact ih
theorem x_lv_0 {X : g_Wd} {m k : Nat} (h : k < 53) (h1 : k ≠ 1) (h2 : k ≠ 2) : x_lv X m (3 + m) k = X (3 + m) k := by
  unfold x_lv; rw [g_up2_own]; unfold upd; rw [if_neg h2, g_up2_own]; unfold upd; rw [if_neg h1]; exact x_hN_lt h
theorem x_lv_1 {X : g_Wd} {m : Nat} : x_lv X m (3 + m) 1 = nI (s_lev (X (3 + m)) + 1) := by
  unfold x_lv; rw [g_up2_own]; unfold upd; rw [if_neg (by omega), g_up2_own]; simp [upd]
theorem x_lv_lev {X : g_Wd} {m : Nat} (h : s_lev (X (3 + m)) ≤ 5) : s_lev (x_lv X m (3 + m)) = s_lev (X (3 + m)) + 1 := by
  rw [s_lev, x_lv_1]; exact nI_clamp (by omega)
theorem x_lv_row {X : g_Wd} {m r : Nat} (h : r ≠ 3 + m) : x_lv X m r = X r := by
  unfold x_lv; rw [g_up2_row h, g_up2_row h]; exact x_hN_row h
theorem s_len_of {M N : Nat → Int32} (h : N 0 = M 0) : s_len N = s_len M := by unfold s_len; rw [h]
theorem s_lev_of {M N : Nat → Int32} (h : N 1 = M 1) : s_lev N = s_lev M := by unfold s_lev; rw [h]
theorem x_goes0_k {X : g_Wd} {m : Nat} (hl : s_okL (X (3 + m))) : k_g m (x_lv X m) (x_goes0 X m) := x_oN_k _ (Nat.le_refl 3) (by rw [s_len_of (x_lv_0 (by omega) (by omega) (by omega))]; exact hl.2)
/-- a world whose numbers and messages' numbers are bounds -/
def s_wl (X : g_Wd) : Prop := s_ok X ∧ ∀ m, m < s_M X → X (3 + m) 1 = nI (s_lev (X (3 + m))) ∧ s_lev (X (3 + m)) ≤ s_L X - 1
/-- what a message's step keeps of a world's numbers -/
def k_m (m : Nat) (X Y : g_Wd) : Prop :=
  (∀ k, k < 4 → Y 0 k = X 0 k) ∧ (∀ w, Y 1 (5 * w + 0) = X 1 (5 * w + 0) ∧ Y 1 (5 * w + 1) = X 1 (5 * w + 1) ∧ Y 1 (5 * w + 2) = X 1 (5 * w + 2)) ∧ (∀ r k, 3 ≤ r → r ≠ 3 + m → Y r k = X r k) ∧ Y (3 + m) 0 = X (3 + m) 0 ∧ Y (3 + m) 3 = X (3 + m) 3 ∧ (∀ k, 5 ≤ k → k < 17 → Y (3 + m) k = X (3 + m) k)
theorem k_m.rf {m : Nat} {X : g_Wd} : k_m m X X := ⟨fun _ _ => rfl, fun _ => ⟨rfl, rfl, rfl⟩, fun _ _ _ _ => rfl, rfl, rfl, fun _ _ _ => rfl⟩
theorem k_m.tr {m : Nat} {X Y Z : g_Wd} (h : k_m m X Y) (g : k_m m Y Z) : k_m m X Z :=
  ⟨fun k a => (g.1 k a).trans (h.1 k a), fun w => ⟨(g.2.1 w).1.trans (h.2.1 w).1, (g.2.1 w).2.1.trans (h.2.1 w).2.1, (g.2.1 w).2.2.trans (h.2.1 w).2.2⟩, fun r k a b => (g.2.2.1 r k a b).trans (h.2.2.1 r k a b), g.2.2.2.1.trans h.2.2.2.1, g.2.2.2.2.1.trans h.2.2.2.2.1, fun k a b => (g.2.2.2.2.2 k a b).trans (h.2.2.2.2.2 k a b)⟩
theorem k_g.km {m : Nat} {X Y : g_Wd} (h : k_g m X Y) : k_m m X Y := ⟨fun k a => h.1 k (by omega), h.2.1, h.2.2.2.1, h.2.2.2.2.1 0 (by omega), h.2.2.2.2.1 3 (by omega), fun k a b => h.2.2.2.2.1 k b⟩
theorem k_m.msg {m : Nat} {X : g_Wd} {k : Nat} {v : Int32} (h : k = 1 ∨ k = 2 ∨ k = 4 ∨ 17 ≤ k) : k_m m X (g_up2 X (3 + m) k v) := by
  refine ⟨fun j hj => ?_, fun w => ⟨?_, ?_, ?_⟩, fun r j h1 h2 => ?_, ?_, ?_, fun j h1 h2 => ?_⟩ <;> unfold g_up2 <;> rw [if_neg (by omega)]
theorem k_m.log {m : Nat} {X : g_Wd} {kind : Int32} {m2 : Nat} : k_m m X (x_log X kind m2) :=
  ⟨fun k a => x_log_r0 (by omega), fun w => ⟨by rw [x_log_r1], by rw [x_log_r1], by rw [x_log_r1]⟩, fun r k a b => by rw [x_log_row a], by rw [x_log_row (by omega)], by rw [x_log_row (by omega)], fun k a b => by rw [x_log_row (by omega)]⟩
theorem k_m.hN {m : Nat} {X : g_Wd} {j : Nat} : k_m m X (x_hN X m j) := by
  induction j with
  | zero => exact k_m.rf
  | succ j ih => exact ih.tr (k_m.msg (by omega))
theorem k_m.lv {m : Nat} {X : g_Wd} : k_m m X (x_lv X m) := (k_m.hN.tr (k_m.msg (by omega))).tr (k_m.msg (by omega))
theorem k_m.asks0 {m : Nat} {X : g_Wd} (ho : s_okL (X (3 + m))) : k_m m X (x_asks0 X m) := ((x_aN_k X (Nat.le_refl 3) ho.2).km).tr (k_m.msg (by omega))
theorem k_m.goes0 {m : Nat} {X : g_Wd} (ho : s_okL (X (3 + m))) : k_m m X (x_goes0 X m) := k_m.lv.tr (x_goes0_k ho).km
theorem k_m.mv1 {m : Nat} {X : g_Wd} (ho : s_okL (X (3 + m))) : k_m m X (x_mv1 X m) := by
  unfold x_mv1
  split
  · exact (k_m.asks0 ho).tr k_m.log
  · split
    · exact (k_m.goes0 ho).tr k_m.log
    · exact k_m.rf
theorem k_m.moves {m : Nat} {X : g_Wd} (ho : s_okL (X (3 + m))) : k_m m X (x_moves X m) := by
  unfold x_moves
  split
  · exact ((k_m.mv1 ho).tr (k_m.msg (by omega))).tr k_m.log
  · exact k_m.mv1 ho
theorem x_asks0_4 {m : Nat} {X : g_Wd} (ho : s_okL (X (3 + m))) : x_asks0 X m 0 4 = X 0 4 := by
  unfold x_asks0; rw [g_up2_row (by omega)]; exact (x_aN_k X (Nat.le_refl 3) ho.2).1 4 (by omega)
theorem x_goes0_4 {m : Nat} {X : g_Wd} (ho : s_okL (X (3 + m))) : x_goes0 X m 0 4 = X 0 4 := by
  rw [(x_goes0_k ho).1 4 (by omega), x_lv_row (by omega)]
theorem x_mv1_G {m : Nat} {X : g_Wd} (ho : s_okL (X (3 + m))) (hG : s_okG X) : s_okG (x_mv1 X m) := by
  unfold x_mv1
  split
  · exact x_log_G (s_okG_of (x_asks0_4 ho) hG)
  · split
    · exact x_log_G (s_okG_of (x_goes0_4 ho) hG)
    · exact hG
theorem x_moves_G {m : Nat} {X : g_Wd} (ho : s_okL (X (3 + m))) (hG : s_okG X) : s_okG (x_moves X m) := by
  unfold x_moves
  split
  · exact x_log_G (s_okG_of (X := x_mv1 X m) (by rw [g_up2_row (by omega)]) (x_mv1_G ho hG))
  · exact x_mv1_G ho hG
theorem k_m.ok {m : Nat} {X Y : g_Wd} (h : k_m m X Y) (hG : s_okG Y) (hW : s_ok X) : s_ok Y := by
  obtain ⟨h1, h2, h3, h4⟩ := hW
  have eL : s_L Y = s_L X := by unfold s_L; rw [h.1 0 (by omega)]
  have eM : s_M Y = s_M X := by unfold s_M; rw [h.1 3 (by omega)]
  refine ⟨by rw [eL, h.1 0 (by omega)]; exact h1, by rw [eM, h.1 3 (by omega)]; exact h2, hG, fun j hj => ?_⟩
  rw [eM] at hj
  by_cases e : j = m
  · subst e; exact s_okL_of h.2.2.2.1 (h4 j hj)
  · exact s_okL_of (h.2.2.1 (3 + j) 0 (by omega) (by omega)) (h4 j hj)
theorem k_m.L {m : Nat} {X Y : g_Wd} (h : k_m m X Y) : s_L Y = s_L X := by unfold s_L; rw [h.1 0 (by omega)]
theorem k_m.M {m : Nat} {X Y : g_Wd} (h : k_m m X Y) : s_M Y = s_M X := by unfold s_M; rw [h.1 3 (by omega)]
/-- a message's level behind its step -/
theorem x_mv1_lev {m : Nat} {X : g_Wd} (ho : s_okL (X (3 + m))) (hv : X (3 + m) 1 = nI (s_lev (X (3 + m))) ∧ s_lev (X (3 + m)) ≤ s_L X - 1) (hL : s_L X ≤ 6) : x_mv1 X m (3 + m) 1 = nI (s_lev (x_mv1 X m (3 + m))) ∧ s_lev (x_mv1 X m (3 + m)) ≤ s_L X - 1 := by
  unfold x_mv1
  split
  · have e : x_asks X m (3 + m) 1 = X (3 + m) 1 := by
      unfold x_asks; rw [x_log_row (by omega)]; unfold x_asks0; rw [g_up2_own]; unfold upd; rw [if_neg (by omega)]
      exact (x_aN_k X (Nat.le_refl 3) ho.2).2.2.2.2.1 1 (by omega)
    rw [s_lev_of e, e]; exact hv
  · split
    · rename_i h1 h2
      have h3 : s_lev (X (3 + m)) < s_L X - 1 := by rw [hv.1] at h2; exact (nI_ltI (by omega) (by omega)).mp h2
      have e : x_goes X m (3 + m) 1 = nI (s_lev (X (3 + m)) + 1) := by
        unfold x_goes; rw [x_log_row (by omega), (x_goes0_k ho).2.2.2.2.1 1 (by omega), x_lv_1]
      have e2 : s_lev (x_goes X m (3 + m)) = s_lev (X (3 + m)) + 1 := by rw [s_lev, e]; exact nI_clamp (by omega)
      rw [e2, e]; exact ⟨rfl, by omega⟩
    · exact hv
theorem x_moves_lev {m : Nat} {X : g_Wd} (ho : s_okL (X (3 + m))) (hv : X (3 + m) 1 = nI (s_lev (X (3 + m))) ∧ s_lev (X (3 + m)) ≤ s_L X - 1) (hL : s_L X ≤ 6) : x_moves X m (3 + m) 1 = nI (s_lev (x_moves X m (3 + m))) ∧ s_lev (x_moves X m (3 + m)) ≤ s_L X - 1 := by
  have h := x_mv1_lev ho hv hL
  unfold x_moves
  split
  · have e : x_log (g_up2 (x_mv1 X m) (3 + m) 4 (x_mv1 X m 0 2)) 3 m (3 + m) 1 = x_mv1 X m (3 + m) 1 := by
      rw [x_log_row (by omega), g_up2_own]; unfold upd; rw [if_neg (by omega)]
    rw [s_lev_of e, e]; exact h
  · exact h
theorem s_wl_moves {m : Nat} {X : g_Wd} (hm : m < s_M X) (h : s_wl X) : s_wl (x_moves X m) := by
  obtain ⟨hW, hV⟩ := h
  have ho := hW.2.2.2 m hm
  have hk := k_m.moves (X := X) ho
  refine ⟨hk.ok (x_moves_G ho hW.2.2.1) hW, fun j hj => ?_⟩
  rw [hk.M] at hj
  rw [hk.L]
  by_cases e : j = m
  · subst e; exact x_moves_lev ho (hV j hj) hW.1.2.2
  · have e1 := hk.2.2.1 (3 + j) 1 (by omega) (by omega)
    rw [s_lev_of e1, e1]; exact hV j hj
theorem x_pM_M {X : g_Wd} {n : Nat} (h : s_wl X) (hn : n ≤ s_M X) : s_wl (x_pM X n) ∧ s_M (x_pM X n) = s_M X ∧ s_L (x_pM X n) = s_L X := by
  induction n with
  | zero => exact ⟨h, rfl, rfl⟩
  | succ n ih =>
    obtain ⟨h1, h2, h3⟩ := ih (by omega)
    show s_wl (if _ then _ else _) ∧ s_M (if _ then _ else _) = _ ∧ s_L (if _ then _ else _) = _
    split
    · have hk := k_m.moves (X := x_pM X n) (h1.1.2.2.2 n (by omega))
      exact ⟨s_wl_moves (by omega) h1, hk.M.trans h2, hk.L.trans h3⟩
    · exact ⟨h1, h2, h3⟩
theorem s_wl_hour {X : g_Wd} {v : Int32} (h : s_wl X) : s_wl (g_up2 X 0 2 v) ∧ s_M (g_up2 X 0 2 v) = s_M X ∧ s_L (g_up2 X 0 2 v) = s_L X := by
  have eL : s_L (g_up2 X 0 2 v) = s_L X := by unfold s_L; rw [g_up2_own]; simp [upd]
  have eM : s_M (g_up2 X 0 2 v) = s_M X := by unfold s_M; rw [g_up2_own]; simp [upd]
  have e0 : ∀ k, k ≠ 2 → (g_up2 X 0 2 v) 0 k = X 0 k := fun k hk => by rw [g_up2_own]; simp [upd, hk]
  obtain ⟨⟨h1, h2, h3, h4⟩, h5⟩ := h
  refine ⟨⟨⟨by rw [eL, e0 0 (by omega)]; exact h1, by rw [eM, e0 3 (by omega)]; exact h2, s_okG_of (e0 4 (by omega)) h3, fun j hj => ?_⟩, fun j hj => ?_⟩, eM, eL⟩
  · rw [eM] at hj; rw [g_up2_row (by omega)]; exact h4 j hj
  · rw [eM] at hj; rw [g_up2_row (by omega), eL]; exact h5 j hj
theorem x_pH_M {X : g_Wd} {n : Nat} (h : s_wl X) : s_wl (x_pH X n) ∧ s_M (x_pH X n) = s_M X ∧ s_L (x_pH X n) = s_L X := by
  induction n with
  | zero => exact ⟨h, rfl, rfl⟩
  | succ n ih =>
    obtain ⟨h1, h2, h3⟩ := ih
    have h4 := x_pM_M h1 (n := s_M X) (by omega)
    have h5 := s_wl_hour (v := x_pM (x_pH X n) (s_M X) 0 2 + 1) h4.1
    exact ⟨h5.1, by rw [show x_pH X (n + 1) = g_up2 _ _ _ _ from rfl, h5.2.1, h4.2.1, h2], by rw [show x_pH X (n + 1) = g_up2 _ _ _ _ from rfl, h5.2.2, h4.2.2, h3]⟩
theorem s_will_lev {X : g_Wd} {m : Nat} (h : s_will X m = true) (hv : X (3 + m) 1 = nI (s_lev (X (3 + m)))) : 1 ≤ s_lev (X (3 + m)) := by
  unfold s_will at h
  simp only [Bool.and_eq_true, decide_eq_true_eq] at h
  rcases Nat.eq_zero_or_pos (s_lev (X (3 + m))) with q | q
  · rw [hv, q] at h; exact absurd h.1 (by decide)
  · exact q
theorem x_clr_s {X X1 : g_Wd} {r j : Nat} (h : X1 = x_clr X r j) : g_up2 X1 r j 0 = x_clr X r (j + 1) := by
  subst h
  funext r' k
  unfold g_up2 x_clr
  by_cases h1 : r' = r ∧ k = j
  · rw [if_pos h1, if_pos (by omega)]
  · rw [if_neg h1]
    by_cases h2 : r' = r ∧ k < j
    · rw [if_pos h2, if_pos (by omega)]
    · rw [if_neg h2, if_neg (by omega)]
theorem x_clr_0 {X : g_Wd} {r : Nat} : X = x_clr X r 0 := by
  funext r' k; unfold x_clr; rw [if_neg (by omega)]
theorem x_clr_ne {X : g_Wd} {r j r' : Nat} (h : r' ≠ r) : x_clr X r j r' = X r' := by
  funext k; unfold x_clr; rw [if_neg (by omega)]
