/-! what every change keeps of a world -/
set_option maxRecDepth 100000
theorem s_wm.mono {b b' : Nat} {X : g_Wd} (h : s_wm b X) (hb : b ≤ b') : s_wm b' X := ⟨h.1, h.2.1, ⟨h.2.2.1.1, Nat.le_trans h.2.2.1.2 hb⟩, h.2.2.2⟩
theorem s_wm.ofG {b : Nat} {X Y : g_Wd} (h : s_wm b X) (e : ∀ k, k < 4 → Y 0 k = X 0 k) (hG : s_okG Y) (er : ∀ m k, m < s_M X → k < 5 → Y (3 + m) k = X (3 + m) k) : s_wm b Y ∧ s_M Y = s_M X := by
  have eL : s_L Y = s_L X := by unfold s_L; rw [e 0 (by omega)]
  have eM : s_M Y = s_M X := by unfold s_M; rw [e 3 (by omega)]
  have eA : s_A Y = s_A X := by unfold s_A; rw [e 1 (by omega)]
  have eH : s_H Y = s_H X := by unfold s_H; rw [e 2 (by omega)]
  obtain ⟨⟨⟨h1, h2, h3, h4⟩, h5⟩, h6, h7, h8⟩ := h
  refine ⟨⟨⟨⟨by rw [eL, e 0 (by omega)]; exact h1, by rw [eM, e 3 (by omega)]; exact h2, hG, fun m hm => ?_⟩, fun m hm => ?_⟩, by rw [eA, e 1 (by omega)]; exact h6, by rw [eH, e 2 (by omega)]; exact h7, fun m hm => ?_⟩, eM⟩ <;> rw [eM] at hm
  · exact s_okL_of (er m 0 hm (by omega)) (h4 m hm)
  · rw [s_lev_of (er m 1 hm (by omega)), er m 1 hm (by omega), eL]; exact h5 m hm
  · exact s_okA_of (er m 2 hm (by omega)) (h8 m hm)
theorem s_wm.G {b : Nat} {X : g_Wd} (h : s_wm b X) : s_okG X := h.1.1.2.2.1
theorem s_wm.log {b m : Nat} {X : g_Wd} {k : Int32} (h : s_wm b X) : s_wm b (x_log X k m) ∧ s_M (x_log X k m) = s_M X :=
  h.ofG (fun j hj => x_log_r0 (by omega)) (x_log_G h.G) (fun j k _ _ => by rw [x_log_row (by omega)])
theorem s_wm.cW {b k j : Nat} {X : g_Wd} (h : s_wm b X) : s_wm b (x_cW X k j) ∧ s_M (x_cW X k j) = s_M X :=
  h.of5 (fun r q hr _ => by rw [x_cW_r (by omega)])
theorem s_wm.fN {b m p : Nat} {X : g_Wd} {f : Nat → Int32} (h : s_wm b X) : s_wm b (x_fN X m f p) ∧ s_M (x_fN X m f p) = s_M X := h.of5 (fun r k _ hk => x_fN_0 (Or.inr hk))
theorem s_wm.sdR {b m : Nat} : ∀ {p rest : Nat} {X : g_Wd}, s_wm b X → s_wm b (x_sdR X m rest p) ∧ s_M (x_sdR X m rest p) = s_M X := fun h => h.of5 (fun r k _ hk => x_sdR_0 (Or.inr hk) _ _ _)
theorem s_wm.sendS {b len : Nat} {X : g_Wd} {d : Int32} (h : s_wm b X) (hM : s_M X < 6) (hl : len ≤ 12) : s_wm b (x_sendS X d len) ∧ s_M (x_sendS X d len) = s_M X + 1 := by
  have h1 := h.beg hM hl
  have h2 := h1.sameN (m := s_M X) (p := len) (d := d)
  have h3 := h2.1.log (m := s_M X) (k := 0)
  exact ⟨h3.1, by rw [show s_M (x_sendS X d len) = _ from h3.2, h2.2]; exact (x_beg_3 hM).2⟩
theorem s_wm.sendD {b len dn : Nat} {X : g_Wd} (h : s_wm b X) (hM : s_M X < 6) (hl : len ≤ 12) : s_wm b (x_sendD X dn len) ∧ s_M (x_sendD X dn len) = s_M X + 1 := by
  have h1 := h.beg hM hl
  have h2 := s_wm.sdR (m := s_M X) (p := len) (rest := dn) h1
  have h3 := h2.1.log (m := s_M X) (k := 0)
  exact ⟨h3.1, by rw [show s_M (x_sendD X dn len) = _ from h3.2, h2.2]; exact (x_beg_3 hM).2⟩
theorem s_wm.sendF {b len : Nat} {X : g_Wd} {f : Nat → Int32} {p : Nat} (h : s_wm b X) (hM : s_M X < 6) (hl : len ≤ 12) : s_wm b (x_log (x_fN (x_beg X (nI len)) (s_M X) f p) 0 (s_M X)) ∧ s_M (x_log (x_fN (x_beg X (nI len)) (s_M X) f p) 0 (s_M X)) = s_M X + 1 := by
  have h1 := h.beg hM hl
  have h2 := h1.fN (m := s_M X) (p := p) (f := f)
  have h3 := h2.1.log (m := s_M X) (k := 0)
  exact ⟨h3.1, by rw [h3.2, h2.2]; exact (x_beg_3 hM).2⟩
theorem s_wm.sendM {b m : Nat} {X : g_Wd} (h : s_wm b X) (hM : s_M X < 6) (hm : m < s_M X) : s_wm b (x_sendM X m) ∧ s_M (x_sendM X m) = s_M X + 1 := h.sendF hM (h.1.1.2.2.2 m hm).2
theorem s_wm.drop {b m : Nat} {X : g_Wd} (h : s_wm b X) (hm : m < s_M X) : s_wm b (x_drop X m) ∧ s_M (x_drop X m) = s_M X - 1 := by
  have hM6 := h.1.1.2.1.2
  have e0 : ∀ k, k ≠ 3 → k ≠ 4 → x_drop X m 0 k = X 0 k := by
    intro k h3 h4
    unfold x_drop x_dl
    rw [g_up2_own]; unfold upd; rw [if_neg h4, x_dlN_r (by omega), g_up2_own]; unfold upd; rw [if_neg h3, x_drN_r (by omega)]
  have e3 : x_drop X m 0 3 = nI (s_M X - 1) := by
    unfold x_drop x_dl
    rw [g_up2_own]; unfold upd; rw [if_neg (by omega), x_dlN_r (by omega), g_up2_own]; unfold upd; rw [if_pos rfl]
  have er : ∀ j k, k < 197 → x_drop X m (3 + j) k = if m ≤ j ∧ j < s_M X - 1 then X (3 + (j + 1)) k else X (3 + j) k := by
    intro j k hk
    unfold x_drop x_dl
    rw [g_up2_row (by omega), x_dlN_r (by omega), g_up2_row (by omega)]
    unfold x_drN
    by_cases q : m ≤ j ∧ j < s_M X - 1
    · rw [if_pos q, if_pos ⟨by omega, by omega, hk⟩]; rfl
    · rw [if_neg q, if_neg (by omega)]
  have eG : s_okG (x_drop X m) := by
    have hg : s_G (g_up2 (x_drN X m (s_M X - 1 - m)) 0 3 (nI (s_M X - 1))) = s_G X := by
      unfold s_G; rw [g_up2_own]; unfold upd; rw [if_neg (by omega), x_drN_r (by omega)]
    have h9 : x_drop X m 0 4 = nI (x_dlN (g_up2 (x_drN X m (s_M X - 1 - m)) 0 3 (nI (s_M X - 1))) m (s_G X)).2 := by
      unfold x_drop x_dl; rw [hg, g_up2_own]; unfold upd; rw [if_pos rfl]
    have h8 := x_dlN_2 (X := g_up2 (x_drN X m (s_M X - 1 - m)) 0 3 (nI (s_M X - 1))) (m := m) (k := s_G X)
    have h7 := h.G.2
    have h6 : s_G (x_drop X m) = (x_dlN (g_up2 (x_drN X m (s_M X - 1 - m)) 0 3 (nI (s_M X - 1))) m (s_G X)).2 := by
      rw [s_G, h9]; exact nI_clamp (by omega)
    exact ⟨by rw [h6]; exact h9, by omega⟩
  have eL : s_L (x_drop X m) = s_L X := by unfold s_L; rw [e0 0 (by omega) (by omega)]
  have eM : s_M (x_drop X m) = s_M X - 1 := by rw [s_M, e3]; exact nI_clamp (by omega)
  have eA : s_A (x_drop X m) = s_A X := by unfold s_A; rw [e0 1 (by omega) (by omega)]
  have eH : s_H (x_drop X m) = s_H X := by unfold s_H; rw [e0 2 (by omega) (by omega)]
  obtain ⟨⟨⟨h1, h2, h3, h4⟩, h5⟩, h6, h7, h8⟩ := h
  refine ⟨⟨⟨⟨by rw [eL, e0 0 (by omega) (by omega)]; exact h1, by rw [eM]; exact ⟨e3, by omega⟩, eG, fun j hj => ?_⟩, fun j hj => ?_⟩, by rw [eA, e0 1 (by omega) (by omega)]; exact h6, by rw [eH, e0 2 (by omega) (by omega)]; exact h7, fun j hj => ?_⟩, eM⟩ <;> rw [eM] at hj <;> by_cases q : m ≤ j ∧ j < s_M X - 1
  · exact s_okL_of (by rw [er j 0 (by omega), if_pos q]) (h4 (j + 1) (by omega))
  · exact s_okL_of (by rw [er j 0 (by omega), if_neg q]) (h4 j (by omega))
  · have e1 : x_drop X m (3 + j) 1 = X (3 + (j + 1)) 1 := by rw [er j 1 (by omega), if_pos q]
    rw [s_lev_of e1, e1, eL]; exact h5 (j + 1) (by omega)
  · have e1 : x_drop X m (3 + j) 1 = X (3 + j) 1 := by rw [er j 1 (by omega), if_neg q]
    rw [s_lev_of e1, e1, eL]; exact h5 j (by omega)
  · exact s_okA_of (by rw [er j 2 (by omega), if_pos q]) (h8 (j + 1) (by omega))
  · exact s_okA_of (by rw [er j 2 (by omega), if_neg q]) (h8 j (by omega))
/-- the lines of a text keep a world a world -/
theorem r_lnX_wm {w n : Nat} {b : Nat → Int32} {X : g_Wd} {P : g_P} (h : s_wm w X) (hp : p_ok n P) (hw : w + 50 < 2 ^ 31) : s_wm (w + 50) (r_lnX b n X P) := by
  have h0 := h.mono (b' := w + 50) (by omega)
  have hM6 := h.1.1.2.1.2
  have cut : ∀ c, s_wm (w + 50) (r_cuX b n X P c) := by
    intro c; unfold r_cuX; split
    · exact h0.r1.1
    · exact h0
  unfold r_lnX
  split
  · unfold r_stX; split
    · exact h0.storms.1
    · exact h0
  · split
    · exact cut 1
    · split
      · unfold r_seX; split
        · exact h0
        · rename_i hz
          have h9 := r_e2_0 (b := b) (n := n) (X := X) (P := P) (by omega)
          have hl := (r_e2_ok (b := b) (X := X) hp).2.2.2.2 h9.1
          exact (h0.sendF (by omega) hl.2).1
      · split
        · unfold r_paX; split
          · exact h0
          · rename_i hz
            have h9 := q_nn (b := b) (n := n) (P := q_goes b n P) (lo := 1) (hi := 50) (k := 50) (by omega) (by decide) (by rfl) (by omega)
            exact ((x_pH_wm h (by have := h9.2.1; omega)).1).mono (by have := h9.2.1; omega)
        · unfold r_otX
          split
          · exact cut 0
          · split
            · unfold r_saX; split
              · exact h0
              · rename_i hz
                have h9 := q_nn (b := b) (n := n) (P := r_s2 b n X P) (lo := 1) (hi := 12) (k := 12) (show (r_s3 b n X P).1 = 0 by omega) (by decide) (by rfl) (by omega)
                have h8 := q_nn (b := b) (n := n) (P := r_s1 b n X P) (lo := 0) (hi := 9) (k := 9) h9.2.2 (by decide) (by rfl) (by omega)
                have h7 := r_m0_0 (X := X) (P := P) (by rw [← q_goes_1 (b := b) (n := n)]; exact h8.2.2)
                exact (h0.sendS (by omega) h9.2.1).1
            · split
              · unfold r_asX; split
                · rename_i hz
                  have h9 := q_nn (b := b) (n := n) (P := q_goes b n P) (lo := 0) (hi := 5) (k := 5) hz (by decide) (by rfl) (by omega)
                  rw [h9.1]
                  exact (h0.asks h9.2.1).1
                · exact h0
              · split
                · exact h0.cW.1
                · split
                  · unfold r_drX; split
                    · rename_i hz
                      have hz2 : (r_d2 b n X P).1 = 0 := by
                        unfold r_d3 at hz
                        split at hz
                        · have := q_f_n (P := r_d2 b n X P) (c := 3) (by decide); omega
                        · exact hz
                      have h3 := h.1.1.2.1.1
                      have h9 := q_nnM (b := b) (P := q_goes b n P) (k := s_M X) (by rw [← h3]; exact hz2) (by omega)
                      exact (h0.drop (by have := h9.2.1; rw [← h3] at this; exact this)).1
                    · exact h0
                  · exact h0
