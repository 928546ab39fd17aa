/-! worlds that are tried: a wire changed, the asks changed, another message alone -/
set_option maxRecDepth 100000
abbrev s_wk (X : g_Wd) : Prop := s_wm 1000000 X
theorem s_wk.arv {X : g_Wd} {m : Nat} (h : s_wk X) (hm : m < s_M X) : s_arv X m := s_arv_of h (by decide) hm
theorem s_wm.r1 {b k : Nat} {X : g_Wd} {v : Int32} (h : s_wm b X) : s_wm b (g_up2 X 1 k v) ∧ s_M (g_up2 X 1 k v) = s_M X := by
  have e : ∀ r, r ≠ 1 → g_up2 X 1 k v r = X r := fun r hr => g_up2_row hr
  have eL : s_L (g_up2 X 1 k v) = s_L X := by unfold s_L; rw [e 0 (by omega)]
  have eM : s_M (g_up2 X 1 k v) = s_M X := by unfold s_M; rw [e 0 (by omega)]
  have eA : s_A (g_up2 X 1 k v) = s_A X := by unfold s_A; rw [e 0 (by omega)]
  have eH : s_H (g_up2 X 1 k v) = s_H X := by unfold s_H; rw [e 0 (by omega)]
  obtain ⟨⟨⟨h1, h2, h3, h4⟩, h5⟩, h6, h7, h8⟩ := h
  refine ⟨⟨⟨⟨by rw [eL, e 0 (by omega)]; exact h1, by rw [eM, e 0 (by omega)]; exact h2, s_okG_of (by rw [e 0 (by omega)]) h3, fun m hm => ?_⟩, fun m hm => ?_⟩, by rw [eA, e 0 (by omega)]; exact h6, by rw [eH, e 0 (by omega)]; exact h7, fun m hm => ?_⟩, eM⟩ <;> rw [eM] at hm <;> rw [e (3 + m) (by omega)]
  · exact h4 m hm
  · rw [eL]; exact h5 m hm
  · exact h8 m hm
theorem s_wm.storms {b w : Nat} {X : g_Wd} {u v : Int32} (h : s_wm b X) : s_wm b (x_storms X w u v) ∧ s_M (x_storms X w u v) = s_M X := by
  have h1 := h.r1 (k := 5 * w + 0) (v := u)
  have h2 := h1.1.r1 (k := 5 * w + 1) (v := v)
  exact ⟨h2.1, h2.2.trans h1.2⟩
theorem s_wm.asks {b a : Nat} {X : g_Wd} (h : s_wm b X) (ha : a ≤ 5) : s_wm b (g_up2 X 0 1 (nI a)) ∧ s_M (g_up2 X 0 1 (nI a)) = s_M X := by
  have e : ∀ r, r ≠ 0 → g_up2 X 0 1 (nI a) r = X r := fun r hr => g_up2_row hr
  have e0 : ∀ k, k ≠ 1 → g_up2 X 0 1 (nI a) 0 k = X 0 k := fun k hk => by rw [g_up2_own]; unfold upd; rw [if_neg hk]
  have e1 : g_up2 X 0 1 (nI a) 0 1 = nI a := by rw [g_up2_own]; unfold upd; rw [if_pos rfl]
  have eL : s_L (g_up2 X 0 1 (nI a)) = s_L X := by unfold s_L; rw [e0 0 (by omega)]
  have eM : s_M (g_up2 X 0 1 (nI a)) = s_M X := by unfold s_M; rw [e0 3 (by omega)]
  have eA : s_A (g_up2 X 0 1 (nI a)) = a := by unfold s_A; rw [e1]; exact nI_clamp (by omega)
  have eH : s_H (g_up2 X 0 1 (nI a)) = s_H X := by unfold s_H; rw [e0 2 (by omega)]
  obtain ⟨⟨⟨h1, h2, h3, h4⟩, h5⟩, h6, h7, h8⟩ := h
  refine ⟨⟨⟨⟨by rw [eL, e0 0 (by omega)]; exact h1, by rw [eM, e0 3 (by omega)]; exact h2, s_okG_of (by rw [e0 4 (by omega)]) h3, fun m hm => ?_⟩, fun m hm => ?_⟩, by rw [eA, e1]; exact ⟨rfl, ha⟩, by rw [eH, e0 2 (by omega)]; exact h7, fun m hm => ?_⟩, eM⟩ <;> rw [eM] at hm <;> rw [e (3 + m) (by omega)]
  · exact h4 m hm
  · rw [eL]; exact h5 m hm
  · exact h8 m hm
def z_k (Z Z1 : g_Wd) : Prop := ∀ r, r ≠ 16 → r ≠ 17 → Z1 r = Z r
theorem z_k.rf {Z : g_Wd} : z_k Z Z := fun _ _ _ => rfl
theorem z_k.tr {Z Z1 Z2 : g_Wd} (h : z_k Z Z1) (g : z_k Z1 Z2) : z_k Z Z2 := fun r a b => (g r a b).trans (h r a b)
def z_lay (Z : g_Wd) (r : Nat) (f : Nat → Int32) (j : Nat) : g_Wd := fun r' k => if r' = r ∧ k < j then f k else Z r' k
theorem z_lay_0 {Z : g_Wd} {r : Nat} {f : Nat → Int32} : Z = z_lay Z r f 0 := by funext r' k; unfold z_lay; rw [if_neg (by omega)]
theorem z_lay_s {Z Z1 : g_Wd} {r j : Nat} {f : Nat → Int32} (h : Z1 = z_lay Z r f j) : g_up2 Z1 r j (f j) = z_lay Z r f (j + 1) := by
  subst h; funext r' k
  unfold g_up2 z_lay
  by_cases h1 : r' = r ∧ k = j
  · rw [if_pos h1, if_pos (by omega), h1.2]
  · rw [if_neg h1]
    by_cases h2 : r' = r ∧ k < j
    · rw [if_pos h2, if_pos (by omega)]
    · rw [if_neg h2, if_neg (by omega)]
theorem z_lay_k {Z : g_Wd} {r j : Nat} {f : Nat → Int32} (h : r = 16 ∨ r = 17) : z_k Z (z_lay Z r f j) := fun r' a b => by funext k; unfold z_lay; rw [if_neg (by omega)]
theorem z_lay_at {Z : g_Wd} {r j k : Nat} {f : Nat → Int32} (h : k < j) : z_lay Z r f j r k = f k := by unfold z_lay; rw [if_pos ⟨rfl, h⟩]
theorem z_lay_ne {Z : g_Wd} {r r' j k : Nat} {f : Nat → Int32} (h : r' ≠ r) : z_lay Z r f j r' k = Z r' k := by unfold z_lay; rw [if_neg (by omega)]
/-- what will be of a message -/
abbrev s_endM (X : g_Wd) (m : Nat) : Nat → Int32 := x_end X m (3 + m)
def s_ndl (X : g_Wd) (m w : Nat) : Bool := !s_any (fun p => !decide (s_bel (s_endM X m) p = s_bel (s_endM (g_up2 X 1 (5 * w + 2) 1) m) p)) (s_len (X (3 + m)))
def s_bst (f : Nat → Int32) : Nat → Int32 × Int32
  | 0 => (0, -1)
  | k + 1 => if f k ≤ (s_bst f k).2 then s_bst f k else (nI k, f k)
def s_need (X : g_Wd) (m : Nat) : Nat := s_cnt (fun w => !s_ndl X m w) (s_W X)
def s_rA (X : g_Wd) (m a : Nat) : Int32 := nI (s_rigP (s_endM (g_up2 X 0 1 (nI a)) m))
def s_rC (X : g_Wd) (m w : Nat) : Int32 := nI (s_rigP (s_endM (g_up2 X 1 (5 * w + 2) 1) m))
def s_rW (X : g_Wd) (m w : Nat) (a b : Int32) : Nat := s_rigP (s_endM (x_storms X w a b) m)
def x_sameN (X : g_Wd) (m : Nat) (d : Int32) : Nat → g_Wd
  | 0 => X
  | p + 1 => x_dig (x_sameN X m d p) m p d
def x_bh0 (X : g_Wd) (h : Nat) : g_Wd := g_up2 (g_up2 X 0 3 0) 0 2 (X 0 2 + nI h)
def x_bh (X : g_Wd) (d : Int32) (len h : Nat) : g_Wd := x_sameN (x_beg (x_bh0 X h) (nI len)) 0 d len
def s_rS (X : g_Wd) (d : Int32) (len h : Nat) : Int32 := nI (s_rigP (s_endM (x_bh X d len h) 0))
theorem x_dgN_0 {X : g_Wd} {m p i r k : Nat} {d : Int32} (h : r ≠ 3 + m ∨ k < 5) : x_dgN X m p d i r k = X r k := by
  induction i with
  | zero => show g_up2 _ _ _ _ _ _ = _; unfold g_up2; rw [if_neg (by omega)]
  | succ i ih => show g_up2 _ _ _ _ _ _ = _; unfold g_up2; rw [if_neg (by omega)]; exact ih
theorem x_dig_0 {X : g_Wd} {m p r k : Nat} {d : Int32} (h : r ≠ 3 + m ∨ k < 5) : x_dig X m p d r k = X r k := x_dgN_0 h
theorem x_sameN_0 {X : g_Wd} {m p r k : Nat} {d : Int32} (h : r ≠ 3 + m ∨ k < 5) : x_sameN X m d p r k = X r k := by
  induction p with
  | zero => rfl
  | succ p ih => exact (x_dig_0 h).trans ih
theorem x_bh0_M {X : g_Wd} {h : Nat} : s_M (x_bh0 X h) = 0 ∧ x_bh0 X h 0 3 = nI 0 := by
  have e : x_bh0 X h 0 3 = 0 := by unfold x_bh0; simp [g_up2]
  exact ⟨by unfold s_M; rw [e]; rfl, e⟩
theorem x_beg_0 {X : g_Wd} {len : Int32} {r k : Nat} (h : r ≠ 3 + s_M X) (h2 : r ≠ 0 ∨ k ≠ 3) : x_beg X len r k = X r k := by
  unfold x_beg
  unfold g_up2 x_clr
  rw [if_neg (by omega), if_neg (by omega), if_neg (by omega), if_neg (by omega), if_neg (by omega)]
theorem x_beg_m {X : g_Wd} {len : Int32} {k : Nat} (hk : k < 197) : x_beg X len (3 + s_M X) k = if k = 4 then -1 else if k = 3 then X 0 2 else if k = 0 then len else 0 := by
  unfold x_beg
  rw [g_up2_row (by omega)]
  unfold g_up2 x_clr
  by_cases h4 : k = 4
  · rw [if_pos ⟨rfl, h4⟩, if_pos h4]
  · rw [if_neg (by omega), if_neg h4]
    by_cases h3 : k = 3
    · rw [if_pos ⟨rfl, h3⟩, if_pos h3]
    · rw [if_neg (by omega), if_neg h3]
      by_cases h0 : k = 0
      · rw [if_pos ⟨rfl, h0⟩, if_pos h0]
      · rw [if_neg (by omega), if_neg h0, if_pos ⟨rfl, hk⟩]
theorem x_beg_3 {X : g_Wd} {len : Int32} (h : s_M X < 6) : x_beg X len 0 3 = nI (s_M X + 1) ∧ s_M (x_beg X len) = s_M X + 1 := by
  have e : x_beg X len 0 3 = nI (s_M X + 1) := by unfold x_beg; rw [g_up2_own]; unfold upd; rw [if_pos rfl]
  exact ⟨e, by rw [s_M, e]; exact nI_clamp (by omega)⟩
/-- a message that begins: the world still goes on -/
theorem s_wm.beg {b len : Nat} {X : g_Wd} (h : s_wm b X) (hM : s_M X < 6) (hl : len ≤ 12) : s_wm b (x_beg X (nI len)) := by
  have e3 := x_beg_3 (X := X) (len := nI len) hM
  have e0 : ∀ k, k ≠ 3 → x_beg X (nI len) 0 k = X 0 k := fun k hk => x_beg_0 (by omega) (Or.inr hk)
  have eL : s_L (x_beg X (nI len)) = s_L X := by unfold s_L; rw [e0 0 (by omega)]
  have eA : s_A (x_beg X (nI len)) = s_A X := by unfold s_A; rw [e0 1 (by omega)]
  have eH : s_H (x_beg X (nI len)) = s_H X := by unfold s_H; rw [e0 2 (by omega)]
  have er : ∀ m k, m ≠ s_M X → x_beg X (nI len) (3 + m) k = X (3 + m) k := fun m k hm => x_beg_0 (by omega) (Or.inl (by omega))
  obtain ⟨⟨⟨h1, h2, h3, h4⟩, h5⟩, h6, h7, h8⟩ := h
  have el : s_len (x_beg X (nI len) (3 + s_M X)) = len := by unfold s_len; rw [x_beg_m (by omega)]; exact nI_clamp (by omega)
  have ev : s_lev (x_beg X (nI len) (3 + s_M X)) = 0 := by unfold s_lev; rw [x_beg_m (by omega)]; rfl
  have ek : s_ask (x_beg X (nI len) (3 + s_M X)) = 0 := by unfold s_ask; rw [x_beg_m (by omega)]; rfl
  refine ⟨⟨⟨by rw [eL, e0 0 (by omega)]; exact h1, by rw [e3.2]; exact ⟨e3.1, by omega⟩, s_okG_of (e0 4 (by omega)) h3, fun m hm => ?_⟩, fun m hm => ?_⟩, by rw [eA, e0 1 (by omega)]; exact h6, by rw [eH, e0 2 (by omega)]; exact h7, fun m hm => ?_⟩ <;> rw [e3.2] at hm <;> by_cases e : m = s_M X
  · subst e; exact ⟨by rw [el, x_beg_m (by omega)]; rfl, by omega⟩
  · exact s_okL_of (er m 0 e) (h4 m (by omega))
  · subst e; rw [ev, x_beg_m (by omega), eL]; exact ⟨rfl, by omega⟩
  · rw [s_lev_of (er m 1 e), er m 1 e, eL]; exact h5 m (by omega)
  · subst e; exact ⟨by rw [ek, x_beg_m (by omega)]; rfl, by omega⟩
  · exact s_okA_of (er m 2 e) (h8 m (by omega))
theorem s_wm.of5 {b : Nat} {X Y : g_Wd} (h : s_wm b X) (e : ∀ r k, (r ≠ 0 → 3 ≤ r) → k < 5 → Y r k = X r k) : s_wm b Y ∧ s_M Y = s_M X := by
  have eL : s_L Y = s_L X := by unfold s_L; rw [e 0 0 (by omega) (by omega)]
  have eM : s_M Y = s_M X := by unfold s_M; rw [e 0 3 (by omega) (by omega)]
  have eA : s_A Y = s_A X := by unfold s_A; rw [e 0 1 (by omega) (by omega)]
  have eH : s_H Y = s_H X := by unfold s_H; rw [e 0 2 (by omega) (by omega)]
  obtain ⟨⟨⟨h1, h2, h3, h4⟩, h5⟩, h6, h7, h8⟩ := h
  refine ⟨⟨⟨⟨by rw [eL, e 0 0 (by omega) (by omega)]; exact h1, by rw [eM, e 0 3 (by omega) (by omega)]; exact h2, s_okG_of (e 0 4 (by omega) (by omega)) h3, fun m hm => ?_⟩, fun m hm => ?_⟩, by rw [eA, e 0 1 (by omega) (by omega)]; exact h6, by rw [eH, e 0 2 (by omega) (by omega)]; exact h7, fun m hm => ?_⟩, eM⟩ <;> rw [eM] at hm
  · exact s_okL_of (e (3 + m) 0 (by omega) (by omega)) (h4 m hm)
  · rw [s_lev_of (e (3 + m) 1 (by omega) (by omega)), e (3 + m) 1 (by omega) (by omega), eL]; exact h5 m hm
  · exact s_okA_of (e (3 + m) 2 (by omega) (by omega)) (h8 m hm)
theorem s_wm.dig {b m p : Nat} {X : g_Wd} {d : Int32} (h : s_wm b X) : s_wm b (x_dig X m p d) ∧ s_M (x_dig X m p d) = s_M X := h.of5 (fun r k _ hk => x_dig_0 (Or.inr hk))
theorem s_wm.sameN {b m p : Nat} {X : g_Wd} {d : Int32} (h : s_wm b X) : s_wm b (x_sameN X m d p) ∧ s_M (x_sameN X m d p) = s_M X := h.of5 (fun r k _ hk => x_sameN_0 (Or.inr hk))
theorem s_wm.bh0 {b h0 : Nat} {X : g_Wd} (h : s_wm b X) (hb : b + h0 < 2 ^ 31) : s_wm (b + h0) (x_bh0 X h0) := by
  have hm := x_bh0_M (X := X) (h := h0)
  have e : ∀ k, k ≠ 2 → k ≠ 3 → x_bh0 X h0 0 k = X 0 k := fun k h2 h3 => by unfold x_bh0; unfold g_up2; rw [if_neg (by omega), if_neg (by omega)]
  have e2 : x_bh0 X h0 0 2 = nI (s_H X + h0) := by
    unfold x_bh0; rw [g_up2_own]; unfold upd; rw [if_pos rfl, h.2.2.1.1, nI_add]
  have eH : s_H (x_bh0 X h0) = s_H X + h0 := by have := h.2.2.1.2; rw [s_H, e2]; exact nI_clamp (by omega)
  have eL : s_L (x_bh0 X h0) = s_L X := by unfold s_L; rw [e 0 (by omega) (by omega)]
  have eA : s_A (x_bh0 X h0) = s_A X := by unfold s_A; rw [e 1 (by omega) (by omega)]
  obtain ⟨⟨⟨h1, h2, h3, h4⟩, h5⟩, h6, h7, h8⟩ := h
  exact ⟨⟨⟨by rw [eL, e 0 (by omega) (by omega)]; exact h1, by rw [hm.1]; exact ⟨hm.2, by omega⟩, s_okG_of (e 4 (by omega) (by omega)) h3, fun m hm2 => by omega⟩, fun m hm2 => by omega⟩, by rw [eA, e 1 (by omega) (by omega)]; exact h6, by rw [eH]; exact ⟨e2, by omega⟩, fun m hm2 => by omega⟩
theorem x_pH_len {b n m : Nat} {X : g_Wd} (h : s_wm b X) (hb : b + n < 2 ^ 31) (hm : m < s_M X) : x_pH X n (3 + m) 0 = X (3 + m) 0 := by
  induction n with
  | zero => rfl
  | succ n ih =>
    have h1 := x_pH_wm h (n := n) (by omega)
    have h2 : ∀ i, i ≤ s_M (x_pH X n) → x_pM (x_pH X n) i (3 + m) 0 = x_pH X n (3 + m) 0 := by
      intro i hi
      induction i with
      | zero => rfl
      | succ i ih2 =>
        have h3 := x_pM_wm h1.1 (n := i) (by omega)
        have e : x_pM (x_pH X n) (i + 1) = if x_pM (x_pH X n) i (3 + i) 4 = -1 then x_moves (x_pM (x_pH X n) i) i else x_pM (x_pH X n) i := rfl
        rw [e]
        split
        · have hk := k_m.moves (X := x_pM (x_pH X n) i) (h3.1.1.1.2.2.2 i (by omega))
          by_cases q : i = m
          · subst q; rw [hk.2.2.2.1]; exact ih2 (by omega)
          · rw [hk.2.2.1 (3 + m) 0 (by omega) (by omega)]; exact ih2 (by omega)
        · exact ih2 (by omega)
    show g_up2 (x_pM (x_pH X n) (s_M X)) 0 2 _ (3 + m) 0 = _
    rw [g_up2_row (by omega), h2 (s_M X) (by omega)]; exact ih (by omega)
theorem k_end_len {X : g_Wd} {m : Nat} (h : s_wk X) (hm : m < s_M X) : s_len (s_endM X m) = s_len (X (3 + m)) := s_len_of (x_pH_len h (by have := (h.arv hm).2.1; omega) hm)
theorem s_bst_1 {f : Nat → Int32} {n : Nat} (h : f 0 = nI n) (hn : n < 2 ^ 31) : s_bst f 1 = (0, f 0) := by
  show (if f 0 ≤ (-1 : Int32) then _ else _) = _
  rw [if_neg]
  · rfl
  · intro z
    rw [h] at z
    have h1 := Int32.le_iff_toInt_le.mp z
    rw [nI_toInt hn] at h1
    have h2 : (-1 : Int32).toInt = -1 := by decide
    omega
theorem s_rigP_le {X : g_Wd} {m : Nat} (h : s_wk X) (hm : m < s_M X) : s_rigP (s_endM X m) ≤ 12 := Nat.le_trans (s_cnt_le _ _) (by rw [k_end_len h hm]; exact (h.1.1.2.2.2 m hm).2)
theorem s_rW_le {X : g_Wd} {m w : Nat} (h : s_wk X) (hm : m < s_M X) (a b : Int32) : s_rW X m w a b ≤ 12 := s_rigP_le (h.storms (w := w) (u := a) (v := b)).1 (by rw [(h.storms (w := w) (u := a) (v := b)).2]; exact hm)
def s_lsM (X : g_Wd) (j w : Nat) : Int32 := if s_fstN (fun k => decide (s_rW X j w (nI (k + 1)) (X 1 (5 * w + 1)) < s_rW X j w 0 (X 1 (5 * w + 1)))) 9 = -1 then -1 else s_fstN (fun k => decide (s_rW X j w (nI (k + 1)) (X 1 (5 * w + 1)) < s_rW X j w 0 (X 1 (5 * w + 1)))) 9 + 1
