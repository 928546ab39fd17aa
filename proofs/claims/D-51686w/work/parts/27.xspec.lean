/-! WHAT CHANGES A WORLD, as plain functions of its table -/
set_option maxRecDepth 100000
def s_lev (M : Nat → Int32) : Nat := (M 1).toNatClampNeg
def s_ask (M : Nat → Int32) : Nat := (M 2).toNatClampNeg
def s_H (X : g_Wd) : Nat := (X 0 2).toNatClampNeg
def s_A (X : g_Wd) : Nat := (X 0 1).toNatClampNeg
def x_storms (X : g_Wd) (w : Nat) (a b : Int32) : g_Wd := g_up2 (g_up2 X 1 (5 * w + 0) a) 1 (5 * w + 1) b
def x_sendX (X : g_Wd) (w : Nat) (p : Int32) : g_Wd :=
  if X 1 (5 * w + 2) = 1 then g_up2 (g_up2 (g_up2 X 0 5 (X 0 5 + 1)) 1 (5 * w + 3) (X 1 (5 * w + 3) + 1)) 0 7 (X 0 7 + 1)
  else if s_garb (X 1) w (X 0 2) p = true then g_up2 (g_up2 (g_up2 (g_up2 X 0 5 (X 0 5 + 1)) 1 (5 * w + 3) (X 1 (5 * w + 3) + 1)) 0 6 (X 0 6 + 1)) 1 (5 * w + 4) (X 1 (5 * w + 4) + 1)
  else g_up2 (g_up2 X 0 5 (X 0 5 + 1)) 1 (5 * w + 3) (X 1 (5 * w + 3) + 1)
def x_sendR (X : g_Wd) (w : Nat) (p d : Int32) : Int32 := if X 1 (5 * w + 2) = 1 then -1 else s_arr (X 1) w (X 0 2) p d
def x_g1 (Y : g_Wd) (m i p f : Nat) : g_Wd :=
  if Y (3 + m) (53 + 12 * f + p) = -1 then g_up2 Y (3 + m) (89 + 3 * (12 * i + p) + f) (-1)
  else g_up2 (x_sendX Y (9 * (s_lev (Y (3 + m)) - 1) + 3 * f + i) (nI p)) (3 + m) (89 + 3 * (12 * i + p) + f) (x_sendR Y (9 * (s_lev (Y (3 + m)) - 1) + 3 * f + i) (nI p) (Y (3 + m) (53 + 12 * f + p)))
def x_gN (X : g_Wd) (m i p : Nat) : Nat → g_Wd
  | 0 => X
  | f + 1 => x_g1 (x_gN X m i p f) m i p f
def x_gets (X : g_Wd) (m i p : Nat) : g_Wd := g_up2 (x_gN X m i p 3) (3 + m) (17 + 12 * i + p) (s_votedAt (x_gN X m i p 3 (3 + m)) i p)
def x_a1 (Y : g_Wd) (m i p : Nat) : g_Wd := if s_has (Y (3 + m)) i p = -1 then x_gets (g_up2 Y 0 8 (Y 0 8 + 1)) m i p else Y
def x_aR (X : g_Wd) (m i : Nat) : Nat → g_Wd
  | 0 => X
  | p + 1 => x_a1 (x_aR X m i p) m i p
def x_aN (X : g_Wd) (m : Nat) : Nat → g_Wd
  | 0 => X
  | i + 1 => x_aR (x_aN X m i) m i (s_len (X (3 + m)))
def x_shN (X : g_Wd) (j : Nat) : g_Wd := fun r k => if r = 2 ∧ k < j then X 2 (k + 4) else X r k
/-- the log's end, its oldest row gone if it is full -/
def x_log0 (X : g_Wd) : g_Wd := if X 0 4 = 40 then g_up2 (x_shN X 156) 0 4 (nI 39) else X
def x_log1 (Y : g_Wd) (kind : Int32) (m : Nat) : g_Wd :=
  g_up2 (g_up2 (g_up2 (g_up2 (g_up2 Y 2 (4 * s_G Y) (Y 0 2)) 2 (4 * s_G Y + 1) kind) 2 (4 * s_G Y + 2) (nI m)) 2 (4 * s_G Y + 3) (Y (3 + m) 1)) 0 4 (nI (s_G Y + 1))
def x_log (X : g_Wd) (kind : Int32) (m : Nat) : g_Wd := x_log1 (x_log0 X) kind m
def x_asks0 (X : g_Wd) (m : Nat) : g_Wd := g_up2 (x_aN X m 3) (3 + m) 2 (x_aN X m 3 (3 + m) 2 + 1)
def x_asks (X : g_Wd) (m : Nat) : g_Wd := x_log (x_asks0 X m) 2 m
def x_hN (X : g_Wd) (m : Nat) : Nat → g_Wd
  | 0 => X
  | k + 1 => g_up2 (x_hN X m k) (3 + m) (53 + k) (x_hN X m k (3 + m) (17 + k))
def x_oR (Y : g_Wd) (m i : Nat) : Nat → g_Wd
  | 0 => Y
  | p + 1 => x_gets (x_oR Y m i p) m i p
def x_oN (Y : g_Wd) (m : Nat) : Nat → g_Wd
  | 0 => Y
  | i + 1 => x_oR (x_oN Y m i) m i (s_len (Y (3 + m)))
def x_lv (X : g_Wd) (m : Nat) : g_Wd := g_up2 (g_up2 (x_hN X m 36) (3 + m) 1 (nI (s_lev (X (3 + m)) + 1))) (3 + m) 2 0
def x_goes0 (X : g_Wd) (m : Nat) : g_Wd := x_oN (x_lv X m) m 3
def x_goes (X : g_Wd) (m : Nat) : g_Wd := x_log (x_goes0 X m) 1 m
def x_mv1 (X : g_Wd) (m : Nat) : g_Wd := if s_will X m = true then x_asks X m else if X (3 + m) 1 < nI (s_L X - 1) then x_goes X m else X
def x_moves (X : g_Wd) (m : Nat) : g_Wd := if s_mayA (x_mv1 X m) m = true then x_log (g_up2 (x_mv1 X m) (3 + m) 4 (x_mv1 X m 0 2)) 3 m else x_mv1 X m
def x_pM (X : g_Wd) : Nat → g_Wd
  | 0 => X
  | m + 1 => if x_pM X m (3 + m) 4 = -1 then x_moves (x_pM X m) m else x_pM X m
def x_pH (X : g_Wd) : Nat → g_Wd
  | 0 => X
  | n + 1 => g_up2 (x_pM (x_pH X n) (s_M X)) 0 2 (x_pM (x_pH X n) (s_M X) 0 2 + 1)
def x_clr (X : g_Wd) (r j : Nat) : g_Wd := fun r' k => if r' = r ∧ k < j then 0 else X r' k
def x_beg (X : g_Wd) (len : Int32) : g_Wd := g_up2 (g_up2 (g_up2 (g_up2 (x_clr X (3 + s_M X) 197) (3 + s_M X) 0 len) (3 + s_M X) 3 (X 0 2)) (3 + s_M X) 4 (-1)) 0 3 (nI (s_M X + 1))
def x_dgN (X : g_Wd) (m p : Nat) (d : Int32) : Nat → g_Wd
  | 0 => g_up2 X (3 + m) (5 + p) d
  | i + 1 => g_up2 (x_dgN X m p d i) (3 + m) (17 + 12 * i + p) d
def x_dig (X : g_Wd) (m p : Nat) (d : Int32) : g_Wd := x_dgN X m p d 3
/-- what a hut's getting of copies keeps -/
def k_g (m : Nat) (X Y : g_Wd) : Prop :=
  (∀ k, k < 5 → Y 0 k = X 0 k) ∧ (∀ w, Y 1 (5 * w + 0) = X 1 (5 * w + 0) ∧ Y 1 (5 * w + 1) = X 1 (5 * w + 1) ∧ Y 1 (5 * w + 2) = X 1 (5 * w + 2)) ∧ (∀ k, Y 2 k = X 2 k) ∧ (∀ r k, 3 ≤ r → r ≠ 3 + m → Y r k = X r k) ∧ (∀ k, k < 17 → Y (3 + m) k = X (3 + m) k) ∧ (∀ k, 53 ≤ k → k < 89 → Y (3 + m) k = X (3 + m) k)
theorem k_g.rf {m : Nat} {X : g_Wd} : k_g m X X := ⟨fun _ _ => rfl, fun _ => ⟨rfl, rfl, rfl⟩, fun _ => rfl, fun _ _ _ _ => rfl, fun _ _ => rfl, fun _ _ _ => rfl⟩
theorem k_g.tr {m : Nat} {X Y Z : g_Wd} (h : k_g m X Y) (g : k_g m Y Z) : k_g m X Z :=
  ⟨fun k a => (g.1 k a).trans (h.1 k a), fun w => ⟨(g.2.1 w).1.trans (h.2.1 w).1, (g.2.1 w).2.1.trans (h.2.1 w).2.1, (g.2.1 w).2.2.trans (h.2.1 w).2.2⟩, fun k => (g.2.2.1 k).trans (h.2.2.1 k), fun r k a b => (g.2.2.2.1 r k a b).trans (h.2.2.2.1 r k a b), fun k a => (g.2.2.2.2.1 k a).trans (h.2.2.2.2.1 k a), fun k a b => (g.2.2.2.2.2 k a b).trans (h.2.2.2.2.2 k a b)⟩
theorem k_g.msg {m : Nat} {X : g_Wd} {k : Nat} {v : Int32} (h : (17 ≤ k ∧ k < 53) ∨ 89 ≤ k) : k_g m X (g_up2 X (3 + m) k v) := by
  refine ⟨fun j hj => ?_, fun w => ⟨?_, ?_, ?_⟩, fun j => ?_, fun r j h1 h2 => ?_, fun j hj => ?_, fun j h1 h2 => ?_⟩ <;> unfold g_up2 <;> rw [if_neg (by omega)]
theorem k_g.num {m : Nat} {X : g_Wd} {k : Nat} {v : Int32} (h : 5 ≤ k) : k_g m X (g_up2 X 0 k v) := by
  refine ⟨fun j hj => ?_, fun w => ⟨?_, ?_, ?_⟩, fun j => ?_, fun r j h1 h2 => ?_, fun j hj => ?_, fun j h1 h2 => ?_⟩ <;> unfold g_up2 <;> rw [if_neg (by omega)]
theorem k_g.wire {m : Nat} {X : g_Wd} {w k : Nat} {v : Int32} (h : 3 ≤ k) (h2 : k < 5) : k_g m X (g_up2 X 1 (5 * w + k) v) := by
  refine ⟨fun j hj => ?_, fun w => ⟨?_, ?_, ?_⟩, fun j => ?_, fun r j h1 h2 => ?_, fun j hj => ?_, fun j h1 h2 => ?_⟩ <;> unfold g_up2 <;> rw [if_neg (by omega)]
theorem x_sendX_k (m : Nat) (X : g_Wd) (w : Nat) (p : Int32) : k_g m X (x_sendX X w p) := by
  have h1 := ((k_g.num (m := m) (X := X) (k := 5) (v := X 0 5 + 1) (by omega)).tr (k_g.wire (w := w) (k := 3) (v := X 1 (5 * w + 3) + 1) (by omega) (by omega)))
  unfold x_sendX
  split
  · exact h1.tr (k_g.num (by omega))
  · split
    · exact (h1.tr (k_g.num (by omega))).tr (k_g.wire (by omega) (by omega))
    · exact h1
theorem x_g1_k (X : g_Wd) (m i p f : Nat) : k_g m X (x_g1 X m i p f) := by
  unfold x_g1
  split
  · exact k_g.msg (by omega)
  · exact (x_sendX_k m X _ _).tr (k_g.msg (by omega))
theorem x_gN_k (X : g_Wd) (m i p f : Nat) : k_g m X (x_gN X m i p f) := by
  induction f with
  | zero => exact k_g.rf
  | succ f ih => exact ih.tr (x_g1_k _ m i p f)
theorem x_gets_k (X : g_Wd) {m i p : Nat} (hi : i < 3) (hp : p < 12) : k_g m X (x_gets X m i p) := (x_gN_k X m i p 3).tr (k_g.msg (by omega))
theorem x_a1_k (X : g_Wd) {m i p : Nat} (hi : i < 3) (hp : p < 12) : k_g m X (x_a1 X m i p) := by
  unfold x_a1
  split
  · exact (k_g.num (by omega)).tr (x_gets_k _ hi hp)
  · exact k_g.rf
theorem x_aR_k (X : g_Wd) {m i p : Nat} (hi : i < 3) (hp : p ≤ 12) : k_g m X (x_aR X m i p) := by
  induction p with
  | zero => exact k_g.rf
  | succ p ih => exact (ih (by omega)).tr (x_a1_k _ hi (by omega))
theorem x_aN_k (X : g_Wd) {m i : Nat} (hi : i ≤ 3) (hl : s_len (X (3 + m)) ≤ 12) : k_g m X (x_aN X m i) := by
  induction i with
  | zero => exact k_g.rf
  | succ i ih => exact (ih (by omega)).tr (x_aR_k _ (by omega) hl)
theorem x_oR_k (X : g_Wd) {m i p : Nat} (hi : i < 3) (hp : p ≤ 12) : k_g m X (x_oR X m i p) := by
  induction p with
  | zero => exact k_g.rf
  | succ p ih => exact (ih (by omega)).tr (x_gets_k _ hi (by omega))
theorem x_oN_k (X : g_Wd) {m i : Nat} (hi : i ≤ 3) (hl : s_len (X (3 + m)) ≤ 12) : k_g m X (x_oN X m i) := by
  induction i with
  | zero => exact k_g.rf
  | succ i ih => exact (ih (by omega)).tr (x_oR_k _ (by omega) hl)
theorem k_g.len {m : Nat} {X Y : g_Wd} (h : k_g m X Y) : s_len (Y (3 + m)) = s_len (X (3 + m)) := by unfold s_len; rw [h.2.2.2.2.1 0 (by omega)]
theorem k_g.lev {m : Nat} {X Y : g_Wd} (h : k_g m X Y) : s_lev (Y (3 + m)) = s_lev (X (3 + m)) := by unfold s_lev; rw [h.2.2.2.2.1 1 (by omega)]
def s_may (a b d : Int32) : Int32 := if a = 0 then 1 else if b = 0 then 2 else if d = 0 then 3 else 0
