/-! changes: what is remembered, sent, dropped, turned -/
set_option maxRecDepth 100000
def x_sh8 (U : Nat → g_Wd) : Nat → g_Wd := fun k => if k < 7 then U (k + 1) else U k
def x_um (u : Nat) : Nat := if u = 8 then 8 else u + 1
def x_rem (U : Nat → g_Wd) (u : Nat) (X : g_Wd) : Nat → g_Wd := if u = 8 then va_up (x_sh8 U) 7 X else va_up U u X
def c_shN (U : Nat → g_Wd) (j : Nat) : Nat → Int32 := fun q => if q < j then g_fls U (q + 1576) else g_fls U q
theorem c_shN_0 {U : Nat → g_Wd} : g_fls U = c_shN U 0 := by funext q; unfold c_shN; rw [if_neg (by omega)]
theorem c_shN_s {U : Nat → g_Wd} {c3 : Nat → Int32} {j : Nat} (h : c3 = c_shN U j) : upd c3 j (c3 (j + 1576)) = c_shN U (j + 1) := by
  subst h; funext q
  unfold upd c_shN
  by_cases e : q = j
  · subst e; rw [if_pos rfl, if_neg (by omega), if_pos (by omega)]
  · rw [if_neg e]
    by_cases h2 : q < j
    · rw [if_pos h2, if_pos (by omega)]
    · rw [if_neg h2, if_neg (by omega)]
theorem c_sh8 {U : Nat → g_Wd} : ∀ q, q < 12608 → c_shN U 11032 q = g_fls (x_sh8 U) q := by
  intro q hq
  unfold c_shN g_fls x_sh8
  by_cases h : q < 11032
  · rw [if_pos h, if_pos (by omega), show (q + 1576) / 1576 = q / 1576 + 1 by omega, show (q + 1576) % 1576 = q % 1576 by omega]
  · rw [if_neg h, if_neg (by omega)]
def g_Mod3 (G : g_G) (ad : Nat → Nat) (F : Nat → Int32) (X Y : g_Wd) (V : Nat → g_Wd) (Z : g_Wd) (c3 : Nat → Int32) (H : Heap) : Prop :=
  (∀ r ∈ md_dm, r ≠ 3 → g_at G H (ad r) (md_ct G ad F X Y (fun _ => X) V Z r)) ∧ g_at G H (ad 3) (g_ai G 0 12608 c3) ∧ (∀ r ∈ md_dm, ∀ r' ∈ md_dm, ad r = ad r' → r = r')
section G3
variable {G : g_G} {ad : Nat → Nat} {F : Nat → Int32} {X Y : g_Wd} {U V : Nat → g_Wd} {Z : g_Wd} {H H1 : Heap} {c3 : Nat → Int32}
theorem g_Mod.to3 (h : g_Mod G ad F X Y U V Z H) : g_Mod3 G ad F X Y V Z (g_fls U) H := by
  refine ⟨fun r hr h3 => ?_, h.a3, h.2⟩
  rw [md_ctU (U := U) (U' := fun _ => X) r hr h3]; exact h.1 r hr
theorem g_Mod3.of (h : g_Mod3 G ad F X Y V Z c3 H) (e : ∀ q, q < 12608 → c3 q = g_fls U q) : g_Mod G ad F X Y U V Z H := by
  refine ⟨fun r hr => ?_, h.2.2⟩
  by_cases h3 : r = 3
  · subst h3; exact h.2.1.cg e
  · rw [md_ctU (U := fun _ => X) (U' := U) r hr h3]; exact h.1 r hr h3
theorem g_Mod3.ob (h : g_Mod3 G ad F X Y V Z c3 H) : g_at G H (ad 0) (g_ob 1 (md_fs F ad)) := h.1 0 (by decide) (by decide)
theorem g_Mod3.up (h : g_Mod3 G ad F X Y V Z c3 H) {c : Nat → Int32} (h9 : g_at G H1 (ad 3) (g_ai G 0 12608 c)) (o9 : ∀ q : Nat, q ≠ ad 3 → H1[q]? = H[q]?) : g_Mod3 G ad F X Y V Z c H1 :=
  ⟨fun r hr h3 => (h.1 r hr h3).kept (o9 _ (fun z => h3 (h.2.2 r hr 3 (by decide) z))), h9, h.2.2⟩
end G3
def s_dn : Nat → Int32
  | 0 => -1
  | q + 1 => nI q
theorem s_dn_s (q : Nat) : nI q + (-1) = s_dn q := by
  cases q with
  | zero => rfl
  | succ q => exact pk_m1 q
theorem s_dn_1 {q : Nat} (h : 1 ≤ q) : s_dn q = nI (q - 1) := by
  cases q with
  | zero => omega
  | succ q => rfl
def x_sdR (Y : g_Wd) (m rest : Nat) : Nat → g_Wd
  | 0 => Y
  | q + 1 => x_sdR (x_dig Y m q (nI (rest % 10))) m (rest / 10) q
theorem x_sdR_0 {m r k : Nat} (h : r ≠ 3 + m ∨ k < 5) : ∀ (q rest : Nat) (Y : g_Wd), x_sdR Y m rest q r k = Y r k := by
  intro q
  induction q with
  | zero => intro rest Y; rfl
  | succ q ih => intro rest Y; show x_sdR (x_dig Y m q _) m (rest / 10) q r k = _; rw [ih]; exact x_dig_0 h
def x_fN (Y : g_Wd) (o : Nat) (f : Nat → Int32) : Nat → g_Wd
  | 0 => Y
  | p + 1 => x_dig (x_fN Y o f p) o p (f p)
theorem x_fN_0 {Y : g_Wd} {o p r k : Nat} {f : Nat → Int32} (h : r ≠ 3 + o ∨ k < 5) : x_fN Y o f p r k = Y r k := by
  induction p with
  | zero => rfl
  | succ p ih => exact (x_dig_0 h).trans ih
def x_sendS (X : g_Wd) (d : Int32) (len : Nat) : g_Wd := x_log (x_sameN (x_beg X (nI len)) (s_M X) d len) 0 (s_M X)
def x_sendD (X : g_Wd) (dn len : Nat) : g_Wd := x_log (x_sdR (x_beg X (nI len)) (s_M X) dn len) 0 (s_M X)
def x_sendM (X : g_Wd) (m : Nat) : g_Wd := x_log (x_fN (x_beg X (nI (s_len (X (3 + m))))) (s_M X) (fun p => s_dig (X (3 + m)) p) (s_len (X (3 + m)))) 0 (s_M X)
theorem x_beg_04 {X : g_Wd} {len : Int32} : x_beg X len 0 4 = X 0 4 := x_beg_0 (by omega) (Or.inr (by omega))
/-- the wires' numbers of one kind set to 0 -/
def x_cW (X : g_Wd) (k j : Nat) : g_Wd := fun r q => if r = 1 ∧ (∃ w, w < j ∧ q = 5 * w + k) then 0 else X r q
theorem x_cW_0 {X : g_Wd} {k : Nat} : X = x_cW X k 0 := by
  funext r q; unfold x_cW; rw [if_neg (by rintro ⟨-, w, h, -⟩; omega)]
theorem x_cW_s {X X1 : g_Wd} {k j : Nat} (h : X1 = x_cW X k j) : g_up2 X1 1 (5 * j + k) 0 = x_cW X k (j + 1) := by
  subst h; funext r q
  unfold g_up2 x_cW
  by_cases h1 : r = 1 ∧ q = 5 * j + k
  · rw [if_pos h1, if_pos ⟨h1.1, j, by omega, h1.2⟩]
  · rw [if_neg h1]
    by_cases h2 : r = 1 ∧ ∃ w, w < j ∧ q = 5 * w + k
    · rw [if_pos h2, if_pos]
      obtain ⟨a, w, b, c⟩ := h2
      exact ⟨a, w, by omega, c⟩
    · rw [if_neg h2, if_neg]
      rintro ⟨a, w, b, c⟩
      by_cases e : w = j
      · subst e; exact h1 ⟨a, c⟩
      · exact h2 ⟨a, w, by omega, c⟩
theorem x_cW_r {X : g_Wd} {k j r : Nat} (h : r ≠ 1) : x_cW X k j r = X r := by
  funext q; unfold x_cW; rw [if_neg (fun z => h z.1)]
/-- a level's storms and phases go on by a hut -/
def x_tuN (X : g_Wd) (k : Nat) (a b : Nat → Int32) : Nat → g_Wd
  | 0 => X
  | w + 1 => x_storms (x_tuN X k a b w) (9 * k + w) (a ((w + 6) % 9)) (b ((w + 6) % 9))
def s_lvS (X : g_Wd) (k w : Nat) : Int32 := X 1 (5 * (9 * k + w) + 0)
def s_lvP (X : g_Wd) (k w : Nat) : Int32 := X 1 (5 * (9 * k + w) + 1)
def x_turn (X : g_Wd) (k : Nat) : g_Wd := x_tuN X k (s_lvS X k) (s_lvP X k) 9
def s_turn (X : g_Wd) (k : Nat) : Nat := s_cnt (fun w => !decide (s_lvS X k ((w + 6) % 9) = s_lvS X k w)) 9
theorem x_tuN_0 {X : g_Wd} {k w r q : Nat} {a b : Nat → Int32} (h : r ≠ 1) : x_tuN X k a b w r q = X r q := by
  induction w with
  | zero => rfl
  | succ w ih => show x_storms _ _ _ _ r q = _; unfold x_storms; rw [g_up2_row h, g_up2_row h]; exact ih
/-- a message dropped: those behind it move -/
def x_drN (X : g_Wd) (m j : Nat) : g_Wd := fun r k => if 3 + m ≤ r ∧ r < 3 + m + j ∧ k < 197 then X (r + 1) k else X r k
def x_drK (X : g_Wd) (m j q : Nat) : g_Wd := fun r k => if (3 + m ≤ r ∧ r < 3 + m + j ∧ k < 197) ∨ (r = 3 + m + j ∧ k < q) then X (r + 1) k else X r k
theorem x_drN_0 {X : g_Wd} {m : Nat} : X = x_drN X m 0 := by funext r k; unfold x_drN; rw [if_neg (by omega)]
theorem x_drK_0 {X X1 : g_Wd} {m j : Nat} (h : X1 = x_drN X m j) : X1 = x_drK X m j 0 := by
  subst h; funext r k; unfold x_drN x_drK
  by_cases h1 : 3 + m ≤ r ∧ r < 3 + m + j ∧ k < 197
  · rw [if_pos h1, if_pos (Or.inl h1)]
  · rw [if_neg h1, if_neg (by omega)]
theorem x_drK_s {X X1 : g_Wd} {m j q : Nat} (h : X1 = x_drK X m j q) : g_up2 X1 (3 + (m + j)) q (X1 (3 + (m + j + 1)) q) = x_drK X m j (q + 1) := by
  subst h; funext r k
  unfold g_up2
  by_cases h1 : r = 3 + (m + j) ∧ k = q
  · rw [if_pos h1]
    unfold x_drK
    rw [if_neg (by omega), if_pos (by omega), h1.1, h1.2]; congr 1
  · rw [if_neg h1]
    unfold x_drK
    by_cases h2 : (3 + m ≤ r ∧ r < 3 + m + j ∧ k < 197) ∨ (r = 3 + m + j ∧ k < q)
    · rw [if_pos h2, if_pos (by omega)]
    · rw [if_neg h2, if_neg (by omega)]
theorem x_drK_n {X X1 : g_Wd} {m j : Nat} (h : X1 = x_drK X m j 197) : X1 = x_drN X m (j + 1) := by
  subst h; funext r k; unfold x_drN x_drK
  by_cases h1 : (3 + m ≤ r ∧ r < 3 + m + j ∧ k < 197) ∨ (r = 3 + m + j ∧ k < 197)
  · rw [if_pos h1, if_pos (by omega)]
  · rw [if_neg h1, if_neg (by omega)]
theorem x_drN_r {X : g_Wd} {m j r : Nat} (h : r < 3) : x_drN X m j r = X r := by funext k; unfold x_drN; rw [if_neg (by omega)]
theorem x_drK_r {X : g_Wd} {m j q r : Nat} (h : r < 3) : x_drK X m j q r = X r := by funext k; unfold x_drK; rw [if_neg (by omega)]
/-- the log without a message -/
def x_dlC (Y : g_Wd) (k n : Nat) : Nat → g_Wd
  | 0 => Y
  | q + 1 => g_up2 (x_dlC Y k n q) 2 (4 * n + q) (x_dlC Y k n q 2 (4 * k + q))
def x_dl1 (Y : g_Wd) (m k n : Nat) : g_Wd := g_up2 (x_dlC Y k n 4) 2 (4 * n + 2) (if nI m < Y 2 (4 * k + 2) then Y 2 (4 * k + 2) - 1 else Y 2 (4 * k + 2))
theorem x_dlC_r {Y : g_Wd} {k n q r : Nat} (h : r ≠ 2) : x_dlC Y k n q r = Y r := by
  induction q with
  | zero => rfl
  | succ q ih => show g_up2 _ _ _ _ r = _; rw [g_up2_row h]; exact ih
def x_dlN (X : g_Wd) (m : Nat) : Nat → g_Wd × Nat
  | 0 => (X, 0)
  | k + 1 => if (x_dlN X m k).1 2 (4 * k + 2) = nI m then x_dlN X m k else (x_dl1 (x_dlN X m k).1 m k (x_dlN X m k).2, (x_dlN X m k).2 + 1)
theorem x_dlN_s {X : g_Wd} {m k : Nat} : x_dlN X m (k + 1) = if (x_dlN X m k).1 2 (4 * k + 2) = nI m then x_dlN X m k else (x_dl1 (x_dlN X m k).1 m k (x_dlN X m k).2, (x_dlN X m k).2 + 1) := rfl
def x_dl (X : g_Wd) (m : Nat) : g_Wd := g_up2 (x_dlN X m (s_G X)).1 0 4 (nI (x_dlN X m (s_G X)).2)
theorem x_dlN_2 {X : g_Wd} {m k : Nat} : (x_dlN X m k).2 ≤ k := by
  induction k with
  | zero => exact Nat.le_refl _
  | succ k ih =>
    show (if _ then _ else _ : g_Wd × Nat).2 ≤ _
    split
    · omega
    · show (x_dlN X m k).2 + 1 ≤ k + 1; omega
theorem x_dl1_r {Y : g_Wd} {m k n r : Nat} (h : r ≠ 2) : x_dl1 Y m k n r = Y r := by
  unfold x_dl1; rw [g_up2_row h, x_dlC_r h]
theorem x_dlN_r {X : g_Wd} {m k r : Nat} (h : r ≠ 2) : (x_dlN X m k).1 r = X r := by
  induction k with
  | zero => rfl
  | succ k ih =>
    show (if _ then _ else _ : g_Wd × Nat).1 r = _
    split
    · exact ih
    · show x_dl1 _ _ _ _ r = _; rw [x_dl1_r h]; exact ih
def x_drop (X : g_Wd) (m : Nat) : g_Wd := x_dl (g_up2 (x_drN X m (s_M X - 1 - m)) 0 3 (nI (s_M X - 1))) m
theorem s_ok_r {X Y : g_Wd} (h : ∀ r, r ≠ 1 → Y r = X r) (hW : s_ok X) : s_ok Y := by
  have eL : s_L Y = s_L X := by unfold s_L; rw [h 0 (by omega)]
  have eM : s_M Y = s_M X := by unfold s_M; rw [h 0 (by omega)]
  obtain ⟨h1, h2, h3, h4⟩ := hW
  refine ⟨by rw [eL, h 0 (by omega)]; exact h1, by rw [eM, h 0 (by omega)]; exact h2, s_okG_of (by rw [h 0 (by omega)]) h3, fun m hm => ?_⟩
  rw [eM] at hm; rw [h (3 + m) (by omega)]; exact h4 m hm
theorem s_ok_cW {X : g_Wd} {k j : Nat} (hW : s_ok X) : s_ok (x_cW X k j) := s_ok_r (fun r hr => x_cW_r hr) hW
theorem s_dn_nn {q : Nat} (h : ¬ s_dn q < 0) : ∃ z, q = z + 1 := by
  cases q with
  | zero => exact absurd (by decide) h
  | succ q => exact ⟨q, rfl⟩
theorem s_dn_ng {q : Nat} (hq : q ≤ 2 ^ 31) (h : s_dn q < 0) : q = 0 := by
  cases q with
  | zero => rfl
  | succ q => exact absurd h (nI_pos (by omega))
theorem s_in_19 {v : Int32} (h : s_in v 1 9 = true) : ∃ q, (1 ≤ q ∧ q ≤ 9) ∧ v = nI q := by
  unfold s_in at h
  simp only [Bool.and_eq_true, decide_eq_true_eq] at h
  have h0 : ¬ v < 0 := fun z => absurd (Int32.lt_of_le_of_lt h.1 z) (by decide)
  obtain ⟨j, hj, rfl⟩ := nI_of h0
  have h1 := (nI_leI (a := 1) (by omega) hj).mp h.1
  have h2 := (nI_leI (b := 9) hj (by omega)).mp h.2
  exact ⟨j, ⟨h1, h2⟩, rfl⟩
def z_q (Z Z1 : g_Wd) : Prop := ∀ r, r ≠ 20 → r ≠ 21 → Z1 r = Z r
theorem z_q.rf {Z : g_Wd} : z_q Z Z := fun _ _ _ => rfl
theorem z_q.st {Z Z1 : g_Wd} {r k : Nat} {v : Int32} (h : z_q Z Z1) (hr : r = 20 ∨ r = 21) : z_q Z (g_up2 Z1 r k v) := fun r' a b => by rw [g_up2_row (by omega)]; exact h r' a b
theorem z_q_1 {Z1 : g_Wd} {q : Nat} {f : Nat → Int32} {v : Int32} (h : ∀ i, i < q → Z1 20 i = f i) : ∀ i, i < q + 1 → g_up2 (g_up2 Z1 20 q (f q)) 21 q v 20 i = f i := by
  intro i hi
  rw [g_up2_row (by omega), g_up2_own]; unfold upd
  split
  · rename_i e; rw [e]
  · exact h i (by omega)
theorem z_q_2 {Z1 : g_Wd} {q : Nat} {f : Nat → Int32} {v : Int32} (h : ∀ i, i < q → Z1 21 i = f i) : ∀ i, i < q + 1 → g_up2 (g_up2 Z1 20 q v) 21 q (f q) 21 i = f i := by
  intro i hi
  rw [g_up2_own]; unfold upd
  split
  · rename_i e; rw [e]
  · rw [g_up2_row (by omega)]; exact h i (by omega)
theorem s_in_01 {v : Int32} (h : s_in v 0 1 = true) : ∃ q, q ≤ 1 ∧ v = nI q := by
  unfold s_in at h
  simp only [Bool.and_eq_true, decide_eq_true_eq] at h
  have h0 : ¬ v < 0 := fun z => absurd (Int32.lt_of_le_of_lt h.1 z) (by decide)
  obtain ⟨j, hj, rfl⟩ := nI_of h0
  exact ⟨j, (nI_leI (b := 1) hj (by omega)).mp h.2, rfl⟩
