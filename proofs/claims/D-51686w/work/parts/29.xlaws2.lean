/-! whole worlds laid over others; the hours until a message has arrived -/
set_option maxRecDepth 100000
theorem g_at.cg {G : g_G} {H : Heap} {a t n : Nat} {f g : Nat → Int32} (h : g_at G H a (g_ai G t n f)) (e : ∀ k, k < n → f k = g k) : g_at G H a (g_ai G t n g) := by
  have e2 : vp_cell (G.2 t) (n, .inl f) = vp_cell (G.2 t) (n, .inl g) := by
    rw [vp_cell_i, vp_cell_i]
    unfold arrV
    congr 1
    apply Array.ext
    · simp
    · intro i h1 h2
      simp only [Array.getElem_ofFn]
      rw [e i (by simpa using h1)]
  have h' : H[a]? = some (vp_cell (G.2 t) (n, .inl f)) := h
  show H[a]? = some (vp_cell (G.2 t) (n, .inl g))
  rw [← e2]; exact h'
theorem g_cpy00 {f g : Nat → Int32} {n : Nat} : ∀ k, k < n → va_cpy f g 0 0 n k = f k := by
  intro k hk; unfold va_cpy; rw [if_pos (by omega)]; congr 1; omega
theorem g_cpyU {X : g_Wd} {U : Nat → g_Wd} {u : Nat} : ∀ k : Nat, va_cpy (g_fl X) (g_fls U) 0 (u * 1576) 1576 k = g_fls (va_up U u X) k := by
  intro k
  unfold va_cpy g_fls va_up
  by_cases h : u * 1576 ≤ k ∧ k < u * 1576 + 1576
  · rw [if_pos h, if_pos (by omega)]; congr 1; omega
  · rw [if_neg h, if_neg (by omega)]
theorem g_cpyUb {g : Nat → Int32} {U : Nat → g_Wd} {u : Nat} : ∀ k, k < 1576 → va_cpy (g_fls U) g (u * 1576) 0 1576 k = g_fl (U u) k := by
  intro k hk
  unfold va_cpy g_fls
  rw [if_pos (by omega), show (u * 1576 + (k - 0)) / 1576 = u by omega, show (u * 1576 + (k - 0)) % 1576 = k by omega]
theorem g_cpy_s {f g : Nat → Int32} {i j k : Nat} : upd (va_cpy f g i j k) (j + k) (f (i + k)) = va_cpy f g i j (k + 1) := by
  funext q
  unfold upd va_cpy
  by_cases h : q = j + k
  · rw [if_pos h, if_pos (by omega)]; congr 1; omega
  · rw [if_neg h]
    by_cases h2 : j ≤ q ∧ q < j + k
    · rw [if_pos h2, if_pos (by omega)]
    · rw [if_neg h2, if_neg (by omega)]
theorem g_cpy_0 {f g : Nat → Int32} {i j : Nat} : g = va_cpy f g i j 0 := by
  funext q; unfold va_cpy; rw [if_neg (by omega)]
section ML
variable {G : g_G} {ad : Nat → Nat} {F : Nat → Int32} {X Y : g_Wd} {U V : Nat → g_Wd} {Z : g_Wd} {H H1 : Heap}
theorem g_Mod.l12 (h : g_Mod G ad F X Y U V Z H) (h9 : g_at G H1 (ad 2) (g_ai G 0 1576 (va_cpy (g_fl X) (g_fl Y) 0 0 1576))) (o9 : ∀ q : Nat, q < H.size → ¬ q = ad 2 → H1[q]? = H[q]?) : g_Mod G ad F X X U V Z H1 :=
  h.upd 2 (by decide) (h9.cg g_cpy00) o9 md_ctY
theorem g_Mod.l21 (h : g_Mod G ad F X Y U V Z H) (h9 : g_at G H1 (ad 1) (g_ai G 0 1576 (va_cpy (g_fl Y) (g_fl X) 0 0 1576))) (o9 : ∀ q : Nat, q < H.size → ¬ q = ad 1 → H1[q]? = H[q]?) : g_Mod G ad F Y Y U V Z H1 :=
  h.upd 1 (by decide) (h9.cg g_cpy00) o9 md_ctX
theorem g_Mod.l13 {u : Nat} (h : g_Mod G ad F X Y U V Z H) (h9 : g_at G H1 (ad 3) (g_ai G 0 12608 (va_cpy (g_fl X) (g_fls U) 0 (u * 1576) 1576))) (o9 : ∀ q : Nat, q < H.size → ¬ q = ad 3 → H1[q]? = H[q]?) : g_Mod G ad F X Y (va_up U u X) V Z H1 :=
  h.upd 3 (by decide) (h9.cg (fun k _ => g_cpyU k)) o9 md_ctU
theorem g_Mod.l31 {u : Nat} (h : g_Mod G ad F X Y U V Z H) (h9 : g_at G H1 (ad 1) (g_ai G 0 1576 (va_cpy (g_fls U) (g_fl X) (u * 1576) 0 1576))) (o9 : ∀ q : Nat, q < H.size → ¬ q = ad 1 → H1[q]? = H[q]?) : g_Mod G ad F (U u) Y U V Z H1 :=
  h.upd 1 (by decide) (h9.cg g_cpyUb) o9 md_ctX
theorem g_Mod.l14 {u : Nat} (h : g_Mod G ad F X Y U V Z H) (h9 : g_at G H1 (ad 4) (g_ai G 0 3152 (va_cpy (g_fl X) (g_fls V) 0 (u * 1576) 1576))) (o9 : ∀ q : Nat, q < H.size → ¬ q = ad 4 → H1[q]? = H[q]?) : g_Mod G ad F X Y U (va_up V u X) Z H1 :=
  h.upd 4 (by decide) (h9.cg (fun k _ => g_cpyU k)) o9 md_ctV
theorem g_Mod.l41 {u : Nat} (h : g_Mod G ad F X Y U V Z H) (h9 : g_at G H1 (ad 1) (g_ai G 0 1576 (va_cpy (g_fls V) (g_fl X) (u * 1576) 0 1576))) (o9 : ∀ q : Nat, q < H.size → ¬ q = ad 1 → H1[q]? = H[q]?) : g_Mod G ad F (V u) Y U V Z H1 :=
  h.upd 1 (by decide) (h9.cg g_cpyUb) o9 md_ctX
theorem g_Mod.ne (h : g_Mod G ad F X Y U V Z H) {a b : Nat} (ha : a ∈ md_dm) (hb : b ∈ md_dm) (hab : a ≠ b) : ad a ≠ ad b := fun z => hab (h.2 a ha b hb z)
end ML
def s_first (f : Nat → Bool) : Nat → Nat → Nat
  | 0, k => k
  | n + 1, k => if f k = true then k else s_first f n (k + 1)
theorem s_first_spec (f : Nat → Bool) : ∀ (n k : Nat), (∃ t, k ≤ t ∧ t < k + n ∧ f t = true) → f (s_first f n k) = true ∧ s_first f n k < k + n ∧ k ≤ s_first f n k ∧ ∀ t, k ≤ t → t < s_first f n k → f t = false := by
  intro n
  induction n with
  | zero => intro k ⟨t, h1, h2, _⟩; omega
  | succ n ih =>
    intro k ⟨t, h1, h2, h3⟩
    by_cases hk : f k = true
    · have e : s_first f (n + 1) k = k := by show (if f k = true then k else _) = k; rw [if_pos hk]
      rw [e]; exact ⟨hk, by omega, by omega, fun t a b => by omega⟩
    · have e : s_first f (n + 1) k = s_first f n (k + 1) := by show (if f k = true then k else _) = _; rw [if_neg hk]
      have hne : t ≠ k := fun z => hk (by rw [← z]; exact h3)
      obtain ⟨g1, g2, g3, g4⟩ := ih (k + 1) ⟨t, by omega, by omega, h3⟩
      rw [e]
      refine ⟨g1, by omega, by omega, fun t a b => ?_⟩
      rcases Nat.lt_or_ge k t with q | q
      · exact g4 t (by omega) b
      · rw [show t = k by omega]
        cases hfk : f k with
        | false => rfl
        | true => exact absurd hfk hk
/-- when a message has arrived -/
def s_T (X : g_Wd) (m : Nat) : Nat := s_first (fun t => !decide (x_pH X t (3 + m) 4 = -1)) 50 0
/-- it does arrive -/
def s_arv (X : g_Wd) (m : Nat) : Prop := x_pH X (s_T X m) (3 + m) 4 ≠ -1 ∧ s_T X m < 50 ∧ ∀ t, t < s_T X m → x_pH X t (3 + m) 4 = -1
def x_end (X : g_Wd) (m : Nat) : g_Wd := x_pH X (s_T X m)
theorem x_pH_1 {X : g_Wd} {a : Nat} (h : s_M (x_pH X a) = s_M X) : x_pH (x_pH X a) 1 = x_pH X (a + 1) := by
  show g_up2 (x_pM (x_pH X a) (s_M (x_pH X a))) 0 2 _ = g_up2 (x_pM (x_pH X a) (s_M X)) 0 2 _
  rw [h]; rfl
theorem s_may_ok {a b d : Int32} (ha : ¬ a = 0) (hb : ¬ b = 0) (hd : ¬ d = 0) : s_may a b d = 0 := by simp [s_may, ha, hb, hd]
theorem g_b_ne {b : Bool} (h : b = true) : ¬ g_b b = 0 := by subst h; decide
theorem s_in_le {a n : Nat} (h : a ≤ n) (hn : n < 2 ^ 31) : s_in (nI a) 0 (nI n) = true := by
  unfold s_in; simp only [Bool.and_eq_true, decide_eq_true_eq]
  exact ⟨nI_pos' (by omega), (nI_leI (by omega) hn).mpr h⟩
theorem s_in_le2 {a k n : Nat} (h0 : k ≤ a) (h : a ≤ n) (hn : n < 2 ^ 31) : s_in (nI a) (nI k) (nI n) = true := by
  unfold s_in; simp only [Bool.and_eq_true, decide_eq_true_eq]
  exact ⟨(nI_leI (by omega) (by omega)).mpr h0, (nI_leI (by omega) hn).mpr h⟩
theorem s_isMsg_ok {F : Nat → Int32} {X : g_Wd} {j : Nat} (hF : ¬ F 6 = 0) (hW : s_ok X) (hj : j < s_M X) : s_isMsg F X (nI j) = true := by
  have h6 := hW.2.1.2
  unfold s_isMsg; rw [hW.2.1.1, s_in_nI hj (by omega)]; simp [hF]
theorem s_isPl_ok {F : Nat → Int32} {X : g_Wd} {j q : Nat} (hF : ¬ F 6 = 0) (hW : s_ok X) (hj : j < s_M X) (hq : q < s_len (X (3 + j))) : s_isPl F X (nI j) (nI q) = true := by
  have h6 := hW.2.1.2
  have hl := hW.2.2.2 j hj
  have hl2 := hl.2
  unfold s_isPl; rw [s_isMsg_ok hF hW hj, nI_clamp (by omega), hl.1, s_in_nI hq (by omega)]; rfl
theorem s_isWire_ok {F : Nat → Int32} {X : g_Wd} {k a b : Nat} (hF : ¬ F 6 = 0) (hW : s_ok X) (hk : k < s_L X - 1) (ha : a < 3) (hb : b < 3) : s_isWire F X (nI k) (nI a) (nI b) = true := by
  have h6 := hW.1.2.2; have h2 := hW.1.2.1
  unfold s_isWire
  rw [hW.1.1, show (nI (s_L X) - 2 : Int32) = nI (s_L X - 2) from pk_sub (b := 2) h2, s_in_le (show k ≤ s_L X - 2 by omega) (by omega), show (2 : Int32) = nI 2 from rfl, s_in_le (show a ≤ 2 by omega) (by decide), s_in_le (show b ≤ 2 by omega) (by decide)]
  simp [hF]
theorem s_isWN_ok {F : Nat → Int32} {X : g_Wd} {w : Nat} (hF : ¬ F 6 = 0) (hW : s_ok X) (hw : w < s_W X) : s_isWN F X (nI w) = true := by
  have h6 := hW.1.2.2
  have : s_W X ≤ 45 := by unfold s_W; omega
  unfold s_isWN; rw [s_in_nI hw (by omega)]; simp [hF]
