/-! THE MODEL's CELLS: its object, its arrays; the world 'now' as a table: row 0 numbers, row 1 wires, row 2 the log, row 3 + m the message m -/
set_option maxRecDepth 100000
abbrev g_Wd : Type := Nat → Nat → Int32
def g_b (b : Bool) : Int32 := match b with
  | true => 1
  | false => 0
abbrev g_rem (x y : Int32) : Int32 := x - x / y * y
def g_up2 (X : g_Wd) (r k : Nat) (v : Int32) : g_Wd := fun r' k' => if r' = r ∧ k' = k then v else X r' k'
def g_fl (X : g_Wd) (k : Nat) : Int32 := if k < 9 then X 0 k else if k < 234 then X 1 (k - 9) else if k < 1416 then X (3 + (k - 234) / 197) ((k - 234) % 197) else X 2 (k - 1416)
theorem g_fl0 (X : g_Wd) {k : Nat} (h : k < 9) : g_fl X k = X 0 k := by
  unfold g_fl; rw [if_pos h]
theorem g_fl1 (X : g_Wd) {k : Nat} (h : k < 225) : g_fl X (9 + k) = X 1 k := by
  unfold g_fl; rw [if_neg (by omega), if_pos (by omega)]; congr 1; omega
theorem g_fl2 (X : g_Wd) {k : Nat} : g_fl X (1416 + k) = X 2 k := by
  unfold g_fl; rw [if_neg (by omega), if_neg (by omega), if_neg (by omega)]; congr 1; omega
theorem g_fl3 (X : g_Wd) {m k : Nat} (hm : m < 6) (h : k < 197) : g_fl X (234 + 197 * m + k) = X (3 + m) k := by
  unfold g_fl; rw [if_neg (by omega), if_neg (by omega), if_pos (by omega)]
  rw [show (234 + 197 * m + k - 234) / 197 = m by omega, show (234 + 197 * m + k - 234) % 197 = k by omega]
theorem g_flU (X : g_Wd) (j r k : Nat) (v : Int32) (hj : ∀ q, q < 1576 → q ≠ j → ∀ r' k', g_fl X q = X r' k' → True) : True := trivial
/-- which row and place a place of the flat array is -/
def g_row (k : Nat) : Nat := if k < 9 then 0 else if k < 234 then 1 else if k < 1416 then 3 + (k - 234) / 197 else 2
def g_plc (k : Nat) : Nat := if k < 9 then k else if k < 234 then k - 9 else if k < 1416 then (k - 234) % 197 else k - 1416
theorem g_flr (X : g_Wd) (k : Nat) : g_fl X k = X (g_row k) (g_plc k) := by
  unfold g_fl g_row g_plc
  by_cases h1 : k < 9
  · rw [if_pos h1, if_pos h1, if_pos h1]
  · rw [if_neg h1, if_neg h1, if_neg h1]
    by_cases h2 : k < 234
    · rw [if_pos h2, if_pos h2, if_pos h2]
    · rw [if_neg h2, if_neg h2, if_neg h2]
      by_cases h3 : k < 1416
      · rw [if_pos h3, if_pos h3, if_pos h3]
      · rw [if_neg h3, if_neg h3, if_neg h3]
theorem g_row_inj {a b : Nat} (h1 : g_row a = g_row b) (h2 : g_plc a = g_plc b) : a = b := by
  unfold g_row at h1
  unfold g_plc at h2
  by_cases a1 : a < 9 <;> by_cases b1 : b < 9 <;> by_cases a2 : a < 234 <;> by_cases b2 : b < 234 <;> by_cases a3 : a < 1416 <;> by_cases b3 : b < 1416 <;> simp [a1, b1, a2, b2, a3, b3] at h1 h2 <;> omega
theorem g_flu (X : g_Wd) (j : Nat) (v : Int32) : upd (g_fl X) j v = g_fl (g_up2 X (g_row j) (g_plc j) v) := by
  funext q
  rw [g_flr]
  unfold upd g_up2
  by_cases h : q = j
  · subst h; simp
  · rw [if_neg h, if_neg (fun z => h (g_row_inj z.1 z.2)), g_flr]
def g_row0 {k : Nat} (h : k < 9) : g_row k = 0 ∧ g_plc k = k := by
  unfold g_row g_plc; simp [h]
theorem g_flu0 (X : g_Wd) {j : Nat} (h : j < 9) (v : Int32) : upd (g_fl X) j v = g_fl (g_up2 X 0 j v) := by
  rw [g_flu, show g_row j = 0 by unfold g_row; simp [h], show g_plc j = j by unfold g_plc; simp [h]]
theorem g_flu1 (X : g_Wd) {j : Nat} (h : j < 225) (v : Int32) : upd (g_fl X) (9 + j) v = g_fl (g_up2 X 1 j v) := by
  rw [g_flu, show g_row (9 + j) = 1 by unfold g_row; rw [if_neg (by omega), if_pos (by omega)], show g_plc (9 + j) = j by unfold g_plc; rw [if_neg (by omega), if_pos (by omega)]; omega]
theorem g_flu2 (X : g_Wd) {j : Nat} (v : Int32) : upd (g_fl X) (1416 + j) v = g_fl (g_up2 X 2 j v) := by
  rw [g_flu, show g_row (1416 + j) = 2 by unfold g_row; rw [if_neg (by omega), if_neg (by omega), if_neg (by omega)], show g_plc (1416 + j) = j by unfold g_plc; rw [if_neg (by omega), if_neg (by omega), if_neg (by omega)]; omega]
theorem g_flu3 (X : g_Wd) {m k : Nat} (hm : m < 6) (h : k < 197) (v : Int32) : upd (g_fl X) (234 + 197 * m + k) v = g_fl (g_up2 X (3 + m) k v) := by
  rw [g_flu, show g_row (234 + 197 * m + k) = 3 + m by unfold g_row; rw [if_neg (by omega), if_neg (by omega), if_pos (by omega)]; omega, show g_plc (234 + 197 * m + k) = k by unfold g_plc; rw [if_neg (by omega), if_neg (by omega), if_pos (by omega)]; omega]
theorem g_fluw (X : g_Wd) {w k : Nat} (h : 5 * w + k < 225) (v : Int32) : upd (g_fl X) (9 + 5 * w + k) v = g_fl (g_up2 X 1 (5 * w + k) v) := by
  rw [Nat.add_assoc]; exact g_flu1 X h v
theorem g_flug (X : g_Wd) {i k : Nat} (v : Int32) : upd (g_fl X) (1416 + 4 * i + k) v = g_fl (g_up2 X 2 (4 * i + k) v) := by
  rw [Nat.add_assoc]; exact g_flu2 X v
abbrev md_fs (F : Nat → Int32) (ad : Nat → Nat) : List Value := [.int (F 0), .ref (ad 1), .ref (ad 2), .ref (ad 3), .ref (ad 4), .ref (ad 5), .int (F 6), .int (F 7), .ref (ad 8), .int (F 9), .int (F 10), .int (F 11), .int (F 12), .int (F 13), .int (F 14), .int (F 15), .ref (ad 16), .ref (ad 17), .ref (ad 18), .int (F 19), .ref (ad 20), .ref (ad 21)]
/-- many worlds one behind another -/
def g_fls (U : Nat → g_Wd) (k : Nat) : Int32 := g_fl (U (k / 1576)) (k % 1576)
def md_ct (G : g_G) (ad : Nat → Nat) (F : Nat → Int32) (X Y : g_Wd) (U V : Nat → g_Wd) (Z : g_Wd) : Nat → va_E := fun r => match r with
  | 0 => g_ob 1 (md_fs F ad)
  | 1 => g_ai G 0 1576 (g_fl X)
  | 2 => g_ai G 0 1576 (g_fl Y)
  | 3 => g_ai G 0 12608 (g_fls U)
  | 4 => g_ai G 0 3152 (g_fls V)
  | 5 => g_ai G 2 2 (Z 5)
  | 8 => g_ai G 1 400 (Z 8)
  | 16 => g_ai G 0 12 (Z 16)
  | 17 => g_ai G 0 12 (Z 17)
  | 18 => g_ai G 1 600 (Z 18)
  | 20 => g_ai G 0 9 (Z 20)
  | _ => g_ai G 0 9 (Z 21)
abbrev md_dm : List Nat := [0, 1, 2, 3, 4, 5, 8, 16, 17, 18, 20, 21]
def g_Mod (G : g_G) (ad : Nat → Nat) (F : Nat → Int32) (X Y : g_Wd) (U V : Nat → g_Wd) (Z : g_Wd) (H : Heap) : Prop :=
  (∀ r ∈ md_dm, g_at G H (ad r) (md_ct G ad F X Y U V Z r)) ∧ (∀ r ∈ md_dm, ∀ r' ∈ md_dm, ad r = ad r' → r = r')
def md_A (ad : Nat → Nat) : Nat → Prop := fun q => ∃ r ∈ md_dm, q = ad r
section GM
variable {G : g_G} {ad : Nat → Nat} {F : Nat → Int32} {X Y : g_Wd} {U V : Nat → g_Wd} {Z : g_Wd} {H : Heap}
theorem g_Mod.ob (h : g_Mod G ad F X Y U V Z H) : g_at G H (ad 0) (g_ob 1 (md_fs F ad)) := h.1 0 (by decide)
theorem g_Mod.a1 (h : g_Mod G ad F X Y U V Z H) : g_at G H (ad 1) (g_ai G 0 1576 (g_fl X)) := h.1 1 (by decide)
theorem g_Mod.a2 (h : g_Mod G ad F X Y U V Z H) : g_at G H (ad 2) (g_ai G 0 1576 (g_fl Y)) := h.1 2 (by decide)
theorem g_Mod.a3 (h : g_Mod G ad F X Y U V Z H) : g_at G H (ad 3) (g_ai G 0 12608 (g_fls U)) := h.1 3 (by decide)
theorem g_Mod.a4 (h : g_Mod G ad F X Y U V Z H) : g_at G H (ad 4) (g_ai G 0 3152 (g_fls V)) := h.1 4 (by decide)
theorem g_Mod.a5 (h : g_Mod G ad F X Y U V Z H) : g_at G H (ad 5) (g_ai G 2 2 (Z 5)) := h.1 5 (by decide)
theorem g_Mod.a8 (h : g_Mod G ad F X Y U V Z H) : g_at G H (ad 8) (g_ai G 1 400 (Z 8)) := h.1 8 (by decide)
theorem g_Mod.a16 (h : g_Mod G ad F X Y U V Z H) : g_at G H (ad 16) (g_ai G 0 12 (Z 16)) := h.1 16 (by decide)
theorem g_Mod.a17 (h : g_Mod G ad F X Y U V Z H) : g_at G H (ad 17) (g_ai G 0 12 (Z 17)) := h.1 17 (by decide)
theorem g_Mod.a18 (h : g_Mod G ad F X Y U V Z H) : g_at G H (ad 18) (g_ai G 1 600 (Z 18)) := h.1 18 (by decide)
theorem g_Mod.a20 (h : g_Mod G ad F X Y U V Z H) : g_at G H (ad 20) (g_ai G 0 9 (Z 20)) := h.1 20 (by decide)
theorem g_Mod.a21 (h : g_Mod G ad F X Y U V Z H) : g_at G H (ad 21) (g_ai G 0 9 (Z 21)) := h.1 21 (by decide)
theorem g_Mod.rc (h : g_Mod G ad F X Y U V Z H) {s : State} (hK : g_K G s) : g_rc s H RX2 (ad 0) := h.ob.rc hK (q := (RX2, TX2, 22)) rfl
end GM
section GMR
variable {G : g_G} {p : Program} {l : Launch} {e : Env} {R : Room} {s : State} {m : MethodId} {args : Array Value} {below : List Frame} {meth : Method} {c : Code} {H : Heap} {locs : List Loc} {cells slots : Nat} {Q : State → Prop}
variable {cc : ByteArray} {pc : Nat} {ls : Array Slot} {rest : List Value} {nL : Nat} {ret : Option FieldType} {ad : Nat → Nat} {F : Nat → Int32} {X Y : g_Wd} {U V : Nat → g_Wd} {Z : g_Wd}
theorem g_getM (hX : g_X G p s m args meth c cc RX2 nL ret) (h : g_Mod G ad F X Y U V Z H) (k : Nat) (hk : k < 22) {idx : Nat} (hq : Cond.fieldLink RX2 idx RX2 (TX2 k).2.1 (TX2 k).2.2.1 ∈ lw_all) (hsame : (TX2 k).1 = RX2) {v : Value} (hv : (md_fs F ad)[k]? = some v) (d : decode cc pc = .ok (.getfield idx, 3))
    (kk : W p l e R s m args below meth c H locs cells slots Q (F0 m (pc + 3) ls (v :: rest))) : W p l e R s m args below meth c H locs cells slots Q (F0 m pc ls (.ref (ad 0) :: rest)) :=
  g_get in_X2 (ci := 1) rfl hX h.ob k hk hq (fun x h9 => by rw [hsame] at h9; exact h9) hv d kk
end GMR
section GAR
variable {p : Program} {l : Launch} {e : Env} {R : Room} {s : State} {m : MethodId} {args : Array Value} {below : List Frame} {meth : Method} {c : Code} {H : Heap} {locs : List Loc} {cells slots : Nat} {Q : State → Prop}
variable {cc : ByteArray} {pc : Nat} {ls : Array Slot} {rest : List Value}
theorem g_iaddN (hx : p.tables.exec = Jvm.exec) (hb : c.code = cc) {x y : Int32} (a b : Nat) (ex : x = nI a) (ey : y = nI b) (d : decode cc pc = .ok (.iadd, 1)) (k : W p l e R s m args below meth c H locs cells slots Q (F0 m (pc + 1) ls (.int (nI (a + b)) :: rest))) : W p l e R s m args below meth c H locs cells slots Q (F0 m pc ls (.int y :: .int x :: rest)) := by
  subst ex; subst ey
  refine lv_iadd hx hb d ?_
  rw [nI_add]; exact k
theorem g_imulN (hx : p.tables.exec = Jvm.exec) (hb : c.code = cc) {x y : Int32} (a b : Nat) (ex : x = nI a) (ey : y = nI b) (d : decode cc pc = .ok (.imul, 1)) (k : W p l e R s m args below meth c H locs cells slots Q (F0 m (pc + 1) ls (.int (nI (a * b)) :: rest))) : W p l e R s m args below meth c H locs cells slots Q (F0 m pc ls (.int y :: .int x :: rest)) := by
  subst ex; subst ey
  refine lv_imul hx hb d ?_
  rw [pk_mul]; exact k
theorem g_isubN (hx : p.tables.exec = Jvm.exec) (hb : c.code = cc) {x y : Int32} (a b : Nat) (ex : x = nI a) (ey : y = nI b) (h : b ≤ a) (d : decode cc pc = .ok (.isub, 1)) (k : W p l e R s m args below meth c H locs cells slots Q (F0 m (pc + 1) ls (.int (nI (a - b)) :: rest))) : W p l e R s m args below meth c H locs cells slots Q (F0 m pc ls (.int y :: .int x :: rest)) := by
  subst ex; subst ey
  refine lv_isub hx hb d ?_
  rw [pk_sub h]; exact k
theorem g_idivN (hx : p.tables.exec = Jvm.exec) (hb : c.code = cc) {x y : Int32} (a b : Nat) (ex : x = nI a) (ey : y = nI b) (ha : a < 2 ^ 31) (h0 : 0 < b) (hb2 : b < 2 ^ 31) (d : decode cc pc = .ok (.idiv, 1)) (k : W p l e R s m args below meth c H locs cells slots Q (F0 m (pc + 1) ls (.int (nI (a / b)) :: rest))) : W p l e R s m args below meth c H locs cells slots Q (F0 m pc ls (.int y :: .int x :: rest)) := by
  subst ex; subst ey
  refine lv_idiv hx hb d (nI_ne0 h0 hb2) ?_
  rw [pk_div ha h0 hb2]; exact k
theorem g_iremN (hx : p.tables.exec = Jvm.exec) (hb : c.code = cc) {x y : Int32} (a b : Nat) (ex : x = nI a) (ey : y = nI b) (ha : a < 2 ^ 31) (h0 : 0 < b) (hb2 : b < 2 ^ 31) (d : decode cc pc = .ok (.irem, 1)) (k : W p l e R s m args below meth c H locs cells slots Q (F0 m (pc + 1) ls (.int (nI (a % b)) :: rest))) : W p l e R s m args below meth c H locs cells slots Q (F0 m pc ls (.int y :: .int x :: rest)) := by
  subst ex; subst ey
  refine lv_irem hx hb d (nI_ne0 h0 hb2) ?_
  rw [pk_rem ha h0 hb2]; exact k
theorem g_icmp_eqN (hx : p.tables.exec = Jvm.exec) (hb : c.code = cc) {x y : Int32} (a b : Nat) (ex : x = nI a) (ey : y = nI b) (ha : a < 2 ^ 31) (hb2 : b < 2 ^ 31) {off : Int} {tgt : Nat} (d : decode cc pc = .ok (.if_icmp .eq off, 3)) (ht : (pc : Int) + off = (tgt : Int)) (kt : a = b → W p l e R s m args below meth c H locs cells slots Q (F0 m tgt ls rest)) (kf : a ≠ b → W p l e R s m args below meth c H locs cells slots Q (F0 m (pc + 3) ls rest)) : W p l e R s m args below meth c H locs cells slots Q (F0 m pc ls (.int y :: .int x :: rest)) := by
  subst ex; subst ey
  exact lv_icmp_eq hx hb d ht (fun h => kt ((nI_eq ha hb2).mp h)) (fun h => kf (fun z => h ((nI_eq ha hb2).mpr z)))
theorem g_icmp_neN (hx : p.tables.exec = Jvm.exec) (hb : c.code = cc) {x y : Int32} (a b : Nat) (ex : x = nI a) (ey : y = nI b) (ha : a < 2 ^ 31) (hb2 : b < 2 ^ 31) {off : Int} {tgt : Nat} (d : decode cc pc = .ok (.if_icmp .ne off, 3)) (ht : (pc : Int) + off = (tgt : Int)) (kt : a ≠ b → W p l e R s m args below meth c H locs cells slots Q (F0 m tgt ls rest)) (kf : a = b → W p l e R s m args below meth c H locs cells slots Q (F0 m (pc + 3) ls rest)) : W p l e R s m args below meth c H locs cells slots Q (F0 m pc ls (.int y :: .int x :: rest)) := by
  subst ex; subst ey
  exact lv_icmp_ne hx hb d ht (fun h => kt (fun z => h ((nI_eq ha hb2).mpr z))) (fun h => kf ((nI_eq ha hb2).mp h))
theorem g_icmp_ltN (hx : p.tables.exec = Jvm.exec) (hb : c.code = cc) {x y : Int32} (a b : Nat) (ex : x = nI a) (ey : y = nI b) (ha : a < 2 ^ 31) (hb2 : b < 2 ^ 31) {off : Int} {tgt : Nat} (d : decode cc pc = .ok (.if_icmp .lt off, 3)) (ht : (pc : Int) + off = (tgt : Int)) (kt : a < b → W p l e R s m args below meth c H locs cells slots Q (F0 m tgt ls rest)) (kf : b ≤ a → W p l e R s m args below meth c H locs cells slots Q (F0 m (pc + 3) ls rest)) : W p l e R s m args below meth c H locs cells slots Q (F0 m pc ls (.int y :: .int x :: rest)) := by
  subst ex; subst ey
  exact lv_icmp_lt hx hb d ht (fun h => kt ((nI_ltI ha hb2).mp h)) (fun h => kf (Nat.le_of_not_lt fun z => h ((nI_ltI ha hb2).mpr z)))
theorem g_icmp_geN (hx : p.tables.exec = Jvm.exec) (hb : c.code = cc) {x y : Int32} (a b : Nat) (ex : x = nI a) (ey : y = nI b) (ha : a < 2 ^ 31) (hb2 : b < 2 ^ 31) {off : Int} {tgt : Nat} (d : decode cc pc = .ok (.if_icmp .ge off, 3)) (ht : (pc : Int) + off = (tgt : Int)) (kt : b ≤ a → W p l e R s m args below meth c H locs cells slots Q (F0 m tgt ls rest)) (kf : a < b → W p l e R s m args below meth c H locs cells slots Q (F0 m (pc + 3) ls rest)) : W p l e R s m args below meth c H locs cells slots Q (F0 m pc ls (.int y :: .int x :: rest)) := by
  subst ex; subst ey
  exact lv_icmp_ge hx hb d ht (fun h => kt ((nI_leI hb2 ha).mp h)) (fun h => kf (Nat.lt_of_not_le fun z => h ((nI_leI hb2 ha).mpr z)))
theorem g_icmp_gtN (hx : p.tables.exec = Jvm.exec) (hb : c.code = cc) {x y : Int32} (a b : Nat) (ex : x = nI a) (ey : y = nI b) (ha : a < 2 ^ 31) (hb2 : b < 2 ^ 31) {off : Int} {tgt : Nat} (d : decode cc pc = .ok (.if_icmp .gt off, 3)) (ht : (pc : Int) + off = (tgt : Int)) (kt : b < a → W p l e R s m args below meth c H locs cells slots Q (F0 m tgt ls rest)) (kf : a ≤ b → W p l e R s m args below meth c H locs cells slots Q (F0 m (pc + 3) ls rest)) : W p l e R s m args below meth c H locs cells slots Q (F0 m pc ls (.int y :: .int x :: rest)) := by
  subst ex; subst ey
  exact lv_icmp_gt hx hb d ht (fun h => kt ((nI_ltI hb2 ha).mp h)) (fun h => kf (Nat.le_of_not_lt fun z => h ((nI_ltI hb2 ha).mpr z)))
theorem g_icmp_leN (hx : p.tables.exec = Jvm.exec) (hb : c.code = cc) {x y : Int32} (a b : Nat) (ex : x = nI a) (ey : y = nI b) (ha : a < 2 ^ 31) (hb2 : b < 2 ^ 31) {off : Int} {tgt : Nat} (d : decode cc pc = .ok (.if_icmp .le off, 3)) (ht : (pc : Int) + off = (tgt : Int)) (kt : a ≤ b → W p l e R s m args below meth c H locs cells slots Q (F0 m tgt ls rest)) (kf : b < a → W p l e R s m args below meth c H locs cells slots Q (F0 m (pc + 3) ls rest)) : W p l e R s m args below meth c H locs cells slots Q (F0 m pc ls (.int y :: .int x :: rest)) := by
  subst ex; subst ey
  exact lv_icmp_le hx hb d ht (fun h => kt ((nI_leI ha hb2).mp h)) (fun h => kf (Nat.lt_of_not_le fun z => h ((nI_leI ha hb2).mpr z)))
theorem g_if_eqN (hx : p.tables.exec = Jvm.exec) (hb : c.code = cc) {x : Int32} (a : Nat) (ex : x = nI a) (ha : a < 2 ^ 31) {off : Int} {tgt : Nat} (d : decode cc pc = .ok (.ifCond .eq off, 3)) (ht : (pc : Int) + off = (tgt : Int)) (kt : a = 0 → W p l e R s m args below meth c H locs cells slots Q (F0 m tgt ls rest)) (kf : a ≠ 0 → W p l e R s m args below meth c H locs cells slots Q (F0 m (pc + 3) ls rest)) : W p l e R s m args below meth c H locs cells slots Q (F0 m pc ls (.int x :: rest)) := by
  subst ex
  have hb2 : 0 < 2 ^ 31 := by decide
  exact lv_if_eq hx hb d ht (fun h => kt ((nI_eq ha hb2).mp h)) (fun h => kf (fun z => h ((nI_eq ha hb2).mpr z)))
theorem g_if_neN (hx : p.tables.exec = Jvm.exec) (hb : c.code = cc) {x : Int32} (a : Nat) (ex : x = nI a) (ha : a < 2 ^ 31) {off : Int} {tgt : Nat} (d : decode cc pc = .ok (.ifCond .ne off, 3)) (ht : (pc : Int) + off = (tgt : Int)) (kt : a ≠ 0 → W p l e R s m args below meth c H locs cells slots Q (F0 m tgt ls rest)) (kf : a = 0 → W p l e R s m args below meth c H locs cells slots Q (F0 m (pc + 3) ls rest)) : W p l e R s m args below meth c H locs cells slots Q (F0 m pc ls (.int x :: rest)) := by
  subst ex
  have hb2 : 0 < 2 ^ 31 := by decide
  exact lv_if_ne hx hb d ht (fun h => kt (fun z => h ((nI_eq ha hb2).mpr z))) (fun h => kf ((nI_eq ha hb2).mp h))
theorem g_if_ltN (hx : p.tables.exec = Jvm.exec) (hb : c.code = cc) {x : Int32} (a : Nat) (ex : x = nI a) (ha : a < 2 ^ 31) {off : Int} {tgt : Nat} (d : decode cc pc = .ok (.ifCond .lt off, 3)) (ht : (pc : Int) + off = (tgt : Int)) (kt : a < 0 → W p l e R s m args below meth c H locs cells slots Q (F0 m tgt ls rest)) (kf : 0 ≤ a → W p l e R s m args below meth c H locs cells slots Q (F0 m (pc + 3) ls rest)) : W p l e R s m args below meth c H locs cells slots Q (F0 m pc ls (.int x :: rest)) := by
  subst ex
  have hb2 : 0 < 2 ^ 31 := by decide
  exact lv_if_lt hx hb d ht (fun h => kt ((nI_ltI ha hb2).mp h)) (fun h => kf (Nat.le_of_not_lt fun z => h ((nI_ltI ha hb2).mpr z)))
theorem g_if_geN (hx : p.tables.exec = Jvm.exec) (hb : c.code = cc) {x : Int32} (a : Nat) (ex : x = nI a) (ha : a < 2 ^ 31) {off : Int} {tgt : Nat} (d : decode cc pc = .ok (.ifCond .ge off, 3)) (ht : (pc : Int) + off = (tgt : Int)) (kt : 0 ≤ a → W p l e R s m args below meth c H locs cells slots Q (F0 m tgt ls rest)) (kf : a < 0 → W p l e R s m args below meth c H locs cells slots Q (F0 m (pc + 3) ls rest)) : W p l e R s m args below meth c H locs cells slots Q (F0 m pc ls (.int x :: rest)) := by
  subst ex
  have hb2 : 0 < 2 ^ 31 := by decide
  exact lv_if_ge hx hb d ht (fun h => kt ((nI_leI hb2 ha).mp h)) (fun h => kf (Nat.lt_of_not_le fun z => h ((nI_leI hb2 ha).mpr z)))
theorem g_if_gtN (hx : p.tables.exec = Jvm.exec) (hb : c.code = cc) {x : Int32} (a : Nat) (ex : x = nI a) (ha : a < 2 ^ 31) {off : Int} {tgt : Nat} (d : decode cc pc = .ok (.ifCond .gt off, 3)) (ht : (pc : Int) + off = (tgt : Int)) (kt : 0 < a → W p l e R s m args below meth c H locs cells slots Q (F0 m tgt ls rest)) (kf : a ≤ 0 → W p l e R s m args below meth c H locs cells slots Q (F0 m (pc + 3) ls rest)) : W p l e R s m args below meth c H locs cells slots Q (F0 m pc ls (.int x :: rest)) := by
  subst ex
  have hb2 : 0 < 2 ^ 31 := by decide
  exact lv_if_gt hx hb d ht (fun h => kt ((nI_ltI hb2 ha).mp h)) (fun h => kf (Nat.le_of_not_lt fun z => h ((nI_ltI hb2 ha).mpr z)))
theorem g_if_leN (hx : p.tables.exec = Jvm.exec) (hb : c.code = cc) {x : Int32} (a : Nat) (ex : x = nI a) (ha : a < 2 ^ 31) {off : Int} {tgt : Nat} (d : decode cc pc = .ok (.ifCond .le off, 3)) (ht : (pc : Int) + off = (tgt : Int)) (kt : a ≤ 0 → W p l e R s m args below meth c H locs cells slots Q (F0 m tgt ls rest)) (kf : 0 < a → W p l e R s m args below meth c H locs cells slots Q (F0 m (pc + 3) ls rest)) : W p l e R s m args below meth c H locs cells slots Q (F0 m pc ls (.int x :: rest)) := by
  subst ex
  have hb2 : 0 < 2 ^ 31 := by decide
  exact lv_if_le hx hb d ht (fun h => kt ((nI_leI ha hb2).mp h)) (fun h => kf (Nat.lt_of_not_le fun z => h ((nI_leI ha hb2).mpr z)))
theorem g_if_eqB (hx : p.tables.exec = Jvm.exec) (hb : c.code = cc) {x : Int32} {b : Bool} (ex : x = g_b b) {off : Int} {tgt : Nat} (d : decode cc pc = .ok (.ifCond .eq off, 3)) (ht : (pc : Int) + off = (tgt : Int)) (kt : b = false → W p l e R s m args below meth c H locs cells slots Q (F0 m tgt ls rest)) (kf : b = true → W p l e R s m args below meth c H locs cells slots Q (F0 m (pc + 3) ls rest)) : W p l e R s m args below meth c H locs cells slots Q (F0 m pc ls (.int x :: rest)) := by
  subst ex
  exact lv_if_eq hx hb d ht (fun h => kt (by cases b <;> first | rfl | exact absurd h (by decide))) (fun h => kf (by cases b <;> first | rfl | exact absurd rfl h))
theorem g_if_neB (hx : p.tables.exec = Jvm.exec) (hb : c.code = cc) {x : Int32} {b : Bool} (ex : x = g_b b) {off : Int} {tgt : Nat} (d : decode cc pc = .ok (.ifCond .ne off, 3)) (ht : (pc : Int) + off = (tgt : Int)) (kt : b = true → W p l e R s m args below meth c H locs cells slots Q (F0 m tgt ls rest)) (kf : b = false → W p l e R s m args below meth c H locs cells slots Q (F0 m (pc + 3) ls rest)) : W p l e R s m args below meth c H locs cells slots Q (F0 m pc ls (.int x :: rest)) := by
  subst ex
  exact lv_if_ne hx hb d ht (fun h => kt (by cases b <;> first | rfl | exact absurd rfl h)) (fun h => kf (by cases b <;> first | rfl | exact absurd h (by decide)))
end GAR
theorem g_flw (X : g_Wd) {w k : Nat} (h : 5 * w + k < 225) : g_fl X (9 + 5 * w + k) = X 1 (5 * w + k) := by
  rw [Nat.add_assoc]; exact g_fl1 X h
theorem g_flg (X : g_Wd) {i k : Nat} : g_fl X (1416 + 4 * i + k) = X 2 (4 * i + k) := by
  rw [Nat.add_assoc]; exact g_fl2 X
/-! writes into the model's cells -/
theorem md_A.at {ad : Nat → Nat} {r : Nat} (h : r ∈ md_dm) : md_A ad (ad r) := ⟨r, h, rfl⟩
theorem g_Mod.upd {G : g_G} {ad : Nat → Nat} {F F' : Nat → Int32} {X X' Y Y' : g_Wd} {U U' V V' : Nat → g_Wd} {Z Z' : g_Wd} {H H1 : Heap} (h : g_Mod G ad F X Y U V Z H) (r : Nat) (hr : r ∈ md_dm) (h9 : g_at G H1 (ad r) (md_ct G ad F' X' Y' U' V' Z' r)) (o9 : ∀ q : Nat, q < H.size → q ≠ ad r → H1[q]? = H[q]?) (ho : ∀ r' ∈ md_dm, r' ≠ r → md_ct G ad F' X' Y' U' V' Z' r' = md_ct G ad F X Y U V Z r') : g_Mod G ad F' X' Y' U' V' Z' H1 := by
  refine ⟨fun r' hr' => ?_, h.2⟩
  by_cases e : r' = r
  · rw [e]; exact h9
  · rw [ho r' hr' e]
    have h1 := h.1 r' hr'
    exact h1.kept (o9 _ h1.lt (fun z => e (h.2 r' hr' r hr z)))
theorem md_ctF {G : g_G} {ad : Nat → Nat} {F F' : Nat → Int32} {X Y : g_Wd} {U V : Nat → g_Wd} {Z : g_Wd} : ∀ r' ∈ md_dm, r' ≠ 0 → md_ct G ad F' X Y U V Z r' = md_ct G ad F X Y U V Z r' := by
  intro r' hr' h
  simp only [md_dm, List.mem_cons, List.not_mem_nil, or_false] at hr'
  rcases hr' with rfl | rfl | rfl | rfl | rfl | rfl | rfl | rfl | rfl | rfl | rfl | rfl <;> first | rfl | exact absurd rfl h
theorem md_ctX {G : g_G} {ad : Nat → Nat} {F : Nat → Int32} {X X' Y : g_Wd} {U V : Nat → g_Wd} {Z : g_Wd} : ∀ r' ∈ md_dm, r' ≠ 1 → md_ct G ad F X' Y U V Z r' = md_ct G ad F X Y U V Z r' := by
  intro r' hr' h
  simp only [md_dm, List.mem_cons, List.not_mem_nil, or_false] at hr'
  rcases hr' with rfl | rfl | rfl | rfl | rfl | rfl | rfl | rfl | rfl | rfl | rfl | rfl <;> first | rfl | exact absurd rfl h
theorem md_ctY {G : g_G} {ad : Nat → Nat} {F : Nat → Int32} {X Y Y' : g_Wd} {U V : Nat → g_Wd} {Z : g_Wd} : ∀ r' ∈ md_dm, r' ≠ 2 → md_ct G ad F X Y' U V Z r' = md_ct G ad F X Y U V Z r' := by
  intro r' hr' h
  simp only [md_dm, List.mem_cons, List.not_mem_nil, or_false] at hr'
  rcases hr' with rfl | rfl | rfl | rfl | rfl | rfl | rfl | rfl | rfl | rfl | rfl | rfl <;> first | rfl | exact absurd rfl h
theorem md_ctU {G : g_G} {ad : Nat → Nat} {F : Nat → Int32} {X Y : g_Wd} {U U' V : Nat → g_Wd} {Z : g_Wd} : ∀ r' ∈ md_dm, r' ≠ 3 → md_ct G ad F X Y U' V Z r' = md_ct G ad F X Y U V Z r' := by
  intro r' hr' h
  simp only [md_dm, List.mem_cons, List.not_mem_nil, or_false] at hr'
  rcases hr' with rfl | rfl | rfl | rfl | rfl | rfl | rfl | rfl | rfl | rfl | rfl | rfl <;> first | rfl | exact absurd rfl h
theorem md_ctV {G : g_G} {ad : Nat → Nat} {F : Nat → Int32} {X Y : g_Wd} {U V V' : Nat → g_Wd} {Z : g_Wd} : ∀ r' ∈ md_dm, r' ≠ 4 → md_ct G ad F X Y U V' Z r' = md_ct G ad F X Y U V Z r' := by
  intro r' hr' h
  simp only [md_dm, List.mem_cons, List.not_mem_nil, or_false] at hr'
  rcases hr' with rfl | rfl | rfl | rfl | rfl | rfl | rfl | rfl | rfl | rfl | rfl | rfl <;> first | rfl | exact absurd rfl h
theorem g_up2_row {Z : g_Wd} {r k r' : Nat} {v : Int32} (h : r' ≠ r) : g_up2 Z r k v r' = Z r' := by
  funext j; unfold g_up2; rw [if_neg (fun z => h z.1)]
theorem g_up2_own {Z : g_Wd} {r k : Nat} {v : Int32} : g_up2 Z r k v r = upd (Z r) k v := by
  funext j; unfold g_up2 upd; by_cases h : j = k <;> simp [h]
theorem md_ctZ {G : g_G} {ad : Nat → Nat} {F : Nat → Int32} {X Y : g_Wd} {U V : Nat → g_Wd} {Z : g_Wd} {r k : Nat} {v : Int32} : ∀ r' ∈ md_dm, r' ≠ r → md_ct G ad F X Y U V (g_up2 Z r k v) r' = md_ct G ad F X Y U V Z r' := by
  intro r' hr' h
  simp only [md_dm, List.mem_cons, List.not_mem_nil, or_false] at hr'
  rcases hr' with rfl | rfl | rfl | rfl | rfl | rfl | rfl | rfl | rfl | rfl | rfl | rfl <;> first | rfl | (unfold md_ct; simp only [g_up2_row h])
section GMW
variable {G : g_G} {p : Program} {l : Launch} {e : Env} {R : Room} {s : State} {m : MethodId} {args : Array Value} {below : List Frame} {meth : Method} {c : Code} {H : Heap} {locs : List Loc} {cells slots : Nat} {Q : State → Prop}
variable {cc : ByteArray} {pc : Nat} {ls : Array Slot} {rest : List Value} {own : String} {nL : Nat} {ret : Option FieldType} {ad : Nat → Nat} {F : Nat → Int32} {X Y : g_Wd} {U V : Nat → g_Wd} {Z : g_Wd} {H0 : Heap}
theorem g_topi {x y : Int32} (h : x = y) (k : W p l e R s m args below meth c H locs cells slots Q (F0 m pc ls (.int y :: rest))) : W p l e R s m args below meth c H locs cells slots Q (F0 m pc ls (.int x :: rest)) := by rw [h]; exact k
theorem g_putM (hX : g_X G p s m args meth c cc RX2 nL ret) (h : g_Mod G ad F X Y U V Z H) (hS : va_S (md_A ad) H0 H locs) (k : Nat) (hk : k < 22) {idx : Nat} (hq : Cond.fieldLink RX2 idx RX2 (TX2 k).2.1 (TX2 k).2.2.1 ∈ lw_all) (hsame : (TX2 k).1 = RX2) (hfin : (TX2 k).2.2.2 = false) {x : Int32} (hn : narrow (tyX2 k) (.int x) = .int x) (hfit : fits (tyX2 k) (.int x) = true) {F' : Nat → Int32} (hF : (md_fs F ad).set k (.int x) = md_fs F' ad) (d : decode cc pc = .ok (.putfield idx, 3))
    (kk : ∀ (H1 : Heap) (locs1 : List Loc), g_Mod G ad F' X Y U V Z H1 → va_S (md_A ad) H0 H1 locs1 → W p l e R s m args below meth c H1 locs1 cells slots Q (F0 m (pc + 3) ls rest)) : W p l e R s m args below meth c H locs cells slots Q (F0 m pc ls (.int x :: .ref (ad 0) :: rest)) := by
  refine g_put in_X2 (ci := 1) rfl tyX2 tyX2_ok nmX2 hX h.ob (md_A.at (by decide)) hS k hk hq (fun x h9 => by rw [hsame] at h9; exact h9) hfin hn hfit hk d (fun H1 locs1 h9 o9 hS => kk H1 locs1 ?_ hS)
  rw [hF] at h9
  exact h.upd 0 (by decide) h9 (fun q _ => o9 q) md_ctF
theorem g_istX (hX : g_X G p s m args meth c cc own nL ret) (h : g_Mod G ad F X Y U V Z H) (hS : va_S (md_A ad) H0 H locs) {i x : Int32} (j : Nat) (hi : i = nI j) (hj : j < 1576) {X' : g_Wd} (hX' : upd (g_fl X) j x = g_fl X') (d : decode cc pc = .ok (.iastore, 1))
    (kk : ∀ (H1 : Heap) (locs1 : List Loc), g_Mod G ad F X' Y U V Z H1 → va_S (md_A ad) H0 H1 locs1 → W p l e R s m args below meth c H1 locs1 cells slots Q (F0 m (pc + 1) ls rest)) : W p l e R s m args below meth c H locs cells slots Q (F0 m pc ls (.int x :: .int i :: .ref (ad 1) :: rest)) := by
  refine g_iast hX h.a1 (md_A.at (by decide)) hS j hi hj (by decide) d (fun H1 locs1 h9 o9 hS => kk H1 locs1 ?_ hS)
  rw [hX'] at h9
  exact h.upd 1 (by decide) h9 (fun q _ => o9 q) md_ctX
theorem g_bast (X : g_X G p s m args meth c cc own nL ret) {a : Nat} {A : Nat → Prop} {n : Nat} {f : Nat → Int32} (h : g_at G H a (g_ai G 1 n f)) (hA : A a) (hS : va_S A H0 H locs) {i x : Int32} (j : Nat) (hi : i = nI j) (hj : j < n) (hn : n < 2 ^ 31) {x' : Int32} (hx' : vp_nar .byte x = x') (d : decode cc pc = .ok (.bastore, 1))
    (kk : ∀ (H1 : Heap) (locs1 : List Loc), g_at G H1 a (g_ai G 1 n (upd f j x')) → (∀ q : Nat, q ≠ a → H1[q]? = H[q]?) → va_S A H0 H1 locs1 → W p l e R s m args below meth c H1 locs1 cells slots Q (F0 m (pc + 1) ls rest)) : W p l e R s m args below meth c H locs cells slots Q (F0 m pc ls (.int x :: .int i :: .ref a :: rest)) := by
  subst hi; subst hx'
  refine W.bast X.1.1 X.1.2.1 h ((X.2.2.2.2 1 _ rfl).1 n (fun j => .int (f j))) (fun q => by cases q) (by show ¬ (nI j < 0 ∨ (arrV _ _ _).slots.size ≤ _); rw [arrV_size]; exact vp_in_nI hj hn) rfl rfl d fun H1 e z oq => ?_
  refine kk H1 _ ?_ oq (hS.put z oq hA)
  show H1[a]? = some (vp_cell _ _)
  rw [e, nI_clamp (Nat.lt_trans hj hn)]
  rw [vp_cell_i, vp_cell_i, arrV_store]
  congr 2
  funext q
  by_cases hq : q = j
  · subst hq
    simp [updV, upd, vp_nar, narrow]
  · simp [updV, upd, hq]
theorem g_zast (X : g_X G p s m args meth c cc own nL ret) {a : Nat} {A : Nat → Prop} {n : Nat} {f : Nat → Int32} (h : g_at G H a (g_ai G 2 n f)) (hA : A a) (hS : va_S A H0 H locs) {i x : Int32} (j : Nat) (hi : i = nI j) (hj : j < n) (hn : n < 2 ^ 31) {x' : Int32} (hx' : vp_nar .boolean x = x') (d : decode cc pc = .ok (.bastore, 1))
    (kk : ∀ (H1 : Heap) (locs1 : List Loc), g_at G H1 a (g_ai G 2 n (upd f j x')) → (∀ q : Nat, q ≠ a → H1[q]? = H[q]?) → va_S A H0 H1 locs1 → W p l e R s m args below meth c H1 locs1 cells slots Q (F0 m (pc + 1) ls rest)) : W p l e R s m args below meth c H locs cells slots Q (F0 m pc ls (.int x :: .int i :: .ref a :: rest)) := by
  subst hi; subst hx'
  refine W.zast X.1.1 X.1.2.1 h ((X.2.2.2.2 2 _ rfl).1 n (fun j => .int (f j))) (fun q => by cases q) (by show ¬ (nI j < 0 ∨ (arrV _ _ _).slots.size ≤ _); rw [arrV_size]; exact vp_in_nI hj hn) rfl rfl d fun H1 e z oq => ?_
  refine kk H1 _ ?_ oq (hS.put z oq hA)
  show H1[a]? = some (vp_cell _ _)
  rw [e, nI_clamp (Nat.lt_trans hj hn)]
  rw [vp_cell_i, vp_cell_i, arrV_store]
  congr 2
  funext q
  by_cases hq : q = j
  · subst hq
    simp [updV, upd, vp_nar, narrow]
  · simp [updV, upd, hq]
theorem g_stZ5 (hX : g_X G p s m args meth c cc own nL ret) (h : g_Mod G ad F X Y U V Z H) (hS : va_S (md_A ad) H0 H locs) {i x : Int32} (j : Nat) (hi : i = nI j) (hj : j < 2) {x' : Int32} (hx' : vp_nar .boolean x = x') (d : decode cc pc = .ok (.bastore, 1))
    (kk : ∀ (H1 : Heap) (locs1 : List Loc), g_Mod G ad F X Y U V (g_up2 Z 5 j x') H1 → va_S (md_A ad) H0 H1 locs1 → W p l e R s m args below meth c H1 locs1 cells slots Q (F0 m (pc + 1) ls rest)) : W p l e R s m args below meth c H locs cells slots Q (F0 m pc ls (.int x :: .int i :: .ref (ad 5) :: rest)) := by
  refine g_zast hX h.a5 (md_A.at (by decide)) hS j hi hj (by decide) hx' d (fun H1 locs1 h9 o9 hS => kk H1 locs1 ?_ hS)
  refine h.upd 5 (by decide) ?_ (fun q _ => o9 q) md_ctZ
  show g_at G H1 (ad 5) (g_ai G 2 2 (g_up2 Z 5 j x' 5))
  rw [g_up2_own]; exact h9
theorem g_stZ8 (hX : g_X G p s m args meth c cc own nL ret) (h : g_Mod G ad F X Y U V Z H) (hS : va_S (md_A ad) H0 H locs) {i x : Int32} (j : Nat) (hi : i = nI j) (hj : j < 400) {x' : Int32} (hx' : vp_nar .byte x = x') (d : decode cc pc = .ok (.bastore, 1))
    (kk : ∀ (H1 : Heap) (locs1 : List Loc), g_Mod G ad F X Y U V (g_up2 Z 8 j x') H1 → va_S (md_A ad) H0 H1 locs1 → W p l e R s m args below meth c H1 locs1 cells slots Q (F0 m (pc + 1) ls rest)) : W p l e R s m args below meth c H locs cells slots Q (F0 m pc ls (.int x :: .int i :: .ref (ad 8) :: rest)) := by
  refine g_bast hX h.a8 (md_A.at (by decide)) hS j hi hj (by decide) hx' d (fun H1 locs1 h9 o9 hS => kk H1 locs1 ?_ hS)
  refine h.upd 8 (by decide) ?_ (fun q _ => o9 q) md_ctZ
  show g_at G H1 (ad 8) (g_ai G 1 400 (g_up2 Z 8 j x' 8))
  rw [g_up2_own]; exact h9
theorem g_stZ16 (hX : g_X G p s m args meth c cc own nL ret) (h : g_Mod G ad F X Y U V Z H) (hS : va_S (md_A ad) H0 H locs) {i x : Int32} (j : Nat) (hi : i = nI j) (hj : j < 12) (d : decode cc pc = .ok (.iastore, 1))
    (kk : ∀ (H1 : Heap) (locs1 : List Loc), g_Mod G ad F X Y U V (g_up2 Z 16 j x) H1 → va_S (md_A ad) H0 H1 locs1 → W p l e R s m args below meth c H1 locs1 cells slots Q (F0 m (pc + 1) ls rest)) : W p l e R s m args below meth c H locs cells slots Q (F0 m pc ls (.int x :: .int i :: .ref (ad 16) :: rest)) := by
  refine g_iast hX h.a16 (md_A.at (by decide)) hS j hi hj (by decide) d (fun H1 locs1 h9 o9 hS => kk H1 locs1 ?_ hS)
  refine h.upd 16 (by decide) ?_ (fun q _ => o9 q) md_ctZ
  show g_at G H1 (ad 16) (g_ai G 0 12 (g_up2 Z 16 j x 16))
  rw [g_up2_own]; exact h9
theorem g_stZ17 (hX : g_X G p s m args meth c cc own nL ret) (h : g_Mod G ad F X Y U V Z H) (hS : va_S (md_A ad) H0 H locs) {i x : Int32} (j : Nat) (hi : i = nI j) (hj : j < 12) (d : decode cc pc = .ok (.iastore, 1))
    (kk : ∀ (H1 : Heap) (locs1 : List Loc), g_Mod G ad F X Y U V (g_up2 Z 17 j x) H1 → va_S (md_A ad) H0 H1 locs1 → W p l e R s m args below meth c H1 locs1 cells slots Q (F0 m (pc + 1) ls rest)) : W p l e R s m args below meth c H locs cells slots Q (F0 m pc ls (.int x :: .int i :: .ref (ad 17) :: rest)) := by
  refine g_iast hX h.a17 (md_A.at (by decide)) hS j hi hj (by decide) d (fun H1 locs1 h9 o9 hS => kk H1 locs1 ?_ hS)
  refine h.upd 17 (by decide) ?_ (fun q _ => o9 q) md_ctZ
  show g_at G H1 (ad 17) (g_ai G 0 12 (g_up2 Z 17 j x 17))
  rw [g_up2_own]; exact h9
theorem g_stZ18 (hX : g_X G p s m args meth c cc own nL ret) (h : g_Mod G ad F X Y U V Z H) (hS : va_S (md_A ad) H0 H locs) {i x : Int32} (j : Nat) (hi : i = nI j) (hj : j < 600) {x' : Int32} (hx' : vp_nar .byte x = x') (d : decode cc pc = .ok (.bastore, 1))
    (kk : ∀ (H1 : Heap) (locs1 : List Loc), g_Mod G ad F X Y U V (g_up2 Z 18 j x') H1 → va_S (md_A ad) H0 H1 locs1 → W p l e R s m args below meth c H1 locs1 cells slots Q (F0 m (pc + 1) ls rest)) : W p l e R s m args below meth c H locs cells slots Q (F0 m pc ls (.int x :: .int i :: .ref (ad 18) :: rest)) := by
  refine g_bast hX h.a18 (md_A.at (by decide)) hS j hi hj (by decide) hx' d (fun H1 locs1 h9 o9 hS => kk H1 locs1 ?_ hS)
  refine h.upd 18 (by decide) ?_ (fun q _ => o9 q) md_ctZ
  show g_at G H1 (ad 18) (g_ai G 1 600 (g_up2 Z 18 j x' 18))
  rw [g_up2_own]; exact h9
theorem g_stZ20 (hX : g_X G p s m args meth c cc own nL ret) (h : g_Mod G ad F X Y U V Z H) (hS : va_S (md_A ad) H0 H locs) {i x : Int32} (j : Nat) (hi : i = nI j) (hj : j < 9) (d : decode cc pc = .ok (.iastore, 1))
    (kk : ∀ (H1 : Heap) (locs1 : List Loc), g_Mod G ad F X Y U V (g_up2 Z 20 j x) H1 → va_S (md_A ad) H0 H1 locs1 → W p l e R s m args below meth c H1 locs1 cells slots Q (F0 m (pc + 1) ls rest)) : W p l e R s m args below meth c H locs cells slots Q (F0 m pc ls (.int x :: .int i :: .ref (ad 20) :: rest)) := by
  refine g_iast hX h.a20 (md_A.at (by decide)) hS j hi hj (by decide) d (fun H1 locs1 h9 o9 hS => kk H1 locs1 ?_ hS)
  refine h.upd 20 (by decide) ?_ (fun q _ => o9 q) md_ctZ
  show g_at G H1 (ad 20) (g_ai G 0 9 (g_up2 Z 20 j x 20))
  rw [g_up2_own]; exact h9
theorem g_stZ21 (hX : g_X G p s m args meth c cc own nL ret) (h : g_Mod G ad F X Y U V Z H) (hS : va_S (md_A ad) H0 H locs) {i x : Int32} (j : Nat) (hi : i = nI j) (hj : j < 9) (d : decode cc pc = .ok (.iastore, 1))
    (kk : ∀ (H1 : Heap) (locs1 : List Loc), g_Mod G ad F X Y U V (g_up2 Z 21 j x) H1 → va_S (md_A ad) H0 H1 locs1 → W p l e R s m args below meth c H1 locs1 cells slots Q (F0 m (pc + 1) ls rest)) : W p l e R s m args below meth c H locs cells slots Q (F0 m pc ls (.int x :: .int i :: .ref (ad 21) :: rest)) := by
  refine g_iast hX h.a21 (md_A.at (by decide)) hS j hi hj (by decide) d (fun H1 locs1 h9 o9 hS => kk H1 locs1 ?_ hS)
  refine h.upd 21 (by decide) ?_ (fun q _ => o9 q) md_ctZ
  show g_at G H1 (ad 21) (g_ai G 0 9 (g_up2 Z 21 j x 21))
  rw [g_up2_own]; exact h9
theorem g_narB {b : Bool} {PQ : Heap → Prop} : ∀ (r : Int32) (H : Heap), g_Qv (some (.int (g_b b))) PQ (some (.int r)) H → narrow .boolean (.int r) = .int r := by
  intro r H h
  have h1 : r = g_b b := by have := h.1; injection this with h2; injection h2
  subst h1
  cases b <;> rfl
end GMW
