/-! THE MODEL: input -/
set_option maxRecDepth 100000
theorem y_X2_four : g_Y yX2_four cX2_four 3 none 1 := ⟨q2241, by decide +kernel⟩
theorem v_X2_four : g_YV yX2_four := ⟨q2240, qs39, q140⟩
set_option maxHeartbeats 4000000 in
theorem k_X2_four {G : g_G} {l : Launch} {ad : Nat → Nat} {F : Nat → Int32} {X Y : g_Wd} {U V : Nat → g_Wd} (v : Int32) (T : g_Tx) (hT : T.2 + 4 ≤ 400) : g_Md G l yX2_four cX2_four 3 none 0 0 0 [.ref (ad 0), .int v] (g_Mod G ad (upd F 9 (nI T.2)) X Y U V T.1) (g_Qv none (g_Mod G ad (upd F 9 (nI (c_four T v).2)) X Y U V ((c_four T v).1))) (md_A ad) := by
  refine g_Md.ofV (by decide) ?_
  intro p e s m args below meth c ls Q hX hM hl hS hret
  have hx := hX.1.1
  have hb := hX.1.2.1
  have hl : lv_has ls 3 [(0, .ref (ad 0)), (1, .int v)] := hl
  have key : ∀ (H : Heap) (locs : List Loc), g_Mod G ad (upd F 9 (nI T.2)) X Y U V T.1 H → va_S (md_A ad) s.heap H locs → W p l e (g_rm 0 0 0) s m args below meth c H locs 0 0 Q (F0 m 0 ls []) := by
    intro H locs hM hS
    refine lv_iconst (v := 3) hx hb dX2_four_0 rfl ?_
    refine lv_istore_n (lv' := [(2, .int 3), (0, .ref (ad 0)), (1, .int v)]) hx hb dX2_four_1 rfl hl (by decide) rfl (fun ls hl => ?_)
    refine lv_iload_n hx hb dX2_four_2 rfl (lv_at hl 0 rfl) ?_
    refine g_if_ltN (tgt := 38) hx hb 3 rfl (by omega) dX2_four_3 (by decide) (fun c_3 => ?_) (fun c_3 => ?_)
    · exact absurd c_3 (by decide)
    skip
    refine lv_aload_n hx hb dX2_four_6 rfl (lv_at hl 1 rfl) ?_
    refine g_getM hX hM 8 (by decide) q2171 rfl (v := .ref (ad 8)) rfl dX2_four_7 ?_
    refine lv_aload_n hx hb dX2_four_10 rfl (lv_at hl 1 rfl) ?_
    refine g_getM hX hM 9 (by decide) q2172 rfl (v := .int (nI T.2)) rfl dX2_four_11 ?_
    refine lv_iload_n hx hb dX2_four_14 rfl (lv_at hl 2 rfl) ?_
    refine lv_bipush (v := 8) hx hb dX2_four_15 (by decide) ?_
    refine lv_iload_n hx hb dX2_four_17 rfl (lv_at hl 0 rfl) ?_
    refine g_imulN hx hb 8 3 rfl rfl dX2_four_18 ?_
    refine lv_ishr hx hb dX2_four_19 ?_
    refine lv_i2b hx hb dX2_four_20 rfl ?_
    refine g_stZ8 hX hM hS T.2 rfl (by omega) (x' := ((v >>> ((nI 24) &&& 31)).toInt8.toInt32)) (vw_nar _) dX2_four_21 (fun H locs hM hS => ?_)
    refine lv_aload_n hx hb dX2_four_22 rfl (lv_at hl 1 rfl) ?_
    refine lv_dup hx hb dX2_four_23 rfl ?_
    refine g_getM hX hM 9 (by decide) q2172 rfl (v := .int (nI T.2)) rfl dX2_four_24 ?_
    refine lv_iconst (v := 1) hx hb dX2_four_27 rfl ?_
    refine g_iaddN hx hb T.2 1 rfl rfl dX2_four_28 ?_
    refine g_putM hX hM hS 9 (by decide) q2172 rfl rfl (x := (nI (T.2 + 1))) rfl rfl (F' := upd F 9 (nI (T.2 + 1))) rfl dX2_four_29 (fun H locs hM hS => ?_)
    refine lv_iinc (v := 2) (lv' := [(2, .int 2), (0, .ref (ad 0)), (1, .int v)]) hx hb dX2_four_32 hl (k := 0) rfl (by decide) (by decide) rfl (fun ls hl => ?_)
    refine lv_goto (tgt := 2) hx hb dX2_four_35 (by decide) ?_
    refine lv_iload_n hx hb dX2_four_2 rfl (lv_at hl 0 rfl) ?_
    refine g_if_ltN (tgt := 38) hx hb 2 rfl (by omega) dX2_four_3 (by decide) (fun c_3 => ?_) (fun c_3 => ?_)
    · exact absurd c_3 (by decide)
    skip
    refine lv_aload_n hx hb dX2_four_6 rfl (lv_at hl 1 rfl) ?_
    refine g_getM hX hM 8 (by decide) q2171 rfl (v := .ref (ad 8)) rfl dX2_four_7 ?_
    refine lv_aload_n hx hb dX2_four_10 rfl (lv_at hl 1 rfl) ?_
    refine g_getM hX hM 9 (by decide) q2172 rfl (v := .int (nI (T.2 + 1))) rfl dX2_four_11 ?_
    refine lv_iload_n hx hb dX2_four_14 rfl (lv_at hl 2 rfl) ?_
    refine lv_bipush (v := 8) hx hb dX2_four_15 (by decide) ?_
    refine lv_iload_n hx hb dX2_four_17 rfl (lv_at hl 0 rfl) ?_
    refine g_imulN hx hb 8 2 rfl rfl dX2_four_18 ?_
    refine lv_ishr hx hb dX2_four_19 ?_
    refine lv_i2b hx hb dX2_four_20 rfl ?_
    refine g_stZ8 hX hM hS (T.2 + 1) rfl (by omega) (x' := ((v >>> ((nI 16) &&& 31)).toInt8.toInt32)) (vw_nar _) dX2_four_21 (fun H locs hM hS => ?_)
    refine lv_aload_n hx hb dX2_four_22 rfl (lv_at hl 1 rfl) ?_
    refine lv_dup hx hb dX2_four_23 rfl ?_
    refine g_getM hX hM 9 (by decide) q2172 rfl (v := .int (nI (T.2 + 1))) rfl dX2_four_24 ?_
    refine lv_iconst (v := 1) hx hb dX2_four_27 rfl ?_
    refine g_iaddN hx hb (T.2 + 1) 1 rfl rfl dX2_four_28 ?_
    refine g_putM hX hM hS 9 (by decide) q2172 rfl rfl (x := (nI (T.2 + 1 + 1))) rfl rfl (F' := upd F 9 (nI (T.2 + 1 + 1))) rfl dX2_four_29 (fun H locs hM hS => ?_)
    refine lv_iinc (v := 1) (lv' := [(2, .int 1), (0, .ref (ad 0)), (1, .int v)]) hx hb dX2_four_32 hl (k := 0) rfl (by decide) (by decide) rfl (fun ls hl => ?_)
    refine lv_goto (tgt := 2) hx hb dX2_four_35 (by decide) ?_
    refine lv_iload_n hx hb dX2_four_2 rfl (lv_at hl 0 rfl) ?_
    refine g_if_ltN (tgt := 38) hx hb 1 rfl (by omega) dX2_four_3 (by decide) (fun c_3 => ?_) (fun c_3 => ?_)
    · exact absurd c_3 (by decide)
    skip
    refine lv_aload_n hx hb dX2_four_6 rfl (lv_at hl 1 rfl) ?_
    refine g_getM hX hM 8 (by decide) q2171 rfl (v := .ref (ad 8)) rfl dX2_four_7 ?_
    refine lv_aload_n hx hb dX2_four_10 rfl (lv_at hl 1 rfl) ?_
    refine g_getM hX hM 9 (by decide) q2172 rfl (v := .int (nI (T.2 + 1 + 1))) rfl dX2_four_11 ?_
    refine lv_iload_n hx hb dX2_four_14 rfl (lv_at hl 2 rfl) ?_
    refine lv_bipush (v := 8) hx hb dX2_four_15 (by decide) ?_
    refine lv_iload_n hx hb dX2_four_17 rfl (lv_at hl 0 rfl) ?_
    refine g_imulN hx hb 8 1 rfl rfl dX2_four_18 ?_
    refine lv_ishr hx hb dX2_four_19 ?_
    refine lv_i2b hx hb dX2_four_20 rfl ?_
    refine g_stZ8 hX hM hS (T.2 + 1 + 1) rfl (by omega) (x' := ((v >>> ((nI 8) &&& 31)).toInt8.toInt32)) (vw_nar _) dX2_four_21 (fun H locs hM hS => ?_)
    refine lv_aload_n hx hb dX2_four_22 rfl (lv_at hl 1 rfl) ?_
    refine lv_dup hx hb dX2_four_23 rfl ?_
    refine g_getM hX hM 9 (by decide) q2172 rfl (v := .int (nI (T.2 + 1 + 1))) rfl dX2_four_24 ?_
    refine lv_iconst (v := 1) hx hb dX2_four_27 rfl ?_
    refine g_iaddN hx hb (T.2 + 1 + 1) 1 rfl rfl dX2_four_28 ?_
    refine g_putM hX hM hS 9 (by decide) q2172 rfl rfl (x := (nI (T.2 + 1 + 1 + 1))) rfl rfl (F' := upd F 9 (nI (T.2 + 1 + 1 + 1))) rfl dX2_four_29 (fun H locs hM hS => ?_)
    refine lv_iinc (v := 0) (lv' := [(2, .int 0), (0, .ref (ad 0)), (1, .int v)]) hx hb dX2_four_32 hl (k := 0) rfl (by decide) (by decide) rfl (fun ls hl => ?_)
    refine lv_goto (tgt := 2) hx hb dX2_four_35 (by decide) ?_
    refine lv_iload_n hx hb dX2_four_2 rfl (lv_at hl 0 rfl) ?_
    refine g_if_ltN (tgt := 38) hx hb 0 rfl (by omega) dX2_four_3 (by decide) (fun c_3 => ?_) (fun c_3 => ?_)
    · exact absurd c_3 (by decide)
    skip
    refine lv_aload_n hx hb dX2_four_6 rfl (lv_at hl 1 rfl) ?_
    refine g_getM hX hM 8 (by decide) q2171 rfl (v := .ref (ad 8)) rfl dX2_four_7 ?_
    refine lv_aload_n hx hb dX2_four_10 rfl (lv_at hl 1 rfl) ?_
    refine g_getM hX hM 9 (by decide) q2172 rfl (v := .int (nI (T.2 + 1 + 1 + 1))) rfl dX2_four_11 ?_
    refine lv_iload_n hx hb dX2_four_14 rfl (lv_at hl 2 rfl) ?_
    refine lv_bipush (v := 8) hx hb dX2_four_15 (by decide) ?_
    refine lv_iload_n hx hb dX2_four_17 rfl (lv_at hl 0 rfl) ?_
    refine g_imulN hx hb 8 0 rfl rfl dX2_four_18 ?_
    refine lv_ishr hx hb dX2_four_19 ?_
    refine lv_i2b hx hb dX2_four_20 rfl ?_
    refine g_stZ8 hX hM hS (T.2 + 1 + 1 + 1) rfl (by omega) (x' := ((v >>> ((nI 0) &&& 31)).toInt8.toInt32)) (vw_nar _) dX2_four_21 (fun H locs hM hS => ?_)
    refine lv_aload_n hx hb dX2_four_22 rfl (lv_at hl 1 rfl) ?_
    refine lv_dup hx hb dX2_four_23 rfl ?_
    refine g_getM hX hM 9 (by decide) q2172 rfl (v := .int (nI (T.2 + 1 + 1 + 1))) rfl dX2_four_24 ?_
    refine lv_iconst (v := 1) hx hb dX2_four_27 rfl ?_
    refine g_iaddN hx hb (T.2 + 1 + 1 + 1) 1 rfl rfl dX2_four_28 ?_
    refine g_putM hX hM hS 9 (by decide) q2172 rfl rfl (x := (nI (T.2 + 1 + 1 + 1 + 1))) rfl rfl (F' := upd F 9 (nI (T.2 + 1 + 1 + 1 + 1))) rfl dX2_four_29 (fun H locs hM hS => ?_)
    refine lv_iinc (v := (-1)) (lv' := [(2, .int (-1)), (0, .ref (ad 0)), (1, .int v)]) hx hb dX2_four_32 hl (k := 0) rfl (by decide) (by decide) rfl (fun ls hl => ?_)
    refine lv_goto (tgt := 2) hx hb dX2_four_35 (by decide) ?_
    refine lv_iload_n hx hb dX2_four_2 rfl (lv_at hl 0 rfl) ?_
    refine lv_if_lt (tgt := 38) hx hb dX2_four_3 (by decide) (fun c_3 => ?_) (fun c_3 => ?_)
    rotate_left
    · exact absurd c_3 (by decide)
    exact hret H locs _ _ _ _ dX2_four_38 hS (Nat.le_refl _) (Nat.le_refl _) (⟨rfl, hM⟩)
  exact key _ _ hM hS

theorem y_X2_append : g_Y yX2_append cX2_append 6 (some .int) 5 := ⟨q2237, by decide +kernel⟩
theorem v_X2_append : g_YV yX2_append := ⟨q2235, q2236, q140⟩
set_option maxHeartbeats 4000000 in
theorem ok_X2_append {G : g_G} {l : Launch} {ad : Nat → Nat} {F : Nat → Int32} {X Y : g_Wd} {U V : Nat → g_Wd} {Z : g_Wd} (a : Int32) (b : Int32) (d : Int32) (f : Int32) (g : Int32) (n : Nat) (hn : F 9 = nI n) (hn4 : n ≤ 380) : g_Md G l yX2_append cX2_append 6 (some .int) 1 0 0 [.ref (ad 0), .int a, .int b, .int d, .int f, .int g] (g_Mod G ad F X Y U V Z) (g_Qv (some (.int (nI (n + 20)))) (g_Mod G ad (upd (upd F 0 0) 9 (nI (n + 20))) X Y U V ((c_app (Z, n) a b d f g).1))) (md_A ad) := by
  refine g_Md.ofI (by decide) (fun _ _ _ => rfl) ?_
  intro p e s m args below meth c ls Q hX hM hl hS hret
  have hx := hX.1.1
  have hb := hX.1.2.1
  have hl : lv_has ls 6 [(0, .ref (ad 0)), (1, .int a), (2, .int b), (3, .int d), (4, .int f), (5, .int g)] := hl
  have key : ∀ (H : Heap) (locs : List Loc), g_Mod G ad F X Y U V Z H → va_S (md_A ad) s.heap H locs → W p l e (g_rm 1 0 0) s m args below meth c H locs 0 0 Q (F0 m 0 ls []) := by
    intro H locs hM hS
    refine lv_aload_n hx hb dX2_append_0 rfl (lv_at hl 0 rfl) ?_
    refine lv_iconst (v := 0) hx hb dX2_append_1 rfl ?_
    refine g_putM hX hM hS 0 (by decide) q2163 rfl rfl (x := 0) rfl rfl (F' := upd F 0 0) rfl dX2_append_2 (fun H locs hM hS => ?_)
    refine lv_aload_n hx hb dX2_append_5 rfl (lv_at hl 0 rfl) ?_
    refine g_getM hX hM 9 (by decide) q2172 rfl (v := .int (F 9)) rfl dX2_append_6 ?_
    refine lv_sipush (v := 380) hx hb dX2_append_9 (by decide) ?_
    refine g_icmp_leN (tgt := 17) hx hb n 380 hn rfl (by omega) (by omega) dX2_append_12 (by decide) (fun c_12 => ?_) (fun c_12 => ?_)
    rotate_left
    · exact absurd c_12 (by omega)
    replace hM : g_Mod G ad (upd (upd F 0 0) 9 (nI (Z, n).2)) X Y U V ((Z, n).1) H := by rw [show upd F 0 0 = upd (upd F 0 0) 9 (nI n) from upd_own (show upd F 0 0 9 = nI n from hn)] at hM; exact hM
    refine lv_aload_n hx hb dX2_append_17 rfl (lv_at hl 0 rfl) ?_
    refine lv_iload_n hx hb dX2_append_18 rfl (lv_at hl 1 rfl) ?_
    refine g_cMV hX hl y_X2_four v_X2_four q2238 (k_X2_four a (Z, n) (by (try simp only [c_four_2]); omega)) (hM.rc hX.2.2.2) hM rfl ⟨Nat.le_of_ble_eq_true rfl, Nat.le_of_ble_eq_true rfl⟩ ⟨Nat.le_refl _, Nat.le_refl _⟩ (rest := []) (st1 := []) rfl rfl (Nat.le_of_ble_eq_true rfl) dX2_append_19 hS (fun _ h => h) (fun H locs hM hS _ => ?_)
    refine lv_aload_n hx hb dX2_append_22 rfl (lv_at hl 0 rfl) ?_
    refine lv_iload_n hx hb dX2_append_23 rfl (lv_at hl 2 rfl) ?_
    refine g_cMV hX hl y_X2_four v_X2_four q2238 (k_X2_four b (c_four (Z, n) a) (by (try simp only [c_four_2]); omega)) (hM.rc hX.2.2.2) hM rfl ⟨Nat.le_of_ble_eq_true rfl, Nat.le_of_ble_eq_true rfl⟩ ⟨Nat.le_refl _, Nat.le_refl _⟩ (rest := []) (st1 := []) rfl rfl (Nat.le_of_ble_eq_true rfl) dX2_append_24 hS (fun _ h => h) (fun H locs hM hS _ => ?_)
    refine lv_aload_n hx hb dX2_append_27 rfl (lv_at hl 0 rfl) ?_
    refine lv_iload_n hx hb dX2_append_28 rfl (lv_at hl 3 rfl) ?_
    refine g_cMV hX hl y_X2_four v_X2_four q2238 (k_X2_four d (c_four (c_four (Z, n) a) b) (by (try simp only [c_four_2]); omega)) (hM.rc hX.2.2.2) hM rfl ⟨Nat.le_of_ble_eq_true rfl, Nat.le_of_ble_eq_true rfl⟩ ⟨Nat.le_refl _, Nat.le_refl _⟩ (rest := []) (st1 := []) rfl rfl (Nat.le_of_ble_eq_true rfl) dX2_append_29 hS (fun _ h => h) (fun H locs hM hS _ => ?_)
    refine lv_aload_n hx hb dX2_append_32 rfl (lv_at hl 0 rfl) ?_
    refine lv_iload hx hb dX2_append_33 (lv_at hl 4 rfl) ?_
    refine g_cMV hX hl y_X2_four v_X2_four q2238 (k_X2_four f (c_four (c_four (c_four (Z, n) a) b) d) (by (try simp only [c_four_2]); omega)) (hM.rc hX.2.2.2) hM rfl ⟨Nat.le_of_ble_eq_true rfl, Nat.le_of_ble_eq_true rfl⟩ ⟨Nat.le_refl _, Nat.le_refl _⟩ (rest := []) (st1 := []) rfl rfl (Nat.le_of_ble_eq_true rfl) dX2_append_35 hS (fun _ h => h) (fun H locs hM hS _ => ?_)
    refine lv_aload_n hx hb dX2_append_38 rfl (lv_at hl 0 rfl) ?_
    refine lv_iload hx hb dX2_append_39 (lv_at hl 5 rfl) ?_
    refine g_cMV hX hl y_X2_four v_X2_four q2238 (k_X2_four g (c_four (c_four (c_four (c_four (Z, n) a) b) d) f) (by (try simp only [c_four_2]); omega)) (hM.rc hX.2.2.2) hM rfl ⟨Nat.le_of_ble_eq_true rfl, Nat.le_of_ble_eq_true rfl⟩ ⟨Nat.le_refl _, Nat.le_refl _⟩ (rest := []) (st1 := []) rfl rfl (Nat.le_of_ble_eq_true rfl) dX2_append_41 hS (fun _ h => h) (fun H locs hM hS _ => ?_)
    refine lv_aload_n hx hb dX2_append_44 rfl (lv_at hl 0 rfl) ?_
    refine g_getM hX hM 9 (by decide) q2172 rfl (v := .int (nI (c_four (c_four (c_four (c_four (c_four (Z, n) a) b) d) f) g).2)) rfl dX2_append_45 ?_
    exact hret H locs _ _ _ _ _ dX2_append_48 hS (Nat.le_refl _) (Nat.le_refl _) (⟨rfl, hM⟩)
  exact key _ _ hM hS

set_option maxHeartbeats 4000000 in
theorem fu_X2_append {G : g_G} {l : Launch} {ad : Nat → Nat} {F : Nat → Int32} {X Y : g_Wd} {U V : Nat → g_Wd} {Z : g_Wd} (a : Int32) (b : Int32) (d : Int32) (f : Int32) (g : Int32) (n : Nat) (hn : F 9 = nI n) (hn4 : 380 < n ∧ n ≤ 400) : g_Md G l yX2_append cX2_append 6 (some .int) 0 0 0 [.ref (ad 0), .int a, .int b, .int d, .int f, .int g] (g_Mod G ad F X Y U V Z) (g_Qv (some (.int (-1))) (g_Mod G ad (upd F 0 0) X Y U V Z)) (md_A ad) := by
  refine g_Md.ofI (by decide) (fun _ _ _ => rfl) ?_
  intro p e s m args below meth c ls Q hX hM hl hS hret
  have hx := hX.1.1
  have hb := hX.1.2.1
  have hl : lv_has ls 6 [(0, .ref (ad 0)), (1, .int a), (2, .int b), (3, .int d), (4, .int f), (5, .int g)] := hl
  have key : ∀ (H : Heap) (locs : List Loc), g_Mod G ad F X Y U V Z H → va_S (md_A ad) s.heap H locs → W p l e (g_rm 0 0 0) s m args below meth c H locs 0 0 Q (F0 m 0 ls []) := by
    intro H locs hM hS
    refine lv_aload_n hx hb dX2_append_0 rfl (lv_at hl 0 rfl) ?_
    refine lv_iconst (v := 0) hx hb dX2_append_1 rfl ?_
    refine g_putM hX hM hS 0 (by decide) q2163 rfl rfl (x := 0) rfl rfl (F' := upd F 0 0) rfl dX2_append_2 (fun H locs hM hS => ?_)
    refine lv_aload_n hx hb dX2_append_5 rfl (lv_at hl 0 rfl) ?_
    refine g_getM hX hM 9 (by decide) q2172 rfl (v := .int (F 9)) rfl dX2_append_6 ?_
    refine lv_sipush (v := 380) hx hb dX2_append_9 (by decide) ?_
    refine g_icmp_leN (tgt := 17) hx hb n 380 hn rfl (by omega) (by omega) dX2_append_12 (by decide) (fun c_12 => ?_) (fun c_12 => ?_)
    · exact absurd c_12 (by omega)
    skip
    refine lv_iconst (v := (-1)) hx hb dX2_append_15 rfl ?_
    exact hret H locs _ _ _ _ _ dX2_append_16 hS (Nat.le_refl _) (Nat.le_refl _) (⟨rfl, hM⟩)
  exact key _ _ hM hS

theorem y_X2_parseError : g_Y yX2_parseError cX2_parseError 1 (some .int) 0 := ⟨q2245, by decide +kernel⟩
theorem v_X2_parseError : g_YV yX2_parseError := ⟨q2243, q2244, q140⟩
set_option maxHeartbeats 4000000 in
theorem k_X2_parseError {G : g_G} {l : Launch} {ad : Nat → Nat} {F : Nat → Int32} {X Y : g_Wd} {U V : Nat → g_Wd} {Z : g_Wd}   : g_Md G l yX2_parseError cX2_parseError 1 (some .int) 0 0 0 [.ref (ad 0)] (g_Mod G ad F X Y U V Z) (g_Qv (some (.int (F 10))) (g_Mod G ad (upd F 0 0) X Y U V Z)) (md_A ad) := by
  refine g_Md.ofI (by decide) (fun _ _ _ => rfl) ?_
  intro p e s m args below meth c ls Q hX hM hl hS hret
  have hx := hX.1.1
  have hb := hX.1.2.1
  have hl : lv_has ls 1 [(0, .ref (ad 0))] := hl
  have key : ∀ (H : Heap) (locs : List Loc), g_Mod G ad F X Y U V Z H → va_S (md_A ad) s.heap H locs → W p l e (g_rm 0 0 0) s m args below meth c H locs 0 0 Q (F0 m 0 ls []) := by
    intro H locs hM hS
    refine lv_aload_n hx hb dX2_parseError_0 rfl (lv_at hl 0 rfl) ?_
    refine lv_iconst (v := 0) hx hb dX2_parseError_1 rfl ?_
    refine g_putM hX hM hS 0 (by decide) q2163 rfl rfl (x := 0) rfl rfl (F' := upd F 0 0) rfl dX2_parseError_2 (fun H locs hM hS => ?_)
    refine lv_aload_n hx hb dX2_parseError_5 rfl (lv_at hl 0 rfl) ?_
    refine g_getM hX hM 10 (by decide) q2173 rfl (v := .int ((upd F 0 0) 10)) rfl dX2_parseError_6 ?_
    exact hret H locs _ _ _ _ _ dX2_parseError_9 hS (Nat.le_refl _) (Nat.le_refl _) (⟨rfl, hM⟩)
  exact key _ _ hM hS

theorem y_X2_errorPosition : g_Y yX2_errorPosition cX2_errorPosition 1 (some .int) 0 := ⟨q2249, by decide +kernel⟩
theorem v_X2_errorPosition : g_YV yX2_errorPosition := ⟨q2247, q2248, q140⟩
set_option maxHeartbeats 4000000 in
theorem k_X2_errorPosition {G : g_G} {l : Launch} {ad : Nat → Nat} {F : Nat → Int32} {X Y : g_Wd} {U V : Nat → g_Wd} {Z : g_Wd}   : g_Md G l yX2_errorPosition cX2_errorPosition 1 (some .int) 0 0 0 [.ref (ad 0)] (g_Mod G ad F X Y U V Z) (g_Qv (some (.int (F 11))) (g_Mod G ad (upd F 0 0) X Y U V Z)) (md_A ad) := by
  refine g_Md.ofI (by decide) (fun _ _ _ => rfl) ?_
  intro p e s m args below meth c ls Q hX hM hl hS hret
  have hx := hX.1.1
  have hb := hX.1.2.1
  have hl : lv_has ls 1 [(0, .ref (ad 0))] := hl
  have key : ∀ (H : Heap) (locs : List Loc), g_Mod G ad F X Y U V Z H → va_S (md_A ad) s.heap H locs → W p l e (g_rm 0 0 0) s m args below meth c H locs 0 0 Q (F0 m 0 ls []) := by
    intro H locs hM hS
    refine lv_aload_n hx hb dX2_errorPosition_0 rfl (lv_at hl 0 rfl) ?_
    refine lv_iconst (v := 0) hx hb dX2_errorPosition_1 rfl ?_
    refine g_putM hX hM hS 0 (by decide) q2163 rfl rfl (x := 0) rfl rfl (F' := upd F 0 0) rfl dX2_errorPosition_2 (fun H locs hM hS => ?_)
    refine lv_aload_n hx hb dX2_errorPosition_5 rfl (lv_at hl 0 rfl) ?_
    refine g_getM hX hM 11 (by decide) q2174 rfl (v := .int ((upd F 0 0) 11)) rfl dX2_errorPosition_6 ?_
    exact hret H locs _ _ _ _ _ dX2_errorPosition_9 hS (Nat.le_refl _) (Nat.le_refl _) (⟨rfl, hM⟩)
  exact key _ _ hM hS

theorem y_X2_buffered : g_Y yX2_buffered cX2_buffered 1 (some .int) 0 := ⟨q2253, by decide +kernel⟩
theorem v_X2_buffered : g_YV yX2_buffered := ⟨q2251, q2252, q140⟩
set_option maxHeartbeats 4000000 in
theorem k_X2_buffered {G : g_G} {l : Launch} {ad : Nat → Nat} {F : Nat → Int32} {X Y : g_Wd} {U V : Nat → g_Wd} {Z : g_Wd}   : g_Md G l yX2_buffered cX2_buffered 1 (some .int) 0 0 0 [.ref (ad 0)] (g_Mod G ad F X Y U V Z) (g_Qv (some (.int (F 9))) (g_Mod G ad (upd F 0 0) X Y U V Z)) (md_A ad) := by
  refine g_Md.ofI (by decide) (fun _ _ _ => rfl) ?_
  intro p e s m args below meth c ls Q hX hM hl hS hret
  have hx := hX.1.1
  have hb := hX.1.2.1
  have hl : lv_has ls 1 [(0, .ref (ad 0))] := hl
  have key : ∀ (H : Heap) (locs : List Loc), g_Mod G ad F X Y U V Z H → va_S (md_A ad) s.heap H locs → W p l e (g_rm 0 0 0) s m args below meth c H locs 0 0 Q (F0 m 0 ls []) := by
    intro H locs hM hS
    refine lv_aload_n hx hb dX2_buffered_0 rfl (lv_at hl 0 rfl) ?_
    refine lv_iconst (v := 0) hx hb dX2_buffered_1 rfl ?_
    refine g_putM hX hM hS 0 (by decide) q2163 rfl rfl (x := 0) rfl rfl (F' := upd F 0 0) rfl dX2_buffered_2 (fun H locs hM hS => ?_)
    refine lv_aload_n hx hb dX2_buffered_5 rfl (lv_at hl 0 rfl) ?_
    refine g_getM hX hM 9 (by decide) q2172 rfl (v := .int ((upd F 0 0) 9)) rfl dX2_buffered_6 ?_
    exact hret H locs _ _ _ _ _ dX2_buffered_9 hS (Nat.le_refl _) (Nat.le_refl _) (⟨rfl, hM⟩)
  exact key _ _ hM hS
