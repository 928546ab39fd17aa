/-! THE MODEL: what changes the world -/
set_option maxRecDepth 100000
theorem y_X2_may : g_Y yX2_may cX2_may 4 (some .boolean) 3 := ⟨q2264, by decide +kernel⟩
theorem v_X2_may : g_YV yX2_may := ⟨q2263, qs40, q140⟩
set_option maxHeartbeats 4000000 in
theorem k_X2_may {G : g_G} {l : Launch} {ad : Nat → Nat} {F : Nat → Int32} {X Y : g_Wd} {U V : Nat → g_Wd} {Z : g_Wd} (a : Int32) (b : Int32) (d : Int32)  : g_Md G l yX2_may cX2_may 4 (some .boolean) 0 0 0 [.ref (ad 0), .int a, .int b, .int d] (g_Mod G ad F X Y U V Z) (g_Qv (some (.int (g_b (decide (s_may a b d = 0))))) (g_Mod G ad (upd F 0 (s_may a b d)) X Y U V Z)) (md_A ad) := by
  refine g_Md.ofI (by decide) g_narB ?_
  intro p e s m args below meth c ls Q hX hM hl hS hret
  have hx := hX.1.1
  have hb := hX.1.2.1
  have hl : lv_has ls 4 [(0, .ref (ad 0)), (1, .int a), (2, .int b), (3, .int d)] := hl
  have key : ∀ (H : Heap) (locs : List Loc), g_Mod G ad F X Y U V Z H → va_S (md_A ad) s.heap H locs → W p l e (g_rm 0 0 0) s m args below meth c H locs 0 0 Q (F0 m 0 ls []) := by
    intro H locs hM hS
    refine lv_aload_n hx hb dX2_may_0 rfl (lv_at hl 0 rfl) ?_
    refine lv_iload_n hx hb dX2_may_1 rfl (lv_at hl 1 rfl) ?_
    refine lv_if_ne (tgt := 9) hx hb dX2_may_2 (by decide) (fun c_2 => ?_) (fun c_2 => ?_)
    · skip
      refine lv_iload_n hx hb dX2_may_9 rfl (lv_at hl 2 rfl) ?_
      refine lv_if_ne (tgt := 17) hx hb dX2_may_10 (by decide) (fun c_10 => ?_) (fun c_10 => ?_)
      · skip
        refine lv_iload_n hx hb dX2_may_17 rfl (lv_at hl 3 rfl) ?_
        refine lv_if_eq (tgt := 25) hx hb dX2_may_18 (by decide) (fun c_18 => ?_) (fun c_18 => ?_)
        · skip
          refine lv_iconst (v := 3) hx hb dX2_may_25 rfl ?_
          refine g_putM hX hM hS 0 (by decide) q2163 rfl rfl (x := 3) rfl rfl (F' := upd F 0 3) rfl dX2_may_26 (fun H locs hM hS => ?_)
          refine lv_aload_n hx hb dX2_may_29 rfl (lv_at hl 0 rfl) ?_
          refine g_getM hX hM 0 (by decide) q2163 rfl (v := .int 3) rfl dX2_may_30 ?_
          refine g_if_neN (tgt := 40) hx hb 3 rfl (by omega) dX2_may_33 (by decide) (fun c_33 => ?_) (fun c_33 => ?_)
          · skip
            refine lv_iconst (v := 0) hx hb dX2_may_40 rfl ?_
            exact hret H locs _ _ _ _ _ dX2_may_41 hS (Nat.le_refl _) (Nat.le_refl _) (by first | exact absurd c_33 (by decide) | (have e : s_may a b d = 3 := (by simp [s_may, *]); rw [e]; exact ⟨rfl, hM⟩))
          · skip
            refine lv_iconst (v := 1) hx hb dX2_may_36 rfl ?_
            refine lv_goto (tgt := 41) hx hb dX2_may_37 (by decide) ?_
            exact hret H locs _ _ _ _ _ dX2_may_41 hS (Nat.le_refl _) (Nat.le_refl _) (by first | exact absurd c_33 (by decide) | (have e : s_may a b d = 3 := (by simp [s_may, *]); rw [e]; exact ⟨rfl, hM⟩))
        · skip
          refine lv_iconst (v := 0) hx hb dX2_may_21 rfl ?_
          refine lv_goto (tgt := 26) hx hb dX2_may_22 (by decide) ?_
          refine g_putM hX hM hS 0 (by decide) q2163 rfl rfl (x := 0) rfl rfl (F' := upd F 0 0) rfl dX2_may_26 (fun H locs hM hS => ?_)
          refine lv_aload_n hx hb dX2_may_29 rfl (lv_at hl 0 rfl) ?_
          refine g_getM hX hM 0 (by decide) q2163 rfl (v := .int 0) rfl dX2_may_30 ?_
          refine g_if_neN (tgt := 40) hx hb 0 rfl (by omega) dX2_may_33 (by decide) (fun c_33 => ?_) (fun c_33 => ?_)
          · skip
            refine lv_iconst (v := 0) hx hb dX2_may_40 rfl ?_
            exact hret H locs _ _ _ _ _ dX2_may_41 hS (Nat.le_refl _) (Nat.le_refl _) (by first | exact absurd c_33 (by decide) | (have e : s_may a b d = 0 := (by simp [s_may, *]); rw [e]; exact ⟨rfl, hM⟩))
          · skip
            refine lv_iconst (v := 1) hx hb dX2_may_36 rfl ?_
            refine lv_goto (tgt := 41) hx hb dX2_may_37 (by decide) ?_
            exact hret H locs _ _ _ _ _ dX2_may_41 hS (Nat.le_refl _) (Nat.le_refl _) (by first | exact absurd c_33 (by decide) | (have e : s_may a b d = 0 := (by simp [s_may, *]); rw [e]; exact ⟨rfl, hM⟩))
      · skip
        refine lv_iconst (v := 2) hx hb dX2_may_13 rfl ?_
        refine lv_goto (tgt := 26) hx hb dX2_may_14 (by decide) ?_
        refine g_putM hX hM hS 0 (by decide) q2163 rfl rfl (x := 2) rfl rfl (F' := upd F 0 2) rfl dX2_may_26 (fun H locs hM hS => ?_)
        refine lv_aload_n hx hb dX2_may_29 rfl (lv_at hl 0 rfl) ?_
        refine g_getM hX hM 0 (by decide) q2163 rfl (v := .int 2) rfl dX2_may_30 ?_
        refine g_if_neN (tgt := 40) hx hb 2 rfl (by omega) dX2_may_33 (by decide) (fun c_33 => ?_) (fun c_33 => ?_)
        · skip
          refine lv_iconst (v := 0) hx hb dX2_may_40 rfl ?_
          exact hret H locs _ _ _ _ _ dX2_may_41 hS (Nat.le_refl _) (Nat.le_refl _) (by first | exact absurd c_33 (by decide) | (have e : s_may a b d = 2 := (by simp [s_may, *]); rw [e]; exact ⟨rfl, hM⟩))
        · skip
          refine lv_iconst (v := 1) hx hb dX2_may_36 rfl ?_
          refine lv_goto (tgt := 41) hx hb dX2_may_37 (by decide) ?_
          exact hret H locs _ _ _ _ _ dX2_may_41 hS (Nat.le_refl _) (Nat.le_refl _) (by first | exact absurd c_33 (by decide) | (have e : s_may a b d = 2 := (by simp [s_may, *]); rw [e]; exact ⟨rfl, hM⟩))
    · skip
      refine lv_iconst (v := 1) hx hb dX2_may_5 rfl ?_
      refine lv_goto (tgt := 26) hx hb dX2_may_6 (by decide) ?_
      refine g_putM hX hM hS 0 (by decide) q2163 rfl rfl (x := 1) rfl rfl (F' := upd F 0 1) rfl dX2_may_26 (fun H locs hM hS => ?_)
      refine lv_aload_n hx hb dX2_may_29 rfl (lv_at hl 0 rfl) ?_
      refine g_getM hX hM 0 (by decide) q2163 rfl (v := .int 1) rfl dX2_may_30 ?_
      refine g_if_neN (tgt := 40) hx hb 1 rfl (by omega) dX2_may_33 (by decide) (fun c_33 => ?_) (fun c_33 => ?_)
      · skip
        refine lv_iconst (v := 0) hx hb dX2_may_40 rfl ?_
        exact hret H locs _ _ _ _ _ dX2_may_41 hS (Nat.le_refl _) (Nat.le_refl _) (by first | exact absurd c_33 (by decide) | (have e : s_may a b d = 1 := (by simp [s_may, *]); rw [e]; exact ⟨rfl, hM⟩))
      · skip
        refine lv_iconst (v := 1) hx hb dX2_may_36 rfl ?_
        refine lv_goto (tgt := 41) hx hb dX2_may_37 (by decide) ?_
        exact hret H locs _ _ _ _ _ dX2_may_41 hS (Nat.le_refl _) (Nat.le_refl _) (by first | exact absurd c_33 (by decide) | (have e : s_may a b d = 1 := (by simp [s_may, *]); rw [e]; exact ⟨rfl, hM⟩))
  exact key _ _ hM hS

theorem y_X2_puts : g_Y yX2_puts cX2_puts 4 none 3 := ⟨q2356, by decide +kernel⟩
theorem v_X2_puts : g_YV yX2_puts := ⟨q2355, qs60, q140⟩
set_option maxHeartbeats 4000000 in
theorem k_X2_puts {G : g_G} {l : Launch} {ad : Nat → Nat} {F : Nat → Int32} {X Y : g_Wd} {U V : Nat → g_Wd} {Z : g_Wd} (m0 : Nat) (k : Nat) (v : Int32) (hm0 : m0 < 6) (hk : k < 197) : g_Md G l yX2_puts cX2_puts 4 none 0 0 0 [.ref (ad 0), .int (nI m0), .int (nI k), .int v] (g_Mod G ad F X Y U V Z) (g_Qv none (g_Mod G ad F (g_up2 X (3 + m0) k v) Y U V Z)) (md_A ad) := by
  refine g_Md.ofV (by decide) ?_
  intro p e s m args below meth c ls Q hX hM hl hS hret
  have hx := hX.1.1
  have hb := hX.1.2.1
  have hl : lv_has ls 4 [(0, .ref (ad 0)), (1, .int (nI m0)), (2, .int (nI k)), (3, .int v)] := hl
  have key : ∀ (H : Heap) (locs : List Loc), g_Mod G ad F X Y U V Z H → va_S (md_A ad) s.heap H locs → W p l e (g_rm 0 0 0) s m args below meth c H locs 0 0 Q (F0 m 0 ls []) := by
    intro H locs hM hS
    refine lv_aload_n hx hb dX2_puts_0 rfl (lv_at hl 0 rfl) ?_
    refine g_getM hX hM 1 (by decide) q2164 rfl (v := .ref (ad 1)) rfl dX2_puts_1 ?_
    refine lv_sipush (v := 234) hx hb dX2_puts_4 (by decide) ?_
    refine lv_sipush (v := 197) hx hb dX2_puts_7 (by decide) ?_
    refine lv_iload_n hx hb dX2_puts_10 rfl (lv_at hl 1 rfl) ?_
    refine g_imulN hx hb 197 m0 rfl rfl dX2_puts_11 ?_
    refine g_iaddN hx hb 234 (197 * m0) rfl rfl dX2_puts_12 ?_
    refine lv_iload_n hx hb dX2_puts_13 rfl (lv_at hl 2 rfl) ?_
    refine g_iaddN hx hb (234 + 197 * m0) k rfl rfl dX2_puts_14 ?_
    refine lv_iload_n hx hb dX2_puts_15 rfl (lv_at hl 3 rfl) ?_
    refine g_istX hX hM hS (234 + 197 * m0 + k) rfl (by omega) (X' := g_up2 X (3 + m0) k v) (g_flu3 _ (by omega) (by omega) _) dX2_puts_16 (fun H locs hM hS => ?_)
    exact hret H locs _ _ _ _ dX2_puts_17 hS (Nat.le_refl _) (Nat.le_refl _) (⟨rfl, hM⟩)
  exact key _ _ hM hS

theorem y_X2_putsWire : g_Y yX2_putsWire cX2_putsWire 4 none 3 := ⟨q2334, by decide +kernel⟩
theorem v_X2_putsWire : g_YV yX2_putsWire := ⟨q2333, qs55, q140⟩
set_option maxHeartbeats 4000000 in
theorem k_X2_putsWire {G : g_G} {l : Launch} {ad : Nat → Nat} {F : Nat → Int32} {X Y : g_Wd} {U V : Nat → g_Wd} {Z : g_Wd} (w : Nat) (k : Nat) (v : Int32) (hw : w < 45) (hk : k < 5) : g_Md G l yX2_putsWire cX2_putsWire 4 none 0 0 0 [.ref (ad 0), .int (nI w), .int (nI k), .int v] (g_Mod G ad F X Y U V Z) (g_Qv none (g_Mod G ad F (g_up2 X 1 (5 * w + k) v) Y U V Z)) (md_A ad) := by
  refine g_Md.ofV (by decide) ?_
  intro p e s m args below meth c ls Q hX hM hl hS hret
  have hx := hX.1.1
  have hb := hX.1.2.1
  have hl : lv_has ls 4 [(0, .ref (ad 0)), (1, .int (nI w)), (2, .int (nI k)), (3, .int v)] := hl
  have key : ∀ (H : Heap) (locs : List Loc), g_Mod G ad F X Y U V Z H → va_S (md_A ad) s.heap H locs → W p l e (g_rm 0 0 0) s m args below meth c H locs 0 0 Q (F0 m 0 ls []) := by
    intro H locs hM hS
    refine lv_aload_n hx hb dX2_putsWire_0 rfl (lv_at hl 0 rfl) ?_
    refine g_getM hX hM 1 (by decide) q2164 rfl (v := .ref (ad 1)) rfl dX2_putsWire_1 ?_
    refine lv_bipush (v := 9) hx hb dX2_putsWire_4 (by decide) ?_
    refine lv_iconst (v := 5) hx hb dX2_putsWire_6 rfl ?_
    refine lv_iload_n hx hb dX2_putsWire_7 rfl (lv_at hl 1 rfl) ?_
    refine g_imulN hx hb 5 w rfl rfl dX2_putsWire_8 ?_
    refine g_iaddN hx hb 9 (5 * w) rfl rfl dX2_putsWire_9 ?_
    refine lv_iload_n hx hb dX2_putsWire_10 rfl (lv_at hl 2 rfl) ?_
    refine g_iaddN hx hb (9 + 5 * w) k rfl rfl dX2_putsWire_11 ?_
    refine lv_iload_n hx hb dX2_putsWire_12 rfl (lv_at hl 3 rfl) ?_
    refine g_istX hX hM hS (9 + 5 * w + k) rfl (by omega) (X' := g_up2 X 1 (5 * w + k) v) (g_fluw _ (by omega) _) dX2_putsWire_13 (fun H locs hM hS => ?_)
    exact hret H locs _ _ _ _ dX2_putsWire_14 hS (Nat.le_refl _) (Nat.le_refl _) (⟨rfl, hM⟩)
  exact key _ _ hM hS

theorem y_X2_storms : g_Y yX2_storms cX2_storms 4 none 3 := ⟨q2330, by decide +kernel⟩
theorem v_X2_storms : g_YV yX2_storms := ⟨q2329, qs54, q140⟩
set_option maxHeartbeats 4000000 in
theorem k_X2_storms {G : g_G} {l : Launch} {ad : Nat → Nat} {F : Nat → Int32} {X Y : g_Wd} {U V : Nat → g_Wd} {Z : g_Wd} (w : Nat) (a : Int32) (b : Int32) (hw : w < 45) : g_Md G l yX2_storms cX2_storms 4 none 1 0 0 [.ref (ad 0), .int (nI w), .int a, .int b] (g_Mod G ad F X Y U V Z) (g_Qv none (g_Mod G ad F (x_storms X w a b) Y U V Z)) (md_A ad) := by
  refine g_Md.ofV (by decide) ?_
  intro p e s m args below meth c ls Q hX hM hl hS hret
  have hx := hX.1.1
  have hb := hX.1.2.1
  have hl : lv_has ls 4 [(0, .ref (ad 0)), (1, .int (nI w)), (2, .int a), (3, .int b)] := hl
  have key : ∀ (H : Heap) (locs : List Loc), g_Mod G ad F X Y U V Z H → va_S (md_A ad) s.heap H locs → W p l e (g_rm 1 0 0) s m args below meth c H locs 0 0 Q (F0 m 0 ls []) := by
    intro H locs hM hS
    refine lv_aload_n hx hb dX2_storms_0 rfl (lv_at hl 0 rfl) ?_
    refine lv_iload_n hx hb dX2_storms_1 rfl (lv_at hl 1 rfl) ?_
    refine lv_iconst (v := 0) hx hb dX2_storms_2 rfl ?_
    refine lv_iload_n hx hb dX2_storms_3 rfl (lv_at hl 2 rfl) ?_
    refine g_cMV hX hl y_X2_putsWire v_X2_putsWire q2331 (k_X2_putsWire w 0 a (by omega) (by omega)) (hM.rc hX.2.2.2) hM rfl ⟨Nat.le_of_ble_eq_true rfl, Nat.le_of_ble_eq_true rfl⟩ ⟨Nat.le_refl _, Nat.le_refl _⟩ (rest := []) (st1 := []) rfl rfl (Nat.le_of_ble_eq_true rfl) dX2_storms_4 hS (fun _ h => h) (fun H locs hM hS _ => ?_)
    refine lv_aload_n hx hb dX2_storms_7 rfl (lv_at hl 0 rfl) ?_
    refine lv_iload_n hx hb dX2_storms_8 rfl (lv_at hl 1 rfl) ?_
    refine lv_iconst (v := 1) hx hb dX2_storms_9 rfl ?_
    refine lv_iload_n hx hb dX2_storms_10 rfl (lv_at hl 3 rfl) ?_
    refine g_cMV hX hl y_X2_putsWire v_X2_putsWire q2331 (k_X2_putsWire w 1 b (by omega) (by omega)) (hM.rc hX.2.2.2) hM rfl ⟨Nat.le_of_ble_eq_true rfl, Nat.le_of_ble_eq_true rfl⟩ ⟨Nat.le_refl _, Nat.le_refl _⟩ (rest := []) (st1 := []) rfl rfl (Nat.le_of_ble_eq_true rfl) dX2_storms_11 hS (fun _ h => h) (fun H locs hM hS _ => ?_)
    exact hret H locs _ _ _ _ dX2_storms_14 hS (Nat.le_refl _) (Nat.le_refl _) (⟨rfl, hM⟩)
  exact key _ _ hM hS

theorem y_X2_sends : g_Y yX2_sends cX2_sends 4 (some .int) 3 := ⟨q2420, by decide +kernel⟩
theorem v_X2_sends : g_YV yX2_sends := ⟨q2419, qs75, q140⟩
set_option maxHeartbeats 4000000 in
theorem k_X2_sends {G : g_G} {l : Launch} {ad : Nat → Nat} {F : Nat → Int32} {X Y : g_Wd} {U V : Nat → g_Wd} {Z : g_Wd} (w : Nat) (q : Nat) (dg : Int32) (hw : w < 45) : g_Md G l yX2_sends cX2_sends 4 (some .int) 3 0 0 [.ref (ad 0), .int (nI w), .int (nI q), .int dg] (g_Mod G ad F X Y U V Z) (g_Qv (some (.int (x_sendR X w (nI q) dg))) (g_Mod G ad F (x_sendX X w (nI q)) Y U V Z)) (md_A ad) := by
  refine g_Md.ofI (by decide) (fun _ _ _ => rfl) ?_
  intro p e s m args below meth c ls Q hX hM hl hS hret
  have hx := hX.1.1
  have hb := hX.1.2.1
  have hl : lv_has ls 4 [(0, .ref (ad 0)), (1, .int (nI w)), (2, .int (nI q)), (3, .int dg)] := hl
  have key : ∀ (H : Heap) (locs : List Loc), g_Mod G ad F X Y U V Z H → va_S (md_A ad) s.heap H locs → W p l e (g_rm 3 0 0) s m args below meth c H locs 0 0 Q (F0 m 0 ls []) := by
    intro H locs hM hS
    refine lv_aload_n hx hb dX2_sends_0 rfl (lv_at hl 0 rfl) ?_
    refine g_getM hX hM 1 (by decide) q2164 rfl (v := .ref (ad 1)) rfl dX2_sends_1 ?_
    refine lv_iconst (v := 5) hx hb dX2_sends_4 rfl ?_
    refine lv_dup2_11 hx hb dX2_sends_5 rfl rfl ?_
    refine g_iald hX hM.a1 5 rfl (by omega) (by decide) (v := (X 0 5)) rfl dX2_sends_6 ?_
    refine lv_iconst (v := 1) hx hb dX2_sends_7 rfl ?_
    refine lv_iadd hx hb dX2_sends_8 ?_
    refine g_istX hX hM hS 5 rfl (by omega) (X' := g_up2 X 0 5 ((X 0 5) + 1)) (g_flu0 _ (by omega) _) dX2_sends_9 (fun H locs hM hS => ?_)
    refine lv_aload_n hx hb dX2_sends_10 rfl (lv_at hl 0 rfl) ?_
    refine lv_iload_n hx hb dX2_sends_11 rfl (lv_at hl 1 rfl) ?_
    refine lv_iconst (v := 3) hx hb dX2_sends_12 rfl ?_
    refine lv_aload_n hx hb dX2_sends_13 rfl (lv_at hl 0 rfl) ?_
    refine lv_iload_n hx hb dX2_sends_14 rfl (lv_at hl 1 rfl) ?_
    refine lv_iconst (v := 3) hx hb dX2_sends_15 rfl ?_
    refine g_cRV hX hl y_X2_ofWire v_X2_ofWire q2340 (k_X2_ofWire w 3 (by omega) (by omega)) (hM.rc hX.2.2.2) hM rfl ⟨Nat.le_of_ble_eq_true rfl, Nat.le_of_ble_eq_true rfl⟩ ⟨Nat.zero_le _, Nat.zero_le _⟩ (rest := [.int 3, .int (nI w), .ref (ad 0)]) (st1 := [.int ((g_up2 X 0 5 ((X 0 5) + 1)) 1 (5 * w + 3)), .int 3, .int (nI w), .ref (ad 0)]) rfl rfl (Nat.le_of_ble_eq_true rfl) dX2_sends_16 ?_
    refine g_topi (y := X 1 (5 * w + 3)) (by simp [g_up2]) ?_
    refine lv_iconst (v := 1) hx hb dX2_sends_19 rfl ?_
    refine lv_iadd hx hb dX2_sends_20 ?_
    refine g_cMV hX hl y_X2_putsWire v_X2_putsWire q2331 (k_X2_putsWire w 3 ((X 1 (5 * w + 3)) + 1) (by omega) (by omega)) (hM.rc hX.2.2.2) hM rfl ⟨Nat.le_of_ble_eq_true rfl, Nat.le_of_ble_eq_true rfl⟩ ⟨Nat.le_refl _, Nat.le_refl _⟩ (rest := []) (st1 := []) rfl rfl (Nat.le_of_ble_eq_true rfl) dX2_sends_21 hS (fun _ h => h) (fun H locs hM hS _ => ?_)
    refine lv_aload_n hx hb dX2_sends_24 rfl (lv_at hl 0 rfl) ?_
    refine lv_iload_n hx hb dX2_sends_25 rfl (lv_at hl 1 rfl) ?_
    refine lv_iconst (v := 2) hx hb dX2_sends_26 rfl ?_
    refine g_cRV hX hl y_X2_ofWire v_X2_ofWire q2340 (k_X2_ofWire w 2 (by omega) (by omega)) (hM.rc hX.2.2.2) hM rfl ⟨Nat.le_of_ble_eq_true rfl, Nat.le_of_ble_eq_true rfl⟩ ⟨Nat.zero_le _, Nat.zero_le _⟩ (rest := []) (st1 := [.int ((g_up2 (g_up2 X 0 5 ((X 0 5) + 1)) 1 (5 * w + 3) ((X 1 (5 * w + 3)) + 1)) 1 (5 * w + 2))]) rfl rfl (Nat.le_of_ble_eq_true rfl) dX2_sends_27 ?_
    refine g_topi (y := X 1 (5 * w + 2)) (by simp [g_up2]) ?_
    refine lv_iconst (v := 1) hx hb dX2_sends_30 rfl ?_
    refine lv_icmp_ne (tgt := 47) hx hb dX2_sends_31 (by decide) (fun c_31 => ?_) (fun c_31 => ?_)
    · skip
      refine lv_aload_n hx hb dX2_sends_47 rfl (lv_at hl 0 rfl) ?_
      refine lv_iload_n hx hb dX2_sends_48 rfl (lv_at hl 1 rfl) ?_
      refine lv_aload_n hx hb dX2_sends_49 rfl (lv_at hl 0 rfl) ?_
      refine g_getM hX hM 1 (by decide) q2164 rfl (v := .ref (ad 1)) rfl dX2_sends_50 ?_
      refine lv_iconst (v := 2) hx hb dX2_sends_53 rfl ?_
      refine g_iald hX hM.a1 2 rfl (by omega) (by decide) (v := ((g_up2 (g_up2 X 0 5 ((X 0 5) + 1)) 1 (5 * w + 3) ((X 1 (5 * w + 3)) + 1)) 0 2)) rfl dX2_sends_54 ?_
      refine g_topi (y := X 0 2) (by simp [g_up2]) ?_
      refine lv_iload_n hx hb dX2_sends_55 rfl (lv_at hl 2 rfl) ?_
      refine g_cRV hX hl y_X2_isGarbled v_X2_isGarbled q2421 (k_X2_isGarbled w (X 0 2) (nI q) (by omega)) (hM.rc hX.2.2.2) hM rfl ⟨Nat.le_of_ble_eq_true rfl, Nat.le_of_ble_eq_true rfl⟩ ⟨Nat.zero_le _, Nat.zero_le _⟩ (rest := []) (st1 := [.int (g_b (s_garb ((g_up2 (g_up2 X 0 5 ((X 0 5) + 1)) 1 (5 * w + 3) ((X 1 (5 * w + 3)) + 1)) 1) w (X 0 2) (nI q)))]) rfl rfl (Nat.le_of_ble_eq_true rfl) dX2_sends_56 ?_
      refine g_topi (y := g_b (s_garb (X 1) w (X 0 2) (nI q))) (by simp [s_garb, g_up2]) ?_
      refine g_if_eqB (tgt := 87) hx hb (b := s_garb (X 1) w (X 0 2) (nI q)) rfl dX2_sends_59 (by decide) (fun c_59 => ?_) (fun c_59 => ?_)
      · skip
        refine lv_aload_n hx hb dX2_sends_87 rfl (lv_at hl 0 rfl) ?_
        refine lv_iload_n hx hb dX2_sends_88 rfl (lv_at hl 1 rfl) ?_
        refine lv_iload_n hx hb dX2_sends_89 rfl (lv_at hl 2 rfl) ?_
        refine lv_iload_n hx hb dX2_sends_90 rfl (lv_at hl 3 rfl) ?_
        refine g_cRV hX hl y_X2_arriving v_X2_arriving q2425 (k_X2_arriving w (nI q) dg (by omega)) (hM.rc hX.2.2.2) hM rfl ⟨Nat.le_of_ble_eq_true rfl, Nat.le_of_ble_eq_true rfl⟩ ⟨Nat.zero_le _, Nat.zero_le _⟩ (rest := []) (st1 := [.int (s_arr ((g_up2 (g_up2 X 0 5 ((X 0 5) + 1)) 1 (5 * w + 3) ((X 1 (5 * w + 3)) + 1)) 1) w ((g_up2 (g_up2 X 0 5 ((X 0 5) + 1)) 1 (5 * w + 3) ((X 1 (5 * w + 3)) + 1)) 0 2) (nI q) dg)]) rfl rfl (Nat.le_of_ble_eq_true rfl) dX2_sends_91 ?_
        refine g_topi (y := s_arr (X 1) w (X 0 2) (nI q) dg) (by simp [s_arr, s_garb, g_up2]) ?_
        exact hret H locs _ _ _ _ _ dX2_sends_94 hS (Nat.le_refl _) (Nat.le_refl _) (⟨by simp [x_sendR, c_31], by simp only [x_sendX, if_neg c_31, c_59]; exact hM⟩)
      · skip
        refine lv_aload_n hx hb dX2_sends_62 rfl (lv_at hl 0 rfl) ?_
        refine g_getM hX hM 1 (by decide) q2164 rfl (v := .ref (ad 1)) rfl dX2_sends_63 ?_
        refine lv_bipush (v := 6) hx hb dX2_sends_66 (by decide) ?_
        refine lv_dup2_11 hx hb dX2_sends_68 rfl rfl ?_
        refine g_iald hX hM.a1 6 rfl (by omega) (by decide) (v := ((g_up2 (g_up2 X 0 5 ((X 0 5) + 1)) 1 (5 * w + 3) ((X 1 (5 * w + 3)) + 1)) 0 6)) rfl dX2_sends_69 ?_
        refine lv_iconst (v := 1) hx hb dX2_sends_70 rfl ?_
        refine lv_iadd hx hb dX2_sends_71 ?_
        refine g_istX hX hM hS 6 rfl (by omega) (X' := g_up2 (g_up2 (g_up2 X 0 5 ((X 0 5) + 1)) 1 (5 * w + 3) ((X 1 (5 * w + 3)) + 1)) 0 6 (((g_up2 (g_up2 X 0 5 ((X 0 5) + 1)) 1 (5 * w + 3) ((X 1 (5 * w + 3)) + 1)) 0 6) + 1)) (g_flu0 _ (by omega) _) dX2_sends_72 (fun H locs hM hS => ?_)
        refine lv_aload_n hx hb dX2_sends_73 rfl (lv_at hl 0 rfl) ?_
        refine lv_iload_n hx hb dX2_sends_74 rfl (lv_at hl 1 rfl) ?_
        refine lv_iconst (v := 4) hx hb dX2_sends_75 rfl ?_
        refine lv_aload_n hx hb dX2_sends_76 rfl (lv_at hl 0 rfl) ?_
        refine lv_iload_n hx hb dX2_sends_77 rfl (lv_at hl 1 rfl) ?_
        refine lv_iconst (v := 4) hx hb dX2_sends_78 rfl ?_
        refine g_cRV hX hl y_X2_ofWire v_X2_ofWire q2340 (k_X2_ofWire w 4 (by omega) (by omega)) (hM.rc hX.2.2.2) hM rfl ⟨Nat.le_of_ble_eq_true rfl, Nat.le_of_ble_eq_true rfl⟩ ⟨Nat.zero_le _, Nat.zero_le _⟩ (rest := [.int 4, .int (nI w), .ref (ad 0)]) (st1 := [.int ((g_up2 (g_up2 (g_up2 X 0 5 ((X 0 5) + 1)) 1 (5 * w + 3) ((X 1 (5 * w + 3)) + 1)) 0 6 (((g_up2 (g_up2 X 0 5 ((X 0 5) + 1)) 1 (5 * w + 3) ((X 1 (5 * w + 3)) + 1)) 0 6) + 1)) 1 (5 * w + 4)), .int 4, .int (nI w), .ref (ad 0)]) rfl rfl (Nat.le_of_ble_eq_true rfl) dX2_sends_79 ?_
        refine g_topi (y := X 1 (5 * w + 4)) (by simp [g_up2]) ?_
        refine lv_iconst (v := 1) hx hb dX2_sends_82 rfl ?_
        refine lv_iadd hx hb dX2_sends_83 ?_
        refine g_cMV hX hl y_X2_putsWire v_X2_putsWire q2331 (k_X2_putsWire w 4 ((X 1 (5 * w + 4)) + 1) (by omega) (by omega)) (hM.rc hX.2.2.2) hM rfl ⟨Nat.le_of_ble_eq_true rfl, Nat.le_of_ble_eq_true rfl⟩ ⟨Nat.le_refl _, Nat.le_refl _⟩ (rest := []) (st1 := []) rfl rfl (Nat.le_of_ble_eq_true rfl) dX2_sends_84 hS (fun _ h => h) (fun H locs hM hS _ => ?_)
        refine lv_aload_n hx hb dX2_sends_87 rfl (lv_at hl 0 rfl) ?_
        refine lv_iload_n hx hb dX2_sends_88 rfl (lv_at hl 1 rfl) ?_
        refine lv_iload_n hx hb dX2_sends_89 rfl (lv_at hl 2 rfl) ?_
        refine lv_iload_n hx hb dX2_sends_90 rfl (lv_at hl 3 rfl) ?_
        refine g_cRV hX hl y_X2_arriving v_X2_arriving q2425 (k_X2_arriving w (nI q) dg (by omega)) (hM.rc hX.2.2.2) hM rfl ⟨Nat.le_of_ble_eq_true rfl, Nat.le_of_ble_eq_true rfl⟩ ⟨Nat.zero_le _, Nat.zero_le _⟩ (rest := []) (st1 := [.int (s_arr ((g_up2 (g_up2 (g_up2 (g_up2 X 0 5 ((X 0 5) + 1)) 1 (5 * w + 3) ((X 1 (5 * w + 3)) + 1)) 0 6 (((g_up2 (g_up2 X 0 5 ((X 0 5) + 1)) 1 (5 * w + 3) ((X 1 (5 * w + 3)) + 1)) 0 6) + 1)) 1 (5 * w + 4) ((X 1 (5 * w + 4)) + 1)) 1) w ((g_up2 (g_up2 (g_up2 (g_up2 X 0 5 ((X 0 5) + 1)) 1 (5 * w + 3) ((X 1 (5 * w + 3)) + 1)) 0 6 (((g_up2 (g_up2 X 0 5 ((X 0 5) + 1)) 1 (5 * w + 3) ((X 1 (5 * w + 3)) + 1)) 0 6) + 1)) 1 (5 * w + 4) ((X 1 (5 * w + 4)) + 1)) 0 2) (nI q) dg)]) rfl rfl (Nat.le_of_ble_eq_true rfl) dX2_sends_91 ?_
        refine g_topi (y := s_arr (X 1) w (X 0 2) (nI q) dg) (by simp [s_arr, s_garb, g_up2]) ?_
        exact hret H locs _ _ _ _ _ dX2_sends_94 hS (Nat.le_refl _) (Nat.le_refl _) (⟨by simp [x_sendR, c_31], by simp only [x_sendX, if_neg c_31, c_59]; exact hM⟩)
    · skip
      refine lv_aload_n hx hb dX2_sends_34 rfl (lv_at hl 0 rfl) ?_
      refine g_getM hX hM 1 (by decide) q2164 rfl (v := .ref (ad 1)) rfl dX2_sends_35 ?_
      refine lv_bipush (v := 7) hx hb dX2_sends_38 (by decide) ?_
      refine lv_dup2_11 hx hb dX2_sends_40 rfl rfl ?_
      refine g_iald hX hM.a1 7 rfl (by omega) (by decide) (v := ((g_up2 (g_up2 X 0 5 ((X 0 5) + 1)) 1 (5 * w + 3) ((X 1 (5 * w + 3)) + 1)) 0 7)) rfl dX2_sends_41 ?_
      refine g_topi (y := X 0 7) (by simp [g_up2]) ?_
      refine lv_iconst (v := 1) hx hb dX2_sends_42 rfl ?_
      refine lv_iadd hx hb dX2_sends_43 ?_
      refine g_istX hX hM hS 7 rfl (by omega) (X' := g_up2 (g_up2 (g_up2 X 0 5 ((X 0 5) + 1)) 1 (5 * w + 3) ((X 1 (5 * w + 3)) + 1)) 0 7 ((X 0 7) + 1)) (g_flu0 _ (by omega) _) dX2_sends_44 (fun H locs hM hS => ?_)
      refine lv_iconst (v := (-1)) hx hb dX2_sends_45 rfl ?_
      exact hret H locs _ _ _ _ _ dX2_sends_46 hS (Nat.le_refl _) (Nat.le_refl _) (⟨by simp [x_sendR, c_31], by simp only [x_sendX, if_pos c_31]; exact hM⟩)
  exact key _ _ hM hS

theorem y_X2_getsCopies : g_Y yX2_getsCopies cX2_getsCopies 7 none 3 := ⟨q2416, by decide +kernel⟩
theorem v_X2_getsCopies : g_YV yX2_getsCopies := ⟨q2415, qs74, q140⟩
set_option maxHeartbeats 4000000 in
theorem k_X2_getsCopies {G : g_G} {l : Launch} {ad : Nat → Nat} {F : Nat → Int32} {X Y : g_Wd} {U V : Nat → g_Wd} {Z : g_Wd} (m0 : Nat) (i : Nat) (p0 : Nat) (hm0 : m0 < 6) (hi : i < 3) (hp0 : p0 < 12) (hv : s_okV (X (3 + m0))) (hv1 : 1 ≤ s_lev (X (3 + m0))) : g_Md G l yX2_getsCopies cX2_getsCopies 7 none 4 0 0 [.ref (ad 0), .int (nI m0), .int (nI i), .int (nI p0)] (g_Mod G ad F X Y U V Z) (g_Qv none (g_Mod G ad F (x_gets X m0 i p0) Y U V Z)) (md_A ad) := by
  refine g_Md.ofV (by decide) ?_
  intro p e s m args below meth c ls Q hX hM hl hS hret
  have hx := hX.1.1
  have hb := hX.1.2.1
  have hl : lv_has ls 7 [(0, .ref (ad 0)), (1, .int (nI m0)), (2, .int (nI i)), (3, .int (nI p0))] := hl
  have key : ∀ (H : Heap) (locs : List Loc), g_Mod G ad F X Y U V Z H → va_S (md_A ad) s.heap H locs → W p l e (g_rm 4 0 0) s m args below meth c H locs 0 0 Q (F0 m 0 ls []) := by
    intro H locs hM hS
    refine lv_iconst (v := 0) hx hb dX2_getsCopies_0 rfl ?_
    refine lv_istore (lv' := [(4, .int 0), (0, .ref (ad 0)), (1, .int (nI m0)), (2, .int (nI i)), (3, .int (nI p0))]) hx hb dX2_getsCopies_1 hl (by decide) rfl (fun ls hl => ?_)
    have L3 : ∀ (nf : Nat) (H : Heap) (locs : List Loc) (j : Nat) (X1 : g_Wd), (j ≤ 3) → (X1 = x_gN X m0 i p0 j) → (3 - j < nf) → (g_Mod G ad F X1 Y U V Z H) → va_S (md_A ad) s.heap H locs → ∀ ls : Array Slot, lv_has ls 7 [(4, .int (nI j)), (0, .ref (ad 0)), (1, .int (nI m0)), (2, .int (nI i)), (3, .int (nI p0))] → W p l e (g_rm 4 0 0) s m args below meth c H locs 0 0 Q (F0 m 3 ls []) := by
      intro n3
      induction n3 with
      | zero => intro H locs j X1 hj hX1 hn; exact absurd hn (Nat.not_lt_zero _)
      | succ n3 ih3 =>
        intro H locs j X1 hj hX1 hn3 hM hS ls hl
        have hv5 := hv.2
        have hk := x_gN_k X m0 i p0 j
        rw [← hX1] at hk
        have hv2 := hk.okV hv
        have hl2 := hk.lev
        refine lv_iload hx hb dX2_getsCopies_3 (lv_at hl 0 rfl) ?_
        refine lv_iconst (v := 3) hx hb dX2_getsCopies_5 rfl ?_
        refine g_icmp_geN (tgt := 86) hx hb j 3 rfl rfl (by omega) (by omega) dX2_getsCopies_6 (by decide) (fun c_6 => ?_) (fun c_6 => ?_)
        · skip
          refine lv_aload_n hx hb dX2_getsCopies_86 rfl (lv_at hl 1 rfl) ?_
          refine lv_iload_n hx hb dX2_getsCopies_87 rfl (lv_at hl 2 rfl) ?_
          refine lv_bipush (v := 17) hx hb dX2_getsCopies_88 (by decide) ?_
          refine lv_bipush (v := 12) hx hb dX2_getsCopies_90 (by decide) ?_
          refine lv_iload_n hx hb dX2_getsCopies_92 rfl (lv_at hl 3 rfl) ?_
          refine g_imulN hx hb 12 i rfl rfl dX2_getsCopies_93 ?_
          refine g_iaddN hx hb 17 (12 * i) rfl rfl dX2_getsCopies_94 ?_
          refine lv_iload_n hx hb dX2_getsCopies_95 rfl (lv_at hl 4 rfl) ?_
          refine g_iaddN hx hb (17 + 12 * i) p0 rfl rfl dX2_getsCopies_96 ?_
          refine lv_aload_n hx hb dX2_getsCopies_97 rfl (lv_at hl 1 rfl) ?_
          refine lv_iload_n hx hb dX2_getsCopies_98 rfl (lv_at hl 2 rfl) ?_
          refine lv_iload_n hx hb dX2_getsCopies_99 rfl (lv_at hl 3 rfl) ?_
          refine lv_iload_n hx hb dX2_getsCopies_100 rfl (lv_at hl 4 rfl) ?_
          refine g_cRV hX hl y_X2_votedAt v_X2_votedAt q2429 (k_X2_votedAt m0 i p0 (by omega) (by omega) (by omega)) (hM.rc hX.2.2.2) hM rfl ⟨Nat.le_of_ble_eq_true rfl, Nat.le_of_ble_eq_true rfl⟩ ⟨Nat.zero_le _, Nat.zero_le _⟩ (rest := [.int (nI (17 + 12 * i + p0)), .int (nI m0), .ref (ad 0)]) (st1 := [.int (s_votedAt (X1 (3 + m0)) i p0), .int (nI (17 + 12 * i + p0)), .int (nI m0), .ref (ad 0)]) rfl rfl (Nat.le_of_ble_eq_true rfl) dX2_getsCopies_101 ?_
          refine g_cMV hX hl y_X2_puts v_X2_puts q2353 (k_X2_puts m0 (17 + 12 * i + p0) (s_votedAt (X1 (3 + m0)) i p0) (by omega) (by omega)) (hM.rc hX.2.2.2) hM rfl ⟨Nat.le_of_ble_eq_true rfl, Nat.le_of_ble_eq_true rfl⟩ ⟨Nat.le_refl _, Nat.le_refl _⟩ (rest := []) (st1 := []) rfl rfl (Nat.le_of_ble_eq_true rfl) dX2_getsCopies_104 hS (fun _ h => h) (fun H locs hM hS _ => ?_)
          exact hret H locs _ _ _ _ dX2_getsCopies_107 hS (Nat.le_refl _) (Nat.le_refl _) (⟨rfl, by obtain rfl : j = 3 := (by omega); unfold x_gets; rw [← hX1]; exact hM⟩)
        · skip
          refine lv_aload_n hx hb dX2_getsCopies_9 rfl (lv_at hl 1 rfl) ?_
          refine lv_iload_n hx hb dX2_getsCopies_10 rfl (lv_at hl 2 rfl) ?_
          refine lv_bipush (v := 53) hx hb dX2_getsCopies_11 (by decide) ?_
          refine lv_bipush (v := 12) hx hb dX2_getsCopies_13 (by decide) ?_
          refine lv_iload hx hb dX2_getsCopies_15 (lv_at hl 0 rfl) ?_
          refine g_imulN hx hb 12 j rfl rfl dX2_getsCopies_17 ?_
          refine g_iaddN hx hb 53 (12 * j) rfl rfl dX2_getsCopies_18 ?_
          refine lv_iload_n hx hb dX2_getsCopies_19 rfl (lv_at hl 4 rfl) ?_
          refine g_iaddN hx hb (53 + 12 * j) p0 rfl rfl dX2_getsCopies_20 ?_
          refine g_cRV hX hl y_X2_of v_X2_of q2365 (k_X2_of m0 (53 + 12 * j + p0) (by omega) (by omega)) (hM.rc hX.2.2.2) hM rfl ⟨Nat.le_of_ble_eq_true rfl, Nat.le_of_ble_eq_true rfl⟩ ⟨Nat.zero_le _, Nat.zero_le _⟩ (rest := []) (st1 := [.int (X1 (3 + m0) (53 + 12 * j + p0))]) rfl rfl (Nat.le_of_ble_eq_true rfl) dX2_getsCopies_21 ?_
          refine lv_istore (lv' := [(5, .int (X1 (3 + m0) (53 + 12 * j + p0))), (4, .int (nI j)), (0, .ref (ad 0)), (1, .int (nI m0)), (2, .int (nI i)), (3, .int (nI p0))]) hx hb dX2_getsCopies_24 hl (by decide) rfl (fun ls hl => ?_)
          refine lv_iload hx hb dX2_getsCopies_26 (lv_at hl 0 rfl) ?_
          refine lv_iconst (v := (-1)) hx hb dX2_getsCopies_28 rfl ?_
          refine lv_icmp_ne (tgt := 36) hx hb dX2_getsCopies_29 (by decide) (fun c_29 => ?_) (fun c_29 => ?_)
          · skip
            refine lv_aload_n hx hb dX2_getsCopies_36 rfl (lv_at hl 2 rfl) ?_
            refine lv_aload_n hx hb dX2_getsCopies_37 rfl (lv_at hl 2 rfl) ?_
            refine lv_iload_n hx hb dX2_getsCopies_38 rfl (lv_at hl 3 rfl) ?_
            refine lv_iconst (v := 1) hx hb dX2_getsCopies_39 rfl ?_
            refine g_cRV hX hl y_X2_of v_X2_of q2365 (k_X2_of m0 1 (by omega) (by omega)) (hM.rc hX.2.2.2) hM rfl ⟨Nat.le_of_ble_eq_true rfl, Nat.le_of_ble_eq_true rfl⟩ ⟨Nat.zero_le _, Nat.zero_le _⟩ (rest := [.ref (ad 0)]) (st1 := [.int (X1 (3 + m0) 1), .ref (ad 0)]) rfl rfl (Nat.le_of_ble_eq_true rfl) dX2_getsCopies_40 ?_
            refine lv_iconst (v := 1) hx hb dX2_getsCopies_43 rfl ?_
            refine g_isubN hx hb (s_lev (X1 (3 + m0))) 1 hv2.1 rfl (by omega) dX2_getsCopies_44 ?_
            refine lv_iload hx hb dX2_getsCopies_45 (lv_at hl 1 rfl) ?_
            refine lv_iload_n hx hb dX2_getsCopies_47 rfl (lv_at hl 4 rfl) ?_
            refine g_cRS hX hl y_X2_wireOf v_X2_wireOf q2324 (k_X2_wireOf (s_lev (X1 (3 + m0)) - 1) j i) trivial rfl ⟨Nat.le_of_ble_eq_true rfl, Nat.le_of_ble_eq_true rfl⟩ ⟨Nat.zero_le _, Nat.zero_le _⟩ (rest := [.ref (ad 0)]) (st1 := [.int (nI (9 * (s_lev (X1 (3 + m0)) - 1) + 3 * j + i)), .ref (ad 0)]) rfl rfl (Nat.le_of_ble_eq_true rfl) dX2_getsCopies_48 ?_
            refine lv_iload_n hx hb dX2_getsCopies_51 rfl (lv_at hl 5 rfl) ?_
            refine lv_iload hx hb dX2_getsCopies_52 (lv_at hl 0 rfl) ?_
            refine g_cMV hX hl y_X2_sends v_X2_sends q2417 (k_X2_sends (9 * (s_lev (X1 (3 + m0)) - 1) + 3 * j + i) p0 (X1 (3 + m0) (53 + 12 * j + p0)) (by omega)) (hM.rc hX.2.2.2) hM rfl ⟨Nat.le_of_ble_eq_true rfl, Nat.le_of_ble_eq_true rfl⟩ ⟨Nat.le_refl _, Nat.le_refl _⟩ (rest := []) (st1 := [.int (x_sendR X1 (9 * (s_lev (X1 (3 + m0)) - 1) + 3 * j + i) (nI p0) (X1 (3 + m0) (53 + 12 * j + p0)))]) rfl rfl (Nat.le_of_ble_eq_true rfl) dX2_getsCopies_54 hS (fun _ h => h) (fun H locs hM hS _ => ?_)
            refine lv_istore (lv' := [(6, .int (x_sendR X1 (9 * (s_lev (X1 (3 + m0)) - 1) + 3 * j + i) (nI p0) (X1 (3 + m0) (53 + 12 * j + p0)))), (5, .int (X1 (3 + m0) (53 + 12 * j + p0))), (4, .int (nI j)), (0, .ref (ad 0)), (1, .int (nI m0)), (2, .int (nI i)), (3, .int (nI p0))]) hx hb dX2_getsCopies_57 hl (by decide) rfl (fun ls hl => ?_)
            refine lv_aload_n hx hb dX2_getsCopies_59 rfl (lv_at hl 3 rfl) ?_
            refine lv_iload_n hx hb dX2_getsCopies_60 rfl (lv_at hl 4 rfl) ?_
            refine lv_bipush (v := 89) hx hb dX2_getsCopies_61 (by decide) ?_
            refine lv_iconst (v := 3) hx hb dX2_getsCopies_63 rfl ?_
            refine lv_bipush (v := 12) hx hb dX2_getsCopies_64 (by decide) ?_
            refine lv_iload_n hx hb dX2_getsCopies_66 rfl (lv_at hl 5 rfl) ?_
            refine g_imulN hx hb 12 i rfl rfl dX2_getsCopies_67 ?_
            refine lv_iload_n hx hb dX2_getsCopies_68 rfl (lv_at hl 6 rfl) ?_
            refine g_iaddN hx hb (12 * i) p0 rfl rfl dX2_getsCopies_69 ?_
            refine g_imulN hx hb 3 (12 * i + p0) rfl rfl dX2_getsCopies_70 ?_
            refine g_iaddN hx hb 89 (3 * (12 * i + p0)) rfl rfl dX2_getsCopies_71 ?_
            refine lv_iload hx hb dX2_getsCopies_72 (lv_at hl 2 rfl) ?_
            refine g_iaddN hx hb (89 + 3 * (12 * i + p0)) j rfl rfl dX2_getsCopies_74 ?_
            refine lv_iload hx hb dX2_getsCopies_75 (lv_at hl 0 rfl) ?_
            refine g_cMV hX hl y_X2_puts v_X2_puts q2353 (k_X2_puts m0 (89 + 3 * (12 * i + p0) + j) (x_sendR X1 (9 * (s_lev (X1 (3 + m0)) - 1) + 3 * j + i) (nI p0) (X1 (3 + m0) (53 + 12 * j + p0))) (by omega) (by omega)) (hM.rc hX.2.2.2) hM rfl ⟨Nat.le_of_ble_eq_true rfl, Nat.le_of_ble_eq_true rfl⟩ ⟨Nat.le_refl _, Nat.le_refl _⟩ (rest := []) (st1 := []) rfl rfl (Nat.le_of_ble_eq_true rfl) dX2_getsCopies_77 hS (fun _ h => h) (fun H locs hM hS _ => ?_)
            refine lv_iinc (v := (nI (j + 1))) (lv' := [(4, .int (nI (j + 1))), (6, .int (x_sendR X1 (9 * (s_lev (X1 (3 + m0)) - 1) + 3 * j + i) (nI p0) (X1 (3 + m0) (53 + 12 * j + p0)))), (5, .int (X1 (3 + m0) (53 + 12 * j + p0))), (0, .ref (ad 0)), (1, .int (nI m0)), (2, .int (nI i)), (3, .int (nI p0))]) hx hb dX2_getsCopies_80 hl (k := 2) rfl (nI_1 _) (by decide) rfl (fun ls hl => ?_)
            refine lv_goto (tgt := 3) hx hb dX2_getsCopies_83 (by decide) ?_
            exact ih3 H locs (j + 1) (g_up2 (x_sendX X1 (9 * (s_lev (X1 (3 + m0)) - 1) + 3 * j + i) (nI p0)) (3 + m0) (89 + 3 * (12 * i + p0) + j) (x_sendR X1 (9 * (s_lev (X1 (3 + m0)) - 1) + 3 * j + i) (nI p0) (X1 (3 + m0) (53 + 12 * j + p0)))) (by omega) (by rw [show x_gN X m0 i p0 (j + 1) = x_g1 (x_gN X m0 i p0 j) m0 i p0 j from rfl, ← hX1]; unfold x_g1; first | rw [if_pos c_29] | rw [if_neg c_29]) (by omega) hM hS ls (lv_sub hl [0, 3, 4, 5, 6] rfl)
          · skip
            refine lv_iconst (v := (-1)) hx hb dX2_getsCopies_32 rfl ?_
            refine lv_goto (tgt := 57) hx hb dX2_getsCopies_33 (by decide) ?_
            refine lv_istore (lv' := [(6, .int (-1)), (5, .int (X1 (3 + m0) (53 + 12 * j + p0))), (4, .int (nI j)), (0, .ref (ad 0)), (1, .int (nI m0)), (2, .int (nI i)), (3, .int (nI p0))]) hx hb dX2_getsCopies_57 hl (by decide) rfl (fun ls hl => ?_)
            refine lv_aload_n hx hb dX2_getsCopies_59 rfl (lv_at hl 3 rfl) ?_
            refine lv_iload_n hx hb dX2_getsCopies_60 rfl (lv_at hl 4 rfl) ?_
            refine lv_bipush (v := 89) hx hb dX2_getsCopies_61 (by decide) ?_
            refine lv_iconst (v := 3) hx hb dX2_getsCopies_63 rfl ?_
            refine lv_bipush (v := 12) hx hb dX2_getsCopies_64 (by decide) ?_
            refine lv_iload_n hx hb dX2_getsCopies_66 rfl (lv_at hl 5 rfl) ?_
            refine g_imulN hx hb 12 i rfl rfl dX2_getsCopies_67 ?_
            refine lv_iload_n hx hb dX2_getsCopies_68 rfl (lv_at hl 6 rfl) ?_
            refine g_iaddN hx hb (12 * i) p0 rfl rfl dX2_getsCopies_69 ?_
            refine g_imulN hx hb 3 (12 * i + p0) rfl rfl dX2_getsCopies_70 ?_
            refine g_iaddN hx hb 89 (3 * (12 * i + p0)) rfl rfl dX2_getsCopies_71 ?_
            refine lv_iload hx hb dX2_getsCopies_72 (lv_at hl 2 rfl) ?_
            refine g_iaddN hx hb (89 + 3 * (12 * i + p0)) j rfl rfl dX2_getsCopies_74 ?_
            refine lv_iload hx hb dX2_getsCopies_75 (lv_at hl 0 rfl) ?_
            refine g_cMV hX hl y_X2_puts v_X2_puts q2353 (k_X2_puts m0 (89 + 3 * (12 * i + p0) + j) (-1) (by omega) (by omega)) (hM.rc hX.2.2.2) hM rfl ⟨Nat.le_of_ble_eq_true rfl, Nat.le_of_ble_eq_true rfl⟩ ⟨Nat.le_refl _, Nat.le_refl _⟩ (rest := []) (st1 := []) rfl rfl (Nat.le_of_ble_eq_true rfl) dX2_getsCopies_77 hS (fun _ h => h) (fun H locs hM hS _ => ?_)
            refine lv_iinc (v := (nI (j + 1))) (lv' := [(4, .int (nI (j + 1))), (6, .int (-1)), (5, .int (X1 (3 + m0) (53 + 12 * j + p0))), (0, .ref (ad 0)), (1, .int (nI m0)), (2, .int (nI i)), (3, .int (nI p0))]) hx hb dX2_getsCopies_80 hl (k := 2) rfl (nI_1 _) (by decide) rfl (fun ls hl => ?_)
            refine lv_goto (tgt := 3) hx hb dX2_getsCopies_83 (by decide) ?_
            exact ih3 H locs (j + 1) (g_up2 X1 (3 + m0) (89 + 3 * (12 * i + p0) + j) (-1)) (by omega) (by rw [show x_gN X m0 i p0 (j + 1) = x_g1 (x_gN X m0 i p0 j) m0 i p0 j from rfl, ← hX1]; unfold x_g1; first | rw [if_pos c_29] | rw [if_neg c_29]) (by omega) hM hS ls (lv_sub hl [0, 3, 4, 5, 6] rfl)
    exact L3 (3 - 0 + 1) H locs 0 X (by omega) (rfl) (Nat.lt_succ_self _) hM hS ls (lv_sub hl [0, 1, 2, 3, 4] rfl)
  exact key _ _ hM hS

theorem y_X2_logs : g_Y yX2_logs cX2_logs 4 none 2 := ⟨q2364, by decide +kernel⟩
theorem v_X2_logs : g_YV yX2_logs := ⟨q2363, qs62, q140⟩
set_option maxHeartbeats 4000000 in
theorem k_X2_logs {G : g_G} {l : Launch} {ad : Nat → Nat} {F : Nat → Int32} {X Y : g_Wd} {U V : Nat → g_Wd} {Z : g_Wd} (kd : Int32) (m0 : Nat) (hm0 : m0 < 6) (hg : s_okG X) : g_Md G l yX2_logs cX2_logs 4 none 1 0 0 [.ref (ad 0), .int kd, .int (nI m0)] (g_Mod G ad F X Y U V Z) (g_Qv none (g_Mod G ad F (x_log X kd m0) Y U V Z)) (md_A ad) := by
  refine g_Md.ofV (by decide) ?_
  intro p e s m args below meth c ls Q hX hM hl hS hret
  have hx := hX.1.1
  have hb := hX.1.2.1
  have hl : lv_has ls 4 [(0, .ref (ad 0)), (1, .int kd), (2, .int (nI m0))] := hl
  have key : ∀ (H : Heap) (locs : List Loc), g_Mod G ad F X Y U V Z H → va_S (md_A ad) s.heap H locs → W p l e (g_rm 1 0 0) s m args below meth c H locs 0 0 Q (F0 m 0 ls []) := by
    intro H locs hM hS
    have hg4 := hg.2
    have T58 : ∀ (H : Heap) (locs : List Loc) (Y1 : g_Wd), (Y1 = x_log0 X) → (g_Mod G ad F Y1 Y U V Z H) → va_S (md_A ad) s.heap H locs → ∀ ls : Array Slot, lv_has ls 4 [(0, .ref (ad 0)), (1, .int kd), (2, .int (nI m0))] → W p l e (g_rm 1 0 0) s m args below meth c H locs 0 0 Q (F0 m 58 ls []) := by
      intro H locs Y1 hY hM hS ls hl
      have hy := (x_log0_G hg).1
      have hy3 := (x_log0_G hg).2
      rw [← hY] at hy hy3
      refine lv_sipush (v := 1416) hx hb dX2_logs_58 (by decide) ?_
      refine lv_iconst (v := 4) hx hb dX2_logs_61 rfl ?_
      refine lv_aload_n hx hb dX2_logs_62 rfl (lv_at hl 0 rfl) ?_
      refine g_getM hX hM 1 (by decide) q2164 rfl (v := .ref (ad 1)) rfl dX2_logs_63 ?_
      refine lv_iconst (v := 4) hx hb dX2_logs_66 rfl ?_
      refine g_iald hX hM.a1 4 rfl (by omega) (by decide) (v := (Y1 0 4)) rfl dX2_logs_67 ?_
      refine g_topi (y := Y1 0 4) (rfl) ?_
      refine g_imulN hx hb 4 (s_G Y1) rfl hy.1 dX2_logs_68 ?_
      refine g_iaddN hx hb 1416 (4 * (s_G Y1)) rfl rfl dX2_logs_69 ?_
      refine lv_istore_n (lv' := [(3, .int (nI (1416 + 4 * (s_G Y1)))), (0, .ref (ad 0)), (1, .int kd), (2, .int (nI m0))]) hx hb dX2_logs_70 rfl hl (by decide) rfl (fun ls hl => ?_)
      refine lv_aload_n hx hb dX2_logs_71 rfl (lv_at hl 1 rfl) ?_
      refine g_getM hX hM 1 (by decide) q2164 rfl (v := .ref (ad 1)) rfl dX2_logs_72 ?_
      refine lv_iload_n hx hb dX2_logs_75 rfl (lv_at hl 0 rfl) ?_
      refine lv_aload_n hx hb dX2_logs_76 rfl (lv_at hl 1 rfl) ?_
      refine g_getM hX hM 1 (by decide) q2164 rfl (v := .ref (ad 1)) rfl dX2_logs_77 ?_
      refine lv_iconst (v := 2) hx hb dX2_logs_80 rfl ?_
      refine g_iald hX hM.a1 2 rfl (by omega) (by decide) (v := (Y1 0 2)) rfl dX2_logs_81 ?_
      refine g_topi (y := Y1 0 2) (by simp [g_up2]) ?_
      refine g_istX hX hM hS (1416 + 4 * (s_G Y1)) rfl (by omega) (X' := g_up2 Y1 2 (4 * (s_G Y1)) (Y1 0 2)) (g_flu2 _ _) dX2_logs_82 (fun H locs hM hS => ?_)
      refine lv_aload_n hx hb dX2_logs_83 rfl (lv_at hl 1 rfl) ?_
      refine g_getM hX hM 1 (by decide) q2164 rfl (v := .ref (ad 1)) rfl dX2_logs_84 ?_
      refine lv_iload_n hx hb dX2_logs_87 rfl (lv_at hl 0 rfl) ?_
      refine lv_iconst (v := 1) hx hb dX2_logs_88 rfl ?_
      refine g_iaddN hx hb (1416 + 4 * (s_G Y1)) 1 rfl rfl dX2_logs_89 ?_
      refine lv_iload_n hx hb dX2_logs_90 rfl (lv_at hl 2 rfl) ?_
      refine g_istX hX hM hS (1416 + 4 * (s_G Y1) + 1) rfl (by omega) (X' := g_up2 (g_up2 Y1 2 (4 * (s_G Y1)) (Y1 0 2)) 2 (4 * (s_G Y1) + 1) kd) (g_flug _ _) dX2_logs_91 (fun H locs hM hS => ?_)
      refine lv_aload_n hx hb dX2_logs_92 rfl (lv_at hl 1 rfl) ?_
      refine g_getM hX hM 1 (by decide) q2164 rfl (v := .ref (ad 1)) rfl dX2_logs_93 ?_
      refine lv_iload_n hx hb dX2_logs_96 rfl (lv_at hl 0 rfl) ?_
      refine lv_iconst (v := 2) hx hb dX2_logs_97 rfl ?_
      refine g_iaddN hx hb (1416 + 4 * (s_G Y1)) 2 rfl rfl dX2_logs_98 ?_
      refine lv_iload_n hx hb dX2_logs_99 rfl (lv_at hl 3 rfl) ?_
      refine g_istX hX hM hS (1416 + 4 * (s_G Y1) + 2) rfl (by omega) (X' := g_up2 (g_up2 (g_up2 Y1 2 (4 * (s_G Y1)) (Y1 0 2)) 2 (4 * (s_G Y1) + 1) kd) 2 (4 * (s_G Y1) + 2) (nI m0)) (g_flug _ _) dX2_logs_100 (fun H locs hM hS => ?_)
      refine lv_aload_n hx hb dX2_logs_101 rfl (lv_at hl 1 rfl) ?_
      refine g_getM hX hM 1 (by decide) q2164 rfl (v := .ref (ad 1)) rfl dX2_logs_102 ?_
      refine lv_iload_n hx hb dX2_logs_105 rfl (lv_at hl 0 rfl) ?_
      refine lv_iconst (v := 3) hx hb dX2_logs_106 rfl ?_
      refine g_iaddN hx hb (1416 + 4 * (s_G Y1)) 3 rfl rfl dX2_logs_107 ?_
      refine lv_aload_n hx hb dX2_logs_108 rfl (lv_at hl 1 rfl) ?_
      refine lv_iload_n hx hb dX2_logs_109 rfl (lv_at hl 3 rfl) ?_
      refine lv_iconst (v := 1) hx hb dX2_logs_110 rfl ?_
      refine g_cRV hX hl y_X2_of v_X2_of q2365 (k_X2_of m0 1 (by omega) (by omega)) (hM.rc hX.2.2.2) hM rfl ⟨Nat.le_of_ble_eq_true rfl, Nat.le_of_ble_eq_true rfl⟩ ⟨Nat.zero_le _, Nat.zero_le _⟩ (rest := [.int (nI (1416 + 4 * (s_G Y1) + 3)), .ref (ad 1)]) (st1 := [.int ((g_up2 (g_up2 (g_up2 Y1 2 (4 * (s_G Y1)) (Y1 0 2)) 2 (4 * (s_G Y1) + 1) kd) 2 (4 * (s_G Y1) + 2) (nI m0)) (3 + m0) 1), .int (nI (1416 + 4 * (s_G Y1) + 3)), .ref (ad 1)]) rfl rfl (Nat.le_of_ble_eq_true rfl) dX2_logs_111 ?_
      refine g_topi (y := Y1 (3 + m0) 1) (by rw [g_up2_row (by omega), g_up2_row (by omega), g_up2_row (by omega)]) ?_
      refine g_istX hX hM hS (1416 + 4 * (s_G Y1) + 3) rfl (by omega) (X' := g_up2 (g_up2 (g_up2 (g_up2 Y1 2 (4 * (s_G Y1)) (Y1 0 2)) 2 (4 * (s_G Y1) + 1) kd) 2 (4 * (s_G Y1) + 2) (nI m0)) 2 (4 * (s_G Y1) + 3) (Y1 (3 + m0) 1)) (g_flug _ _) dX2_logs_114 (fun H locs hM hS => ?_)
      refine lv_aload_n hx hb dX2_logs_115 rfl (lv_at hl 1 rfl) ?_
      refine g_getM hX hM 1 (by decide) q2164 rfl (v := .ref (ad 1)) rfl dX2_logs_116 ?_
      refine lv_iconst (v := 4) hx hb dX2_logs_119 rfl ?_
      refine lv_dup2_11 hx hb dX2_logs_120 rfl rfl ?_
      refine g_iald hX hM.a1 4 rfl (by omega) (by decide) (v := ((g_up2 (g_up2 (g_up2 (g_up2 Y1 2 (4 * (s_G Y1)) (Y1 0 2)) 2 (4 * (s_G Y1) + 1) kd) 2 (4 * (s_G Y1) + 2) (nI m0)) 2 (4 * (s_G Y1) + 3) (Y1 (3 + m0) 1)) 0 4)) rfl dX2_logs_121 ?_
      refine g_topi (y := Y1 0 4) (by simp [g_up2]) ?_
      refine lv_iconst (v := 1) hx hb dX2_logs_122 rfl ?_
      refine g_iaddN hx hb (s_G Y1) 1 hy.1 rfl dX2_logs_123 ?_
      refine g_istX hX hM hS 4 rfl (by omega) (X' := g_up2 (g_up2 (g_up2 (g_up2 (g_up2 Y1 2 (4 * (s_G Y1)) (Y1 0 2)) 2 (4 * (s_G Y1) + 1) kd) 2 (4 * (s_G Y1) + 2) (nI m0)) 2 (4 * (s_G Y1) + 3) (Y1 (3 + m0) 1)) 0 4 (nI (s_G Y1 + 1))) (g_flu0 _ (by omega) _) dX2_logs_124 (fun H locs hM hS => ?_)
      exact hret H locs _ _ _ _ dX2_logs_125 hS (Nat.le_refl _) (Nat.le_refl _) (⟨rfl, by unfold x_log; rw [← hY]; exact hM⟩)
    refine lv_aload_n hx hb dX2_logs_0 rfl (lv_at hl 0 rfl) ?_
    refine g_getM hX hM 1 (by decide) q2164 rfl (v := .ref (ad 1)) rfl dX2_logs_1 ?_
    refine lv_iconst (v := 4) hx hb dX2_logs_4 rfl ?_
    refine g_iald hX hM.a1 4 rfl (by omega) (by decide) (v := (X 0 4)) rfl dX2_logs_5 ?_
    refine lv_bipush (v := 40) hx hb dX2_logs_6 (by decide) ?_
    refine g_icmp_neN (tgt := 58) hx hb (s_G X) 40 hg.1 rfl (by omega) (by omega) dX2_logs_8 (by decide) (fun c_8 => ?_) (fun c_8 => ?_)
    · skip
      exact T58 H locs X (by unfold x_log0; rw [if_neg (show ¬ X 0 4 = 40 from fun z => c_8 ((nI_eq (b := 40) (by omega) (by omega)).mp (hg.1.symm.trans z)))]) hM hS ls (lv_sub hl [0, 1, 2] rfl)
    · skip
      refine lv_iconst (v := 0) hx hb dX2_logs_11 rfl ?_
      refine lv_istore_n (lv' := [(3, .int 0), (0, .ref (ad 0)), (1, .int kd), (2, .int (nI m0))]) hx hb dX2_logs_12 rfl hl (by decide) rfl (fun ls hl => ?_)
      have L13 : ∀ (nf : Nat) (H : Heap) (locs : List Loc) (j : Nat) (X1 : g_Wd), (j ≤ 156) → (X1 = x_shN X j) → (156 - j < nf) → (g_Mod G ad F X1 Y U V Z H) → va_S (md_A ad) s.heap H locs → ∀ ls : Array Slot, lv_has ls 4 [(3, .int (nI j)), (0, .ref (ad 0)), (1, .int kd), (2, .int (nI m0))] → W p l e (g_rm 1 0 0) s m args below meth c H locs 0 0 Q (F0 m 13 ls []) := by
        intro n13
        induction n13 with
        | zero => intro H locs j X1 hj hX1 hn; exact absurd hn (Nat.not_lt_zero _)
        | succ n13 ih13 =>
          intro H locs j X1 hj hX1 hn13 hM hS ls hl
          have hg1 : X1 0 4 = nI (s_G X) := by rw [hX1]; exact hg.1
          refine lv_iload_n hx hb dX2_logs_13 rfl (lv_at hl 0 rfl) ?_
          refine lv_sipush (v := 156) hx hb dX2_logs_14 (by decide) ?_
          refine g_icmp_geN (tgt := 48) hx hb j 156 rfl rfl (by omega) (by omega) dX2_logs_17 (by decide) (fun c_17 => ?_) (fun c_17 => ?_)
          · skip
            refine lv_aload_n hx hb dX2_logs_48 rfl (lv_at hl 1 rfl) ?_
            refine g_getM hX hM 1 (by decide) q2164 rfl (v := .ref (ad 1)) rfl dX2_logs_49 ?_
            refine lv_iconst (v := 4) hx hb dX2_logs_52 rfl ?_
            refine lv_dup2_11 hx hb dX2_logs_53 rfl rfl ?_
            refine g_iald hX hM.a1 4 rfl (by omega) (by decide) (v := (X1 0 4)) rfl dX2_logs_54 ?_
            refine lv_iconst (v := 1) hx hb dX2_logs_55 rfl ?_
            refine g_isubN hx hb (s_G X) 1 hg1 rfl (by omega) dX2_logs_56 ?_
            refine g_istX hX hM hS 4 rfl (by omega) (X' := g_up2 X1 0 4 (nI (s_G X - 1))) (g_flu0 _ (by omega) _) dX2_logs_57 (fun H locs hM hS => ?_)
            exact T58 H locs (g_up2 X1 0 4 (nI (s_G X - 1))) (by unfold x_log0; rw [if_pos (by rw [hg.1, c_8]; rfl), show (156 : Nat) = j by omega, ← hX1, c_8]) hM hS ls (lv_sub hl [1, 2, 3] rfl)
          · skip
            refine lv_aload_n hx hb dX2_logs_20 rfl (lv_at hl 1 rfl) ?_
            refine g_getM hX hM 1 (by decide) q2164 rfl (v := .ref (ad 1)) rfl dX2_logs_21 ?_
            refine lv_sipush (v := 1416) hx hb dX2_logs_24 (by decide) ?_
            refine lv_iload_n hx hb dX2_logs_27 rfl (lv_at hl 0 rfl) ?_
            refine g_iaddN hx hb 1416 j rfl rfl dX2_logs_28 ?_
            refine lv_aload_n hx hb dX2_logs_29 rfl (lv_at hl 1 rfl) ?_
            refine g_getM hX hM 1 (by decide) q2164 rfl (v := .ref (ad 1)) rfl dX2_logs_30 ?_
            refine lv_sipush (v := 1416) hx hb dX2_logs_33 (by decide) ?_
            refine lv_iload_n hx hb dX2_logs_36 rfl (lv_at hl 0 rfl) ?_
            refine g_iaddN hx hb 1416 j rfl rfl dX2_logs_37 ?_
            refine lv_iconst (v := 4) hx hb dX2_logs_38 rfl ?_
            refine g_iaddN hx hb (1416 + j) 4 rfl rfl dX2_logs_39 ?_
            refine g_iald hX hM.a1 (1416 + j + 4) rfl (by omega) (by decide) (v := (X1 2 (j + 4))) (by rw [Nat.add_assoc]; exact g_fl2 _) dX2_logs_40 ?_
            refine g_istX hX hM hS (1416 + j) rfl (by omega) (X' := g_up2 X1 2 j (X1 2 (j + 4))) (g_flu2 _ _) dX2_logs_41 (fun H locs hM hS => ?_)
            refine lv_iinc (v := (nI (j + 1))) (lv' := [(3, .int (nI (j + 1))), (0, .ref (ad 0)), (1, .int kd), (2, .int (nI m0))]) hx hb dX2_logs_42 hl (k := 0) rfl (nI_1 _) (by decide) rfl (fun ls hl => ?_)
            refine lv_goto (tgt := 13) hx hb dX2_logs_45 (by decide) ?_
            exact ih13 H locs (j + 1) (g_up2 X1 2 j (X1 2 (j + 4))) (by omega) (x_shN_s hX1) (by omega) hM hS ls (lv_sub hl [0, 1, 2, 3] rfl)
      exact L13 (156 - 0 + 1) H locs 0 X (by omega) (x_shN_0) (Nat.lt_succ_self _) hM hS ls (lv_sub hl [0, 1, 2, 3] rfl)
  exact key _ _ hM hS

theorem y_X2_asks : g_Y yX2_asks cX2_asks 4 none 1 := ⟨q2412, by decide +kernel⟩
theorem v_X2_asks : g_YV yX2_asks := ⟨q2411, qs73, q140⟩
set_option maxHeartbeats 4000000 in
theorem k_X2_asks {G : g_G} {l : Launch} {ad : Nat → Nat} {F : Nat → Int32} {X Y : g_Wd} {U V : Nat → g_Wd} {Z : g_Wd} (m0 : Nat) (hm0 : m0 < 6) (ho : s_okL (X (3 + m0))) (hv : s_okV (X (3 + m0))) (hv1 : 1 ≤ s_lev (X (3 + m0))) (hg : s_okG X) : g_Md G l yX2_asks cX2_asks 4 none 5 0 0 [.ref (ad 0), .int (nI m0)] (g_Mod G ad F X Y U V Z) (g_Qv none (g_Mod G ad F (x_asks X m0) Y U V Z)) (md_A ad) := by
  refine g_Md.ofV (by decide) ?_
  intro p e s m args below meth c ls Q hX hM hl hS hret
  have hx := hX.1.1
  have hb := hX.1.2.1
  have hl : lv_has ls 4 [(0, .ref (ad 0)), (1, .int (nI m0))] := hl
  have key : ∀ (H : Heap) (locs : List Loc), g_Mod G ad F X Y U V Z H → va_S (md_A ad) s.heap H locs → W p l e (g_rm 5 0 0) s m args below meth c H locs 0 0 Q (F0 m 0 ls []) := by
    intro H locs hM hS
    have hL := ho.2
    refine lv_iconst (v := 0) hx hb dX2_asks_0 rfl ?_
    refine lv_istore_n (lv' := [(2, .int 0), (0, .ref (ad 0)), (1, .int (nI m0))]) hx hb dX2_asks_1 rfl hl (by decide) rfl (fun ls hl => ?_)
    have L2 : ∀ (nf : Nat) (H : Heap) (locs : List Loc) (a : Nat) (X1 : g_Wd), (a ≤ 3) → (X1 = x_aN X m0 a) → (3 - a < nf) → (g_Mod G ad F X1 Y U V Z H) → va_S (md_A ad) s.heap H locs → ∀ ls : Array Slot, lv_has ls 4 [(2, .int (nI a)), (0, .ref (ad 0)), (1, .int (nI m0))] → W p l e (g_rm 5 0 0) s m args below meth c H locs 0 0 Q (F0 m 2 ls []) := by
      intro n2
      induction n2 with
      | zero => intro H locs a X1 ha hX1 hn; exact absurd hn (Nat.not_lt_zero _)
      | succ n2 ih2 =>
        intro H locs a X1 ha hX1 hn2 hM hS ls hl
        refine lv_iload_n hx hb dX2_asks_2 rfl (lv_at hl 0 rfl) ?_
        refine lv_iconst (v := 3) hx hb dX2_asks_3 rfl ?_
        refine g_icmp_geN (tgt := 63) hx hb a 3 rfl rfl (by omega) (by omega) dX2_asks_4 (by decide) (fun c_4 => ?_) (fun c_4 => ?_)
        · skip
          refine lv_aload_n hx hb dX2_asks_63 rfl (lv_at hl 1 rfl) ?_
          refine lv_iload_n hx hb dX2_asks_64 rfl (lv_at hl 2 rfl) ?_
          refine lv_iconst (v := 2) hx hb dX2_asks_65 rfl ?_
          refine lv_aload_n hx hb dX2_asks_66 rfl (lv_at hl 1 rfl) ?_
          refine lv_iload_n hx hb dX2_asks_67 rfl (lv_at hl 2 rfl) ?_
          refine lv_iconst (v := 2) hx hb dX2_asks_68 rfl ?_
          refine g_cRV hX hl y_X2_of v_X2_of q2365 (k_X2_of m0 2 (by omega) (by omega)) (hM.rc hX.2.2.2) hM rfl ⟨Nat.le_of_ble_eq_true rfl, Nat.le_of_ble_eq_true rfl⟩ ⟨Nat.zero_le _, Nat.zero_le _⟩ (rest := [.int 2, .int (nI m0), .ref (ad 0)]) (st1 := [.int (X1 (3 + m0) 2), .int 2, .int (nI m0), .ref (ad 0)]) rfl rfl (Nat.le_of_ble_eq_true rfl) dX2_asks_69 ?_
          refine lv_iconst (v := 1) hx hb dX2_asks_72 rfl ?_
          refine lv_iadd hx hb dX2_asks_73 ?_
          refine g_cMV hX hl y_X2_puts v_X2_puts q2353 (k_X2_puts m0 2 ((X1 (3 + m0) 2) + 1) (by omega) (by omega)) (hM.rc hX.2.2.2) hM rfl ⟨Nat.le_of_ble_eq_true rfl, Nat.le_of_ble_eq_true rfl⟩ ⟨Nat.le_refl _, Nat.le_refl _⟩ (rest := []) (st1 := []) rfl rfl (Nat.le_of_ble_eq_true rfl) dX2_asks_74 hS (fun _ h => h) (fun H locs hM hS _ => ?_)
          refine lv_aload_n hx hb dX2_asks_77 rfl (lv_at hl 1 rfl) ?_
          refine lv_iconst (v := 2) hx hb dX2_asks_78 rfl ?_
          refine lv_iload_n hx hb dX2_asks_79 rfl (lv_at hl 2 rfl) ?_
          refine g_cMV hX hl y_X2_logs v_X2_logs q2361 (k_X2_logs 2 m0 (by omega) (s_okG_of (X := X) (by rw [g_up2_row (by omega), hX1]; exact (x_aN_k X (by omega) hL).1 4 (by omega)) hg)) (hM.rc hX.2.2.2) hM rfl ⟨Nat.le_of_ble_eq_true rfl, Nat.le_of_ble_eq_true rfl⟩ ⟨Nat.le_refl _, Nat.le_refl _⟩ (rest := []) (st1 := []) rfl rfl (Nat.le_of_ble_eq_true rfl) dX2_asks_80 hS (fun _ h => h) (fun H locs hM hS _ => ?_)
          exact hret H locs _ _ _ _ dX2_asks_83 hS (Nat.le_refl _) (Nat.le_refl _) (⟨rfl, by obtain rfl : a = 3 := (by omega); subst hX1; exact hM⟩)
        · skip
          refine lv_iconst (v := 0) hx hb dX2_asks_7 rfl ?_
          refine lv_istore_n (lv' := [(3, .int 0), (2, .int (nI a)), (0, .ref (ad 0)), (1, .int (nI m0))]) hx hb dX2_asks_8 rfl hl (by decide) rfl (fun ls hl => ?_)
          have L9 : ∀ (nf : Nat) (H : Heap) (locs : List Loc) (q : Nat) (X2 : g_Wd), (q ≤ s_len (X (3 + m0))) → (X2 = x_aR X1 m0 a q) → (s_len (X (3 + m0)) - q < nf) → (g_Mod G ad F X2 Y U V Z H) → va_S (md_A ad) s.heap H locs → ∀ ls : Array Slot, lv_has ls 4 [(3, .int (nI q)), (2, .int (nI a)), (0, .ref (ad 0)), (1, .int (nI m0))] → W p l e (g_rm 5 0 0) s m args below meth c H locs 0 0 Q (F0 m 9 ls []) := by
            intro n9
            induction n9 with
            | zero => intro H locs q X2 hq hX2 hn; exact absurd hn (Nat.not_lt_zero _)
            | succ n9 ih9 =>
              intro H locs q X2 hq hX2 hn9 hM hS ls hl
              have hk : k_g m0 X X2 := by rw [hX2, hX1]; exact (x_aN_k X (by omega) hL).tr (x_aR_k _ (by omega) (by omega))
              have hv2 := hk.okV hv
              have hl2 := hk.lev
              have hl0 : X2 (3 + m0) 0 = nI (s_len (X (3 + m0))) := by rw [← hk.len]; exact (hk.okL ho).1
              refine lv_iload_n hx hb dX2_asks_9 rfl (lv_at hl 0 rfl) ?_
              refine lv_aload_n hx hb dX2_asks_10 rfl (lv_at hl 2 rfl) ?_
              refine lv_iload_n hx hb dX2_asks_11 rfl (lv_at hl 3 rfl) ?_
              refine lv_iconst (v := 0) hx hb dX2_asks_12 rfl ?_
              refine g_cRV hX hl y_X2_of v_X2_of q2365 (k_X2_of m0 0 (by omega) (by omega)) (hM.rc hX.2.2.2) hM rfl ⟨Nat.le_of_ble_eq_true rfl, Nat.le_of_ble_eq_true rfl⟩ ⟨Nat.zero_le _, Nat.zero_le _⟩ (rest := [.int (nI q)]) (st1 := [.int (X2 (3 + m0) 0), .int (nI q)]) rfl rfl (Nat.le_of_ble_eq_true rfl) dX2_asks_13 ?_
              refine g_icmp_geN (tgt := 57) hx hb q (s_len (X (3 + m0))) rfl hl0 (by omega) (by omega) dX2_asks_16 (by decide) (fun c_16 => ?_) (fun c_16 => ?_)
              · skip
                refine lv_iinc (v := (nI (a + 1))) (lv' := [(2, .int (nI (a + 1))), (3, .int (nI q)), (0, .ref (ad 0)), (1, .int (nI m0))]) hx hb dX2_asks_57 hl (k := 1) rfl (nI_1 _) (by decide) rfl (fun ls hl => ?_)
                refine lv_goto (tgt := 2) hx hb dX2_asks_60 (by decide) ?_
                exact ih2 H locs (a + 1) X2 (by omega) (by rw [hX2, show q = s_len (X (3 + m0)) by omega, hX1]; rfl) (by omega) hM hS ls (lv_sub hl [0, 2, 3] rfl)
              · skip
                refine lv_aload_n hx hb dX2_asks_19 rfl (lv_at hl 2 rfl) ?_
                refine lv_iload_n hx hb dX2_asks_20 rfl (lv_at hl 3 rfl) ?_
                refine lv_iload_n hx hb dX2_asks_21 rfl (lv_at hl 1 rfl) ?_
                refine lv_iload_n hx hb dX2_asks_22 rfl (lv_at hl 0 rfl) ?_
                refine g_cRV hX hl y_X2_hasAt v_X2_hasAt q2405 (k_X2_hasAt m0 a q (by omega) (by omega) (by omega)) (hM.rc hX.2.2.2) hM rfl ⟨Nat.le_of_ble_eq_true rfl, Nat.le_of_ble_eq_true rfl⟩ ⟨Nat.zero_le _, Nat.zero_le _⟩ (rest := []) (st1 := [.int (s_has (X2 (3 + m0)) a q)]) rfl rfl (Nat.le_of_ble_eq_true rfl) dX2_asks_23 ?_
                refine lv_iconst (v := (-1)) hx hb dX2_asks_26 rfl ?_
                refine lv_icmp_eq (tgt := 33) hx hb dX2_asks_27 (by decide) (fun c_27 => ?_) (fun c_27 => ?_)
                · skip
                  refine lv_aload_n hx hb dX2_asks_33 rfl (lv_at hl 2 rfl) ?_
                  refine g_getM hX hM 1 (by decide) q2164 rfl (v := .ref (ad 1)) rfl dX2_asks_34 ?_
                  refine lv_bipush (v := 8) hx hb dX2_asks_37 (by decide) ?_
                  refine lv_dup2_11 hx hb dX2_asks_39 rfl rfl ?_
                  refine g_iald hX hM.a1 8 rfl (by omega) (by decide) (v := (X2 0 8)) rfl dX2_asks_40 ?_
                  refine lv_iconst (v := 1) hx hb dX2_asks_41 rfl ?_
                  refine lv_iadd hx hb dX2_asks_42 ?_
                  refine g_istX hX hM hS 8 rfl (by omega) (X' := g_up2 X2 0 8 ((X2 0 8) + 1)) (g_flu0 _ (by omega) _) dX2_asks_43 (fun H locs hM hS => ?_)
                  refine lv_aload_n hx hb dX2_asks_44 rfl (lv_at hl 2 rfl) ?_
                  refine lv_iload_n hx hb dX2_asks_45 rfl (lv_at hl 3 rfl) ?_
                  refine lv_iload_n hx hb dX2_asks_46 rfl (lv_at hl 1 rfl) ?_
                  refine lv_iload_n hx hb dX2_asks_47 rfl (lv_at hl 0 rfl) ?_
                  refine g_cMV hX hl y_X2_getsCopies v_X2_getsCopies q2413 (k_X2_getsCopies m0 a q (by omega) (by omega) (by omega) (by rw [g_up2_row (by omega)]; exact hv2) (by rw [g_up2_row (by omega)]; omega)) (hM.rc hX.2.2.2) hM rfl ⟨Nat.le_of_ble_eq_true rfl, Nat.le_of_ble_eq_true rfl⟩ ⟨Nat.le_refl _, Nat.le_refl _⟩ (rest := []) (st1 := []) rfl rfl (Nat.le_of_ble_eq_true rfl) dX2_asks_48 hS (fun _ h => h) (fun H locs hM hS _ => ?_)
                  refine lv_iinc (v := (nI (q + 1))) (lv' := [(3, .int (nI (q + 1))), (2, .int (nI a)), (0, .ref (ad 0)), (1, .int (nI m0))]) hx hb dX2_asks_51 hl (k := 0) rfl (nI_1 _) (by decide) rfl (fun ls hl => ?_)
                  refine lv_goto (tgt := 9) hx hb dX2_asks_54 (by decide) ?_
                  exact ih9 H locs (q + 1) (x_gets (g_up2 X2 0 8 ((X2 0 8) + 1)) m0 a q) (by omega) (by rw [show x_aR X1 m0 a (q + 1) = x_a1 (x_aR X1 m0 a q) m0 a q from rfl, ← hX2]; unfold x_a1; first | rw [if_pos c_27] | rw [if_neg c_27]) (by omega) hM hS ls (lv_sub hl [0, 1, 2, 3] rfl)
                · skip
                  refine lv_goto (tgt := 51) hx hb dX2_asks_30 (by decide) ?_
                  refine lv_iinc (v := (nI (q + 1))) (lv' := [(3, .int (nI (q + 1))), (2, .int (nI a)), (0, .ref (ad 0)), (1, .int (nI m0))]) hx hb dX2_asks_51 hl (k := 0) rfl (nI_1 _) (by decide) rfl (fun ls hl => ?_)
                  refine lv_goto (tgt := 9) hx hb dX2_asks_54 (by decide) ?_
                  exact ih9 H locs (q + 1) X2 (by omega) (by rw [show x_aR X1 m0 a (q + 1) = x_a1 (x_aR X1 m0 a q) m0 a q from rfl, ← hX2]; unfold x_a1; first | rw [if_pos c_27] | rw [if_neg c_27]) (by omega) hM hS ls (lv_sub hl [0, 1, 2, 3] rfl)
          exact L9 (s_len (X (3 + m0)) - 0 + 1) H locs 0 X1 (by omega) (rfl) (Nat.lt_succ_self _) hM hS ls (lv_sub hl [0, 1, 2, 3] rfl)
    exact L2 (3 - 0 + 1) H locs 0 X (by omega) (rfl) (Nat.lt_succ_self _) hM hS ls (lv_sub hl [0, 1, 2] rfl)
  exact key _ _ hM hS

theorem y_X2_goesOn : g_Y yX2_goesOn cX2_goesOn 4 none 1 := ⟨q2447, by decide +kernel⟩
theorem v_X2_goesOn : g_YV yX2_goesOn := ⟨q2446, qs81, q140⟩
set_option maxHeartbeats 4000000 in
theorem k_X2_goesOn {G : g_G} {l : Launch} {ad : Nat → Nat} {F : Nat → Int32} {X Y : g_Wd} {U V : Nat → g_Wd} {Z : g_Wd} (m0 : Nat) (hm0 : m0 < 6) (ho : s_okL (X (3 + m0))) (hv : s_okV (X (3 + m0))) (hv4 : s_lev (X (3 + m0)) ≤ 4) (hg : s_okG X) : g_Md G l yX2_goesOn cX2_goesOn 4 none 5 0 0 [.ref (ad 0), .int (nI m0)] (g_Mod G ad F X Y U V Z) (g_Qv none (g_Mod G ad F (x_goes X m0) Y U V Z)) (md_A ad) := by
  refine g_Md.ofV (by decide) ?_
  intro p e s m args below meth c ls Q hX hM hl hS hret
  have hx := hX.1.1
  have hb := hX.1.2.1
  have hl : lv_has ls 4 [(0, .ref (ad 0)), (1, .int (nI m0))] := hl
  have key : ∀ (H : Heap) (locs : List Loc), g_Mod G ad F X Y U V Z H → va_S (md_A ad) s.heap H locs → W p l e (g_rm 5 0 0) s m args below meth c H locs 0 0 Q (F0 m 0 ls []) := by
    intro H locs hM hS
    have hL := ho.2
    have hY0 : x_lv X m0 (3 + m0) 0 = X (3 + m0) 0 := x_lv_0 (by omega) (by omega) (by omega)
    have hYl := s_len_of hY0
    have hYv : s_okV (x_lv X m0 (3 + m0)) := ⟨by rw [x_lv_lev hv.2]; exact x_lv_1, by rw [x_lv_lev hv.2]; omega⟩
    have hYe := x_lv_lev hv.2
    have hYL : s_len (x_lv X m0 (3 + m0)) ≤ 12 := by omega
    refine lv_iconst (v := 0) hx hb dX2_goesOn_0 rfl ?_
    refine lv_istore_n (lv' := [(2, .int 0), (0, .ref (ad 0)), (1, .int (nI m0))]) hx hb dX2_goesOn_1 rfl hl (by decide) rfl (fun ls hl => ?_)
    have L2 : ∀ (nf : Nat) (H : Heap) (locs : List Loc) (j : Nat) (X1 : g_Wd), (j ≤ 36) → (X1 = x_hN X m0 j) → (36 - j < nf) → (g_Mod G ad F X1 Y U V Z H) → va_S (md_A ad) s.heap H locs → ∀ ls : Array Slot, lv_has ls 4 [(2, .int (nI j)), (0, .ref (ad 0)), (1, .int (nI m0))] → W p l e (g_rm 5 0 0) s m args below meth c H locs 0 0 Q (F0 m 2 ls []) := by
      intro n2
      induction n2 with
      | zero => intro H locs j X1 hj hX1 hn; exact absurd hn (Nat.not_lt_zero _)
      | succ n2 ih2 =>
        intro H locs j X1 hj hX1 hn2 hM hS ls hl
        have hv3 : X1 (3 + m0) 1 = nI (s_lev (X (3 + m0))) := by rw [hX1, x_hN_lt (by omega)]; exact hv.1
        refine lv_iload_n hx hb dX2_goesOn_2 rfl (lv_at hl 0 rfl) ?_
        refine lv_bipush (v := 36) hx hb dX2_goesOn_3 (by decide) ?_
        refine g_icmp_geN (tgt := 32) hx hb j 36 rfl rfl (by omega) (by omega) dX2_goesOn_5 (by decide) (fun c_5 => ?_) (fun c_5 => ?_)
        · skip
          refine lv_aload_n hx hb dX2_goesOn_32 rfl (lv_at hl 1 rfl) ?_
          refine lv_iload_n hx hb dX2_goesOn_33 rfl (lv_at hl 2 rfl) ?_
          refine lv_iconst (v := 1) hx hb dX2_goesOn_34 rfl ?_
          refine lv_aload_n hx hb dX2_goesOn_35 rfl (lv_at hl 1 rfl) ?_
          refine lv_iload_n hx hb dX2_goesOn_36 rfl (lv_at hl 2 rfl) ?_
          refine lv_iconst (v := 1) hx hb dX2_goesOn_37 rfl ?_
          refine g_cRV hX hl y_X2_of v_X2_of q2365 (k_X2_of m0 1 (by omega) (by omega)) (hM.rc hX.2.2.2) hM rfl ⟨Nat.le_of_ble_eq_true rfl, Nat.le_of_ble_eq_true rfl⟩ ⟨Nat.zero_le _, Nat.zero_le _⟩ (rest := [.int 1, .int (nI m0), .ref (ad 0)]) (st1 := [.int (X1 (3 + m0) 1), .int 1, .int (nI m0), .ref (ad 0)]) rfl rfl (Nat.le_of_ble_eq_true rfl) dX2_goesOn_38 ?_
          refine lv_iconst (v := 1) hx hb dX2_goesOn_41 rfl ?_
          refine g_iaddN hx hb (s_lev (X (3 + m0))) 1 hv3 rfl dX2_goesOn_42 ?_
          refine g_cMV hX hl y_X2_puts v_X2_puts q2353 (k_X2_puts m0 1 (nI (s_lev (X (3 + m0)) + 1)) (by omega) (by omega)) (hM.rc hX.2.2.2) hM rfl ⟨Nat.le_of_ble_eq_true rfl, Nat.le_of_ble_eq_true rfl⟩ ⟨Nat.le_refl _, Nat.le_refl _⟩ (rest := []) (st1 := []) rfl rfl (Nat.le_of_ble_eq_true rfl) dX2_goesOn_43 hS (fun _ h => h) (fun H locs hM hS _ => ?_)
          refine lv_aload_n hx hb dX2_goesOn_46 rfl (lv_at hl 1 rfl) ?_
          refine lv_iload_n hx hb dX2_goesOn_47 rfl (lv_at hl 2 rfl) ?_
          refine lv_iconst (v := 2) hx hb dX2_goesOn_48 rfl ?_
          refine lv_iconst (v := 0) hx hb dX2_goesOn_49 rfl ?_
          refine g_cMV hX hl y_X2_puts v_X2_puts q2353 (k_X2_puts m0 2 0 (by omega) (by omega)) (hM.rc hX.2.2.2) hM rfl ⟨Nat.le_of_ble_eq_true rfl, Nat.le_of_ble_eq_true rfl⟩ ⟨Nat.le_refl _, Nat.le_refl _⟩ (rest := []) (st1 := []) rfl rfl (Nat.le_of_ble_eq_true rfl) dX2_goesOn_50 hS (fun _ h => h) (fun H locs hM hS _ => ?_)
          have hE : g_up2 (g_up2 X1 (3 + m0) 1 (nI (s_lev (X (3 + m0)) + 1))) (3 + m0) 2 0 = x_lv X m0 := by obtain rfl : j = 36 := (by omega); rw [hX1]; rfl
          rw [hE] at hM
          refine lv_iconst (v := 0) hx hb dX2_goesOn_53 rfl ?_
          refine lv_istore_n (lv' := [(2, .int 0), (0, .ref (ad 0)), (1, .int (nI m0))]) hx hb dX2_goesOn_54 rfl hl (by decide) rfl (fun ls hl => ?_)
          have L55 : ∀ (nf : Nat) (H : Heap) (locs : List Loc) (a : Nat) (X2 : g_Wd), (a ≤ 3) → (X2 = x_oN (x_lv X m0) m0 a) → (3 - a < nf) → (g_Mod G ad F X2 Y U V Z H) → va_S (md_A ad) s.heap H locs → ∀ ls : Array Slot, lv_has ls 4 [(2, .int (nI a)), (0, .ref (ad 0)), (1, .int (nI m0))] → W p l e (g_rm 5 0 0) s m args below meth c H locs 0 0 Q (F0 m 55 ls []) := by
            intro n55
            induction n55 with
            | zero => intro H locs a X2 ha hX2 hn; exact absurd hn (Nat.not_lt_zero _)
            | succ n55 ih55 =>
              intro H locs a X2 ha hX2 hn55 hM hS ls hl
              refine lv_iload_n hx hb dX2_goesOn_55 rfl (lv_at hl 0 rfl) ?_
              refine lv_iconst (v := 3) hx hb dX2_goesOn_56 rfl ?_
              refine g_icmp_geN (tgt := 91) hx hb a 3 rfl rfl (by omega) (by omega) dX2_goesOn_57 (by decide) (fun c_57 => ?_) (fun c_57 => ?_)
              · skip
                refine lv_aload_n hx hb dX2_goesOn_91 rfl (lv_at hl 1 rfl) ?_
                refine lv_iconst (v := 1) hx hb dX2_goesOn_92 rfl ?_
                refine lv_iload_n hx hb dX2_goesOn_93 rfl (lv_at hl 2 rfl) ?_
                refine g_cMV hX hl y_X2_logs v_X2_logs q2361 (k_X2_logs 1 m0 (by omega) (s_okG_of (X := X) (by rw [hX2]; exact ((x_oN_k _ (by omega) hYL).1 4 (by omega)).trans (by rw [x_lv_row (by omega)])) hg)) (hM.rc hX.2.2.2) hM rfl ⟨Nat.le_of_ble_eq_true rfl, Nat.le_of_ble_eq_true rfl⟩ ⟨Nat.le_refl _, Nat.le_refl _⟩ (rest := []) (st1 := []) rfl rfl (Nat.le_of_ble_eq_true rfl) dX2_goesOn_94 hS (fun _ h => h) (fun H locs hM hS _ => ?_)
                exact hret H locs _ _ _ _ dX2_goesOn_97 hS (Nat.le_refl _) (Nat.le_refl _) (⟨rfl, by obtain rfl : a = 3 := (by omega); subst hX2; exact hM⟩)
              · skip
                refine lv_iconst (v := 0) hx hb dX2_goesOn_60 rfl ?_
                refine lv_istore_n (lv' := [(3, .int 0), (2, .int (nI a)), (0, .ref (ad 0)), (1, .int (nI m0))]) hx hb dX2_goesOn_61 rfl hl (by decide) rfl (fun ls hl => ?_)
                have L62 : ∀ (nf : Nat) (H : Heap) (locs : List Loc) (q : Nat) (X3 : g_Wd), (q ≤ s_len (X (3 + m0))) → (X3 = x_oR X2 m0 a q) → (s_len (X (3 + m0)) - q < nf) → (g_Mod G ad F X3 Y U V Z H) → va_S (md_A ad) s.heap H locs → ∀ ls : Array Slot, lv_has ls 4 [(3, .int (nI q)), (2, .int (nI a)), (0, .ref (ad 0)), (1, .int (nI m0))] → W p l e (g_rm 5 0 0) s m args below meth c H locs 0 0 Q (F0 m 62 ls []) := by
                  intro n62
                  induction n62 with
                  | zero => intro H locs q X3 hq hX3 hn; exact absurd hn (Nat.not_lt_zero _)
                  | succ n62 ih62 =>
                    intro H locs q X3 hq hX3 hn62 hM hS ls hl
                    have hk : k_g m0 (x_lv X m0) X3 := by rw [hX3, hX2]; exact (x_oN_k _ (by omega) hYL).tr (x_oR_k _ (by omega) (by omega))
                    have hv2 := hk.okV hYv
                    have hl2 := hk.lev
                    have hl0 : X3 (3 + m0) 0 = nI (s_len (X (3 + m0))) := by rw [hk.2.2.2.2.1 0 (by omega), hY0]; exact ho.1
                    refine lv_iload_n hx hb dX2_goesOn_62 rfl (lv_at hl 0 rfl) ?_
                    refine lv_aload_n hx hb dX2_goesOn_63 rfl (lv_at hl 2 rfl) ?_
                    refine lv_iload_n hx hb dX2_goesOn_64 rfl (lv_at hl 3 rfl) ?_
                    refine lv_iconst (v := 0) hx hb dX2_goesOn_65 rfl ?_
                    refine g_cRV hX hl y_X2_of v_X2_of q2365 (k_X2_of m0 0 (by omega) (by omega)) (hM.rc hX.2.2.2) hM rfl ⟨Nat.le_of_ble_eq_true rfl, Nat.le_of_ble_eq_true rfl⟩ ⟨Nat.zero_le _, Nat.zero_le _⟩ (rest := [.int (nI q)]) (st1 := [.int (X3 (3 + m0) 0), .int (nI q)]) rfl rfl (Nat.le_of_ble_eq_true rfl) dX2_goesOn_66 ?_
                    refine g_icmp_geN (tgt := 85) hx hb q (s_len (X (3 + m0))) rfl hl0 (by omega) (by omega) dX2_goesOn_69 (by decide) (fun c_69 => ?_) (fun c_69 => ?_)
                    · skip
                      refine lv_iinc (v := (nI (a + 1))) (lv' := [(2, .int (nI (a + 1))), (3, .int (nI q)), (0, .ref (ad 0)), (1, .int (nI m0))]) hx hb dX2_goesOn_85 hl (k := 1) rfl (nI_1 _) (by decide) rfl (fun ls hl => ?_)
                      refine lv_goto (tgt := 55) hx hb dX2_goesOn_88 (by decide) ?_
                      exact ih55 H locs (a + 1) X3 (by omega) (by rw [hX3, show q = s_len (x_lv X m0 (3 + m0)) by omega, hX2]; rfl) (by omega) hM hS ls (lv_sub hl [0, 2, 3] rfl)
                    · skip
                      refine lv_aload_n hx hb dX2_goesOn_72 rfl (lv_at hl 2 rfl) ?_
                      refine lv_iload_n hx hb dX2_goesOn_73 rfl (lv_at hl 3 rfl) ?_
                      refine lv_iload_n hx hb dX2_goesOn_74 rfl (lv_at hl 1 rfl) ?_
                      refine lv_iload_n hx hb dX2_goesOn_75 rfl (lv_at hl 0 rfl) ?_
                      refine g_cMV hX hl y_X2_getsCopies v_X2_getsCopies q2413 (k_X2_getsCopies m0 a q (by omega) (by omega) (by omega) hv2 (by omega)) (hM.rc hX.2.2.2) hM rfl ⟨Nat.le_of_ble_eq_true rfl, Nat.le_of_ble_eq_true rfl⟩ ⟨Nat.le_refl _, Nat.le_refl _⟩ (rest := []) (st1 := []) rfl rfl (Nat.le_of_ble_eq_true rfl) dX2_goesOn_76 hS (fun _ h => h) (fun H locs hM hS _ => ?_)
                      refine lv_iinc (v := (nI (q + 1))) (lv' := [(3, .int (nI (q + 1))), (2, .int (nI a)), (0, .ref (ad 0)), (1, .int (nI m0))]) hx hb dX2_goesOn_79 hl (k := 0) rfl (nI_1 _) (by decide) rfl (fun ls hl => ?_)
                      refine lv_goto (tgt := 62) hx hb dX2_goesOn_82 (by decide) ?_
                      exact ih62 H locs (q + 1) (x_gets X3 m0 a q) (by omega) (by rw [hX3]; rfl) (by omega) hM hS ls (lv_sub hl [0, 1, 2, 3] rfl)
                exact L62 (s_len (X (3 + m0)) - 0 + 1) H locs 0 X2 (by omega) (rfl) (Nat.lt_succ_self _) hM hS ls (lv_sub hl [0, 1, 2, 3] rfl)
          exact L55 (3 - 0 + 1) H locs 0 (x_lv X m0) (by omega) (rfl) (Nat.lt_succ_self _) hM hS ls (lv_sub hl [0, 1, 2] rfl)
        · skip
          refine lv_aload_n hx hb dX2_goesOn_8 rfl (lv_at hl 1 rfl) ?_
          refine lv_iload_n hx hb dX2_goesOn_9 rfl (lv_at hl 2 rfl) ?_
          refine lv_bipush (v := 53) hx hb dX2_goesOn_10 (by decide) ?_
          refine lv_iload_n hx hb dX2_goesOn_12 rfl (lv_at hl 0 rfl) ?_
          refine g_iaddN hx hb 53 j rfl rfl dX2_goesOn_13 ?_
          refine lv_aload_n hx hb dX2_goesOn_14 rfl (lv_at hl 1 rfl) ?_
          refine lv_iload_n hx hb dX2_goesOn_15 rfl (lv_at hl 2 rfl) ?_
          refine lv_bipush (v := 17) hx hb dX2_goesOn_16 (by decide) ?_
          refine lv_iload_n hx hb dX2_goesOn_18 rfl (lv_at hl 0 rfl) ?_
          refine g_iaddN hx hb 17 j rfl rfl dX2_goesOn_19 ?_
          refine g_cRV hX hl y_X2_of v_X2_of q2365 (k_X2_of m0 (17 + j) (by omega) (by omega)) (hM.rc hX.2.2.2) hM rfl ⟨Nat.le_of_ble_eq_true rfl, Nat.le_of_ble_eq_true rfl⟩ ⟨Nat.zero_le _, Nat.zero_le _⟩ (rest := [.int (nI (53 + j)), .int (nI m0), .ref (ad 0)]) (st1 := [.int (X1 (3 + m0) (17 + j)), .int (nI (53 + j)), .int (nI m0), .ref (ad 0)]) rfl rfl (Nat.le_of_ble_eq_true rfl) dX2_goesOn_20 ?_
          refine g_cMV hX hl y_X2_puts v_X2_puts q2353 (k_X2_puts m0 (53 + j) (X1 (3 + m0) (17 + j)) (by omega) (by omega)) (hM.rc hX.2.2.2) hM rfl ⟨Nat.le_of_ble_eq_true rfl, Nat.le_of_ble_eq_true rfl⟩ ⟨Nat.le_refl _, Nat.le_refl _⟩ (rest := []) (st1 := []) rfl rfl (Nat.le_of_ble_eq_true rfl) dX2_goesOn_23 hS (fun _ h => h) (fun H locs hM hS _ => ?_)
          refine lv_iinc (v := (nI (j + 1))) (lv' := [(2, .int (nI (j + 1))), (0, .ref (ad 0)), (1, .int (nI m0))]) hx hb dX2_goesOn_26 hl (k := 0) rfl (nI_1 _) (by decide) rfl (fun ls hl => ?_)
          refine lv_goto (tgt := 2) hx hb dX2_goesOn_29 (by decide) ?_
          exact ih2 H locs (j + 1) (g_up2 X1 (3 + m0) (53 + j) (X1 (3 + m0) (17 + j))) (by omega) (by rw [hX1]; rfl) (by omega) hM hS ls (lv_sub hl [0, 1, 2] rfl)
    exact L2 (36 - 0 + 1) H locs 0 X (by omega) (rfl) (Nat.lt_succ_self _) hM hS ls (lv_sub hl [0, 1, 2] rfl)
  exact key _ _ hM hS
