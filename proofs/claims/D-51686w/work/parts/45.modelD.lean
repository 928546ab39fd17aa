/-! THE MODEL: what may be asked -/
set_option maxRecDepth 100000
theorem y_X2_mayTwo : g_Y yX2_mayTwo cX2_mayTwo 3 (some .boolean) 2 := ⟨q2504, by decide +kernel⟩
theorem v_X2_mayTwo : g_YV yX2_mayTwo := ⟨q2503, qs93, q140⟩
set_option maxHeartbeats 4000000 in
theorem k_X2_mayTwo {G : g_G} {l : Launch} {ad : Nat → Nat} {F : Nat → Int32} {X Y : g_Wd} {U V : Nat → g_Wd} {Z : g_Wd} (a : Int32) (b : Int32)  : g_Md G l yX2_mayTwo cX2_mayTwo 3 (some .boolean) 1 0 0 [.ref (ad 0), .int a, .int b] (g_Mod G ad F X Y U V Z) (g_Qv (some (.int (g_b (decide (s_may a b 1 = 0))))) (g_Mod G ad (upd F 0 (s_may a b 1)) X Y U V Z)) (md_A ad) := by
  refine g_Md.ofI (by decide) g_narB ?_
  intro p e s m args below meth c ls Q hX hM hl hS hret
  have hx := hX.1.1
  have hb := hX.1.2.1
  have hl : lv_has ls 3 [(0, .ref (ad 0)), (1, .int a), (2, .int b)] := hl
  have key : ∀ (H : Heap) (locs : List Loc), g_Mod G ad F X Y U V Z H → va_S (md_A ad) s.heap H locs → W p l e (g_rm 1 0 0) s m args below meth c H locs 0 0 Q (F0 m 0 ls []) := by
    intro H locs hM hS
    refine lv_aload_n hx hb dX2_mayTwo_0 rfl (lv_at hl 0 rfl) ?_
    refine lv_iload_n hx hb dX2_mayTwo_1 rfl (lv_at hl 1 rfl) ?_
    refine lv_iload_n hx hb dX2_mayTwo_2 rfl (lv_at hl 2 rfl) ?_
    refine lv_iconst (v := 1) hx hb dX2_mayTwo_3 rfl ?_
    refine g_cMV hX hl y_X2_may v_X2_may q2261 (k_X2_may a b 1) (hM.rc hX.2.2.2) hM rfl ⟨Nat.le_of_ble_eq_true rfl, Nat.le_of_ble_eq_true rfl⟩ ⟨Nat.le_refl _, Nat.le_refl _⟩ (rest := []) (st1 := [.int (g_b (decide (s_may a b 1 = 0)))]) rfl rfl (Nat.le_of_ble_eq_true rfl) dX2_mayTwo_4 hS (fun _ h => h) (fun H locs hM hS _ => ?_)
    exact hret H locs _ _ _ _ _ dX2_mayTwo_7 hS (Nat.le_refl _) (Nat.le_refl _) (⟨rfl, hM⟩)
  exact key _ _ hM hS

theorem y_X2_mayLook : g_Y yX2_mayLook cX2_mayLook 1 (some .boolean) 0 := ⟨q2539, by decide +kernel⟩
theorem v_X2_mayLook : g_YV yX2_mayLook := ⟨q2538, qs97, q140⟩
set_option maxHeartbeats 4000000 in
theorem k_X2_mayLook {G : g_G} {l : Launch} {ad : Nat → Nat} {F : Nat → Int32} {X Y : g_Wd} {U V : Nat → g_Wd} {Z : g_Wd}   : g_Md G l yX2_mayLook cX2_mayLook 1 (some .boolean) 1 0 0 [.ref (ad 0)] (g_Mod G ad F X Y U V Z) (g_Qv (some (.int (g_b (decide (s_may (F 6) 1 1 = 0))))) (g_Mod G ad (upd F 0 (s_may (F 6) 1 1)) X Y U V Z)) (md_A ad) := by
  refine g_Md.ofI (by decide) g_narB ?_
  intro p e s m args below meth c ls Q hX hM hl hS hret
  have hx := hX.1.1
  have hb := hX.1.2.1
  have hl : lv_has ls 1 [(0, .ref (ad 0))] := hl
  have key : ∀ (H : Heap) (locs : List Loc), g_Mod G ad F X Y U V Z H → va_S (md_A ad) s.heap H locs → W p l e (g_rm 1 0 0) s m args below meth c H locs 0 0 Q (F0 m 0 ls []) := by
    intro H locs hM hS
    refine lv_aload_n hx hb dX2_mayLook_0 rfl (lv_at hl 0 rfl) ?_
    refine lv_aload_n hx hb dX2_mayLook_1 rfl (lv_at hl 0 rfl) ?_
    refine g_getM hX hM 6 (by decide) q2169 rfl (v := .int (F 6)) rfl dX2_mayLook_2 ?_
    refine lv_iconst (v := 1) hx hb dX2_mayLook_5 rfl ?_
    refine lv_iconst (v := 1) hx hb dX2_mayLook_6 rfl ?_
    refine g_cMV hX hl y_X2_may v_X2_may q2261 (k_X2_may (F 6) 1 1) (hM.rc hX.2.2.2) hM rfl ⟨Nat.le_of_ble_eq_true rfl, Nat.le_of_ble_eq_true rfl⟩ ⟨Nat.le_refl _, Nat.le_refl _⟩ (rest := []) (st1 := [.int (g_b (decide (s_may (F 6) 1 1 = 0)))]) rfl rfl (Nat.le_of_ble_eq_true rfl) dX2_mayLook_7 hS (fun _ h => h) (fun H locs hM hS _ => ?_)
    exact hret H locs _ _ _ _ _ dX2_mayLook_10 hS (Nat.le_refl _) (Nat.le_refl _) (⟨rfl, hM⟩)
  exact key _ _ hM hS

theorem y_X2_mayMessage : g_Y yX2_mayMessage cX2_mayMessage 2 (some .boolean) 1 := ⟨q2639, by decide +kernel⟩
theorem v_X2_mayMessage : g_YV yX2_mayMessage := ⟨q2638, qs110, q140⟩
set_option maxHeartbeats 4000000 in
theorem k_X2_mayMessage {G : g_G} {l : Launch} {ad : Nat → Nat} {F : Nat → Int32} {X Y : g_Wd} {U V : Nat → g_Wd} {Z : g_Wd} (v : Int32)  : g_Md G l yX2_mayMessage cX2_mayMessage 2 (some .boolean) 2 0 0 [.ref (ad 0), .int v] (g_Mod G ad F X Y U V Z) (g_Qv (some (.int (g_b (decide (s_may (F 6) (g_b (s_isMsg F X v)) 1 = 0))))) (g_Mod G ad (upd F 0 (s_may (F 6) (g_b (s_isMsg F X v)) 1)) X Y U V Z)) (md_A ad) := by
  refine g_Md.ofI (by decide) g_narB ?_
  intro p e s m args below meth c ls Q hX hM hl hS hret
  have hx := hX.1.1
  have hb := hX.1.2.1
  have hl : lv_has ls 2 [(0, .ref (ad 0)), (1, .int v)] := hl
  have key : ∀ (H : Heap) (locs : List Loc), g_Mod G ad F X Y U V Z H → va_S (md_A ad) s.heap H locs → W p l e (g_rm 2 0 0) s m args below meth c H locs 0 0 Q (F0 m 0 ls []) := by
    intro H locs hM hS
    refine lv_aload_n hx hb dX2_mayMessage_0 rfl (lv_at hl 0 rfl) ?_
    refine lv_aload_n hx hb dX2_mayMessage_1 rfl (lv_at hl 0 rfl) ?_
    refine g_getM hX hM 6 (by decide) q2169 rfl (v := .int (F 6)) rfl dX2_mayMessage_2 ?_
    refine lv_aload_n hx hb dX2_mayMessage_5 rfl (lv_at hl 0 rfl) ?_
    refine lv_iload_n hx hb dX2_mayMessage_6 rfl (lv_at hl 1 rfl) ?_
    refine g_cRV hX hl y_X2_isMessage v_X2_isMessage q2564 (k_X2_isMessage v) (hM.rc hX.2.2.2) hM rfl ⟨Nat.le_of_ble_eq_true rfl, Nat.le_of_ble_eq_true rfl⟩ ⟨Nat.zero_le _, Nat.zero_le _⟩ (rest := [.int (F 6), .ref (ad 0)]) (st1 := [.int (g_b (s_isMsg F X v)), .int (F 6), .ref (ad 0)]) rfl rfl (Nat.le_of_ble_eq_true rfl) dX2_mayMessage_7 ?_
    refine g_cMV hX hl y_X2_mayTwo v_X2_mayTwo q2501 (k_X2_mayTwo (F 6) (g_b (s_isMsg F X v))) (hM.rc hX.2.2.2) hM rfl ⟨Nat.le_of_ble_eq_true rfl, Nat.le_of_ble_eq_true rfl⟩ ⟨Nat.le_refl _, Nat.le_refl _⟩ (rest := []) (st1 := [.int (g_b (decide (s_may (F 6) (g_b (s_isMsg F X v)) 1 = 0)))]) rfl rfl (Nat.le_of_ble_eq_true rfl) dX2_mayMessage_10 hS (fun _ h => h) (fun H locs hM hS _ => ?_)
    exact hret H locs _ _ _ _ _ dX2_mayMessage_13 hS (Nat.le_refl _) (Nat.le_refl _) (⟨rfl, hM⟩)
  exact key _ _ hM hS

theorem y_X2_mayPlace : g_Y yX2_mayPlace cX2_mayPlace 4 (some .boolean) 3 := ⟨q2595, by decide +kernel⟩
theorem v_X2_mayPlace : g_YV yX2_mayPlace := ⟨q2594, qs105, q140⟩
set_option maxHeartbeats 4000000 in
theorem k_X2_mayPlace {G : g_G} {l : Launch} {ad : Nat → Nat} {F : Nat → Int32} {X Y : g_Wd} {U V : Nat → g_Wd} {Z : g_Wd} (v : Int32) (i : Int32) (q : Int32) (hWc : ¬ F 6 = 0 → s_ok X) : g_Md G l yX2_mayPlace cX2_mayPlace 4 (some .boolean) 3 0 0 [.ref (ad 0), .int v, .int i, .int q] (g_Mod G ad F X Y U V Z) (g_Qv (some (.int (g_b (decide (s_may (F 6) (g_b (s_isPl F X v q && s_in i 0 2)) 1 = 0))))) (g_Mod G ad (upd F 0 (s_may (F 6) (g_b (s_isPl F X v q && s_in i 0 2)) 1)) X Y U V Z)) (md_A ad) := by
  refine g_Md.ofI (by decide) g_narB ?_
  intro p e s m args below meth c ls Q hX hM hl hS hret
  have hx := hX.1.1
  have hb := hX.1.2.1
  have hl : lv_has ls 4 [(0, .ref (ad 0)), (1, .int v), (2, .int i), (3, .int q)] := hl
  have key : ∀ (H : Heap) (locs : List Loc), g_Mod G ad F X Y U V Z H → va_S (md_A ad) s.heap H locs → W p l e (g_rm 3 0 0) s m args below meth c H locs 0 0 Q (F0 m 0 ls []) := by
    intro H locs hM hS
    refine lv_aload_n hx hb dX2_mayPlace_0 rfl (lv_at hl 0 rfl) ?_
    refine lv_aload_n hx hb dX2_mayPlace_1 rfl (lv_at hl 0 rfl) ?_
    refine g_getM hX hM 6 (by decide) q2169 rfl (v := .int (F 6)) rfl dX2_mayPlace_2 ?_
    refine lv_aload_n hx hb dX2_mayPlace_5 rfl (lv_at hl 0 rfl) ?_
    refine lv_iload_n hx hb dX2_mayPlace_6 rfl (lv_at hl 1 rfl) ?_
    refine lv_iload_n hx hb dX2_mayPlace_7 rfl (lv_at hl 3 rfl) ?_
    refine g_cRV hX hl y_X2_isPlace v_X2_isPlace q2584 (k_X2_isPlace v q hWc) (hM.rc hX.2.2.2) hM rfl ⟨Nat.le_of_ble_eq_true rfl, Nat.le_of_ble_eq_true rfl⟩ ⟨Nat.zero_le _, Nat.zero_le _⟩ (rest := [.int (F 6), .ref (ad 0)]) (st1 := [.int (g_b (s_isPl F X v q)), .int (F 6), .ref (ad 0)]) rfl rfl (Nat.le_of_ble_eq_true rfl) dX2_mayPlace_8 ?_
    refine g_if_eqB (tgt := 26) hx hb (b := s_isPl F X v q) rfl dX2_mayPlace_11 (by decide) (fun c_11 => ?_) (fun c_11 => ?_)
    · skip
      refine lv_iconst (v := 0) hx hb dX2_mayPlace_26 rfl ?_
      refine g_cMV hX hl y_X2_mayTwo v_X2_mayTwo q2501 (k_X2_mayTwo (F 6) 0) (hM.rc hX.2.2.2) hM rfl ⟨Nat.le_of_ble_eq_true rfl, Nat.le_of_ble_eq_true rfl⟩ ⟨Nat.le_refl _, Nat.le_refl _⟩ (rest := []) (st1 := [.int (g_b (decide (s_may (F 6) 0 1 = 0)))]) rfl rfl (Nat.le_of_ble_eq_true rfl) dX2_mayPlace_27 hS (fun _ h => h) (fun H locs hM hS _ => ?_)
      exact hret H locs _ _ _ _ _ dX2_mayPlace_30 hS (Nat.le_refl _) (Nat.le_refl _) (by have e : g_b (s_isPl F X v q && s_in i 0 2) = 0 := (by simp [g_b, c_11]); rw [e]; exact ⟨rfl, hM⟩)
    · skip
      refine lv_aload_n hx hb dX2_mayPlace_14 rfl (lv_at hl 0 rfl) ?_
      refine lv_iload_n hx hb dX2_mayPlace_15 rfl (lv_at hl 2 rfl) ?_
      refine g_cRV hX hl y_X2_isHut v_X2_isHut q2517 (k_X2_isHut i) (hM.rc hX.2.2.2) hM rfl ⟨Nat.le_of_ble_eq_true rfl, Nat.le_of_ble_eq_true rfl⟩ ⟨Nat.zero_le _, Nat.zero_le _⟩ (rest := [.int (F 6), .ref (ad 0)]) (st1 := [.int (g_b (s_in i 0 2)), .int (F 6), .ref (ad 0)]) rfl rfl (Nat.le_of_ble_eq_true rfl) dX2_mayPlace_16 ?_
      refine g_if_eqB (tgt := 26) hx hb (b := s_in i 0 2) rfl dX2_mayPlace_19 (by decide) (fun c_19 => ?_) (fun c_19 => ?_)
      · skip
        refine lv_iconst (v := 0) hx hb dX2_mayPlace_26 rfl ?_
        refine g_cMV hX hl y_X2_mayTwo v_X2_mayTwo q2501 (k_X2_mayTwo (F 6) 0) (hM.rc hX.2.2.2) hM rfl ⟨Nat.le_of_ble_eq_true rfl, Nat.le_of_ble_eq_true rfl⟩ ⟨Nat.le_refl _, Nat.le_refl _⟩ (rest := []) (st1 := [.int (g_b (decide (s_may (F 6) 0 1 = 0)))]) rfl rfl (Nat.le_of_ble_eq_true rfl) dX2_mayPlace_27 hS (fun _ h => h) (fun H locs hM hS _ => ?_)
        exact hret H locs _ _ _ _ _ dX2_mayPlace_30 hS (Nat.le_refl _) (Nat.le_refl _) (by have e : g_b (s_isPl F X v q && s_in i 0 2) = 0 := (by simp [g_b, c_11, c_19]); rw [e]; exact ⟨rfl, hM⟩)
      · skip
        refine lv_iconst (v := 1) hx hb dX2_mayPlace_22 rfl ?_
        refine lv_goto (tgt := 27) hx hb dX2_mayPlace_23 (by decide) ?_
        refine g_cMV hX hl y_X2_mayTwo v_X2_mayTwo q2501 (k_X2_mayTwo (F 6) 1) (hM.rc hX.2.2.2) hM rfl ⟨Nat.le_of_ble_eq_true rfl, Nat.le_of_ble_eq_true rfl⟩ ⟨Nat.le_refl _, Nat.le_refl _⟩ (rest := []) (st1 := [.int (g_b (decide (s_may (F 6) 1 1 = 0)))]) rfl rfl (Nat.le_of_ble_eq_true rfl) dX2_mayPlace_27 hS (fun _ h => h) (fun H locs hM hS _ => ?_)
        exact hret H locs _ _ _ _ _ dX2_mayPlace_30 hS (Nat.le_refl _) (Nat.le_refl _) (by have e : g_b (s_isPl F X v q && s_in i 0 2) = 1 := (by simp [g_b, c_11, c_19]); rw [e]; exact ⟨rfl, hM⟩)
  exact key _ _ hM hS

theorem y_X2_right : g_Y yX2_right cX2_right 2 (some .int) 1 := ⟨q2635, by decide +kernel⟩
theorem v_X2_right : g_YV yX2_right := ⟨q2633, q2634, q140⟩
set_option maxHeartbeats 4000000 in
theorem ok_X2_right {G : g_G} {l : Launch} {ad : Nat → Nat} {F : Nat → Int32} {X Y : g_Wd} {U V : Nat → g_Wd} {Z : g_Wd} (j : Nat) (hF : ¬ F 6 = 0) (hwl : s_wl X) (hj : j < s_M X) : g_Md G l yX2_right cX2_right 2 (some .int) 4 0 0 [.ref (ad 0), .int (nI j)] (g_Mod G ad F X Y U V Z) (g_Qv (some (.int (nI (s_rigP (X (3 + j)))))) (g_Mod G ad (upd F 0 0) X Y U V Z)) (md_A ad) := by
  refine g_Md.ofI (by decide) (fun _ _ _ => rfl) ?_
  intro p e s m args below meth c ls Q hX hM hl hS hret
  have hx := hX.1.1
  have hb := hX.1.2.1
  have hl : lv_has ls 2 [(0, .ref (ad 0)), (1, .int (nI j))] := hl
  have key : ∀ (H : Heap) (locs : List Loc), g_Mod G ad F X Y U V Z H → va_S (md_A ad) s.heap H locs → W p l e (g_rm 4 0 0) s m args below meth c H locs 0 0 Q (F0 m 0 ls []) := by
    intro H locs hM hS
    have hW := hwl.1
    have hWc : ¬ F 6 = 0 → s_ok X := fun _ => hW
    have hW9 := hW
    obtain ⟨⟨hL0, hL2, hL6⟩, ⟨hM0, hM6⟩, ⟨hG0, hG40⟩, hok⟩ := hW9
    have hw9 : s_W X ≤ 45 := by unfold s_W; omega
    have hmsg := s_isMsg_ok hF hW hj
    have ho := hok j hj
    have hL := ho.2
    have hj6 : j < 6 := by omega
    refine lv_aload_n hx hb dX2_right_0 rfl (lv_at hl 0 rfl) ?_
    refine lv_iload_n hx hb dX2_right_1 rfl (lv_at hl 1 rfl) ?_
    refine g_cMV hX hl y_X2_mayMessage v_X2_mayMessage q2636 (k_X2_mayMessage (nI j)) (hM.rc hX.2.2.2) hM rfl ⟨Nat.le_of_ble_eq_true rfl, Nat.le_of_ble_eq_true rfl⟩ ⟨Nat.le_refl _, Nat.le_refl _⟩ (rest := []) (st1 := [.int (g_b (decide (s_may (F 6) (g_b (s_isMsg F X (nI j))) 1 = 0)))]) rfl rfl (Nat.le_of_ble_eq_true rfl) dX2_right_2 hS (fun _ h => h) (fun H locs hM hS _ => ?_)
    have hmy : s_may (F 6) (g_b (s_isMsg F X (nI j))) 1 = 0 := s_may_ok hF (g_b_ne hmsg) (by decide)
    rw [hmy] at hM ⊢
    refine g_if_eqB (tgt := 16) hx hb (b := decide ((0 : Int32) = 0)) rfl dX2_right_5 (by decide) (fun c_5 => ?_) (fun c_5 => ?_)
    · exact Bool.noConfusion ((rfl : decide ((0 : Int32) = 0) = true).symm.trans c_5)
    skip
    refine lv_aload_n hx hb dX2_right_8 rfl (lv_at hl 0 rfl) ?_
    refine lv_iload_n hx hb dX2_right_9 rfl (lv_at hl 1 rfl) ?_
    refine g_cRV hX hl y_X2_rightPlaces v_X2_rightPlaces q2640 (k_X2_rightPlaces j (by omega) ho) (hM.rc hX.2.2.2) hM rfl ⟨Nat.le_of_ble_eq_true rfl, Nat.le_of_ble_eq_true rfl⟩ ⟨Nat.zero_le _, Nat.zero_le _⟩ (rest := []) (st1 := [.int (nI (s_rigP (X (3 + j))))]) rfl rfl (Nat.le_of_ble_eq_true rfl) dX2_right_10 ?_
    refine lv_goto (tgt := 17) hx hb dX2_right_13 (by decide) ?_
    exact hret H locs _ _ _ _ _ dX2_right_17 hS (Nat.le_refl _) (Nat.le_refl _) (⟨rfl, hM⟩)
  exact key _ _ hM hS

set_option maxHeartbeats 4000000 in
theorem no_X2_right {G : g_G} {l : Launch} {ad : Nat → Nat} {F : Nat → Int32} {X Y : g_Wd} {U V : Nat → g_Wd} {Z : g_Wd} (t9 : Int32) (v : Int32) (ht9 : ¬ t9 = 0) (hbad : s_may (F 6) (g_b (s_isMsg F X v)) 1 = t9) (hWc : ¬ F 6 = 0 → s_ok X) : g_Md G l yX2_right cX2_right 2 (some .int) 3 0 0 [.ref (ad 0), .int v] (g_Mod G ad F X Y U V Z) (g_Qv (some (.int 0)) (g_Mod G ad (upd F 0 t9) X Y U V Z)) (md_A ad) := by
  refine g_Md.ofI (by decide) (fun _ _ _ => rfl) ?_
  intro p e s m args below meth c ls Q hX hM hl hS hret
  have hx := hX.1.1
  have hb := hX.1.2.1
  have hl : lv_has ls 2 [(0, .ref (ad 0)), (1, .int v)] := hl
  have key : ∀ (H : Heap) (locs : List Loc), g_Mod G ad F X Y U V Z H → va_S (md_A ad) s.heap H locs → W p l e (g_rm 3 0 0) s m args below meth c H locs 0 0 Q (F0 m 0 ls []) := by
    intro H locs hM hS
    refine lv_aload_n hx hb dX2_right_0 rfl (lv_at hl 0 rfl) ?_
    refine lv_iload_n hx hb dX2_right_1 rfl (lv_at hl 1 rfl) ?_
    refine g_cMV hX hl y_X2_mayMessage v_X2_mayMessage q2636 (k_X2_mayMessage v) (hM.rc hX.2.2.2) hM rfl ⟨Nat.le_of_ble_eq_true rfl, Nat.le_of_ble_eq_true rfl⟩ ⟨Nat.le_refl _, Nat.le_refl _⟩ (rest := []) (st1 := [.int (g_b (decide (s_may (F 6) (g_b (s_isMsg F X v)) 1 = 0)))]) rfl rfl (Nat.le_of_ble_eq_true rfl) dX2_right_2 hS (fun _ h => h) (fun H locs hM hS _ => ?_)
    have hmy : s_may (F 6) (g_b (s_isMsg F X v)) 1 = t9 := by first | exact hbad | (rw [← hbad]; simp [g_b, g_b]; done) | (rw [← hbad]; simp only [g_b, g_b]; rfl)
    rw [hmy] at hM ⊢
    refine g_if_eqB (tgt := 16) hx hb (b := decide (t9 = 0)) rfl dX2_right_5 (by decide) (fun c_5 => ?_) (fun c_5 => ?_)
    rotate_left
    · exact Bool.noConfusion ((decide_eq_false ht9).symm.trans c_5)
    refine lv_iconst (v := 0) hx hb dX2_right_16 rfl ?_
    exact hret H locs _ _ _ _ _ dX2_right_17 hS (Nat.le_refl _) (Nat.le_refl _) (⟨rfl, hM⟩)
  exact key _ _ hM hS

theorem y_X2_digit : g_Y yX2_digit cX2_digit 3 (some .int) 2 := ⟨q2583, by decide +kernel⟩
theorem v_X2_digit : g_YV yX2_digit := ⟨q2581, q2582, q140⟩
set_option maxHeartbeats 4000000 in
theorem ok_X2_digit {G : g_G} {l : Launch} {ad : Nat → Nat} {F : Nat → Int32} {X Y : g_Wd} {U V : Nat → g_Wd} {Z : g_Wd} (j : Nat) (q : Nat) (hF : ¬ F 6 = 0) (hwl : s_wl X) (hj : j < s_M X) (hq : q < s_len (X (3 + j))) : g_Md G l yX2_digit cX2_digit 3 (some .int) 3 0 0 [.ref (ad 0), .int (nI j), .int (nI q)] (g_Mod G ad F X Y U V Z) (g_Qv (some (.int (s_dig (X (3 + j)) q))) (g_Mod G ad (upd F 0 0) X Y U V Z)) (md_A ad) := by
  refine g_Md.ofI (by decide) (fun _ _ _ => rfl) ?_
  intro p e s m args below meth c ls Q hX hM hl hS hret
  have hx := hX.1.1
  have hb := hX.1.2.1
  have hl : lv_has ls 3 [(0, .ref (ad 0)), (1, .int (nI j)), (2, .int (nI q))] := hl
  have key : ∀ (H : Heap) (locs : List Loc), g_Mod G ad F X Y U V Z H → va_S (md_A ad) s.heap H locs → W p l e (g_rm 3 0 0) s m args below meth c H locs 0 0 Q (F0 m 0 ls []) := by
    intro H locs hM hS
    have hW := hwl.1
    have hWc : ¬ F 6 = 0 → s_ok X := fun _ => hW
    have hW9 := hW
    obtain ⟨⟨hL0, hL2, hL6⟩, ⟨hM0, hM6⟩, ⟨hG0, hG40⟩, hok⟩ := hW9
    have hw9 : s_W X ≤ 45 := by unfold s_W; omega
    have hmsg := s_isMsg_ok hF hW hj
    have ho := hok j hj
    have hL := ho.2
    have hj6 : j < 6 := by omega
    have hpl := s_isPl_ok hF hW hj hq
    refine lv_aload_n hx hb dX2_digit_0 rfl (lv_at hl 0 rfl) ?_
    refine lv_aload_n hx hb dX2_digit_1 rfl (lv_at hl 0 rfl) ?_
    refine g_getM hX hM 6 (by decide) q2169 rfl (v := .int (F 6)) rfl dX2_digit_2 ?_
    refine lv_aload_n hx hb dX2_digit_5 rfl (lv_at hl 0 rfl) ?_
    refine lv_iload_n hx hb dX2_digit_6 rfl (lv_at hl 1 rfl) ?_
    refine lv_iload_n hx hb dX2_digit_7 rfl (lv_at hl 2 rfl) ?_
    refine g_cRV hX hl y_X2_isPlace v_X2_isPlace q2584 (k_X2_isPlace (nI j) (nI q) hWc) (hM.rc hX.2.2.2) hM rfl ⟨Nat.le_of_ble_eq_true rfl, Nat.le_of_ble_eq_true rfl⟩ ⟨Nat.zero_le _, Nat.zero_le _⟩ (rest := [.int (F 6), .ref (ad 0)]) (st1 := [.int (g_b (s_isPl F X (nI j) (nI q))), .int (F 6), .ref (ad 0)]) rfl rfl (Nat.le_of_ble_eq_true rfl) dX2_digit_8 ?_
    refine g_cMV hX hl y_X2_mayTwo v_X2_mayTwo q2501 (k_X2_mayTwo (F 6) (g_b (s_isPl F X (nI j) (nI q)))) (hM.rc hX.2.2.2) hM rfl ⟨Nat.le_of_ble_eq_true rfl, Nat.le_of_ble_eq_true rfl⟩ ⟨Nat.le_refl _, Nat.le_refl _⟩ (rest := []) (st1 := [.int (g_b (decide (s_may (F 6) (g_b (s_isPl F X (nI j) (nI q))) 1 = 0)))]) rfl rfl (Nat.le_of_ble_eq_true rfl) dX2_digit_11 hS (fun _ h => h) (fun H locs hM hS _ => ?_)
    have hmy : s_may (F 6) (g_b (s_isPl F X (nI j) (nI q))) 1 = 0 := s_may_ok hF (g_b_ne hpl) (by decide)
    rw [hmy] at hM ⊢
    refine g_if_eqB (tgt := 26) hx hb (b := decide ((0 : Int32) = 0)) rfl dX2_digit_14 (by decide) (fun c_14 => ?_) (fun c_14 => ?_)
    · exact Bool.noConfusion ((rfl : decide ((0 : Int32) = 0) = true).symm.trans c_14)
    skip
    refine lv_aload_n hx hb dX2_digit_17 rfl (lv_at hl 0 rfl) ?_
    refine lv_iload_n hx hb dX2_digit_18 rfl (lv_at hl 1 rfl) ?_
    refine lv_iload_n hx hb dX2_digit_19 rfl (lv_at hl 2 rfl) ?_
    refine g_cRV hX hl y_X2_digitAt v_X2_digitAt q2576 (k_X2_digitAt j q (by omega) (by omega)) (hM.rc hX.2.2.2) hM rfl ⟨Nat.le_of_ble_eq_true rfl, Nat.le_of_ble_eq_true rfl⟩ ⟨Nat.zero_le _, Nat.zero_le _⟩ (rest := []) (st1 := [.int (s_dig (X (3 + j)) q)]) rfl rfl (Nat.le_of_ble_eq_true rfl) dX2_digit_20 ?_
    refine lv_goto (tgt := 27) hx hb dX2_digit_23 (by decide) ?_
    exact hret H locs _ _ _ _ _ dX2_digit_27 hS (Nat.le_refl _) (Nat.le_refl _) (⟨rfl, hM⟩)
  exact key _ _ hM hS

set_option maxHeartbeats 4000000 in
theorem no_X2_digit {G : g_G} {l : Launch} {ad : Nat → Nat} {F : Nat → Int32} {X Y : g_Wd} {U V : Nat → g_Wd} {Z : g_Wd} (t9 : Int32) (v : Int32) (q : Int32) (ht9 : ¬ t9 = 0) (hbad : s_may (F 6) (g_b (s_isPl F X v q)) 1 = t9) (hWc : ¬ F 6 = 0 → s_ok X) : g_Md G l yX2_digit cX2_digit 3 (some .int) 3 0 0 [.ref (ad 0), .int v, .int q] (g_Mod G ad F X Y U V Z) (g_Qv (some (.int 0)) (g_Mod G ad (upd F 0 t9) X Y U V Z)) (md_A ad) := by
  refine g_Md.ofI (by decide) (fun _ _ _ => rfl) ?_
  intro p e s m args below meth c ls Q hX hM hl hS hret
  have hx := hX.1.1
  have hb := hX.1.2.1
  have hl : lv_has ls 3 [(0, .ref (ad 0)), (1, .int v), (2, .int q)] := hl
  have key : ∀ (H : Heap) (locs : List Loc), g_Mod G ad F X Y U V Z H → va_S (md_A ad) s.heap H locs → W p l e (g_rm 3 0 0) s m args below meth c H locs 0 0 Q (F0 m 0 ls []) := by
    intro H locs hM hS
    refine lv_aload_n hx hb dX2_digit_0 rfl (lv_at hl 0 rfl) ?_
    refine lv_aload_n hx hb dX2_digit_1 rfl (lv_at hl 0 rfl) ?_
    refine g_getM hX hM 6 (by decide) q2169 rfl (v := .int (F 6)) rfl dX2_digit_2 ?_
    refine lv_aload_n hx hb dX2_digit_5 rfl (lv_at hl 0 rfl) ?_
    refine lv_iload_n hx hb dX2_digit_6 rfl (lv_at hl 1 rfl) ?_
    refine lv_iload_n hx hb dX2_digit_7 rfl (lv_at hl 2 rfl) ?_
    refine g_cRV hX hl y_X2_isPlace v_X2_isPlace q2584 (k_X2_isPlace v q hWc) (hM.rc hX.2.2.2) hM rfl ⟨Nat.le_of_ble_eq_true rfl, Nat.le_of_ble_eq_true rfl⟩ ⟨Nat.zero_le _, Nat.zero_le _⟩ (rest := [.int (F 6), .ref (ad 0)]) (st1 := [.int (g_b (s_isPl F X v q)), .int (F 6), .ref (ad 0)]) rfl rfl (Nat.le_of_ble_eq_true rfl) dX2_digit_8 ?_
    refine g_cMV hX hl y_X2_mayTwo v_X2_mayTwo q2501 (k_X2_mayTwo (F 6) (g_b (s_isPl F X v q))) (hM.rc hX.2.2.2) hM rfl ⟨Nat.le_of_ble_eq_true rfl, Nat.le_of_ble_eq_true rfl⟩ ⟨Nat.le_refl _, Nat.le_refl _⟩ (rest := []) (st1 := [.int (g_b (decide (s_may (F 6) (g_b (s_isPl F X v q)) 1 = 0)))]) rfl rfl (Nat.le_of_ble_eq_true rfl) dX2_digit_11 hS (fun _ h => h) (fun H locs hM hS _ => ?_)
    have hmy : s_may (F 6) (g_b (s_isPl F X v q)) 1 = t9 := by first | exact hbad | (rw [← hbad]; simp [g_b, g_b]; done) | (rw [← hbad]; simp only [g_b, g_b]; rfl)
    rw [hmy] at hM ⊢
    refine g_if_eqB (tgt := 26) hx hb (b := decide (t9 = 0)) rfl dX2_digit_14 (by decide) (fun c_14 => ?_) (fun c_14 => ?_)
    rotate_left
    · exact Bool.noConfusion ((decide_eq_false ht9).symm.trans c_14)
    refine lv_iconst (v := 0) hx hb dX2_digit_26 rfl ?_
    exact hret H locs _ _ _ _ _ dX2_digit_27 hS (Nat.le_refl _) (Nat.le_refl _) (⟨rfl, hM⟩)
  exact key _ _ hM hS

theorem y_X2_count : g_Y yX2_count cX2_count 2 (some .int) 1 := ⟨q2500, by decide +kernel⟩
theorem v_X2_count : g_YV yX2_count := ⟨q2498, q2499, q140⟩
set_option maxHeartbeats 4000000 in
theorem ok_X2_count {G : g_G} {l : Launch} {ad : Nat → Nat} {F : Nat → Int32} {X Y : g_Wd} {U V : Nat → g_Wd} {Z : g_Wd} (w : Nat) (hF : ¬ F 6 = 0) (hwl : s_wl X) (hw : w < 12) : g_Md G l yX2_count cX2_count 2 (some .int) 3 0 0 [.ref (ad 0), .int (nI w)] (g_Mod G ad F X Y U V Z) (g_Qv (some (.int (s_count X w))) (g_Mod G ad (upd F 0 0) X Y U V Z)) (md_A ad) := by
  refine g_Md.ofI (by decide) (fun _ _ _ => rfl) ?_
  intro p e s m args below meth c ls Q hX hM hl hS hret
  have hx := hX.1.1
  have hb := hX.1.2.1
  have hl : lv_has ls 2 [(0, .ref (ad 0)), (1, .int (nI w))] := hl
  have key : ∀ (H : Heap) (locs : List Loc), g_Mod G ad F X Y U V Z H → va_S (md_A ad) s.heap H locs → W p l e (g_rm 3 0 0) s m args below meth c H locs 0 0 Q (F0 m 0 ls []) := by
    intro H locs hM hS
    have hW := hwl.1
    have hWc : ¬ F 6 = 0 → s_ok X := fun _ => hW
    have hW9 := hW
    obtain ⟨⟨hL0, hL2, hL6⟩, ⟨hM0, hM6⟩, ⟨hG0, hG40⟩, hok⟩ := hW9
    have hw9 : s_W X ≤ 45 := by unfold s_W; omega
    have hin : s_in (nI w) 0 11 = true := s_in_le (show w ≤ 11 by omega) (by decide)
    refine lv_aload_n hx hb dX2_count_0 rfl (lv_at hl 0 rfl) ?_
    refine lv_aload_n hx hb dX2_count_1 rfl (lv_at hl 0 rfl) ?_
    refine g_getM hX hM 6 (by decide) q2169 rfl (v := .int (F 6)) rfl dX2_count_2 ?_
    refine lv_iload_n hx hb dX2_count_5 rfl (lv_at hl 1 rfl) ?_
    refine lv_iconst (v := 0) hx hb dX2_count_6 rfl ?_
    refine lv_bipush (v := 11) hx hb dX2_count_7 (by decide) ?_
    refine g_cRS hX hl y_X2_in v_X2_in q2258 (k_X2_in (nI w) 0 11) trivial rfl ⟨Nat.le_of_ble_eq_true rfl, Nat.le_of_ble_eq_true rfl⟩ ⟨Nat.zero_le _, Nat.zero_le _⟩ (rest := [.int (F 6), .ref (ad 0)]) (st1 := [.int (g_b (s_in (nI w) 0 11)), .int (F 6), .ref (ad 0)]) rfl rfl (Nat.le_of_ble_eq_true rfl) dX2_count_9 ?_
    refine g_cMV hX hl y_X2_mayTwo v_X2_mayTwo q2501 (k_X2_mayTwo (F 6) (g_b (s_in (nI w) 0 11))) (hM.rc hX.2.2.2) hM rfl ⟨Nat.le_of_ble_eq_true rfl, Nat.le_of_ble_eq_true rfl⟩ ⟨Nat.le_refl _, Nat.le_refl _⟩ (rest := []) (st1 := [.int (g_b (decide (s_may (F 6) (g_b (s_in (nI w) 0 11)) 1 = 0)))]) rfl rfl (Nat.le_of_ble_eq_true rfl) dX2_count_12 hS (fun _ h => h) (fun H locs hM hS _ => ?_)
    have hmy : s_may (F 6) (g_b (s_in (nI w) 0 11)) 1 = 0 := s_may_ok hF (g_b_ne hin) (by decide)
    rw [hmy] at hM ⊢
    refine g_if_neB (tgt := 20) hx hb (b := decide ((0 : Int32) = 0)) rfl dX2_count_15 (by decide) (fun c_15 => ?_) (fun c_15 => ?_)
    rotate_left
    · exact Bool.noConfusion ((rfl : decide ((0 : Int32) = 0) = true).symm.trans c_15)
    refine lv_iload_n hx hb dX2_count_20 rfl (lv_at hl 1 rfl) ?_
    have hsw : w = 0 ∨ w = 1 ∨ w = 2 ∨ w = 3 ∨ w = 4 ∨ w = 5 ∨ w = 6 ∨ w = 7 ∨ w = 8 ∨ w = 9 ∨ w = 10 ∨ w = 11 := by omega
    rcases hsw with rfl | rfl | rfl | rfl | rfl | rfl | rfl | rfl | rfl | rfl | rfl | rfl
    · skip
      refine lv_tableIn (tgt := 80) (off := 59) hx hb dX2_count_21 (by decide) (by decide) (by decide) (by decide) ?_
      refine lv_aload_n hx hb dX2_count_80 rfl (lv_at hl 0 rfl) ?_
      refine g_getM hX hM 1 (by decide) q2164 rfl (v := .ref (ad 1)) rfl dX2_count_81 ?_
      refine lv_iconst (v := 0) hx hb dX2_count_84 rfl ?_
      refine g_iald hX hM.a1 0 rfl (by omega) (by decide) (v := (X 0 0)) rfl dX2_count_85 ?_
      exact hret H locs _ _ _ _ _ dX2_count_86 hS (Nat.le_refl _) (Nat.le_refl _) (⟨rfl, hM⟩)
    · skip
      refine lv_tableIn (tgt := 87) (off := 66) hx hb dX2_count_21 (by decide) (by decide) (by decide) (by decide) ?_
      refine lv_aload_n hx hb dX2_count_87 rfl (lv_at hl 0 rfl) ?_
      refine g_getM hX hM 1 (by decide) q2164 rfl (v := .ref (ad 1)) rfl dX2_count_88 ?_
      refine lv_iconst (v := 1) hx hb dX2_count_91 rfl ?_
      refine g_iald hX hM.a1 1 rfl (by omega) (by decide) (v := (X 0 1)) rfl dX2_count_92 ?_
      exact hret H locs _ _ _ _ _ dX2_count_93 hS (Nat.le_refl _) (Nat.le_refl _) (⟨rfl, hM⟩)
    · skip
      refine lv_tableIn (tgt := 94) (off := 73) hx hb dX2_count_21 (by decide) (by decide) (by decide) (by decide) ?_
      refine lv_aload_n hx hb dX2_count_94 rfl (lv_at hl 0 rfl) ?_
      refine g_getM hX hM 1 (by decide) q2164 rfl (v := .ref (ad 1)) rfl dX2_count_95 ?_
      refine lv_iconst (v := 2) hx hb dX2_count_98 rfl ?_
      refine g_iald hX hM.a1 2 rfl (by omega) (by decide) (v := (X 0 2)) rfl dX2_count_99 ?_
      exact hret H locs _ _ _ _ _ dX2_count_100 hS (Nat.le_refl _) (Nat.le_refl _) (⟨rfl, hM⟩)
    · skip
      refine lv_tableIn (tgt := 101) (off := 80) hx hb dX2_count_21 (by decide) (by decide) (by decide) (by decide) ?_
      refine lv_aload_n hx hb dX2_count_101 rfl (lv_at hl 0 rfl) ?_
      refine g_getM hX hM 1 (by decide) q2164 rfl (v := .ref (ad 1)) rfl dX2_count_102 ?_
      refine lv_iconst (v := 3) hx hb dX2_count_105 rfl ?_
      refine g_iald hX hM.a1 3 rfl (by omega) (by decide) (v := (X 0 3)) rfl dX2_count_106 ?_
      exact hret H locs _ _ _ _ _ dX2_count_107 hS (Nat.le_refl _) (Nat.le_refl _) (⟨rfl, hM⟩)
    · skip
      refine lv_tableIn (tgt := 108) (off := 87) hx hb dX2_count_21 (by decide) (by decide) (by decide) (by decide) ?_
      refine lv_aload_n hx hb dX2_count_108 rfl (lv_at hl 0 rfl) ?_
      refine g_getM hX hM 1 (by decide) q2164 rfl (v := .ref (ad 1)) rfl dX2_count_109 ?_
      refine lv_iconst (v := 3) hx hb dX2_count_112 rfl ?_
      refine g_iald hX hM.a1 3 rfl (by omega) (by decide) (v := (X 0 3)) rfl dX2_count_113 ?_
      refine lv_aload_n hx hb dX2_count_114 rfl (lv_at hl 0 rfl) ?_
      refine g_cRV hX hl y_X2_arrivedMany v_X2_arrivedMany q2378 (k_X2_arrivedMany hW) (hM.rc hX.2.2.2) hM rfl ⟨Nat.le_of_ble_eq_true rfl, Nat.le_of_ble_eq_true rfl⟩ ⟨Nat.zero_le _, Nat.zero_le _⟩ (rest := [.int (X 0 3)]) (st1 := [.int (nI (s_arrd X)), .int (X 0 3)]) rfl rfl (Nat.le_of_ble_eq_true rfl) dX2_count_115 ?_
      refine lv_isub hx hb dX2_count_118 ?_
      exact hret H locs _ _ _ _ _ dX2_count_119 hS (Nat.le_refl _) (Nat.le_refl _) (⟨rfl, hM⟩)
    · skip
      refine lv_tableIn (tgt := 120) (off := 99) hx hb dX2_count_21 (by decide) (by decide) (by decide) (by decide) ?_
      refine lv_aload_n hx hb dX2_count_120 rfl (lv_at hl 0 rfl) ?_
      refine g_cRV hX hl y_X2_arrivedMany v_X2_arrivedMany q2378 (k_X2_arrivedMany hW) (hM.rc hX.2.2.2) hM rfl ⟨Nat.le_of_ble_eq_true rfl, Nat.le_of_ble_eq_true rfl⟩ ⟨Nat.zero_le _, Nat.zero_le _⟩ (rest := []) (st1 := [.int (nI (s_arrd X))]) rfl rfl (Nat.le_of_ble_eq_true rfl) dX2_count_121 ?_
      exact hret H locs _ _ _ _ _ dX2_count_124 hS (Nat.le_refl _) (Nat.le_refl _) (⟨rfl, hM⟩)
    · skip
      refine lv_tableIn (tgt := 125) (off := 104) hx hb dX2_count_21 (by decide) (by decide) (by decide) (by decide) ?_
      refine lv_aload_n hx hb dX2_count_125 rfl (lv_at hl 0 rfl) ?_
      refine g_getM hX hM 1 (by decide) q2164 rfl (v := .ref (ad 1)) rfl dX2_count_126 ?_
      refine lv_iconst (v := 5) hx hb dX2_count_129 rfl ?_
      refine g_iald hX hM.a1 5 rfl (by omega) (by decide) (v := (X 0 5)) rfl dX2_count_130 ?_
      exact hret H locs _ _ _ _ _ dX2_count_131 hS (Nat.le_refl _) (Nat.le_refl _) (⟨rfl, hM⟩)
    · skip
      refine lv_tableIn (tgt := 132) (off := 111) hx hb dX2_count_21 (by decide) (by decide) (by decide) (by decide) ?_
      refine lv_aload_n hx hb dX2_count_132 rfl (lv_at hl 0 rfl) ?_
      refine g_getM hX hM 1 (by decide) q2164 rfl (v := .ref (ad 1)) rfl dX2_count_133 ?_
      refine lv_bipush (v := 6) hx hb dX2_count_136 (by decide) ?_
      refine g_iald hX hM.a1 6 rfl (by omega) (by decide) (v := (X 0 6)) rfl dX2_count_138 ?_
      exact hret H locs _ _ _ _ _ dX2_count_139 hS (Nat.le_refl _) (Nat.le_refl _) (⟨rfl, hM⟩)
    · skip
      refine lv_tableIn (tgt := 140) (off := 119) hx hb dX2_count_21 (by decide) (by decide) (by decide) (by decide) ?_
      refine lv_aload_n hx hb dX2_count_140 rfl (lv_at hl 0 rfl) ?_
      refine g_getM hX hM 1 (by decide) q2164 rfl (v := .ref (ad 1)) rfl dX2_count_141 ?_
      refine lv_bipush (v := 7) hx hb dX2_count_144 (by decide) ?_
      refine g_iald hX hM.a1 7 rfl (by omega) (by decide) (v := (X 0 7)) rfl dX2_count_146 ?_
      exact hret H locs _ _ _ _ _ dX2_count_147 hS (Nat.le_refl _) (Nat.le_refl _) (⟨rfl, hM⟩)
    · skip
      refine lv_tableIn (tgt := 148) (off := 127) hx hb dX2_count_21 (by decide) (by decide) (by decide) (by decide) ?_
      refine lv_aload_n hx hb dX2_count_148 rfl (lv_at hl 0 rfl) ?_
      refine g_getM hX hM 1 (by decide) q2164 rfl (v := .ref (ad 1)) rfl dX2_count_149 ?_
      refine lv_bipush (v := 8) hx hb dX2_count_152 (by decide) ?_
      refine g_iald hX hM.a1 8 rfl (by omega) (by decide) (v := (X 0 8)) rfl dX2_count_154 ?_
      exact hret H locs _ _ _ _ _ dX2_count_155 hS (Nat.le_refl _) (Nat.le_refl _) (⟨rfl, hM⟩)
    · skip
      refine lv_tableIn (tgt := 156) (off := 135) hx hb dX2_count_21 (by decide) (by decide) (by decide) (by decide) ?_
      refine lv_aload_n hx hb dX2_count_156 rfl (lv_at hl 0 rfl) ?_
      refine lv_iconst (v := 0) hx hb dX2_count_157 rfl ?_
      refine g_cRV hX hl y_X2_wiresWith v_X2_wiresWith q2505 (k_X2_wiresWith 0 hW (by omega)) (hM.rc hX.2.2.2) hM rfl ⟨Nat.le_of_ble_eq_true rfl, Nat.le_of_ble_eq_true rfl⟩ ⟨Nat.zero_le _, Nat.zero_le _⟩ (rest := []) (st1 := [.int (nI (s_wwith X 0))]) rfl rfl (Nat.le_of_ble_eq_true rfl) dX2_count_158 ?_
      exact hret H locs _ _ _ _ _ dX2_count_161 hS (Nat.le_refl _) (Nat.le_refl _) (⟨rfl, hM⟩)
    · skip
      refine lv_tableOut (tgt := 162) hx hb dX2_count_21 (by decide) (by decide) ?_
      refine lv_aload_n hx hb dX2_count_162 rfl (lv_at hl 0 rfl) ?_
      refine lv_iconst (v := 2) hx hb dX2_count_163 rfl ?_
      refine g_cRV hX hl y_X2_wiresWith v_X2_wiresWith q2505 (k_X2_wiresWith 2 hW (by omega)) (hM.rc hX.2.2.2) hM rfl ⟨Nat.le_of_ble_eq_true rfl, Nat.le_of_ble_eq_true rfl⟩ ⟨Nat.zero_le _, Nat.zero_le _⟩ (rest := []) (st1 := [.int (nI (s_wwith X 2))]) rfl rfl (Nat.le_of_ble_eq_true rfl) dX2_count_164 ?_
      exact hret H locs _ _ _ _ _ dX2_count_167 hS (Nat.le_refl _) (Nat.le_refl _) (⟨rfl, hM⟩)
  exact key _ _ hM hS

set_option maxHeartbeats 4000000 in
theorem no_X2_count {G : g_G} {l : Launch} {ad : Nat → Nat} {F : Nat → Int32} {X Y : g_Wd} {U V : Nat → g_Wd} {Z : g_Wd} (t9 : Int32) (v : Int32) (ht9 : ¬ t9 = 0) (hbad : s_may (F 6) (g_b (s_in v 0 11)) 1 = t9) (hWc : ¬ F 6 = 0 → s_ok X) : g_Md G l yX2_count cX2_count 2 (some .int) 2 0 0 [.ref (ad 0), .int v] (g_Mod G ad F X Y U V Z) (g_Qv (some (.int 0)) (g_Mod G ad (upd F 0 t9) X Y U V Z)) (md_A ad) := by
  refine g_Md.ofI (by decide) (fun _ _ _ => rfl) ?_
  intro p e s m args below meth c ls Q hX hM hl hS hret
  have hx := hX.1.1
  have hb := hX.1.2.1
  have hl : lv_has ls 2 [(0, .ref (ad 0)), (1, .int v)] := hl
  have key : ∀ (H : Heap) (locs : List Loc), g_Mod G ad F X Y U V Z H → va_S (md_A ad) s.heap H locs → W p l e (g_rm 2 0 0) s m args below meth c H locs 0 0 Q (F0 m 0 ls []) := by
    intro H locs hM hS
    refine lv_aload_n hx hb dX2_count_0 rfl (lv_at hl 0 rfl) ?_
    refine lv_aload_n hx hb dX2_count_1 rfl (lv_at hl 0 rfl) ?_
    refine g_getM hX hM 6 (by decide) q2169 rfl (v := .int (F 6)) rfl dX2_count_2 ?_
    refine lv_iload_n hx hb dX2_count_5 rfl (lv_at hl 1 rfl) ?_
    refine lv_iconst (v := 0) hx hb dX2_count_6 rfl ?_
    refine lv_bipush (v := 11) hx hb dX2_count_7 (by decide) ?_
    refine g_cRS hX hl y_X2_in v_X2_in q2258 (k_X2_in v 0 11) trivial rfl ⟨Nat.le_of_ble_eq_true rfl, Nat.le_of_ble_eq_true rfl⟩ ⟨Nat.zero_le _, Nat.zero_le _⟩ (rest := [.int (F 6), .ref (ad 0)]) (st1 := [.int (g_b (s_in v 0 11)), .int (F 6), .ref (ad 0)]) rfl rfl (Nat.le_of_ble_eq_true rfl) dX2_count_9 ?_
    refine g_cMV hX hl y_X2_mayTwo v_X2_mayTwo q2501 (k_X2_mayTwo (F 6) (g_b (s_in v 0 11))) (hM.rc hX.2.2.2) hM rfl ⟨Nat.le_of_ble_eq_true rfl, Nat.le_of_ble_eq_true rfl⟩ ⟨Nat.le_refl _, Nat.le_refl _⟩ (rest := []) (st1 := [.int (g_b (decide (s_may (F 6) (g_b (s_in v 0 11)) 1 = 0)))]) rfl rfl (Nat.le_of_ble_eq_true rfl) dX2_count_12 hS (fun _ h => h) (fun H locs hM hS _ => ?_)
    have hmy : s_may (F 6) (g_b (s_in v 0 11)) 1 = t9 := by first | exact hbad | (rw [← hbad]; simp [g_b, g_b]; done) | (rw [← hbad]; simp only [g_b, g_b]; rfl)
    rw [hmy] at hM ⊢
    refine g_if_neB (tgt := 20) hx hb (b := decide (t9 = 0)) rfl dX2_count_15 (by decide) (fun c_15 => ?_) (fun c_15 => ?_)
    · exact Bool.noConfusion ((decide_eq_false ht9).symm.trans c_15)
    skip
    refine lv_iconst (v := 0) hx hb dX2_count_18 rfl ?_
    exact hret H locs _ _ _ _ _ dX2_count_19 hS (Nat.le_refl _) (Nat.le_refl _) (⟨rfl, hM⟩)
  exact key _ _ hM hS

theorem y_X2_wire : g_Y yX2_wire cX2_wire 5 (some .int) 4 := ⟨q2512, by decide +kernel⟩
theorem v_X2_wire : g_YV yX2_wire := ⟨q2510, q2511, q140⟩
set_option maxHeartbeats 4000000 in
theorem ok_X2_wire {G : g_G} {l : Launch} {ad : Nat → Nat} {F : Nat → Int32} {X Y : g_Wd} {U V : Nat → g_Wd} {Z : g_Wd} (k : Nat) (a : Nat) (b : Nat) (w : Nat) (hF : ¬ F 6 = 0) (hwl : s_wl X) (hk : k < s_L X - 1) (ha : a < 3) (hb3 : b < 3) (hw : w < 5) : g_Md G l yX2_wire cX2_wire 5 (some .int) 3 0 0 [.ref (ad 0), .int (nI k), .int (nI a), .int (nI b), .int (nI w)] (g_Mod G ad F X Y U V Z) (g_Qv (some (.int (X 1 (5 * (9 * k + 3 * a + b) + w)))) (g_Mod G ad (upd F 0 0) X Y U V Z)) (md_A ad) := by
  refine g_Md.ofI (by decide) (fun _ _ _ => rfl) ?_
  intro p e s m args below meth c ls Q hX hM hl hS hret
  have hx := hX.1.1
  have hb := hX.1.2.1
  have hl : lv_has ls 5 [(0, .ref (ad 0)), (1, .int (nI k)), (2, .int (nI a)), (3, .int (nI b)), (4, .int (nI w))] := hl
  have key : ∀ (H : Heap) (locs : List Loc), g_Mod G ad F X Y U V Z H → va_S (md_A ad) s.heap H locs → W p l e (g_rm 3 0 0) s m args below meth c H locs 0 0 Q (F0 m 0 ls []) := by
    intro H locs hM hS
    have hW := hwl.1
    have hWc : ¬ F 6 = 0 → s_ok X := fun _ => hW
    have hW9 := hW
    obtain ⟨⟨hL0, hL2, hL6⟩, ⟨hM0, hM6⟩, ⟨hG0, hG40⟩, hok⟩ := hW9
    have hw9 : s_W X ≤ 45 := by unfold s_W; omega
    have hwi := s_isWire_ok hF hW hk ha hb3
    have hin : s_in (nI w) 0 4 = true := s_in_le (show w ≤ 4 by omega) (by decide)
    refine lv_aload_n hx hb dX2_wire_0 rfl (lv_at hl 0 rfl) ?_
    refine lv_aload_n hx hb dX2_wire_1 rfl (lv_at hl 0 rfl) ?_
    refine g_getM hX hM 6 (by decide) q2169 rfl (v := .int (F 6)) rfl dX2_wire_2 ?_
    refine lv_aload_n hx hb dX2_wire_5 rfl (lv_at hl 0 rfl) ?_
    refine lv_iload_n hx hb dX2_wire_6 rfl (lv_at hl 1 rfl) ?_
    refine lv_iload_n hx hb dX2_wire_7 rfl (lv_at hl 2 rfl) ?_
    refine lv_iload_n hx hb dX2_wire_8 rfl (lv_at hl 3 rfl) ?_
    refine g_cRV hX hl y_X2_isWire v_X2_isWire q2513 (k_X2_isWire (nI k) (nI a) (nI b)) (hM.rc hX.2.2.2) hM rfl ⟨Nat.le_of_ble_eq_true rfl, Nat.le_of_ble_eq_true rfl⟩ ⟨Nat.zero_le _, Nat.zero_le _⟩ (rest := [.int (F 6), .ref (ad 0)]) (st1 := [.int (g_b (s_isWire F X (nI k) (nI a) (nI b))), .int (F 6), .ref (ad 0)]) rfl rfl (Nat.le_of_ble_eq_true rfl) dX2_wire_9 ?_
    refine lv_iload hx hb dX2_wire_12 (lv_at hl 4 rfl) ?_
    refine lv_iconst (v := 0) hx hb dX2_wire_14 rfl ?_
    refine lv_iconst (v := 4) hx hb dX2_wire_15 rfl ?_
    refine g_cRS hX hl y_X2_in v_X2_in q2258 (k_X2_in (nI w) 0 4) trivial rfl ⟨Nat.le_of_ble_eq_true rfl, Nat.le_of_ble_eq_true rfl⟩ ⟨Nat.zero_le _, Nat.zero_le _⟩ (rest := [.int (g_b (s_isWire F X (nI k) (nI a) (nI b))), .int (F 6), .ref (ad 0)]) (st1 := [.int (g_b (s_in (nI w) 0 4)), .int (g_b (s_isWire F X (nI k) (nI a) (nI b))), .int (F 6), .ref (ad 0)]) rfl rfl (Nat.le_of_ble_eq_true rfl) dX2_wire_16 ?_
    refine g_cMV hX hl y_X2_may v_X2_may q2261 (k_X2_may (F 6) (g_b (s_isWire F X (nI k) (nI a) (nI b))) (g_b (s_in (nI w) 0 4))) (hM.rc hX.2.2.2) hM rfl ⟨Nat.le_of_ble_eq_true rfl, Nat.le_of_ble_eq_true rfl⟩ ⟨Nat.le_refl _, Nat.le_refl _⟩ (rest := []) (st1 := [.int (g_b (decide (s_may (F 6) (g_b (s_isWire F X (nI k) (nI a) (nI b))) (g_b (s_in (nI w) 0 4)) = 0)))]) rfl rfl (Nat.le_of_ble_eq_true rfl) dX2_wire_19 hS (fun _ h => h) (fun H locs hM hS _ => ?_)
    have hmy : s_may (F 6) (g_b (s_isWire F X (nI k) (nI a) (nI b))) (g_b (s_in (nI w) 0 4)) = 0 := s_may_ok hF (g_b_ne hwi) (g_b_ne hin)
    rw [hmy] at hM ⊢
    refine g_if_eqB (tgt := 40) hx hb (b := decide ((0 : Int32) = 0)) rfl dX2_wire_22 (by decide) (fun c_22 => ?_) (fun c_22 => ?_)
    · exact Bool.noConfusion ((rfl : decide ((0 : Int32) = 0) = true).symm.trans c_22)
    skip
    refine lv_aload_n hx hb dX2_wire_25 rfl (lv_at hl 0 rfl) ?_
    refine lv_iload_n hx hb dX2_wire_26 rfl (lv_at hl 1 rfl) ?_
    refine lv_iload_n hx hb dX2_wire_27 rfl (lv_at hl 2 rfl) ?_
    refine lv_iload_n hx hb dX2_wire_28 rfl (lv_at hl 3 rfl) ?_
    refine g_cRS hX hl y_X2_wireOf v_X2_wireOf q2324 (k_X2_wireOf k a b) trivial rfl ⟨Nat.le_of_ble_eq_true rfl, Nat.le_of_ble_eq_true rfl⟩ ⟨Nat.zero_le _, Nat.zero_le _⟩ (rest := [.ref (ad 0)]) (st1 := [.int (nI (9 * k + 3 * a + b)), .ref (ad 0)]) rfl rfl (Nat.le_of_ble_eq_true rfl) dX2_wire_29 ?_
    refine lv_iload hx hb dX2_wire_32 (lv_at hl 4 rfl) ?_
    refine g_cRV hX hl y_X2_ofWire v_X2_ofWire q2340 (k_X2_ofWire (9 * k + 3 * a + b) w (by omega) (by omega)) (hM.rc hX.2.2.2) hM rfl ⟨Nat.le_of_ble_eq_true rfl, Nat.le_of_ble_eq_true rfl⟩ ⟨Nat.zero_le _, Nat.zero_le _⟩ (rest := []) (st1 := [.int (X 1 (5 * (9 * k + 3 * a + b) + w))]) rfl rfl (Nat.le_of_ble_eq_true rfl) dX2_wire_34 ?_
    refine lv_goto (tgt := 41) hx hb dX2_wire_37 (by decide) ?_
    exact hret H locs _ _ _ _ _ dX2_wire_41 hS (Nat.le_refl _) (Nat.le_refl _) (⟨rfl, hM⟩)
  exact key _ _ hM hS

set_option maxHeartbeats 4000000 in
theorem no_X2_wire {G : g_G} {l : Launch} {ad : Nat → Nat} {F : Nat → Int32} {X Y : g_Wd} {U V : Nat → g_Wd} {Z : g_Wd} (t9 : Int32) (k : Int32) (a : Int32) (b : Int32) (w : Int32) (ht9 : ¬ t9 = 0) (hbad : s_may (F 6) (g_b (s_isWire F X k a b)) (g_b (s_in w 0 4)) = t9) (hWc : ¬ F 6 = 0 → s_ok X) : g_Md G l yX2_wire cX2_wire 5 (some .int) 3 0 0 [.ref (ad 0), .int k, .int a, .int b, .int w] (g_Mod G ad F X Y U V Z) (g_Qv (some (.int 0)) (g_Mod G ad (upd F 0 t9) X Y U V Z)) (md_A ad) := by
  refine g_Md.ofI (by decide) (fun _ _ _ => rfl) ?_
  intro p e s m args below meth c ls Q hX hM hl hS hret
  have hx := hX.1.1
  have hb := hX.1.2.1
  have hl : lv_has ls 5 [(0, .ref (ad 0)), (1, .int k), (2, .int a), (3, .int b), (4, .int w)] := hl
  have key : ∀ (H : Heap) (locs : List Loc), g_Mod G ad F X Y U V Z H → va_S (md_A ad) s.heap H locs → W p l e (g_rm 3 0 0) s m args below meth c H locs 0 0 Q (F0 m 0 ls []) := by
    intro H locs hM hS
    refine lv_aload_n hx hb dX2_wire_0 rfl (lv_at hl 0 rfl) ?_
    refine lv_aload_n hx hb dX2_wire_1 rfl (lv_at hl 0 rfl) ?_
    refine g_getM hX hM 6 (by decide) q2169 rfl (v := .int (F 6)) rfl dX2_wire_2 ?_
    refine lv_aload_n hx hb dX2_wire_5 rfl (lv_at hl 0 rfl) ?_
    refine lv_iload_n hx hb dX2_wire_6 rfl (lv_at hl 1 rfl) ?_
    refine lv_iload_n hx hb dX2_wire_7 rfl (lv_at hl 2 rfl) ?_
    refine lv_iload_n hx hb dX2_wire_8 rfl (lv_at hl 3 rfl) ?_
    refine g_cRV hX hl y_X2_isWire v_X2_isWire q2513 (k_X2_isWire k a b) (hM.rc hX.2.2.2) hM rfl ⟨Nat.le_of_ble_eq_true rfl, Nat.le_of_ble_eq_true rfl⟩ ⟨Nat.zero_le _, Nat.zero_le _⟩ (rest := [.int (F 6), .ref (ad 0)]) (st1 := [.int (g_b (s_isWire F X k a b)), .int (F 6), .ref (ad 0)]) rfl rfl (Nat.le_of_ble_eq_true rfl) dX2_wire_9 ?_
    refine lv_iload hx hb dX2_wire_12 (lv_at hl 4 rfl) ?_
    refine lv_iconst (v := 0) hx hb dX2_wire_14 rfl ?_
    refine lv_iconst (v := 4) hx hb dX2_wire_15 rfl ?_
    refine g_cRS hX hl y_X2_in v_X2_in q2258 (k_X2_in w 0 4) trivial rfl ⟨Nat.le_of_ble_eq_true rfl, Nat.le_of_ble_eq_true rfl⟩ ⟨Nat.zero_le _, Nat.zero_le _⟩ (rest := [.int (g_b (s_isWire F X k a b)), .int (F 6), .ref (ad 0)]) (st1 := [.int (g_b (s_in w 0 4)), .int (g_b (s_isWire F X k a b)), .int (F 6), .ref (ad 0)]) rfl rfl (Nat.le_of_ble_eq_true rfl) dX2_wire_16 ?_
    refine g_cMV hX hl y_X2_may v_X2_may q2261 (k_X2_may (F 6) (g_b (s_isWire F X k a b)) (g_b (s_in w 0 4))) (hM.rc hX.2.2.2) hM rfl ⟨Nat.le_of_ble_eq_true rfl, Nat.le_of_ble_eq_true rfl⟩ ⟨Nat.le_refl _, Nat.le_refl _⟩ (rest := []) (st1 := [.int (g_b (decide (s_may (F 6) (g_b (s_isWire F X k a b)) (g_b (s_in w 0 4)) = 0)))]) rfl rfl (Nat.le_of_ble_eq_true rfl) dX2_wire_19 hS (fun _ h => h) (fun H locs hM hS _ => ?_)
    have hmy : s_may (F 6) (g_b (s_isWire F X k a b)) (g_b (s_in w 0 4)) = t9 := by first | exact hbad | (rw [← hbad]; simp [g_b, g_b]; done) | (rw [← hbad]; simp only [g_b, g_b]; rfl)
    rw [hmy] at hM ⊢
    refine g_if_eqB (tgt := 40) hx hb (b := decide (t9 = 0)) rfl dX2_wire_22 (by decide) (fun c_22 => ?_) (fun c_22 => ?_)
    rotate_left
    · exact Bool.noConfusion ((decide_eq_false ht9).symm.trans c_22)
    refine lv_iconst (v := 0) hx hb dX2_wire_40 rfl ?_
    exact hret H locs _ _ _ _ _ dX2_wire_41 hS (Nat.le_refl _) (Nat.le_refl _) (⟨rfl, hM⟩)
  exact key _ _ hM hS

theorem y_X2_garbles : g_Y yX2_garbles cX2_garbles 6 (some .boolean) 5 := ⟨q2524, by decide +kernel⟩
theorem v_X2_garbles : g_YV yX2_garbles := ⟨q2522, q2523, q140⟩
set_option maxHeartbeats 4000000 in
theorem ok_X2_garbles {G : g_G} {l : Launch} {ad : Nat → Nat} {F : Nat → Int32} {X Y : g_Wd} {U V : Nat → g_Wd} {Z : g_Wd} (k : Nat) (a : Nat) (b : Nat) (h : Nat) (q : Nat) (hF : ¬ F 6 = 0) (hwl : s_wl X) (hk : k < s_L X - 1) (ha : a < 3) (hb3 : b < 3) (hh : h ≤ 9999) (hq : q < 12) : g_Md G l yX2_garbles cX2_garbles 6 (some .boolean) 3 0 0 [.ref (ad 0), .int (nI k), .int (nI a), .int (nI b), .int (nI h), .int (nI q)] (g_Mod G ad F X Y U V Z) (g_Qv (some (.int (g_b (s_garb (X 1) (9 * k + 3 * a + b) (nI h) (nI q))))) (g_Mod G ad (upd F 0 0) X Y U V Z)) (md_A ad) := by
  refine g_Md.ofI (by decide) g_narB ?_
  intro p e s m args below meth c ls Q hX hM hl hS hret
  have hx := hX.1.1
  have hb := hX.1.2.1
  have hl : lv_has ls 6 [(0, .ref (ad 0)), (1, .int (nI k)), (2, .int (nI a)), (3, .int (nI b)), (4, .int (nI h)), (5, .int (nI q))] := hl
  have key : ∀ (H : Heap) (locs : List Loc), g_Mod G ad F X Y U V Z H → va_S (md_A ad) s.heap H locs → W p l e (g_rm 3 0 0) s m args below meth c H locs 0 0 Q (F0 m 0 ls []) := by
    intro H locs hM hS
    have hW := hwl.1
    have hWc : ¬ F 6 = 0 → s_ok X := fun _ => hW
    have hW9 := hW
    obtain ⟨⟨hL0, hL2, hL6⟩, ⟨hM0, hM6⟩, ⟨hG0, hG40⟩, hok⟩ := hW9
    have hw9 : s_W X ≤ 45 := by unfold s_W; omega
    have hwi := s_isWire_ok hF hW hk ha hb3
    have hi1 : s_in (nI h) 0 9999 = true := s_in_le (show h ≤ 9999 by omega) (by decide)
    have hi2 : s_in (nI q) 0 11 = true := s_in_le (show q ≤ 11 by omega) (by decide)
    refine lv_aload_n hx hb dX2_garbles_0 rfl (lv_at hl 0 rfl) ?_
    refine lv_aload_n hx hb dX2_garbles_1 rfl (lv_at hl 0 rfl) ?_
    refine g_getM hX hM 6 (by decide) q2169 rfl (v := .int (F 6)) rfl dX2_garbles_2 ?_
    refine lv_aload_n hx hb dX2_garbles_5 rfl (lv_at hl 0 rfl) ?_
    refine lv_iload_n hx hb dX2_garbles_6 rfl (lv_at hl 1 rfl) ?_
    refine lv_iload_n hx hb dX2_garbles_7 rfl (lv_at hl 2 rfl) ?_
    refine lv_iload_n hx hb dX2_garbles_8 rfl (lv_at hl 3 rfl) ?_
    refine g_cRV hX hl y_X2_isWire v_X2_isWire q2513 (k_X2_isWire (nI k) (nI a) (nI b)) (hM.rc hX.2.2.2) hM rfl ⟨Nat.le_of_ble_eq_true rfl, Nat.le_of_ble_eq_true rfl⟩ ⟨Nat.zero_le _, Nat.zero_le _⟩ (rest := [.int (F 6), .ref (ad 0)]) (st1 := [.int (g_b (s_isWire F X (nI k) (nI a) (nI b))), .int (F 6), .ref (ad 0)]) rfl rfl (Nat.le_of_ble_eq_true rfl) dX2_garbles_9 ?_
    refine lv_iload hx hb dX2_garbles_12 (lv_at hl 4 rfl) ?_
    refine lv_iconst (v := 0) hx hb dX2_garbles_14 rfl ?_
    refine lv_sipush (v := 9999) hx hb dX2_garbles_15 (by decide) ?_
    refine g_cRS hX hl y_X2_in v_X2_in q2258 (k_X2_in (nI h) 0 9999) trivial rfl ⟨Nat.le_of_ble_eq_true rfl, Nat.le_of_ble_eq_true rfl⟩ ⟨Nat.zero_le _, Nat.zero_le _⟩ (rest := [.int (g_b (s_isWire F X (nI k) (nI a) (nI b))), .int (F 6), .ref (ad 0)]) (st1 := [.int (g_b (s_in (nI h) 0 9999)), .int (g_b (s_isWire F X (nI k) (nI a) (nI b))), .int (F 6), .ref (ad 0)]) rfl rfl (Nat.le_of_ble_eq_true rfl) dX2_garbles_18 ?_
    refine g_if_eqB (tgt := 39) hx hb (b := s_in (nI h) 0 9999) rfl dX2_garbles_21 (by decide) (fun c_21 => ?_) (fun c_21 => ?_)
    · exact Bool.noConfusion (hi1.symm.trans c_21)
    skip
    refine lv_iload hx hb dX2_garbles_24 (lv_at hl 5 rfl) ?_
    refine lv_iconst (v := 0) hx hb dX2_garbles_26 rfl ?_
    refine lv_bipush (v := 11) hx hb dX2_garbles_27 (by decide) ?_
    refine g_cRS hX hl y_X2_in v_X2_in q2258 (k_X2_in (nI q) 0 11) trivial rfl ⟨Nat.le_of_ble_eq_true rfl, Nat.le_of_ble_eq_true rfl⟩ ⟨Nat.zero_le _, Nat.zero_le _⟩ (rest := [.int (g_b (s_isWire F X (nI k) (nI a) (nI b))), .int (F 6), .ref (ad 0)]) (st1 := [.int (g_b (s_in (nI q) 0 11)), .int (g_b (s_isWire F X (nI k) (nI a) (nI b))), .int (F 6), .ref (ad 0)]) rfl rfl (Nat.le_of_ble_eq_true rfl) dX2_garbles_29 ?_
    refine g_if_eqB (tgt := 39) hx hb (b := s_in (nI q) 0 11) rfl dX2_garbles_32 (by decide) (fun c_32 => ?_) (fun c_32 => ?_)
    · exact Bool.noConfusion (hi2.symm.trans c_32)
    skip
    refine lv_iconst (v := 1) hx hb dX2_garbles_35 rfl ?_
    refine lv_goto (tgt := 40) hx hb dX2_garbles_36 (by decide) ?_
    refine g_cMV hX hl y_X2_may v_X2_may q2261 (k_X2_may (F 6) (g_b (s_isWire F X (nI k) (nI a) (nI b))) 1) (hM.rc hX.2.2.2) hM rfl ⟨Nat.le_of_ble_eq_true rfl, Nat.le_of_ble_eq_true rfl⟩ ⟨Nat.le_refl _, Nat.le_refl _⟩ (rest := []) (st1 := [.int (g_b (decide (s_may (F 6) (g_b (s_isWire F X (nI k) (nI a) (nI b))) 1 = 0)))]) rfl rfl (Nat.le_of_ble_eq_true rfl) dX2_garbles_40 hS (fun _ h => h) (fun H locs hM hS _ => ?_)
    have hmy : s_may (F 6) (g_b (s_isWire F X (nI k) (nI a) (nI b))) 1 = 0 := s_may_ok hF (g_b_ne hwi) (by decide)
    rw [hmy] at hM ⊢
    refine g_if_eqB (tgt := 67) hx hb (b := decide ((0 : Int32) = 0)) rfl dX2_garbles_43 (by decide) (fun c_43 => ?_) (fun c_43 => ?_)
    · exact Bool.noConfusion ((rfl : decide ((0 : Int32) = 0) = true).symm.trans c_43)
    skip
    refine lv_aload_n hx hb dX2_garbles_46 rfl (lv_at hl 0 rfl) ?_
    refine lv_iload_n hx hb dX2_garbles_47 rfl (lv_at hl 1 rfl) ?_
    refine lv_iload_n hx hb dX2_garbles_48 rfl (lv_at hl 2 rfl) ?_
    refine lv_iload_n hx hb dX2_garbles_49 rfl (lv_at hl 3 rfl) ?_
    refine g_cRS hX hl y_X2_wireOf v_X2_wireOf q2324 (k_X2_wireOf k a b) trivial rfl ⟨Nat.le_of_ble_eq_true rfl, Nat.le_of_ble_eq_true rfl⟩ ⟨Nat.zero_le _, Nat.zero_le _⟩ (rest := [.ref (ad 0)]) (st1 := [.int (nI (9 * k + 3 * a + b)), .ref (ad 0)]) rfl rfl (Nat.le_of_ble_eq_true rfl) dX2_garbles_50 ?_
    refine lv_iload hx hb dX2_garbles_53 (lv_at hl 4 rfl) ?_
    refine lv_iload hx hb dX2_garbles_55 (lv_at hl 5 rfl) ?_
    refine g_cRV hX hl y_X2_isGarbled v_X2_isGarbled q2421 (k_X2_isGarbled (9 * k + 3 * a + b) (nI h) (nI q) (by omega)) (hM.rc hX.2.2.2) hM rfl ⟨Nat.le_of_ble_eq_true rfl, Nat.le_of_ble_eq_true rfl⟩ ⟨Nat.zero_le _, Nat.zero_le _⟩ (rest := []) (st1 := [.int (g_b (s_garb (X 1) (9 * k + 3 * a + b) (nI h) (nI q)))]) rfl rfl (Nat.le_of_ble_eq_true rfl) dX2_garbles_57 ?_
    refine g_if_eqB (tgt := 67) hx hb (b := s_garb (X 1) (9 * k + 3 * a + b) (nI h) (nI q)) rfl dX2_garbles_60 (by decide) (fun c_60 => ?_) (fun c_60 => ?_)
    · skip
      refine lv_iconst (v := 0) hx hb dX2_garbles_67 rfl ?_
      exact hret H locs _ _ _ _ _ dX2_garbles_68 hS (Nat.le_refl _) (Nat.le_refl _) (⟨by simp [g_b, c_60], hM⟩)
    · skip
      refine lv_iconst (v := 1) hx hb dX2_garbles_63 rfl ?_
      refine lv_goto (tgt := 68) hx hb dX2_garbles_64 (by decide) ?_
      exact hret H locs _ _ _ _ _ dX2_garbles_68 hS (Nat.le_refl _) (Nat.le_refl _) (⟨by simp [g_b, c_60], hM⟩)
  exact key _ _ hM hS

set_option maxHeartbeats 4000000 in
theorem no_X2_garbles {G : g_G} {l : Launch} {ad : Nat → Nat} {F : Nat → Int32} {X Y : g_Wd} {U V : Nat → g_Wd} {Z : g_Wd} (t9 : Int32) (k : Int32) (a : Int32) (b : Int32) (h : Int32) (q : Int32) (ht9 : ¬ t9 = 0) (hbad : s_may (F 6) (g_b (s_isWire F X k a b)) (g_b (s_in h 0 9999 && s_in q 0 11)) = t9) (hWc : ¬ F 6 = 0 → s_ok X) : g_Md G l yX2_garbles cX2_garbles 6 (some .boolean) 3 0 0 [.ref (ad 0), .int k, .int a, .int b, .int h, .int q] (g_Mod G ad F X Y U V Z) (g_Qv (some (.int (g_b false))) (g_Mod G ad (upd F 0 t9) X Y U V Z)) (md_A ad) := by
  refine g_Md.ofI (by decide) g_narB ?_
  intro p e s m args below meth c ls Q hX hM hl hS hret
  have hx := hX.1.1
  have hb := hX.1.2.1
  have hl : lv_has ls 6 [(0, .ref (ad 0)), (1, .int k), (2, .int a), (3, .int b), (4, .int h), (5, .int q)] := hl
  have key : ∀ (H : Heap) (locs : List Loc), g_Mod G ad F X Y U V Z H → va_S (md_A ad) s.heap H locs → W p l e (g_rm 3 0 0) s m args below meth c H locs 0 0 Q (F0 m 0 ls []) := by
    intro H locs hM hS
    refine lv_aload_n hx hb dX2_garbles_0 rfl (lv_at hl 0 rfl) ?_
    refine lv_aload_n hx hb dX2_garbles_1 rfl (lv_at hl 0 rfl) ?_
    refine g_getM hX hM 6 (by decide) q2169 rfl (v := .int (F 6)) rfl dX2_garbles_2 ?_
    refine lv_aload_n hx hb dX2_garbles_5 rfl (lv_at hl 0 rfl) ?_
    refine lv_iload_n hx hb dX2_garbles_6 rfl (lv_at hl 1 rfl) ?_
    refine lv_iload_n hx hb dX2_garbles_7 rfl (lv_at hl 2 rfl) ?_
    refine lv_iload_n hx hb dX2_garbles_8 rfl (lv_at hl 3 rfl) ?_
    refine g_cRV hX hl y_X2_isWire v_X2_isWire q2513 (k_X2_isWire k a b) (hM.rc hX.2.2.2) hM rfl ⟨Nat.le_of_ble_eq_true rfl, Nat.le_of_ble_eq_true rfl⟩ ⟨Nat.zero_le _, Nat.zero_le _⟩ (rest := [.int (F 6), .ref (ad 0)]) (st1 := [.int (g_b (s_isWire F X k a b)), .int (F 6), .ref (ad 0)]) rfl rfl (Nat.le_of_ble_eq_true rfl) dX2_garbles_9 ?_
    refine lv_iload hx hb dX2_garbles_12 (lv_at hl 4 rfl) ?_
    refine lv_iconst (v := 0) hx hb dX2_garbles_14 rfl ?_
    refine lv_sipush (v := 9999) hx hb dX2_garbles_15 (by decide) ?_
    refine g_cRS hX hl y_X2_in v_X2_in q2258 (k_X2_in h 0 9999) trivial rfl ⟨Nat.le_of_ble_eq_true rfl, Nat.le_of_ble_eq_true rfl⟩ ⟨Nat.zero_le _, Nat.zero_le _⟩ (rest := [.int (g_b (s_isWire F X k a b)), .int (F 6), .ref (ad 0)]) (st1 := [.int (g_b (s_in h 0 9999)), .int (g_b (s_isWire F X k a b)), .int (F 6), .ref (ad 0)]) rfl rfl (Nat.le_of_ble_eq_true rfl) dX2_garbles_18 ?_
    refine g_if_eqB (tgt := 39) hx hb (b := s_in h 0 9999) rfl dX2_garbles_21 (by decide) (fun c_21 => ?_) (fun c_21 => ?_)
    · skip
      refine lv_iconst (v := 0) hx hb dX2_garbles_39 rfl ?_
      refine g_cMV hX hl y_X2_may v_X2_may q2261 (k_X2_may (F 6) (g_b (s_isWire F X k a b)) 0) (hM.rc hX.2.2.2) hM rfl ⟨Nat.le_of_ble_eq_true rfl, Nat.le_of_ble_eq_true rfl⟩ ⟨Nat.le_refl _, Nat.le_refl _⟩ (rest := []) (st1 := [.int (g_b (decide (s_may (F 6) (g_b (s_isWire F X k a b)) 0 = 0)))]) rfl rfl (Nat.le_of_ble_eq_true rfl) dX2_garbles_40 hS (fun _ h => h) (fun H locs hM hS _ => ?_)
      have hmy : s_may (F 6) (g_b (s_isWire F X k a b)) 0 = t9 := by first | exact hbad | (rw [← hbad]; simp [g_b, c_21]; done) | (rw [← hbad]; simp only [g_b, c_21]; rfl)
      rw [hmy] at hM ⊢
      refine g_if_eqB (tgt := 67) hx hb (b := decide (t9 = 0)) rfl dX2_garbles_43 (by decide) (fun c_43 => ?_) (fun c_43 => ?_)
      rotate_left
      · exact Bool.noConfusion ((decide_eq_false ht9).symm.trans c_43)
      refine lv_iconst (v := 0) hx hb dX2_garbles_67 rfl ?_
      exact hret H locs _ _ _ _ _ dX2_garbles_68 hS (Nat.le_refl _) (Nat.le_refl _) (⟨rfl, hM⟩)
    · skip
      refine lv_iload hx hb dX2_garbles_24 (lv_at hl 5 rfl) ?_
      refine lv_iconst (v := 0) hx hb dX2_garbles_26 rfl ?_
      refine lv_bipush (v := 11) hx hb dX2_garbles_27 (by decide) ?_
      refine g_cRS hX hl y_X2_in v_X2_in q2258 (k_X2_in q 0 11) trivial rfl ⟨Nat.le_of_ble_eq_true rfl, Nat.le_of_ble_eq_true rfl⟩ ⟨Nat.zero_le _, Nat.zero_le _⟩ (rest := [.int (g_b (s_isWire F X k a b)), .int (F 6), .ref (ad 0)]) (st1 := [.int (g_b (s_in q 0 11)), .int (g_b (s_isWire F X k a b)), .int (F 6), .ref (ad 0)]) rfl rfl (Nat.le_of_ble_eq_true rfl) dX2_garbles_29 ?_
      refine g_if_eqB (tgt := 39) hx hb (b := s_in q 0 11) rfl dX2_garbles_32 (by decide) (fun c_32 => ?_) (fun c_32 => ?_)
      · skip
        refine lv_iconst (v := 0) hx hb dX2_garbles_39 rfl ?_
        refine g_cMV hX hl y_X2_may v_X2_may q2261 (k_X2_may (F 6) (g_b (s_isWire F X k a b)) 0) (hM.rc hX.2.2.2) hM rfl ⟨Nat.le_of_ble_eq_true rfl, Nat.le_of_ble_eq_true rfl⟩ ⟨Nat.le_refl _, Nat.le_refl _⟩ (rest := []) (st1 := [.int (g_b (decide (s_may (F 6) (g_b (s_isWire F X k a b)) 0 = 0)))]) rfl rfl (Nat.le_of_ble_eq_true rfl) dX2_garbles_40 hS (fun _ h => h) (fun H locs hM hS _ => ?_)
        have hmy : s_may (F 6) (g_b (s_isWire F X k a b)) 0 = t9 := by first | exact hbad | (rw [← hbad]; simp [g_b, c_21, c_32]; done) | (rw [← hbad]; simp only [g_b, c_21, c_32]; rfl)
        rw [hmy] at hM ⊢
        refine g_if_eqB (tgt := 67) hx hb (b := decide (t9 = 0)) rfl dX2_garbles_43 (by decide) (fun c_43 => ?_) (fun c_43 => ?_)
        rotate_left
        · exact Bool.noConfusion ((decide_eq_false ht9).symm.trans c_43)
        refine lv_iconst (v := 0) hx hb dX2_garbles_67 rfl ?_
        exact hret H locs _ _ _ _ _ dX2_garbles_68 hS (Nat.le_refl _) (Nat.le_refl _) (⟨rfl, hM⟩)
      · skip
        refine lv_iconst (v := 1) hx hb dX2_garbles_35 rfl ?_
        refine lv_goto (tgt := 40) hx hb dX2_garbles_36 (by decide) ?_
        refine g_cMV hX hl y_X2_may v_X2_may q2261 (k_X2_may (F 6) (g_b (s_isWire F X k a b)) 1) (hM.rc hX.2.2.2) hM rfl ⟨Nat.le_of_ble_eq_true rfl, Nat.le_of_ble_eq_true rfl⟩ ⟨Nat.le_refl _, Nat.le_refl _⟩ (rest := []) (st1 := [.int (g_b (decide (s_may (F 6) (g_b (s_isWire F X k a b)) 1 = 0)))]) rfl rfl (Nat.le_of_ble_eq_true rfl) dX2_garbles_40 hS (fun _ h => h) (fun H locs hM hS _ => ?_)
        have hmy : s_may (F 6) (g_b (s_isWire F X k a b)) 1 = t9 := by first | exact hbad | (rw [← hbad]; simp [g_b, c_21, c_32]; done) | (rw [← hbad]; simp only [g_b, c_21, c_32]; rfl)
        rw [hmy] at hM ⊢
        refine g_if_eqB (tgt := 67) hx hb (b := decide (t9 = 0)) rfl dX2_garbles_43 (by decide) (fun c_43 => ?_) (fun c_43 => ?_)
        rotate_left
        · exact Bool.noConfusion ((decide_eq_false ht9).symm.trans c_43)
        refine lv_iconst (v := 0) hx hb dX2_garbles_67 rfl ?_
        exact hret H locs _ _ _ _ _ dX2_garbles_68 hS (Nat.le_refl _) (Nat.le_refl _) (⟨rfl, hM⟩)
  exact key _ _ hM hS

theorem y_X2_comes : g_Y yX2_comes cX2_comes 7 (some .int) 5 := ⟨q2528, by decide +kernel⟩
theorem v_X2_comes : g_YV yX2_comes := ⟨q2526, q2527, q140⟩
set_option maxHeartbeats 4000000 in
theorem ok_X2_comes {G : g_G} {l : Launch} {ad : Nat → Nat} {F : Nat → Int32} {X Y : g_Wd} {U V : Nat → g_Wd} {Z : g_Wd} (k : Nat) (a : Nat) (b : Nat) (q : Nat) (dg : Nat) (hF : ¬ F 6 = 0) (hwl : s_wl X) (hk : k < s_L X - 1) (ha : a < 3) (hb3 : b < 3) (hq : q < 12) (hdg : dg ≤ 9) : g_Md G l yX2_comes cX2_comes 7 (some .int) 3 0 0 [.ref (ad 0), .int (nI k), .int (nI a), .int (nI b), .int (nI q), .int (nI dg)] (g_Mod G ad F X Y U V Z) (g_Qv (some (.int (if X 1 (5 * (9 * k + 3 * a + b) + 2) = 1 then -1 else s_arr (X 1) (9 * k + 3 * a + b) (X 0 2) (nI q) (nI dg)))) (g_Mod G ad (upd F 0 0) X Y U V Z)) (md_A ad) := by
  refine g_Md.ofI (by decide) (fun _ _ _ => rfl) ?_
  intro p e s m args below meth c ls Q hX hM hl hS hret
  have hx := hX.1.1
  have hb := hX.1.2.1
  have hl : lv_has ls 7 [(0, .ref (ad 0)), (1, .int (nI k)), (2, .int (nI a)), (3, .int (nI b)), (4, .int (nI q)), (5, .int (nI dg))] := hl
  have key : ∀ (H : Heap) (locs : List Loc), g_Mod G ad F X Y U V Z H → va_S (md_A ad) s.heap H locs → W p l e (g_rm 3 0 0) s m args below meth c H locs 0 0 Q (F0 m 0 ls []) := by
    intro H locs hM hS
    have hW := hwl.1
    have hWc : ¬ F 6 = 0 → s_ok X := fun _ => hW
    have hW9 := hW
    obtain ⟨⟨hL0, hL2, hL6⟩, ⟨hM0, hM6⟩, ⟨hG0, hG40⟩, hok⟩ := hW9
    have hw9 : s_W X ≤ 45 := by unfold s_W; omega
    have hwi := s_isWire_ok hF hW hk ha hb3
    have hi2 : s_in (nI q) 0 11 = true := s_in_le (show q ≤ 11 by omega) (by decide)
    have hi3 : s_in (nI dg) 0 9 = true := s_in_le (show dg ≤ 9 by omega) (by decide)
    refine lv_aload_n hx hb dX2_comes_0 rfl (lv_at hl 0 rfl) ?_
    refine lv_aload_n hx hb dX2_comes_1 rfl (lv_at hl 0 rfl) ?_
    refine g_getM hX hM 6 (by decide) q2169 rfl (v := .int (F 6)) rfl dX2_comes_2 ?_
    refine lv_aload_n hx hb dX2_comes_5 rfl (lv_at hl 0 rfl) ?_
    refine lv_iload_n hx hb dX2_comes_6 rfl (lv_at hl 1 rfl) ?_
    refine lv_iload_n hx hb dX2_comes_7 rfl (lv_at hl 2 rfl) ?_
    refine lv_iload_n hx hb dX2_comes_8 rfl (lv_at hl 3 rfl) ?_
    refine g_cRV hX hl y_X2_isWire v_X2_isWire q2513 (k_X2_isWire (nI k) (nI a) (nI b)) (hM.rc hX.2.2.2) hM rfl ⟨Nat.le_of_ble_eq_true rfl, Nat.le_of_ble_eq_true rfl⟩ ⟨Nat.zero_le _, Nat.zero_le _⟩ (rest := [.int (F 6), .ref (ad 0)]) (st1 := [.int (g_b (s_isWire F X (nI k) (nI a) (nI b))), .int (F 6), .ref (ad 0)]) rfl rfl (Nat.le_of_ble_eq_true rfl) dX2_comes_9 ?_
    refine lv_iload hx hb dX2_comes_12 (lv_at hl 4 rfl) ?_
    refine lv_iconst (v := 0) hx hb dX2_comes_14 rfl ?_
    refine lv_bipush (v := 11) hx hb dX2_comes_15 (by decide) ?_
    refine g_cRS hX hl y_X2_in v_X2_in q2258 (k_X2_in (nI q) 0 11) trivial rfl ⟨Nat.le_of_ble_eq_true rfl, Nat.le_of_ble_eq_true rfl⟩ ⟨Nat.zero_le _, Nat.zero_le _⟩ (rest := [.int (g_b (s_isWire F X (nI k) (nI a) (nI b))), .int (F 6), .ref (ad 0)]) (st1 := [.int (g_b (s_in (nI q) 0 11)), .int (g_b (s_isWire F X (nI k) (nI a) (nI b))), .int (F 6), .ref (ad 0)]) rfl rfl (Nat.le_of_ble_eq_true rfl) dX2_comes_17 ?_
    refine g_if_eqB (tgt := 35) hx hb (b := s_in (nI q) 0 11) rfl dX2_comes_20 (by decide) (fun c_20 => ?_) (fun c_20 => ?_)
    · exact Bool.noConfusion (hi2.symm.trans c_20)
    skip
    refine lv_iload hx hb dX2_comes_23 (lv_at hl 5 rfl) ?_
    refine g_cRS hX hl y_X2_isTen v_X2_isTen q2529 (k_X2_isTen (nI dg)) trivial rfl ⟨Nat.le_of_ble_eq_true rfl, Nat.le_of_ble_eq_true rfl⟩ ⟨Nat.zero_le _, Nat.zero_le _⟩ (rest := [.int (g_b (s_isWire F X (nI k) (nI a) (nI b))), .int (F 6), .ref (ad 0)]) (st1 := [.int (g_b (s_in (nI dg) 0 9)), .int (g_b (s_isWire F X (nI k) (nI a) (nI b))), .int (F 6), .ref (ad 0)]) rfl rfl (Nat.le_of_ble_eq_true rfl) dX2_comes_25 ?_
    refine g_if_eqB (tgt := 35) hx hb (b := s_in (nI dg) 0 9) rfl dX2_comes_28 (by decide) (fun c_28 => ?_) (fun c_28 => ?_)
    · exact Bool.noConfusion (hi3.symm.trans c_28)
    skip
    refine lv_iconst (v := 1) hx hb dX2_comes_31 rfl ?_
    refine lv_goto (tgt := 36) hx hb dX2_comes_32 (by decide) ?_
    refine g_cMV hX hl y_X2_may v_X2_may q2261 (k_X2_may (F 6) (g_b (s_isWire F X (nI k) (nI a) (nI b))) 1) (hM.rc hX.2.2.2) hM rfl ⟨Nat.le_of_ble_eq_true rfl, Nat.le_of_ble_eq_true rfl⟩ ⟨Nat.le_refl _, Nat.le_refl _⟩ (rest := []) (st1 := [.int (g_b (decide (s_may (F 6) (g_b (s_isWire F X (nI k) (nI a) (nI b))) 1 = 0)))]) rfl rfl (Nat.le_of_ble_eq_true rfl) dX2_comes_36 hS (fun _ h => h) (fun H locs hM hS _ => ?_)
    have hmy : s_may (F 6) (g_b (s_isWire F X (nI k) (nI a) (nI b))) 1 = 0 := s_may_ok hF (g_b_ne hwi) (by decide)
    rw [hmy] at hM ⊢
    refine g_if_neB (tgt := 44) hx hb (b := decide ((0 : Int32) = 0)) rfl dX2_comes_39 (by decide) (fun c_39 => ?_) (fun c_39 => ?_)
    rotate_left
    · exact Bool.noConfusion ((rfl : decide ((0 : Int32) = 0) = true).symm.trans c_39)
    refine lv_iload_n hx hb dX2_comes_44 rfl (lv_at hl 1 rfl) ?_
    refine lv_iload_n hx hb dX2_comes_45 rfl (lv_at hl 2 rfl) ?_
    refine lv_iload_n hx hb dX2_comes_46 rfl (lv_at hl 3 rfl) ?_
    refine g_cRS hX hl y_X2_wireOf v_X2_wireOf q2324 (k_X2_wireOf k a b) trivial rfl ⟨Nat.le_of_ble_eq_true rfl, Nat.le_of_ble_eq_true rfl⟩ ⟨Nat.zero_le _, Nat.zero_le _⟩ (rest := []) (st1 := [.int (nI (9 * k + 3 * a + b))]) rfl rfl (Nat.le_of_ble_eq_true rfl) dX2_comes_47 ?_
    refine lv_istore (lv' := [(6, .int (nI (9 * k + 3 * a + b))), (0, .ref (ad 0)), (1, .int (nI k)), (2, .int (nI a)), (3, .int (nI b)), (4, .int (nI q)), (5, .int (nI dg))]) hx hb dX2_comes_50 hl (by decide) rfl (fun ls hl => ?_)
    refine lv_aload_n hx hb dX2_comes_52 rfl (lv_at hl 1 rfl) ?_
    refine lv_iload hx hb dX2_comes_53 (lv_at hl 0 rfl) ?_
    refine lv_iconst (v := 2) hx hb dX2_comes_55 rfl ?_
    refine g_cRV hX hl y_X2_ofWire v_X2_ofWire q2340 (k_X2_ofWire (9 * k + 3 * a + b) 2 (by omega) (by omega)) (hM.rc hX.2.2.2) hM rfl ⟨Nat.le_of_ble_eq_true rfl, Nat.le_of_ble_eq_true rfl⟩ ⟨Nat.zero_le _, Nat.zero_le _⟩ (rest := []) (st1 := [.int (X 1 (5 * (9 * k + 3 * a + b) + 2))]) rfl rfl (Nat.le_of_ble_eq_true rfl) dX2_comes_56 ?_
    refine lv_iconst (v := 1) hx hb dX2_comes_59 rfl ?_
    refine lv_icmp_ne (tgt := 67) hx hb dX2_comes_60 (by decide) (fun c_60 => ?_) (fun c_60 => ?_)
    · skip
      refine lv_aload_n hx hb dX2_comes_67 rfl (lv_at hl 1 rfl) ?_
      refine lv_iload hx hb dX2_comes_68 (lv_at hl 0 rfl) ?_
      refine lv_iload hx hb dX2_comes_70 (lv_at hl 5 rfl) ?_
      refine lv_iload hx hb dX2_comes_72 (lv_at hl 6 rfl) ?_
      refine g_cRV hX hl y_X2_arriving v_X2_arriving q2425 (k_X2_arriving (9 * k + 3 * a + b) (nI q) (nI dg) (by omega)) (hM.rc hX.2.2.2) hM rfl ⟨Nat.le_of_ble_eq_true rfl, Nat.le_of_ble_eq_true rfl⟩ ⟨Nat.zero_le _, Nat.zero_le _⟩ (rest := []) (st1 := [.int (s_arr (X 1) (9 * k + 3 * a + b) (X 0 2) (nI q) (nI dg))]) rfl rfl (Nat.le_of_ble_eq_true rfl) dX2_comes_74 ?_
      exact hret H locs _ _ _ _ _ dX2_comes_77 hS (Nat.le_refl _) (Nat.le_refl _) (⟨by simp [c_60], hM⟩)
    · skip
      refine lv_iconst (v := (-1)) hx hb dX2_comes_63 rfl ?_
      refine lv_goto (tgt := 77) hx hb dX2_comes_64 (by decide) ?_
      exact hret H locs _ _ _ _ _ dX2_comes_77 hS (Nat.le_refl _) (Nat.le_refl _) (⟨by simp [c_60], hM⟩)
  exact key _ _ hM hS

set_option maxHeartbeats 4000000 in
theorem no_X2_comes {G : g_G} {l : Launch} {ad : Nat → Nat} {F : Nat → Int32} {X Y : g_Wd} {U V : Nat → g_Wd} {Z : g_Wd} (t9 : Int32) (k : Int32) (a : Int32) (b : Int32) (q : Int32) (d : Int32) (ht9 : ¬ t9 = 0) (hbad : s_may (F 6) (g_b (s_isWire F X k a b)) (g_b (s_in q 0 11 && s_in d 0 9)) = t9) (hWc : ¬ F 6 = 0 → s_ok X) : g_Md G l yX2_comes cX2_comes 7 (some .int) 3 0 0 [.ref (ad 0), .int k, .int a, .int b, .int q, .int d] (g_Mod G ad F X Y U V Z) (g_Qv (some (.int 0)) (g_Mod G ad (upd F 0 t9) X Y U V Z)) (md_A ad) := by
  refine g_Md.ofI (by decide) (fun _ _ _ => rfl) ?_
  intro p e s m args below meth c ls Q hX hM hl hS hret
  have hx := hX.1.1
  have hb := hX.1.2.1
  have hl : lv_has ls 7 [(0, .ref (ad 0)), (1, .int k), (2, .int a), (3, .int b), (4, .int q), (5, .int d)] := hl
  have key : ∀ (H : Heap) (locs : List Loc), g_Mod G ad F X Y U V Z H → va_S (md_A ad) s.heap H locs → W p l e (g_rm 3 0 0) s m args below meth c H locs 0 0 Q (F0 m 0 ls []) := by
    intro H locs hM hS
    refine lv_aload_n hx hb dX2_comes_0 rfl (lv_at hl 0 rfl) ?_
    refine lv_aload_n hx hb dX2_comes_1 rfl (lv_at hl 0 rfl) ?_
    refine g_getM hX hM 6 (by decide) q2169 rfl (v := .int (F 6)) rfl dX2_comes_2 ?_
    refine lv_aload_n hx hb dX2_comes_5 rfl (lv_at hl 0 rfl) ?_
    refine lv_iload_n hx hb dX2_comes_6 rfl (lv_at hl 1 rfl) ?_
    refine lv_iload_n hx hb dX2_comes_7 rfl (lv_at hl 2 rfl) ?_
    refine lv_iload_n hx hb dX2_comes_8 rfl (lv_at hl 3 rfl) ?_
    refine g_cRV hX hl y_X2_isWire v_X2_isWire q2513 (k_X2_isWire k a b) (hM.rc hX.2.2.2) hM rfl ⟨Nat.le_of_ble_eq_true rfl, Nat.le_of_ble_eq_true rfl⟩ ⟨Nat.zero_le _, Nat.zero_le _⟩ (rest := [.int (F 6), .ref (ad 0)]) (st1 := [.int (g_b (s_isWire F X k a b)), .int (F 6), .ref (ad 0)]) rfl rfl (Nat.le_of_ble_eq_true rfl) dX2_comes_9 ?_
    refine lv_iload hx hb dX2_comes_12 (lv_at hl 4 rfl) ?_
    refine lv_iconst (v := 0) hx hb dX2_comes_14 rfl ?_
    refine lv_bipush (v := 11) hx hb dX2_comes_15 (by decide) ?_
    refine g_cRS hX hl y_X2_in v_X2_in q2258 (k_X2_in q 0 11) trivial rfl ⟨Nat.le_of_ble_eq_true rfl, Nat.le_of_ble_eq_true rfl⟩ ⟨Nat.zero_le _, Nat.zero_le _⟩ (rest := [.int (g_b (s_isWire F X k a b)), .int (F 6), .ref (ad 0)]) (st1 := [.int (g_b (s_in q 0 11)), .int (g_b (s_isWire F X k a b)), .int (F 6), .ref (ad 0)]) rfl rfl (Nat.le_of_ble_eq_true rfl) dX2_comes_17 ?_
    refine g_if_eqB (tgt := 35) hx hb (b := s_in q 0 11) rfl dX2_comes_20 (by decide) (fun c_20 => ?_) (fun c_20 => ?_)
    · skip
      refine lv_iconst (v := 0) hx hb dX2_comes_35 rfl ?_
      refine g_cMV hX hl y_X2_may v_X2_may q2261 (k_X2_may (F 6) (g_b (s_isWire F X k a b)) 0) (hM.rc hX.2.2.2) hM rfl ⟨Nat.le_of_ble_eq_true rfl, Nat.le_of_ble_eq_true rfl⟩ ⟨Nat.le_refl _, Nat.le_refl _⟩ (rest := []) (st1 := [.int (g_b (decide (s_may (F 6) (g_b (s_isWire F X k a b)) 0 = 0)))]) rfl rfl (Nat.le_of_ble_eq_true rfl) dX2_comes_36 hS (fun _ h => h) (fun H locs hM hS _ => ?_)
      have hmy : s_may (F 6) (g_b (s_isWire F X k a b)) 0 = t9 := by first | exact hbad | (rw [← hbad]; simp [g_b, c_20]; done) | (rw [← hbad]; simp only [g_b, c_20]; rfl)
      rw [hmy] at hM ⊢
      refine g_if_neB (tgt := 44) hx hb (b := decide (t9 = 0)) rfl dX2_comes_39 (by decide) (fun c_39 => ?_) (fun c_39 => ?_)
      · exact Bool.noConfusion ((decide_eq_false ht9).symm.trans c_39)
      skip
      refine lv_iconst (v := 0) hx hb dX2_comes_42 rfl ?_
      exact hret H locs _ _ _ _ _ dX2_comes_43 hS (Nat.le_refl _) (Nat.le_refl _) (⟨rfl, hM⟩)
    · skip
      refine lv_iload hx hb dX2_comes_23 (lv_at hl 5 rfl) ?_
      refine g_cRS hX hl y_X2_isTen v_X2_isTen q2529 (k_X2_isTen d) trivial rfl ⟨Nat.le_of_ble_eq_true rfl, Nat.le_of_ble_eq_true rfl⟩ ⟨Nat.zero_le _, Nat.zero_le _⟩ (rest := [.int (g_b (s_isWire F X k a b)), .int (F 6), .ref (ad 0)]) (st1 := [.int (g_b (s_in d 0 9)), .int (g_b (s_isWire F X k a b)), .int (F 6), .ref (ad 0)]) rfl rfl (Nat.le_of_ble_eq_true rfl) dX2_comes_25 ?_
      refine g_if_eqB (tgt := 35) hx hb (b := s_in d 0 9) rfl dX2_comes_28 (by decide) (fun c_28 => ?_) (fun c_28 => ?_)
      · skip
        refine lv_iconst (v := 0) hx hb dX2_comes_35 rfl ?_
        refine g_cMV hX hl y_X2_may v_X2_may q2261 (k_X2_may (F 6) (g_b (s_isWire F X k a b)) 0) (hM.rc hX.2.2.2) hM rfl ⟨Nat.le_of_ble_eq_true rfl, Nat.le_of_ble_eq_true rfl⟩ ⟨Nat.le_refl _, Nat.le_refl _⟩ (rest := []) (st1 := [.int (g_b (decide (s_may (F 6) (g_b (s_isWire F X k a b)) 0 = 0)))]) rfl rfl (Nat.le_of_ble_eq_true rfl) dX2_comes_36 hS (fun _ h => h) (fun H locs hM hS _ => ?_)
        have hmy : s_may (F 6) (g_b (s_isWire F X k a b)) 0 = t9 := by first | exact hbad | (rw [← hbad]; simp [g_b, c_20, c_28]; done) | (rw [← hbad]; simp only [g_b, c_20, c_28]; rfl)
        rw [hmy] at hM ⊢
        refine g_if_neB (tgt := 44) hx hb (b := decide (t9 = 0)) rfl dX2_comes_39 (by decide) (fun c_39 => ?_) (fun c_39 => ?_)
        · exact Bool.noConfusion ((decide_eq_false ht9).symm.trans c_39)
        skip
        refine lv_iconst (v := 0) hx hb dX2_comes_42 rfl ?_
        exact hret H locs _ _ _ _ _ dX2_comes_43 hS (Nat.le_refl _) (Nat.le_refl _) (⟨rfl, hM⟩)
      · skip
        refine lv_iconst (v := 1) hx hb dX2_comes_31 rfl ?_
        refine lv_goto (tgt := 36) hx hb dX2_comes_32 (by decide) ?_
        refine g_cMV hX hl y_X2_may v_X2_may q2261 (k_X2_may (F 6) (g_b (s_isWire F X k a b)) 1) (hM.rc hX.2.2.2) hM rfl ⟨Nat.le_of_ble_eq_true rfl, Nat.le_of_ble_eq_true rfl⟩ ⟨Nat.le_refl _, Nat.le_refl _⟩ (rest := []) (st1 := [.int (g_b (decide (s_may (F 6) (g_b (s_isWire F X k a b)) 1 = 0)))]) rfl rfl (Nat.le_of_ble_eq_true rfl) dX2_comes_36 hS (fun _ h => h) (fun H locs hM hS _ => ?_)
        have hmy : s_may (F 6) (g_b (s_isWire F X k a b)) 1 = t9 := by first | exact hbad | (rw [← hbad]; simp [g_b, c_20, c_28]; done) | (rw [← hbad]; simp only [g_b, c_20, c_28]; rfl)
        rw [hmy] at hM ⊢
        refine g_if_neB (tgt := 44) hx hb (b := decide (t9 = 0)) rfl dX2_comes_39 (by decide) (fun c_39 => ?_) (fun c_39 => ?_)
        · exact Bool.noConfusion ((decide_eq_false ht9).symm.trans c_39)
        skip
        refine lv_iconst (v := 0) hx hb dX2_comes_42 rfl ?_
        exact hret H locs _ _ _ _ _ dX2_comes_43 hS (Nat.le_refl _) (Nat.le_refl _) (⟨rfl, hM⟩)
  exact key _ _ hM hS

theorem y_X2_worstWire : g_Y yX2_worstWire cX2_worstWire 4 (some .int) 0 := ⟨q2535, by decide +kernel⟩
theorem v_X2_worstWire : g_YV yX2_worstWire := ⟨q2533, q2534, q140⟩
set_option maxHeartbeats 4000000 in
theorem ok_X2_worstWire {G : g_G} {l : Launch} {ad : Nat → Nat} {F : Nat → Int32} {X Y : g_Wd} {U V : Nat → g_Wd} {Z : g_Wd}  (hF : ¬ F 6 = 0) (hwl : s_wl X) : g_Md G l yX2_worstWire cX2_worstWire 4 (some .int) 2 0 0 [.ref (ad 0)] (g_Mod G ad F X Y U V Z) (g_Qv (some (.int ((s_best (fun w => X 1 (5 * w + 4)) (s_W X)).1))) (g_Mod G ad (upd F 0 0) X Y U V Z)) (md_A ad) := by
  refine g_Md.ofI (by decide) (fun _ _ _ => rfl) ?_
  intro p e s m args below meth c ls Q hX hM hl hS hret
  have hx := hX.1.1
  have hb := hX.1.2.1
  have hl : lv_has ls 4 [(0, .ref (ad 0))] := hl
  have key : ∀ (H : Heap) (locs : List Loc), g_Mod G ad F X Y U V Z H → va_S (md_A ad) s.heap H locs → W p l e (g_rm 2 0 0) s m args below meth c H locs 0 0 Q (F0 m 0 ls []) := by
    intro H locs hM hS
    have hW := hwl.1
    have hWc : ¬ F 6 = 0 → s_ok X := fun _ => hW
    have hW9 := hW
    obtain ⟨⟨hL0, hL2, hL6⟩, ⟨hM0, hM6⟩, ⟨hG0, hG40⟩, hok⟩ := hW9
    have hw9 : s_W X ≤ 45 := by unfold s_W; omega
    refine lv_aload_n hx hb dX2_worstWire_0 rfl (lv_at hl 0 rfl) ?_
    refine g_cMV hX hl y_X2_mayLook v_X2_mayLook q2536 k_X2_mayLook (hM.rc hX.2.2.2) hM rfl ⟨Nat.le_of_ble_eq_true rfl, Nat.le_of_ble_eq_true rfl⟩ ⟨Nat.le_refl _, Nat.le_refl _⟩ (rest := []) (st1 := [.int (g_b (decide (s_may (F 6) 1 1 = 0)))]) rfl rfl (Nat.le_of_ble_eq_true rfl) dX2_worstWire_1 hS (fun _ h => h) (fun H locs hM hS _ => ?_)
    have hmy : s_may (F 6) 1 1 = 0 := s_may_ok hF (by decide) (by decide)
    rw [hmy] at hM ⊢
    refine g_if_neB (tgt := 9) hx hb (b := decide ((0 : Int32) = 0)) rfl dX2_worstWire_4 (by decide) (fun c_4 => ?_) (fun c_4 => ?_)
    rotate_left
    · exact Bool.noConfusion ((rfl : decide ((0 : Int32) = 0) = true).symm.trans c_4)
    refine lv_iconst (v := (-1)) hx hb dX2_worstWire_9 rfl ?_
    refine lv_istore_n (lv' := [(1, .int (-1)), (0, .ref (ad 0))]) hx hb dX2_worstWire_10 rfl hl (by decide) rfl (fun ls hl => ?_)
    refine lv_iconst (v := 0) hx hb dX2_worstWire_11 rfl ?_
    refine lv_istore_n (lv' := [(2, .int 0), (1, .int (-1)), (0, .ref (ad 0))]) hx hb dX2_worstWire_12 rfl hl (by decide) rfl (fun ls hl => ?_)
    refine lv_iconst (v := 0) hx hb dX2_worstWire_13 rfl ?_
    refine lv_istore_n (lv' := [(3, .int 0), (2, .int 0), (1, .int (-1)), (0, .ref (ad 0))]) hx hb dX2_worstWire_14 rfl hl (by decide) rfl (fun ls hl => ?_)
    have L15 : ∀ (nf : Nat) (H : Heap) (locs : List Loc) (j : Nat), (j ≤ 9 * (s_L X - 1)) → (9 * (s_L X - 1) - j < nf) → (g_Mod G ad (upd F 0 0) X Y U V Z H) → va_S (md_A ad) s.heap H locs → ∀ ls : Array Slot, lv_has ls 4 [(3, .int (nI j)), (1, .int ((s_best (fun w => X 1 (5 * w + 4))  j).1)), (2, .int ((s_best (fun w => X 1 (5 * w + 4))  j).2)), (0, .ref (ad 0))] → W p l e (g_rm 2 0 0) s m args below meth c H locs 0 0 Q (F0 m 15 ls []) := by
      intro n15
      induction n15 with
      | zero => intro H locs j hj hn; exact absurd hn (Nat.not_lt_zero _)
      | succ n15 ih15 =>
        intro H locs j hj hn15 hM hS ls hl
        refine lv_iload_n hx hb dX2_worstWire_15 rfl (lv_at hl 0 rfl) ?_
        refine lv_bipush (v := 9) hx hb dX2_worstWire_16 (by decide) ?_
        refine lv_aload_n hx hb dX2_worstWire_18 rfl (lv_at hl 3 rfl) ?_
        refine g_cRV hX hl y_X2_lastLevel v_X2_lastLevel q2440 (k_X2_lastLevel hW) (hM.rc hX.2.2.2) hM rfl ⟨Nat.le_of_ble_eq_true rfl, Nat.le_of_ble_eq_true rfl⟩ ⟨Nat.zero_le _, Nat.zero_le _⟩ (rest := [.int 9, .int (nI j)]) (st1 := [.int (nI (s_L X - 1)), .int 9, .int (nI j)]) rfl rfl (Nat.le_of_ble_eq_true rfl) dX2_worstWire_19 ?_
        refine g_imulN hx hb 9 (s_L X - 1) rfl rfl dX2_worstWire_22 ?_
        refine g_icmp_geN (tgt := 54) hx hb j (9 * (s_L X - 1)) rfl rfl (by omega) (by omega) dX2_worstWire_23 (by decide) (fun c_23 => ?_) (fun c_23 => ?_)
        · skip
          refine lv_iload_n hx hb dX2_worstWire_54 rfl (lv_at hl 1 rfl) ?_
          exact hret H locs _ _ _ _ _ dX2_worstWire_55 hS (Nat.le_refl _) (Nat.le_refl _) (⟨by rw [show j = s_W X by unfold s_W; omega], hM⟩)
        · skip
          refine lv_aload_n hx hb dX2_worstWire_26 rfl (lv_at hl 3 rfl) ?_
          refine lv_iload_n hx hb dX2_worstWire_27 rfl (lv_at hl 0 rfl) ?_
          refine lv_iconst (v := 4) hx hb dX2_worstWire_28 rfl ?_
          refine g_cRV hX hl y_X2_ofWire v_X2_ofWire q2340 (k_X2_ofWire j 4 (by omega) (by omega)) (hM.rc hX.2.2.2) hM rfl ⟨Nat.le_of_ble_eq_true rfl, Nat.le_of_ble_eq_true rfl⟩ ⟨Nat.zero_le _, Nat.zero_le _⟩ (rest := []) (st1 := [.int (X 1 (5 * j + 4))]) rfl rfl (Nat.le_of_ble_eq_true rfl) dX2_worstWire_29 ?_
          refine lv_iload_n hx hb dX2_worstWire_32 rfl (lv_at hl 2 rfl) ?_
          refine lv_icmp_gt (tgt := 39) hx hb dX2_worstWire_33 (by decide) (fun c_33 => ?_) (fun c_33 => ?_)
          · skip
            refine lv_aload_n hx hb dX2_worstWire_39 rfl (lv_at hl 3 rfl) ?_
            refine lv_iload_n hx hb dX2_worstWire_40 rfl (lv_at hl 0 rfl) ?_
            refine lv_iconst (v := 4) hx hb dX2_worstWire_41 rfl ?_
            refine g_cRV hX hl y_X2_ofWire v_X2_ofWire q2340 (k_X2_ofWire j 4 (by omega) (by omega)) (hM.rc hX.2.2.2) hM rfl ⟨Nat.le_of_ble_eq_true rfl, Nat.le_of_ble_eq_true rfl⟩ ⟨Nat.zero_le _, Nat.zero_le _⟩ (rest := []) (st1 := [.int (X 1 (5 * j + 4))]) rfl rfl (Nat.le_of_ble_eq_true rfl) dX2_worstWire_42 ?_
            refine lv_istore_n (lv' := [(2, .int (X 1 (5 * j + 4))), (3, .int (nI j)), (1, .int ((s_best (fun w => X 1 (5 * w + 4))  j).1)), (0, .ref (ad 0))]) hx hb dX2_worstWire_45 rfl hl (by decide) rfl (fun ls hl => ?_)
            refine lv_iload_n hx hb dX2_worstWire_46 rfl (lv_at hl 1 rfl) ?_
            refine lv_istore_n (lv' := [(1, .int (nI j)), (2, .int (X 1 (5 * j + 4))), (3, .int (nI j)), (0, .ref (ad 0))]) hx hb dX2_worstWire_47 rfl hl (by decide) rfl (fun ls hl => ?_)
            refine lv_iinc (v := (nI (j + 1))) (lv' := [(3, .int (nI (j + 1))), (1, .int (nI j)), (2, .int (X 1 (5 * j + 4))), (0, .ref (ad 0))]) hx hb dX2_worstWire_48 hl (k := 2) rfl (nI_1 _) (by decide) rfl (fun ls hl => ?_)
            refine lv_goto (tgt := 15) hx hb dX2_worstWire_51 (by decide) ?_
            have e_2 : (X 1 (5 * j + 4)) = ((s_best (fun w => X 1 (5 * w + 4))  (j + 1)).2) := by simp [s_best, c_23, c_33]; try grind
            rw [e_2] at hl
            have e_1 : (nI j) = ((s_best (fun w => X 1 (5 * w + 4))  (j + 1)).1) := by simp [s_best, c_23, c_33]; try grind
            rw [e_1] at hl
            exact ih15 H locs (j + 1) (by omega) (by omega) hM hS ls (lv_sub hl [0, 1, 2, 3] rfl)
          · skip
            refine lv_goto (tgt := 48) hx hb dX2_worstWire_36 (by decide) ?_
            refine lv_iinc (v := (nI (j + 1))) (lv' := [(3, .int (nI (j + 1))), (1, .int ((s_best (fun w => X 1 (5 * w + 4))  j).1)), (2, .int ((s_best (fun w => X 1 (5 * w + 4))  j).2)), (0, .ref (ad 0))]) hx hb dX2_worstWire_48 hl (k := 0) rfl (nI_1 _) (by decide) rfl (fun ls hl => ?_)
            refine lv_goto (tgt := 15) hx hb dX2_worstWire_51 (by decide) ?_
            have e_1 : ((s_best (fun w => X 1 (5 * w + 4))  j).1) = ((s_best (fun w => X 1 (5 * w + 4))  (j + 1)).1) := by simp [s_best, c_23, c_33]; try grind
            rw [e_1] at hl
            have e_2 : ((s_best (fun w => X 1 (5 * w + 4))  j).2) = ((s_best (fun w => X 1 (5 * w + 4))  (j + 1)).2) := by simp [s_best, c_23, c_33]; try grind
            rw [e_2] at hl
            exact ih15 H locs (j + 1) (by omega) (by omega) hM hS ls (lv_sub hl [0, 1, 2, 3] rfl)
    exact L15 (9 * (s_L X - 1) - 0 + 1) H locs 0 (by omega) (Nat.lt_succ_self _) hM hS ls (lv_sub hl [0, 2, 1, 3] rfl)
  exact key _ _ hM hS

set_option maxHeartbeats 4000000 in
theorem no_X2_worstWire {G : g_G} {l : Launch} {ad : Nat → Nat} {F : Nat → Int32} {X Y : g_Wd} {U V : Nat → g_Wd} {Z : g_Wd} (t9 : Int32) (ht9 : ¬ t9 = 0) (hbad : s_may (F 6) 1 1 = t9) (hWc : ¬ F 6 = 0 → s_ok X) : g_Md G l yX2_worstWire cX2_worstWire 4 (some .int) 2 0 0 [.ref (ad 0)] (g_Mod G ad F X Y U V Z) (g_Qv (some (.int 0)) (g_Mod G ad (upd F 0 t9) X Y U V Z)) (md_A ad) := by
  refine g_Md.ofI (by decide) (fun _ _ _ => rfl) ?_
  intro p e s m args below meth c ls Q hX hM hl hS hret
  have hx := hX.1.1
  have hb := hX.1.2.1
  have hl : lv_has ls 4 [(0, .ref (ad 0))] := hl
  have key : ∀ (H : Heap) (locs : List Loc), g_Mod G ad F X Y U V Z H → va_S (md_A ad) s.heap H locs → W p l e (g_rm 2 0 0) s m args below meth c H locs 0 0 Q (F0 m 0 ls []) := by
    intro H locs hM hS
    refine lv_aload_n hx hb dX2_worstWire_0 rfl (lv_at hl 0 rfl) ?_
    refine g_cMV hX hl y_X2_mayLook v_X2_mayLook q2536 k_X2_mayLook (hM.rc hX.2.2.2) hM rfl ⟨Nat.le_of_ble_eq_true rfl, Nat.le_of_ble_eq_true rfl⟩ ⟨Nat.le_refl _, Nat.le_refl _⟩ (rest := []) (st1 := [.int (g_b (decide (s_may (F 6) 1 1 = 0)))]) rfl rfl (Nat.le_of_ble_eq_true rfl) dX2_worstWire_1 hS (fun _ h => h) (fun H locs hM hS _ => ?_)
    have hmy : s_may (F 6) 1 1 = t9 := by first | exact hbad | (rw [← hbad]; simp [g_b, g_b]; done) | (rw [← hbad]; simp only [g_b, g_b]; rfl)
    rw [hmy] at hM ⊢
    refine g_if_neB (tgt := 9) hx hb (b := decide (t9 = 0)) rfl dX2_worstWire_4 (by decide) (fun c_4 => ?_) (fun c_4 => ?_)
    · exact Bool.noConfusion ((decide_eq_false ht9).symm.trans c_4)
    skip
    refine lv_iconst (v := 0) hx hb dX2_worstWire_7 rfl ?_
    exact hret H locs _ _ _ _ _ dX2_worstWire_8 hS (Nat.le_refl _) (Nat.le_refl _) (⟨rfl, hM⟩)
  exact key _ _ hM hS

theorem y_X2_stormyHours : g_Y yX2_stormyHours cX2_stormyHours 7 (some .int) 4 := ⟨q2543, by decide +kernel⟩
theorem v_X2_stormyHours : g_YV yX2_stormyHours := ⟨q2541, q2542, q140⟩
set_option maxHeartbeats 4000000 in
theorem ok_X2_stormyHours {G : g_G} {l : Launch} {ad : Nat → Nat} {F : Nat → Int32} {X Y : g_Wd} {U V : Nat → g_Wd} {Z : g_Wd} (k : Nat) (a : Nat) (b : Nat) (h : Nat) (hF : ¬ F 6 = 0) (hwl : s_wl X) (hk : k < s_L X - 1) (ha : a < 3) (hb3 : b < 3) (h1 : 1 ≤ h) (h100 : h ≤ 100) : g_Md G l yX2_stormyHours cX2_stormyHours 7 (some .int) 3 0 0 [.ref (ad 0), .int (nI k), .int (nI a), .int (nI b), .int (nI h)] (g_Mod G ad F X Y U V Z) (g_Qv (some (.int (nI (s_sH X (9 * k + 3 * a + b) h)))) (g_Mod G ad (upd F 0 0) X Y U V Z)) (md_A ad) := by
  refine g_Md.ofI (by decide) (fun _ _ _ => rfl) ?_
  intro p e s m args below meth c ls Q hX hM hl hS hret
  have hx := hX.1.1
  have hb := hX.1.2.1
  have hl : lv_has ls 7 [(0, .ref (ad 0)), (1, .int (nI k)), (2, .int (nI a)), (3, .int (nI b)), (4, .int (nI h))] := hl
  have key : ∀ (H : Heap) (locs : List Loc), g_Mod G ad F X Y U V Z H → va_S (md_A ad) s.heap H locs → W p l e (g_rm 3 0 0) s m args below meth c H locs 0 0 Q (F0 m 0 ls []) := by
    intro H locs hM hS
    have hW := hwl.1
    have hWc : ¬ F 6 = 0 → s_ok X := fun _ => hW
    have hW9 := hW
    obtain ⟨⟨hL0, hL2, hL6⟩, ⟨hM0, hM6⟩, ⟨hG0, hG40⟩, hok⟩ := hW9
    have hw9 : s_W X ≤ 45 := by unfold s_W; omega
    have hwi := s_isWire_ok hF hW hk ha hb3
    have hin : s_in (nI h) 1 100 = true := s_in_le2 (show 1 ≤ h by omega) (show h ≤ 100 by omega) (by decide)
    refine lv_aload_n hx hb dX2_stormyHours_0 rfl (lv_at hl 0 rfl) ?_
    refine lv_aload_n hx hb dX2_stormyHours_1 rfl (lv_at hl 0 rfl) ?_
    refine g_getM hX hM 6 (by decide) q2169 rfl (v := .int (F 6)) rfl dX2_stormyHours_2 ?_
    refine lv_aload_n hx hb dX2_stormyHours_5 rfl (lv_at hl 0 rfl) ?_
    refine lv_iload_n hx hb dX2_stormyHours_6 rfl (lv_at hl 1 rfl) ?_
    refine lv_iload_n hx hb dX2_stormyHours_7 rfl (lv_at hl 2 rfl) ?_
    refine lv_iload_n hx hb dX2_stormyHours_8 rfl (lv_at hl 3 rfl) ?_
    refine g_cRV hX hl y_X2_isWire v_X2_isWire q2513 (k_X2_isWire (nI k) (nI a) (nI b)) (hM.rc hX.2.2.2) hM rfl ⟨Nat.le_of_ble_eq_true rfl, Nat.le_of_ble_eq_true rfl⟩ ⟨Nat.zero_le _, Nat.zero_le _⟩ (rest := [.int (F 6), .ref (ad 0)]) (st1 := [.int (g_b (s_isWire F X (nI k) (nI a) (nI b))), .int (F 6), .ref (ad 0)]) rfl rfl (Nat.le_of_ble_eq_true rfl) dX2_stormyHours_9 ?_
    refine lv_iload hx hb dX2_stormyHours_12 (lv_at hl 4 rfl) ?_
    refine lv_iconst (v := 1) hx hb dX2_stormyHours_14 rfl ?_
    refine lv_bipush (v := 100) hx hb dX2_stormyHours_15 (by decide) ?_
    refine g_cRS hX hl y_X2_in v_X2_in q2258 (k_X2_in (nI h) 1 100) trivial rfl ⟨Nat.le_of_ble_eq_true rfl, Nat.le_of_ble_eq_true rfl⟩ ⟨Nat.zero_le _, Nat.zero_le _⟩ (rest := [.int (g_b (s_isWire F X (nI k) (nI a) (nI b))), .int (F 6), .ref (ad 0)]) (st1 := [.int (g_b (s_in (nI h) 1 100)), .int (g_b (s_isWire F X (nI k) (nI a) (nI b))), .int (F 6), .ref (ad 0)]) rfl rfl (Nat.le_of_ble_eq_true rfl) dX2_stormyHours_17 ?_
    refine g_cMV hX hl y_X2_may v_X2_may q2261 (k_X2_may (F 6) (g_b (s_isWire F X (nI k) (nI a) (nI b))) (g_b (s_in (nI h) 1 100))) (hM.rc hX.2.2.2) hM rfl ⟨Nat.le_of_ble_eq_true rfl, Nat.le_of_ble_eq_true rfl⟩ ⟨Nat.le_refl _, Nat.le_refl _⟩ (rest := []) (st1 := [.int (g_b (decide (s_may (F 6) (g_b (s_isWire F X (nI k) (nI a) (nI b))) (g_b (s_in (nI h) 1 100)) = 0)))]) rfl rfl (Nat.le_of_ble_eq_true rfl) dX2_stormyHours_20 hS (fun _ h => h) (fun H locs hM hS _ => ?_)
    have hmy : s_may (F 6) (g_b (s_isWire F X (nI k) (nI a) (nI b))) (g_b (s_in (nI h) 1 100)) = 0 := s_may_ok hF (g_b_ne hwi) (g_b_ne hin)
    rw [hmy] at hM ⊢
    refine g_if_neB (tgt := 28) hx hb (b := decide ((0 : Int32) = 0)) rfl dX2_stormyHours_23 (by decide) (fun c_23 => ?_) (fun c_23 => ?_)
    rotate_left
    · exact Bool.noConfusion ((rfl : decide ((0 : Int32) = 0) = true).symm.trans c_23)
    refine lv_iconst (v := 0) hx hb dX2_stormyHours_28 rfl ?_
    refine lv_istore (lv' := [(5, .int 0), (0, .ref (ad 0)), (1, .int (nI k)), (2, .int (nI a)), (3, .int (nI b)), (4, .int (nI h))]) hx hb dX2_stormyHours_29 hl (by decide) rfl (fun ls hl => ?_)
    refine lv_iconst (v := 0) hx hb dX2_stormyHours_31 rfl ?_
    refine lv_istore (lv' := [(6, .int 0), (5, .int 0), (0, .ref (ad 0)), (1, .int (nI k)), (2, .int (nI a)), (3, .int (nI b)), (4, .int (nI h))]) hx hb dX2_stormyHours_32 hl (by decide) rfl (fun ls hl => ?_)
    have L34 : ∀ (nf : Nat) (H : Heap) (locs : List Loc) (j : Nat), (j ≤ h) → (h - j < nf) → (g_Mod G ad (upd F 0 0) X Y U V Z H) → va_S (md_A ad) s.heap H locs → ∀ ls : Array Slot, lv_has ls 7 [(6, .int (nI j)), (5, .int (nI (s_cnt (fun h => s_storm (X 1) (9 * k + 3 * a + b) (X 0 2 + nI h)) j))), (0, .ref (ad 0)), (1, .int (nI k)), (2, .int (nI a)), (3, .int (nI b)), (4, .int (nI h))] → W p l e (g_rm 3 0 0) s m args below meth c H locs 0 0 Q (F0 m 34 ls []) := by
      intro n34
      induction n34 with
      | zero => intro H locs j hj hn; exact absurd hn (Nat.not_lt_zero _)
      | succ n34 ih34 =>
        intro H locs j hj hn34 hM hS ls hl
        refine lv_iload hx hb dX2_stormyHours_34 (lv_at hl 0 rfl) ?_
        refine lv_iload hx hb dX2_stormyHours_36 (lv_at hl 6 rfl) ?_
        refine g_icmp_geN (tgt := 74) hx hb j h rfl rfl (by omega) (by omega) dX2_stormyHours_38 (by decide) (fun c_38 => ?_) (fun c_38 => ?_)
        · skip
          refine lv_iload hx hb dX2_stormyHours_74 (lv_at hl 1 rfl) ?_
          exact hret H locs _ _ _ _ _ dX2_stormyHours_76 hS (Nat.le_refl _) (Nat.le_refl _) (⟨by rw [show j = h by omega]; rfl, hM⟩)
        · skip
          refine lv_iload hx hb dX2_stormyHours_41 (lv_at hl 1 rfl) ?_
          refine lv_aload_n hx hb dX2_stormyHours_43 rfl (lv_at hl 2 rfl) ?_
          refine lv_iload_n hx hb dX2_stormyHours_44 rfl (lv_at hl 3 rfl) ?_
          refine lv_iload_n hx hb dX2_stormyHours_45 rfl (lv_at hl 4 rfl) ?_
          refine lv_iload_n hx hb dX2_stormyHours_46 rfl (lv_at hl 5 rfl) ?_
          refine g_cRS hX hl y_X2_wireOf v_X2_wireOf q2324 (k_X2_wireOf k a b) trivial rfl ⟨Nat.le_of_ble_eq_true rfl, Nat.le_of_ble_eq_true rfl⟩ ⟨Nat.zero_le _, Nat.zero_le _⟩ (rest := [.ref (ad 0), .int (nI (s_cnt (fun h => s_storm (X 1) (9 * k + 3 * a + b) (X 0 2 + nI h)) j))]) (st1 := [.int (nI (9 * k + 3 * a + b)), .ref (ad 0), .int (nI (s_cnt (fun h => s_storm (X 1) (9 * k + 3 * a + b) (X 0 2 + nI h)) j))]) rfl rfl (Nat.le_of_ble_eq_true rfl) dX2_stormyHours_47 ?_
          refine lv_aload_n hx hb dX2_stormyHours_50 rfl (lv_at hl 2 rfl) ?_
          refine g_getM hX hM 1 (by decide) q2164 rfl (v := .ref (ad 1)) rfl dX2_stormyHours_51 ?_
          refine lv_iconst (v := 2) hx hb dX2_stormyHours_54 rfl ?_
          refine g_iald hX hM.a1 2 rfl (by omega) (by decide) (v := (X 0 2)) rfl dX2_stormyHours_55 ?_
          refine lv_iload hx hb dX2_stormyHours_56 (lv_at hl 0 rfl) ?_
          refine lv_iadd hx hb dX2_stormyHours_58 ?_
          refine g_cRV hX hl y_X2_isStormy v_X2_isStormy q2544 (k_X2_isStormy (9 * k + 3 * a + b) ((X 0 2) + (nI j)) (by omega)) (hM.rc hX.2.2.2) hM rfl ⟨Nat.le_of_ble_eq_true rfl, Nat.le_of_ble_eq_true rfl⟩ ⟨Nat.zero_le _, Nat.zero_le _⟩ (rest := [.int (nI (s_cnt (fun h => s_storm (X 1) (9 * k + 3 * a + b) (X 0 2 + nI h)) j))]) (st1 := [.int (g_b (s_storm (X 1) (9 * k + 3 * a + b) ((X 0 2) + (nI j)))), .int (nI (s_cnt (fun h => s_storm (X 1) (9 * k + 3 * a + b) (X 0 2 + nI h)) j))]) rfl rfl (Nat.le_of_ble_eq_true rfl) dX2_stormyHours_59 ?_
          refine g_cRS hX hl y_X2_one v_X2_one q2386 (k_X2_one (s_storm (X 1) (9 * k + 3 * a + b) ((X 0 2) + (nI j)))) trivial rfl ⟨Nat.le_of_ble_eq_true rfl, Nat.le_of_ble_eq_true rfl⟩ ⟨Nat.zero_le _, Nat.zero_le _⟩ (rest := [.int (nI (s_cnt (fun h => s_storm (X 1) (9 * k + 3 * a + b) (X 0 2 + nI h)) j))]) (st1 := [.int (nI (s_n (s_storm (X 1) (9 * k + 3 * a + b) ((X 0 2) + (nI j))))), .int (nI (s_cnt (fun h => s_storm (X 1) (9 * k + 3 * a + b) (X 0 2 + nI h)) j))]) rfl rfl (Nat.le_of_ble_eq_true rfl) dX2_stormyHours_62 ?_
          refine g_iaddN hx hb (s_cnt (fun h => s_storm (X 1) (9 * k + 3 * a + b) (X 0 2 + nI h)) j) (s_n (s_storm (X 1) (9 * k + 3 * a + b) ((X 0 2) + (nI j)))) rfl rfl dX2_stormyHours_65 ?_
          refine lv_istore (lv' := [(5, .int (nI (s_cnt (fun h => s_storm (X 1) (9 * k + 3 * a + b) (X 0 2 + nI h)) j + s_n (s_storm (X 1) (9 * k + 3 * a + b) ((X 0 2) + (nI j)))))), (6, .int (nI j)), (0, .ref (ad 0)), (1, .int (nI k)), (2, .int (nI a)), (3, .int (nI b)), (4, .int (nI h))]) hx hb dX2_stormyHours_66 hl (by decide) rfl (fun ls hl => ?_)
          refine lv_iinc (v := (nI (j + 1))) (lv' := [(6, .int (nI (j + 1))), (5, .int (nI (s_cnt (fun h => s_storm (X 1) (9 * k + 3 * a + b) (X 0 2 + nI h)) j + s_n (s_storm (X 1) (9 * k + 3 * a + b) ((X 0 2) + (nI j)))))), (0, .ref (ad 0)), (1, .int (nI k)), (2, .int (nI a)), (3, .int (nI b)), (4, .int (nI h))]) hx hb dX2_stormyHours_68 hl (k := 1) rfl (nI_1 _) (by decide) rfl (fun ls hl => ?_)
          refine lv_goto (tgt := 34) hx hb dX2_stormyHours_71 (by decide) ?_
          have e_5 : (nI (s_cnt (fun h => s_storm (X 1) (9 * k + 3 * a + b) (X 0 2 + nI h)) j + s_n (s_storm (X 1) (9 * k + 3 * a + b) ((X 0 2) + (nI j))))) = (nI (s_cnt (fun h => s_storm (X 1) (9 * k + 3 * a + b) (X 0 2 + nI h)) (j + 1))) := rfl
          rw [e_5] at hl
          exact ih34 H locs (j + 1) (by omega) (by omega) hM hS ls (lv_sub hl [0, 1, 2, 3, 4, 5, 6] rfl)
    exact L34 (h - 0 + 1) H locs 0 (by omega) (Nat.lt_succ_self _) hM hS ls (lv_sub hl [0, 1, 2, 3, 4, 5, 6] rfl)
  exact key _ _ hM hS

set_option maxHeartbeats 4000000 in
theorem no_X2_stormyHours {G : g_G} {l : Launch} {ad : Nat → Nat} {F : Nat → Int32} {X Y : g_Wd} {U V : Nat → g_Wd} {Z : g_Wd} (t9 : Int32) (k : Int32) (a : Int32) (b : Int32) (h : Int32) (ht9 : ¬ t9 = 0) (hbad : s_may (F 6) (g_b (s_isWire F X k a b)) (g_b (s_in h 1 100)) = t9) (hWc : ¬ F 6 = 0 → s_ok X) : g_Md G l yX2_stormyHours cX2_stormyHours 7 (some .int) 3 0 0 [.ref (ad 0), .int k, .int a, .int b, .int h] (g_Mod G ad F X Y U V Z) (g_Qv (some (.int 0)) (g_Mod G ad (upd F 0 t9) X Y U V Z)) (md_A ad) := by
  refine g_Md.ofI (by decide) (fun _ _ _ => rfl) ?_
  intro p e s m args below meth c ls Q hX hM hl hS hret
  have hx := hX.1.1
  have hb := hX.1.2.1
  have hl : lv_has ls 7 [(0, .ref (ad 0)), (1, .int k), (2, .int a), (3, .int b), (4, .int h)] := hl
  have key : ∀ (H : Heap) (locs : List Loc), g_Mod G ad F X Y U V Z H → va_S (md_A ad) s.heap H locs → W p l e (g_rm 3 0 0) s m args below meth c H locs 0 0 Q (F0 m 0 ls []) := by
    intro H locs hM hS
    refine lv_aload_n hx hb dX2_stormyHours_0 rfl (lv_at hl 0 rfl) ?_
    refine lv_aload_n hx hb dX2_stormyHours_1 rfl (lv_at hl 0 rfl) ?_
    refine g_getM hX hM 6 (by decide) q2169 rfl (v := .int (F 6)) rfl dX2_stormyHours_2 ?_
    refine lv_aload_n hx hb dX2_stormyHours_5 rfl (lv_at hl 0 rfl) ?_
    refine lv_iload_n hx hb dX2_stormyHours_6 rfl (lv_at hl 1 rfl) ?_
    refine lv_iload_n hx hb dX2_stormyHours_7 rfl (lv_at hl 2 rfl) ?_
    refine lv_iload_n hx hb dX2_stormyHours_8 rfl (lv_at hl 3 rfl) ?_
    refine g_cRV hX hl y_X2_isWire v_X2_isWire q2513 (k_X2_isWire k a b) (hM.rc hX.2.2.2) hM rfl ⟨Nat.le_of_ble_eq_true rfl, Nat.le_of_ble_eq_true rfl⟩ ⟨Nat.zero_le _, Nat.zero_le _⟩ (rest := [.int (F 6), .ref (ad 0)]) (st1 := [.int (g_b (s_isWire F X k a b)), .int (F 6), .ref (ad 0)]) rfl rfl (Nat.le_of_ble_eq_true rfl) dX2_stormyHours_9 ?_
    refine lv_iload hx hb dX2_stormyHours_12 (lv_at hl 4 rfl) ?_
    refine lv_iconst (v := 1) hx hb dX2_stormyHours_14 rfl ?_
    refine lv_bipush (v := 100) hx hb dX2_stormyHours_15 (by decide) ?_
    refine g_cRS hX hl y_X2_in v_X2_in q2258 (k_X2_in h 1 100) trivial rfl ⟨Nat.le_of_ble_eq_true rfl, Nat.le_of_ble_eq_true rfl⟩ ⟨Nat.zero_le _, Nat.zero_le _⟩ (rest := [.int (g_b (s_isWire F X k a b)), .int (F 6), .ref (ad 0)]) (st1 := [.int (g_b (s_in h 1 100)), .int (g_b (s_isWire F X k a b)), .int (F 6), .ref (ad 0)]) rfl rfl (Nat.le_of_ble_eq_true rfl) dX2_stormyHours_17 ?_
    refine g_cMV hX hl y_X2_may v_X2_may q2261 (k_X2_may (F 6) (g_b (s_isWire F X k a b)) (g_b (s_in h 1 100))) (hM.rc hX.2.2.2) hM rfl ⟨Nat.le_of_ble_eq_true rfl, Nat.le_of_ble_eq_true rfl⟩ ⟨Nat.le_refl _, Nat.le_refl _⟩ (rest := []) (st1 := [.int (g_b (decide (s_may (F 6) (g_b (s_isWire F X k a b)) (g_b (s_in h 1 100)) = 0)))]) rfl rfl (Nat.le_of_ble_eq_true rfl) dX2_stormyHours_20 hS (fun _ h => h) (fun H locs hM hS _ => ?_)
    have hmy : s_may (F 6) (g_b (s_isWire F X k a b)) (g_b (s_in h 1 100)) = t9 := by first | exact hbad | (rw [← hbad]; simp [g_b, g_b]; done) | (rw [← hbad]; simp only [g_b, g_b]; rfl)
    rw [hmy] at hM ⊢
    refine g_if_neB (tgt := 28) hx hb (b := decide (t9 = 0)) rfl dX2_stormyHours_23 (by decide) (fun c_23 => ?_) (fun c_23 => ?_)
    · exact Bool.noConfusion ((decide_eq_false ht9).symm.trans c_23)
    skip
    refine lv_iconst (v := 0) hx hb dX2_stormyHours_26 rfl ?_
    exact hret H locs _ _ _ _ _ dX2_stormyHours_27 hS (Nat.le_refl _) (Nat.le_refl _) (⟨rfl, hM⟩)
  exact key _ _ hM hS

theorem y_X2_stormyWires : g_Y yX2_stormyWires cX2_stormyWires 5 (some .int) 2 := ⟨q2551, by decide +kernel⟩
theorem v_X2_stormyWires : g_YV yX2_stormyWires := ⟨q2549, q2550, q140⟩
set_option maxHeartbeats 4000000 in
theorem ok_X2_stormyWires {G : g_G} {l : Launch} {ad : Nat → Nat} {F : Nat → Int32} {X Y : g_Wd} {U V : Nat → g_Wd} {Z : g_Wd} (h : Nat) (q : Nat) (hF : ¬ F 6 = 0) (hwl : s_wl X) (hh : h ≤ 9999) (hq : q < 12) : g_Md G l yX2_stormyWires cX2_stormyWires 5 (some .int) 2 0 0 [.ref (ad 0), .int (nI h), .int (nI q)] (g_Mod G ad F X Y U V Z) (g_Qv (some (.int (nI (s_gWs X (nI h) (nI q))))) (g_Mod G ad (upd F 0 0) X Y U V Z)) (md_A ad) := by
  refine g_Md.ofI (by decide) (fun _ _ _ => rfl) ?_
  intro p e s m args below meth c ls Q hX hM hl hS hret
  have hx := hX.1.1
  have hb := hX.1.2.1
  have hl : lv_has ls 5 [(0, .ref (ad 0)), (1, .int (nI h)), (2, .int (nI q))] := hl
  have key : ∀ (H : Heap) (locs : List Loc), g_Mod G ad F X Y U V Z H → va_S (md_A ad) s.heap H locs → W p l e (g_rm 2 0 0) s m args below meth c H locs 0 0 Q (F0 m 0 ls []) := by
    intro H locs hM hS
    have hW := hwl.1
    have hWc : ¬ F 6 = 0 → s_ok X := fun _ => hW
    have hW9 := hW
    obtain ⟨⟨hL0, hL2, hL6⟩, ⟨hM0, hM6⟩, ⟨hG0, hG40⟩, hok⟩ := hW9
    have hw9 : s_W X ≤ 45 := by unfold s_W; omega
    have hi1 : s_in (nI h) 0 9999 = true := s_in_le (show h ≤ 9999 by omega) (by decide)
    have hi2 : s_in (nI q) 0 11 = true := s_in_le (show q ≤ 11 by omega) (by decide)
    refine lv_aload_n hx hb dX2_stormyWires_0 rfl (lv_at hl 0 rfl) ?_
    refine lv_aload_n hx hb dX2_stormyWires_1 rfl (lv_at hl 0 rfl) ?_
    refine g_getM hX hM 6 (by decide) q2169 rfl (v := .int (F 6)) rfl dX2_stormyWires_2 ?_
    refine lv_iload_n hx hb dX2_stormyWires_5 rfl (lv_at hl 1 rfl) ?_
    refine lv_iconst (v := 0) hx hb dX2_stormyWires_6 rfl ?_
    refine lv_sipush (v := 9999) hx hb dX2_stormyWires_7 (by decide) ?_
    refine g_cRS hX hl y_X2_in v_X2_in q2258 (k_X2_in (nI h) 0 9999) trivial rfl ⟨Nat.le_of_ble_eq_true rfl, Nat.le_of_ble_eq_true rfl⟩ ⟨Nat.zero_le _, Nat.zero_le _⟩ (rest := [.int (F 6), .ref (ad 0)]) (st1 := [.int (g_b (s_in (nI h) 0 9999)), .int (F 6), .ref (ad 0)]) rfl rfl (Nat.le_of_ble_eq_true rfl) dX2_stormyWires_10 ?_
    refine g_if_eqB (tgt := 30) hx hb (b := s_in (nI h) 0 9999) rfl dX2_stormyWires_13 (by decide) (fun c_13 => ?_) (fun c_13 => ?_)
    · exact Bool.noConfusion (hi1.symm.trans c_13)
    skip
    refine lv_iload_n hx hb dX2_stormyWires_16 rfl (lv_at hl 2 rfl) ?_
    refine lv_iconst (v := 0) hx hb dX2_stormyWires_17 rfl ?_
    refine lv_bipush (v := 11) hx hb dX2_stormyWires_18 (by decide) ?_
    refine g_cRS hX hl y_X2_in v_X2_in q2258 (k_X2_in (nI q) 0 11) trivial rfl ⟨Nat.le_of_ble_eq_true rfl, Nat.le_of_ble_eq_true rfl⟩ ⟨Nat.zero_le _, Nat.zero_le _⟩ (rest := [.int (F 6), .ref (ad 0)]) (st1 := [.int (g_b (s_in (nI q) 0 11)), .int (F 6), .ref (ad 0)]) rfl rfl (Nat.le_of_ble_eq_true rfl) dX2_stormyWires_20 ?_
    refine g_if_eqB (tgt := 30) hx hb (b := s_in (nI q) 0 11) rfl dX2_stormyWires_23 (by decide) (fun c_23 => ?_) (fun c_23 => ?_)
    · exact Bool.noConfusion (hi2.symm.trans c_23)
    skip
    refine lv_iconst (v := 1) hx hb dX2_stormyWires_26 rfl ?_
    refine lv_goto (tgt := 31) hx hb dX2_stormyWires_27 (by decide) ?_
    refine g_cMV hX hl y_X2_mayTwo v_X2_mayTwo q2501 (k_X2_mayTwo (F 6) 1) (hM.rc hX.2.2.2) hM rfl ⟨Nat.le_of_ble_eq_true rfl, Nat.le_of_ble_eq_true rfl⟩ ⟨Nat.le_refl _, Nat.le_refl _⟩ (rest := []) (st1 := [.int (g_b (decide (s_may (F 6) 1 1 = 0)))]) rfl rfl (Nat.le_of_ble_eq_true rfl) dX2_stormyWires_31 hS (fun _ h => h) (fun H locs hM hS _ => ?_)
    have hmy : s_may (F 6) 1 1 = 0 := s_may_ok hF (by decide) (by decide)
    rw [hmy] at hM ⊢
    refine g_if_neB (tgt := 39) hx hb (b := decide ((0 : Int32) = 0)) rfl dX2_stormyWires_34 (by decide) (fun c_34 => ?_) (fun c_34 => ?_)
    rotate_left
    · exact Bool.noConfusion ((rfl : decide ((0 : Int32) = 0) = true).symm.trans c_34)
    refine lv_iconst (v := 0) hx hb dX2_stormyWires_39 rfl ?_
    refine lv_istore_n (lv' := [(3, .int 0), (0, .ref (ad 0)), (1, .int (nI h)), (2, .int (nI q))]) hx hb dX2_stormyWires_40 rfl hl (by decide) rfl (fun ls hl => ?_)
    refine lv_iconst (v := 0) hx hb dX2_stormyWires_41 rfl ?_
    refine lv_istore (lv' := [(4, .int 0), (3, .int 0), (0, .ref (ad 0)), (1, .int (nI h)), (2, .int (nI q))]) hx hb dX2_stormyWires_42 hl (by decide) rfl (fun ls hl => ?_)
    have L44 : ∀ (nf : Nat) (H : Heap) (locs : List Loc) (j : Nat), (j ≤ 9 * (s_L X - 1)) → (9 * (s_L X - 1) - j < nf) → (g_Mod G ad (upd F 0 0) X Y U V Z H) → va_S (md_A ad) s.heap H locs → ∀ ls : Array Slot, lv_has ls 5 [(4, .int (nI j)), (3, .int (nI (s_cnt (fun w => s_garb (X 1) w (nI h) (nI q)) j))), (0, .ref (ad 0)), (1, .int (nI h)), (2, .int (nI q))] → W p l e (g_rm 2 0 0) s m args below meth c H locs 0 0 Q (F0 m 44 ls []) := by
      intro n44
      induction n44 with
      | zero => intro H locs j hj hn; exact absurd hn (Nat.not_lt_zero _)
      | succ n44 ih44 =>
        intro H locs j hj hn44 hM hS ls hl
        refine lv_iload hx hb dX2_stormyWires_44 (lv_at hl 0 rfl) ?_
        refine lv_bipush (v := 9) hx hb dX2_stormyWires_46 (by decide) ?_
        refine lv_aload_n hx hb dX2_stormyWires_48 rfl (lv_at hl 2 rfl) ?_
        refine g_cRV hX hl y_X2_lastLevel v_X2_lastLevel q2440 (k_X2_lastLevel hW) (hM.rc hX.2.2.2) hM rfl ⟨Nat.le_of_ble_eq_true rfl, Nat.le_of_ble_eq_true rfl⟩ ⟨Nat.zero_le _, Nat.zero_le _⟩ (rest := [.int 9, .int (nI j)]) (st1 := [.int (nI (s_L X - 1)), .int 9, .int (nI j)]) rfl rfl (Nat.le_of_ble_eq_true rfl) dX2_stormyWires_49 ?_
        refine g_imulN hx hb 9 (s_L X - 1) rfl rfl dX2_stormyWires_52 ?_
        refine g_icmp_geN (tgt := 76) hx hb j (9 * (s_L X - 1)) rfl rfl (by omega) (by omega) dX2_stormyWires_53 (by decide) (fun c_53 => ?_) (fun c_53 => ?_)
        · skip
          refine lv_iload_n hx hb dX2_stormyWires_76 rfl (lv_at hl 1 rfl) ?_
          exact hret H locs _ _ _ _ _ dX2_stormyWires_77 hS (Nat.le_refl _) (Nat.le_refl _) (⟨by rw [show j = 9 * (s_L X - 1) by omega]; rfl, hM⟩)
        · skip
          refine lv_iload_n hx hb dX2_stormyWires_56 rfl (lv_at hl 1 rfl) ?_
          refine lv_aload_n hx hb dX2_stormyWires_57 rfl (lv_at hl 2 rfl) ?_
          refine lv_iload hx hb dX2_stormyWires_58 (lv_at hl 0 rfl) ?_
          refine lv_iload_n hx hb dX2_stormyWires_60 rfl (lv_at hl 3 rfl) ?_
          refine lv_iload_n hx hb dX2_stormyWires_61 rfl (lv_at hl 4 rfl) ?_
          refine g_cRV hX hl y_X2_isGarbled v_X2_isGarbled q2421 (k_X2_isGarbled j (nI h) (nI q) (by omega)) (hM.rc hX.2.2.2) hM rfl ⟨Nat.le_of_ble_eq_true rfl, Nat.le_of_ble_eq_true rfl⟩ ⟨Nat.zero_le _, Nat.zero_le _⟩ (rest := [.int (nI (s_cnt (fun w => s_garb (X 1) w (nI h) (nI q)) j))]) (st1 := [.int (g_b (s_garb (X 1) j (nI h) (nI q))), .int (nI (s_cnt (fun w => s_garb (X 1) w (nI h) (nI q)) j))]) rfl rfl (Nat.le_of_ble_eq_true rfl) dX2_stormyWires_62 ?_
          refine g_cRS hX hl y_X2_one v_X2_one q2386 (k_X2_one (s_garb (X 1) j (nI h) (nI q))) trivial rfl ⟨Nat.le_of_ble_eq_true rfl, Nat.le_of_ble_eq_true rfl⟩ ⟨Nat.zero_le _, Nat.zero_le _⟩ (rest := [.int (nI (s_cnt (fun w => s_garb (X 1) w (nI h) (nI q)) j))]) (st1 := [.int (nI (s_n (s_garb (X 1) j (nI h) (nI q)))), .int (nI (s_cnt (fun w => s_garb (X 1) w (nI h) (nI q)) j))]) rfl rfl (Nat.le_of_ble_eq_true rfl) dX2_stormyWires_65 ?_
          refine g_iaddN hx hb (s_cnt (fun w => s_garb (X 1) w (nI h) (nI q)) j) (s_n (s_garb (X 1) j (nI h) (nI q))) rfl rfl dX2_stormyWires_68 ?_
          refine lv_istore_n (lv' := [(3, .int (nI (s_cnt (fun w => s_garb (X 1) w (nI h) (nI q)) j + s_n (s_garb (X 1) j (nI h) (nI q))))), (4, .int (nI j)), (0, .ref (ad 0)), (1, .int (nI h)), (2, .int (nI q))]) hx hb dX2_stormyWires_69 rfl hl (by decide) rfl (fun ls hl => ?_)
          refine lv_iinc (v := (nI (j + 1))) (lv' := [(4, .int (nI (j + 1))), (3, .int (nI (s_cnt (fun w => s_garb (X 1) w (nI h) (nI q)) j + s_n (s_garb (X 1) j (nI h) (nI q))))), (0, .ref (ad 0)), (1, .int (nI h)), (2, .int (nI q))]) hx hb dX2_stormyWires_70 hl (k := 1) rfl (nI_1 _) (by decide) rfl (fun ls hl => ?_)
          refine lv_goto (tgt := 44) hx hb dX2_stormyWires_73 (by decide) ?_
          have e_3 : (nI (s_cnt (fun w => s_garb (X 1) w (nI h) (nI q)) j + s_n (s_garb (X 1) j (nI h) (nI q)))) = (nI (s_cnt (fun w => s_garb (X 1) w (nI h) (nI q)) (j + 1))) := rfl
          rw [e_3] at hl
          exact ih44 H locs (j + 1) (by omega) (by omega) hM hS ls (lv_sub hl [0, 1, 2, 3, 4] rfl)
    exact L44 (9 * (s_L X - 1) - 0 + 1) H locs 0 (by omega) (Nat.lt_succ_self _) hM hS ls (lv_sub hl [0, 1, 2, 3, 4] rfl)
  exact key _ _ hM hS

set_option maxHeartbeats 4000000 in
theorem no_X2_stormyWires {G : g_G} {l : Launch} {ad : Nat → Nat} {F : Nat → Int32} {X Y : g_Wd} {U V : Nat → g_Wd} {Z : g_Wd} (t9 : Int32) (h : Int32) (q : Int32) (ht9 : ¬ t9 = 0) (hbad : s_may (F 6) (g_b (s_in h 0 9999 && s_in q 0 11)) 1 = t9) (hWc : ¬ F 6 = 0 → s_ok X) : g_Md G l yX2_stormyWires cX2_stormyWires 5 (some .int) 2 0 0 [.ref (ad 0), .int h, .int q] (g_Mod G ad F X Y U V Z) (g_Qv (some (.int 0)) (g_Mod G ad (upd F 0 t9) X Y U V Z)) (md_A ad) := by
  refine g_Md.ofI (by decide) (fun _ _ _ => rfl) ?_
  intro p e s m args below meth c ls Q hX hM hl hS hret
  have hx := hX.1.1
  have hb := hX.1.2.1
  have hl : lv_has ls 5 [(0, .ref (ad 0)), (1, .int h), (2, .int q)] := hl
  have key : ∀ (H : Heap) (locs : List Loc), g_Mod G ad F X Y U V Z H → va_S (md_A ad) s.heap H locs → W p l e (g_rm 2 0 0) s m args below meth c H locs 0 0 Q (F0 m 0 ls []) := by
    intro H locs hM hS
    refine lv_aload_n hx hb dX2_stormyWires_0 rfl (lv_at hl 0 rfl) ?_
    refine lv_aload_n hx hb dX2_stormyWires_1 rfl (lv_at hl 0 rfl) ?_
    refine g_getM hX hM 6 (by decide) q2169 rfl (v := .int (F 6)) rfl dX2_stormyWires_2 ?_
    refine lv_iload_n hx hb dX2_stormyWires_5 rfl (lv_at hl 1 rfl) ?_
    refine lv_iconst (v := 0) hx hb dX2_stormyWires_6 rfl ?_
    refine lv_sipush (v := 9999) hx hb dX2_stormyWires_7 (by decide) ?_
    refine g_cRS hX hl y_X2_in v_X2_in q2258 (k_X2_in h 0 9999) trivial rfl ⟨Nat.le_of_ble_eq_true rfl, Nat.le_of_ble_eq_true rfl⟩ ⟨Nat.zero_le _, Nat.zero_le _⟩ (rest := [.int (F 6), .ref (ad 0)]) (st1 := [.int (g_b (s_in h 0 9999)), .int (F 6), .ref (ad 0)]) rfl rfl (Nat.le_of_ble_eq_true rfl) dX2_stormyWires_10 ?_
    refine g_if_eqB (tgt := 30) hx hb (b := s_in h 0 9999) rfl dX2_stormyWires_13 (by decide) (fun c_13 => ?_) (fun c_13 => ?_)
    · skip
      refine lv_iconst (v := 0) hx hb dX2_stormyWires_30 rfl ?_
      refine g_cMV hX hl y_X2_mayTwo v_X2_mayTwo q2501 (k_X2_mayTwo (F 6) 0) (hM.rc hX.2.2.2) hM rfl ⟨Nat.le_of_ble_eq_true rfl, Nat.le_of_ble_eq_true rfl⟩ ⟨Nat.le_refl _, Nat.le_refl _⟩ (rest := []) (st1 := [.int (g_b (decide (s_may (F 6) 0 1 = 0)))]) rfl rfl (Nat.le_of_ble_eq_true rfl) dX2_stormyWires_31 hS (fun _ h => h) (fun H locs hM hS _ => ?_)
      have hmy : s_may (F 6) 0 1 = t9 := by first | exact hbad | (rw [← hbad]; simp [g_b, c_13]; done) | (rw [← hbad]; simp only [g_b, c_13]; rfl)
      rw [hmy] at hM ⊢
      refine g_if_neB (tgt := 39) hx hb (b := decide (t9 = 0)) rfl dX2_stormyWires_34 (by decide) (fun c_34 => ?_) (fun c_34 => ?_)
      · exact Bool.noConfusion ((decide_eq_false ht9).symm.trans c_34)
      skip
      refine lv_iconst (v := 0) hx hb dX2_stormyWires_37 rfl ?_
      exact hret H locs _ _ _ _ _ dX2_stormyWires_38 hS (Nat.le_refl _) (Nat.le_refl _) (⟨rfl, hM⟩)
    · skip
      refine lv_iload_n hx hb dX2_stormyWires_16 rfl (lv_at hl 2 rfl) ?_
      refine lv_iconst (v := 0) hx hb dX2_stormyWires_17 rfl ?_
      refine lv_bipush (v := 11) hx hb dX2_stormyWires_18 (by decide) ?_
      refine g_cRS hX hl y_X2_in v_X2_in q2258 (k_X2_in q 0 11) trivial rfl ⟨Nat.le_of_ble_eq_true rfl, Nat.le_of_ble_eq_true rfl⟩ ⟨Nat.zero_le _, Nat.zero_le _⟩ (rest := [.int (F 6), .ref (ad 0)]) (st1 := [.int (g_b (s_in q 0 11)), .int (F 6), .ref (ad 0)]) rfl rfl (Nat.le_of_ble_eq_true rfl) dX2_stormyWires_20 ?_
      refine g_if_eqB (tgt := 30) hx hb (b := s_in q 0 11) rfl dX2_stormyWires_23 (by decide) (fun c_23 => ?_) (fun c_23 => ?_)
      · skip
        refine lv_iconst (v := 0) hx hb dX2_stormyWires_30 rfl ?_
        refine g_cMV hX hl y_X2_mayTwo v_X2_mayTwo q2501 (k_X2_mayTwo (F 6) 0) (hM.rc hX.2.2.2) hM rfl ⟨Nat.le_of_ble_eq_true rfl, Nat.le_of_ble_eq_true rfl⟩ ⟨Nat.le_refl _, Nat.le_refl _⟩ (rest := []) (st1 := [.int (g_b (decide (s_may (F 6) 0 1 = 0)))]) rfl rfl (Nat.le_of_ble_eq_true rfl) dX2_stormyWires_31 hS (fun _ h => h) (fun H locs hM hS _ => ?_)
        have hmy : s_may (F 6) 0 1 = t9 := by first | exact hbad | (rw [← hbad]; simp [g_b, c_13, c_23]; done) | (rw [← hbad]; simp only [g_b, c_13, c_23]; rfl)
        rw [hmy] at hM ⊢
        refine g_if_neB (tgt := 39) hx hb (b := decide (t9 = 0)) rfl dX2_stormyWires_34 (by decide) (fun c_34 => ?_) (fun c_34 => ?_)
        · exact Bool.noConfusion ((decide_eq_false ht9).symm.trans c_34)
        skip
        refine lv_iconst (v := 0) hx hb dX2_stormyWires_37 rfl ?_
        exact hret H locs _ _ _ _ _ dX2_stormyWires_38 hS (Nat.le_refl _) (Nat.le_refl _) (⟨rfl, hM⟩)
      · skip
        refine lv_iconst (v := 1) hx hb dX2_stormyWires_26 rfl ?_
        refine lv_goto (tgt := 31) hx hb dX2_stormyWires_27 (by decide) ?_
        refine g_cMV hX hl y_X2_mayTwo v_X2_mayTwo q2501 (k_X2_mayTwo (F 6) 1) (hM.rc hX.2.2.2) hM rfl ⟨Nat.le_of_ble_eq_true rfl, Nat.le_of_ble_eq_true rfl⟩ ⟨Nat.le_refl _, Nat.le_refl _⟩ (rest := []) (st1 := [.int (g_b (decide (s_may (F 6) 1 1 = 0)))]) rfl rfl (Nat.le_of_ble_eq_true rfl) dX2_stormyWires_31 hS (fun _ h => h) (fun H locs hM hS _ => ?_)
        have hmy : s_may (F 6) 1 1 = t9 := by first | exact hbad | (rw [← hbad]; simp [g_b, c_13, c_23]; done) | (rw [← hbad]; simp only [g_b, c_13, c_23]; rfl)
        rw [hmy] at hM ⊢
        refine g_if_neB (tgt := 39) hx hb (b := decide (t9 = 0)) rfl dX2_stormyWires_34 (by decide) (fun c_34 => ?_) (fun c_34 => ?_)
        · exact Bool.noConfusion ((decide_eq_false ht9).symm.trans c_34)
        skip
        refine lv_iconst (v := 0) hx hb dX2_stormyWires_37 rfl ?_
        exact hret H locs _ _ _ _ _ dX2_stormyWires_38 hS (Nat.le_refl _) (Nat.le_refl _) (⟨rfl, hM⟩)
  exact key _ _ hM hS

theorem y_X2_calmest : g_Y yX2_calmest cX2_calmest 6 (some .int) 1 := ⟨q2555, by decide +kernel⟩
theorem v_X2_calmest : g_YV yX2_calmest := ⟨q2553, q2554, q140⟩
set_option maxHeartbeats 4000000 in
theorem ok_X2_calmest {G : g_G} {l : Launch} {ad : Nat → Nat} {F : Nat → Int32} {X Y : g_Wd} {U V : Nat → g_Wd} {Z : g_Wd} (h : Nat) (hF : ¬ F 6 = 0) (hwl : s_wl X) (h1 : 1 ≤ h) (h100 : h ≤ 100) (hH : X 0 2 = nI (s_H X)) (hH2 : s_H X < 2 ^ 30) : g_Md G l yX2_calmest cX2_calmest 6 (some .int) 3 0 0 [.ref (ad 0), .int (nI h)] (g_Mod G ad F X Y U V Z) (g_Qv (some (.int ((s_calm X (h - 1)).1))) (g_Mod G ad (upd F 0 0) X Y U V Z)) (md_A ad) := by
  refine g_Md.ofI (by decide) (fun _ _ _ => rfl) ?_
  intro p e s m args below meth c ls Q hX hM hl hS hret
  have hx := hX.1.1
  have hb := hX.1.2.1
  have hl : lv_has ls 6 [(0, .ref (ad 0)), (1, .int (nI h))] := hl
  have key : ∀ (H : Heap) (locs : List Loc), g_Mod G ad F X Y U V Z H → va_S (md_A ad) s.heap H locs → W p l e (g_rm 3 0 0) s m args below meth c H locs 0 0 Q (F0 m 0 ls []) := by
    intro H locs hM hS
    have hW := hwl.1
    have hWc : ¬ F 6 = 0 → s_ok X := fun _ => hW
    have hW9 := hW
    obtain ⟨⟨hL0, hL2, hL6⟩, ⟨hM0, hM6⟩, ⟨hG0, hG40⟩, hok⟩ := hW9
    have hw9 : s_W X ≤ 45 := by unfold s_W; omega
    have hin : s_in (nI h) 1 100 = true := s_in_le2 (show 1 ≤ h by omega) (show h ≤ 100 by omega) (by decide)
    have hgl : ∀ v, s_gIn X v ≤ 12 * s_W X := fun v => s_sum_le (fun w => s_cnt_le _ 12) _
    have hcl : ∀ k, (s_calm X k).2 ≤ 12 * s_W X := fun k => s_calm_b X k hgl
    refine lv_aload_n hx hb dX2_calmest_0 rfl (lv_at hl 0 rfl) ?_
    refine lv_aload_n hx hb dX2_calmest_1 rfl (lv_at hl 0 rfl) ?_
    refine g_getM hX hM 6 (by decide) q2169 rfl (v := .int (F 6)) rfl dX2_calmest_2 ?_
    refine lv_iload_n hx hb dX2_calmest_5 rfl (lv_at hl 1 rfl) ?_
    refine lv_iconst (v := 1) hx hb dX2_calmest_6 rfl ?_
    refine lv_bipush (v := 100) hx hb dX2_calmest_7 (by decide) ?_
    refine g_cRS hX hl y_X2_in v_X2_in q2258 (k_X2_in (nI h) 1 100) trivial rfl ⟨Nat.le_of_ble_eq_true rfl, Nat.le_of_ble_eq_true rfl⟩ ⟨Nat.zero_le _, Nat.zero_le _⟩ (rest := [.int (F 6), .ref (ad 0)]) (st1 := [.int (g_b (s_in (nI h) 1 100)), .int (F 6), .ref (ad 0)]) rfl rfl (Nat.le_of_ble_eq_true rfl) dX2_calmest_9 ?_
    refine g_cMV hX hl y_X2_mayTwo v_X2_mayTwo q2501 (k_X2_mayTwo (F 6) (g_b (s_in (nI h) 1 100))) (hM.rc hX.2.2.2) hM rfl ⟨Nat.le_of_ble_eq_true rfl, Nat.le_of_ble_eq_true rfl⟩ ⟨Nat.le_refl _, Nat.le_refl _⟩ (rest := []) (st1 := [.int (g_b (decide (s_may (F 6) (g_b (s_in (nI h) 1 100)) 1 = 0)))]) rfl rfl (Nat.le_of_ble_eq_true rfl) dX2_calmest_12 hS (fun _ h => h) (fun H locs hM hS _ => ?_)
    have hmy : s_may (F 6) (g_b (s_in (nI h) 1 100)) 1 = 0 := s_may_ok hF (g_b_ne hin) (by decide)
    rw [hmy] at hM ⊢
    refine g_if_neB (tgt := 20) hx hb (b := decide ((0 : Int32) = 0)) rfl dX2_calmest_15 (by decide) (fun c_15 => ?_) (fun c_15 => ?_)
    rotate_left
    · exact Bool.noConfusion ((rfl : decide ((0 : Int32) = 0) = true).symm.trans c_15)
    refine lv_aload_n hx hb dX2_calmest_20 rfl (lv_at hl 0 rfl) ?_
    refine g_getM hX hM 1 (by decide) q2164 rfl (v := .ref (ad 1)) rfl dX2_calmest_21 ?_
    refine lv_iconst (v := 2) hx hb dX2_calmest_24 rfl ?_
    refine g_iald hX hM.a1 2 rfl (by omega) (by decide) (v := (X 0 2)) rfl dX2_calmest_25 ?_
    refine lv_istore_n (lv' := [(2, .int (X 0 2)), (0, .ref (ad 0)), (1, .int (nI h))]) hx hb dX2_calmest_26 rfl hl (by decide) rfl (fun ls hl => ?_)
    refine lv_aload_n hx hb dX2_calmest_27 rfl (lv_at hl 1 rfl) ?_
    refine lv_iload_n hx hb dX2_calmest_28 rfl (lv_at hl 0 rfl) ?_
    refine g_cRV hX hl y_X2_garbledIn v_X2_garbledIn q2556 (k_X2_garbledIn (X 0 2) hW) (hM.rc hX.2.2.2) hM rfl ⟨Nat.le_of_ble_eq_true rfl, Nat.le_of_ble_eq_true rfl⟩ ⟨Nat.zero_le _, Nat.zero_le _⟩ (rest := []) (st1 := [.int (nI (s_gIn X (X 0 2)))]) rfl rfl (Nat.le_of_ble_eq_true rfl) dX2_calmest_29 ?_
    refine lv_istore_n (lv' := [(3, .int (nI (s_gIn X (X 0 2)))), (2, .int (X 0 2)), (0, .ref (ad 0)), (1, .int (nI h))]) hx hb dX2_calmest_32 rfl hl (by decide) rfl (fun ls hl => ?_)
    refine lv_aload_n hx hb dX2_calmest_33 rfl (lv_at hl 2 rfl) ?_
    refine g_getM hX hM 1 (by decide) q2164 rfl (v := .ref (ad 1)) rfl dX2_calmest_34 ?_
    refine lv_iconst (v := 2) hx hb dX2_calmest_37 rfl ?_
    refine g_iald hX hM.a1 2 rfl (by omega) (by decide) (v := (X 0 2)) rfl dX2_calmest_38 ?_
    refine lv_iconst (v := 1) hx hb dX2_calmest_39 rfl ?_
    refine g_iaddN hx hb (s_H X) 1 hH rfl dX2_calmest_40 ?_
    refine lv_istore (lv' := [(4, .int (nI (s_H X + 1))), (3, .int (nI (s_gIn X (X 0 2)))), (2, .int (X 0 2)), (0, .ref (ad 0)), (1, .int (nI h))]) hx hb dX2_calmest_41 hl (by decide) rfl (fun ls hl => ?_)
    have L43 : ∀ (nf : Nat) (H : Heap) (locs : List Loc) (j : Nat), (j ≤ h - 1) → (h - 1 - j < nf) → (g_Mod G ad (upd F 0 0) X Y U V Z H) → va_S (md_A ad) s.heap H locs → ∀ ls : Array Slot, lv_has ls 6 [(4, .int (nI (s_H X + 1 + j))), (2, .int ((s_calm X j).1)), (3, .int (nI ((s_calm X j).2))), (0, .ref (ad 0)), (1, .int (nI h))] → W p l e (g_rm 3 0 0) s m args below meth c H locs 0 0 Q (F0 m 43 ls []) := by
      intro n43
      induction n43 with
      | zero => intro H locs j hj hn; exact absurd hn (Nat.not_lt_zero _)
      | succ n43 ih43 =>
        intro H locs j hj hn43 hM hS ls hl
        have hg1 := hgl (nI (s_H X + 1 + j))
        have hc1 := hcl j
        refine lv_iload hx hb dX2_calmest_43 (lv_at hl 0 rfl) ?_
        refine lv_aload_n hx hb dX2_calmest_45 rfl (lv_at hl 3 rfl) ?_
        refine g_getM hX hM 1 (by decide) q2164 rfl (v := .ref (ad 1)) rfl dX2_calmest_46 ?_
        refine lv_iconst (v := 2) hx hb dX2_calmest_49 rfl ?_
        refine g_iald hX hM.a1 2 rfl (by omega) (by decide) (v := (X 0 2)) rfl dX2_calmest_50 ?_
        refine lv_iload_n hx hb dX2_calmest_51 rfl (lv_at hl 4 rfl) ?_
        refine g_iaddN hx hb (s_H X) h hH rfl dX2_calmest_52 ?_
        refine g_icmp_geN (tgt := 85) hx hb (s_H X + 1 + j) (s_H X + h) rfl rfl (by omega) (by omega) dX2_calmest_53 (by decide) (fun c_53 => ?_) (fun c_53 => ?_)
        · skip
          refine lv_iload_n hx hb dX2_calmest_85 rfl (lv_at hl 1 rfl) ?_
          exact hret H locs _ _ _ _ _ dX2_calmest_86 hS (Nat.le_refl _) (Nat.le_refl _) (⟨by rw [show h - 1 = j by omega], hM⟩)
        · skip
          refine lv_aload_n hx hb dX2_calmest_56 rfl (lv_at hl 3 rfl) ?_
          refine lv_iload hx hb dX2_calmest_57 (lv_at hl 0 rfl) ?_
          refine g_cRV hX hl y_X2_garbledIn v_X2_garbledIn q2556 (k_X2_garbledIn (nI (s_H X + 1 + j)) hW) (hM.rc hX.2.2.2) hM rfl ⟨Nat.le_of_ble_eq_true rfl, Nat.le_of_ble_eq_true rfl⟩ ⟨Nat.zero_le _, Nat.zero_le _⟩ (rest := []) (st1 := [.int (nI (s_gIn X (nI (s_H X + 1 + j))))]) rfl rfl (Nat.le_of_ble_eq_true rfl) dX2_calmest_59 ?_
          refine lv_istore (lv' := [(5, .int (nI (s_gIn X (nI (s_H X + 1 + j))))), (4, .int (nI (s_H X + 1 + j))), (2, .int ((s_calm X j).1)), (3, .int (nI ((s_calm X j).2))), (0, .ref (ad 0)), (1, .int (nI h))]) hx hb dX2_calmest_62 hl (by decide) rfl (fun ls hl => ?_)
          refine lv_iload hx hb dX2_calmest_64 (lv_at hl 0 rfl) ?_
          refine lv_iload_n hx hb dX2_calmest_66 rfl (lv_at hl 3 rfl) ?_
          refine g_icmp_ltN (tgt := 73) hx hb (s_gIn X (nI (s_H X + 1 + j))) ((s_calm X j).2) rfl rfl (by omega) (by omega) dX2_calmest_67 (by decide) (fun c_67 => ?_) (fun c_67 => ?_)
          · skip
            refine lv_iload hx hb dX2_calmest_73 (lv_at hl 0 rfl) ?_
            refine lv_istore_n (lv' := [(3, .int (nI (s_gIn X (nI (s_H X + 1 + j))))), (5, .int (nI (s_gIn X (nI (s_H X + 1 + j))))), (4, .int (nI (s_H X + 1 + j))), (2, .int ((s_calm X j).1)), (0, .ref (ad 0)), (1, .int (nI h))]) hx hb dX2_calmest_75 rfl hl (by decide) rfl (fun ls hl => ?_)
            refine lv_iload hx hb dX2_calmest_76 (lv_at hl 2 rfl) ?_
            refine lv_istore_n (lv' := [(2, .int (nI (s_H X + 1 + j))), (3, .int (nI (s_gIn X (nI (s_H X + 1 + j))))), (5, .int (nI (s_gIn X (nI (s_H X + 1 + j))))), (4, .int (nI (s_H X + 1 + j))), (0, .ref (ad 0)), (1, .int (nI h))]) hx hb dX2_calmest_78 rfl hl (by decide) rfl (fun ls hl => ?_)
            refine lv_iinc (v := (nI (s_H X + 1 + j + 1))) (lv' := [(4, .int (nI (s_H X + 1 + j + 1))), (2, .int (nI (s_H X + 1 + j))), (3, .int (nI (s_gIn X (nI (s_H X + 1 + j))))), (5, .int (nI (s_gIn X (nI (s_H X + 1 + j))))), (0, .ref (ad 0)), (1, .int (nI h))]) hx hb dX2_calmest_79 hl (k := 3) rfl (nI_1 _) (by decide) rfl (fun ls hl => ?_)
            refine lv_goto (tgt := 43) hx hb dX2_calmest_82 (by decide) ?_
            have e_3 : (nI (s_gIn X (nI (s_H X + 1 + j)))) = (nI ((s_calm X (j + 1)).2)) := by congr 1; simp [s_calm]; grind
            rw [e_3] at hl
            have e_2 : (nI (s_H X + 1 + j)) = ((s_calm X (j + 1)).1) := by simp [s_calm]; grind
            rw [e_2] at hl
            exact ih43 H locs (j + 1) (by omega) (by omega) hM hS ls (lv_sub hl [0, 1, 2, 4, 5] rfl)
          · skip
            refine lv_goto (tgt := 79) hx hb dX2_calmest_70 (by decide) ?_
            refine lv_iinc (v := (nI (s_H X + 1 + j + 1))) (lv' := [(4, .int (nI (s_H X + 1 + j + 1))), (5, .int (nI (s_gIn X (nI (s_H X + 1 + j))))), (2, .int ((s_calm X j).1)), (3, .int (nI ((s_calm X j).2))), (0, .ref (ad 0)), (1, .int (nI h))]) hx hb dX2_calmest_79 hl (k := 1) rfl (nI_1 _) (by decide) rfl (fun ls hl => ?_)
            refine lv_goto (tgt := 43) hx hb dX2_calmest_82 (by decide) ?_
            have e_3 : (nI ((s_calm X j).2)) = (nI ((s_calm X (j + 1)).2)) := by congr 1; simp [s_calm]; grind
            rw [e_3] at hl
            have e_2 : ((s_calm X j).1) = ((s_calm X (j + 1)).1) := by simp [s_calm]; grind
            rw [e_2] at hl
            exact ih43 H locs (j + 1) (by omega) (by omega) hM hS ls (lv_sub hl [0, 2, 3, 4, 5] rfl)
    exact L43 (h - 1 - 0 + 1) H locs 0 (by omega) (Nat.lt_succ_self _) hM hS ls (lv_sub hl [0, 2, 1, 3, 4] rfl)
  exact key _ _ hM hS

set_option maxHeartbeats 4000000 in
theorem no_X2_calmest {G : g_G} {l : Launch} {ad : Nat → Nat} {F : Nat → Int32} {X Y : g_Wd} {U V : Nat → g_Wd} {Z : g_Wd} (t9 : Int32) (h : Int32) (ht9 : ¬ t9 = 0) (hbad : s_may (F 6) (g_b (s_in h 1 100)) 1 = t9) (hWc : ¬ F 6 = 0 → s_ok X) : g_Md G l yX2_calmest cX2_calmest 6 (some .int) 2 0 0 [.ref (ad 0), .int h] (g_Mod G ad F X Y U V Z) (g_Qv (some (.int 0)) (g_Mod G ad (upd F 0 t9) X Y U V Z)) (md_A ad) := by
  refine g_Md.ofI (by decide) (fun _ _ _ => rfl) ?_
  intro p e s m args below meth c ls Q hX hM hl hS hret
  have hx := hX.1.1
  have hb := hX.1.2.1
  have hl : lv_has ls 6 [(0, .ref (ad 0)), (1, .int h)] := hl
  have key : ∀ (H : Heap) (locs : List Loc), g_Mod G ad F X Y U V Z H → va_S (md_A ad) s.heap H locs → W p l e (g_rm 2 0 0) s m args below meth c H locs 0 0 Q (F0 m 0 ls []) := by
    intro H locs hM hS
    refine lv_aload_n hx hb dX2_calmest_0 rfl (lv_at hl 0 rfl) ?_
    refine lv_aload_n hx hb dX2_calmest_1 rfl (lv_at hl 0 rfl) ?_
    refine g_getM hX hM 6 (by decide) q2169 rfl (v := .int (F 6)) rfl dX2_calmest_2 ?_
    refine lv_iload_n hx hb dX2_calmest_5 rfl (lv_at hl 1 rfl) ?_
    refine lv_iconst (v := 1) hx hb dX2_calmest_6 rfl ?_
    refine lv_bipush (v := 100) hx hb dX2_calmest_7 (by decide) ?_
    refine g_cRS hX hl y_X2_in v_X2_in q2258 (k_X2_in h 1 100) trivial rfl ⟨Nat.le_of_ble_eq_true rfl, Nat.le_of_ble_eq_true rfl⟩ ⟨Nat.zero_le _, Nat.zero_le _⟩ (rest := [.int (F 6), .ref (ad 0)]) (st1 := [.int (g_b (s_in h 1 100)), .int (F 6), .ref (ad 0)]) rfl rfl (Nat.le_of_ble_eq_true rfl) dX2_calmest_9 ?_
    refine g_cMV hX hl y_X2_mayTwo v_X2_mayTwo q2501 (k_X2_mayTwo (F 6) (g_b (s_in h 1 100))) (hM.rc hX.2.2.2) hM rfl ⟨Nat.le_of_ble_eq_true rfl, Nat.le_of_ble_eq_true rfl⟩ ⟨Nat.le_refl _, Nat.le_refl _⟩ (rest := []) (st1 := [.int (g_b (decide (s_may (F 6) (g_b (s_in h 1 100)) 1 = 0)))]) rfl rfl (Nat.le_of_ble_eq_true rfl) dX2_calmest_12 hS (fun _ h => h) (fun H locs hM hS _ => ?_)
    have hmy : s_may (F 6) (g_b (s_in h 1 100)) 1 = t9 := by first | exact hbad | (rw [← hbad]; simp [g_b, g_b]; done) | (rw [← hbad]; simp only [g_b, g_b]; rfl)
    rw [hmy] at hM ⊢
    refine g_if_neB (tgt := 20) hx hb (b := decide (t9 = 0)) rfl dX2_calmest_15 (by decide) (fun c_15 => ?_) (fun c_15 => ?_)
    · exact Bool.noConfusion ((decide_eq_false ht9).symm.trans c_15)
    skip
    refine lv_iconst (v := 0) hx hb dX2_calmest_18 rfl ?_
    exact hret H locs _ _ _ _ _ dX2_calmest_19 hS (Nat.le_refl _) (Nat.le_refl _) (⟨rfl, hM⟩)
  exact key _ _ hM hS

theorem y_X2_message : g_Y yX2_message cX2_message 3 (some .int) 2 := ⟨q2563, by decide +kernel⟩
theorem v_X2_message : g_YV yX2_message := ⟨q2561, q2562, q140⟩
set_option maxHeartbeats 4000000 in
theorem ok_X2_message {G : g_G} {l : Launch} {ad : Nat → Nat} {F : Nat → Int32} {X Y : g_Wd} {U V : Nat → g_Wd} {Z : g_Wd} (j : Nat) (w : Nat) (hF : ¬ F 6 = 0) (hwl : s_wl X) (hj : j < s_M X) (hw : w < 8) : g_Md G l yX2_message cX2_message 3 (some .int) 4 0 0 [.ref (ad 0), .int (nI j), .int (nI w)] (g_Mod G ad F X Y U V Z) (g_Qv (some (.int (s_msg X j w))) (g_Mod G ad (upd F 0 0) X Y U V Z)) (md_A ad) := by
  refine g_Md.ofI (by decide) (fun _ _ _ => rfl) ?_
  intro p e s m args below meth c ls Q hX hM hl hS hret
  have hx := hX.1.1
  have hb := hX.1.2.1
  have hl : lv_has ls 3 [(0, .ref (ad 0)), (1, .int (nI j)), (2, .int (nI w))] := hl
  have key : ∀ (H : Heap) (locs : List Loc), g_Mod G ad F X Y U V Z H → va_S (md_A ad) s.heap H locs → W p l e (g_rm 4 0 0) s m args below meth c H locs 0 0 Q (F0 m 0 ls []) := by
    intro H locs hM hS
    have hW := hwl.1
    have hWc : ¬ F 6 = 0 → s_ok X := fun _ => hW
    have hW9 := hW
    obtain ⟨⟨hL0, hL2, hL6⟩, ⟨hM0, hM6⟩, ⟨hG0, hG40⟩, hok⟩ := hW9
    have hw9 : s_W X ≤ 45 := by unfold s_W; omega
    have hmsg := s_isMsg_ok hF hW hj
    have ho := hok j hj
    have hL := ho.2
    have hj6 : j < 6 := by omega
    have hin : s_in (nI w) 0 7 = true := s_in_le (show w ≤ 7 by omega) (by decide)
    refine lv_aload_n hx hb dX2_message_0 rfl (lv_at hl 0 rfl) ?_
    refine lv_aload_n hx hb dX2_message_1 rfl (lv_at hl 0 rfl) ?_
    refine g_getM hX hM 6 (by decide) q2169 rfl (v := .int (F 6)) rfl dX2_message_2 ?_
    refine lv_aload_n hx hb dX2_message_5 rfl (lv_at hl 0 rfl) ?_
    refine lv_iload_n hx hb dX2_message_6 rfl (lv_at hl 1 rfl) ?_
    refine g_cRV hX hl y_X2_isMessage v_X2_isMessage q2564 (k_X2_isMessage (nI j)) (hM.rc hX.2.2.2) hM rfl ⟨Nat.le_of_ble_eq_true rfl, Nat.le_of_ble_eq_true rfl⟩ ⟨Nat.zero_le _, Nat.zero_le _⟩ (rest := [.int (F 6), .ref (ad 0)]) (st1 := [.int (g_b (s_isMsg F X (nI j))), .int (F 6), .ref (ad 0)]) rfl rfl (Nat.le_of_ble_eq_true rfl) dX2_message_7 ?_
    refine lv_iload_n hx hb dX2_message_10 rfl (lv_at hl 2 rfl) ?_
    refine lv_iconst (v := 0) hx hb dX2_message_11 rfl ?_
    refine lv_bipush (v := 7) hx hb dX2_message_12 (by decide) ?_
    refine g_cRS hX hl y_X2_in v_X2_in q2258 (k_X2_in (nI w) 0 7) trivial rfl ⟨Nat.le_of_ble_eq_true rfl, Nat.le_of_ble_eq_true rfl⟩ ⟨Nat.zero_le _, Nat.zero_le _⟩ (rest := [.int (g_b (s_isMsg F X (nI j))), .int (F 6), .ref (ad 0)]) (st1 := [.int (g_b (s_in (nI w) 0 7)), .int (g_b (s_isMsg F X (nI j))), .int (F 6), .ref (ad 0)]) rfl rfl (Nat.le_of_ble_eq_true rfl) dX2_message_14 ?_
    refine g_cMV hX hl y_X2_may v_X2_may q2261 (k_X2_may (F 6) (g_b (s_isMsg F X (nI j))) (g_b (s_in (nI w) 0 7))) (hM.rc hX.2.2.2) hM rfl ⟨Nat.le_of_ble_eq_true rfl, Nat.le_of_ble_eq_true rfl⟩ ⟨Nat.le_refl _, Nat.le_refl _⟩ (rest := []) (st1 := [.int (g_b (decide (s_may (F 6) (g_b (s_isMsg F X (nI j))) (g_b (s_in (nI w) 0 7)) = 0)))]) rfl rfl (Nat.le_of_ble_eq_true rfl) dX2_message_17 hS (fun _ h => h) (fun H locs hM hS _ => ?_)
    have hmy : s_may (F 6) (g_b (s_isMsg F X (nI j))) (g_b (s_in (nI w) 0 7)) = 0 := s_may_ok hF (g_b_ne hmsg) (g_b_ne hin)
    rw [hmy] at hM ⊢
    refine g_if_neB (tgt := 25) hx hb (b := decide ((0 : Int32) = 0)) rfl dX2_message_20 (by decide) (fun c_20 => ?_) (fun c_20 => ?_)
    rotate_left
    · exact Bool.noConfusion ((rfl : decide ((0 : Int32) = 0) = true).symm.trans c_20)
    refine lv_iload_n hx hb dX2_message_25 rfl (lv_at hl 2 rfl) ?_
    have hsw : w = 0 ∨ w = 1 ∨ w = 2 ∨ w = 3 ∨ w = 4 ∨ w = 5 ∨ w = 6 ∨ w = 7 := by omega
    rcases hsw with rfl | rfl | rfl | rfl | rfl | rfl | rfl | rfl
    · skip
      refine lv_tableOut (tgt := 85) hx hb dX2_message_26 (by decide) (by decide) ?_
      refine lv_aload_n hx hb dX2_message_85 rfl (lv_at hl 0 rfl) ?_
      refine lv_iload_n hx hb dX2_message_86 rfl (lv_at hl 1 rfl) ?_
      refine lv_iload_n hx hb dX2_message_87 rfl (lv_at hl 2 rfl) ?_
      refine g_cRV hX hl y_X2_of v_X2_of q2365 (k_X2_of j 0 (by omega) (by omega)) (hM.rc hX.2.2.2) hM rfl ⟨Nat.le_of_ble_eq_true rfl, Nat.le_of_ble_eq_true rfl⟩ ⟨Nat.zero_le _, Nat.zero_le _⟩ (rest := []) (st1 := [.int (X (3 + j) 0)]) rfl rfl (Nat.le_of_ble_eq_true rfl) dX2_message_88 ?_
      exact hret H locs _ _ _ _ _ dX2_message_91 hS (Nat.le_refl _) (Nat.le_refl _) (⟨rfl, hM⟩)
    · skip
      refine lv_tableOut (tgt := 85) hx hb dX2_message_26 (by decide) (by decide) ?_
      refine lv_aload_n hx hb dX2_message_85 rfl (lv_at hl 0 rfl) ?_
      refine lv_iload_n hx hb dX2_message_86 rfl (lv_at hl 1 rfl) ?_
      refine lv_iload_n hx hb dX2_message_87 rfl (lv_at hl 2 rfl) ?_
      refine g_cRV hX hl y_X2_of v_X2_of q2365 (k_X2_of j 1 (by omega) (by omega)) (hM.rc hX.2.2.2) hM rfl ⟨Nat.le_of_ble_eq_true rfl, Nat.le_of_ble_eq_true rfl⟩ ⟨Nat.zero_le _, Nat.zero_le _⟩ (rest := []) (st1 := [.int (X (3 + j) 1)]) rfl rfl (Nat.le_of_ble_eq_true rfl) dX2_message_88 ?_
      exact hret H locs _ _ _ _ _ dX2_message_91 hS (Nat.le_refl _) (Nat.le_refl _) (⟨rfl, hM⟩)
    · skip
      refine lv_tableOut (tgt := 85) hx hb dX2_message_26 (by decide) (by decide) ?_
      refine lv_aload_n hx hb dX2_message_85 rfl (lv_at hl 0 rfl) ?_
      refine lv_iload_n hx hb dX2_message_86 rfl (lv_at hl 1 rfl) ?_
      refine lv_iload_n hx hb dX2_message_87 rfl (lv_at hl 2 rfl) ?_
      refine g_cRV hX hl y_X2_of v_X2_of q2365 (k_X2_of j 2 (by omega) (by omega)) (hM.rc hX.2.2.2) hM rfl ⟨Nat.le_of_ble_eq_true rfl, Nat.le_of_ble_eq_true rfl⟩ ⟨Nat.zero_le _, Nat.zero_le _⟩ (rest := []) (st1 := [.int (X (3 + j) 2)]) rfl rfl (Nat.le_of_ble_eq_true rfl) dX2_message_88 ?_
      exact hret H locs _ _ _ _ _ dX2_message_91 hS (Nat.le_refl _) (Nat.le_refl _) (⟨rfl, hM⟩)
    · skip
      refine lv_tableOut (tgt := 85) hx hb dX2_message_26 (by decide) (by decide) ?_
      refine lv_aload_n hx hb dX2_message_85 rfl (lv_at hl 0 rfl) ?_
      refine lv_iload_n hx hb dX2_message_86 rfl (lv_at hl 1 rfl) ?_
      refine lv_iload_n hx hb dX2_message_87 rfl (lv_at hl 2 rfl) ?_
      refine g_cRV hX hl y_X2_of v_X2_of q2365 (k_X2_of j 3 (by omega) (by omega)) (hM.rc hX.2.2.2) hM rfl ⟨Nat.le_of_ble_eq_true rfl, Nat.le_of_ble_eq_true rfl⟩ ⟨Nat.zero_le _, Nat.zero_le _⟩ (rest := []) (st1 := [.int (X (3 + j) 3)]) rfl rfl (Nat.le_of_ble_eq_true rfl) dX2_message_88 ?_
      exact hret H locs _ _ _ _ _ dX2_message_91 hS (Nat.le_refl _) (Nat.le_refl _) (⟨rfl, hM⟩)
    · skip
      refine lv_tableOut (tgt := 85) hx hb dX2_message_26 (by decide) (by decide) ?_
      refine lv_aload_n hx hb dX2_message_85 rfl (lv_at hl 0 rfl) ?_
      refine lv_iload_n hx hb dX2_message_86 rfl (lv_at hl 1 rfl) ?_
      refine lv_iload_n hx hb dX2_message_87 rfl (lv_at hl 2 rfl) ?_
      refine g_cRV hX hl y_X2_of v_X2_of q2365 (k_X2_of j 4 (by omega) (by omega)) (hM.rc hX.2.2.2) hM rfl ⟨Nat.le_of_ble_eq_true rfl, Nat.le_of_ble_eq_true rfl⟩ ⟨Nat.zero_le _, Nat.zero_le _⟩ (rest := []) (st1 := [.int (X (3 + j) 4)]) rfl rfl (Nat.le_of_ble_eq_true rfl) dX2_message_88 ?_
      exact hret H locs _ _ _ _ _ dX2_message_91 hS (Nat.le_refl _) (Nat.le_refl _) (⟨rfl, hM⟩)
    · skip
      refine lv_tableIn (tgt := 52) (off := 26) hx hb dX2_message_26 (by decide) (by decide) (by decide) (by decide) ?_
      refine lv_aload_n hx hb dX2_message_52 rfl (lv_at hl 0 rfl) ?_
      refine lv_iload_n hx hb dX2_message_53 rfl (lv_at hl 1 rfl) ?_
      refine g_cRV hX hl y_X2_unsureAll v_X2_unsureAll q2397 (k_X2_unsureAll j (by omega) ho) (hM.rc hX.2.2.2) hM rfl ⟨Nat.le_of_ble_eq_true rfl, Nat.le_of_ble_eq_true rfl⟩ ⟨Nat.zero_le _, Nat.zero_le _⟩ (rest := []) (st1 := [.int (nI (s_unsAll (X (3 + j))))]) rfl rfl (Nat.le_of_ble_eq_true rfl) dX2_message_54 ?_
      exact hret H locs _ _ _ _ _ dX2_message_57 hS (Nat.le_refl _) (Nat.le_refl _) (⟨rfl, hM⟩)
    · skip
      refine lv_tableIn (tgt := 58) (off := 32) hx hb dX2_message_26 (by decide) (by decide) (by decide) (by decide) ?_
      refine lv_aload_n hx hb dX2_message_58 rfl (lv_at hl 0 rfl) ?_
      refine lv_iload_n hx hb dX2_message_59 rfl (lv_at hl 1 rfl) ?_
      refine g_cRV hX hl y_X2_rightAll v_X2_rightAll q2568 (k_X2_rightAll j (by omega) ho) (hM.rc hX.2.2.2) hM rfl ⟨Nat.le_of_ble_eq_true rfl, Nat.le_of_ble_eq_true rfl⟩ ⟨Nat.zero_le _, Nat.zero_le _⟩ (rest := []) (st1 := [.int (nI (s_rig (X (3 + j)) 0 + s_rig (X (3 + j)) 1 + s_rig (X (3 + j)) 2))]) rfl rfl (Nat.le_of_ble_eq_true rfl) dX2_message_60 ?_
      exact hret H locs _ _ _ _ _ dX2_message_63 hS (Nat.le_refl _) (Nat.le_refl _) (⟨rfl, hM⟩)
    · skip
      refine lv_tableIn (tgt := 64) (off := 38) hx hb dX2_message_26 (by decide) (by decide) (by decide) (by decide) ?_
      refine lv_iconst (v := 3) hx hb dX2_message_64 rfl ?_
      refine lv_aload_n hx hb dX2_message_65 rfl (lv_at hl 0 rfl) ?_
      refine lv_iload_n hx hb dX2_message_66 rfl (lv_at hl 1 rfl) ?_
      refine lv_iconst (v := 0) hx hb dX2_message_67 rfl ?_
      refine g_cRV hX hl y_X2_of v_X2_of q2365 (k_X2_of j 0 (by omega) (by omega)) (hM.rc hX.2.2.2) hM rfl ⟨Nat.le_of_ble_eq_true rfl, Nat.le_of_ble_eq_true rfl⟩ ⟨Nat.zero_le _, Nat.zero_le _⟩ (rest := [.int 3]) (st1 := [.int (X (3 + j) 0), .int 3]) rfl rfl (Nat.le_of_ble_eq_true rfl) dX2_message_68 ?_
      refine g_imulN hx hb 3 (s_len (X (3 + j))) rfl ho.1 dX2_message_71 ?_
      refine lv_aload_n hx hb dX2_message_72 rfl (lv_at hl 0 rfl) ?_
      refine lv_iload_n hx hb dX2_message_73 rfl (lv_at hl 1 rfl) ?_
      refine g_cRV hX hl y_X2_unsureAll v_X2_unsureAll q2397 (k_X2_unsureAll j (by omega) ho) (hM.rc hX.2.2.2) hM rfl ⟨Nat.le_of_ble_eq_true rfl, Nat.le_of_ble_eq_true rfl⟩ ⟨Nat.zero_le _, Nat.zero_le _⟩ (rest := [.int (nI (3 * (s_len (X (3 + j)))))]) (st1 := [.int (nI (s_unsAll (X (3 + j)))), .int (nI (3 * (s_len (X (3 + j)))))]) rfl rfl (Nat.le_of_ble_eq_true rfl) dX2_message_74 ?_
      refine lv_isub hx hb dX2_message_77 ?_
      refine lv_aload_n hx hb dX2_message_78 rfl (lv_at hl 0 rfl) ?_
      refine lv_iload_n hx hb dX2_message_79 rfl (lv_at hl 1 rfl) ?_
      refine g_cRV hX hl y_X2_rightAll v_X2_rightAll q2568 (k_X2_rightAll j (by omega) ho) (hM.rc hX.2.2.2) hM rfl ⟨Nat.le_of_ble_eq_true rfl, Nat.le_of_ble_eq_true rfl⟩ ⟨Nat.zero_le _, Nat.zero_le _⟩ (rest := [.int ((nI (3 * (s_len (X (3 + j))))) - (nI (s_unsAll (X (3 + j)))))]) (st1 := [.int (nI (s_rig (X (3 + j)) 0 + s_rig (X (3 + j)) 1 + s_rig (X (3 + j)) 2)), .int ((nI (3 * (s_len (X (3 + j))))) - (nI (s_unsAll (X (3 + j)))))]) rfl rfl (Nat.le_of_ble_eq_true rfl) dX2_message_80 ?_
      refine lv_isub hx hb dX2_message_83 ?_
      exact hret H locs _ _ _ _ _ dX2_message_84 hS (Nat.le_refl _) (Nat.le_refl _) (⟨rfl, hM⟩)
  exact key _ _ hM hS

set_option maxHeartbeats 4000000 in
theorem no_X2_message {G : g_G} {l : Launch} {ad : Nat → Nat} {F : Nat → Int32} {X Y : g_Wd} {U V : Nat → g_Wd} {Z : g_Wd} (t9 : Int32) (v : Int32) (w : Int32) (ht9 : ¬ t9 = 0) (hbad : s_may (F 6) (g_b (s_isMsg F X v)) (g_b (s_in w 0 7)) = t9) (hWc : ¬ F 6 = 0 → s_ok X) : g_Md G l yX2_message cX2_message 3 (some .int) 2 0 0 [.ref (ad 0), .int v, .int w] (g_Mod G ad F X Y U V Z) (g_Qv (some (.int 0)) (g_Mod G ad (upd F 0 t9) X Y U V Z)) (md_A ad) := by
  refine g_Md.ofI (by decide) (fun _ _ _ => rfl) ?_
  intro p e s m args below meth c ls Q hX hM hl hS hret
  have hx := hX.1.1
  have hb := hX.1.2.1
  have hl : lv_has ls 3 [(0, .ref (ad 0)), (1, .int v), (2, .int w)] := hl
  have key : ∀ (H : Heap) (locs : List Loc), g_Mod G ad F X Y U V Z H → va_S (md_A ad) s.heap H locs → W p l e (g_rm 2 0 0) s m args below meth c H locs 0 0 Q (F0 m 0 ls []) := by
    intro H locs hM hS
    refine lv_aload_n hx hb dX2_message_0 rfl (lv_at hl 0 rfl) ?_
    refine lv_aload_n hx hb dX2_message_1 rfl (lv_at hl 0 rfl) ?_
    refine g_getM hX hM 6 (by decide) q2169 rfl (v := .int (F 6)) rfl dX2_message_2 ?_
    refine lv_aload_n hx hb dX2_message_5 rfl (lv_at hl 0 rfl) ?_
    refine lv_iload_n hx hb dX2_message_6 rfl (lv_at hl 1 rfl) ?_
    refine g_cRV hX hl y_X2_isMessage v_X2_isMessage q2564 (k_X2_isMessage v) (hM.rc hX.2.2.2) hM rfl ⟨Nat.le_of_ble_eq_true rfl, Nat.le_of_ble_eq_true rfl⟩ ⟨Nat.zero_le _, Nat.zero_le _⟩ (rest := [.int (F 6), .ref (ad 0)]) (st1 := [.int (g_b (s_isMsg F X v)), .int (F 6), .ref (ad 0)]) rfl rfl (Nat.le_of_ble_eq_true rfl) dX2_message_7 ?_
    refine lv_iload_n hx hb dX2_message_10 rfl (lv_at hl 2 rfl) ?_
    refine lv_iconst (v := 0) hx hb dX2_message_11 rfl ?_
    refine lv_bipush (v := 7) hx hb dX2_message_12 (by decide) ?_
    refine g_cRS hX hl y_X2_in v_X2_in q2258 (k_X2_in w 0 7) trivial rfl ⟨Nat.le_of_ble_eq_true rfl, Nat.le_of_ble_eq_true rfl⟩ ⟨Nat.zero_le _, Nat.zero_le _⟩ (rest := [.int (g_b (s_isMsg F X v)), .int (F 6), .ref (ad 0)]) (st1 := [.int (g_b (s_in w 0 7)), .int (g_b (s_isMsg F X v)), .int (F 6), .ref (ad 0)]) rfl rfl (Nat.le_of_ble_eq_true rfl) dX2_message_14 ?_
    refine g_cMV hX hl y_X2_may v_X2_may q2261 (k_X2_may (F 6) (g_b (s_isMsg F X v)) (g_b (s_in w 0 7))) (hM.rc hX.2.2.2) hM rfl ⟨Nat.le_of_ble_eq_true rfl, Nat.le_of_ble_eq_true rfl⟩ ⟨Nat.le_refl _, Nat.le_refl _⟩ (rest := []) (st1 := [.int (g_b (decide (s_may (F 6) (g_b (s_isMsg F X v)) (g_b (s_in w 0 7)) = 0)))]) rfl rfl (Nat.le_of_ble_eq_true rfl) dX2_message_17 hS (fun _ h => h) (fun H locs hM hS _ => ?_)
    have hmy : s_may (F 6) (g_b (s_isMsg F X v)) (g_b (s_in w 0 7)) = t9 := by first | exact hbad | (rw [← hbad]; simp [g_b, g_b]; done) | (rw [← hbad]; simp only [g_b, g_b]; rfl)
    rw [hmy] at hM ⊢
    refine g_if_neB (tgt := 25) hx hb (b := decide (t9 = 0)) rfl dX2_message_20 (by decide) (fun c_20 => ?_) (fun c_20 => ?_)
    · exact Bool.noConfusion ((decide_eq_false ht9).symm.trans c_20)
    skip
    refine lv_iconst (v := 0) hx hb dX2_message_23 rfl ?_
    exact hret H locs _ _ _ _ _ dX2_message_24 hS (Nat.le_refl _) (Nat.le_refl _) (⟨rfl, hM⟩)
  exact key _ _ hM hS

theorem y_X2_has : g_Y yX2_has cX2_has 4 (some .int) 3 := ⟨q2591, by decide +kernel⟩
theorem v_X2_has : g_YV yX2_has := ⟨q2589, q2590, q140⟩
set_option maxHeartbeats 4000000 in
theorem ok_X2_has {G : g_G} {l : Launch} {ad : Nat → Nat} {F : Nat → Int32} {X Y : g_Wd} {U V : Nat → g_Wd} {Z : g_Wd} (j : Nat) (i : Nat) (q : Nat) (hF : ¬ F 6 = 0) (hwl : s_wl X) (hj : j < s_M X) (hi : i < 3) (hq : q < s_len (X (3 + j))) : g_Md G l yX2_has cX2_has 4 (some .int) 4 0 0 [.ref (ad 0), .int (nI j), .int (nI i), .int (nI q)] (g_Mod G ad F X Y U V Z) (g_Qv (some (.int (s_has (X (3 + j)) i q))) (g_Mod G ad (upd F 0 0) X Y U V Z)) (md_A ad) := by
  refine g_Md.ofI (by decide) (fun _ _ _ => rfl) ?_
  intro p e s m args below meth c ls Q hX hM hl hS hret
  have hx := hX.1.1
  have hb := hX.1.2.1
  have hl : lv_has ls 4 [(0, .ref (ad 0)), (1, .int (nI j)), (2, .int (nI i)), (3, .int (nI q))] := hl
  have key : ∀ (H : Heap) (locs : List Loc), g_Mod G ad F X Y U V Z H → va_S (md_A ad) s.heap H locs → W p l e (g_rm 4 0 0) s m args below meth c H locs 0 0 Q (F0 m 0 ls []) := by
    intro H locs hM hS
    have hW := hwl.1
    have hWc : ¬ F 6 = 0 → s_ok X := fun _ => hW
    have hW9 := hW
    obtain ⟨⟨hL0, hL2, hL6⟩, ⟨hM0, hM6⟩, ⟨hG0, hG40⟩, hok⟩ := hW9
    have hw9 : s_W X ≤ 45 := by unfold s_W; omega
    have hmsg := s_isMsg_ok hF hW hj
    have ho := hok j hj
    have hL := ho.2
    have hj6 : j < 6 := by omega
    have hpl := s_isPl_ok hF hW hj hq
    have hht : s_in (nI i) 0 2 = true := s_in_le (show i ≤ 2 by omega) (by decide)
    have hmh : (s_isPl F X (nI j) (nI q) && s_in (nI i) 0 2) = true := by rw [hpl, hht]; rfl
    have hq12 : q < 12 := by omega
    refine lv_aload_n hx hb dX2_has_0 rfl (lv_at hl 0 rfl) ?_
    refine lv_iload_n hx hb dX2_has_1 rfl (lv_at hl 1 rfl) ?_
    refine lv_iload_n hx hb dX2_has_2 rfl (lv_at hl 2 rfl) ?_
    refine lv_iload_n hx hb dX2_has_3 rfl (lv_at hl 3 rfl) ?_
    refine g_cMV hX hl y_X2_mayPlace v_X2_mayPlace q2592 (k_X2_mayPlace (nI j) (nI i) (nI q) hWc) (hM.rc hX.2.2.2) hM rfl ⟨Nat.le_of_ble_eq_true rfl, Nat.le_of_ble_eq_true rfl⟩ ⟨Nat.le_refl _, Nat.le_refl _⟩ (rest := []) (st1 := [.int (g_b (decide (s_may (F 6) (g_b (s_isPl F X (nI j) (nI q) && s_in (nI i) 0 2)) 1 = 0)))]) rfl rfl (Nat.le_of_ble_eq_true rfl) dX2_has_4 hS (fun _ h => h) (fun H locs hM hS _ => ?_)
    have hmy : s_may (F 6) (g_b (s_isPl F X (nI j) (nI q) && s_in (nI i) 0 2)) 1 = 0 := s_may_ok hF (g_b_ne hmh) (by decide)
    rw [hmy] at hM ⊢
    refine g_if_eqB (tgt := 20) hx hb (b := decide ((0 : Int32) = 0)) rfl dX2_has_7 (by decide) (fun c_7 => ?_) (fun c_7 => ?_)
    · exact Bool.noConfusion ((rfl : decide ((0 : Int32) = 0) = true).symm.trans c_7)
    skip
    refine lv_aload_n hx hb dX2_has_10 rfl (lv_at hl 0 rfl) ?_
    refine lv_iload_n hx hb dX2_has_11 rfl (lv_at hl 1 rfl) ?_
    refine lv_iload_n hx hb dX2_has_12 rfl (lv_at hl 2 rfl) ?_
    refine lv_iload_n hx hb dX2_has_13 rfl (lv_at hl 3 rfl) ?_
    refine g_cRV hX hl y_X2_hasAt v_X2_hasAt q2405 (k_X2_hasAt j i q (by omega) (by omega) (by omega)) (hM.rc hX.2.2.2) hM rfl ⟨Nat.le_of_ble_eq_true rfl, Nat.le_of_ble_eq_true rfl⟩ ⟨Nat.zero_le _, Nat.zero_le _⟩ (rest := []) (st1 := [.int (s_has (X (3 + j)) i q)]) rfl rfl (Nat.le_of_ble_eq_true rfl) dX2_has_14 ?_
    refine lv_goto (tgt := 21) hx hb dX2_has_17 (by decide) ?_
    exact hret H locs _ _ _ _ _ dX2_has_21 hS (Nat.le_refl _) (Nat.le_refl _) (⟨rfl, hM⟩)
  exact key _ _ hM hS

set_option maxHeartbeats 4000000 in
theorem no_X2_has {G : g_G} {l : Launch} {ad : Nat → Nat} {F : Nat → Int32} {X Y : g_Wd} {U V : Nat → g_Wd} {Z : g_Wd} (t9 : Int32) (v : Int32) (i : Int32) (q : Int32) (ht9 : ¬ t9 = 0) (hbad : s_may (F 6) (g_b (s_isPl F X v q && s_in i 0 2)) 1 = t9) (hWc : ¬ F 6 = 0 → s_ok X) : g_Md G l yX2_has cX2_has 4 (some .int) 4 0 0 [.ref (ad 0), .int v, .int i, .int q] (g_Mod G ad F X Y U V Z) (g_Qv (some (.int 0)) (g_Mod G ad (upd F 0 t9) X Y U V Z)) (md_A ad) := by
  refine g_Md.ofI (by decide) (fun _ _ _ => rfl) ?_
  intro p e s m args below meth c ls Q hX hM hl hS hret
  have hx := hX.1.1
  have hb := hX.1.2.1
  have hl : lv_has ls 4 [(0, .ref (ad 0)), (1, .int v), (2, .int i), (3, .int q)] := hl
  have key : ∀ (H : Heap) (locs : List Loc), g_Mod G ad F X Y U V Z H → va_S (md_A ad) s.heap H locs → W p l e (g_rm 4 0 0) s m args below meth c H locs 0 0 Q (F0 m 0 ls []) := by
    intro H locs hM hS
    refine lv_aload_n hx hb dX2_has_0 rfl (lv_at hl 0 rfl) ?_
    refine lv_iload_n hx hb dX2_has_1 rfl (lv_at hl 1 rfl) ?_
    refine lv_iload_n hx hb dX2_has_2 rfl (lv_at hl 2 rfl) ?_
    refine lv_iload_n hx hb dX2_has_3 rfl (lv_at hl 3 rfl) ?_
    refine g_cMV hX hl y_X2_mayPlace v_X2_mayPlace q2592 (k_X2_mayPlace v i q hWc) (hM.rc hX.2.2.2) hM rfl ⟨Nat.le_of_ble_eq_true rfl, Nat.le_of_ble_eq_true rfl⟩ ⟨Nat.le_refl _, Nat.le_refl _⟩ (rest := []) (st1 := [.int (g_b (decide (s_may (F 6) (g_b (s_isPl F X v q && s_in i 0 2)) 1 = 0)))]) rfl rfl (Nat.le_of_ble_eq_true rfl) dX2_has_4 hS (fun _ h => h) (fun H locs hM hS _ => ?_)
    have hmy : s_may (F 6) (g_b (s_isPl F X v q && s_in i 0 2)) 1 = t9 := by first | exact hbad | (rw [← hbad]; simp [g_b, g_b]; done) | (rw [← hbad]; simp only [g_b, g_b]; rfl)
    rw [hmy] at hM ⊢
    refine g_if_eqB (tgt := 20) hx hb (b := decide (t9 = 0)) rfl dX2_has_7 (by decide) (fun c_7 => ?_) (fun c_7 => ?_)
    rotate_left
    · exact Bool.noConfusion ((decide_eq_false ht9).symm.trans c_7)
    refine lv_iconst (v := 0) hx hb dX2_has_20 rfl ?_
    exact hret H locs _ _ _ _ _ dX2_has_21 hS (Nat.le_refl _) (Nat.le_refl _) (⟨rfl, hM⟩)
  exact key _ _ hM hS

theorem y_X2_copy : g_Y yX2_copy cX2_copy 5 (some .int) 4 := ⟨q2599, by decide +kernel⟩
theorem v_X2_copy : g_YV yX2_copy := ⟨q2597, q2598, q140⟩
set_option maxHeartbeats 4000000 in
theorem ok_X2_copy {G : g_G} {l : Launch} {ad : Nat → Nat} {F : Nat → Int32} {X Y : g_Wd} {U V : Nat → g_Wd} {Z : g_Wd} (j : Nat) (i : Nat) (q : Nat) (f : Nat) (hF : ¬ F 6 = 0) (hwl : s_wl X) (hj : j < s_M X) (hi : i < 3) (hq : q < s_len (X (3 + j))) (hf : f < 3) : g_Md G l yX2_copy cX2_copy 5 (some .int) 3 0 0 [.ref (ad 0), .int (nI j), .int (nI i), .int (nI q), .int (nI f)] (g_Mod G ad F X Y U V Z) (g_Qv (some (.int (if X (3 + j) 1 = 0 then -2 else s_cpy (X (3 + j)) i q f))) (g_Mod G ad (upd F 0 0) X Y U V Z)) (md_A ad) := by
  refine g_Md.ofI (by decide) (fun _ _ _ => rfl) ?_
  intro p e s m args below meth c ls Q hX hM hl hS hret
  have hx := hX.1.1
  have hb := hX.1.2.1
  have hl : lv_has ls 5 [(0, .ref (ad 0)), (1, .int (nI j)), (2, .int (nI i)), (3, .int (nI q)), (4, .int (nI f))] := hl
  have key : ∀ (H : Heap) (locs : List Loc), g_Mod G ad F X Y U V Z H → va_S (md_A ad) s.heap H locs → W p l e (g_rm 3 0 0) s m args below meth c H locs 0 0 Q (F0 m 0 ls []) := by
    intro H locs hM hS
    have hW := hwl.1
    have hWc : ¬ F 6 = 0 → s_ok X := fun _ => hW
    have hW9 := hW
    obtain ⟨⟨hL0, hL2, hL6⟩, ⟨hM0, hM6⟩, ⟨hG0, hG40⟩, hok⟩ := hW9
    have hw9 : s_W X ≤ 45 := by unfold s_W; omega
    have hmsg := s_isMsg_ok hF hW hj
    have ho := hok j hj
    have hL := ho.2
    have hj6 : j < 6 := by omega
    have hpl := s_isPl_ok hF hW hj hq
    have hht : s_in (nI i) 0 2 = true := s_in_le (show i ≤ 2 by omega) (by decide)
    have hmh : (s_isPl F X (nI j) (nI q) && s_in (nI i) 0 2) = true := by rw [hpl, hht]; rfl
    have hq12 : q < 12 := by omega
    have hft : s_in (nI f) 0 2 = true := s_in_le (show f ≤ 2 by omega) (by decide)
    refine lv_aload_n hx hb dX2_copy_0 rfl (lv_at hl 0 rfl) ?_
    refine lv_aload_n hx hb dX2_copy_1 rfl (lv_at hl 0 rfl) ?_
    refine g_getM hX hM 6 (by decide) q2169 rfl (v := .int (F 6)) rfl dX2_copy_2 ?_
    refine lv_aload_n hx hb dX2_copy_5 rfl (lv_at hl 0 rfl) ?_
    refine lv_iload_n hx hb dX2_copy_6 rfl (lv_at hl 1 rfl) ?_
    refine lv_iload_n hx hb dX2_copy_7 rfl (lv_at hl 3 rfl) ?_
    refine g_cRV hX hl y_X2_isPlace v_X2_isPlace q2584 (k_X2_isPlace (nI j) (nI q) hWc) (hM.rc hX.2.2.2) hM rfl ⟨Nat.le_of_ble_eq_true rfl, Nat.le_of_ble_eq_true rfl⟩ ⟨Nat.zero_le _, Nat.zero_le _⟩ (rest := [.int (F 6), .ref (ad 0)]) (st1 := [.int (g_b (s_isPl F X (nI j) (nI q))), .int (F 6), .ref (ad 0)]) rfl rfl (Nat.le_of_ble_eq_true rfl) dX2_copy_8 ?_
    refine g_if_eqB (tgt := 35) hx hb (b := s_isPl F X (nI j) (nI q)) rfl dX2_copy_11 (by decide) (fun c_11 => ?_) (fun c_11 => ?_)
    · exact Bool.noConfusion (hpl.symm.trans c_11)
    skip
    refine lv_aload_n hx hb dX2_copy_14 rfl (lv_at hl 0 rfl) ?_
    refine lv_iload_n hx hb dX2_copy_15 rfl (lv_at hl 2 rfl) ?_
    refine g_cRV hX hl y_X2_isHut v_X2_isHut q2517 (k_X2_isHut (nI i)) (hM.rc hX.2.2.2) hM rfl ⟨Nat.le_of_ble_eq_true rfl, Nat.le_of_ble_eq_true rfl⟩ ⟨Nat.zero_le _, Nat.zero_le _⟩ (rest := [.int (F 6), .ref (ad 0)]) (st1 := [.int (g_b (s_in (nI i) 0 2)), .int (F 6), .ref (ad 0)]) rfl rfl (Nat.le_of_ble_eq_true rfl) dX2_copy_16 ?_
    refine g_if_eqB (tgt := 35) hx hb (b := s_in (nI i) 0 2) rfl dX2_copy_19 (by decide) (fun c_19 => ?_) (fun c_19 => ?_)
    · exact Bool.noConfusion (hht.symm.trans c_19)
    skip
    refine lv_aload_n hx hb dX2_copy_22 rfl (lv_at hl 0 rfl) ?_
    refine lv_iload hx hb dX2_copy_23 (lv_at hl 4 rfl) ?_
    refine g_cRV hX hl y_X2_isHut v_X2_isHut q2517 (k_X2_isHut (nI f)) (hM.rc hX.2.2.2) hM rfl ⟨Nat.le_of_ble_eq_true rfl, Nat.le_of_ble_eq_true rfl⟩ ⟨Nat.zero_le _, Nat.zero_le _⟩ (rest := [.int (F 6), .ref (ad 0)]) (st1 := [.int (g_b (s_in (nI f) 0 2)), .int (F 6), .ref (ad 0)]) rfl rfl (Nat.le_of_ble_eq_true rfl) dX2_copy_25 ?_
    refine g_if_eqB (tgt := 35) hx hb (b := s_in (nI f) 0 2) rfl dX2_copy_28 (by decide) (fun c_28 => ?_) (fun c_28 => ?_)
    · exact Bool.noConfusion (hft.symm.trans c_28)
    skip
    refine lv_iconst (v := 1) hx hb dX2_copy_31 rfl ?_
    refine lv_goto (tgt := 36) hx hb dX2_copy_32 (by decide) ?_
    refine g_cMV hX hl y_X2_mayTwo v_X2_mayTwo q2501 (k_X2_mayTwo (F 6) 1) (hM.rc hX.2.2.2) hM rfl ⟨Nat.le_of_ble_eq_true rfl, Nat.le_of_ble_eq_true rfl⟩ ⟨Nat.le_refl _, Nat.le_refl _⟩ (rest := []) (st1 := [.int (g_b (decide (s_may (F 6) 1 1 = 0)))]) rfl rfl (Nat.le_of_ble_eq_true rfl) dX2_copy_36 hS (fun _ h => h) (fun H locs hM hS _ => ?_)
    have hmy : s_may (F 6) 1 1 = 0 := s_may_ok hF (by decide) (by decide)
    rw [hmy] at hM ⊢
    refine g_if_neB (tgt := 44) hx hb (b := decide ((0 : Int32) = 0)) rfl dX2_copy_39 (by decide) (fun c_39 => ?_) (fun c_39 => ?_)
    rotate_left
    · exact Bool.noConfusion ((rfl : decide ((0 : Int32) = 0) = true).symm.trans c_39)
    refine lv_aload_n hx hb dX2_copy_44 rfl (lv_at hl 0 rfl) ?_
    refine lv_iload_n hx hb dX2_copy_45 rfl (lv_at hl 1 rfl) ?_
    refine lv_iconst (v := 1) hx hb dX2_copy_46 rfl ?_
    refine g_cRV hX hl y_X2_of v_X2_of q2365 (k_X2_of j 1 (by omega) (by omega)) (hM.rc hX.2.2.2) hM rfl ⟨Nat.le_of_ble_eq_true rfl, Nat.le_of_ble_eq_true rfl⟩ ⟨Nat.zero_le _, Nat.zero_le _⟩ (rest := []) (st1 := [.int (X (3 + j) 1)]) rfl rfl (Nat.le_of_ble_eq_true rfl) dX2_copy_47 ?_
    refine lv_if_ne (tgt := 58) hx hb dX2_copy_50 (by decide) (fun c_50 => ?_) (fun c_50 => ?_)
    · skip
      refine lv_aload_n hx hb dX2_copy_58 rfl (lv_at hl 0 rfl) ?_
      refine lv_iload_n hx hb dX2_copy_59 rfl (lv_at hl 1 rfl) ?_
      refine lv_iload_n hx hb dX2_copy_60 rfl (lv_at hl 2 rfl) ?_
      refine lv_iload_n hx hb dX2_copy_61 rfl (lv_at hl 3 rfl) ?_
      refine lv_iload hx hb dX2_copy_62 (lv_at hl 4 rfl) ?_
      refine g_cRV hX hl y_X2_copyAt v_X2_copyAt q2433 (k_X2_copyAt j i q f (by omega) (by omega) (by omega) (by omega)) (hM.rc hX.2.2.2) hM rfl ⟨Nat.le_of_ble_eq_true rfl, Nat.le_of_ble_eq_true rfl⟩ ⟨Nat.zero_le _, Nat.zero_le _⟩ (rest := []) (st1 := [.int (s_cpy (X (3 + j)) i q f)]) rfl rfl (Nat.le_of_ble_eq_true rfl) dX2_copy_64 ?_
      exact hret H locs _ _ _ _ _ dX2_copy_67 hS (Nat.le_refl _) (Nat.le_refl _) (⟨by simp [c_50], hM⟩)
    · skip
      refine lv_bipush (v := (-2)) hx hb dX2_copy_53 (by decide) ?_
      refine lv_goto (tgt := 67) hx hb dX2_copy_55 (by decide) ?_
      exact hret H locs _ _ _ _ _ dX2_copy_67 hS (Nat.le_refl _) (Nat.le_refl _) (⟨by simp [c_50], hM⟩)
  exact key _ _ hM hS

set_option maxHeartbeats 4000000 in
theorem no_X2_copy {G : g_G} {l : Launch} {ad : Nat → Nat} {F : Nat → Int32} {X Y : g_Wd} {U V : Nat → g_Wd} {Z : g_Wd} (t9 : Int32) (v : Int32) (i : Int32) (q : Int32) (f : Int32) (ht9 : ¬ t9 = 0) (hbad : s_may (F 6) (g_b (s_isPl F X v q && (s_in i 0 2 && s_in f 0 2))) 1 = t9) (hWc : ¬ F 6 = 0 → s_ok X) : g_Md G l yX2_copy cX2_copy 5 (some .int) 3 0 0 [.ref (ad 0), .int v, .int i, .int q, .int f] (g_Mod G ad F X Y U V Z) (g_Qv (some (.int 0)) (g_Mod G ad (upd F 0 t9) X Y U V Z)) (md_A ad) := by
  refine g_Md.ofI (by decide) (fun _ _ _ => rfl) ?_
  intro p e s m args below meth c ls Q hX hM hl hS hret
  have hx := hX.1.1
  have hb := hX.1.2.1
  have hl : lv_has ls 5 [(0, .ref (ad 0)), (1, .int v), (2, .int i), (3, .int q), (4, .int f)] := hl
  have key : ∀ (H : Heap) (locs : List Loc), g_Mod G ad F X Y U V Z H → va_S (md_A ad) s.heap H locs → W p l e (g_rm 3 0 0) s m args below meth c H locs 0 0 Q (F0 m 0 ls []) := by
    intro H locs hM hS
    refine lv_aload_n hx hb dX2_copy_0 rfl (lv_at hl 0 rfl) ?_
    refine lv_aload_n hx hb dX2_copy_1 rfl (lv_at hl 0 rfl) ?_
    refine g_getM hX hM 6 (by decide) q2169 rfl (v := .int (F 6)) rfl dX2_copy_2 ?_
    refine lv_aload_n hx hb dX2_copy_5 rfl (lv_at hl 0 rfl) ?_
    refine lv_iload_n hx hb dX2_copy_6 rfl (lv_at hl 1 rfl) ?_
    refine lv_iload_n hx hb dX2_copy_7 rfl (lv_at hl 3 rfl) ?_
    refine g_cRV hX hl y_X2_isPlace v_X2_isPlace q2584 (k_X2_isPlace v q hWc) (hM.rc hX.2.2.2) hM rfl ⟨Nat.le_of_ble_eq_true rfl, Nat.le_of_ble_eq_true rfl⟩ ⟨Nat.zero_le _, Nat.zero_le _⟩ (rest := [.int (F 6), .ref (ad 0)]) (st1 := [.int (g_b (s_isPl F X v q)), .int (F 6), .ref (ad 0)]) rfl rfl (Nat.le_of_ble_eq_true rfl) dX2_copy_8 ?_
    refine g_if_eqB (tgt := 35) hx hb (b := s_isPl F X v q) rfl dX2_copy_11 (by decide) (fun c_11 => ?_) (fun c_11 => ?_)
    · skip
      refine lv_iconst (v := 0) hx hb dX2_copy_35 rfl ?_
      refine g_cMV hX hl y_X2_mayTwo v_X2_mayTwo q2501 (k_X2_mayTwo (F 6) 0) (hM.rc hX.2.2.2) hM rfl ⟨Nat.le_of_ble_eq_true rfl, Nat.le_of_ble_eq_true rfl⟩ ⟨Nat.le_refl _, Nat.le_refl _⟩ (rest := []) (st1 := [.int (g_b (decide (s_may (F 6) 0 1 = 0)))]) rfl rfl (Nat.le_of_ble_eq_true rfl) dX2_copy_36 hS (fun _ h => h) (fun H locs hM hS _ => ?_)
      have hmy : s_may (F 6) 0 1 = t9 := by first | exact hbad | (rw [← hbad]; simp [g_b, c_11]; done) | (rw [← hbad]; simp only [g_b, c_11]; rfl)
      rw [hmy] at hM ⊢
      refine g_if_neB (tgt := 44) hx hb (b := decide (t9 = 0)) rfl dX2_copy_39 (by decide) (fun c_39 => ?_) (fun c_39 => ?_)
      · exact Bool.noConfusion ((decide_eq_false ht9).symm.trans c_39)
      skip
      refine lv_iconst (v := 0) hx hb dX2_copy_42 rfl ?_
      exact hret H locs _ _ _ _ _ dX2_copy_43 hS (Nat.le_refl _) (Nat.le_refl _) (⟨rfl, hM⟩)
    · skip
      refine lv_aload_n hx hb dX2_copy_14 rfl (lv_at hl 0 rfl) ?_
      refine lv_iload_n hx hb dX2_copy_15 rfl (lv_at hl 2 rfl) ?_
      refine g_cRV hX hl y_X2_isHut v_X2_isHut q2517 (k_X2_isHut i) (hM.rc hX.2.2.2) hM rfl ⟨Nat.le_of_ble_eq_true rfl, Nat.le_of_ble_eq_true rfl⟩ ⟨Nat.zero_le _, Nat.zero_le _⟩ (rest := [.int (F 6), .ref (ad 0)]) (st1 := [.int (g_b (s_in i 0 2)), .int (F 6), .ref (ad 0)]) rfl rfl (Nat.le_of_ble_eq_true rfl) dX2_copy_16 ?_
      refine g_if_eqB (tgt := 35) hx hb (b := s_in i 0 2) rfl dX2_copy_19 (by decide) (fun c_19 => ?_) (fun c_19 => ?_)
      · skip
        refine lv_iconst (v := 0) hx hb dX2_copy_35 rfl ?_
        refine g_cMV hX hl y_X2_mayTwo v_X2_mayTwo q2501 (k_X2_mayTwo (F 6) 0) (hM.rc hX.2.2.2) hM rfl ⟨Nat.le_of_ble_eq_true rfl, Nat.le_of_ble_eq_true rfl⟩ ⟨Nat.le_refl _, Nat.le_refl _⟩ (rest := []) (st1 := [.int (g_b (decide (s_may (F 6) 0 1 = 0)))]) rfl rfl (Nat.le_of_ble_eq_true rfl) dX2_copy_36 hS (fun _ h => h) (fun H locs hM hS _ => ?_)
        have hmy : s_may (F 6) 0 1 = t9 := by first | exact hbad | (rw [← hbad]; simp [g_b, c_11, c_19]; done) | (rw [← hbad]; simp only [g_b, c_11, c_19]; rfl)
        rw [hmy] at hM ⊢
        refine g_if_neB (tgt := 44) hx hb (b := decide (t9 = 0)) rfl dX2_copy_39 (by decide) (fun c_39 => ?_) (fun c_39 => ?_)
        · exact Bool.noConfusion ((decide_eq_false ht9).symm.trans c_39)
        skip
        refine lv_iconst (v := 0) hx hb dX2_copy_42 rfl ?_
        exact hret H locs _ _ _ _ _ dX2_copy_43 hS (Nat.le_refl _) (Nat.le_refl _) (⟨rfl, hM⟩)
      · skip
        refine lv_aload_n hx hb dX2_copy_22 rfl (lv_at hl 0 rfl) ?_
        refine lv_iload hx hb dX2_copy_23 (lv_at hl 4 rfl) ?_
        refine g_cRV hX hl y_X2_isHut v_X2_isHut q2517 (k_X2_isHut f) (hM.rc hX.2.2.2) hM rfl ⟨Nat.le_of_ble_eq_true rfl, Nat.le_of_ble_eq_true rfl⟩ ⟨Nat.zero_le _, Nat.zero_le _⟩ (rest := [.int (F 6), .ref (ad 0)]) (st1 := [.int (g_b (s_in f 0 2)), .int (F 6), .ref (ad 0)]) rfl rfl (Nat.le_of_ble_eq_true rfl) dX2_copy_25 ?_
        refine g_if_eqB (tgt := 35) hx hb (b := s_in f 0 2) rfl dX2_copy_28 (by decide) (fun c_28 => ?_) (fun c_28 => ?_)
        · skip
          refine lv_iconst (v := 0) hx hb dX2_copy_35 rfl ?_
          refine g_cMV hX hl y_X2_mayTwo v_X2_mayTwo q2501 (k_X2_mayTwo (F 6) 0) (hM.rc hX.2.2.2) hM rfl ⟨Nat.le_of_ble_eq_true rfl, Nat.le_of_ble_eq_true rfl⟩ ⟨Nat.le_refl _, Nat.le_refl _⟩ (rest := []) (st1 := [.int (g_b (decide (s_may (F 6) 0 1 = 0)))]) rfl rfl (Nat.le_of_ble_eq_true rfl) dX2_copy_36 hS (fun _ h => h) (fun H locs hM hS _ => ?_)
          have hmy : s_may (F 6) 0 1 = t9 := by first | exact hbad | (rw [← hbad]; simp [g_b, c_11, c_19, c_28]; done) | (rw [← hbad]; simp only [g_b, c_11, c_19, c_28]; rfl)
          rw [hmy] at hM ⊢
          refine g_if_neB (tgt := 44) hx hb (b := decide (t9 = 0)) rfl dX2_copy_39 (by decide) (fun c_39 => ?_) (fun c_39 => ?_)
          · exact Bool.noConfusion ((decide_eq_false ht9).symm.trans c_39)
          skip
          refine lv_iconst (v := 0) hx hb dX2_copy_42 rfl ?_
          exact hret H locs _ _ _ _ _ dX2_copy_43 hS (Nat.le_refl _) (Nat.le_refl _) (⟨rfl, hM⟩)
        · skip
          refine lv_iconst (v := 1) hx hb dX2_copy_31 rfl ?_
          refine lv_goto (tgt := 36) hx hb dX2_copy_32 (by decide) ?_
          refine g_cMV hX hl y_X2_mayTwo v_X2_mayTwo q2501 (k_X2_mayTwo (F 6) 1) (hM.rc hX.2.2.2) hM rfl ⟨Nat.le_of_ble_eq_true rfl, Nat.le_of_ble_eq_true rfl⟩ ⟨Nat.le_refl _, Nat.le_refl _⟩ (rest := []) (st1 := [.int (g_b (decide (s_may (F 6) 1 1 = 0)))]) rfl rfl (Nat.le_of_ble_eq_true rfl) dX2_copy_36 hS (fun _ h => h) (fun H locs hM hS _ => ?_)
          have hmy : s_may (F 6) 1 1 = t9 := by first | exact hbad | (rw [← hbad]; simp [g_b, c_11, c_19, c_28]; done) | (rw [← hbad]; simp only [g_b, c_11, c_19, c_28]; rfl)
          rw [hmy] at hM ⊢
          refine g_if_neB (tgt := 44) hx hb (b := decide (t9 = 0)) rfl dX2_copy_39 (by decide) (fun c_39 => ?_) (fun c_39 => ?_)
          · exact Bool.noConfusion ((decide_eq_false ht9).symm.trans c_39)
          skip
          refine lv_iconst (v := 0) hx hb dX2_copy_42 rfl ?_
          exact hret H locs _ _ _ _ _ dX2_copy_43 hS (Nat.le_refl _) (Nat.le_refl _) (⟨rfl, hM⟩)
  exact key _ _ hM hS

theorem y_X2_vote : g_Y yX2_vote cX2_vote 4 (some .int) 3 := ⟨q2603, by decide +kernel⟩
theorem v_X2_vote : g_YV yX2_vote := ⟨q2601, q2602, q140⟩
set_option maxHeartbeats 4000000 in
theorem ok_X2_vote {G : g_G} {l : Launch} {ad : Nat → Nat} {F : Nat → Int32} {X Y : g_Wd} {U V : Nat → g_Wd} {Z : g_Wd} (j : Nat) (i : Nat) (q : Nat) (hF : ¬ F 6 = 0) (hwl : s_wl X) (hj : j < s_M X) (hi : i < 3) (hq : q < s_len (X (3 + j))) : g_Md G l yX2_vote cX2_vote 4 (some .int) 4 0 0 [.ref (ad 0), .int (nI j), .int (nI i), .int (nI q)] (g_Mod G ad F X Y U V Z) (g_Qv (some (.int (s_voteAt (X (3 + j)) i q))) (g_Mod G ad (upd F 0 0) X Y U V Z)) (md_A ad) := by
  refine g_Md.ofI (by decide) (fun _ _ _ => rfl) ?_
  intro p e s m args below meth c ls Q hX hM hl hS hret
  have hx := hX.1.1
  have hb := hX.1.2.1
  have hl : lv_has ls 4 [(0, .ref (ad 0)), (1, .int (nI j)), (2, .int (nI i)), (3, .int (nI q))] := hl
  have key : ∀ (H : Heap) (locs : List Loc), g_Mod G ad F X Y U V Z H → va_S (md_A ad) s.heap H locs → W p l e (g_rm 4 0 0) s m args below meth c H locs 0 0 Q (F0 m 0 ls []) := by
    intro H locs hM hS
    have hW := hwl.1
    have hWc : ¬ F 6 = 0 → s_ok X := fun _ => hW
    have hW9 := hW
    obtain ⟨⟨hL0, hL2, hL6⟩, ⟨hM0, hM6⟩, ⟨hG0, hG40⟩, hok⟩ := hW9
    have hw9 : s_W X ≤ 45 := by unfold s_W; omega
    have hmsg := s_isMsg_ok hF hW hj
    have ho := hok j hj
    have hL := ho.2
    have hj6 : j < 6 := by omega
    have hpl := s_isPl_ok hF hW hj hq
    have hht : s_in (nI i) 0 2 = true := s_in_le (show i ≤ 2 by omega) (by decide)
    have hmh : (s_isPl F X (nI j) (nI q) && s_in (nI i) 0 2) = true := by rw [hpl, hht]; rfl
    have hq12 : q < 12 := by omega
    refine lv_aload_n hx hb dX2_vote_0 rfl (lv_at hl 0 rfl) ?_
    refine lv_iload_n hx hb dX2_vote_1 rfl (lv_at hl 1 rfl) ?_
    refine lv_iload_n hx hb dX2_vote_2 rfl (lv_at hl 2 rfl) ?_
    refine lv_iload_n hx hb dX2_vote_3 rfl (lv_at hl 3 rfl) ?_
    refine g_cMV hX hl y_X2_mayPlace v_X2_mayPlace q2592 (k_X2_mayPlace (nI j) (nI i) (nI q) hWc) (hM.rc hX.2.2.2) hM rfl ⟨Nat.le_of_ble_eq_true rfl, Nat.le_of_ble_eq_true rfl⟩ ⟨Nat.le_refl _, Nat.le_refl _⟩ (rest := []) (st1 := [.int (g_b (decide (s_may (F 6) (g_b (s_isPl F X (nI j) (nI q) && s_in (nI i) 0 2)) 1 = 0)))]) rfl rfl (Nat.le_of_ble_eq_true rfl) dX2_vote_4 hS (fun _ h => h) (fun H locs hM hS _ => ?_)
    have hmy : s_may (F 6) (g_b (s_isPl F X (nI j) (nI q) && s_in (nI i) 0 2)) 1 = 0 := s_may_ok hF (g_b_ne hmh) (by decide)
    rw [hmy] at hM ⊢
    refine g_if_eqB (tgt := 20) hx hb (b := decide ((0 : Int32) = 0)) rfl dX2_vote_7 (by decide) (fun c_7 => ?_) (fun c_7 => ?_)
    · exact Bool.noConfusion ((rfl : decide ((0 : Int32) = 0) = true).symm.trans c_7)
    skip
    refine lv_aload_n hx hb dX2_vote_10 rfl (lv_at hl 0 rfl) ?_
    refine lv_iload_n hx hb dX2_vote_11 rfl (lv_at hl 1 rfl) ?_
    refine lv_iload_n hx hb dX2_vote_12 rfl (lv_at hl 2 rfl) ?_
    refine lv_iload_n hx hb dX2_vote_13 rfl (lv_at hl 3 rfl) ?_
    refine g_cRV hX hl y_X2_voteAt v_X2_voteAt q2604 (k_X2_voteAt j i q (by omega) (by omega) (by omega)) (hM.rc hX.2.2.2) hM rfl ⟨Nat.le_of_ble_eq_true rfl, Nat.le_of_ble_eq_true rfl⟩ ⟨Nat.zero_le _, Nat.zero_le _⟩ (rest := []) (st1 := [.int (s_voteAt (X (3 + j)) i q)]) rfl rfl (Nat.le_of_ble_eq_true rfl) dX2_vote_14 ?_
    refine lv_goto (tgt := 21) hx hb dX2_vote_17 (by decide) ?_
    exact hret H locs _ _ _ _ _ dX2_vote_21 hS (Nat.le_refl _) (Nat.le_refl _) (⟨rfl, hM⟩)
  exact key _ _ hM hS

set_option maxHeartbeats 4000000 in
theorem no_X2_vote {G : g_G} {l : Launch} {ad : Nat → Nat} {F : Nat → Int32} {X Y : g_Wd} {U V : Nat → g_Wd} {Z : g_Wd} (t9 : Int32) (v : Int32) (i : Int32) (q : Int32) (ht9 : ¬ t9 = 0) (hbad : s_may (F 6) (g_b (s_isPl F X v q && s_in i 0 2)) 1 = t9) (hWc : ¬ F 6 = 0 → s_ok X) : g_Md G l yX2_vote cX2_vote 4 (some .int) 4 0 0 [.ref (ad 0), .int v, .int i, .int q] (g_Mod G ad F X Y U V Z) (g_Qv (some (.int 0)) (g_Mod G ad (upd F 0 t9) X Y U V Z)) (md_A ad) := by
  refine g_Md.ofI (by decide) (fun _ _ _ => rfl) ?_
  intro p e s m args below meth c ls Q hX hM hl hS hret
  have hx := hX.1.1
  have hb := hX.1.2.1
  have hl : lv_has ls 4 [(0, .ref (ad 0)), (1, .int v), (2, .int i), (3, .int q)] := hl
  have key : ∀ (H : Heap) (locs : List Loc), g_Mod G ad F X Y U V Z H → va_S (md_A ad) s.heap H locs → W p l e (g_rm 4 0 0) s m args below meth c H locs 0 0 Q (F0 m 0 ls []) := by
    intro H locs hM hS
    refine lv_aload_n hx hb dX2_vote_0 rfl (lv_at hl 0 rfl) ?_
    refine lv_iload_n hx hb dX2_vote_1 rfl (lv_at hl 1 rfl) ?_
    refine lv_iload_n hx hb dX2_vote_2 rfl (lv_at hl 2 rfl) ?_
    refine lv_iload_n hx hb dX2_vote_3 rfl (lv_at hl 3 rfl) ?_
    refine g_cMV hX hl y_X2_mayPlace v_X2_mayPlace q2592 (k_X2_mayPlace v i q hWc) (hM.rc hX.2.2.2) hM rfl ⟨Nat.le_of_ble_eq_true rfl, Nat.le_of_ble_eq_true rfl⟩ ⟨Nat.le_refl _, Nat.le_refl _⟩ (rest := []) (st1 := [.int (g_b (decide (s_may (F 6) (g_b (s_isPl F X v q && s_in i 0 2)) 1 = 0)))]) rfl rfl (Nat.le_of_ble_eq_true rfl) dX2_vote_4 hS (fun _ h => h) (fun H locs hM hS _ => ?_)
    have hmy : s_may (F 6) (g_b (s_isPl F X v q && s_in i 0 2)) 1 = t9 := by first | exact hbad | (rw [← hbad]; simp [g_b, g_b]; done) | (rw [← hbad]; simp only [g_b, g_b]; rfl)
    rw [hmy] at hM ⊢
    refine g_if_eqB (tgt := 20) hx hb (b := decide (t9 = 0)) rfl dX2_vote_7 (by decide) (fun c_7 => ?_) (fun c_7 => ?_)
    rotate_left
    · exact Bool.noConfusion ((decide_eq_false ht9).symm.trans c_7)
    refine lv_iconst (v := 0) hx hb dX2_vote_20 rfl ?_
    exact hret H locs _ _ _ _ _ dX2_vote_21 hS (Nat.le_refl _) (Nat.le_refl _) (⟨rfl, hM⟩)
  exact key _ _ hM hS

theorem y_X2_unsure : g_Y yX2_unsure cX2_unsure 3 (some .int) 2 := ⟨q2619, by decide +kernel⟩
theorem v_X2_unsure : g_YV yX2_unsure := ⟨q2617, q2618, q140⟩
set_option maxHeartbeats 4000000 in
theorem ok_X2_unsure {G : g_G} {l : Launch} {ad : Nat → Nat} {F : Nat → Int32} {X Y : g_Wd} {U V : Nat → g_Wd} {Z : g_Wd} (j : Nat) (i : Nat) (hF : ¬ F 6 = 0) (hwl : s_wl X) (hj : j < s_M X) (hi : i < 3) : g_Md G l yX2_unsure cX2_unsure 3 (some .int) 3 0 0 [.ref (ad 0), .int (nI j), .int (nI i)] (g_Mod G ad F X Y U V Z) (g_Qv (some (.int (nI (s_uns (X (3 + j)) i)))) (g_Mod G ad (upd F 0 0) X Y U V Z)) (md_A ad) := by
  refine g_Md.ofI (by decide) (fun _ _ _ => rfl) ?_
  intro p e s m args below meth c ls Q hX hM hl hS hret
  have hx := hX.1.1
  have hb := hX.1.2.1
  have hl : lv_has ls 3 [(0, .ref (ad 0)), (1, .int (nI j)), (2, .int (nI i))] := hl
  have key : ∀ (H : Heap) (locs : List Loc), g_Mod G ad F X Y U V Z H → va_S (md_A ad) s.heap H locs → W p l e (g_rm 3 0 0) s m args below meth c H locs 0 0 Q (F0 m 0 ls []) := by
    intro H locs hM hS
    have hW := hwl.1
    have hWc : ¬ F 6 = 0 → s_ok X := fun _ => hW
    have hW9 := hW
    obtain ⟨⟨hL0, hL2, hL6⟩, ⟨hM0, hM6⟩, ⟨hG0, hG40⟩, hok⟩ := hW9
    have hw9 : s_W X ≤ 45 := by unfold s_W; omega
    have hmsg := s_isMsg_ok hF hW hj
    have ho := hok j hj
    have hL := ho.2
    have hj6 : j < 6 := by omega
    have hht : s_in (nI i) 0 2 = true := s_in_le (show i ≤ 2 by omega) (by decide)
    refine lv_aload_n hx hb dX2_unsure_0 rfl (lv_at hl 0 rfl) ?_
    refine lv_aload_n hx hb dX2_unsure_1 rfl (lv_at hl 0 rfl) ?_
    refine g_getM hX hM 6 (by decide) q2169 rfl (v := .int (F 6)) rfl dX2_unsure_2 ?_
    refine lv_aload_n hx hb dX2_unsure_5 rfl (lv_at hl 0 rfl) ?_
    refine lv_iload_n hx hb dX2_unsure_6 rfl (lv_at hl 1 rfl) ?_
    refine g_cRV hX hl y_X2_isMessage v_X2_isMessage q2564 (k_X2_isMessage (nI j)) (hM.rc hX.2.2.2) hM rfl ⟨Nat.le_of_ble_eq_true rfl, Nat.le_of_ble_eq_true rfl⟩ ⟨Nat.zero_le _, Nat.zero_le _⟩ (rest := [.int (F 6), .ref (ad 0)]) (st1 := [.int (g_b (s_isMsg F X (nI j))), .int (F 6), .ref (ad 0)]) rfl rfl (Nat.le_of_ble_eq_true rfl) dX2_unsure_7 ?_
    refine g_if_eqB (tgt := 25) hx hb (b := s_isMsg F X (nI j)) rfl dX2_unsure_10 (by decide) (fun c_10 => ?_) (fun c_10 => ?_)
    · exact Bool.noConfusion (hmsg.symm.trans c_10)
    skip
    refine lv_aload_n hx hb dX2_unsure_13 rfl (lv_at hl 0 rfl) ?_
    refine lv_iload_n hx hb dX2_unsure_14 rfl (lv_at hl 2 rfl) ?_
    refine g_cRV hX hl y_X2_isHut v_X2_isHut q2517 (k_X2_isHut (nI i)) (hM.rc hX.2.2.2) hM rfl ⟨Nat.le_of_ble_eq_true rfl, Nat.le_of_ble_eq_true rfl⟩ ⟨Nat.zero_le _, Nat.zero_le _⟩ (rest := [.int (F 6), .ref (ad 0)]) (st1 := [.int (g_b (s_in (nI i) 0 2)), .int (F 6), .ref (ad 0)]) rfl rfl (Nat.le_of_ble_eq_true rfl) dX2_unsure_15 ?_
    refine g_if_eqB (tgt := 25) hx hb (b := s_in (nI i) 0 2) rfl dX2_unsure_18 (by decide) (fun c_18 => ?_) (fun c_18 => ?_)
    · exact Bool.noConfusion (hht.symm.trans c_18)
    skip
    refine lv_iconst (v := 1) hx hb dX2_unsure_21 rfl ?_
    refine lv_goto (tgt := 26) hx hb dX2_unsure_22 (by decide) ?_
    refine g_cMV hX hl y_X2_mayTwo v_X2_mayTwo q2501 (k_X2_mayTwo (F 6) 1) (hM.rc hX.2.2.2) hM rfl ⟨Nat.le_of_ble_eq_true rfl, Nat.le_of_ble_eq_true rfl⟩ ⟨Nat.le_refl _, Nat.le_refl _⟩ (rest := []) (st1 := [.int (g_b (decide (s_may (F 6) 1 1 = 0)))]) rfl rfl (Nat.le_of_ble_eq_true rfl) dX2_unsure_26 hS (fun _ h => h) (fun H locs hM hS _ => ?_)
    have hmy : s_may (F 6) 1 1 = 0 := s_may_ok hF (by decide) (by decide)
    rw [hmy] at hM ⊢
    refine g_if_eqB (tgt := 41) hx hb (b := decide ((0 : Int32) = 0)) rfl dX2_unsure_29 (by decide) (fun c_29 => ?_) (fun c_29 => ?_)
    · exact Bool.noConfusion ((rfl : decide ((0 : Int32) = 0) = true).symm.trans c_29)
    skip
    refine lv_aload_n hx hb dX2_unsure_32 rfl (lv_at hl 0 rfl) ?_
    refine lv_iload_n hx hb dX2_unsure_33 rfl (lv_at hl 1 rfl) ?_
    refine lv_iload_n hx hb dX2_unsure_34 rfl (lv_at hl 2 rfl) ?_
    refine g_cRV hX hl y_X2_unsureOf v_X2_unsureOf q2401 (k_X2_unsureOf j i (by omega) ho (by omega)) (hM.rc hX.2.2.2) hM rfl ⟨Nat.le_of_ble_eq_true rfl, Nat.le_of_ble_eq_true rfl⟩ ⟨Nat.zero_le _, Nat.zero_le _⟩ (rest := []) (st1 := [.int (nI (s_uns (X (3 + j)) i))]) rfl rfl (Nat.le_of_ble_eq_true rfl) dX2_unsure_35 ?_
    refine lv_goto (tgt := 42) hx hb dX2_unsure_38 (by decide) ?_
    exact hret H locs _ _ _ _ _ dX2_unsure_42 hS (Nat.le_refl _) (Nat.le_refl _) (⟨rfl, hM⟩)
  exact key _ _ hM hS

set_option maxHeartbeats 4000000 in
theorem no_X2_unsure {G : g_G} {l : Launch} {ad : Nat → Nat} {F : Nat → Int32} {X Y : g_Wd} {U V : Nat → g_Wd} {Z : g_Wd} (t9 : Int32) (v : Int32) (i : Int32) (ht9 : ¬ t9 = 0) (hbad : s_may (F 6) (g_b (s_isMsg F X v && s_in i 0 2)) 1 = t9) (hWc : ¬ F 6 = 0 → s_ok X) : g_Md G l yX2_unsure cX2_unsure 3 (some .int) 2 0 0 [.ref (ad 0), .int v, .int i] (g_Mod G ad F X Y U V Z) (g_Qv (some (.int 0)) (g_Mod G ad (upd F 0 t9) X Y U V Z)) (md_A ad) := by
  refine g_Md.ofI (by decide) (fun _ _ _ => rfl) ?_
  intro p e s m args below meth c ls Q hX hM hl hS hret
  have hx := hX.1.1
  have hb := hX.1.2.1
  have hl : lv_has ls 3 [(0, .ref (ad 0)), (1, .int v), (2, .int i)] := hl
  have key : ∀ (H : Heap) (locs : List Loc), g_Mod G ad F X Y U V Z H → va_S (md_A ad) s.heap H locs → W p l e (g_rm 2 0 0) s m args below meth c H locs 0 0 Q (F0 m 0 ls []) := by
    intro H locs hM hS
    refine lv_aload_n hx hb dX2_unsure_0 rfl (lv_at hl 0 rfl) ?_
    refine lv_aload_n hx hb dX2_unsure_1 rfl (lv_at hl 0 rfl) ?_
    refine g_getM hX hM 6 (by decide) q2169 rfl (v := .int (F 6)) rfl dX2_unsure_2 ?_
    refine lv_aload_n hx hb dX2_unsure_5 rfl (lv_at hl 0 rfl) ?_
    refine lv_iload_n hx hb dX2_unsure_6 rfl (lv_at hl 1 rfl) ?_
    refine g_cRV hX hl y_X2_isMessage v_X2_isMessage q2564 (k_X2_isMessage v) (hM.rc hX.2.2.2) hM rfl ⟨Nat.le_of_ble_eq_true rfl, Nat.le_of_ble_eq_true rfl⟩ ⟨Nat.zero_le _, Nat.zero_le _⟩ (rest := [.int (F 6), .ref (ad 0)]) (st1 := [.int (g_b (s_isMsg F X v)), .int (F 6), .ref (ad 0)]) rfl rfl (Nat.le_of_ble_eq_true rfl) dX2_unsure_7 ?_
    refine g_if_eqB (tgt := 25) hx hb (b := s_isMsg F X v) rfl dX2_unsure_10 (by decide) (fun c_10 => ?_) (fun c_10 => ?_)
    · skip
      refine lv_iconst (v := 0) hx hb dX2_unsure_25 rfl ?_
      refine g_cMV hX hl y_X2_mayTwo v_X2_mayTwo q2501 (k_X2_mayTwo (F 6) 0) (hM.rc hX.2.2.2) hM rfl ⟨Nat.le_of_ble_eq_true rfl, Nat.le_of_ble_eq_true rfl⟩ ⟨Nat.le_refl _, Nat.le_refl _⟩ (rest := []) (st1 := [.int (g_b (decide (s_may (F 6) 0 1 = 0)))]) rfl rfl (Nat.le_of_ble_eq_true rfl) dX2_unsure_26 hS (fun _ h => h) (fun H locs hM hS _ => ?_)
      have hmy : s_may (F 6) 0 1 = t9 := by first | exact hbad | (rw [← hbad]; simp [g_b, c_10]; done) | (rw [← hbad]; simp only [g_b, c_10]; rfl)
      rw [hmy] at hM ⊢
      refine g_if_eqB (tgt := 41) hx hb (b := decide (t9 = 0)) rfl dX2_unsure_29 (by decide) (fun c_29 => ?_) (fun c_29 => ?_)
      rotate_left
      · exact Bool.noConfusion ((decide_eq_false ht9).symm.trans c_29)
      refine lv_iconst (v := 0) hx hb dX2_unsure_41 rfl ?_
      exact hret H locs _ _ _ _ _ dX2_unsure_42 hS (Nat.le_refl _) (Nat.le_refl _) (⟨rfl, hM⟩)
    · skip
      refine lv_aload_n hx hb dX2_unsure_13 rfl (lv_at hl 0 rfl) ?_
      refine lv_iload_n hx hb dX2_unsure_14 rfl (lv_at hl 2 rfl) ?_
      refine g_cRV hX hl y_X2_isHut v_X2_isHut q2517 (k_X2_isHut i) (hM.rc hX.2.2.2) hM rfl ⟨Nat.le_of_ble_eq_true rfl, Nat.le_of_ble_eq_true rfl⟩ ⟨Nat.zero_le _, Nat.zero_le _⟩ (rest := [.int (F 6), .ref (ad 0)]) (st1 := [.int (g_b (s_in i 0 2)), .int (F 6), .ref (ad 0)]) rfl rfl (Nat.le_of_ble_eq_true rfl) dX2_unsure_15 ?_
      refine g_if_eqB (tgt := 25) hx hb (b := s_in i 0 2) rfl dX2_unsure_18 (by decide) (fun c_18 => ?_) (fun c_18 => ?_)
      · skip
        refine lv_iconst (v := 0) hx hb dX2_unsure_25 rfl ?_
        refine g_cMV hX hl y_X2_mayTwo v_X2_mayTwo q2501 (k_X2_mayTwo (F 6) 0) (hM.rc hX.2.2.2) hM rfl ⟨Nat.le_of_ble_eq_true rfl, Nat.le_of_ble_eq_true rfl⟩ ⟨Nat.le_refl _, Nat.le_refl _⟩ (rest := []) (st1 := [.int (g_b (decide (s_may (F 6) 0 1 = 0)))]) rfl rfl (Nat.le_of_ble_eq_true rfl) dX2_unsure_26 hS (fun _ h => h) (fun H locs hM hS _ => ?_)
        have hmy : s_may (F 6) 0 1 = t9 := by first | exact hbad | (rw [← hbad]; simp [g_b, c_10, c_18]; done) | (rw [← hbad]; simp only [g_b, c_10, c_18]; rfl)
        rw [hmy] at hM ⊢
        refine g_if_eqB (tgt := 41) hx hb (b := decide (t9 = 0)) rfl dX2_unsure_29 (by decide) (fun c_29 => ?_) (fun c_29 => ?_)
        rotate_left
        · exact Bool.noConfusion ((decide_eq_false ht9).symm.trans c_29)
        refine lv_iconst (v := 0) hx hb dX2_unsure_41 rfl ?_
        exact hret H locs _ _ _ _ _ dX2_unsure_42 hS (Nat.le_refl _) (Nat.le_refl _) (⟨rfl, hM⟩)
      · skip
        refine lv_iconst (v := 1) hx hb dX2_unsure_21 rfl ?_
        refine lv_goto (tgt := 26) hx hb dX2_unsure_22 (by decide) ?_
        refine g_cMV hX hl y_X2_mayTwo v_X2_mayTwo q2501 (k_X2_mayTwo (F 6) 1) (hM.rc hX.2.2.2) hM rfl ⟨Nat.le_of_ble_eq_true rfl, Nat.le_of_ble_eq_true rfl⟩ ⟨Nat.le_refl _, Nat.le_refl _⟩ (rest := []) (st1 := [.int (g_b (decide (s_may (F 6) 1 1 = 0)))]) rfl rfl (Nat.le_of_ble_eq_true rfl) dX2_unsure_26 hS (fun _ h => h) (fun H locs hM hS _ => ?_)
        have hmy : s_may (F 6) 1 1 = t9 := by first | exact hbad | (rw [← hbad]; simp [g_b, c_10, c_18]; done) | (rw [← hbad]; simp only [g_b, c_10, c_18]; rfl)
        rw [hmy] at hM ⊢
        refine g_if_eqB (tgt := 41) hx hb (b := decide (t9 = 0)) rfl dX2_unsure_29 (by decide) (fun c_29 => ?_) (fun c_29 => ?_)
        rotate_left
        · exact Bool.noConfusion ((decide_eq_false ht9).symm.trans c_29)
        refine lv_iconst (v := 0) hx hb dX2_unsure_41 rfl ?_
        exact hret H locs _ _ _ _ _ dX2_unsure_42 hS (Nat.le_refl _) (Nat.le_refl _) (⟨rfl, hM⟩)
  exact key _ _ hM hS

theorem y_X2_wrong : g_Y yX2_wrong cX2_wrong 3 (some .int) 2 := ⟨q2623, by decide +kernel⟩
theorem v_X2_wrong : g_YV yX2_wrong := ⟨q2621, q2622, q140⟩
set_option maxHeartbeats 4000000 in
theorem ok_X2_wrong {G : g_G} {l : Launch} {ad : Nat → Nat} {F : Nat → Int32} {X Y : g_Wd} {U V : Nat → g_Wd} {Z : g_Wd} (j : Nat) (i : Nat) (hF : ¬ F 6 = 0) (hwl : s_wl X) (hj : j < s_M X) (hi : i < 3) : g_Md G l yX2_wrong cX2_wrong 3 (some .int) 3 0 0 [.ref (ad 0), .int (nI j), .int (nI i)] (g_Mod G ad F X Y U V Z) (g_Qv (some (.int (X (3 + j) 0 - nI (s_uns (X (3 + j)) i) - nI (s_rig (X (3 + j)) i)))) (g_Mod G ad (upd F 0 0) X Y U V Z)) (md_A ad) := by
  refine g_Md.ofI (by decide) (fun _ _ _ => rfl) ?_
  intro p e s m args below meth c ls Q hX hM hl hS hret
  have hx := hX.1.1
  have hb := hX.1.2.1
  have hl : lv_has ls 3 [(0, .ref (ad 0)), (1, .int (nI j)), (2, .int (nI i))] := hl
  have key : ∀ (H : Heap) (locs : List Loc), g_Mod G ad F X Y U V Z H → va_S (md_A ad) s.heap H locs → W p l e (g_rm 3 0 0) s m args below meth c H locs 0 0 Q (F0 m 0 ls []) := by
    intro H locs hM hS
    have hW := hwl.1
    have hWc : ¬ F 6 = 0 → s_ok X := fun _ => hW
    have hW9 := hW
    obtain ⟨⟨hL0, hL2, hL6⟩, ⟨hM0, hM6⟩, ⟨hG0, hG40⟩, hok⟩ := hW9
    have hw9 : s_W X ≤ 45 := by unfold s_W; omega
    have hmsg := s_isMsg_ok hF hW hj
    have ho := hok j hj
    have hL := ho.2
    have hj6 : j < 6 := by omega
    have hht : s_in (nI i) 0 2 = true := s_in_le (show i ≤ 2 by omega) (by decide)
    refine lv_aload_n hx hb dX2_wrong_0 rfl (lv_at hl 0 rfl) ?_
    refine lv_aload_n hx hb dX2_wrong_1 rfl (lv_at hl 0 rfl) ?_
    refine g_getM hX hM 6 (by decide) q2169 rfl (v := .int (F 6)) rfl dX2_wrong_2 ?_
    refine lv_aload_n hx hb dX2_wrong_5 rfl (lv_at hl 0 rfl) ?_
    refine lv_iload_n hx hb dX2_wrong_6 rfl (lv_at hl 1 rfl) ?_
    refine g_cRV hX hl y_X2_isMessage v_X2_isMessage q2564 (k_X2_isMessage (nI j)) (hM.rc hX.2.2.2) hM rfl ⟨Nat.le_of_ble_eq_true rfl, Nat.le_of_ble_eq_true rfl⟩ ⟨Nat.zero_le _, Nat.zero_le _⟩ (rest := [.int (F 6), .ref (ad 0)]) (st1 := [.int (g_b (s_isMsg F X (nI j))), .int (F 6), .ref (ad 0)]) rfl rfl (Nat.le_of_ble_eq_true rfl) dX2_wrong_7 ?_
    refine g_if_eqB (tgt := 25) hx hb (b := s_isMsg F X (nI j)) rfl dX2_wrong_10 (by decide) (fun c_10 => ?_) (fun c_10 => ?_)
    · exact Bool.noConfusion (hmsg.symm.trans c_10)
    skip
    refine lv_aload_n hx hb dX2_wrong_13 rfl (lv_at hl 0 rfl) ?_
    refine lv_iload_n hx hb dX2_wrong_14 rfl (lv_at hl 2 rfl) ?_
    refine g_cRV hX hl y_X2_isHut v_X2_isHut q2517 (k_X2_isHut (nI i)) (hM.rc hX.2.2.2) hM rfl ⟨Nat.le_of_ble_eq_true rfl, Nat.le_of_ble_eq_true rfl⟩ ⟨Nat.zero_le _, Nat.zero_le _⟩ (rest := [.int (F 6), .ref (ad 0)]) (st1 := [.int (g_b (s_in (nI i) 0 2)), .int (F 6), .ref (ad 0)]) rfl rfl (Nat.le_of_ble_eq_true rfl) dX2_wrong_15 ?_
    refine g_if_eqB (tgt := 25) hx hb (b := s_in (nI i) 0 2) rfl dX2_wrong_18 (by decide) (fun c_18 => ?_) (fun c_18 => ?_)
    · exact Bool.noConfusion (hht.symm.trans c_18)
    skip
    refine lv_iconst (v := 1) hx hb dX2_wrong_21 rfl ?_
    refine lv_goto (tgt := 26) hx hb dX2_wrong_22 (by decide) ?_
    refine g_cMV hX hl y_X2_mayTwo v_X2_mayTwo q2501 (k_X2_mayTwo (F 6) 1) (hM.rc hX.2.2.2) hM rfl ⟨Nat.le_of_ble_eq_true rfl, Nat.le_of_ble_eq_true rfl⟩ ⟨Nat.le_refl _, Nat.le_refl _⟩ (rest := []) (st1 := [.int (g_b (decide (s_may (F 6) 1 1 = 0)))]) rfl rfl (Nat.le_of_ble_eq_true rfl) dX2_wrong_26 hS (fun _ h => h) (fun H locs hM hS _ => ?_)
    have hmy : s_may (F 6) 1 1 = 0 := s_may_ok hF (by decide) (by decide)
    rw [hmy] at hM ⊢
    refine g_if_eqB (tgt := 55) hx hb (b := decide ((0 : Int32) = 0)) rfl dX2_wrong_29 (by decide) (fun c_29 => ?_) (fun c_29 => ?_)
    · exact Bool.noConfusion ((rfl : decide ((0 : Int32) = 0) = true).symm.trans c_29)
    skip
    refine lv_aload_n hx hb dX2_wrong_32 rfl (lv_at hl 0 rfl) ?_
    refine lv_iload_n hx hb dX2_wrong_33 rfl (lv_at hl 1 rfl) ?_
    refine lv_iconst (v := 0) hx hb dX2_wrong_34 rfl ?_
    refine g_cRV hX hl y_X2_of v_X2_of q2365 (k_X2_of j 0 (by omega) (by omega)) (hM.rc hX.2.2.2) hM rfl ⟨Nat.le_of_ble_eq_true rfl, Nat.le_of_ble_eq_true rfl⟩ ⟨Nat.zero_le _, Nat.zero_le _⟩ (rest := []) (st1 := [.int (X (3 + j) 0)]) rfl rfl (Nat.le_of_ble_eq_true rfl) dX2_wrong_35 ?_
    refine lv_aload_n hx hb dX2_wrong_38 rfl (lv_at hl 0 rfl) ?_
    refine lv_iload_n hx hb dX2_wrong_39 rfl (lv_at hl 1 rfl) ?_
    refine lv_iload_n hx hb dX2_wrong_40 rfl (lv_at hl 2 rfl) ?_
    refine g_cRV hX hl y_X2_unsureOf v_X2_unsureOf q2401 (k_X2_unsureOf j i (by omega) ho (by omega)) (hM.rc hX.2.2.2) hM rfl ⟨Nat.le_of_ble_eq_true rfl, Nat.le_of_ble_eq_true rfl⟩ ⟨Nat.zero_le _, Nat.zero_le _⟩ (rest := [.int (X (3 + j) 0)]) (st1 := [.int (nI (s_uns (X (3 + j)) i)), .int (X (3 + j) 0)]) rfl rfl (Nat.le_of_ble_eq_true rfl) dX2_wrong_41 ?_
    refine lv_isub hx hb dX2_wrong_44 ?_
    refine lv_aload_n hx hb dX2_wrong_45 rfl (lv_at hl 0 rfl) ?_
    refine lv_iload_n hx hb dX2_wrong_46 rfl (lv_at hl 1 rfl) ?_
    refine lv_iload_n hx hb dX2_wrong_47 rfl (lv_at hl 2 rfl) ?_
    refine g_cRV hX hl y_X2_rightOf v_X2_rightOf q2572 (k_X2_rightOf j i (by omega) ho (by omega)) (hM.rc hX.2.2.2) hM rfl ⟨Nat.le_of_ble_eq_true rfl, Nat.le_of_ble_eq_true rfl⟩ ⟨Nat.zero_le _, Nat.zero_le _⟩ (rest := [.int ((X (3 + j) 0) - (nI (s_uns (X (3 + j)) i)))]) (st1 := [.int (nI (s_rig (X (3 + j)) i)), .int ((X (3 + j) 0) - (nI (s_uns (X (3 + j)) i)))]) rfl rfl (Nat.le_of_ble_eq_true rfl) dX2_wrong_48 ?_
    refine lv_isub hx hb dX2_wrong_51 ?_
    refine lv_goto (tgt := 56) hx hb dX2_wrong_52 (by decide) ?_
    exact hret H locs _ _ _ _ _ dX2_wrong_56 hS (Nat.le_refl _) (Nat.le_refl _) (⟨rfl, hM⟩)
  exact key _ _ hM hS

set_option maxHeartbeats 4000000 in
theorem no_X2_wrong {G : g_G} {l : Launch} {ad : Nat → Nat} {F : Nat → Int32} {X Y : g_Wd} {U V : Nat → g_Wd} {Z : g_Wd} (t9 : Int32) (v : Int32) (i : Int32) (ht9 : ¬ t9 = 0) (hbad : s_may (F 6) (g_b (s_isMsg F X v && s_in i 0 2)) 1 = t9) (hWc : ¬ F 6 = 0 → s_ok X) : g_Md G l yX2_wrong cX2_wrong 3 (some .int) 2 0 0 [.ref (ad 0), .int v, .int i] (g_Mod G ad F X Y U V Z) (g_Qv (some (.int 0)) (g_Mod G ad (upd F 0 t9) X Y U V Z)) (md_A ad) := by
  refine g_Md.ofI (by decide) (fun _ _ _ => rfl) ?_
  intro p e s m args below meth c ls Q hX hM hl hS hret
  have hx := hX.1.1
  have hb := hX.1.2.1
  have hl : lv_has ls 3 [(0, .ref (ad 0)), (1, .int v), (2, .int i)] := hl
  have key : ∀ (H : Heap) (locs : List Loc), g_Mod G ad F X Y U V Z H → va_S (md_A ad) s.heap H locs → W p l e (g_rm 2 0 0) s m args below meth c H locs 0 0 Q (F0 m 0 ls []) := by
    intro H locs hM hS
    refine lv_aload_n hx hb dX2_wrong_0 rfl (lv_at hl 0 rfl) ?_
    refine lv_aload_n hx hb dX2_wrong_1 rfl (lv_at hl 0 rfl) ?_
    refine g_getM hX hM 6 (by decide) q2169 rfl (v := .int (F 6)) rfl dX2_wrong_2 ?_
    refine lv_aload_n hx hb dX2_wrong_5 rfl (lv_at hl 0 rfl) ?_
    refine lv_iload_n hx hb dX2_wrong_6 rfl (lv_at hl 1 rfl) ?_
    refine g_cRV hX hl y_X2_isMessage v_X2_isMessage q2564 (k_X2_isMessage v) (hM.rc hX.2.2.2) hM rfl ⟨Nat.le_of_ble_eq_true rfl, Nat.le_of_ble_eq_true rfl⟩ ⟨Nat.zero_le _, Nat.zero_le _⟩ (rest := [.int (F 6), .ref (ad 0)]) (st1 := [.int (g_b (s_isMsg F X v)), .int (F 6), .ref (ad 0)]) rfl rfl (Nat.le_of_ble_eq_true rfl) dX2_wrong_7 ?_
    refine g_if_eqB (tgt := 25) hx hb (b := s_isMsg F X v) rfl dX2_wrong_10 (by decide) (fun c_10 => ?_) (fun c_10 => ?_)
    · skip
      refine lv_iconst (v := 0) hx hb dX2_wrong_25 rfl ?_
      refine g_cMV hX hl y_X2_mayTwo v_X2_mayTwo q2501 (k_X2_mayTwo (F 6) 0) (hM.rc hX.2.2.2) hM rfl ⟨Nat.le_of_ble_eq_true rfl, Nat.le_of_ble_eq_true rfl⟩ ⟨Nat.le_refl _, Nat.le_refl _⟩ (rest := []) (st1 := [.int (g_b (decide (s_may (F 6) 0 1 = 0)))]) rfl rfl (Nat.le_of_ble_eq_true rfl) dX2_wrong_26 hS (fun _ h => h) (fun H locs hM hS _ => ?_)
      have hmy : s_may (F 6) 0 1 = t9 := by first | exact hbad | (rw [← hbad]; simp [g_b, c_10]; done) | (rw [← hbad]; simp only [g_b, c_10]; rfl)
      rw [hmy] at hM ⊢
      refine g_if_eqB (tgt := 55) hx hb (b := decide (t9 = 0)) rfl dX2_wrong_29 (by decide) (fun c_29 => ?_) (fun c_29 => ?_)
      rotate_left
      · exact Bool.noConfusion ((decide_eq_false ht9).symm.trans c_29)
      refine lv_iconst (v := 0) hx hb dX2_wrong_55 rfl ?_
      exact hret H locs _ _ _ _ _ dX2_wrong_56 hS (Nat.le_refl _) (Nat.le_refl _) (⟨rfl, hM⟩)
    · skip
      refine lv_aload_n hx hb dX2_wrong_13 rfl (lv_at hl 0 rfl) ?_
      refine lv_iload_n hx hb dX2_wrong_14 rfl (lv_at hl 2 rfl) ?_
      refine g_cRV hX hl y_X2_isHut v_X2_isHut q2517 (k_X2_isHut i) (hM.rc hX.2.2.2) hM rfl ⟨Nat.le_of_ble_eq_true rfl, Nat.le_of_ble_eq_true rfl⟩ ⟨Nat.zero_le _, Nat.zero_le _⟩ (rest := [.int (F 6), .ref (ad 0)]) (st1 := [.int (g_b (s_in i 0 2)), .int (F 6), .ref (ad 0)]) rfl rfl (Nat.le_of_ble_eq_true rfl) dX2_wrong_15 ?_
      refine g_if_eqB (tgt := 25) hx hb (b := s_in i 0 2) rfl dX2_wrong_18 (by decide) (fun c_18 => ?_) (fun c_18 => ?_)
      · skip
        refine lv_iconst (v := 0) hx hb dX2_wrong_25 rfl ?_
        refine g_cMV hX hl y_X2_mayTwo v_X2_mayTwo q2501 (k_X2_mayTwo (F 6) 0) (hM.rc hX.2.2.2) hM rfl ⟨Nat.le_of_ble_eq_true rfl, Nat.le_of_ble_eq_true rfl⟩ ⟨Nat.le_refl _, Nat.le_refl _⟩ (rest := []) (st1 := [.int (g_b (decide (s_may (F 6) 0 1 = 0)))]) rfl rfl (Nat.le_of_ble_eq_true rfl) dX2_wrong_26 hS (fun _ h => h) (fun H locs hM hS _ => ?_)
        have hmy : s_may (F 6) 0 1 = t9 := by first | exact hbad | (rw [← hbad]; simp [g_b, c_10, c_18]; done) | (rw [← hbad]; simp only [g_b, c_10, c_18]; rfl)
        rw [hmy] at hM ⊢
        refine g_if_eqB (tgt := 55) hx hb (b := decide (t9 = 0)) rfl dX2_wrong_29 (by decide) (fun c_29 => ?_) (fun c_29 => ?_)
        rotate_left
        · exact Bool.noConfusion ((decide_eq_false ht9).symm.trans c_29)
        refine lv_iconst (v := 0) hx hb dX2_wrong_55 rfl ?_
        exact hret H locs _ _ _ _ _ dX2_wrong_56 hS (Nat.le_refl _) (Nat.le_refl _) (⟨rfl, hM⟩)
      · skip
        refine lv_iconst (v := 1) hx hb dX2_wrong_21 rfl ?_
        refine lv_goto (tgt := 26) hx hb dX2_wrong_22 (by decide) ?_
        refine g_cMV hX hl y_X2_mayTwo v_X2_mayTwo q2501 (k_X2_mayTwo (F 6) 1) (hM.rc hX.2.2.2) hM rfl ⟨Nat.le_of_ble_eq_true rfl, Nat.le_of_ble_eq_true rfl⟩ ⟨Nat.le_refl _, Nat.le_refl _⟩ (rest := []) (st1 := [.int (g_b (decide (s_may (F 6) 1 1 = 0)))]) rfl rfl (Nat.le_of_ble_eq_true rfl) dX2_wrong_26 hS (fun _ h => h) (fun H locs hM hS _ => ?_)
        have hmy : s_may (F 6) 1 1 = t9 := by first | exact hbad | (rw [← hbad]; simp [g_b, c_10, c_18]; done) | (rw [← hbad]; simp only [g_b, c_10, c_18]; rfl)
        rw [hmy] at hM ⊢
        refine g_if_eqB (tgt := 55) hx hb (b := decide (t9 = 0)) rfl dX2_wrong_29 (by decide) (fun c_29 => ?_) (fun c_29 => ?_)
        rotate_left
        · exact Bool.noConfusion ((decide_eq_false ht9).symm.trans c_29)
        refine lv_iconst (v := 0) hx hb dX2_wrong_55 rfl ?_
        exact hret H locs _ _ _ _ _ dX2_wrong_56 hS (Nat.le_refl _) (Nat.le_refl _) (⟨rfl, hM⟩)
  exact key _ _ hM hS

theorem y_X2_believed : g_Y yX2_believed cX2_believed 3 (some .int) 2 := ⟨q2627, by decide +kernel⟩
theorem v_X2_believed : g_YV yX2_believed := ⟨q2625, q2626, q140⟩
set_option maxHeartbeats 4000000 in
theorem ok_X2_believed {G : g_G} {l : Launch} {ad : Nat → Nat} {F : Nat → Int32} {X Y : g_Wd} {U V : Nat → g_Wd} {Z : g_Wd} (j : Nat) (q : Nat) (hF : ¬ F 6 = 0) (hwl : s_wl X) (hj : j < s_M X) (hq : q < s_len (X (3 + j))) : g_Md G l yX2_believed cX2_believed 3 (some .int) 3 0 0 [.ref (ad 0), .int (nI j), .int (nI q)] (g_Mod G ad F X Y U V Z) (g_Qv (some (.int (s_bel (X (3 + j)) q))) (g_Mod G ad (upd F 0 0) X Y U V Z)) (md_A ad) := by
  refine g_Md.ofI (by decide) (fun _ _ _ => rfl) ?_
  intro p e s m args below meth c ls Q hX hM hl hS hret
  have hx := hX.1.1
  have hb := hX.1.2.1
  have hl : lv_has ls 3 [(0, .ref (ad 0)), (1, .int (nI j)), (2, .int (nI q))] := hl
  have key : ∀ (H : Heap) (locs : List Loc), g_Mod G ad F X Y U V Z H → va_S (md_A ad) s.heap H locs → W p l e (g_rm 3 0 0) s m args below meth c H locs 0 0 Q (F0 m 0 ls []) := by
    intro H locs hM hS
    have hW := hwl.1
    have hWc : ¬ F 6 = 0 → s_ok X := fun _ => hW
    have hW9 := hW
    obtain ⟨⟨hL0, hL2, hL6⟩, ⟨hM0, hM6⟩, ⟨hG0, hG40⟩, hok⟩ := hW9
    have hw9 : s_W X ≤ 45 := by unfold s_W; omega
    have hmsg := s_isMsg_ok hF hW hj
    have ho := hok j hj
    have hL := ho.2
    have hj6 : j < 6 := by omega
    have hpl := s_isPl_ok hF hW hj hq
    refine lv_aload_n hx hb dX2_believed_0 rfl (lv_at hl 0 rfl) ?_
    refine lv_aload_n hx hb dX2_believed_1 rfl (lv_at hl 0 rfl) ?_
    refine g_getM hX hM 6 (by decide) q2169 rfl (v := .int (F 6)) rfl dX2_believed_2 ?_
    refine lv_aload_n hx hb dX2_believed_5 rfl (lv_at hl 0 rfl) ?_
    refine lv_iload_n hx hb dX2_believed_6 rfl (lv_at hl 1 rfl) ?_
    refine lv_iload_n hx hb dX2_believed_7 rfl (lv_at hl 2 rfl) ?_
    refine g_cRV hX hl y_X2_isPlace v_X2_isPlace q2584 (k_X2_isPlace (nI j) (nI q) hWc) (hM.rc hX.2.2.2) hM rfl ⟨Nat.le_of_ble_eq_true rfl, Nat.le_of_ble_eq_true rfl⟩ ⟨Nat.zero_le _, Nat.zero_le _⟩ (rest := [.int (F 6), .ref (ad 0)]) (st1 := [.int (g_b (s_isPl F X (nI j) (nI q))), .int (F 6), .ref (ad 0)]) rfl rfl (Nat.le_of_ble_eq_true rfl) dX2_believed_8 ?_
    refine g_cMV hX hl y_X2_mayTwo v_X2_mayTwo q2501 (k_X2_mayTwo (F 6) (g_b (s_isPl F X (nI j) (nI q)))) (hM.rc hX.2.2.2) hM rfl ⟨Nat.le_of_ble_eq_true rfl, Nat.le_of_ble_eq_true rfl⟩ ⟨Nat.le_refl _, Nat.le_refl _⟩ (rest := []) (st1 := [.int (g_b (decide (s_may (F 6) (g_b (s_isPl F X (nI j) (nI q))) 1 = 0)))]) rfl rfl (Nat.le_of_ble_eq_true rfl) dX2_believed_11 hS (fun _ h => h) (fun H locs hM hS _ => ?_)
    have hmy : s_may (F 6) (g_b (s_isPl F X (nI j) (nI q))) 1 = 0 := s_may_ok hF (g_b_ne hpl) (by decide)
    rw [hmy] at hM ⊢
    refine g_if_eqB (tgt := 26) hx hb (b := decide ((0 : Int32) = 0)) rfl dX2_believed_14 (by decide) (fun c_14 => ?_) (fun c_14 => ?_)
    · exact Bool.noConfusion ((rfl : decide ((0 : Int32) = 0) = true).symm.trans c_14)
    skip
    refine lv_aload_n hx hb dX2_believed_17 rfl (lv_at hl 0 rfl) ?_
    refine lv_iload_n hx hb dX2_believed_18 rfl (lv_at hl 1 rfl) ?_
    refine lv_iload_n hx hb dX2_believed_19 rfl (lv_at hl 2 rfl) ?_
    refine g_cRV hX hl y_X2_believedAt v_X2_believedAt q2628 (k_X2_believedAt j q (by omega) (by omega)) (hM.rc hX.2.2.2) hM rfl ⟨Nat.le_of_ble_eq_true rfl, Nat.le_of_ble_eq_true rfl⟩ ⟨Nat.zero_le _, Nat.zero_le _⟩ (rest := []) (st1 := [.int (s_bel (X (3 + j)) q)]) rfl rfl (Nat.le_of_ble_eq_true rfl) dX2_believed_20 ?_
    refine lv_goto (tgt := 27) hx hb dX2_believed_23 (by decide) ?_
    exact hret H locs _ _ _ _ _ dX2_believed_27 hS (Nat.le_refl _) (Nat.le_refl _) (⟨rfl, hM⟩)
  exact key _ _ hM hS

set_option maxHeartbeats 4000000 in
theorem no_X2_believed {G : g_G} {l : Launch} {ad : Nat → Nat} {F : Nat → Int32} {X Y : g_Wd} {U V : Nat → g_Wd} {Z : g_Wd} (t9 : Int32) (v : Int32) (q : Int32) (ht9 : ¬ t9 = 0) (hbad : s_may (F 6) (g_b (s_isPl F X v q)) 1 = t9) (hWc : ¬ F 6 = 0 → s_ok X) : g_Md G l yX2_believed cX2_believed 3 (some .int) 3 0 0 [.ref (ad 0), .int v, .int q] (g_Mod G ad F X Y U V Z) (g_Qv (some (.int 0)) (g_Mod G ad (upd F 0 t9) X Y U V Z)) (md_A ad) := by
  refine g_Md.ofI (by decide) (fun _ _ _ => rfl) ?_
  intro p e s m args below meth c ls Q hX hM hl hS hret
  have hx := hX.1.1
  have hb := hX.1.2.1
  have hl : lv_has ls 3 [(0, .ref (ad 0)), (1, .int v), (2, .int q)] := hl
  have key : ∀ (H : Heap) (locs : List Loc), g_Mod G ad F X Y U V Z H → va_S (md_A ad) s.heap H locs → W p l e (g_rm 3 0 0) s m args below meth c H locs 0 0 Q (F0 m 0 ls []) := by
    intro H locs hM hS
    refine lv_aload_n hx hb dX2_believed_0 rfl (lv_at hl 0 rfl) ?_
    refine lv_aload_n hx hb dX2_believed_1 rfl (lv_at hl 0 rfl) ?_
    refine g_getM hX hM 6 (by decide) q2169 rfl (v := .int (F 6)) rfl dX2_believed_2 ?_
    refine lv_aload_n hx hb dX2_believed_5 rfl (lv_at hl 0 rfl) ?_
    refine lv_iload_n hx hb dX2_believed_6 rfl (lv_at hl 1 rfl) ?_
    refine lv_iload_n hx hb dX2_believed_7 rfl (lv_at hl 2 rfl) ?_
    refine g_cRV hX hl y_X2_isPlace v_X2_isPlace q2584 (k_X2_isPlace v q hWc) (hM.rc hX.2.2.2) hM rfl ⟨Nat.le_of_ble_eq_true rfl, Nat.le_of_ble_eq_true rfl⟩ ⟨Nat.zero_le _, Nat.zero_le _⟩ (rest := [.int (F 6), .ref (ad 0)]) (st1 := [.int (g_b (s_isPl F X v q)), .int (F 6), .ref (ad 0)]) rfl rfl (Nat.le_of_ble_eq_true rfl) dX2_believed_8 ?_
    refine g_cMV hX hl y_X2_mayTwo v_X2_mayTwo q2501 (k_X2_mayTwo (F 6) (g_b (s_isPl F X v q))) (hM.rc hX.2.2.2) hM rfl ⟨Nat.le_of_ble_eq_true rfl, Nat.le_of_ble_eq_true rfl⟩ ⟨Nat.le_refl _, Nat.le_refl _⟩ (rest := []) (st1 := [.int (g_b (decide (s_may (F 6) (g_b (s_isPl F X v q)) 1 = 0)))]) rfl rfl (Nat.le_of_ble_eq_true rfl) dX2_believed_11 hS (fun _ h => h) (fun H locs hM hS _ => ?_)
    have hmy : s_may (F 6) (g_b (s_isPl F X v q)) 1 = t9 := by first | exact hbad | (rw [← hbad]; simp [g_b, g_b]; done) | (rw [← hbad]; simp only [g_b, g_b]; rfl)
    rw [hmy] at hM ⊢
    refine g_if_eqB (tgt := 26) hx hb (b := decide (t9 = 0)) rfl dX2_believed_14 (by decide) (fun c_14 => ?_) (fun c_14 => ?_)
    rotate_left
    · exact Bool.noConfusion ((decide_eq_false ht9).symm.trans c_14)
    refine lv_iconst (v := 0) hx hb dX2_believed_26 rfl ?_
    exact hret H locs _ _ _ _ _ dX2_believed_27 hS (Nat.le_refl _) (Nat.le_refl _) (⟨rfl, hM⟩)
  exact key _ _ hM hS

theorem y_X2_liar : g_Y yX2_liar cX2_liar 5 (some .int) 1 := ⟨q2647, by decide +kernel⟩
theorem v_X2_liar : g_YV yX2_liar := ⟨q2645, q2646, q140⟩
set_option maxHeartbeats 4000000 in
theorem ok_X2_liar {G : g_G} {l : Launch} {ad : Nat → Nat} {F : Nat → Int32} {X Y : g_Wd} {U V : Nat → g_Wd} {Z : g_Wd} (j : Nat) (hF : ¬ F 6 = 0) (hwl : s_wl X) (hj : j < s_M X) : g_Md G l yX2_liar cX2_liar 5 (some .int) 4 0 0 [.ref (ad 0), .int (nI j)] (g_Mod G ad F X Y U V Z) (g_Qv (some (.int (s_liar (X (3 + j))))) (g_Mod G ad (upd F 0 0) X Y U V Z)) (md_A ad) := by
  refine g_Md.ofI (by decide) (fun _ _ _ => rfl) ?_
  intro p e s m args below meth c ls Q hX hM hl hS hret
  have hx := hX.1.1
  have hb := hX.1.2.1
  have hl : lv_has ls 5 [(0, .ref (ad 0)), (1, .int (nI j))] := hl
  have key : ∀ (H : Heap) (locs : List Loc), g_Mod G ad F X Y U V Z H → va_S (md_A ad) s.heap H locs → W p l e (g_rm 4 0 0) s m args below meth c H locs 0 0 Q (F0 m 0 ls []) := by
    intro H locs hM hS
    have hW := hwl.1
    have hWc : ¬ F 6 = 0 → s_ok X := fun _ => hW
    have hW9 := hW
    obtain ⟨⟨hL0, hL2, hL6⟩, ⟨hM0, hM6⟩, ⟨hG0, hG40⟩, hok⟩ := hW9
    have hw9 : s_W X ≤ 45 := by unfold s_W; omega
    have hmsg := s_isMsg_ok hF hW hj
    have ho := hok j hj
    have hL := ho.2
    have hj6 : j < 6 := by omega
    refine lv_aload_n hx hb dX2_liar_0 rfl (lv_at hl 0 rfl) ?_
    refine lv_iload_n hx hb dX2_liar_1 rfl (lv_at hl 1 rfl) ?_
    refine g_cMV hX hl y_X2_mayMessage v_X2_mayMessage q2636 (k_X2_mayMessage (nI j)) (hM.rc hX.2.2.2) hM rfl ⟨Nat.le_of_ble_eq_true rfl, Nat.le_of_ble_eq_true rfl⟩ ⟨Nat.le_refl _, Nat.le_refl _⟩ (rest := []) (st1 := [.int (g_b (decide (s_may (F 6) (g_b (s_isMsg F X (nI j))) 1 = 0)))]) rfl rfl (Nat.le_of_ble_eq_true rfl) dX2_liar_2 hS (fun _ h => h) (fun H locs hM hS _ => ?_)
    have hmy : s_may (F 6) (g_b (s_isMsg F X (nI j))) 1 = 0 := s_may_ok hF (g_b_ne hmsg) (by decide)
    rw [hmy] at hM ⊢
    refine g_if_neB (tgt := 10) hx hb (b := decide ((0 : Int32) = 0)) rfl dX2_liar_5 (by decide) (fun c_5 => ?_) (fun c_5 => ?_)
    rotate_left
    · exact Bool.noConfusion ((rfl : decide ((0 : Int32) = 0) = true).symm.trans c_5)
    refine lv_iconst (v := (-1)) hx hb dX2_liar_10 rfl ?_
    refine lv_istore_n (lv' := [(2, .int (-1)), (0, .ref (ad 0)), (1, .int (nI j))]) hx hb dX2_liar_11 rfl hl (by decide) rfl (fun ls hl => ?_)
    refine lv_iconst (v := 0) hx hb dX2_liar_12 rfl ?_
    refine lv_istore_n (lv' := [(3, .int 0), (2, .int (-1)), (0, .ref (ad 0)), (1, .int (nI j))]) hx hb dX2_liar_13 rfl hl (by decide) rfl (fun ls hl => ?_)
    refine lv_iconst (v := 0) hx hb dX2_liar_14 rfl ?_
    refine lv_istore (lv' := [(4, .int 0), (3, .int 0), (2, .int (-1)), (0, .ref (ad 0)), (1, .int (nI j))]) hx hb dX2_liar_15 hl (by decide) rfl (fun ls hl => ?_)
    have L17 : ∀ (nf : Nat) (H : Heap) (locs : List Loc) (i : Nat), (i ≤ 3) → (3 - i < nf) → (g_Mod G ad (upd F 0 0) X Y U V Z H) → va_S (md_A ad) s.heap H locs → ∀ ls : Array Slot, lv_has ls 5 [(4, .int (nI i)), (2, .int ((s_best (fun z => nI (s_lies (X (3 + j)) z))  i).1)), (3, .int ((s_best (fun z => nI (s_lies (X (3 + j)) z))  i).2)), (0, .ref (ad 0)), (1, .int (nI j))] → W p l e (g_rm 4 0 0) s m args below meth c H locs 0 0 Q (F0 m 17 ls []) := by
      intro n17
      induction n17 with
      | zero => intro H locs i hi hn; exact absurd hn (Nat.not_lt_zero _)
      | succ n17 ih17 =>
        intro H locs i hi hn17 hM hS ls hl
        refine lv_iload hx hb dX2_liar_17 (lv_at hl 0 rfl) ?_
        refine lv_iconst (v := 3) hx hb dX2_liar_19 rfl ?_
        refine g_icmp_geN (tgt := 54) hx hb i 3 rfl rfl (by omega) (by omega) dX2_liar_20 (by decide) (fun c_20 => ?_) (fun c_20 => ?_)
        · skip
          refine lv_iload_n hx hb dX2_liar_54 rfl (lv_at hl 1 rfl) ?_
          exact hret H locs _ _ _ _ _ dX2_liar_55 hS (Nat.le_refl _) (Nat.le_refl _) (⟨by rw [show i = 3 by omega]; rfl, hM⟩)
        · skip
          refine lv_aload_n hx hb dX2_liar_23 rfl (lv_at hl 3 rfl) ?_
          refine lv_iload_n hx hb dX2_liar_24 rfl (lv_at hl 4 rfl) ?_
          refine lv_iload hx hb dX2_liar_25 (lv_at hl 0 rfl) ?_
          refine g_cRV hX hl y_X2_liesOf v_X2_liesOf q2648 (k_X2_liesOf j i (by omega) ho (by omega)) (hM.rc hX.2.2.2) hM rfl ⟨Nat.le_of_ble_eq_true rfl, Nat.le_of_ble_eq_true rfl⟩ ⟨Nat.zero_le _, Nat.zero_le _⟩ (rest := []) (st1 := [.int (nI (s_lies (X (3 + j)) i))]) rfl rfl (Nat.le_of_ble_eq_true rfl) dX2_liar_27 ?_
          refine lv_iload_n hx hb dX2_liar_30 rfl (lv_at hl 2 rfl) ?_
          refine lv_icmp_gt (tgt := 37) hx hb dX2_liar_31 (by decide) (fun c_31 => ?_) (fun c_31 => ?_)
          · skip
            refine lv_aload_n hx hb dX2_liar_37 rfl (lv_at hl 3 rfl) ?_
            refine lv_iload_n hx hb dX2_liar_38 rfl (lv_at hl 4 rfl) ?_
            refine lv_iload hx hb dX2_liar_39 (lv_at hl 0 rfl) ?_
            refine g_cRV hX hl y_X2_liesOf v_X2_liesOf q2648 (k_X2_liesOf j i (by omega) ho (by omega)) (hM.rc hX.2.2.2) hM rfl ⟨Nat.le_of_ble_eq_true rfl, Nat.le_of_ble_eq_true rfl⟩ ⟨Nat.zero_le _, Nat.zero_le _⟩ (rest := []) (st1 := [.int (nI (s_lies (X (3 + j)) i))]) rfl rfl (Nat.le_of_ble_eq_true rfl) dX2_liar_41 ?_
            refine lv_istore_n (lv' := [(3, .int (nI (s_lies (X (3 + j)) i))), (4, .int (nI i)), (2, .int ((s_best (fun z => nI (s_lies (X (3 + j)) z))  i).1)), (0, .ref (ad 0)), (1, .int (nI j))]) hx hb dX2_liar_44 rfl hl (by decide) rfl (fun ls hl => ?_)
            refine lv_iload hx hb dX2_liar_45 (lv_at hl 1 rfl) ?_
            refine lv_istore_n (lv' := [(2, .int (nI i)), (3, .int (nI (s_lies (X (3 + j)) i))), (4, .int (nI i)), (0, .ref (ad 0)), (1, .int (nI j))]) hx hb dX2_liar_47 rfl hl (by decide) rfl (fun ls hl => ?_)
            refine lv_iinc (v := (nI (i + 1))) (lv' := [(4, .int (nI (i + 1))), (2, .int (nI i)), (3, .int (nI (s_lies (X (3 + j)) i))), (0, .ref (ad 0)), (1, .int (nI j))]) hx hb dX2_liar_48 hl (k := 2) rfl (nI_1 _) (by decide) rfl (fun ls hl => ?_)
            refine lv_goto (tgt := 17) hx hb dX2_liar_51 (by decide) ?_
            have e_3 : (nI (s_lies (X (3 + j)) i)) = ((s_best (fun z => nI (s_lies (X (3 + j)) z))  (i + 1)).2) := by simp [s_best, c_20, c_31]; try grind
            rw [e_3] at hl
            have e_2 : (nI i) = ((s_best (fun z => nI (s_lies (X (3 + j)) z))  (i + 1)).1) := by simp [s_best, c_20, c_31]; try grind
            rw [e_2] at hl
            exact ih17 H locs (i + 1) (by omega) (by omega) hM hS ls (lv_sub hl [0, 1, 2, 3, 4] rfl)
          · skip
            refine lv_goto (tgt := 48) hx hb dX2_liar_34 (by decide) ?_
            refine lv_iinc (v := (nI (i + 1))) (lv' := [(4, .int (nI (i + 1))), (2, .int ((s_best (fun z => nI (s_lies (X (3 + j)) z))  i).1)), (3, .int ((s_best (fun z => nI (s_lies (X (3 + j)) z))  i).2)), (0, .ref (ad 0)), (1, .int (nI j))]) hx hb dX2_liar_48 hl (k := 0) rfl (nI_1 _) (by decide) rfl (fun ls hl => ?_)
            refine lv_goto (tgt := 17) hx hb dX2_liar_51 (by decide) ?_
            have e_2 : ((s_best (fun z => nI (s_lies (X (3 + j)) z))  i).1) = ((s_best (fun z => nI (s_lies (X (3 + j)) z))  (i + 1)).1) := by simp [s_best, c_20, c_31]; try grind
            rw [e_2] at hl
            have e_3 : ((s_best (fun z => nI (s_lies (X (3 + j)) z))  i).2) = ((s_best (fun z => nI (s_lies (X (3 + j)) z))  (i + 1)).2) := by simp [s_best, c_20, c_31]; try grind
            rw [e_3] at hl
            exact ih17 H locs (i + 1) (by omega) (by omega) hM hS ls (lv_sub hl [0, 1, 2, 3, 4] rfl)
    exact L17 (3 - 0 + 1) H locs 0 (by omega) (Nat.lt_succ_self _) hM hS ls (lv_sub hl [0, 2, 1, 3, 4] rfl)
  exact key _ _ hM hS

set_option maxHeartbeats 4000000 in
theorem no_X2_liar {G : g_G} {l : Launch} {ad : Nat → Nat} {F : Nat → Int32} {X Y : g_Wd} {U V : Nat → g_Wd} {Z : g_Wd} (t9 : Int32) (v : Int32) (ht9 : ¬ t9 = 0) (hbad : s_may (F 6) (g_b (s_isMsg F X v)) 1 = t9) (hWc : ¬ F 6 = 0 → s_ok X) : g_Md G l yX2_liar cX2_liar 5 (some .int) 3 0 0 [.ref (ad 0), .int v] (g_Mod G ad F X Y U V Z) (g_Qv (some (.int 0)) (g_Mod G ad (upd F 0 t9) X Y U V Z)) (md_A ad) := by
  refine g_Md.ofI (by decide) (fun _ _ _ => rfl) ?_
  intro p e s m args below meth c ls Q hX hM hl hS hret
  have hx := hX.1.1
  have hb := hX.1.2.1
  have hl : lv_has ls 5 [(0, .ref (ad 0)), (1, .int v)] := hl
  have key : ∀ (H : Heap) (locs : List Loc), g_Mod G ad F X Y U V Z H → va_S (md_A ad) s.heap H locs → W p l e (g_rm 3 0 0) s m args below meth c H locs 0 0 Q (F0 m 0 ls []) := by
    intro H locs hM hS
    refine lv_aload_n hx hb dX2_liar_0 rfl (lv_at hl 0 rfl) ?_
    refine lv_iload_n hx hb dX2_liar_1 rfl (lv_at hl 1 rfl) ?_
    refine g_cMV hX hl y_X2_mayMessage v_X2_mayMessage q2636 (k_X2_mayMessage v) (hM.rc hX.2.2.2) hM rfl ⟨Nat.le_of_ble_eq_true rfl, Nat.le_of_ble_eq_true rfl⟩ ⟨Nat.le_refl _, Nat.le_refl _⟩ (rest := []) (st1 := [.int (g_b (decide (s_may (F 6) (g_b (s_isMsg F X v)) 1 = 0)))]) rfl rfl (Nat.le_of_ble_eq_true rfl) dX2_liar_2 hS (fun _ h => h) (fun H locs hM hS _ => ?_)
    have hmy : s_may (F 6) (g_b (s_isMsg F X v)) 1 = t9 := by first | exact hbad | (rw [← hbad]; simp [g_b, g_b]; done) | (rw [← hbad]; simp only [g_b, g_b]; rfl)
    rw [hmy] at hM ⊢
    refine g_if_neB (tgt := 10) hx hb (b := decide (t9 = 0)) rfl dX2_liar_5 (by decide) (fun c_5 => ?_) (fun c_5 => ?_)
    · exact Bool.noConfusion ((decide_eq_false ht9).symm.trans c_5)
    skip
    refine lv_iconst (v := 0) hx hb dX2_liar_8 rfl ?_
    exact hret H locs _ _ _ _ _ dX2_liar_9 hS (Nat.le_refl _) (Nat.le_refl _) (⟨rfl, hM⟩)
  exact key _ _ hM hS

theorem y_X2_firstWrong : g_Y yX2_firstWrong cX2_firstWrong 3 (some .int) 1 := ⟨q2655, by decide +kernel⟩
theorem v_X2_firstWrong : g_YV yX2_firstWrong := ⟨q2653, q2654, q140⟩
set_option maxHeartbeats 4000000 in
theorem ok_X2_firstWrong {G : g_G} {l : Launch} {ad : Nat → Nat} {F : Nat → Int32} {X Y : g_Wd} {U V : Nat → g_Wd} {Z : g_Wd} (j : Nat) (hF : ¬ F 6 = 0) (hwl : s_wl X) (hj : j < s_M X) : g_Md G l yX2_firstWrong cX2_firstWrong 3 (some .int) 3 0 0 [.ref (ad 0), .int (nI j)] (g_Mod G ad F X Y U V Z) (g_Qv (some (.int (s_fw (X (3 + j))))) (g_Mod G ad (upd F 0 0) X Y U V Z)) (md_A ad) := by
  refine g_Md.ofI (by decide) (fun _ _ _ => rfl) ?_
  intro p e s m args below meth c ls Q hX hM hl hS hret
  have hx := hX.1.1
  have hb := hX.1.2.1
  have hl : lv_has ls 3 [(0, .ref (ad 0)), (1, .int (nI j))] := hl
  have key : ∀ (H : Heap) (locs : List Loc), g_Mod G ad F X Y U V Z H → va_S (md_A ad) s.heap H locs → W p l e (g_rm 3 0 0) s m args below meth c H locs 0 0 Q (F0 m 0 ls []) := by
    intro H locs hM hS
    have hW := hwl.1
    have hWc : ¬ F 6 = 0 → s_ok X := fun _ => hW
    have hW9 := hW
    obtain ⟨⟨hL0, hL2, hL6⟩, ⟨hM0, hM6⟩, ⟨hG0, hG40⟩, hok⟩ := hW9
    have hw9 : s_W X ≤ 45 := by unfold s_W; omega
    have hmsg := s_isMsg_ok hF hW hj
    have ho := hok j hj
    have hL := ho.2
    have hj6 : j < 6 := by omega
    refine lv_aload_n hx hb dX2_firstWrong_0 rfl (lv_at hl 0 rfl) ?_
    refine lv_iload_n hx hb dX2_firstWrong_1 rfl (lv_at hl 1 rfl) ?_
    refine g_cMV hX hl y_X2_mayMessage v_X2_mayMessage q2636 (k_X2_mayMessage (nI j)) (hM.rc hX.2.2.2) hM rfl ⟨Nat.le_of_ble_eq_true rfl, Nat.le_of_ble_eq_true rfl⟩ ⟨Nat.le_refl _, Nat.le_refl _⟩ (rest := []) (st1 := [.int (g_b (decide (s_may (F 6) (g_b (s_isMsg F X (nI j))) 1 = 0)))]) rfl rfl (Nat.le_of_ble_eq_true rfl) dX2_firstWrong_2 hS (fun _ h => h) (fun H locs hM hS _ => ?_)
    have hmy : s_may (F 6) (g_b (s_isMsg F X (nI j))) 1 = 0 := s_may_ok hF (g_b_ne hmsg) (by decide)
    rw [hmy] at hM ⊢
    refine g_if_neB (tgt := 10) hx hb (b := decide ((0 : Int32) = 0)) rfl dX2_firstWrong_5 (by decide) (fun c_5 => ?_) (fun c_5 => ?_)
    rotate_left
    · exact Bool.noConfusion ((rfl : decide ((0 : Int32) = 0) = true).symm.trans c_5)
    refine lv_iconst (v := 0) hx hb dX2_firstWrong_10 rfl ?_
    refine lv_istore_n (lv' := [(2, .int 0), (0, .ref (ad 0)), (1, .int (nI j))]) hx hb dX2_firstWrong_11 rfl hl (by decide) rfl (fun ls hl => ?_)
    have L12 : ∀ (nf : Nat) (H : Heap) (locs : List Loc) (q : Nat), (q ≤ s_len (X (3 + j))) → (s_any (fun p => !decide (s_bel (X (3 + j)) p = s_dig (X (3 + j)) p)) q = false) → (s_len (X (3 + j)) - q < nf) → (g_Mod G ad (upd F 0 0) X Y U V Z H) → va_S (md_A ad) s.heap H locs → ∀ ls : Array Slot, lv_has ls 3 [(2, .int (nI q)), (0, .ref (ad 0)), (1, .int (nI j))] → W p l e (g_rm 3 0 0) s m args below meth c H locs 0 0 Q (F0 m 12 ls []) := by
      intro n12
      induction n12 with
      | zero => intro H locs q hq ha hn; exact absurd hn (Nat.not_lt_zero _)
      | succ n12 ih12 =>
        intro H locs q hq ha hn12 hM hS ls hl
        refine lv_iload_n hx hb dX2_firstWrong_12 rfl (lv_at hl 0 rfl) ?_
        refine lv_aload_n hx hb dX2_firstWrong_13 rfl (lv_at hl 1 rfl) ?_
        refine lv_iload_n hx hb dX2_firstWrong_14 rfl (lv_at hl 2 rfl) ?_
        refine lv_iconst (v := 0) hx hb dX2_firstWrong_15 rfl ?_
        refine g_cRV hX hl y_X2_of v_X2_of q2365 (k_X2_of j 0 (by omega) (by omega)) (hM.rc hX.2.2.2) hM rfl ⟨Nat.le_of_ble_eq_true rfl, Nat.le_of_ble_eq_true rfl⟩ ⟨Nat.zero_le _, Nat.zero_le _⟩ (rest := [.int (nI q)]) (st1 := [.int (X (3 + j) 0), .int (nI q)]) rfl rfl (Nat.le_of_ble_eq_true rfl) dX2_firstWrong_16 ?_
        refine g_icmp_geN (tgt := 45) hx hb q (s_len (X (3 + j))) rfl ho.1 (by omega) (by omega) dX2_firstWrong_19 (by decide) (fun c_19 => ?_) (fun c_19 => ?_)
        · skip
          refine lv_iconst (v := (-1)) hx hb dX2_firstWrong_45 rfl ?_
          exact hret H locs _ _ _ _ _ dX2_firstWrong_46 hS (Nat.le_refl _) (Nat.le_refl _) (⟨by rw [s_fw, show s_len (X (3 + j)) = q by omega, s_fstN_none ha], hM⟩)
        · skip
          refine lv_aload_n hx hb dX2_firstWrong_22 rfl (lv_at hl 1 rfl) ?_
          refine lv_iload_n hx hb dX2_firstWrong_23 rfl (lv_at hl 2 rfl) ?_
          refine lv_iload_n hx hb dX2_firstWrong_24 rfl (lv_at hl 0 rfl) ?_
          refine g_cRV hX hl y_X2_believedAt v_X2_believedAt q2628 (k_X2_believedAt j q (by omega) (by omega)) (hM.rc hX.2.2.2) hM rfl ⟨Nat.le_of_ble_eq_true rfl, Nat.le_of_ble_eq_true rfl⟩ ⟨Nat.zero_le _, Nat.zero_le _⟩ (rest := []) (st1 := [.int (s_bel (X (3 + j)) q)]) rfl rfl (Nat.le_of_ble_eq_true rfl) dX2_firstWrong_25 ?_
          refine lv_aload_n hx hb dX2_firstWrong_28 rfl (lv_at hl 1 rfl) ?_
          refine lv_iload_n hx hb dX2_firstWrong_29 rfl (lv_at hl 2 rfl) ?_
          refine lv_iload_n hx hb dX2_firstWrong_30 rfl (lv_at hl 0 rfl) ?_
          refine g_cRV hX hl y_X2_digitAt v_X2_digitAt q2576 (k_X2_digitAt j q (by omega) (by omega)) (hM.rc hX.2.2.2) hM rfl ⟨Nat.le_of_ble_eq_true rfl, Nat.le_of_ble_eq_true rfl⟩ ⟨Nat.zero_le _, Nat.zero_le _⟩ (rest := [.int (s_bel (X (3 + j)) q)]) (st1 := [.int (s_dig (X (3 + j)) q), .int (s_bel (X (3 + j)) q)]) rfl rfl (Nat.le_of_ble_eq_true rfl) dX2_firstWrong_31 ?_
          refine lv_icmp_eq (tgt := 39) hx hb dX2_firstWrong_34 (by decide) (fun c_34 => ?_) (fun c_34 => ?_)
          · skip
            refine lv_iinc (v := (nI (q + 1))) (lv' := [(2, .int (nI (q + 1))), (0, .ref (ad 0)), (1, .int (nI j))]) hx hb dX2_firstWrong_39 hl (k := 0) rfl (nI_1 _) (by decide) rfl (fun ls hl => ?_)
            refine lv_goto (tgt := 12) hx hb dX2_firstWrong_42 (by decide) ?_
            exact ih12 H locs (q + 1) (by omega) (by simp only [s_any, ha, Bool.false_or]; simp [c_34]) (by omega) hM hS ls (lv_sub hl [0, 1, 2] rfl)
          · skip
            refine lv_iload_n hx hb dX2_firstWrong_37 rfl (lv_at hl 0 rfl) ?_
            exact hret H locs _ _ _ _ _ dX2_firstWrong_38 hS (Nat.le_refl _) (Nat.le_refl _) (⟨by rw [s_fw, s_fstN_at ha (by simp [c_34]) c_19], hM⟩)
    exact L12 (s_len (X (3 + j)) - 0 + 1) H locs 0 (by omega) (rfl) (Nat.lt_succ_self _) hM hS ls (lv_sub hl [0, 1, 2] rfl)
  exact key _ _ hM hS

set_option maxHeartbeats 4000000 in
theorem no_X2_firstWrong {G : g_G} {l : Launch} {ad : Nat → Nat} {F : Nat → Int32} {X Y : g_Wd} {U V : Nat → g_Wd} {Z : g_Wd} (t9 : Int32) (v : Int32) (ht9 : ¬ t9 = 0) (hbad : s_may (F 6) (g_b (s_isMsg F X v)) 1 = t9) (hWc : ¬ F 6 = 0 → s_ok X) : g_Md G l yX2_firstWrong cX2_firstWrong 3 (some .int) 3 0 0 [.ref (ad 0), .int v] (g_Mod G ad F X Y U V Z) (g_Qv (some (.int 0)) (g_Mod G ad (upd F 0 t9) X Y U V Z)) (md_A ad) := by
  refine g_Md.ofI (by decide) (fun _ _ _ => rfl) ?_
  intro p e s m args below meth c ls Q hX hM hl hS hret
  have hx := hX.1.1
  have hb := hX.1.2.1
  have hl : lv_has ls 3 [(0, .ref (ad 0)), (1, .int v)] := hl
  have key : ∀ (H : Heap) (locs : List Loc), g_Mod G ad F X Y U V Z H → va_S (md_A ad) s.heap H locs → W p l e (g_rm 3 0 0) s m args below meth c H locs 0 0 Q (F0 m 0 ls []) := by
    intro H locs hM hS
    refine lv_aload_n hx hb dX2_firstWrong_0 rfl (lv_at hl 0 rfl) ?_
    refine lv_iload_n hx hb dX2_firstWrong_1 rfl (lv_at hl 1 rfl) ?_
    refine g_cMV hX hl y_X2_mayMessage v_X2_mayMessage q2636 (k_X2_mayMessage v) (hM.rc hX.2.2.2) hM rfl ⟨Nat.le_of_ble_eq_true rfl, Nat.le_of_ble_eq_true rfl⟩ ⟨Nat.le_refl _, Nat.le_refl _⟩ (rest := []) (st1 := [.int (g_b (decide (s_may (F 6) (g_b (s_isMsg F X v)) 1 = 0)))]) rfl rfl (Nat.le_of_ble_eq_true rfl) dX2_firstWrong_2 hS (fun _ h => h) (fun H locs hM hS _ => ?_)
    have hmy : s_may (F 6) (g_b (s_isMsg F X v)) 1 = t9 := by first | exact hbad | (rw [← hbad]; simp [g_b, g_b]; done) | (rw [← hbad]; simp only [g_b, g_b]; rfl)
    rw [hmy] at hM ⊢
    refine g_if_neB (tgt := 10) hx hb (b := decide (t9 = 0)) rfl dX2_firstWrong_5 (by decide) (fun c_5 => ?_) (fun c_5 => ?_)
    · exact Bool.noConfusion ((decide_eq_false ht9).symm.trans c_5)
    skip
    refine lv_iconst (v := 0) hx hb dX2_firstWrong_8 rfl ?_
    exact hret H locs _ _ _ _ _ dX2_firstWrong_9 hS (Nat.le_refl _) (Nat.le_refl _) (⟨rfl, hM⟩)
  exact key _ _ hM hS

theorem y_X2_doubtful : g_Y yX2_doubtful cX2_doubtful 4 (some .int) 1 := ⟨q2659, by decide +kernel⟩
theorem v_X2_doubtful : g_YV yX2_doubtful := ⟨q2657, q2658, q140⟩
set_option maxHeartbeats 4000000 in
theorem ok_X2_doubtful {G : g_G} {l : Launch} {ad : Nat → Nat} {F : Nat → Int32} {X Y : g_Wd} {U V : Nat → g_Wd} {Z : g_Wd} (j : Nat) (hF : ¬ F 6 = 0) (hwl : s_wl X) (hj : j < s_M X) : g_Md G l yX2_doubtful cX2_doubtful 4 (some .int) 3 0 0 [.ref (ad 0), .int (nI j)] (g_Mod G ad F X Y U V Z) (g_Qv (some (.int (nI (s_doubM (X (3 + j)))))) (g_Mod G ad (upd F 0 0) X Y U V Z)) (md_A ad) := by
  refine g_Md.ofI (by decide) (fun _ _ _ => rfl) ?_
  intro p e s m args below meth c ls Q hX hM hl hS hret
  have hx := hX.1.1
  have hb := hX.1.2.1
  have hl : lv_has ls 4 [(0, .ref (ad 0)), (1, .int (nI j))] := hl
  have key : ∀ (H : Heap) (locs : List Loc), g_Mod G ad F X Y U V Z H → va_S (md_A ad) s.heap H locs → W p l e (g_rm 3 0 0) s m args below meth c H locs 0 0 Q (F0 m 0 ls []) := by
    intro H locs hM hS
    have hW := hwl.1
    have hWc : ¬ F 6 = 0 → s_ok X := fun _ => hW
    have hW9 := hW
    obtain ⟨⟨hL0, hL2, hL6⟩, ⟨hM0, hM6⟩, ⟨hG0, hG40⟩, hok⟩ := hW9
    have hw9 : s_W X ≤ 45 := by unfold s_W; omega
    have hmsg := s_isMsg_ok hF hW hj
    have ho := hok j hj
    have hL := ho.2
    have hj6 : j < 6 := by omega
    refine lv_aload_n hx hb dX2_doubtful_0 rfl (lv_at hl 0 rfl) ?_
    refine lv_iload_n hx hb dX2_doubtful_1 rfl (lv_at hl 1 rfl) ?_
    refine g_cMV hX hl y_X2_mayMessage v_X2_mayMessage q2636 (k_X2_mayMessage (nI j)) (hM.rc hX.2.2.2) hM rfl ⟨Nat.le_of_ble_eq_true rfl, Nat.le_of_ble_eq_true rfl⟩ ⟨Nat.le_refl _, Nat.le_refl _⟩ (rest := []) (st1 := [.int (g_b (decide (s_may (F 6) (g_b (s_isMsg F X (nI j))) 1 = 0)))]) rfl rfl (Nat.le_of_ble_eq_true rfl) dX2_doubtful_2 hS (fun _ h => h) (fun H locs hM hS _ => ?_)
    have hmy : s_may (F 6) (g_b (s_isMsg F X (nI j))) 1 = 0 := s_may_ok hF (g_b_ne hmsg) (by decide)
    rw [hmy] at hM ⊢
    refine g_if_neB (tgt := 10) hx hb (b := decide ((0 : Int32) = 0)) rfl dX2_doubtful_5 (by decide) (fun c_5 => ?_) (fun c_5 => ?_)
    rotate_left
    · exact Bool.noConfusion ((rfl : decide ((0 : Int32) = 0) = true).symm.trans c_5)
    refine lv_iconst (v := 0) hx hb dX2_doubtful_10 rfl ?_
    refine lv_istore_n (lv' := [(2, .int 0), (0, .ref (ad 0)), (1, .int (nI j))]) hx hb dX2_doubtful_11 rfl hl (by decide) rfl (fun ls hl => ?_)
    refine lv_iconst (v := 0) hx hb dX2_doubtful_12 rfl ?_
    refine lv_istore_n (lv' := [(3, .int 0), (2, .int 0), (0, .ref (ad 0)), (1, .int (nI j))]) hx hb dX2_doubtful_13 rfl hl (by decide) rfl (fun ls hl => ?_)
    have L14 : ∀ (nf : Nat) (H : Heap) (locs : List Loc) (q : Nat), (q ≤ s_len (X (3 + j))) → (s_len (X (3 + j)) - q < nf) → (g_Mod G ad (upd F 0 0) X Y U V Z H) → va_S (md_A ad) s.heap H locs → ∀ ls : Array Slot, lv_has ls 4 [(3, .int (nI q)), (2, .int (nI (s_cnt (fun p => s_doub (X (3 + j)) p) q))), (0, .ref (ad 0)), (1, .int (nI j))] → W p l e (g_rm 3 0 0) s m args below meth c H locs 0 0 Q (F0 m 14 ls []) := by
      intro n14
      induction n14 with
      | zero => intro H locs q hq hn; exact absurd hn (Nat.not_lt_zero _)
      | succ n14 ih14 =>
        intro H locs q hq hn14 hM hS ls hl
        refine lv_iload_n hx hb dX2_doubtful_14 rfl (lv_at hl 0 rfl) ?_
        refine lv_aload_n hx hb dX2_doubtful_15 rfl (lv_at hl 2 rfl) ?_
        refine lv_iload_n hx hb dX2_doubtful_16 rfl (lv_at hl 3 rfl) ?_
        refine lv_iconst (v := 0) hx hb dX2_doubtful_17 rfl ?_
        refine g_cRV hX hl y_X2_of v_X2_of q2365 (k_X2_of j 0 (by omega) (by omega)) (hM.rc hX.2.2.2) hM rfl ⟨Nat.le_of_ble_eq_true rfl, Nat.le_of_ble_eq_true rfl⟩ ⟨Nat.zero_le _, Nat.zero_le _⟩ (rest := [.int (nI q)]) (st1 := [.int (X (3 + j) 0), .int (nI q)]) rfl rfl (Nat.le_of_ble_eq_true rfl) dX2_doubtful_18 ?_
        refine g_icmp_geN (tgt := 42) hx hb q (s_len (X (3 + j))) rfl ho.1 (by omega) (by omega) dX2_doubtful_21 (by decide) (fun c_21 => ?_) (fun c_21 => ?_)
        · skip
          refine lv_iload_n hx hb dX2_doubtful_42 rfl (lv_at hl 1 rfl) ?_
          exact hret H locs _ _ _ _ _ dX2_doubtful_43 hS (Nat.le_refl _) (Nat.le_refl _) (⟨by rw [show q = s_len (X (3 + j)) by omega]; rfl, hM⟩)
        · skip
          refine lv_iload_n hx hb dX2_doubtful_24 rfl (lv_at hl 1 rfl) ?_
          refine lv_aload_n hx hb dX2_doubtful_25 rfl (lv_at hl 2 rfl) ?_
          refine lv_iload_n hx hb dX2_doubtful_26 rfl (lv_at hl 3 rfl) ?_
          refine lv_iload_n hx hb dX2_doubtful_27 rfl (lv_at hl 0 rfl) ?_
          refine g_cRV hX hl y_X2_isDoubtful v_X2_isDoubtful q2660 (k_X2_isDoubtful j q (by omega) (by omega)) (hM.rc hX.2.2.2) hM rfl ⟨Nat.le_of_ble_eq_true rfl, Nat.le_of_ble_eq_true rfl⟩ ⟨Nat.zero_le _, Nat.zero_le _⟩ (rest := [.int (nI (s_cnt (fun p => s_doub (X (3 + j)) p) q))]) (st1 := [.int (g_b (s_doub (X (3 + j)) q)), .int (nI (s_cnt (fun p => s_doub (X (3 + j)) p) q))]) rfl rfl (Nat.le_of_ble_eq_true rfl) dX2_doubtful_28 ?_
          refine g_cRS hX hl y_X2_one v_X2_one q2386 (k_X2_one (s_doub (X (3 + j)) q)) trivial rfl ⟨Nat.le_of_ble_eq_true rfl, Nat.le_of_ble_eq_true rfl⟩ ⟨Nat.zero_le _, Nat.zero_le _⟩ (rest := [.int (nI (s_cnt (fun p => s_doub (X (3 + j)) p) q))]) (st1 := [.int (nI (s_n (s_doub (X (3 + j)) q))), .int (nI (s_cnt (fun p => s_doub (X (3 + j)) p) q))]) rfl rfl (Nat.le_of_ble_eq_true rfl) dX2_doubtful_31 ?_
          refine g_iaddN hx hb (s_cnt (fun p => s_doub (X (3 + j)) p) q) (s_n (s_doub (X (3 + j)) q)) rfl rfl dX2_doubtful_34 ?_
          refine lv_istore_n (lv' := [(2, .int (nI (s_cnt (fun p => s_doub (X (3 + j)) p) q + s_n (s_doub (X (3 + j)) q)))), (3, .int (nI q)), (0, .ref (ad 0)), (1, .int (nI j))]) hx hb dX2_doubtful_35 rfl hl (by decide) rfl (fun ls hl => ?_)
          refine lv_iinc (v := (nI (q + 1))) (lv' := [(3, .int (nI (q + 1))), (2, .int (nI (s_cnt (fun p => s_doub (X (3 + j)) p) q + s_n (s_doub (X (3 + j)) q)))), (0, .ref (ad 0)), (1, .int (nI j))]) hx hb dX2_doubtful_36 hl (k := 1) rfl (nI_1 _) (by decide) rfl (fun ls hl => ?_)
          refine lv_goto (tgt := 14) hx hb dX2_doubtful_39 (by decide) ?_
          have e_2 : (nI (s_cnt (fun p => s_doub (X (3 + j)) p) q + s_n (s_doub (X (3 + j)) q))) = (nI (s_cnt (fun p => s_doub (X (3 + j)) p) (q + 1))) := rfl
          rw [e_2] at hl
          exact ih14 H locs (q + 1) (by omega) (by omega) hM hS ls (lv_sub hl [0, 1, 2, 3] rfl)
    exact L14 (s_len (X (3 + j)) - 0 + 1) H locs 0 (by omega) (Nat.lt_succ_self _) hM hS ls (lv_sub hl [0, 1, 2, 3] rfl)
  exact key _ _ hM hS

set_option maxHeartbeats 4000000 in
theorem no_X2_doubtful {G : g_G} {l : Launch} {ad : Nat → Nat} {F : Nat → Int32} {X Y : g_Wd} {U V : Nat → g_Wd} {Z : g_Wd} (t9 : Int32) (v : Int32) (ht9 : ¬ t9 = 0) (hbad : s_may (F 6) (g_b (s_isMsg F X v)) 1 = t9) (hWc : ¬ F 6 = 0 → s_ok X) : g_Md G l yX2_doubtful cX2_doubtful 4 (some .int) 3 0 0 [.ref (ad 0), .int v] (g_Mod G ad F X Y U V Z) (g_Qv (some (.int 0)) (g_Mod G ad (upd F 0 t9) X Y U V Z)) (md_A ad) := by
  refine g_Md.ofI (by decide) (fun _ _ _ => rfl) ?_
  intro p e s m args below meth c ls Q hX hM hl hS hret
  have hx := hX.1.1
  have hb := hX.1.2.1
  have hl : lv_has ls 4 [(0, .ref (ad 0)), (1, .int v)] := hl
  have key : ∀ (H : Heap) (locs : List Loc), g_Mod G ad F X Y U V Z H → va_S (md_A ad) s.heap H locs → W p l e (g_rm 3 0 0) s m args below meth c H locs 0 0 Q (F0 m 0 ls []) := by
    intro H locs hM hS
    refine lv_aload_n hx hb dX2_doubtful_0 rfl (lv_at hl 0 rfl) ?_
    refine lv_iload_n hx hb dX2_doubtful_1 rfl (lv_at hl 1 rfl) ?_
    refine g_cMV hX hl y_X2_mayMessage v_X2_mayMessage q2636 (k_X2_mayMessage v) (hM.rc hX.2.2.2) hM rfl ⟨Nat.le_of_ble_eq_true rfl, Nat.le_of_ble_eq_true rfl⟩ ⟨Nat.le_refl _, Nat.le_refl _⟩ (rest := []) (st1 := [.int (g_b (decide (s_may (F 6) (g_b (s_isMsg F X v)) 1 = 0)))]) rfl rfl (Nat.le_of_ble_eq_true rfl) dX2_doubtful_2 hS (fun _ h => h) (fun H locs hM hS _ => ?_)
    have hmy : s_may (F 6) (g_b (s_isMsg F X v)) 1 = t9 := by first | exact hbad | (rw [← hbad]; simp [g_b, g_b]; done) | (rw [← hbad]; simp only [g_b, g_b]; rfl)
    rw [hmy] at hM ⊢
    refine g_if_neB (tgt := 10) hx hb (b := decide (t9 = 0)) rfl dX2_doubtful_5 (by decide) (fun c_5 => ?_) (fun c_5 => ?_)
    · exact Bool.noConfusion ((decide_eq_false ht9).symm.trans c_5)
    skip
    refine lv_iconst (v := 0) hx hb dX2_doubtful_8 rfl ?_
    exact hret H locs _ _ _ _ _ dX2_doubtful_9 hS (Nat.le_refl _) (Nat.le_refl _) (⟨rfl, hM⟩)
  exact key _ _ hM hS

theorem y_X2_agreeing : g_Y yX2_agreeing cX2_agreeing 5 (some .int) 1 := ⟨q2667, by decide +kernel⟩
theorem v_X2_agreeing : g_YV yX2_agreeing := ⟨q2665, q2666, q140⟩
set_option maxHeartbeats 4000000 in
theorem ok_X2_agreeing {G : g_G} {l : Launch} {ad : Nat → Nat} {F : Nat → Int32} {X Y : g_Wd} {U V : Nat → g_Wd} {Z : g_Wd} (j : Nat) (hF : ¬ F 6 = 0) (hwl : s_wl X) (hj : j < s_M X) : g_Md G l yX2_agreeing cX2_agreeing 5 (some .int) 3 0 0 [.ref (ad 0), .int (nI j)] (g_Mod G ad F X Y U V Z) (g_Qv (some (.int (s_agree (X (3 + j))))) (g_Mod G ad (upd F 0 0) X Y U V Z)) (md_A ad) := by
  refine g_Md.ofI (by decide) (fun _ _ _ => rfl) ?_
  intro p e s m args below meth c ls Q hX hM hl hS hret
  have hx := hX.1.1
  have hb := hX.1.2.1
  have hl : lv_has ls 5 [(0, .ref (ad 0)), (1, .int (nI j))] := hl
  have key : ∀ (H : Heap) (locs : List Loc), g_Mod G ad F X Y U V Z H → va_S (md_A ad) s.heap H locs → W p l e (g_rm 3 0 0) s m args below meth c H locs 0 0 Q (F0 m 0 ls []) := by
    intro H locs hM hS
    have hW := hwl.1
    have hWc : ¬ F 6 = 0 → s_ok X := fun _ => hW
    have hW9 := hW
    obtain ⟨⟨hL0, hL2, hL6⟩, ⟨hM0, hM6⟩, ⟨hG0, hG40⟩, hok⟩ := hW9
    have hw9 : s_W X ≤ 45 := by unfold s_W; omega
    have hmsg := s_isMsg_ok hF hW hj
    have ho := hok j hj
    have hL := ho.2
    have hj6 : j < 6 := by omega
    have hs1 : ∀ a b, s_same (X (3 + j)) a b ≤ 12 := fun a b => Nat.le_trans (s_cnt_le _ _) hL
    have hs01 := hs1 0 1
    have hs02 := hs1 0 2
    have hs12 := hs1 1 2
    refine lv_aload_n hx hb dX2_agreeing_0 rfl (lv_at hl 0 rfl) ?_
    refine lv_iload_n hx hb dX2_agreeing_1 rfl (lv_at hl 1 rfl) ?_
    refine g_cMV hX hl y_X2_mayMessage v_X2_mayMessage q2636 (k_X2_mayMessage (nI j)) (hM.rc hX.2.2.2) hM rfl ⟨Nat.le_of_ble_eq_true rfl, Nat.le_of_ble_eq_true rfl⟩ ⟨Nat.le_refl _, Nat.le_refl _⟩ (rest := []) (st1 := [.int (g_b (decide (s_may (F 6) (g_b (s_isMsg F X (nI j))) 1 = 0)))]) rfl rfl (Nat.le_of_ble_eq_true rfl) dX2_agreeing_2 hS (fun _ h => h) (fun H locs hM hS _ => ?_)
    have hmy : s_may (F 6) (g_b (s_isMsg F X (nI j))) 1 = 0 := s_may_ok hF (g_b_ne hmsg) (by decide)
    rw [hmy] at hM ⊢
    refine g_if_neB (tgt := 10) hx hb (b := decide ((0 : Int32) = 0)) rfl dX2_agreeing_5 (by decide) (fun c_5 => ?_) (fun c_5 => ?_)
    rotate_left
    · exact Bool.noConfusion ((rfl : decide ((0 : Int32) = 0) = true).symm.trans c_5)
    refine lv_aload_n hx hb dX2_agreeing_10 rfl (lv_at hl 0 rfl) ?_
    refine lv_iload_n hx hb dX2_agreeing_11 rfl (lv_at hl 1 rfl) ?_
    refine lv_iconst (v := 0) hx hb dX2_agreeing_12 rfl ?_
    refine lv_iconst (v := 1) hx hb dX2_agreeing_13 rfl ?_
    refine g_cRV hX hl y_X2_sameMany v_X2_sameMany q2668 (k_X2_sameMany j 0 1 (by omega) ho (by omega) (by omega)) (hM.rc hX.2.2.2) hM rfl ⟨Nat.le_of_ble_eq_true rfl, Nat.le_of_ble_eq_true rfl⟩ ⟨Nat.zero_le _, Nat.zero_le _⟩ (rest := []) (st1 := [.int (nI (s_same (X (3 + j)) 0 1))]) rfl rfl (Nat.le_of_ble_eq_true rfl) dX2_agreeing_14 ?_
    refine lv_istore_n (lv' := [(2, .int (nI (s_same (X (3 + j)) 0 1))), (0, .ref (ad 0)), (1, .int (nI j))]) hx hb dX2_agreeing_17 rfl hl (by decide) rfl (fun ls hl => ?_)
    refine lv_aload_n hx hb dX2_agreeing_18 rfl (lv_at hl 1 rfl) ?_
    refine lv_iload_n hx hb dX2_agreeing_19 rfl (lv_at hl 2 rfl) ?_
    refine lv_iconst (v := 0) hx hb dX2_agreeing_20 rfl ?_
    refine lv_iconst (v := 2) hx hb dX2_agreeing_21 rfl ?_
    refine g_cRV hX hl y_X2_sameMany v_X2_sameMany q2668 (k_X2_sameMany j 0 2 (by omega) ho (by omega) (by omega)) (hM.rc hX.2.2.2) hM rfl ⟨Nat.le_of_ble_eq_true rfl, Nat.le_of_ble_eq_true rfl⟩ ⟨Nat.zero_le _, Nat.zero_le _⟩ (rest := []) (st1 := [.int (nI (s_same (X (3 + j)) 0 2))]) rfl rfl (Nat.le_of_ble_eq_true rfl) dX2_agreeing_22 ?_
    refine lv_istore_n (lv' := [(3, .int (nI (s_same (X (3 + j)) 0 2))), (2, .int (nI (s_same (X (3 + j)) 0 1))), (0, .ref (ad 0)), (1, .int (nI j))]) hx hb dX2_agreeing_25 rfl hl (by decide) rfl (fun ls hl => ?_)
    refine lv_aload_n hx hb dX2_agreeing_26 rfl (lv_at hl 2 rfl) ?_
    refine lv_iload_n hx hb dX2_agreeing_27 rfl (lv_at hl 3 rfl) ?_
    refine lv_iconst (v := 1) hx hb dX2_agreeing_28 rfl ?_
    refine lv_iconst (v := 2) hx hb dX2_agreeing_29 rfl ?_
    refine g_cRV hX hl y_X2_sameMany v_X2_sameMany q2668 (k_X2_sameMany j 1 2 (by omega) ho (by omega) (by omega)) (hM.rc hX.2.2.2) hM rfl ⟨Nat.le_of_ble_eq_true rfl, Nat.le_of_ble_eq_true rfl⟩ ⟨Nat.zero_le _, Nat.zero_le _⟩ (rest := []) (st1 := [.int (nI (s_same (X (3 + j)) 1 2))]) rfl rfl (Nat.le_of_ble_eq_true rfl) dX2_agreeing_30 ?_
    refine lv_istore (lv' := [(4, .int (nI (s_same (X (3 + j)) 1 2))), (3, .int (nI (s_same (X (3 + j)) 0 2))), (2, .int (nI (s_same (X (3 + j)) 0 1))), (0, .ref (ad 0)), (1, .int (nI j))]) hx hb dX2_agreeing_33 hl (by decide) rfl (fun ls hl => ?_)
    refine lv_iload_n hx hb dX2_agreeing_35 rfl (lv_at hl 2 rfl) ?_
    refine lv_iload_n hx hb dX2_agreeing_36 rfl (lv_at hl 1 rfl) ?_
    refine g_icmp_ltN (tgt := 48) hx hb (s_same (X (3 + j)) 0 1) (s_same (X (3 + j)) 0 2) rfl rfl (by omega) (by omega) dX2_agreeing_37 (by decide) (fun c_37 => ?_) (fun c_37 => ?_)
    · skip
      refine lv_iload_n hx hb dX2_agreeing_48 rfl (lv_at hl 1 rfl) ?_
      refine lv_iload hx hb dX2_agreeing_49 (lv_at hl 0 rfl) ?_
      refine g_icmp_ltN (tgt := 58) hx hb (s_same (X (3 + j)) 0 2) (s_same (X (3 + j)) 1 2) rfl rfl (by omega) (by omega) dX2_agreeing_51 (by decide) (fun c_51 => ?_) (fun c_51 => ?_)
      · skip
        refine lv_iconst (v := 2) hx hb dX2_agreeing_58 rfl ?_
        exact hret H locs _ _ _ _ _ dX2_agreeing_59 hS (Nat.le_refl _) (Nat.le_refl _) (⟨by first | (simp [s_agree, *]; done) | grind [s_agree], hM⟩)
      · skip
        refine lv_iconst (v := 1) hx hb dX2_agreeing_54 rfl ?_
        refine lv_goto (tgt := 59) hx hb dX2_agreeing_55 (by decide) ?_
        exact hret H locs _ _ _ _ _ dX2_agreeing_59 hS (Nat.le_refl _) (Nat.le_refl _) (⟨by first | (simp [s_agree, *]; done) | grind [s_agree], hM⟩)
    · skip
      refine lv_iload_n hx hb dX2_agreeing_40 rfl (lv_at hl 2 rfl) ?_
      refine lv_iload hx hb dX2_agreeing_41 (lv_at hl 0 rfl) ?_
      refine g_icmp_ltN (tgt := 48) hx hb (s_same (X (3 + j)) 0 1) (s_same (X (3 + j)) 1 2) rfl rfl (by omega) (by omega) dX2_agreeing_43 (by decide) (fun c_43 => ?_) (fun c_43 => ?_)
      · skip
        refine lv_iload_n hx hb dX2_agreeing_48 rfl (lv_at hl 1 rfl) ?_
        refine lv_iload hx hb dX2_agreeing_49 (lv_at hl 0 rfl) ?_
        refine g_icmp_ltN (tgt := 58) hx hb (s_same (X (3 + j)) 0 2) (s_same (X (3 + j)) 1 2) rfl rfl (by omega) (by omega) dX2_agreeing_51 (by decide) (fun c_51 => ?_) (fun c_51 => ?_)
        · skip
          refine lv_iconst (v := 2) hx hb dX2_agreeing_58 rfl ?_
          exact hret H locs _ _ _ _ _ dX2_agreeing_59 hS (Nat.le_refl _) (Nat.le_refl _) (⟨by first | (simp [s_agree, *]; done) | grind [s_agree], hM⟩)
        · skip
          refine lv_iconst (v := 1) hx hb dX2_agreeing_54 rfl ?_
          refine lv_goto (tgt := 59) hx hb dX2_agreeing_55 (by decide) ?_
          exact hret H locs _ _ _ _ _ dX2_agreeing_59 hS (Nat.le_refl _) (Nat.le_refl _) (⟨by first | (simp [s_agree, *]; done) | grind [s_agree], hM⟩)
      · skip
        refine lv_iconst (v := 0) hx hb dX2_agreeing_46 rfl ?_
        exact hret H locs _ _ _ _ _ dX2_agreeing_47 hS (Nat.le_refl _) (Nat.le_refl _) (⟨by first | (simp [s_agree, *]; done) | grind [s_agree], hM⟩)
  exact key _ _ hM hS

set_option maxHeartbeats 4000000 in
theorem no_X2_agreeing {G : g_G} {l : Launch} {ad : Nat → Nat} {F : Nat → Int32} {X Y : g_Wd} {U V : Nat → g_Wd} {Z : g_Wd} (t9 : Int32) (v : Int32) (ht9 : ¬ t9 = 0) (hbad : s_may (F 6) (g_b (s_isMsg F X v)) 1 = t9) (hWc : ¬ F 6 = 0 → s_ok X) : g_Md G l yX2_agreeing cX2_agreeing 5 (some .int) 3 0 0 [.ref (ad 0), .int v] (g_Mod G ad F X Y U V Z) (g_Qv (some (.int 0)) (g_Mod G ad (upd F 0 t9) X Y U V Z)) (md_A ad) := by
  refine g_Md.ofI (by decide) (fun _ _ _ => rfl) ?_
  intro p e s m args below meth c ls Q hX hM hl hS hret
  have hx := hX.1.1
  have hb := hX.1.2.1
  have hl : lv_has ls 5 [(0, .ref (ad 0)), (1, .int v)] := hl
  have key : ∀ (H : Heap) (locs : List Loc), g_Mod G ad F X Y U V Z H → va_S (md_A ad) s.heap H locs → W p l e (g_rm 3 0 0) s m args below meth c H locs 0 0 Q (F0 m 0 ls []) := by
    intro H locs hM hS
    refine lv_aload_n hx hb dX2_agreeing_0 rfl (lv_at hl 0 rfl) ?_
    refine lv_iload_n hx hb dX2_agreeing_1 rfl (lv_at hl 1 rfl) ?_
    refine g_cMV hX hl y_X2_mayMessage v_X2_mayMessage q2636 (k_X2_mayMessage v) (hM.rc hX.2.2.2) hM rfl ⟨Nat.le_of_ble_eq_true rfl, Nat.le_of_ble_eq_true rfl⟩ ⟨Nat.le_refl _, Nat.le_refl _⟩ (rest := []) (st1 := [.int (g_b (decide (s_may (F 6) (g_b (s_isMsg F X v)) 1 = 0)))]) rfl rfl (Nat.le_of_ble_eq_true rfl) dX2_agreeing_2 hS (fun _ h => h) (fun H locs hM hS _ => ?_)
    have hmy : s_may (F 6) (g_b (s_isMsg F X v)) 1 = t9 := by first | exact hbad | (rw [← hbad]; simp [g_b, g_b]; done) | (rw [← hbad]; simp only [g_b, g_b]; rfl)
    rw [hmy] at hM ⊢
    refine g_if_neB (tgt := 10) hx hb (b := decide (t9 = 0)) rfl dX2_agreeing_5 (by decide) (fun c_5 => ?_) (fun c_5 => ?_)
    · exact Bool.noConfusion ((decide_eq_false ht9).symm.trans c_5)
    skip
    refine lv_iconst (v := 0) hx hb dX2_agreeing_8 rfl ?_
    exact hret H locs _ _ _ _ _ dX2_agreeing_9 hS (Nat.le_refl _) (Nat.le_refl _) (⟨rfl, hM⟩)
  exact key _ _ hM hS

theorem y_X2_oldest : g_Y yX2_oldest cX2_oldest 3 (some .int) 0 := ⟨q2675, by decide +kernel⟩
theorem v_X2_oldest : g_YV yX2_oldest := ⟨q2673, q2674, q140⟩
set_option maxHeartbeats 4000000 in
theorem ok_X2_oldest {G : g_G} {l : Launch} {ad : Nat → Nat} {F : Nat → Int32} {X Y : g_Wd} {U V : Nat → g_Wd} {Z : g_Wd}  (hF : ¬ F 6 = 0) (hwl : s_wl X) : g_Md G l yX2_oldest cX2_oldest 3 (some .int) 2 0 0 [.ref (ad 0)] (g_Mod G ad F X Y U V Z) (g_Qv (some (.int (s_old X (s_M X)))) (g_Mod G ad (upd F 0 0) X Y U V Z)) (md_A ad) := by
  refine g_Md.ofI (by decide) (fun _ _ _ => rfl) ?_
  intro p e s m args below meth c ls Q hX hM hl hS hret
  have hx := hX.1.1
  have hb := hX.1.2.1
  have hl : lv_has ls 3 [(0, .ref (ad 0))] := hl
  have key : ∀ (H : Heap) (locs : List Loc), g_Mod G ad F X Y U V Z H → va_S (md_A ad) s.heap H locs → W p l e (g_rm 2 0 0) s m args below meth c H locs 0 0 Q (F0 m 0 ls []) := by
    intro H locs hM hS
    have hW := hwl.1
    have hWc : ¬ F 6 = 0 → s_ok X := fun _ => hW
    have hW9 := hW
    obtain ⟨⟨hL0, hL2, hL6⟩, ⟨hM0, hM6⟩, ⟨hG0, hG40⟩, hok⟩ := hW9
    have hw9 : s_W X ≤ 45 := by unfold s_W; omega
    refine lv_aload_n hx hb dX2_oldest_0 rfl (lv_at hl 0 rfl) ?_
    refine g_cMV hX hl y_X2_mayLook v_X2_mayLook q2536 k_X2_mayLook (hM.rc hX.2.2.2) hM rfl ⟨Nat.le_of_ble_eq_true rfl, Nat.le_of_ble_eq_true rfl⟩ ⟨Nat.le_refl _, Nat.le_refl _⟩ (rest := []) (st1 := [.int (g_b (decide (s_may (F 6) 1 1 = 0)))]) rfl rfl (Nat.le_of_ble_eq_true rfl) dX2_oldest_1 hS (fun _ h => h) (fun H locs hM hS _ => ?_)
    have hmy : s_may (F 6) 1 1 = 0 := s_may_ok hF (by decide) (by decide)
    rw [hmy] at hM ⊢
    refine g_if_neB (tgt := 9) hx hb (b := decide ((0 : Int32) = 0)) rfl dX2_oldest_4 (by decide) (fun c_4 => ?_) (fun c_4 => ?_)
    rotate_left
    · exact Bool.noConfusion ((rfl : decide ((0 : Int32) = 0) = true).symm.trans c_4)
    refine lv_iconst (v := (-1)) hx hb dX2_oldest_9 rfl ?_
    refine lv_istore_n (lv' := [(1, .int (-1)), (0, .ref (ad 0))]) hx hb dX2_oldest_10 rfl hl (by decide) rfl (fun ls hl => ?_)
    refine lv_iconst (v := 0) hx hb dX2_oldest_11 rfl ?_
    refine lv_istore_n (lv' := [(2, .int 0), (1, .int (-1)), (0, .ref (ad 0))]) hx hb dX2_oldest_12 rfl hl (by decide) rfl (fun ls hl => ?_)
    have L13 : ∀ (nf : Nat) (H : Heap) (locs : List Loc) (j : Nat), (j ≤ s_M X) → (s_M X - j < nf) → (g_Mod G ad (upd F 0 0) X Y U V Z H) → va_S (md_A ad) s.heap H locs → ∀ ls : Array Slot, lv_has ls 3 [(2, .int (nI j)), (1, .int (s_old X j)), (0, .ref (ad 0))] → W p l e (g_rm 2 0 0) s m args below meth c H locs 0 0 Q (F0 m 13 ls []) := by
      intro n13
      induction n13 with
      | zero => intro H locs j hj hn; exact absurd hn (Nat.not_lt_zero _)
      | succ n13 ih13 =>
        intro H locs j hj hn13 hM hS ls hl
        refine lv_iload_n hx hb dX2_oldest_13 rfl (lv_at hl 0 rfl) ?_
        refine lv_aload_n hx hb dX2_oldest_14 rfl (lv_at hl 2 rfl) ?_
        refine g_getM hX hM 1 (by decide) q2164 rfl (v := .ref (ad 1)) rfl dX2_oldest_15 ?_
        refine lv_iconst (v := 3) hx hb dX2_oldest_18 rfl ?_
        refine g_iald hX hM.a1 3 rfl (by omega) (by decide) (v := (X 0 3)) rfl dX2_oldest_19 ?_
        refine g_icmp_geN (tgt := 59) hx hb j (s_M X) rfl hM0 (by omega) (by omega) dX2_oldest_20 (by decide) (fun c_20 => ?_) (fun c_20 => ?_)
        · skip
          refine lv_iload_n hx hb dX2_oldest_59 rfl (lv_at hl 1 rfl) ?_
          exact hret H locs _ _ _ _ _ dX2_oldest_60 hS (Nat.le_refl _) (Nat.le_refl _) (⟨by rw [show j = s_M X by omega], hM⟩)
        · skip
          refine lv_aload_n hx hb dX2_oldest_23 rfl (lv_at hl 2 rfl) ?_
          refine lv_iload_n hx hb dX2_oldest_24 rfl (lv_at hl 0 rfl) ?_
          refine g_cRV hX hl y_X2_isUnderWay v_X2_isUnderWay q2382 (k_X2_isUnderWay j (by omega)) (hM.rc hX.2.2.2) hM rfl ⟨Nat.le_of_ble_eq_true rfl, Nat.le_of_ble_eq_true rfl⟩ ⟨Nat.zero_le _, Nat.zero_le _⟩ (rest := []) (st1 := [.int (g_b (decide (X (3 + j) 4 = -1)))]) rfl rfl (Nat.le_of_ble_eq_true rfl) dX2_oldest_25 ?_
          refine g_if_eqB (tgt := 53) hx hb (b := decide (X (3 + j) 4 = -1)) rfl dX2_oldest_28 (by decide) (fun c_28 => ?_) (fun c_28 => ?_)
          · skip
            refine lv_iinc (v := (nI (j + 1))) (lv' := [(2, .int (nI (j + 1))), (1, .int (s_old X j)), (0, .ref (ad 0))]) hx hb dX2_oldest_53 hl (k := 0) rfl (nI_1 _) (by decide) rfl (fun ls hl => ?_)
            refine lv_goto (tgt := 13) hx hb dX2_oldest_56 (by decide) ?_
            have e_1 : (s_old X j) = (s_old X (j + 1)) := by first | (have hcl9 := nI_clamp (n := b9) (by omega); grind [s_old]) | grind [s_old]
            rw [e_1] at hl
            exact ih13 H locs (j + 1) (by omega) (by omega) hM hS ls (lv_sub hl [0, 1, 2] rfl)
          · skip
            refine lv_iload_n hx hb dX2_oldest_31 rfl (lv_at hl 1 rfl) ?_
            refine lv_iconst (v := (-1)) hx hb dX2_oldest_32 rfl ?_
            refine lv_icmp_eq (tgt := 51) hx hb dX2_oldest_33 (by decide) (fun c_33 => ?_) (fun c_33 => ?_)
            · skip
              refine lv_iload_n hx hb dX2_oldest_51 rfl (lv_at hl 0 rfl) ?_
              refine lv_istore_n (lv' := [(1, .int (nI j)), (2, .int (nI j)), (0, .ref (ad 0))]) hx hb dX2_oldest_52 rfl hl (by decide) rfl (fun ls hl => ?_)
              refine lv_iinc (v := (nI (j + 1))) (lv' := [(2, .int (nI (j + 1))), (1, .int (nI j)), (0, .ref (ad 0))]) hx hb dX2_oldest_53 hl (k := 1) rfl (nI_1 _) (by decide) rfl (fun ls hl => ?_)
              refine lv_goto (tgt := 13) hx hb dX2_oldest_56 (by decide) ?_
              have e_1 : (nI j) = (s_old X (j + 1)) := by first | (have hcl9 := nI_clamp (n := b9) (by omega); grind [s_old]) | grind [s_old]
              rw [e_1] at hl
              exact ih13 H locs (j + 1) (by omega) (by omega) hM hS ls (lv_sub hl [0, 1, 2] rfl)
            · skip
              obtain ⟨b9, hb9, hbe⟩ := s_old_nat (by omega) c_33
              refine lv_aload_n hx hb dX2_oldest_36 rfl (lv_at hl 2 rfl) ?_
              refine lv_iload_n hx hb dX2_oldest_37 rfl (lv_at hl 0 rfl) ?_
              refine lv_iconst (v := 3) hx hb dX2_oldest_38 rfl ?_
              refine g_cRV hX hl y_X2_of v_X2_of q2365 (k_X2_of j 3 (by omega) (by omega)) (hM.rc hX.2.2.2) hM rfl ⟨Nat.le_of_ble_eq_true rfl, Nat.le_of_ble_eq_true rfl⟩ ⟨Nat.zero_le _, Nat.zero_le _⟩ (rest := []) (st1 := [.int (X (3 + j) 3)]) rfl rfl (Nat.le_of_ble_eq_true rfl) dX2_oldest_39 ?_
              refine lv_aload_n hx hb dX2_oldest_42 rfl (lv_at hl 2 rfl) ?_
              refine lv_iload_n hx hb dX2_oldest_43 rfl (lv_at hl 1 rfl) ?_
              refine lv_iconst (v := 3) hx hb dX2_oldest_44 rfl ?_
              refine g_cRV hX hl y_X2_of v_X2_of q2365 (k_X2_of b9 3 (by omega) (by omega)) (hM.rc hX.2.2.2) hM rfl ⟨Nat.le_of_ble_eq_true rfl, Nat.le_of_ble_eq_true rfl⟩ ⟨Nat.zero_le _, Nat.zero_le _⟩ (rest := [.int (X (3 + j) 3)]) (st1 := [.int (X (3 + b9) 3), .int (X (3 + j) 3)]) (by rw [← hbe]; rfl) rfl (Nat.le_of_ble_eq_true rfl) dX2_oldest_45 ?_
              refine lv_icmp_ge (tgt := 53) hx hb dX2_oldest_48 (by decide) (fun c_48 => ?_) (fun c_48 => ?_)
              · skip
                refine lv_iinc (v := (nI (j + 1))) (lv' := [(2, .int (nI (j + 1))), (1, .int (s_old X j)), (0, .ref (ad 0))]) hx hb dX2_oldest_53 hl (k := 0) rfl (nI_1 _) (by decide) rfl (fun ls hl => ?_)
                refine lv_goto (tgt := 13) hx hb dX2_oldest_56 (by decide) ?_
                have e_1 : (s_old X j) = (s_old X (j + 1)) := by first | (have hcl9 := nI_clamp (n := b9) (by omega); grind [s_old]) | grind [s_old]
                rw [e_1] at hl
                exact ih13 H locs (j + 1) (by omega) (by omega) hM hS ls (lv_sub hl [0, 1, 2] rfl)
              · skip
                refine lv_iload_n hx hb dX2_oldest_51 rfl (lv_at hl 0 rfl) ?_
                refine lv_istore_n (lv' := [(1, .int (nI j)), (2, .int (nI j)), (0, .ref (ad 0))]) hx hb dX2_oldest_52 rfl hl (by decide) rfl (fun ls hl => ?_)
                refine lv_iinc (v := (nI (j + 1))) (lv' := [(2, .int (nI (j + 1))), (1, .int (nI j)), (0, .ref (ad 0))]) hx hb dX2_oldest_53 hl (k := 1) rfl (nI_1 _) (by decide) rfl (fun ls hl => ?_)
                refine lv_goto (tgt := 13) hx hb dX2_oldest_56 (by decide) ?_
                have e_1 : (nI j) = (s_old X (j + 1)) := by first | (have hcl9 := nI_clamp (n := b9) (by omega); grind [s_old]) | grind [s_old]
                rw [e_1] at hl
                exact ih13 H locs (j + 1) (by omega) (by omega) hM hS ls (lv_sub hl [0, 1, 2] rfl)
    exact L13 (s_M X - 0 + 1) H locs 0 (by omega) (Nat.lt_succ_self _) hM hS ls (lv_sub hl [0, 1, 2] rfl)
  exact key _ _ hM hS

set_option maxHeartbeats 4000000 in
theorem no_X2_oldest {G : g_G} {l : Launch} {ad : Nat → Nat} {F : Nat → Int32} {X Y : g_Wd} {U V : Nat → g_Wd} {Z : g_Wd} (t9 : Int32) (ht9 : ¬ t9 = 0) (hbad : s_may (F 6) 1 1 = t9) (hWc : ¬ F 6 = 0 → s_ok X) : g_Md G l yX2_oldest cX2_oldest 3 (some .int) 2 0 0 [.ref (ad 0)] (g_Mod G ad F X Y U V Z) (g_Qv (some (.int 0)) (g_Mod G ad (upd F 0 t9) X Y U V Z)) (md_A ad) := by
  refine g_Md.ofI (by decide) (fun _ _ _ => rfl) ?_
  intro p e s m args below meth c ls Q hX hM hl hS hret
  have hx := hX.1.1
  have hb := hX.1.2.1
  have hl : lv_has ls 3 [(0, .ref (ad 0))] := hl
  have key : ∀ (H : Heap) (locs : List Loc), g_Mod G ad F X Y U V Z H → va_S (md_A ad) s.heap H locs → W p l e (g_rm 2 0 0) s m args below meth c H locs 0 0 Q (F0 m 0 ls []) := by
    intro H locs hM hS
    refine lv_aload_n hx hb dX2_oldest_0 rfl (lv_at hl 0 rfl) ?_
    refine g_cMV hX hl y_X2_mayLook v_X2_mayLook q2536 k_X2_mayLook (hM.rc hX.2.2.2) hM rfl ⟨Nat.le_of_ble_eq_true rfl, Nat.le_of_ble_eq_true rfl⟩ ⟨Nat.le_refl _, Nat.le_refl _⟩ (rest := []) (st1 := [.int (g_b (decide (s_may (F 6) 1 1 = 0)))]) rfl rfl (Nat.le_of_ble_eq_true rfl) dX2_oldest_1 hS (fun _ h => h) (fun H locs hM hS _ => ?_)
    have hmy : s_may (F 6) 1 1 = t9 := by first | exact hbad | (rw [← hbad]; simp [g_b, g_b]; done) | (rw [← hbad]; simp only [g_b, g_b]; rfl)
    rw [hmy] at hM ⊢
    refine g_if_neB (tgt := 9) hx hb (b := decide (t9 = 0)) rfl dX2_oldest_4 (by decide) (fun c_4 => ?_) (fun c_4 => ?_)
    · exact Bool.noConfusion ((decide_eq_false ht9).symm.trans c_4)
    skip
    refine lv_iconst (v := 0) hx hb dX2_oldest_7 rfl ?_
    exact hret H locs _ _ _ _ _ dX2_oldest_8 hS (Nat.le_refl _) (Nat.le_refl _) (⟨rfl, hM⟩)
  exact key _ _ hM hS

theorem y_X2_next : g_Y yX2_next cX2_next 2 (some .int) 1 := ⟨q2679, by decide +kernel⟩
theorem v_X2_next : g_YV yX2_next := ⟨q2677, q2678, q140⟩
set_option maxHeartbeats 4000000 in
theorem ok_X2_next {G : g_G} {l : Launch} {ad : Nat → Nat} {F : Nat → Int32} {X Y : g_Wd} {U V : Nat → g_Wd} {Z : g_Wd} (j : Nat) (hF : ¬ F 6 = 0) (hwl : s_wl X) (hj : j < s_M X) : g_Md G l yX2_next cX2_next 2 (some .int) 6 0 0 [.ref (ad 0), .int (nI j)] (g_Mod G ad F X Y U V Z) (g_Qv (some (.int (s_next X j))) (g_Mod G ad (upd F 0 0) X Y U V Z)) (md_A ad) := by
  refine g_Md.ofI (by decide) (fun _ _ _ => rfl) ?_
  intro p e s m args below meth c ls Q hX hM hl hS hret
  have hx := hX.1.1
  have hb := hX.1.2.1
  have hl : lv_has ls 2 [(0, .ref (ad 0)), (1, .int (nI j))] := hl
  have key : ∀ (H : Heap) (locs : List Loc), g_Mod G ad F X Y U V Z H → va_S (md_A ad) s.heap H locs → W p l e (g_rm 6 0 0) s m args below meth c H locs 0 0 Q (F0 m 0 ls []) := by
    intro H locs hM hS
    have hW := hwl.1
    have hWc : ¬ F 6 = 0 → s_ok X := fun _ => hW
    have hW9 := hW
    obtain ⟨⟨hL0, hL2, hL6⟩, ⟨hM0, hM6⟩, ⟨hG0, hG40⟩, hok⟩ := hW9
    have hw9 : s_W X ≤ 45 := by unfold s_W; omega
    have hmsg := s_isMsg_ok hF hW hj
    have ho := hok j hj
    have hL := ho.2
    have hj6 : j < 6 := by omega
    refine lv_aload_n hx hb dX2_next_0 rfl (lv_at hl 0 rfl) ?_
    refine lv_iload_n hx hb dX2_next_1 rfl (lv_at hl 1 rfl) ?_
    refine g_cMV hX hl y_X2_mayMessage v_X2_mayMessage q2636 (k_X2_mayMessage (nI j)) (hM.rc hX.2.2.2) hM rfl ⟨Nat.le_of_ble_eq_true rfl, Nat.le_of_ble_eq_true rfl⟩ ⟨Nat.le_refl _, Nat.le_refl _⟩ (rest := []) (st1 := [.int (g_b (decide (s_may (F 6) (g_b (s_isMsg F X (nI j))) 1 = 0)))]) rfl rfl (Nat.le_of_ble_eq_true rfl) dX2_next_2 hS (fun _ h => h) (fun H locs hM hS _ => ?_)
    have hmy : s_may (F 6) (g_b (s_isMsg F X (nI j))) 1 = 0 := s_may_ok hF (g_b_ne hmsg) (by decide)
    rw [hmy] at hM ⊢
    refine g_if_eqB (tgt := 16) hx hb (b := decide ((0 : Int32) = 0)) rfl dX2_next_5 (by decide) (fun c_5 => ?_) (fun c_5 => ?_)
    · exact Bool.noConfusion ((rfl : decide ((0 : Int32) = 0) = true).symm.trans c_5)
    skip
    refine lv_aload_n hx hb dX2_next_8 rfl (lv_at hl 0 rfl) ?_
    refine lv_iload_n hx hb dX2_next_9 rfl (lv_at hl 1 rfl) ?_
    refine g_cRV hX hl y_X2_nextOf v_X2_nextOf q2680 (k_X2_nextOf j (by omega) ho hW) (hM.rc hX.2.2.2) hM rfl ⟨Nat.le_of_ble_eq_true rfl, Nat.le_of_ble_eq_true rfl⟩ ⟨Nat.zero_le _, Nat.zero_le _⟩ (rest := []) (st1 := [.int (s_next X j)]) rfl rfl (Nat.le_of_ble_eq_true rfl) dX2_next_10 ?_
    refine lv_goto (tgt := 17) hx hb dX2_next_13 (by decide) ?_
    exact hret H locs _ _ _ _ _ dX2_next_17 hS (Nat.le_refl _) (Nat.le_refl _) (⟨rfl, hM⟩)
  exact key _ _ hM hS

set_option maxHeartbeats 4000000 in
theorem no_X2_next {G : g_G} {l : Launch} {ad : Nat → Nat} {F : Nat → Int32} {X Y : g_Wd} {U V : Nat → g_Wd} {Z : g_Wd} (t9 : Int32) (v : Int32) (ht9 : ¬ t9 = 0) (hbad : s_may (F 6) (g_b (s_isMsg F X v)) 1 = t9) (hWc : ¬ F 6 = 0 → s_ok X) : g_Md G l yX2_next cX2_next 2 (some .int) 3 0 0 [.ref (ad 0), .int v] (g_Mod G ad F X Y U V Z) (g_Qv (some (.int 0)) (g_Mod G ad (upd F 0 t9) X Y U V Z)) (md_A ad) := by
  refine g_Md.ofI (by decide) (fun _ _ _ => rfl) ?_
  intro p e s m args below meth c ls Q hX hM hl hS hret
  have hx := hX.1.1
  have hb := hX.1.2.1
  have hl : lv_has ls 2 [(0, .ref (ad 0)), (1, .int v)] := hl
  have key : ∀ (H : Heap) (locs : List Loc), g_Mod G ad F X Y U V Z H → va_S (md_A ad) s.heap H locs → W p l e (g_rm 3 0 0) s m args below meth c H locs 0 0 Q (F0 m 0 ls []) := by
    intro H locs hM hS
    refine lv_aload_n hx hb dX2_next_0 rfl (lv_at hl 0 rfl) ?_
    refine lv_iload_n hx hb dX2_next_1 rfl (lv_at hl 1 rfl) ?_
    refine g_cMV hX hl y_X2_mayMessage v_X2_mayMessage q2636 (k_X2_mayMessage v) (hM.rc hX.2.2.2) hM rfl ⟨Nat.le_of_ble_eq_true rfl, Nat.le_of_ble_eq_true rfl⟩ ⟨Nat.le_refl _, Nat.le_refl _⟩ (rest := []) (st1 := [.int (g_b (decide (s_may (F 6) (g_b (s_isMsg F X v)) 1 = 0)))]) rfl rfl (Nat.le_of_ble_eq_true rfl) dX2_next_2 hS (fun _ h => h) (fun H locs hM hS _ => ?_)
    have hmy : s_may (F 6) (g_b (s_isMsg F X v)) 1 = t9 := by first | exact hbad | (rw [← hbad]; simp [g_b, g_b]; done) | (rw [← hbad]; simp only [g_b, g_b]; rfl)
    rw [hmy] at hM ⊢
    refine g_if_eqB (tgt := 16) hx hb (b := decide (t9 = 0)) rfl dX2_next_5 (by decide) (fun c_5 => ?_) (fun c_5 => ?_)
    rotate_left
    · exact Bool.noConfusion ((decide_eq_false ht9).symm.trans c_5)
    refine lv_iconst (v := 0) hx hb dX2_next_16 rfl ?_
    exact hret H locs _ _ _ _ _ dX2_next_17 hS (Nat.le_refl _) (Nat.le_refl _) (⟨rfl, hM⟩)
  exact key _ _ hM hS

theorem y_X2_logged : g_Y yX2_logged cX2_logged 3 (some .int) 2 := ⟨q2700, by decide +kernel⟩
theorem v_X2_logged : g_YV yX2_logged := ⟨q2698, q2699, q140⟩
set_option maxHeartbeats 4000000 in
theorem ok_X2_logged {G : g_G} {l : Launch} {ad : Nat → Nat} {F : Nat → Int32} {X Y : g_Wd} {U V : Nat → g_Wd} {Z : g_Wd} (i : Int32) (w : Nat) (hF : ¬ F 6 = 0) (hwl : s_wl X) (hw : w < 4) : g_Md G l yX2_logged cX2_logged 3 (some .int) 2 0 0 [.ref (ad 0), .int i, .int (nI w)] (g_Mod G ad F X Y U V Z) (g_Qv (some (.int (s_logd X i w))) (g_Mod G ad (upd F 0 0) X Y U V Z)) (md_A ad) := by
  refine g_Md.ofI (by decide) (fun _ _ _ => rfl) ?_
  intro p e s m args below meth c ls Q hX hM hl hS hret
  have hx := hX.1.1
  have hb := hX.1.2.1
  have hl : lv_has ls 3 [(0, .ref (ad 0)), (1, .int i), (2, .int (nI w))] := hl
  have key : ∀ (H : Heap) (locs : List Loc), g_Mod G ad F X Y U V Z H → va_S (md_A ad) s.heap H locs → W p l e (g_rm 2 0 0) s m args below meth c H locs 0 0 Q (F0 m 0 ls []) := by
    intro H locs hM hS
    have hW := hwl.1
    have hWc : ¬ F 6 = 0 → s_ok X := fun _ => hW
    have hW9 := hW
    obtain ⟨⟨hL0, hL2, hL6⟩, ⟨hM0, hM6⟩, ⟨hG0, hG40⟩, hok⟩ := hW9
    have hw9 : s_W X ≤ 45 := by unfold s_W; omega
    have hin : s_in (nI w) 0 3 = true := s_in_le (show w ≤ 3 by omega) (by decide)
    refine lv_aload_n hx hb dX2_logged_0 rfl (lv_at hl 0 rfl) ?_
    refine lv_aload_n hx hb dX2_logged_1 rfl (lv_at hl 0 rfl) ?_
    refine g_getM hX hM 6 (by decide) q2169 rfl (v := .int (F 6)) rfl dX2_logged_2 ?_
    refine lv_iload_n hx hb dX2_logged_5 rfl (lv_at hl 2 rfl) ?_
    refine lv_iconst (v := 0) hx hb dX2_logged_6 rfl ?_
    refine lv_iconst (v := 3) hx hb dX2_logged_7 rfl ?_
    refine g_cRS hX hl y_X2_in v_X2_in q2258 (k_X2_in (nI w) 0 3) trivial rfl ⟨Nat.le_of_ble_eq_true rfl, Nat.le_of_ble_eq_true rfl⟩ ⟨Nat.zero_le _, Nat.zero_le _⟩ (rest := [.int (F 6), .ref (ad 0)]) (st1 := [.int (g_b (s_in (nI w) 0 3)), .int (F 6), .ref (ad 0)]) rfl rfl (Nat.le_of_ble_eq_true rfl) dX2_logged_8 ?_
    refine g_cMV hX hl y_X2_mayTwo v_X2_mayTwo q2501 (k_X2_mayTwo (F 6) (g_b (s_in (nI w) 0 3))) (hM.rc hX.2.2.2) hM rfl ⟨Nat.le_of_ble_eq_true rfl, Nat.le_of_ble_eq_true rfl⟩ ⟨Nat.le_refl _, Nat.le_refl _⟩ (rest := []) (st1 := [.int (g_b (decide (s_may (F 6) (g_b (s_in (nI w) 0 3)) 1 = 0)))]) rfl rfl (Nat.le_of_ble_eq_true rfl) dX2_logged_11 hS (fun _ h => h) (fun H locs hM hS _ => ?_)
    have hmy : s_may (F 6) (g_b (s_in (nI w) 0 3)) 1 = 0 := s_may_ok hF (g_b_ne hin) (by decide)
    rw [hmy] at hM ⊢
    refine g_if_neB (tgt := 19) hx hb (b := decide ((0 : Int32) = 0)) rfl dX2_logged_14 (by decide) (fun c_14 => ?_) (fun c_14 => ?_)
    rotate_left
    · exact Bool.noConfusion ((rfl : decide ((0 : Int32) = 0) = true).symm.trans c_14)
    refine lv_iload_n hx hb dX2_logged_19 rfl (lv_at hl 1 rfl) ?_
    refine lv_iconst (v := 0) hx hb dX2_logged_20 rfl ?_
    refine lv_aload_n hx hb dX2_logged_21 rfl (lv_at hl 0 rfl) ?_
    refine g_getM hX hM 1 (by decide) q2164 rfl (v := .ref (ad 1)) rfl dX2_logged_22 ?_
    refine lv_iconst (v := 4) hx hb dX2_logged_25 rfl ?_
    refine g_iald hX hM.a1 4 rfl (by omega) (by decide) (v := (X 0 4)) rfl dX2_logged_26 ?_
    refine lv_iconst (v := 1) hx hb dX2_logged_27 rfl ?_
    refine lv_isub hx hb dX2_logged_28 ?_
    refine g_cRS hX hl y_X2_in v_X2_in q2258 (k_X2_in i 0 ((X 0 4) - 1)) trivial rfl ⟨Nat.le_of_ble_eq_true rfl, Nat.le_of_ble_eq_true rfl⟩ ⟨Nat.zero_le _, Nat.zero_le _⟩ (rest := []) (st1 := [.int (g_b (s_in i 0 ((X 0 4) - 1)))]) rfl rfl (Nat.le_of_ble_eq_true rfl) dX2_logged_29 ?_
    refine g_if_eqB (tgt := 52) hx hb (b := s_in i 0 ((X 0 4) - 1)) rfl dX2_logged_32 (by decide) (fun c_32 => ?_) (fun c_32 => ?_)
    · skip
      refine lv_iconst (v := (-1)) hx hb dX2_logged_52 rfl ?_
      exact hret H locs _ _ _ _ _ dX2_logged_53 hS (Nat.le_refl _) (Nat.le_refl _) (⟨by first | (simp only [s_logd, c_32b, hgc, if_true]; done) | (rw [s_logd, if_neg (by rw [← hG0]; simp [c_32])]), hM⟩)
    · skip
      have c_32b : s_in i 0 (nI (s_G X) - 1) = true := by rw [← hG0]; exact c_32
      obtain ⟨g, hg, rfl⟩ := s_in_lt c_32b (by omega)
      have hgc : (nI g).toNatClampNeg = g := nI_clamp (by omega)
      refine lv_aload_n hx hb dX2_logged_35 rfl (lv_at hl 0 rfl) ?_
      refine g_getM hX hM 1 (by decide) q2164 rfl (v := .ref (ad 1)) rfl dX2_logged_36 ?_
      refine lv_sipush (v := 1416) hx hb dX2_logged_39 (by decide) ?_
      refine lv_iconst (v := 4) hx hb dX2_logged_42 rfl ?_
      refine lv_iload_n hx hb dX2_logged_43 rfl (lv_at hl 1 rfl) ?_
      refine g_imulN hx hb 4 g rfl rfl dX2_logged_44 ?_
      refine g_iaddN hx hb 1416 (4 * g) rfl rfl dX2_logged_45 ?_
      refine lv_iload_n hx hb dX2_logged_46 rfl (lv_at hl 2 rfl) ?_
      refine g_iaddN hx hb (1416 + 4 * g) w rfl rfl dX2_logged_47 ?_
      refine g_iald hX hM.a1 (1416 + 4 * g + w) rfl (by omega) (by decide) (v := (X 2 (4 * g + w))) (g_flg _) dX2_logged_48 ?_
      refine lv_goto (tgt := 53) hx hb dX2_logged_49 (by decide) ?_
      exact hret H locs _ _ _ _ _ dX2_logged_53 hS (Nat.le_refl _) (Nat.le_refl _) (⟨by first | (simp only [s_logd, c_32b, hgc, if_true]; done) | (rw [s_logd, if_neg (by rw [← hG0]; simp [c_32])]), hM⟩)
  exact key _ _ hM hS

set_option maxHeartbeats 4000000 in
theorem no_X2_logged {G : g_G} {l : Launch} {ad : Nat → Nat} {F : Nat → Int32} {X Y : g_Wd} {U V : Nat → g_Wd} {Z : g_Wd} (t9 : Int32) (i : Int32) (w : Int32) (ht9 : ¬ t9 = 0) (hbad : s_may (F 6) (g_b (s_in w 0 3)) 1 = t9) (hWc : ¬ F 6 = 0 → s_ok X) : g_Md G l yX2_logged cX2_logged 3 (some .int) 2 0 0 [.ref (ad 0), .int i, .int w] (g_Mod G ad F X Y U V Z) (g_Qv (some (.int 0)) (g_Mod G ad (upd F 0 t9) X Y U V Z)) (md_A ad) := by
  refine g_Md.ofI (by decide) (fun _ _ _ => rfl) ?_
  intro p e s m args below meth c ls Q hX hM hl hS hret
  have hx := hX.1.1
  have hb := hX.1.2.1
  have hl : lv_has ls 3 [(0, .ref (ad 0)), (1, .int i), (2, .int w)] := hl
  have key : ∀ (H : Heap) (locs : List Loc), g_Mod G ad F X Y U V Z H → va_S (md_A ad) s.heap H locs → W p l e (g_rm 2 0 0) s m args below meth c H locs 0 0 Q (F0 m 0 ls []) := by
    intro H locs hM hS
    refine lv_aload_n hx hb dX2_logged_0 rfl (lv_at hl 0 rfl) ?_
    refine lv_aload_n hx hb dX2_logged_1 rfl (lv_at hl 0 rfl) ?_
    refine g_getM hX hM 6 (by decide) q2169 rfl (v := .int (F 6)) rfl dX2_logged_2 ?_
    refine lv_iload_n hx hb dX2_logged_5 rfl (lv_at hl 2 rfl) ?_
    refine lv_iconst (v := 0) hx hb dX2_logged_6 rfl ?_
    refine lv_iconst (v := 3) hx hb dX2_logged_7 rfl ?_
    refine g_cRS hX hl y_X2_in v_X2_in q2258 (k_X2_in w 0 3) trivial rfl ⟨Nat.le_of_ble_eq_true rfl, Nat.le_of_ble_eq_true rfl⟩ ⟨Nat.zero_le _, Nat.zero_le _⟩ (rest := [.int (F 6), .ref (ad 0)]) (st1 := [.int (g_b (s_in w 0 3)), .int (F 6), .ref (ad 0)]) rfl rfl (Nat.le_of_ble_eq_true rfl) dX2_logged_8 ?_
    refine g_cMV hX hl y_X2_mayTwo v_X2_mayTwo q2501 (k_X2_mayTwo (F 6) (g_b (s_in w 0 3))) (hM.rc hX.2.2.2) hM rfl ⟨Nat.le_of_ble_eq_true rfl, Nat.le_of_ble_eq_true rfl⟩ ⟨Nat.le_refl _, Nat.le_refl _⟩ (rest := []) (st1 := [.int (g_b (decide (s_may (F 6) (g_b (s_in w 0 3)) 1 = 0)))]) rfl rfl (Nat.le_of_ble_eq_true rfl) dX2_logged_11 hS (fun _ h => h) (fun H locs hM hS _ => ?_)
    have hmy : s_may (F 6) (g_b (s_in w 0 3)) 1 = t9 := by first | exact hbad | (rw [← hbad]; simp [g_b, g_b]; done) | (rw [← hbad]; simp only [g_b, g_b]; rfl)
    rw [hmy] at hM ⊢
    refine g_if_neB (tgt := 19) hx hb (b := decide (t9 = 0)) rfl dX2_logged_14 (by decide) (fun c_14 => ?_) (fun c_14 => ?_)
    · exact Bool.noConfusion ((decide_eq_false ht9).symm.trans c_14)
    skip
    refine lv_iconst (v := 0) hx hb dX2_logged_17 rfl ?_
    exact hret H locs _ _ _ _ _ dX2_logged_18 hS (Nat.le_refl _) (Nat.le_refl _) (⟨rfl, hM⟩)
  exact key _ _ hM hS

theorem y_X2_entries : g_Y yX2_entries cX2_entries 4 (some .int) 1 := ⟨q2704, by decide +kernel⟩
theorem v_X2_entries : g_YV yX2_entries := ⟨q2702, q2703, q140⟩
set_option maxHeartbeats 4000000 in
theorem ok_X2_entries {G : g_G} {l : Launch} {ad : Nat → Nat} {F : Nat → Int32} {X Y : g_Wd} {U V : Nat → g_Wd} {Z : g_Wd} (k : Nat) (hF : ¬ F 6 = 0) (hwl : s_wl X) (hk : k < 4) : g_Md G l yX2_entries cX2_entries 4 (some .int) 2 0 0 [.ref (ad 0), .int (nI k)] (g_Mod G ad F X Y U V Z) (g_Qv (some (.int (nI (s_ents X (nI k))))) (g_Mod G ad (upd F 0 0) X Y U V Z)) (md_A ad) := by
  refine g_Md.ofI (by decide) (fun _ _ _ => rfl) ?_
  intro p e s m args below meth c ls Q hX hM hl hS hret
  have hx := hX.1.1
  have hb := hX.1.2.1
  have hl : lv_has ls 4 [(0, .ref (ad 0)), (1, .int (nI k))] := hl
  have key : ∀ (H : Heap) (locs : List Loc), g_Mod G ad F X Y U V Z H → va_S (md_A ad) s.heap H locs → W p l e (g_rm 2 0 0) s m args below meth c H locs 0 0 Q (F0 m 0 ls []) := by
    intro H locs hM hS
    have hW := hwl.1
    have hWc : ¬ F 6 = 0 → s_ok X := fun _ => hW
    have hW9 := hW
    obtain ⟨⟨hL0, hL2, hL6⟩, ⟨hM0, hM6⟩, ⟨hG0, hG40⟩, hok⟩ := hW9
    have hw9 : s_W X ≤ 45 := by unfold s_W; omega
    have hin : s_in (nI k) 0 3 = true := s_in_le (show k ≤ 3 by omega) (by decide)
    refine lv_aload_n hx hb dX2_entries_0 rfl (lv_at hl 0 rfl) ?_
    refine lv_aload_n hx hb dX2_entries_1 rfl (lv_at hl 0 rfl) ?_
    refine g_getM hX hM 6 (by decide) q2169 rfl (v := .int (F 6)) rfl dX2_entries_2 ?_
    refine lv_iload_n hx hb dX2_entries_5 rfl (lv_at hl 1 rfl) ?_
    refine lv_iconst (v := 0) hx hb dX2_entries_6 rfl ?_
    refine lv_iconst (v := 3) hx hb dX2_entries_7 rfl ?_
    refine g_cRS hX hl y_X2_in v_X2_in q2258 (k_X2_in (nI k) 0 3) trivial rfl ⟨Nat.le_of_ble_eq_true rfl, Nat.le_of_ble_eq_true rfl⟩ ⟨Nat.zero_le _, Nat.zero_le _⟩ (rest := [.int (F 6), .ref (ad 0)]) (st1 := [.int (g_b (s_in (nI k) 0 3)), .int (F 6), .ref (ad 0)]) rfl rfl (Nat.le_of_ble_eq_true rfl) dX2_entries_8 ?_
    refine g_cMV hX hl y_X2_mayTwo v_X2_mayTwo q2501 (k_X2_mayTwo (F 6) (g_b (s_in (nI k) 0 3))) (hM.rc hX.2.2.2) hM rfl ⟨Nat.le_of_ble_eq_true rfl, Nat.le_of_ble_eq_true rfl⟩ ⟨Nat.le_refl _, Nat.le_refl _⟩ (rest := []) (st1 := [.int (g_b (decide (s_may (F 6) (g_b (s_in (nI k) 0 3)) 1 = 0)))]) rfl rfl (Nat.le_of_ble_eq_true rfl) dX2_entries_11 hS (fun _ h => h) (fun H locs hM hS _ => ?_)
    have hmy : s_may (F 6) (g_b (s_in (nI k) 0 3)) 1 = 0 := s_may_ok hF (g_b_ne hin) (by decide)
    rw [hmy] at hM ⊢
    refine g_if_neB (tgt := 19) hx hb (b := decide ((0 : Int32) = 0)) rfl dX2_entries_14 (by decide) (fun c_14 => ?_) (fun c_14 => ?_)
    rotate_left
    · exact Bool.noConfusion ((rfl : decide ((0 : Int32) = 0) = true).symm.trans c_14)
    refine lv_iconst (v := 0) hx hb dX2_entries_19 rfl ?_
    refine lv_istore_n (lv' := [(2, .int 0), (0, .ref (ad 0)), (1, .int (nI k))]) hx hb dX2_entries_20 rfl hl (by decide) rfl (fun ls hl => ?_)
    refine lv_iconst (v := 0) hx hb dX2_entries_21 rfl ?_
    refine lv_istore_n (lv' := [(3, .int 0), (2, .int 0), (0, .ref (ad 0)), (1, .int (nI k))]) hx hb dX2_entries_22 rfl hl (by decide) rfl (fun ls hl => ?_)
    have L23 : ∀ (nf : Nat) (H : Heap) (locs : List Loc) (j : Nat), (j ≤ s_G X) → (s_G X - j < nf) → (g_Mod G ad (upd F 0 0) X Y U V Z H) → va_S (md_A ad) s.heap H locs → ∀ ls : Array Slot, lv_has ls 4 [(3, .int (nI j)), (2, .int (nI (s_cnt (fun g => decide (X 2 (4 * g + 1) = nI k)) j))), (0, .ref (ad 0)), (1, .int (nI k))] → W p l e (g_rm 2 0 0) s m args below meth c H locs 0 0 Q (F0 m 23 ls []) := by
      intro n23
      induction n23 with
      | zero => intro H locs j hj hn; exact absurd hn (Nat.not_lt_zero _)
      | succ n23 ih23 =>
        intro H locs j hj hn23 hM hS ls hl
        refine lv_iload_n hx hb dX2_entries_23 rfl (lv_at hl 0 rfl) ?_
        refine lv_aload_n hx hb dX2_entries_24 rfl (lv_at hl 2 rfl) ?_
        refine g_getM hX hM 1 (by decide) q2164 rfl (v := .ref (ad 1)) rfl dX2_entries_25 ?_
        refine lv_iconst (v := 4) hx hb dX2_entries_28 rfl ?_
        refine g_iald hX hM.a1 4 rfl (by omega) (by decide) (v := (X 0 4)) rfl dX2_entries_29 ?_
        refine g_icmp_geN (tgt := 68) hx hb j (s_G X) rfl hG0 (by omega) (by omega) dX2_entries_30 (by decide) (fun c_30 => ?_) (fun c_30 => ?_)
        · skip
          refine lv_iload_n hx hb dX2_entries_68 rfl (lv_at hl 1 rfl) ?_
          exact hret H locs _ _ _ _ _ dX2_entries_69 hS (Nat.le_refl _) (Nat.le_refl _) (⟨by rw [show j = s_G X by omega]; rfl, hM⟩)
        · skip
          refine lv_iload_n hx hb dX2_entries_33 rfl (lv_at hl 1 rfl) ?_
          refine lv_aload_n hx hb dX2_entries_34 rfl (lv_at hl 2 rfl) ?_
          refine g_getM hX hM 1 (by decide) q2164 rfl (v := .ref (ad 1)) rfl dX2_entries_35 ?_
          refine lv_sipush (v := 1416) hx hb dX2_entries_38 (by decide) ?_
          refine lv_iconst (v := 4) hx hb dX2_entries_41 rfl ?_
          refine lv_iload_n hx hb dX2_entries_42 rfl (lv_at hl 0 rfl) ?_
          refine g_imulN hx hb 4 j rfl rfl dX2_entries_43 ?_
          refine g_iaddN hx hb 1416 (4 * j) rfl rfl dX2_entries_44 ?_
          refine lv_iconst (v := 1) hx hb dX2_entries_45 rfl ?_
          refine g_iaddN hx hb (1416 + 4 * j) 1 rfl rfl dX2_entries_46 ?_
          refine g_iald hX hM.a1 (1416 + 4 * j + 1) rfl (by omega) (by decide) (v := (X 2 (4 * j + 1))) (g_flg _) dX2_entries_47 ?_
          refine lv_iload_n hx hb dX2_entries_48 rfl (lv_at hl 3 rfl) ?_
          refine lv_icmp_ne (tgt := 56) hx hb dX2_entries_49 (by decide) (fun c_49 => ?_) (fun c_49 => ?_)
          · skip
            refine lv_iconst (v := 0) hx hb dX2_entries_56 rfl ?_
            refine g_cRS hX hl y_X2_one v_X2_one q2386 (k_X2_one false) trivial rfl ⟨Nat.le_of_ble_eq_true rfl, Nat.le_of_ble_eq_true rfl⟩ ⟨Nat.zero_le _, Nat.zero_le _⟩ (rest := [.int (nI (s_cnt (fun g => decide (X 2 (4 * g + 1) = nI k)) j))]) (st1 := [.int (nI (s_n false)), .int (nI (s_cnt (fun g => decide (X 2 (4 * g + 1) = nI k)) j))]) rfl rfl (Nat.le_of_ble_eq_true rfl) dX2_entries_57 ?_
            refine g_iaddN hx hb (s_cnt (fun g => decide (X 2 (4 * g + 1) = nI k)) j) (s_n false) rfl rfl dX2_entries_60 ?_
            refine lv_istore_n (lv' := [(2, .int (nI (s_cnt (fun g => decide (X 2 (4 * g + 1) = nI k)) j + s_n false))), (3, .int (nI j)), (0, .ref (ad 0)), (1, .int (nI k))]) hx hb dX2_entries_61 rfl hl (by decide) rfl (fun ls hl => ?_)
            refine lv_iinc (v := (nI (j + 1))) (lv' := [(3, .int (nI (j + 1))), (2, .int (nI (s_cnt (fun g => decide (X 2 (4 * g + 1) = nI k)) j + s_n false))), (0, .ref (ad 0)), (1, .int (nI k))]) hx hb dX2_entries_62 hl (k := 1) rfl (nI_1 _) (by decide) rfl (fun ls hl => ?_)
            refine lv_goto (tgt := 23) hx hb dX2_entries_65 (by decide) ?_
            have e_2 : (nI (s_cnt (fun g => decide (X 2 (4 * g + 1) = nI k)) j + s_n false)) = (nI (s_cnt (fun g => decide (X 2 (4 * g + 1) = nI k)) (j + 1))) := by first | (simp [s_cnt, s_n, c_30, c_49]; done) | grind [s_cnt, s_n]
            rw [e_2] at hl
            exact ih23 H locs (j + 1) (by omega) (by omega) hM hS ls (lv_sub hl [0, 1, 2, 3] rfl)
          · skip
            refine lv_iconst (v := 1) hx hb dX2_entries_52 rfl ?_
            refine lv_goto (tgt := 57) hx hb dX2_entries_53 (by decide) ?_
            refine g_cRS hX hl y_X2_one v_X2_one q2386 (k_X2_one true) trivial rfl ⟨Nat.le_of_ble_eq_true rfl, Nat.le_of_ble_eq_true rfl⟩ ⟨Nat.zero_le _, Nat.zero_le _⟩ (rest := [.int (nI (s_cnt (fun g => decide (X 2 (4 * g + 1) = nI k)) j))]) (st1 := [.int (nI (s_n true)), .int (nI (s_cnt (fun g => decide (X 2 (4 * g + 1) = nI k)) j))]) rfl rfl (Nat.le_of_ble_eq_true rfl) dX2_entries_57 ?_
            refine g_iaddN hx hb (s_cnt (fun g => decide (X 2 (4 * g + 1) = nI k)) j) (s_n true) rfl rfl dX2_entries_60 ?_
            refine lv_istore_n (lv' := [(2, .int (nI (s_cnt (fun g => decide (X 2 (4 * g + 1) = nI k)) j + s_n true))), (3, .int (nI j)), (0, .ref (ad 0)), (1, .int (nI k))]) hx hb dX2_entries_61 rfl hl (by decide) rfl (fun ls hl => ?_)
            refine lv_iinc (v := (nI (j + 1))) (lv' := [(3, .int (nI (j + 1))), (2, .int (nI (s_cnt (fun g => decide (X 2 (4 * g + 1) = nI k)) j + s_n true))), (0, .ref (ad 0)), (1, .int (nI k))]) hx hb dX2_entries_62 hl (k := 1) rfl (nI_1 _) (by decide) rfl (fun ls hl => ?_)
            refine lv_goto (tgt := 23) hx hb dX2_entries_65 (by decide) ?_
            have e_2 : (nI (s_cnt (fun g => decide (X 2 (4 * g + 1) = nI k)) j + s_n true)) = (nI (s_cnt (fun g => decide (X 2 (4 * g + 1) = nI k)) (j + 1))) := by first | (simp [s_cnt, s_n, c_30, c_49]; done) | grind [s_cnt, s_n]
            rw [e_2] at hl
            exact ih23 H locs (j + 1) (by omega) (by omega) hM hS ls (lv_sub hl [0, 1, 2, 3] rfl)
    exact L23 (s_G X - 0 + 1) H locs 0 (by omega) (Nat.lt_succ_self _) hM hS ls (lv_sub hl [0, 1, 2, 3] rfl)
  exact key _ _ hM hS

set_option maxHeartbeats 4000000 in
theorem no_X2_entries {G : g_G} {l : Launch} {ad : Nat → Nat} {F : Nat → Int32} {X Y : g_Wd} {U V : Nat → g_Wd} {Z : g_Wd} (t9 : Int32) (k : Int32) (ht9 : ¬ t9 = 0) (hbad : s_may (F 6) (g_b (s_in k 0 3)) 1 = t9) (hWc : ¬ F 6 = 0 → s_ok X) : g_Md G l yX2_entries cX2_entries 4 (some .int) 2 0 0 [.ref (ad 0), .int k] (g_Mod G ad F X Y U V Z) (g_Qv (some (.int 0)) (g_Mod G ad (upd F 0 t9) X Y U V Z)) (md_A ad) := by
  refine g_Md.ofI (by decide) (fun _ _ _ => rfl) ?_
  intro p e s m args below meth c ls Q hX hM hl hS hret
  have hx := hX.1.1
  have hb := hX.1.2.1
  have hl : lv_has ls 4 [(0, .ref (ad 0)), (1, .int k)] := hl
  have key : ∀ (H : Heap) (locs : List Loc), g_Mod G ad F X Y U V Z H → va_S (md_A ad) s.heap H locs → W p l e (g_rm 2 0 0) s m args below meth c H locs 0 0 Q (F0 m 0 ls []) := by
    intro H locs hM hS
    refine lv_aload_n hx hb dX2_entries_0 rfl (lv_at hl 0 rfl) ?_
    refine lv_aload_n hx hb dX2_entries_1 rfl (lv_at hl 0 rfl) ?_
    refine g_getM hX hM 6 (by decide) q2169 rfl (v := .int (F 6)) rfl dX2_entries_2 ?_
    refine lv_iload_n hx hb dX2_entries_5 rfl (lv_at hl 1 rfl) ?_
    refine lv_iconst (v := 0) hx hb dX2_entries_6 rfl ?_
    refine lv_iconst (v := 3) hx hb dX2_entries_7 rfl ?_
    refine g_cRS hX hl y_X2_in v_X2_in q2258 (k_X2_in k 0 3) trivial rfl ⟨Nat.le_of_ble_eq_true rfl, Nat.le_of_ble_eq_true rfl⟩ ⟨Nat.zero_le _, Nat.zero_le _⟩ (rest := [.int (F 6), .ref (ad 0)]) (st1 := [.int (g_b (s_in k 0 3)), .int (F 6), .ref (ad 0)]) rfl rfl (Nat.le_of_ble_eq_true rfl) dX2_entries_8 ?_
    refine g_cMV hX hl y_X2_mayTwo v_X2_mayTwo q2501 (k_X2_mayTwo (F 6) (g_b (s_in k 0 3))) (hM.rc hX.2.2.2) hM rfl ⟨Nat.le_of_ble_eq_true rfl, Nat.le_of_ble_eq_true rfl⟩ ⟨Nat.le_refl _, Nat.le_refl _⟩ (rest := []) (st1 := [.int (g_b (decide (s_may (F 6) (g_b (s_in k 0 3)) 1 = 0)))]) rfl rfl (Nat.le_of_ble_eq_true rfl) dX2_entries_11 hS (fun _ h => h) (fun H locs hM hS _ => ?_)
    have hmy : s_may (F 6) (g_b (s_in k 0 3)) 1 = t9 := by first | exact hbad | (rw [← hbad]; simp [g_b, g_b]; done) | (rw [← hbad]; simp only [g_b, g_b]; rfl)
    rw [hmy] at hM ⊢
    refine g_if_neB (tgt := 19) hx hb (b := decide (t9 = 0)) rfl dX2_entries_14 (by decide) (fun c_14 => ?_) (fun c_14 => ?_)
    · exact Bool.noConfusion ((decide_eq_false ht9).symm.trans c_14)
    skip
    refine lv_iconst (v := 0) hx hb dX2_entries_17 rfl ?_
    exact hret H locs _ _ _ _ _ dX2_entries_18 hS (Nat.le_refl _) (Nat.le_refl _) (⟨rfl, hM⟩)
  exact key _ _ hM hS
