/-! THE MODEL: what will be and would be -/
set_option maxRecDepth 100000
theorem y_X2_rightAtEnd : g_Y yX2_rightAtEnd cX2_rightAtEnd 3 (some .int) 1 := ⟨q2720, by decide +kernel⟩
theorem v_X2_rightAtEnd : g_YV yX2_rightAtEnd := ⟨q2719, qs119, q140⟩
set_option maxHeartbeats 4000000 in
theorem k_X2_rightAtEnd {G : g_G} {l : Launch} {ad : Nat → Nat} {F : Nat → Int32} {X Y : g_Wd} {U V : Nat → g_Wd} {Z : g_Wd} (m0 : Nat) (hm : m0 < s_M X) (hwl : s_wl X) (hT : s_arv X m0) : g_Md G l yX2_rightAtEnd cX2_rightAtEnd 3 (some .int) 9 0 0 [.ref (ad 0), .int (nI m0)] (g_Mod G ad F X Y U V Z) (g_Qv (some (.int (nI (s_rigP (s_endM X m0))))) (g_Mod G ad F Y Y U V Z)) (md_A ad) := by
  refine g_Md.ofI (by decide) (fun _ _ _ => rfl) ?_
  intro p e s m args below meth c ls Q hX hM hl hS hret
  have hx := hX.1.1
  have hb := hX.1.2.1
  have hl : lv_has ls 3 [(0, .ref (ad 0)), (1, .int (nI m0))] := hl
  have key : ∀ (H : Heap) (locs : List Loc), g_Mod G ad F X Y U V Z H → va_S (md_A ad) s.heap H locs → W p l e (g_rm 9 0 0) s m args below meth c H locs 0 0 Q (F0 m 0 ls []) := by
    intro H locs hM hS
    have hM6 := hwl.1.2.1.2
    have hm0 : m0 < 6 := by omega
    refine lv_aload_n hx hb dX2_rightAtEnd_0 rfl (lv_at hl 0 rfl) ?_
    refine lv_iload_n hx hb dX2_rightAtEnd_1 rfl (lv_at hl 1 rfl) ?_
    refine g_cMV hX hl y_X2_arrives v_X2_arrives q2709 (k_X2_arrives m0 (by omega) hwl hT) (hM.rc hX.2.2.2) hM rfl ⟨Nat.le_of_ble_eq_true rfl, Nat.le_of_ble_eq_true rfl⟩ ⟨Nat.le_refl _, Nat.le_refl _⟩ (rest := []) (st1 := [.int (nI (s_T X m0))]) rfl rfl (Nat.le_of_ble_eq_true rfl) dX2_rightAtEnd_2 hS (fun _ h => h) (fun H locs hM hS _ => ?_)
    refine lv_istore_n (lv' := [(2, .int (nI (s_T X m0))), (0, .ref (ad 0)), (1, .int (nI m0))]) hx hb dX2_rightAtEnd_5 rfl hl (by decide) rfl (fun ls hl => ?_)
    refine lv_aload_n hx hb dX2_rightAtEnd_6 rfl (lv_at hl 1 rfl) ?_
    refine lv_aload_n hx hb dX2_rightAtEnd_7 rfl (lv_at hl 1 rfl) ?_
    refine lv_iload_n hx hb dX2_rightAtEnd_8 rfl (lv_at hl 2 rfl) ?_
    refine g_cRV hX hl y_X2_rightPlaces v_X2_rightPlaces q2640 (k_X2_rightPlaces m0 (by omega) (by have := (x_pH_M hwl (n := s_T X m0)).1.1.2.2.2 m0 (by rw [(x_pH_M hwl (n := s_T X m0)).2.1]; exact hm); exact this)) (hM.rc hX.2.2.2) hM rfl ⟨Nat.le_of_ble_eq_true rfl, Nat.le_of_ble_eq_true rfl⟩ ⟨Nat.zero_le _, Nat.zero_le _⟩ (rest := [.ref (ad 0)]) (st1 := [.int (nI (s_rigP ((x_end X m0) (3 + m0)))), .ref (ad 0)]) rfl rfl (Nat.le_of_ble_eq_true rfl) dX2_rightAtEnd_9 ?_
    refine g_cMV hX hl y_X2_back v_X2_back q2493 (k_X2_back (nI (s_rigP ((x_end X m0) (3 + m0))))) (hM.rc hX.2.2.2) hM rfl ⟨Nat.le_of_ble_eq_true rfl, Nat.le_of_ble_eq_true rfl⟩ ⟨Nat.le_refl _, Nat.le_refl _⟩ (rest := []) (st1 := [.int (nI (s_rigP ((x_end X m0) (3 + m0))))]) rfl rfl (Nat.le_of_ble_eq_true rfl) dX2_rightAtEnd_12 hS (fun _ h => h) (fun H locs hM hS _ => ?_)
    exact hret H locs _ _ _ _ _ dX2_rightAtEnd_15 hS (Nat.le_refl _) (Nat.le_refl _) (⟨rfl, hM⟩)
  exact key _ _ hM hS

theorem y_X2_arrivesIn : g_Y yX2_arrivesIn cX2_arrivesIn 2 (some .int) 1 := ⟨q2708, by decide +kernel⟩
theorem v_X2_arrivesIn : g_YV yX2_arrivesIn := ⟨q2706, q2707, q140⟩
set_option maxHeartbeats 4000000 in
theorem ok_X2_arrivesIn {G : g_G} {l : Launch} {ad : Nat → Nat} {F : Nat → Int32} {X Y : g_Wd} {U V : Nat → g_Wd} {Z : g_Wd} (j : Nat) (hF : ¬ F 6 = 0) (hwl : s_wl X) (hwk : s_wk X) (hj : j < s_M X) : g_Md G l yX2_arrivesIn cX2_arrivesIn 2 (some .int) 9 0 0 [.ref (ad 0), .int (nI j)] (g_Mod G ad F X Y U V Z) (g_Qv (some (.int (nI (s_T X j)))) (g_Mod G ad (upd F 0 0) X X U V Z)) (md_A ad) := by
  refine g_Md.ofI (by decide) (fun _ _ _ => rfl) ?_
  intro p e s m args below meth c ls Q hX hM hl hS hret
  have hx := hX.1.1
  have hb := hX.1.2.1
  have hl : lv_has ls 2 [(0, .ref (ad 0)), (1, .int (nI j))] := hl
  have key : ∀ (H : Heap) (locs : List Loc), g_Mod G ad F X Y U V Z H → va_S (md_A ad) s.heap H locs → W p l e (g_rm 9 0 0) s m args below meth c H locs 0 0 Q (F0 m 0 ls []) := by
    intro H locs hM hS
    have hW := hwl.1
    have hWc : ¬ F 6 = 0 → s_ok X := fun _ => hW
    have hW9 := hW
    obtain ⟨⟨hL0, hL2, hL6⟩, ⟨hM0, hM6⟩, ⟨hG0, hG40⟩, hok⟩ := hW9
    have hw9 : s_W X ≤ 45 := by unfold s_W; omega
    have hmsg := s_isMsg_ok hF hW hj
    have ho := hok j hj
    have hL := ho.2
    have hj6 : j < 6 := by omega
    refine lv_aload_n hx hb dX2_arrivesIn_0 rfl (lv_at hl 0 rfl) ?_
    refine lv_iload_n hx hb dX2_arrivesIn_1 rfl (lv_at hl 1 rfl) ?_
    refine g_cMV hX hl y_X2_mayMessage v_X2_mayMessage q2636 (k_X2_mayMessage (nI j)) (hM.rc hX.2.2.2) hM rfl ⟨Nat.le_of_ble_eq_true rfl, Nat.le_of_ble_eq_true rfl⟩ ⟨Nat.le_refl _, Nat.le_refl _⟩ (rest := []) (st1 := [.int (g_b (decide (s_may (F 6) (g_b (s_isMsg F X (nI j))) 1 = 0)))]) rfl rfl (Nat.le_of_ble_eq_true rfl) dX2_arrivesIn_2 hS (fun _ h => h) (fun H locs hM hS _ => ?_)
    have hmy : s_may (F 6) (g_b (s_isMsg F X (nI j))) 1 = 0 := s_may_ok hF (g_b_ne hmsg) (by decide)
    rw [hmy] at hM ⊢
    refine g_if_neB (tgt := 10) hx hb (b := decide ((0 : Int32) = 0)) rfl dX2_arrivesIn_5 (by decide) (fun c_5 => ?_) (fun c_5 => ?_)
    rotate_left
    · exact Bool.noConfusion ((rfl : decide ((0 : Int32) = 0) = true).symm.trans c_5)
    refine lv_aload_n hx hb dX2_arrivesIn_10 rfl (lv_at hl 0 rfl) ?_
    refine g_cMV hX hl y_X2_thinks v_X2_thinks q2265 k_X2_thinks (hM.rc hX.2.2.2) hM rfl ⟨Nat.le_of_ble_eq_true rfl, Nat.le_of_ble_eq_true rfl⟩ ⟨Nat.le_refl _, Nat.le_refl _⟩ (rest := []) (st1 := []) rfl rfl (Nat.le_of_ble_eq_true rfl) dX2_arrivesIn_11 hS (fun _ h => h) (fun H locs hM hS _ => ?_)
    refine lv_aload_n hx hb dX2_arrivesIn_14 rfl (lv_at hl 0 rfl) ?_
    refine lv_aload_n hx hb dX2_arrivesIn_15 rfl (lv_at hl 0 rfl) ?_
    refine lv_iload_n hx hb dX2_arrivesIn_16 rfl (lv_at hl 1 rfl) ?_
    refine g_cMV hX hl y_X2_arrives v_X2_arrives q2709 (k_X2_arrives j (by omega) hwl (hwk.arv hj)) (hM.rc hX.2.2.2) hM rfl ⟨Nat.le_of_ble_eq_true rfl, Nat.le_of_ble_eq_true rfl⟩ ⟨Nat.le_refl _, Nat.le_refl _⟩ (rest := [.ref (ad 0)]) (st1 := [.int (nI (s_T X j)), .ref (ad 0)]) rfl rfl (Nat.le_of_ble_eq_true rfl) dX2_arrivesIn_17 hS (fun _ h => h) (fun H locs hM hS _ => ?_)
    refine g_cMV hX hl y_X2_back v_X2_back q2493 (k_X2_back (nI (s_T X j))) (hM.rc hX.2.2.2) hM rfl ⟨Nat.le_of_ble_eq_true rfl, Nat.le_of_ble_eq_true rfl⟩ ⟨Nat.le_refl _, Nat.le_refl _⟩ (rest := []) (st1 := [.int (nI (s_T X j))]) rfl rfl (Nat.le_of_ble_eq_true rfl) dX2_arrivesIn_20 hS (fun _ h => h) (fun H locs hM hS _ => ?_)
    exact hret H locs _ _ _ _ _ dX2_arrivesIn_23 hS (Nat.le_refl _) (Nat.le_refl _) (⟨rfl, hM⟩)
  exact key _ _ hM hS

set_option maxHeartbeats 4000000 in
theorem no_X2_arrivesIn {G : g_G} {l : Launch} {ad : Nat → Nat} {F : Nat → Int32} {X Y : g_Wd} {U V : Nat → g_Wd} {Z : g_Wd} (t9 : Int32) (v : Int32) (ht9 : ¬ t9 = 0) (hbad : s_may (F 6) (g_b (s_isMsg F X v)) 1 = t9) (hWc : ¬ F 6 = 0 → s_ok X) : g_Md G l yX2_arrivesIn cX2_arrivesIn 2 (some .int) 3 0 0 [.ref (ad 0), .int v] (g_Mod G ad F X Y U V Z) (g_Qv (some (.int 0)) (g_Mod G ad (upd F 0 t9) X Y U V Z)) (md_A ad) := by
  refine g_Md.ofI (by decide) (fun _ _ _ => rfl) ?_
  intro p e s m args below meth c ls Q hX hM hl hS hret
  have hx := hX.1.1
  have hb := hX.1.2.1
  have hl : lv_has ls 2 [(0, .ref (ad 0)), (1, .int v)] := hl
  have key : ∀ (H : Heap) (locs : List Loc), g_Mod G ad F X Y U V Z H → va_S (md_A ad) s.heap H locs → W p l e (g_rm 3 0 0) s m args below meth c H locs 0 0 Q (F0 m 0 ls []) := by
    intro H locs hM hS
    refine lv_aload_n hx hb dX2_arrivesIn_0 rfl (lv_at hl 0 rfl) ?_
    refine lv_iload_n hx hb dX2_arrivesIn_1 rfl (lv_at hl 1 rfl) ?_
    refine g_cMV hX hl y_X2_mayMessage v_X2_mayMessage q2636 (k_X2_mayMessage v) (hM.rc hX.2.2.2) hM rfl ⟨Nat.le_of_ble_eq_true rfl, Nat.le_of_ble_eq_true rfl⟩ ⟨Nat.le_refl _, Nat.le_refl _⟩ (rest := []) (st1 := [.int (g_b (decide (s_may (F 6) (g_b (s_isMsg F X v)) 1 = 0)))]) rfl rfl (Nat.le_of_ble_eq_true rfl) dX2_arrivesIn_2 hS (fun _ h => h) (fun H locs hM hS _ => ?_)
    have hmy : s_may (F 6) (g_b (s_isMsg F X v)) 1 = t9 := by first | exact hbad | (rw [← hbad]; simp [g_b, g_b]; done) | (rw [← hbad]; simp only [g_b, g_b]; rfl)
    rw [hmy] at hM ⊢
    refine g_if_neB (tgt := 10) hx hb (b := decide (t9 = 0)) rfl dX2_arrivesIn_5 (by decide) (fun c_5 => ?_) (fun c_5 => ?_)
    · exact Bool.noConfusion ((decide_eq_false ht9).symm.trans c_5)
    skip
    refine lv_iconst (v := 0) hx hb dX2_arrivesIn_8 rfl ?_
    exact hret H locs _ _ _ _ _ dX2_arrivesIn_9 hS (Nat.le_refl _) (Nat.le_refl _) (⟨rfl, hM⟩)
  exact key _ _ hM hS

theorem y_X2_rightThen : g_Y yX2_rightThen cX2_rightThen 2 (some .int) 1 := ⟨q2716, by decide +kernel⟩
theorem v_X2_rightThen : g_YV yX2_rightThen := ⟨q2714, q2715, q140⟩
set_option maxHeartbeats 4000000 in
theorem ok_X2_rightThen {G : g_G} {l : Launch} {ad : Nat → Nat} {F : Nat → Int32} {X Y : g_Wd} {U V : Nat → g_Wd} {Z : g_Wd} (j : Nat) (hF : ¬ F 6 = 0) (hwl : s_wl X) (hwk : s_wk X) (hj : j < s_M X) : g_Md G l yX2_rightThen cX2_rightThen 2 (some .int) 10 0 0 [.ref (ad 0), .int (nI j)] (g_Mod G ad F X Y U V Z) (g_Qv (some (.int (nI (s_rigP (s_endM X j))))) (g_Mod G ad (upd F 0 0) X X U V Z)) (md_A ad) := by
  refine g_Md.ofI (by decide) (fun _ _ _ => rfl) ?_
  intro p e s m args below meth c ls Q hX hM hl hS hret
  have hx := hX.1.1
  have hb := hX.1.2.1
  have hl : lv_has ls 2 [(0, .ref (ad 0)), (1, .int (nI j))] := hl
  have key : ∀ (H : Heap) (locs : List Loc), g_Mod G ad F X Y U V Z H → va_S (md_A ad) s.heap H locs → W p l e (g_rm 10 0 0) s m args below meth c H locs 0 0 Q (F0 m 0 ls []) := by
    intro H locs hM hS
    have hW := hwl.1
    have hWc : ¬ F 6 = 0 → s_ok X := fun _ => hW
    have hW9 := hW
    obtain ⟨⟨hL0, hL2, hL6⟩, ⟨hM0, hM6⟩, ⟨hG0, hG40⟩, hok⟩ := hW9
    have hw9 : s_W X ≤ 45 := by unfold s_W; omega
    have hmsg := s_isMsg_ok hF hW hj
    have ho := hok j hj
    have hL := ho.2
    have hj6 : j < 6 := by omega
    refine lv_aload_n hx hb dX2_rightThen_0 rfl (lv_at hl 0 rfl) ?_
    refine lv_iload_n hx hb dX2_rightThen_1 rfl (lv_at hl 1 rfl) ?_
    refine g_cMV hX hl y_X2_mayMessage v_X2_mayMessage q2636 (k_X2_mayMessage (nI j)) (hM.rc hX.2.2.2) hM rfl ⟨Nat.le_of_ble_eq_true rfl, Nat.le_of_ble_eq_true rfl⟩ ⟨Nat.le_refl _, Nat.le_refl _⟩ (rest := []) (st1 := [.int (g_b (decide (s_may (F 6) (g_b (s_isMsg F X (nI j))) 1 = 0)))]) rfl rfl (Nat.le_of_ble_eq_true rfl) dX2_rightThen_2 hS (fun _ h => h) (fun H locs hM hS _ => ?_)
    have hmy : s_may (F 6) (g_b (s_isMsg F X (nI j))) 1 = 0 := s_may_ok hF (g_b_ne hmsg) (by decide)
    rw [hmy] at hM ⊢
    refine g_if_neB (tgt := 10) hx hb (b := decide ((0 : Int32) = 0)) rfl dX2_rightThen_5 (by decide) (fun c_5 => ?_) (fun c_5 => ?_)
    rotate_left
    · exact Bool.noConfusion ((rfl : decide ((0 : Int32) = 0) = true).symm.trans c_5)
    refine lv_aload_n hx hb dX2_rightThen_10 rfl (lv_at hl 0 rfl) ?_
    refine g_cMV hX hl y_X2_thinks v_X2_thinks q2265 k_X2_thinks (hM.rc hX.2.2.2) hM rfl ⟨Nat.le_of_ble_eq_true rfl, Nat.le_of_ble_eq_true rfl⟩ ⟨Nat.le_refl _, Nat.le_refl _⟩ (rest := []) (st1 := []) rfl rfl (Nat.le_of_ble_eq_true rfl) dX2_rightThen_11 hS (fun _ h => h) (fun H locs hM hS _ => ?_)
    refine lv_aload_n hx hb dX2_rightThen_14 rfl (lv_at hl 0 rfl) ?_
    refine lv_iload_n hx hb dX2_rightThen_15 rfl (lv_at hl 1 rfl) ?_
    refine g_cMV hX hl y_X2_rightAtEnd v_X2_rightAtEnd q2717 (k_X2_rightAtEnd j hj hwl (hwk.arv hj)) (hM.rc hX.2.2.2) hM rfl ⟨Nat.le_of_ble_eq_true rfl, Nat.le_of_ble_eq_true rfl⟩ ⟨Nat.le_refl _, Nat.le_refl _⟩ (rest := []) (st1 := [.int (nI (s_rigP (s_endM X j)))]) rfl rfl (Nat.le_of_ble_eq_true rfl) dX2_rightThen_16 hS (fun _ h => h) (fun H locs hM hS _ => ?_)
    exact hret H locs _ _ _ _ _ dX2_rightThen_19 hS (Nat.le_refl _) (Nat.le_refl _) (⟨rfl, hM⟩)
  exact key _ _ hM hS

set_option maxHeartbeats 4000000 in
theorem no_X2_rightThen {G : g_G} {l : Launch} {ad : Nat → Nat} {F : Nat → Int32} {X Y : g_Wd} {U V : Nat → g_Wd} {Z : g_Wd} (t9 : Int32) (v : Int32) (ht9 : ¬ t9 = 0) (hbad : s_may (F 6) (g_b (s_isMsg F X v)) 1 = t9) (hWc : ¬ F 6 = 0 → s_ok X) : g_Md G l yX2_rightThen cX2_rightThen 2 (some .int) 3 0 0 [.ref (ad 0), .int v] (g_Mod G ad F X Y U V Z) (g_Qv (some (.int 0)) (g_Mod G ad (upd F 0 t9) X Y U V Z)) (md_A ad) := by
  refine g_Md.ofI (by decide) (fun _ _ _ => rfl) ?_
  intro p e s m args below meth c ls Q hX hM hl hS hret
  have hx := hX.1.1
  have hb := hX.1.2.1
  have hl : lv_has ls 2 [(0, .ref (ad 0)), (1, .int v)] := hl
  have key : ∀ (H : Heap) (locs : List Loc), g_Mod G ad F X Y U V Z H → va_S (md_A ad) s.heap H locs → W p l e (g_rm 3 0 0) s m args below meth c H locs 0 0 Q (F0 m 0 ls []) := by
    intro H locs hM hS
    refine lv_aload_n hx hb dX2_rightThen_0 rfl (lv_at hl 0 rfl) ?_
    refine lv_iload_n hx hb dX2_rightThen_1 rfl (lv_at hl 1 rfl) ?_
    refine g_cMV hX hl y_X2_mayMessage v_X2_mayMessage q2636 (k_X2_mayMessage v) (hM.rc hX.2.2.2) hM rfl ⟨Nat.le_of_ble_eq_true rfl, Nat.le_of_ble_eq_true rfl⟩ ⟨Nat.le_refl _, Nat.le_refl _⟩ (rest := []) (st1 := [.int (g_b (decide (s_may (F 6) (g_b (s_isMsg F X v)) 1 = 0)))]) rfl rfl (Nat.le_of_ble_eq_true rfl) dX2_rightThen_2 hS (fun _ h => h) (fun H locs hM hS _ => ?_)
    have hmy : s_may (F 6) (g_b (s_isMsg F X v)) 1 = t9 := by first | exact hbad | (rw [← hbad]; simp [g_b, g_b]; done) | (rw [← hbad]; simp only [g_b, g_b]; rfl)
    rw [hmy] at hM ⊢
    refine g_if_neB (tgt := 10) hx hb (b := decide (t9 = 0)) rfl dX2_rightThen_5 (by decide) (fun c_5 => ?_) (fun c_5 => ?_)
    · exact Bool.noConfusion ((decide_eq_false ht9).symm.trans c_5)
    skip
    refine lv_iconst (v := 0) hx hb dX2_rightThen_8 rfl ?_
    exact hret H locs _ _ _ _ _ dX2_rightThen_9 hS (Nat.le_refl _) (Nat.le_refl _) (⟨rfl, hM⟩)
  exact key _ _ hM hS

theorem y_X2_believedThen : g_Y yX2_believedThen cX2_believedThen 4 (some .int) 2 := ⟨q2724, by decide +kernel⟩
theorem v_X2_believedThen : g_YV yX2_believedThen := ⟨q2722, q2723, q140⟩
set_option maxHeartbeats 4000000 in
theorem ok_X2_believedThen {G : g_G} {l : Launch} {ad : Nat → Nat} {F : Nat → Int32} {X Y : g_Wd} {U V : Nat → g_Wd} {Z : g_Wd} (j : Nat) (q : Nat) (hF : ¬ F 6 = 0) (hwl : s_wl X) (hwk : s_wk X) (hj : j < s_M X) (hq : q < s_len (X (3 + j))) : g_Md G l yX2_believedThen cX2_believedThen 4 (some .int) 9 0 0 [.ref (ad 0), .int (nI j), .int (nI q)] (g_Mod G ad F X Y U V Z) (g_Qv (some (.int (s_bel (s_endM X j) q))) (g_Mod G ad (upd F 0 0) X X U V Z)) (md_A ad) := by
  refine g_Md.ofI (by decide) (fun _ _ _ => rfl) ?_
  intro p e s m args below meth c ls Q hX hM hl hS hret
  have hx := hX.1.1
  have hb := hX.1.2.1
  have hl : lv_has ls 4 [(0, .ref (ad 0)), (1, .int (nI j)), (2, .int (nI q))] := hl
  have key : ∀ (H : Heap) (locs : List Loc), g_Mod G ad F X Y U V Z H → va_S (md_A ad) s.heap H locs → W p l e (g_rm 9 0 0) s m args below meth c H locs 0 0 Q (F0 m 0 ls []) := by
    intro H locs hM hS
    have hW := hwl.1
    have hWc : ¬ F 6 = 0 → s_ok X := fun _ => hW
    have hW9 := hW
    obtain ⟨⟨hL0, hL2, hL6⟩, ⟨hM0, hM6⟩, ⟨hG0, hG40⟩, hok⟩ := hW9
    have hw9 : s_W X ≤ 45 := by unfold s_W; omega
    have hmsg := s_isMsg_ok hF hW hj
    have ho := hok j hj
    have hL := ho.2
    have hj6 : j < 6 := by omega
    have hpl := s_isPl_ok hF hW hj hq
    refine lv_aload_n hx hb dX2_believedThen_0 rfl (lv_at hl 0 rfl) ?_
    refine lv_aload_n hx hb dX2_believedThen_1 rfl (lv_at hl 0 rfl) ?_
    refine g_getM hX hM 6 (by decide) q2169 rfl (v := .int (F 6)) rfl dX2_believedThen_2 ?_
    refine lv_aload_n hx hb dX2_believedThen_5 rfl (lv_at hl 0 rfl) ?_
    refine lv_iload_n hx hb dX2_believedThen_6 rfl (lv_at hl 1 rfl) ?_
    refine lv_iload_n hx hb dX2_believedThen_7 rfl (lv_at hl 2 rfl) ?_
    refine g_cRV hX hl y_X2_isPlace v_X2_isPlace q2584 (k_X2_isPlace (nI j) (nI q) hWc) (hM.rc hX.2.2.2) hM rfl ⟨Nat.le_of_ble_eq_true rfl, Nat.le_of_ble_eq_true rfl⟩ ⟨Nat.zero_le _, Nat.zero_le _⟩ (rest := [.int (F 6), .ref (ad 0)]) (st1 := [.int (g_b (s_isPl F X (nI j) (nI q))), .int (F 6), .ref (ad 0)]) rfl rfl (Nat.le_of_ble_eq_true rfl) dX2_believedThen_8 ?_
    refine g_cMV hX hl y_X2_mayTwo v_X2_mayTwo q2501 (k_X2_mayTwo (F 6) (g_b (s_isPl F X (nI j) (nI q)))) (hM.rc hX.2.2.2) hM rfl ⟨Nat.le_of_ble_eq_true rfl, Nat.le_of_ble_eq_true rfl⟩ ⟨Nat.le_refl _, Nat.le_refl _⟩ (rest := []) (st1 := [.int (g_b (decide (s_may (F 6) (g_b (s_isPl F X (nI j) (nI q))) 1 = 0)))]) rfl rfl (Nat.le_of_ble_eq_true rfl) dX2_believedThen_11 hS (fun _ h => h) (fun H locs hM hS _ => ?_)
    have hmy : s_may (F 6) (g_b (s_isPl F X (nI j) (nI q))) 1 = 0 := s_may_ok hF (g_b_ne hpl) (by decide)
    rw [hmy] at hM ⊢
    refine g_if_neB (tgt := 19) hx hb (b := decide ((0 : Int32) = 0)) rfl dX2_believedThen_14 (by decide) (fun c_14 => ?_) (fun c_14 => ?_)
    rotate_left
    · exact Bool.noConfusion ((rfl : decide ((0 : Int32) = 0) = true).symm.trans c_14)
    refine lv_aload_n hx hb dX2_believedThen_19 rfl (lv_at hl 0 rfl) ?_
    refine g_cMV hX hl y_X2_thinks v_X2_thinks q2265 k_X2_thinks (hM.rc hX.2.2.2) hM rfl ⟨Nat.le_of_ble_eq_true rfl, Nat.le_of_ble_eq_true rfl⟩ ⟨Nat.le_refl _, Nat.le_refl _⟩ (rest := []) (st1 := []) rfl rfl (Nat.le_of_ble_eq_true rfl) dX2_believedThen_20 hS (fun _ h => h) (fun H locs hM hS _ => ?_)
    refine lv_aload_n hx hb dX2_believedThen_23 rfl (lv_at hl 0 rfl) ?_
    refine lv_iload_n hx hb dX2_believedThen_24 rfl (lv_at hl 1 rfl) ?_
    refine g_cMV hX hl y_X2_arrives v_X2_arrives q2709 (k_X2_arrives j (by omega) hwl (hwk.arv hj)) (hM.rc hX.2.2.2) hM rfl ⟨Nat.le_of_ble_eq_true rfl, Nat.le_of_ble_eq_true rfl⟩ ⟨Nat.le_refl _, Nat.le_refl _⟩ (rest := []) (st1 := [.int (nI (s_T X j))]) rfl rfl (Nat.le_of_ble_eq_true rfl) dX2_believedThen_25 hS (fun _ h => h) (fun H locs hM hS _ => ?_)
    refine lv_istore_n (lv' := [(3, .int (nI (s_T X j))), (0, .ref (ad 0)), (1, .int (nI j)), (2, .int (nI q))]) hx hb dX2_believedThen_28 rfl hl (by decide) rfl (fun ls hl => ?_)
    refine lv_aload_n hx hb dX2_believedThen_29 rfl (lv_at hl 1 rfl) ?_
    refine lv_aload_n hx hb dX2_believedThen_30 rfl (lv_at hl 1 rfl) ?_
    refine lv_iload_n hx hb dX2_believedThen_31 rfl (lv_at hl 2 rfl) ?_
    refine lv_iload_n hx hb dX2_believedThen_32 rfl (lv_at hl 3 rfl) ?_
    refine g_cRV hX hl y_X2_believedAt v_X2_believedAt q2628 (k_X2_believedAt j q (by omega) (by omega)) (hM.rc hX.2.2.2) hM rfl ⟨Nat.le_of_ble_eq_true rfl, Nat.le_of_ble_eq_true rfl⟩ ⟨Nat.zero_le _, Nat.zero_le _⟩ (rest := [.ref (ad 0)]) (st1 := [.int (s_bel ((x_end X j) (3 + j)) q), .ref (ad 0)]) rfl rfl (Nat.le_of_ble_eq_true rfl) dX2_believedThen_33 ?_
    refine g_cMV hX hl y_X2_back v_X2_back q2493 (k_X2_back (s_bel ((x_end X j) (3 + j)) q)) (hM.rc hX.2.2.2) hM rfl ⟨Nat.le_of_ble_eq_true rfl, Nat.le_of_ble_eq_true rfl⟩ ⟨Nat.le_refl _, Nat.le_refl _⟩ (rest := []) (st1 := [.int (s_bel ((x_end X j) (3 + j)) q)]) rfl rfl (Nat.le_of_ble_eq_true rfl) dX2_believedThen_36 hS (fun _ h => h) (fun H locs hM hS _ => ?_)
    exact hret H locs _ _ _ _ _ dX2_believedThen_39 hS (Nat.le_refl _) (Nat.le_refl _) (⟨rfl, hM⟩)
  exact key _ _ hM hS

set_option maxHeartbeats 4000000 in
theorem no_X2_believedThen {G : g_G} {l : Launch} {ad : Nat → Nat} {F : Nat → Int32} {X Y : g_Wd} {U V : Nat → g_Wd} {Z : g_Wd} (t9 : Int32) (v : Int32) (q : Int32) (ht9 : ¬ t9 = 0) (hbad : s_may (F 6) (g_b (s_isPl F X v q)) 1 = t9) (hWc : ¬ F 6 = 0 → s_ok X) : g_Md G l yX2_believedThen cX2_believedThen 4 (some .int) 3 0 0 [.ref (ad 0), .int v, .int q] (g_Mod G ad F X Y U V Z) (g_Qv (some (.int 0)) (g_Mod G ad (upd F 0 t9) X Y U V Z)) (md_A ad) := by
  refine g_Md.ofI (by decide) (fun _ _ _ => rfl) ?_
  intro p e s m args below meth c ls Q hX hM hl hS hret
  have hx := hX.1.1
  have hb := hX.1.2.1
  have hl : lv_has ls 4 [(0, .ref (ad 0)), (1, .int v), (2, .int q)] := hl
  have key : ∀ (H : Heap) (locs : List Loc), g_Mod G ad F X Y U V Z H → va_S (md_A ad) s.heap H locs → W p l e (g_rm 3 0 0) s m args below meth c H locs 0 0 Q (F0 m 0 ls []) := by
    intro H locs hM hS
    refine lv_aload_n hx hb dX2_believedThen_0 rfl (lv_at hl 0 rfl) ?_
    refine lv_aload_n hx hb dX2_believedThen_1 rfl (lv_at hl 0 rfl) ?_
    refine g_getM hX hM 6 (by decide) q2169 rfl (v := .int (F 6)) rfl dX2_believedThen_2 ?_
    refine lv_aload_n hx hb dX2_believedThen_5 rfl (lv_at hl 0 rfl) ?_
    refine lv_iload_n hx hb dX2_believedThen_6 rfl (lv_at hl 1 rfl) ?_
    refine lv_iload_n hx hb dX2_believedThen_7 rfl (lv_at hl 2 rfl) ?_
    refine g_cRV hX hl y_X2_isPlace v_X2_isPlace q2584 (k_X2_isPlace v q hWc) (hM.rc hX.2.2.2) hM rfl ⟨Nat.le_of_ble_eq_true rfl, Nat.le_of_ble_eq_true rfl⟩ ⟨Nat.zero_le _, Nat.zero_le _⟩ (rest := [.int (F 6), .ref (ad 0)]) (st1 := [.int (g_b (s_isPl F X v q)), .int (F 6), .ref (ad 0)]) rfl rfl (Nat.le_of_ble_eq_true rfl) dX2_believedThen_8 ?_
    refine g_cMV hX hl y_X2_mayTwo v_X2_mayTwo q2501 (k_X2_mayTwo (F 6) (g_b (s_isPl F X v q))) (hM.rc hX.2.2.2) hM rfl ⟨Nat.le_of_ble_eq_true rfl, Nat.le_of_ble_eq_true rfl⟩ ⟨Nat.le_refl _, Nat.le_refl _⟩ (rest := []) (st1 := [.int (g_b (decide (s_may (F 6) (g_b (s_isPl F X v q)) 1 = 0)))]) rfl rfl (Nat.le_of_ble_eq_true rfl) dX2_believedThen_11 hS (fun _ h => h) (fun H locs hM hS _ => ?_)
    have hmy : s_may (F 6) (g_b (s_isPl F X v q)) 1 = t9 := by first | exact hbad | (rw [← hbad]; simp [g_b, g_b]; done) | (rw [← hbad]; simp only [g_b, g_b]; rfl)
    rw [hmy] at hM ⊢
    refine g_if_neB (tgt := 19) hx hb (b := decide (t9 = 0)) rfl dX2_believedThen_14 (by decide) (fun c_14 => ?_) (fun c_14 => ?_)
    · exact Bool.noConfusion ((decide_eq_false ht9).symm.trans c_14)
    skip
    refine lv_iconst (v := 0) hx hb dX2_believedThen_17 rfl ?_
    exact hret H locs _ _ _ _ _ dX2_believedThen_18 hS (Nat.le_refl _) (Nat.le_refl _) (⟨rfl, hM⟩)
  exact key _ _ hM hS

theorem y_X2_rightWith : g_Y yX2_rightWith cX2_rightWith 5 (some .int) 4 := ⟨q2740, by decide +kernel⟩
theorem v_X2_rightWith : g_YV yX2_rightWith := ⟨q2739, qs122, q140⟩
set_option maxHeartbeats 4000000 in
theorem k_X2_rightWith {G : g_G} {l : Launch} {ad : Nat → Nat} {F : Nat → Int32} {X Y : g_Wd} {U V : Nat → g_Wd} {Z : g_Wd} (m0 : Nat) (w : Nat) (a : Int32) (b : Int32) (hm : m0 < s_M X) (hwk : s_wk X) (hw : w < 45) : g_Md G l yX2_rightWith cX2_rightWith 5 (some .int) 10 0 0 [.ref (ad 0), .int (nI m0), .int (nI w), .int a, .int b] (g_Mod G ad F X Y U V Z) (g_Qv (some (.int (nI (s_rW X m0 w a b)))) (g_Mod G ad F X X U V Z)) (md_A ad) := by
  refine g_Md.ofI (by decide) (fun _ _ _ => rfl) ?_
  intro p e s m args below meth c ls Q hX hM hl hS hret
  have hx := hX.1.1
  have hb := hX.1.2.1
  have hl : lv_has ls 5 [(0, .ref (ad 0)), (1, .int (nI m0)), (2, .int (nI w)), (3, .int a), (4, .int b)] := hl
  have key : ∀ (H : Heap) (locs : List Loc), g_Mod G ad F X Y U V Z H → va_S (md_A ad) s.heap H locs → W p l e (g_rm 10 0 0) s m args below meth c H locs 0 0 Q (F0 m 0 ls []) := by
    intro H locs hM hS
    have hM6 := hwk.1.1.2.1.2
    have hm0 : m0 < 6 := by omega
    have hs := hwk.storms (w := w) (u := a) (v := b)
    refine lv_aload_n hx hb dX2_rightWith_0 rfl (lv_at hl 0 rfl) ?_
    refine g_cMV hX hl y_X2_thinks v_X2_thinks q2265 k_X2_thinks (hM.rc hX.2.2.2) hM rfl ⟨Nat.le_of_ble_eq_true rfl, Nat.le_of_ble_eq_true rfl⟩ ⟨Nat.le_refl _, Nat.le_refl _⟩ (rest := []) (st1 := []) rfl rfl (Nat.le_of_ble_eq_true rfl) dX2_rightWith_1 hS (fun _ h => h) (fun H locs hM hS _ => ?_)
    refine lv_aload_n hx hb dX2_rightWith_4 rfl (lv_at hl 0 rfl) ?_
    refine lv_iload_n hx hb dX2_rightWith_5 rfl (lv_at hl 2 rfl) ?_
    refine lv_iload_n hx hb dX2_rightWith_6 rfl (lv_at hl 3 rfl) ?_
    refine lv_iload hx hb dX2_rightWith_7 (lv_at hl 4 rfl) ?_
    refine g_cMV hX hl y_X2_storms v_X2_storms q2327 (k_X2_storms w a b (by omega)) (hM.rc hX.2.2.2) hM rfl ⟨Nat.le_of_ble_eq_true rfl, Nat.le_of_ble_eq_true rfl⟩ ⟨Nat.le_refl _, Nat.le_refl _⟩ (rest := []) (st1 := []) rfl rfl (Nat.le_of_ble_eq_true rfl) dX2_rightWith_9 hS (fun _ h => h) (fun H locs hM hS _ => ?_)
    refine lv_aload_n hx hb dX2_rightWith_12 rfl (lv_at hl 0 rfl) ?_
    refine lv_iload_n hx hb dX2_rightWith_13 rfl (lv_at hl 1 rfl) ?_
    refine g_cMV hX hl y_X2_rightAtEnd v_X2_rightAtEnd q2717 (k_X2_rightAtEnd m0 (by rw [hs.2]; exact hm) hs.1.1 (s_wk.arv hs.1 (by rw [hs.2]; exact hm))) (hM.rc hX.2.2.2) hM rfl ⟨Nat.le_of_ble_eq_true rfl, Nat.le_of_ble_eq_true rfl⟩ ⟨Nat.le_refl _, Nat.le_refl _⟩ (rest := []) (st1 := [.int (nI (s_rigP (s_endM (x_storms X w a b) m0)))]) rfl rfl (Nat.le_of_ble_eq_true rfl) dX2_rightWith_14 hS (fun _ h => h) (fun H locs hM hS _ => ?_)
    exact hret H locs _ _ _ _ _ dX2_rightWith_17 hS (Nat.le_refl _) (Nat.le_refl _) (⟨rfl, hM⟩)
  exact key _ _ hM hS

theorem y_X2_rightCut : g_Y yX2_rightCut cX2_rightCut 3 (some .int) 2 := ⟨q2772, by decide +kernel⟩
theorem v_X2_rightCut : g_YV yX2_rightCut := ⟨q2771, qs125, q140⟩
set_option maxHeartbeats 4000000 in
theorem k_X2_rightCut {G : g_G} {l : Launch} {ad : Nat → Nat} {F : Nat → Int32} {X Y : g_Wd} {U V : Nat → g_Wd} {Z : g_Wd} (m0 : Nat) (w : Nat) (hm : m0 < s_M X) (hwk : s_wk X) (hw : w < 45) : g_Md G l yX2_rightCut cX2_rightCut 3 (some .int) 10 0 0 [.ref (ad 0), .int (nI m0), .int (nI w)] (g_Mod G ad F X Y U V Z) (g_Qv (some (.int (s_rC X m0 w))) (g_Mod G ad F X X U V Z)) (md_A ad) := by
  refine g_Md.ofI (by decide) (fun _ _ _ => rfl) ?_
  intro p e s m args below meth c ls Q hX hM hl hS hret
  have hx := hX.1.1
  have hb := hX.1.2.1
  have hl : lv_has ls 3 [(0, .ref (ad 0)), (1, .int (nI m0)), (2, .int (nI w))] := hl
  have key : ∀ (H : Heap) (locs : List Loc), g_Mod G ad F X Y U V Z H → va_S (md_A ad) s.heap H locs → W p l e (g_rm 10 0 0) s m args below meth c H locs 0 0 Q (F0 m 0 ls []) := by
    intro H locs hM hS
    have hM6 := hwk.1.1.2.1.2
    have hm0 : m0 < 6 := by omega
    have hs := hwk.r1 (k := 5 * w + 2) (v := 1)
    refine lv_aload_n hx hb dX2_rightCut_0 rfl (lv_at hl 0 rfl) ?_
    refine g_cMV hX hl y_X2_thinks v_X2_thinks q2265 k_X2_thinks (hM.rc hX.2.2.2) hM rfl ⟨Nat.le_of_ble_eq_true rfl, Nat.le_of_ble_eq_true rfl⟩ ⟨Nat.le_refl _, Nat.le_refl _⟩ (rest := []) (st1 := []) rfl rfl (Nat.le_of_ble_eq_true rfl) dX2_rightCut_1 hS (fun _ h => h) (fun H locs hM hS _ => ?_)
    refine lv_aload_n hx hb dX2_rightCut_4 rfl (lv_at hl 0 rfl) ?_
    refine lv_iload_n hx hb dX2_rightCut_5 rfl (lv_at hl 2 rfl) ?_
    refine lv_iconst (v := 2) hx hb dX2_rightCut_6 rfl ?_
    refine lv_iconst (v := 1) hx hb dX2_rightCut_7 rfl ?_
    refine g_cMV hX hl y_X2_putsWire v_X2_putsWire q2331 (k_X2_putsWire w 2 1 (by omega) (by omega)) (hM.rc hX.2.2.2) hM rfl ⟨Nat.le_of_ble_eq_true rfl, Nat.le_of_ble_eq_true rfl⟩ ⟨Nat.le_refl _, Nat.le_refl _⟩ (rest := []) (st1 := []) rfl rfl (Nat.le_of_ble_eq_true rfl) dX2_rightCut_8 hS (fun _ h => h) (fun H locs hM hS _ => ?_)
    refine lv_aload_n hx hb dX2_rightCut_11 rfl (lv_at hl 0 rfl) ?_
    refine lv_iload_n hx hb dX2_rightCut_12 rfl (lv_at hl 1 rfl) ?_
    refine g_cMV hX hl y_X2_rightAtEnd v_X2_rightAtEnd q2717 (k_X2_rightAtEnd m0 (by rw [hs.2]; exact hm) hs.1.1 (s_wk.arv hs.1 (by rw [hs.2]; exact hm))) (hM.rc hX.2.2.2) hM rfl ⟨Nat.le_of_ble_eq_true rfl, Nat.le_of_ble_eq_true rfl⟩ ⟨Nat.le_refl _, Nat.le_refl _⟩ (rest := []) (st1 := [.int (nI (s_rigP (s_endM (g_up2 X 1 (5 * w + 2) 1) m0)))]) rfl rfl (Nat.le_of_ble_eq_true rfl) dX2_rightCut_13 hS (fun _ h => h) (fun H locs hM hS _ => ?_)
    exact hret H locs _ _ _ _ _ dX2_rightCut_16 hS (Nat.le_refl _) (Nat.le_refl _) (⟨rfl, hM⟩)
  exact key _ _ hM hS

theorem y_X2_rightIf : g_Y yX2_rightIf cX2_rightIf 5 (some .int) 4 := ⟨q2728, by decide +kernel⟩
theorem v_X2_rightIf : g_YV yX2_rightIf := ⟨q2726, q2727, q140⟩
set_option maxHeartbeats 4000000 in
theorem ok_X2_rightIf {G : g_G} {l : Launch} {ad : Nat → Nat} {F : Nat → Int32} {X Y : g_Wd} {U V : Nat → g_Wd} {Z : g_Wd} (j : Nat) (w : Nat) (a : Nat) (b : Nat) (hF : ¬ F 6 = 0) (hwl : s_wl X) (hwk : s_wk X) (hj : j < s_M X) (hw : w < s_W X) (ha9 : a ≤ 9) (hb9 : b ≤ 9) : g_Md G l yX2_rightIf cX2_rightIf 5 (some .int) 11 0 0 [.ref (ad 0), .int (nI j), .int (nI w), .int (nI a), .int (nI b)] (g_Mod G ad F X Y U V Z) (g_Qv (some (.int (nI (s_rW X j w (nI a) (nI b))))) (g_Mod G ad (upd F 0 0) X X U V Z)) (md_A ad) := by
  refine g_Md.ofI (by decide) (fun _ _ _ => rfl) ?_
  intro p e s m args below meth c ls Q hX hM hl hS hret
  have hx := hX.1.1
  have hb := hX.1.2.1
  have hl : lv_has ls 5 [(0, .ref (ad 0)), (1, .int (nI j)), (2, .int (nI w)), (3, .int (nI a)), (4, .int (nI b))] := hl
  have key : ∀ (H : Heap) (locs : List Loc), g_Mod G ad F X Y U V Z H → va_S (md_A ad) s.heap H locs → W p l e (g_rm 11 0 0) s m args below meth c H locs 0 0 Q (F0 m 0 ls []) := by
    intro H locs hM hS
    have hW := hwl.1
    have hWc : ¬ F 6 = 0 → s_ok X := fun _ => hW
    have hW9 := hW
    obtain ⟨⟨hL0, hL2, hL6⟩, ⟨hM0, hM6⟩, ⟨hG0, hG40⟩, hok⟩ := hW9
    have hw9 : s_W X ≤ 45 := by unfold s_W; omega
    have hmsg := s_isMsg_ok hF hW hj
    have ho := hok j hj
    have hL := ho.2
    have hj6 : j < 6 := by omega
    have hwn := s_isWN_ok hF hW hw
    have hbo : (s_isMsg F X (nI j) && s_isWN F X (nI w)) = true := by rw [hmsg, hwn]; rfl
    have hta : s_in (nI a) 0 9 = true := s_in_le (show a ≤ 9 by omega) (by decide)
    have htb : s_in (nI b) 0 9 = true := s_in_le (show b ≤ 9 by omega) (by decide)
    refine lv_aload_n hx hb dX2_rightIf_0 rfl (lv_at hl 0 rfl) ?_
    refine lv_aload_n hx hb dX2_rightIf_1 rfl (lv_at hl 0 rfl) ?_
    refine g_getM hX hM 6 (by decide) q2169 rfl (v := .int (F 6)) rfl dX2_rightIf_2 ?_
    refine lv_aload_n hx hb dX2_rightIf_5 rfl (lv_at hl 0 rfl) ?_
    refine lv_iload_n hx hb dX2_rightIf_6 rfl (lv_at hl 1 rfl) ?_
    refine lv_iload_n hx hb dX2_rightIf_7 rfl (lv_at hl 2 rfl) ?_
    refine g_cRV hX hl y_X2_areBoth v_X2_areBoth q2729 (k_X2_areBoth (nI j) (nI w) hWc) (hM.rc hX.2.2.2) hM rfl ⟨Nat.le_of_ble_eq_true rfl, Nat.le_of_ble_eq_true rfl⟩ ⟨Nat.zero_le _, Nat.zero_le _⟩ (rest := [.int (F 6), .ref (ad 0)]) (st1 := [.int (g_b (s_isMsg F X (nI j) && s_isWN F X (nI w))), .int (F 6), .ref (ad 0)]) rfl rfl (Nat.le_of_ble_eq_true rfl) dX2_rightIf_8 ?_
    refine lv_iload_n hx hb dX2_rightIf_11 rfl (lv_at hl 3 rfl) ?_
    refine g_cRS hX hl y_X2_isTen v_X2_isTen q2529 (k_X2_isTen (nI a)) trivial rfl ⟨Nat.le_of_ble_eq_true rfl, Nat.le_of_ble_eq_true rfl⟩ ⟨Nat.zero_le _, Nat.zero_le _⟩ (rest := [.int (g_b (s_isMsg F X (nI j) && s_isWN F X (nI w))), .int (F 6), .ref (ad 0)]) (st1 := [.int (g_b (s_in (nI a) 0 9)), .int (g_b (s_isMsg F X (nI j) && s_isWN F X (nI w))), .int (F 6), .ref (ad 0)]) rfl rfl (Nat.le_of_ble_eq_true rfl) dX2_rightIf_12 ?_
    refine g_if_eqB (tgt := 30) hx hb (b := s_in (nI a) 0 9) rfl dX2_rightIf_15 (by decide) (fun c_15 => ?_) (fun c_15 => ?_)
    · exact Bool.noConfusion (hta.symm.trans c_15)
    skip
    refine lv_iload hx hb dX2_rightIf_18 (lv_at hl 4 rfl) ?_
    refine g_cRS hX hl y_X2_isTen v_X2_isTen q2529 (k_X2_isTen (nI b)) trivial rfl ⟨Nat.le_of_ble_eq_true rfl, Nat.le_of_ble_eq_true rfl⟩ ⟨Nat.zero_le _, Nat.zero_le _⟩ (rest := [.int (g_b (s_isMsg F X (nI j) && s_isWN F X (nI w))), .int (F 6), .ref (ad 0)]) (st1 := [.int (g_b (s_in (nI b) 0 9)), .int (g_b (s_isMsg F X (nI j) && s_isWN F X (nI w))), .int (F 6), .ref (ad 0)]) rfl rfl (Nat.le_of_ble_eq_true rfl) dX2_rightIf_20 ?_
    refine g_if_eqB (tgt := 30) hx hb (b := s_in (nI b) 0 9) rfl dX2_rightIf_23 (by decide) (fun c_23 => ?_) (fun c_23 => ?_)
    · exact Bool.noConfusion (htb.symm.trans c_23)
    skip
    refine lv_iconst (v := 1) hx hb dX2_rightIf_26 rfl ?_
    refine lv_goto (tgt := 31) hx hb dX2_rightIf_27 (by decide) ?_
    refine g_cMV hX hl y_X2_may v_X2_may q2261 (k_X2_may (F 6) (g_b (s_isMsg F X (nI j) && s_isWN F X (nI w))) 1) (hM.rc hX.2.2.2) hM rfl ⟨Nat.le_of_ble_eq_true rfl, Nat.le_of_ble_eq_true rfl⟩ ⟨Nat.le_refl _, Nat.le_refl _⟩ (rest := []) (st1 := [.int (g_b (decide (s_may (F 6) (g_b (s_isMsg F X (nI j) && s_isWN F X (nI w))) 1 = 0)))]) rfl rfl (Nat.le_of_ble_eq_true rfl) dX2_rightIf_31 hS (fun _ h => h) (fun H locs hM hS _ => ?_)
    have hmy : s_may (F 6) (g_b (s_isMsg F X (nI j) && s_isWN F X (nI w))) 1 = 0 := s_may_ok hF (g_b_ne hbo) (by decide)
    rw [hmy] at hM ⊢
    refine g_if_eqB (tgt := 49) hx hb (b := decide ((0 : Int32) = 0)) rfl dX2_rightIf_34 (by decide) (fun c_34 => ?_) (fun c_34 => ?_)
    · exact Bool.noConfusion ((rfl : decide ((0 : Int32) = 0) = true).symm.trans c_34)
    skip
    refine lv_aload_n hx hb dX2_rightIf_37 rfl (lv_at hl 0 rfl) ?_
    refine lv_iload_n hx hb dX2_rightIf_38 rfl (lv_at hl 1 rfl) ?_
    refine lv_iload_n hx hb dX2_rightIf_39 rfl (lv_at hl 2 rfl) ?_
    refine lv_iload_n hx hb dX2_rightIf_40 rfl (lv_at hl 3 rfl) ?_
    refine lv_iload hx hb dX2_rightIf_41 (lv_at hl 4 rfl) ?_
    refine g_cMV hX hl y_X2_rightWith v_X2_rightWith q2737 (k_X2_rightWith j w (nI a) (nI b) hj hwk (by omega)) (hM.rc hX.2.2.2) hM rfl ⟨Nat.le_of_ble_eq_true rfl, Nat.le_of_ble_eq_true rfl⟩ ⟨Nat.le_refl _, Nat.le_refl _⟩ (rest := []) (st1 := [.int (nI (s_rW X j w (nI a) (nI b)))]) rfl rfl (Nat.le_of_ble_eq_true rfl) dX2_rightIf_43 hS (fun _ h => h) (fun H locs hM hS _ => ?_)
    refine lv_goto (tgt := 50) hx hb dX2_rightIf_46 (by decide) ?_
    exact hret H locs _ _ _ _ _ dX2_rightIf_50 hS (Nat.le_refl _) (Nat.le_refl _) (⟨rfl, hM⟩)
  exact key _ _ hM hS

set_option maxHeartbeats 4000000 in
theorem no_X2_rightIf {G : g_G} {l : Launch} {ad : Nat → Nat} {F : Nat → Int32} {X Y : g_Wd} {U V : Nat → g_Wd} {Z : g_Wd} (t9 : Int32) (v : Int32) (w : Int32) (a : Int32) (b : Int32) (ht9 : ¬ t9 = 0) (hbad : s_may (F 6) (g_b (s_isMsg F X v && s_isWN F X w)) (g_b (s_in a 0 9 && s_in b 0 9)) = t9) (hWc : ¬ F 6 = 0 → s_ok X) : g_Md G l yX2_rightIf cX2_rightIf 5 (some .int) 3 0 0 [.ref (ad 0), .int v, .int w, .int a, .int b] (g_Mod G ad F X Y U V Z) (g_Qv (some (.int 0)) (g_Mod G ad (upd F 0 t9) X Y U V Z)) (md_A ad) := by
  refine g_Md.ofI (by decide) (fun _ _ _ => rfl) ?_
  intro p e s m args below meth c ls Q hX hM hl hS hret
  have hx := hX.1.1
  have hb := hX.1.2.1
  have hl : lv_has ls 5 [(0, .ref (ad 0)), (1, .int v), (2, .int w), (3, .int a), (4, .int b)] := hl
  have key : ∀ (H : Heap) (locs : List Loc), g_Mod G ad F X Y U V Z H → va_S (md_A ad) s.heap H locs → W p l e (g_rm 3 0 0) s m args below meth c H locs 0 0 Q (F0 m 0 ls []) := by
    intro H locs hM hS
    refine lv_aload_n hx hb dX2_rightIf_0 rfl (lv_at hl 0 rfl) ?_
    refine lv_aload_n hx hb dX2_rightIf_1 rfl (lv_at hl 0 rfl) ?_
    refine g_getM hX hM 6 (by decide) q2169 rfl (v := .int (F 6)) rfl dX2_rightIf_2 ?_
    refine lv_aload_n hx hb dX2_rightIf_5 rfl (lv_at hl 0 rfl) ?_
    refine lv_iload_n hx hb dX2_rightIf_6 rfl (lv_at hl 1 rfl) ?_
    refine lv_iload_n hx hb dX2_rightIf_7 rfl (lv_at hl 2 rfl) ?_
    refine g_cRV hX hl y_X2_areBoth v_X2_areBoth q2729 (k_X2_areBoth v w hWc) (hM.rc hX.2.2.2) hM rfl ⟨Nat.le_of_ble_eq_true rfl, Nat.le_of_ble_eq_true rfl⟩ ⟨Nat.zero_le _, Nat.zero_le _⟩ (rest := [.int (F 6), .ref (ad 0)]) (st1 := [.int (g_b (s_isMsg F X v && s_isWN F X w)), .int (F 6), .ref (ad 0)]) rfl rfl (Nat.le_of_ble_eq_true rfl) dX2_rightIf_8 ?_
    refine lv_iload_n hx hb dX2_rightIf_11 rfl (lv_at hl 3 rfl) ?_
    refine g_cRS hX hl y_X2_isTen v_X2_isTen q2529 (k_X2_isTen a) trivial rfl ⟨Nat.le_of_ble_eq_true rfl, Nat.le_of_ble_eq_true rfl⟩ ⟨Nat.zero_le _, Nat.zero_le _⟩ (rest := [.int (g_b (s_isMsg F X v && s_isWN F X w)), .int (F 6), .ref (ad 0)]) (st1 := [.int (g_b (s_in a 0 9)), .int (g_b (s_isMsg F X v && s_isWN F X w)), .int (F 6), .ref (ad 0)]) rfl rfl (Nat.le_of_ble_eq_true rfl) dX2_rightIf_12 ?_
    refine g_if_eqB (tgt := 30) hx hb (b := s_in a 0 9) rfl dX2_rightIf_15 (by decide) (fun c_15 => ?_) (fun c_15 => ?_)
    · skip
      refine lv_iconst (v := 0) hx hb dX2_rightIf_30 rfl ?_
      refine g_cMV hX hl y_X2_may v_X2_may q2261 (k_X2_may (F 6) (g_b (s_isMsg F X v && s_isWN F X w)) 0) (hM.rc hX.2.2.2) hM rfl ⟨Nat.le_of_ble_eq_true rfl, Nat.le_of_ble_eq_true rfl⟩ ⟨Nat.le_refl _, Nat.le_refl _⟩ (rest := []) (st1 := [.int (g_b (decide (s_may (F 6) (g_b (s_isMsg F X v && s_isWN F X w)) 0 = 0)))]) rfl rfl (Nat.le_of_ble_eq_true rfl) dX2_rightIf_31 hS (fun _ h => h) (fun H locs hM hS _ => ?_)
      have hmy : s_may (F 6) (g_b (s_isMsg F X v && s_isWN F X w)) 0 = t9 := by first | exact hbad | (rw [← hbad]; simp [g_b, c_15]; done) | (rw [← hbad]; simp only [g_b, c_15]; rfl)
      rw [hmy] at hM ⊢
      refine g_if_eqB (tgt := 49) hx hb (b := decide (t9 = 0)) rfl dX2_rightIf_34 (by decide) (fun c_34 => ?_) (fun c_34 => ?_)
      rotate_left
      · exact Bool.noConfusion ((decide_eq_false ht9).symm.trans c_34)
      refine lv_iconst (v := 0) hx hb dX2_rightIf_49 rfl ?_
      exact hret H locs _ _ _ _ _ dX2_rightIf_50 hS (Nat.le_refl _) (Nat.le_refl _) (⟨rfl, hM⟩)
    · skip
      refine lv_iload hx hb dX2_rightIf_18 (lv_at hl 4 rfl) ?_
      refine g_cRS hX hl y_X2_isTen v_X2_isTen q2529 (k_X2_isTen b) trivial rfl ⟨Nat.le_of_ble_eq_true rfl, Nat.le_of_ble_eq_true rfl⟩ ⟨Nat.zero_le _, Nat.zero_le _⟩ (rest := [.int (g_b (s_isMsg F X v && s_isWN F X w)), .int (F 6), .ref (ad 0)]) (st1 := [.int (g_b (s_in b 0 9)), .int (g_b (s_isMsg F X v && s_isWN F X w)), .int (F 6), .ref (ad 0)]) rfl rfl (Nat.le_of_ble_eq_true rfl) dX2_rightIf_20 ?_
      refine g_if_eqB (tgt := 30) hx hb (b := s_in b 0 9) rfl dX2_rightIf_23 (by decide) (fun c_23 => ?_) (fun c_23 => ?_)
      · skip
        refine lv_iconst (v := 0) hx hb dX2_rightIf_30 rfl ?_
        refine g_cMV hX hl y_X2_may v_X2_may q2261 (k_X2_may (F 6) (g_b (s_isMsg F X v && s_isWN F X w)) 0) (hM.rc hX.2.2.2) hM rfl ⟨Nat.le_of_ble_eq_true rfl, Nat.le_of_ble_eq_true rfl⟩ ⟨Nat.le_refl _, Nat.le_refl _⟩ (rest := []) (st1 := [.int (g_b (decide (s_may (F 6) (g_b (s_isMsg F X v && s_isWN F X w)) 0 = 0)))]) rfl rfl (Nat.le_of_ble_eq_true rfl) dX2_rightIf_31 hS (fun _ h => h) (fun H locs hM hS _ => ?_)
        have hmy : s_may (F 6) (g_b (s_isMsg F X v && s_isWN F X w)) 0 = t9 := by first | exact hbad | (rw [← hbad]; simp [g_b, c_15, c_23]; done) | (rw [← hbad]; simp only [g_b, c_15, c_23]; rfl)
        rw [hmy] at hM ⊢
        refine g_if_eqB (tgt := 49) hx hb (b := decide (t9 = 0)) rfl dX2_rightIf_34 (by decide) (fun c_34 => ?_) (fun c_34 => ?_)
        rotate_left
        · exact Bool.noConfusion ((decide_eq_false ht9).symm.trans c_34)
        refine lv_iconst (v := 0) hx hb dX2_rightIf_49 rfl ?_
        exact hret H locs _ _ _ _ _ dX2_rightIf_50 hS (Nat.le_refl _) (Nat.le_refl _) (⟨rfl, hM⟩)
      · skip
        refine lv_iconst (v := 1) hx hb dX2_rightIf_26 rfl ?_
        refine lv_goto (tgt := 31) hx hb dX2_rightIf_27 (by decide) ?_
        refine g_cMV hX hl y_X2_may v_X2_may q2261 (k_X2_may (F 6) (g_b (s_isMsg F X v && s_isWN F X w)) 1) (hM.rc hX.2.2.2) hM rfl ⟨Nat.le_of_ble_eq_true rfl, Nat.le_of_ble_eq_true rfl⟩ ⟨Nat.le_refl _, Nat.le_refl _⟩ (rest := []) (st1 := [.int (g_b (decide (s_may (F 6) (g_b (s_isMsg F X v && s_isWN F X w)) 1 = 0)))]) rfl rfl (Nat.le_of_ble_eq_true rfl) dX2_rightIf_31 hS (fun _ h => h) (fun H locs hM hS _ => ?_)
        have hmy : s_may (F 6) (g_b (s_isMsg F X v && s_isWN F X w)) 1 = t9 := by first | exact hbad | (rw [← hbad]; simp [g_b, c_15, c_23]; done) | (rw [← hbad]; simp only [g_b, c_15, c_23]; rfl)
        rw [hmy] at hM ⊢
        refine g_if_eqB (tgt := 49) hx hb (b := decide (t9 = 0)) rfl dX2_rightIf_34 (by decide) (fun c_34 => ?_) (fun c_34 => ?_)
        rotate_left
        · exact Bool.noConfusion ((decide_eq_false ht9).symm.trans c_34)
        refine lv_iconst (v := 0) hx hb dX2_rightIf_49 rfl ?_
        exact hret H locs _ _ _ _ _ dX2_rightIf_50 hS (Nat.le_refl _) (Nat.le_refl _) (⟨rfl, hM⟩)
  exact key _ _ hM hS

theorem y_X2_laysEnd16 : g_Y yX2_laysEnd cX2_laysEnd 5 none 2 := ⟨q2752, by decide +kernel⟩
theorem v_X2_laysEnd16 : g_YV yX2_laysEnd := ⟨q2751, qs124, q140⟩
set_option maxHeartbeats 4000000 in
theorem k_X2_laysEnd16 {G : g_G} {l : Launch} {ad : Nat → Nat} {F : Nat → Int32} {X Y : g_Wd} {U V : Nat → g_Wd} {Z : g_Wd} (m0 : Nat) (hm : m0 < s_M X) (hwl : s_wl X) (hT : s_arv X m0) : g_Md G l yX2_laysEnd cX2_laysEnd 5 none 9 0 0 [.ref (ad 0), .int (nI m0), .ref (ad 16)] (g_Mod G ad F X Y U V Z) (g_Qv none (g_Mod G ad F Y Y U V (z_lay Z 16 (fun p => s_bel (s_endM X m0) p) (s_len (s_endM X m0))))) (md_A ad) := by
  refine g_Md.ofV (by decide) ?_
  intro p e s m args below meth c ls Q hX hM hl hS hret
  have hx := hX.1.1
  have hb := hX.1.2.1
  have hl : lv_has ls 5 [(0, .ref (ad 0)), (1, .int (nI m0)), (2, .ref (ad 16))] := hl
  have key : ∀ (H : Heap) (locs : List Loc), g_Mod G ad F X Y U V Z H → va_S (md_A ad) s.heap H locs → W p l e (g_rm 9 0 0) s m args below meth c H locs 0 0 Q (F0 m 0 ls []) := by
    intro H locs hM hS
    have hM6 := hwl.1.2.1.2
    have hm0 : m0 < 6 := by omega
    have hoe : s_okL (s_endM X m0) := (by have := (x_pH_M hwl (n := s_T X m0)).1.1.2.2.2 m0 (by rw [(x_pH_M hwl (n := s_T X m0)).2.1]; exact hm); exact this)
    have hle := hoe.2
    refine lv_aload_n hx hb dX2_laysEnd_0 rfl (lv_at hl 0 rfl) ?_
    refine lv_iload_n hx hb dX2_laysEnd_1 rfl (lv_at hl 1 rfl) ?_
    refine g_cMV hX hl y_X2_arrives v_X2_arrives q2709 (k_X2_arrives m0 (by omega) hwl hT) (hM.rc hX.2.2.2) hM rfl ⟨Nat.le_of_ble_eq_true rfl, Nat.le_of_ble_eq_true rfl⟩ ⟨Nat.le_refl _, Nat.le_refl _⟩ (rest := []) (st1 := [.int (nI (s_T X m0))]) rfl rfl (Nat.le_of_ble_eq_true rfl) dX2_laysEnd_2 hS (fun _ h => h) (fun H locs hM hS _ => ?_)
    refine lv_istore_n (lv' := [(3, .int (nI (s_T X m0))), (0, .ref (ad 0)), (1, .int (nI m0)), (2, .ref (ad 16))]) hx hb dX2_laysEnd_5 rfl hl (by decide) rfl (fun ls hl => ?_)
    refine lv_iconst (v := 0) hx hb dX2_laysEnd_6 rfl ?_
    refine lv_istore (lv' := [(4, .int 0), (3, .int (nI (s_T X m0))), (0, .ref (ad 0)), (1, .int (nI m0)), (2, .ref (ad 16))]) hx hb dX2_laysEnd_7 hl (by decide) rfl (fun ls hl => ?_)
    have L9 : ∀ (nf : Nat) (H : Heap) (locs : List Loc) (j : Nat) (Z1 : g_Wd), (j ≤ s_len (s_endM X m0)) → (Z1 = z_lay Z 16 (fun p => s_bel (s_endM X m0) p) j) → (s_len (s_endM X m0) - j < nf) → (g_Mod G ad F (x_end X m0) Y U V Z1 H) → va_S (md_A ad) s.heap H locs → ∀ ls : Array Slot, lv_has ls 5 [(4, .int (nI j)), (0, .ref (ad 0)), (1, .int (nI m0)), (2, .ref (ad 16))] → W p l e (g_rm 9 0 0) s m args below meth c H locs 0 0 Q (F0 m 9 ls []) := by
      intro n9
      induction n9 with
      | zero => intro H locs j Z1 hj hZ hn; exact absurd hn (Nat.not_lt_zero _)
      | succ n9 ih9 =>
        intro H locs j Z1 hj hZ hn9 hM hS ls hl
        refine lv_iload hx hb dX2_laysEnd_9 (lv_at hl 0 rfl) ?_
        refine lv_aload_n hx hb dX2_laysEnd_11 rfl (lv_at hl 1 rfl) ?_
        refine lv_iload_n hx hb dX2_laysEnd_12 rfl (lv_at hl 2 rfl) ?_
        refine lv_iconst (v := 0) hx hb dX2_laysEnd_13 rfl ?_
        refine g_cRV hX hl y_X2_of v_X2_of q2365 (k_X2_of m0 0 (by omega) (by omega)) (hM.rc hX.2.2.2) hM rfl ⟨Nat.le_of_ble_eq_true rfl, Nat.le_of_ble_eq_true rfl⟩ ⟨Nat.zero_le _, Nat.zero_le _⟩ (rest := [.int (nI j)]) (st1 := [.int ((x_end X m0) (3 + m0) 0), .int (nI j)]) rfl rfl (Nat.le_of_ble_eq_true rfl) dX2_laysEnd_14 ?_
        refine g_icmp_geN (tgt := 37) hx hb j (s_len (s_endM X m0)) rfl hoe.1 (by omega) (by omega) dX2_laysEnd_17 (by decide) (fun c_17 => ?_) (fun c_17 => ?_)
        · skip
          refine lv_aload_n hx hb dX2_laysEnd_37 rfl (lv_at hl 1 rfl) ?_
          refine lv_iconst (v := 0) hx hb dX2_laysEnd_38 rfl ?_
          refine g_cMV hX hl y_X2_back v_X2_back q2493 (k_X2_back 0) (hM.rc hX.2.2.2) hM rfl ⟨Nat.le_of_ble_eq_true rfl, Nat.le_of_ble_eq_true rfl⟩ ⟨Nat.le_refl _, Nat.le_refl _⟩ (rest := []) (st1 := [.int 0]) rfl rfl (Nat.le_of_ble_eq_true rfl) dX2_laysEnd_39 hS (fun _ h => h) (fun H locs hM hS _ => ?_)
          refine lv_istore_n (lv' := [(3, .int 0), (4, .int (nI j)), (0, .ref (ad 0)), (1, .int (nI m0)), (2, .ref (ad 16))]) hx hb dX2_laysEnd_42 rfl hl (by decide) rfl (fun ls hl => ?_)
          exact hret H locs _ _ _ _ dX2_laysEnd_43 hS (Nat.le_refl _) (Nat.le_refl _) (⟨rfl, by rw [show s_len (s_endM X m0) = j by omega, ← hZ]; exact hM⟩)
        · skip
          refine lv_aload_n hx hb dX2_laysEnd_20 rfl (lv_at hl 3 rfl) ?_
          refine lv_iload hx hb dX2_laysEnd_21 (lv_at hl 0 rfl) ?_
          refine lv_aload_n hx hb dX2_laysEnd_23 rfl (lv_at hl 1 rfl) ?_
          refine lv_iload_n hx hb dX2_laysEnd_24 rfl (lv_at hl 2 rfl) ?_
          refine lv_iload hx hb dX2_laysEnd_25 (lv_at hl 0 rfl) ?_
          refine g_cRV hX hl y_X2_believedAt v_X2_believedAt q2628 (k_X2_believedAt m0 j (by omega) (by omega)) (hM.rc hX.2.2.2) hM rfl ⟨Nat.le_of_ble_eq_true rfl, Nat.le_of_ble_eq_true rfl⟩ ⟨Nat.zero_le _, Nat.zero_le _⟩ (rest := [.int (nI j), .ref (ad 16)]) (st1 := [.int (s_bel ((x_end X m0) (3 + m0)) j), .int (nI j), .ref (ad 16)]) rfl rfl (Nat.le_of_ble_eq_true rfl) dX2_laysEnd_27 ?_
          refine g_stZ16 hX hM hS j rfl (by omega) dX2_laysEnd_30 (fun H locs hM hS => ?_)
          refine lv_iinc (v := (nI (j + 1))) (lv' := [(4, .int (nI (j + 1))), (0, .ref (ad 0)), (1, .int (nI m0)), (2, .ref (ad 16))]) hx hb dX2_laysEnd_31 hl (k := 0) rfl (nI_1 _) (by decide) rfl (fun ls hl => ?_)
          refine lv_goto (tgt := 9) hx hb dX2_laysEnd_34 (by decide) ?_
          exact ih9 H locs (j + 1) (g_up2 Z1 16 j (s_bel ((x_end X m0) (3 + m0)) j)) (by omega) (z_lay_s (f := fun p => s_bel (s_endM X m0) p) hZ) (by omega) hM hS ls (lv_sub hl [0, 1, 2, 3] rfl)
    exact L9 (s_len (s_endM X m0) - 0 + 1) H locs 0 Z (by omega) (z_lay_0) (Nat.lt_succ_self _) hM hS ls (lv_sub hl [0, 2, 3, 4] rfl)
  exact key _ _ hM hS

theorem y_X2_laysEnd17 : g_Y yX2_laysEnd cX2_laysEnd 5 none 2 := ⟨q2752, by decide +kernel⟩
theorem v_X2_laysEnd17 : g_YV yX2_laysEnd := ⟨q2751, qs124, q140⟩
set_option maxHeartbeats 4000000 in
theorem k_X2_laysEnd17 {G : g_G} {l : Launch} {ad : Nat → Nat} {F : Nat → Int32} {X Y : g_Wd} {U V : Nat → g_Wd} {Z : g_Wd} (m0 : Nat) (hm : m0 < s_M X) (hwl : s_wl X) (hT : s_arv X m0) : g_Md G l yX2_laysEnd cX2_laysEnd 5 none 9 0 0 [.ref (ad 0), .int (nI m0), .ref (ad 17)] (g_Mod G ad F X Y U V Z) (g_Qv none (g_Mod G ad F Y Y U V (z_lay Z 17 (fun p => s_bel (s_endM X m0) p) (s_len (s_endM X m0))))) (md_A ad) := by
  refine g_Md.ofV (by decide) ?_
  intro p e s m args below meth c ls Q hX hM hl hS hret
  have hx := hX.1.1
  have hb := hX.1.2.1
  have hl : lv_has ls 5 [(0, .ref (ad 0)), (1, .int (nI m0)), (2, .ref (ad 17))] := hl
  have key : ∀ (H : Heap) (locs : List Loc), g_Mod G ad F X Y U V Z H → va_S (md_A ad) s.heap H locs → W p l e (g_rm 9 0 0) s m args below meth c H locs 0 0 Q (F0 m 0 ls []) := by
    intro H locs hM hS
    have hM6 := hwl.1.2.1.2
    have hm0 : m0 < 6 := by omega
    have hoe : s_okL (s_endM X m0) := (by have := (x_pH_M hwl (n := s_T X m0)).1.1.2.2.2 m0 (by rw [(x_pH_M hwl (n := s_T X m0)).2.1]; exact hm); exact this)
    have hle := hoe.2
    refine lv_aload_n hx hb dX2_laysEnd_0 rfl (lv_at hl 0 rfl) ?_
    refine lv_iload_n hx hb dX2_laysEnd_1 rfl (lv_at hl 1 rfl) ?_
    refine g_cMV hX hl y_X2_arrives v_X2_arrives q2709 (k_X2_arrives m0 (by omega) hwl hT) (hM.rc hX.2.2.2) hM rfl ⟨Nat.le_of_ble_eq_true rfl, Nat.le_of_ble_eq_true rfl⟩ ⟨Nat.le_refl _, Nat.le_refl _⟩ (rest := []) (st1 := [.int (nI (s_T X m0))]) rfl rfl (Nat.le_of_ble_eq_true rfl) dX2_laysEnd_2 hS (fun _ h => h) (fun H locs hM hS _ => ?_)
    refine lv_istore_n (lv' := [(3, .int (nI (s_T X m0))), (0, .ref (ad 0)), (1, .int (nI m0)), (2, .ref (ad 17))]) hx hb dX2_laysEnd_5 rfl hl (by decide) rfl (fun ls hl => ?_)
    refine lv_iconst (v := 0) hx hb dX2_laysEnd_6 rfl ?_
    refine lv_istore (lv' := [(4, .int 0), (3, .int (nI (s_T X m0))), (0, .ref (ad 0)), (1, .int (nI m0)), (2, .ref (ad 17))]) hx hb dX2_laysEnd_7 hl (by decide) rfl (fun ls hl => ?_)
    have L9 : ∀ (nf : Nat) (H : Heap) (locs : List Loc) (j : Nat) (Z1 : g_Wd), (j ≤ s_len (s_endM X m0)) → (Z1 = z_lay Z 17 (fun p => s_bel (s_endM X m0) p) j) → (s_len (s_endM X m0) - j < nf) → (g_Mod G ad F (x_end X m0) Y U V Z1 H) → va_S (md_A ad) s.heap H locs → ∀ ls : Array Slot, lv_has ls 5 [(4, .int (nI j)), (0, .ref (ad 0)), (1, .int (nI m0)), (2, .ref (ad 17))] → W p l e (g_rm 9 0 0) s m args below meth c H locs 0 0 Q (F0 m 9 ls []) := by
      intro n9
      induction n9 with
      | zero => intro H locs j Z1 hj hZ hn; exact absurd hn (Nat.not_lt_zero _)
      | succ n9 ih9 =>
        intro H locs j Z1 hj hZ hn9 hM hS ls hl
        refine lv_iload hx hb dX2_laysEnd_9 (lv_at hl 0 rfl) ?_
        refine lv_aload_n hx hb dX2_laysEnd_11 rfl (lv_at hl 1 rfl) ?_
        refine lv_iload_n hx hb dX2_laysEnd_12 rfl (lv_at hl 2 rfl) ?_
        refine lv_iconst (v := 0) hx hb dX2_laysEnd_13 rfl ?_
        refine g_cRV hX hl y_X2_of v_X2_of q2365 (k_X2_of m0 0 (by omega) (by omega)) (hM.rc hX.2.2.2) hM rfl ⟨Nat.le_of_ble_eq_true rfl, Nat.le_of_ble_eq_true rfl⟩ ⟨Nat.zero_le _, Nat.zero_le _⟩ (rest := [.int (nI j)]) (st1 := [.int ((x_end X m0) (3 + m0) 0), .int (nI j)]) rfl rfl (Nat.le_of_ble_eq_true rfl) dX2_laysEnd_14 ?_
        refine g_icmp_geN (tgt := 37) hx hb j (s_len (s_endM X m0)) rfl hoe.1 (by omega) (by omega) dX2_laysEnd_17 (by decide) (fun c_17 => ?_) (fun c_17 => ?_)
        · skip
          refine lv_aload_n hx hb dX2_laysEnd_37 rfl (lv_at hl 1 rfl) ?_
          refine lv_iconst (v := 0) hx hb dX2_laysEnd_38 rfl ?_
          refine g_cMV hX hl y_X2_back v_X2_back q2493 (k_X2_back 0) (hM.rc hX.2.2.2) hM rfl ⟨Nat.le_of_ble_eq_true rfl, Nat.le_of_ble_eq_true rfl⟩ ⟨Nat.le_refl _, Nat.le_refl _⟩ (rest := []) (st1 := [.int 0]) rfl rfl (Nat.le_of_ble_eq_true rfl) dX2_laysEnd_39 hS (fun _ h => h) (fun H locs hM hS _ => ?_)
          refine lv_istore_n (lv' := [(3, .int 0), (4, .int (nI j)), (0, .ref (ad 0)), (1, .int (nI m0)), (2, .ref (ad 17))]) hx hb dX2_laysEnd_42 rfl hl (by decide) rfl (fun ls hl => ?_)
          exact hret H locs _ _ _ _ dX2_laysEnd_43 hS (Nat.le_refl _) (Nat.le_refl _) (⟨rfl, by rw [show s_len (s_endM X m0) = j by omega, ← hZ]; exact hM⟩)
        · skip
          refine lv_aload_n hx hb dX2_laysEnd_20 rfl (lv_at hl 3 rfl) ?_
          refine lv_iload hx hb dX2_laysEnd_21 (lv_at hl 0 rfl) ?_
          refine lv_aload_n hx hb dX2_laysEnd_23 rfl (lv_at hl 1 rfl) ?_
          refine lv_iload_n hx hb dX2_laysEnd_24 rfl (lv_at hl 2 rfl) ?_
          refine lv_iload hx hb dX2_laysEnd_25 (lv_at hl 0 rfl) ?_
          refine g_cRV hX hl y_X2_believedAt v_X2_believedAt q2628 (k_X2_believedAt m0 j (by omega) (by omega)) (hM.rc hX.2.2.2) hM rfl ⟨Nat.le_of_ble_eq_true rfl, Nat.le_of_ble_eq_true rfl⟩ ⟨Nat.zero_le _, Nat.zero_le _⟩ (rest := [.int (nI j), .ref (ad 17)]) (st1 := [.int (s_bel ((x_end X m0) (3 + m0)) j), .int (nI j), .ref (ad 17)]) rfl rfl (Nat.le_of_ble_eq_true rfl) dX2_laysEnd_27 ?_
          refine g_stZ17 hX hM hS j rfl (by omega) dX2_laysEnd_30 (fun H locs hM hS => ?_)
          refine lv_iinc (v := (nI (j + 1))) (lv' := [(4, .int (nI (j + 1))), (0, .ref (ad 0)), (1, .int (nI m0)), (2, .ref (ad 17))]) hx hb dX2_laysEnd_31 hl (k := 0) rfl (nI_1 _) (by decide) rfl (fun ls hl => ?_)
          refine lv_goto (tgt := 9) hx hb dX2_laysEnd_34 (by decide) ?_
          exact ih9 H locs (j + 1) (g_up2 Z1 17 j (s_bel ((x_end X m0) (3 + m0)) j)) (by omega) (z_lay_s (f := fun p => s_bel (s_endM X m0) p) hZ) (by omega) hM hS ls (lv_sub hl [0, 1, 2, 3] rfl)
    exact L9 (s_len (s_endM X m0) - 0 + 1) H locs 0 Z (by omega) (z_lay_0) (Nat.lt_succ_self _) hM hS ls (lv_sub hl [0, 2, 3, 4] rfl)
  exact key _ _ hM hS

theorem y_X2_isNeedless : g_Y yX2_isNeedless cX2_isNeedless 4 (some .boolean) 2 := ⟨q2748, by decide +kernel⟩
theorem v_X2_isNeedless : g_YV yX2_isNeedless := ⟨q2747, qs123, q140⟩
set_option maxHeartbeats 4000000 in
theorem k_X2_isNeedless {G : g_G} {l : Launch} {ad : Nat → Nat} {F : Nat → Int32} {X Y : g_Wd} {U V : Nat → g_Wd} {Z : g_Wd} (m0 : Nat) (w : Nat) (hm : m0 < s_M X) (hwk : s_wk X) (hw : w < 45) : g_Md G l yX2_isNeedless cX2_isNeedless 4 (some .boolean) 10 0 0 [.ref (ad 0), .int (nI m0), .int (nI w)] (g_Mod G ad F X Y U V Z) (g_Qv (some (.int (g_b (s_ndl X m0 w)))) (fun H9 => ∃ Z1 : g_Wd, z_k Z Z1 ∧ g_Mod G ad F X X U V Z1 H9)) (md_A ad) := by
  refine g_Md.ofI (by decide) g_narB ?_
  intro p e s m args below meth c ls Q hX hM hl hS hret
  have hx := hX.1.1
  have hb := hX.1.2.1
  have hl : lv_has ls 4 [(0, .ref (ad 0)), (1, .int (nI m0)), (2, .int (nI w))] := hl
  have key : ∀ (H : Heap) (locs : List Loc), g_Mod G ad F X Y U V Z H → va_S (md_A ad) s.heap H locs → W p l e (g_rm 10 0 0) s m args below meth c H locs 0 0 Q (F0 m 0 ls []) := by
    intro H locs hM hS
    have hM6 := hwk.1.1.2.1.2
    have hm0 : m0 < 6 := by omega
    have hs := hwk.r1 (k := 5 * w + 2) (v := 1)
    have ho := hwk.1.1.2.2.2 m0 hm
    have hL := ho.2
    have hkm := k_end_len hwk hm
    have hkm2 := k_end_len hs.1 (m := m0) (by rw [hs.2]; exact hm)
    have hkm3 : s_len (s_endM (g_up2 X 1 (5 * w + 2) 1) m0) = s_len (X (3 + m0)) := by rw [hkm2, g_up2_row (by omega)]
    refine lv_aload_n hx hb dX2_isNeedless_0 rfl (lv_at hl 0 rfl) ?_
    refine g_cMV hX hl y_X2_thinks v_X2_thinks q2265 k_X2_thinks (hM.rc hX.2.2.2) hM rfl ⟨Nat.le_of_ble_eq_true rfl, Nat.le_of_ble_eq_true rfl⟩ ⟨Nat.le_refl _, Nat.le_refl _⟩ (rest := []) (st1 := []) rfl rfl (Nat.le_of_ble_eq_true rfl) dX2_isNeedless_1 hS (fun _ h => h) (fun H locs hM hS _ => ?_)
    refine lv_aload_n hx hb dX2_isNeedless_4 rfl (lv_at hl 0 rfl) ?_
    refine lv_iload_n hx hb dX2_isNeedless_5 rfl (lv_at hl 1 rfl) ?_
    refine lv_aload_n hx hb dX2_isNeedless_6 rfl (lv_at hl 0 rfl) ?_
    refine g_getM hX hM 16 (by decide) q2179 rfl (v := .ref (ad 16)) rfl dX2_isNeedless_7 ?_
    refine g_cMV hX hl y_X2_laysEnd16 v_X2_laysEnd16 q2749 (k_X2_laysEnd16 m0 hm hwk.1 (hwk.arv hm)) (hM.rc hX.2.2.2) hM rfl ⟨Nat.le_of_ble_eq_true rfl, Nat.le_of_ble_eq_true rfl⟩ ⟨Nat.le_refl _, Nat.le_refl _⟩ (rest := []) (st1 := []) rfl rfl (Nat.le_of_ble_eq_true rfl) dX2_isNeedless_10 hS (fun _ h => h) (fun H locs hM hS _ => ?_)
    refine lv_aload_n hx hb dX2_isNeedless_13 rfl (lv_at hl 0 rfl) ?_
    refine g_cMV hX hl y_X2_thinks v_X2_thinks q2265 k_X2_thinks (hM.rc hX.2.2.2) hM rfl ⟨Nat.le_of_ble_eq_true rfl, Nat.le_of_ble_eq_true rfl⟩ ⟨Nat.le_refl _, Nat.le_refl _⟩ (rest := []) (st1 := []) rfl rfl (Nat.le_of_ble_eq_true rfl) dX2_isNeedless_14 hS (fun _ h => h) (fun H locs hM hS _ => ?_)
    refine lv_aload_n hx hb dX2_isNeedless_17 rfl (lv_at hl 0 rfl) ?_
    refine lv_iload_n hx hb dX2_isNeedless_18 rfl (lv_at hl 2 rfl) ?_
    refine lv_iconst (v := 2) hx hb dX2_isNeedless_19 rfl ?_
    refine lv_iconst (v := 1) hx hb dX2_isNeedless_20 rfl ?_
    refine g_cMV hX hl y_X2_putsWire v_X2_putsWire q2331 (k_X2_putsWire w 2 1 (by omega) (by omega)) (hM.rc hX.2.2.2) hM rfl ⟨Nat.le_of_ble_eq_true rfl, Nat.le_of_ble_eq_true rfl⟩ ⟨Nat.le_refl _, Nat.le_refl _⟩ (rest := []) (st1 := []) rfl rfl (Nat.le_of_ble_eq_true rfl) dX2_isNeedless_21 hS (fun _ h => h) (fun H locs hM hS _ => ?_)
    refine lv_aload_n hx hb dX2_isNeedless_24 rfl (lv_at hl 0 rfl) ?_
    refine lv_iload_n hx hb dX2_isNeedless_25 rfl (lv_at hl 1 rfl) ?_
    refine lv_aload_n hx hb dX2_isNeedless_26 rfl (lv_at hl 0 rfl) ?_
    refine g_getM hX hM 17 (by decide) q2180 rfl (v := .ref (ad 17)) rfl dX2_isNeedless_27 ?_
    refine g_cMV hX hl y_X2_laysEnd17 v_X2_laysEnd17 q2749 (k_X2_laysEnd17 m0 (by rw [hs.2]; exact hm) hs.1.1 (s_wk.arv hs.1 (by rw [hs.2]; exact hm))) (hM.rc hX.2.2.2) hM rfl ⟨Nat.le_of_ble_eq_true rfl, Nat.le_of_ble_eq_true rfl⟩ ⟨Nat.le_refl _, Nat.le_refl _⟩ (rest := []) (st1 := []) rfl rfl (Nat.le_of_ble_eq_true rfl) dX2_isNeedless_30 hS (fun _ h => h) (fun H locs hM hS _ => ?_)
    refine lv_iconst (v := 0) hx hb dX2_isNeedless_33 rfl ?_
    refine lv_istore_n (lv' := [(3, .int 0), (0, .ref (ad 0)), (1, .int (nI m0)), (2, .int (nI w))]) hx hb dX2_isNeedless_34 rfl hl (by decide) rfl (fun ls hl => ?_)
    have L35 : ∀ (nf : Nat) (H : Heap) (locs : List Loc) (j : Nat), (j ≤ s_len (X (3 + m0))) → (s_any (fun p => !decide (s_bel (s_endM X m0) p = s_bel (s_endM (g_up2 X 1 (5 * w + 2) 1) m0) p)) j = false) → (s_len (X (3 + m0)) - j < nf) → (g_Mod G ad F X X U V (z_lay (z_lay Z 16 (fun p => s_bel (s_endM X m0) p) (s_len (s_endM X m0))) 17 (fun p => s_bel (s_endM (g_up2 X 1 (5 * w + 2) 1) m0) p) (s_len (s_endM (g_up2 X 1 (5 * w + 2) 1) m0))) H) → va_S (md_A ad) s.heap H locs → ∀ ls : Array Slot, lv_has ls 4 [(3, .int (nI j)), (0, .ref (ad 0)), (1, .int (nI m0)), (2, .int (nI w))] → W p l e (g_rm 10 0 0) s m args below meth c H locs 0 0 Q (F0 m 35 ls []) := by
      intro n35
      induction n35 with
      | zero => intro H locs j hj ha hn; exact absurd hn (Nat.not_lt_zero _)
      | succ n35 ih35 =>
        intro H locs j hj ha hn35 hM hS ls hl
        refine lv_iload_n hx hb dX2_isNeedless_35 rfl (lv_at hl 0 rfl) ?_
        refine lv_aload_n hx hb dX2_isNeedless_36 rfl (lv_at hl 1 rfl) ?_
        refine lv_iload_n hx hb dX2_isNeedless_37 rfl (lv_at hl 2 rfl) ?_
        refine lv_iconst (v := 0) hx hb dX2_isNeedless_38 rfl ?_
        refine g_cRV hX hl y_X2_of v_X2_of q2365 (k_X2_of m0 0 (by omega) (by omega)) (hM.rc hX.2.2.2) hM rfl ⟨Nat.le_of_ble_eq_true rfl, Nat.le_of_ble_eq_true rfl⟩ ⟨Nat.zero_le _, Nat.zero_le _⟩ (rest := [.int (nI j)]) (st1 := [.int (X (3 + m0) 0), .int (nI j)]) rfl rfl (Nat.le_of_ble_eq_true rfl) dX2_isNeedless_39 ?_
        refine g_icmp_geN (tgt := 68) hx hb j (s_len (X (3 + m0))) rfl ho.1 (by omega) (by omega) dX2_isNeedless_42 (by decide) (fun c_42 => ?_) (fun c_42 => ?_)
        · skip
          refine lv_iconst (v := 1) hx hb dX2_isNeedless_68 rfl ?_
          exact hret H locs _ _ _ _ _ dX2_isNeedless_69 hS (Nat.le_refl _) (Nat.le_refl _) (⟨by rw [s_ndl, show s_len (X (3 + m0)) = j by omega, ha]; rfl, _, (z_lay_k (Or.inl rfl)).tr (z_lay_k (Or.inr rfl)), hM⟩)
        · skip
          refine lv_aload_n hx hb dX2_isNeedless_45 rfl (lv_at hl 1 rfl) ?_
          refine g_getM hX hM 16 (by decide) q2179 rfl (v := .ref (ad 16)) rfl dX2_isNeedless_46 ?_
          refine lv_iload_n hx hb dX2_isNeedless_49 rfl (lv_at hl 0 rfl) ?_
          refine g_iald hX hM.a16 j rfl (by omega) (by decide) (v := ((z_lay (z_lay Z 16 (fun p => s_bel (s_endM X m0) p) (s_len (s_endM X m0))) 17 (fun p => s_bel (s_endM (g_up2 X 1 (5 * w + 2) 1) m0) p) (s_len (s_endM (g_up2 X 1 (5 * w + 2) 1) m0))) 16 j)) rfl dX2_isNeedless_50 ?_
          refine g_topi (y := s_bel (s_endM X m0) j) (by rw [z_lay_ne (by decide), z_lay_at (by omega)]) ?_
          refine lv_aload_n hx hb dX2_isNeedless_51 rfl (lv_at hl 1 rfl) ?_
          refine g_getM hX hM 17 (by decide) q2180 rfl (v := .ref (ad 17)) rfl dX2_isNeedless_52 ?_
          refine lv_iload_n hx hb dX2_isNeedless_55 rfl (lv_at hl 0 rfl) ?_
          refine g_iald hX hM.a17 j rfl (by omega) (by decide) (v := ((z_lay (z_lay Z 16 (fun p => s_bel (s_endM X m0) p) (s_len (s_endM X m0))) 17 (fun p => s_bel (s_endM (g_up2 X 1 (5 * w + 2) 1) m0) p) (s_len (s_endM (g_up2 X 1 (5 * w + 2) 1) m0))) 17 j)) rfl dX2_isNeedless_56 ?_
          refine g_topi (y := s_bel (s_endM (g_up2 X 1 (5 * w + 2) 1) m0) j) (by rw [z_lay_at (by omega)]) ?_
          refine lv_icmp_eq (tgt := 62) hx hb dX2_isNeedless_57 (by decide) (fun c_57 => ?_) (fun c_57 => ?_)
          · skip
            refine lv_iinc (v := (nI (j + 1))) (lv' := [(3, .int (nI (j + 1))), (0, .ref (ad 0)), (1, .int (nI m0)), (2, .int (nI w))]) hx hb dX2_isNeedless_62 hl (k := 0) rfl (nI_1 _) (by decide) rfl (fun ls hl => ?_)
            refine lv_goto (tgt := 35) hx hb dX2_isNeedless_65 (by decide) ?_
            exact ih35 H locs (j + 1) (by omega) (by simp only [s_any, ha, Bool.false_or]; simp [c_57]) (by omega) hM hS ls (lv_sub hl [0, 1, 2, 3] rfl)
          · skip
            refine lv_iconst (v := 0) hx hb dX2_isNeedless_60 rfl ?_
            exact hret H locs _ _ _ _ _ dX2_isNeedless_61 hS (Nat.le_refl _) (Nat.le_refl _) (⟨by rw [s_ndl, s_any_t (f := fun p => !decide (s_bel (s_endM X m0) p = s_bel (s_endM (g_up2 X 1 (5 * w + 2) 1) m0) p)) (by simp [c_57]) c_42]; rfl, _, (z_lay_k (Or.inl rfl)).tr (z_lay_k (Or.inr rfl)), hM⟩)
    exact L35 (s_len (X (3 + m0)) - 0 + 1) H locs 0 (by omega) (rfl) (Nat.lt_succ_self _) hM hS ls (lv_sub hl [0, 1, 2, 3] rfl)
  exact key _ _ hM hS

theorem y_X2_needless : g_Y yX2_needless cX2_needless 3 (some .boolean) 2 := ⟨q2744, by decide +kernel⟩
theorem v_X2_needless : g_YV yX2_needless := ⟨q2742, q2743, q140⟩
set_option maxHeartbeats 4000000 in
theorem ok_X2_needless {G : g_G} {l : Launch} {ad : Nat → Nat} {F : Nat → Int32} {X Y : g_Wd} {U V : Nat → g_Wd} {Z : g_Wd} (j : Nat) (w : Nat) (hF : ¬ F 6 = 0) (hwl : s_wl X) (hwk : s_wk X) (hj : j < s_M X) (hw : w < s_W X) : g_Md G l yX2_needless cX2_needless 3 (some .boolean) 11 0 0 [.ref (ad 0), .int (nI j), .int (nI w)] (g_Mod G ad F X Y U V Z) (g_Qv (some (.int (g_b (s_ndl X j w)))) (fun H9 => ∃ Z1 : g_Wd, z_k Z Z1 ∧ g_Mod G ad (upd F 0 0) X X U V Z1 H9)) (md_A ad) := by
  refine g_Md.ofI (by decide) g_narB ?_
  intro p e s m args below meth c ls Q hX hM hl hS hret
  have hx := hX.1.1
  have hb := hX.1.2.1
  have hl : lv_has ls 3 [(0, .ref (ad 0)), (1, .int (nI j)), (2, .int (nI w))] := hl
  have key : ∀ (H : Heap) (locs : List Loc), g_Mod G ad F X Y U V Z H → va_S (md_A ad) s.heap H locs → W p l e (g_rm 11 0 0) s m args below meth c H locs 0 0 Q (F0 m 0 ls []) := by
    intro H locs hM hS
    have hW := hwl.1
    have hWc : ¬ F 6 = 0 → s_ok X := fun _ => hW
    have hW9 := hW
    obtain ⟨⟨hL0, hL2, hL6⟩, ⟨hM0, hM6⟩, ⟨hG0, hG40⟩, hok⟩ := hW9
    have hw9 : s_W X ≤ 45 := by unfold s_W; omega
    have hmsg := s_isMsg_ok hF hW hj
    have ho := hok j hj
    have hL := ho.2
    have hj6 : j < 6 := by omega
    have hwn := s_isWN_ok hF hW hw
    have hbo : (s_isMsg F X (nI j) && s_isWN F X (nI w)) = true := by rw [hmsg, hwn]; rfl
    refine lv_aload_n hx hb dX2_needless_0 rfl (lv_at hl 0 rfl) ?_
    refine lv_aload_n hx hb dX2_needless_1 rfl (lv_at hl 0 rfl) ?_
    refine g_getM hX hM 6 (by decide) q2169 rfl (v := .int (F 6)) rfl dX2_needless_2 ?_
    refine lv_aload_n hx hb dX2_needless_5 rfl (lv_at hl 0 rfl) ?_
    refine lv_iload_n hx hb dX2_needless_6 rfl (lv_at hl 1 rfl) ?_
    refine lv_iload_n hx hb dX2_needless_7 rfl (lv_at hl 2 rfl) ?_
    refine g_cRV hX hl y_X2_areBoth v_X2_areBoth q2729 (k_X2_areBoth (nI j) (nI w) hWc) (hM.rc hX.2.2.2) hM rfl ⟨Nat.le_of_ble_eq_true rfl, Nat.le_of_ble_eq_true rfl⟩ ⟨Nat.zero_le _, Nat.zero_le _⟩ (rest := [.int (F 6), .ref (ad 0)]) (st1 := [.int (g_b (s_isMsg F X (nI j) && s_isWN F X (nI w))), .int (F 6), .ref (ad 0)]) rfl rfl (Nat.le_of_ble_eq_true rfl) dX2_needless_8 ?_
    refine g_cMV hX hl y_X2_mayTwo v_X2_mayTwo q2501 (k_X2_mayTwo (F 6) (g_b (s_isMsg F X (nI j) && s_isWN F X (nI w)))) (hM.rc hX.2.2.2) hM rfl ⟨Nat.le_of_ble_eq_true rfl, Nat.le_of_ble_eq_true rfl⟩ ⟨Nat.le_refl _, Nat.le_refl _⟩ (rest := []) (st1 := [.int (g_b (decide (s_may (F 6) (g_b (s_isMsg F X (nI j) && s_isWN F X (nI w))) 1 = 0)))]) rfl rfl (Nat.le_of_ble_eq_true rfl) dX2_needless_11 hS (fun _ h => h) (fun H locs hM hS _ => ?_)
    have hmy : s_may (F 6) (g_b (s_isMsg F X (nI j) && s_isWN F X (nI w))) 1 = 0 := s_may_ok hF (g_b_ne hbo) (by decide)
    rw [hmy] at hM ⊢
    refine g_if_eqB (tgt := 30) hx hb (b := decide ((0 : Int32) = 0)) rfl dX2_needless_14 (by decide) (fun c_14 => ?_) (fun c_14 => ?_)
    · exact Bool.noConfusion ((rfl : decide ((0 : Int32) = 0) = true).symm.trans c_14)
    skip
    refine lv_aload_n hx hb dX2_needless_17 rfl (lv_at hl 0 rfl) ?_
    refine lv_iload_n hx hb dX2_needless_18 rfl (lv_at hl 1 rfl) ?_
    refine lv_iload_n hx hb dX2_needless_19 rfl (lv_at hl 2 rfl) ?_
    refine g_cMV hX hl y_X2_isNeedless v_X2_isNeedless q2745 (k_X2_isNeedless j w hj hwk (by omega)) (hM.rc hX.2.2.2) hM rfl ⟨Nat.le_of_ble_eq_true rfl, Nat.le_of_ble_eq_true rfl⟩ ⟨Nat.le_refl _, Nat.le_refl _⟩ (rest := []) (st1 := [.int (g_b (s_ndl X j w))]) rfl rfl (Nat.le_of_ble_eq_true rfl) dX2_needless_20 hS (fun _ h => h) (fun H locs hM hS _ => ?_)
    obtain ⟨Z1_1, hxZ1_2, hM⟩ := hM
    refine g_if_eqB (tgt := 30) hx hb (b := s_ndl X j w) rfl dX2_needless_23 (by decide) (fun c_23 => ?_) (fun c_23 => ?_)
    · skip
      refine lv_iconst (v := 0) hx hb dX2_needless_30 rfl ?_
      exact hret H locs _ _ _ _ _ dX2_needless_31 hS (Nat.le_refl _) (Nat.le_refl _) (⟨by simp [g_b, c_23], _, hxZ1_2, hM⟩)
    · skip
      refine lv_iconst (v := 1) hx hb dX2_needless_26 rfl ?_
      refine lv_goto (tgt := 31) hx hb dX2_needless_27 (by decide) ?_
      exact hret H locs _ _ _ _ _ dX2_needless_31 hS (Nat.le_refl _) (Nat.le_refl _) (⟨by simp [g_b, c_23], _, hxZ1_2, hM⟩)
  exact key _ _ hM hS

set_option maxHeartbeats 4000000 in
theorem no_X2_needless {G : g_G} {l : Launch} {ad : Nat → Nat} {F : Nat → Int32} {X Y : g_Wd} {U V : Nat → g_Wd} {Z : g_Wd} (t9 : Int32) (v : Int32) (w : Int32) (ht9 : ¬ t9 = 0) (hbad : s_may (F 6) (g_b (s_isMsg F X v && s_isWN F X w)) 1 = t9) (hWc : ¬ F 6 = 0 → s_ok X) : g_Md G l yX2_needless cX2_needless 3 (some .boolean) 3 0 0 [.ref (ad 0), .int v, .int w] (g_Mod G ad F X Y U V Z) (g_Qv (some (.int (g_b false))) (g_Mod G ad (upd F 0 t9) X Y U V Z)) (md_A ad) := by
  refine g_Md.ofI (by decide) g_narB ?_
  intro p e s m args below meth c ls Q hX hM hl hS hret
  have hx := hX.1.1
  have hb := hX.1.2.1
  have hl : lv_has ls 3 [(0, .ref (ad 0)), (1, .int v), (2, .int w)] := hl
  have key : ∀ (H : Heap) (locs : List Loc), g_Mod G ad F X Y U V Z H → va_S (md_A ad) s.heap H locs → W p l e (g_rm 3 0 0) s m args below meth c H locs 0 0 Q (F0 m 0 ls []) := by
    intro H locs hM hS
    refine lv_aload_n hx hb dX2_needless_0 rfl (lv_at hl 0 rfl) ?_
    refine lv_aload_n hx hb dX2_needless_1 rfl (lv_at hl 0 rfl) ?_
    refine g_getM hX hM 6 (by decide) q2169 rfl (v := .int (F 6)) rfl dX2_needless_2 ?_
    refine lv_aload_n hx hb dX2_needless_5 rfl (lv_at hl 0 rfl) ?_
    refine lv_iload_n hx hb dX2_needless_6 rfl (lv_at hl 1 rfl) ?_
    refine lv_iload_n hx hb dX2_needless_7 rfl (lv_at hl 2 rfl) ?_
    refine g_cRV hX hl y_X2_areBoth v_X2_areBoth q2729 (k_X2_areBoth v w hWc) (hM.rc hX.2.2.2) hM rfl ⟨Nat.le_of_ble_eq_true rfl, Nat.le_of_ble_eq_true rfl⟩ ⟨Nat.zero_le _, Nat.zero_le _⟩ (rest := [.int (F 6), .ref (ad 0)]) (st1 := [.int (g_b (s_isMsg F X v && s_isWN F X w)), .int (F 6), .ref (ad 0)]) rfl rfl (Nat.le_of_ble_eq_true rfl) dX2_needless_8 ?_
    refine g_cMV hX hl y_X2_mayTwo v_X2_mayTwo q2501 (k_X2_mayTwo (F 6) (g_b (s_isMsg F X v && s_isWN F X w))) (hM.rc hX.2.2.2) hM rfl ⟨Nat.le_of_ble_eq_true rfl, Nat.le_of_ble_eq_true rfl⟩ ⟨Nat.le_refl _, Nat.le_refl _⟩ (rest := []) (st1 := [.int (g_b (decide (s_may (F 6) (g_b (s_isMsg F X v && s_isWN F X w)) 1 = 0)))]) rfl rfl (Nat.le_of_ble_eq_true rfl) dX2_needless_11 hS (fun _ h => h) (fun H locs hM hS _ => ?_)
    have hmy : s_may (F 6) (g_b (s_isMsg F X v && s_isWN F X w)) 1 = t9 := by first | exact hbad | (rw [← hbad]; simp [g_b, g_b]; done) | (rw [← hbad]; simp only [g_b, g_b]; rfl)
    rw [hmy] at hM ⊢
    refine g_if_eqB (tgt := 30) hx hb (b := decide (t9 = 0)) rfl dX2_needless_14 (by decide) (fun c_14 => ?_) (fun c_14 => ?_)
    rotate_left
    · exact Bool.noConfusion ((decide_eq_false ht9).symm.trans c_14)
    refine lv_iconst (v := 0) hx hb dX2_needless_30 rfl ?_
    exact hret H locs _ _ _ _ _ dX2_needless_31 hS (Nat.le_refl _) (Nat.le_refl _) (⟨rfl, hM⟩)
  exact key _ _ hM hS

theorem y_X2_needed : g_Y yX2_needed cX2_needed 4 (some .int) 1 := ⟨q2756, by decide +kernel⟩
theorem v_X2_needed : g_YV yX2_needed := ⟨q2754, q2755, q140⟩
set_option maxHeartbeats 4000000 in
theorem ok_X2_needed {G : g_G} {l : Launch} {ad : Nat → Nat} {F : Nat → Int32} {X Y : g_Wd} {U V : Nat → g_Wd} {Z : g_Wd} (j : Nat) (hF : ¬ F 6 = 0) (hwl : s_wl X) (hwk : s_wk X) (hj : j < s_M X) : g_Md G l yX2_needed cX2_needed 4 (some .int) 11 0 0 [.ref (ad 0), .int (nI j)] (g_Mod G ad F X Y U V Z) (g_Qv (some (.int (nI (s_need X j)))) (fun H9 => ∃ Y1 : g_Wd, ∃ Z1 : g_Wd, z_k Z Z1 ∧ g_Mod G ad (upd F 0 0) X Y1 U V Z1 H9)) (md_A ad) := by
  refine g_Md.ofI (by decide) (fun _ _ _ => rfl) ?_
  intro p e s m args below meth c ls Q hX hM hl hS hret
  have hx := hX.1.1
  have hb := hX.1.2.1
  have hl : lv_has ls 4 [(0, .ref (ad 0)), (1, .int (nI j))] := hl
  have key : ∀ (H : Heap) (locs : List Loc), g_Mod G ad F X Y U V Z H → va_S (md_A ad) s.heap H locs → W p l e (g_rm 11 0 0) s m args below meth c H locs 0 0 Q (F0 m 0 ls []) := by
    intro H locs hM hS
    have hW := hwl.1
    have hWc : ¬ F 6 = 0 → s_ok X := fun _ => hW
    have hW9 := hW
    obtain ⟨⟨hL0, hL2, hL6⟩, ⟨hM0, hM6⟩, ⟨hG0, hG40⟩, hok⟩ := hW9
    have hw9 : s_W X ≤ 45 := by unfold s_W; omega
    have hmsg := s_isMsg_ok hF hW hj
    have ho := hok j hj
    have hL := ho.2
    have hj6 : j < 6 := by omega
    refine lv_aload_n hx hb dX2_needed_0 rfl (lv_at hl 0 rfl) ?_
    refine lv_iload_n hx hb dX2_needed_1 rfl (lv_at hl 1 rfl) ?_
    refine g_cMV hX hl y_X2_mayMessage v_X2_mayMessage q2636 (k_X2_mayMessage (nI j)) (hM.rc hX.2.2.2) hM rfl ⟨Nat.le_of_ble_eq_true rfl, Nat.le_of_ble_eq_true rfl⟩ ⟨Nat.le_refl _, Nat.le_refl _⟩ (rest := []) (st1 := [.int (g_b (decide (s_may (F 6) (g_b (s_isMsg F X (nI j))) 1 = 0)))]) rfl rfl (Nat.le_of_ble_eq_true rfl) dX2_needed_2 hS (fun _ h => h) (fun H locs hM hS _ => ?_)
    have hmy : s_may (F 6) (g_b (s_isMsg F X (nI j))) 1 = 0 := s_may_ok hF (g_b_ne hmsg) (by decide)
    rw [hmy] at hM ⊢
    refine g_if_neB (tgt := 10) hx hb (b := decide ((0 : Int32) = 0)) rfl dX2_needed_5 (by decide) (fun c_5 => ?_) (fun c_5 => ?_)
    rotate_left
    · exact Bool.noConfusion ((rfl : decide ((0 : Int32) = 0) = true).symm.trans c_5)
    refine lv_iconst (v := 0) hx hb dX2_needed_10 rfl ?_
    refine lv_istore_n (lv' := [(2, .int 0), (0, .ref (ad 0)), (1, .int (nI j))]) hx hb dX2_needed_11 rfl hl (by decide) rfl (fun ls hl => ?_)
    refine lv_iconst (v := 0) hx hb dX2_needed_12 rfl ?_
    refine lv_istore_n (lv' := [(3, .int 0), (2, .int 0), (0, .ref (ad 0)), (1, .int (nI j))]) hx hb dX2_needed_13 rfl hl (by decide) rfl (fun ls hl => ?_)
    have L14 : ∀ (nf : Nat) (H : Heap) (locs : List Loc) (q : Nat) (Y1 : g_Wd) (Z1 : g_Wd), (q ≤ 9 * (s_L X - 1)) → (z_k Z Z1) → (9 * (s_L X - 1) - q < nf) → (g_Mod G ad (upd F 0 0) X Y1 U V Z1 H) → va_S (md_A ad) s.heap H locs → ∀ ls : Array Slot, lv_has ls 4 [(3, .int (nI q)), (2, .int (nI (s_cnt (fun w => !s_ndl X j w) q))), (0, .ref (ad 0)), (1, .int (nI j))] → W p l e (g_rm 11 0 0) s m args below meth c H locs 0 0 Q (F0 m 14 ls []) := by
      intro n14
      induction n14 with
      | zero => intro H locs q Y1 Z1 hq hz hn; exact absurd hn (Nat.not_lt_zero _)
      | succ n14 ih14 =>
        intro H locs q Y1 Z1 hq hz hn14 hM hS ls hl
        refine lv_iload_n hx hb dX2_needed_14 rfl (lv_at hl 0 rfl) ?_
        refine lv_bipush (v := 9) hx hb dX2_needed_15 (by decide) ?_
        refine lv_aload_n hx hb dX2_needed_17 rfl (lv_at hl 2 rfl) ?_
        refine g_cRV hX hl y_X2_lastLevel v_X2_lastLevel q2440 (k_X2_lastLevel hW) (hM.rc hX.2.2.2) hM rfl ⟨Nat.le_of_ble_eq_true rfl, Nat.le_of_ble_eq_true rfl⟩ ⟨Nat.zero_le _, Nat.zero_le _⟩ (rest := [.int 9, .int (nI q)]) (st1 := [.int (nI (s_L X - 1)), .int 9, .int (nI q)]) rfl rfl (Nat.le_of_ble_eq_true rfl) dX2_needed_18 ?_
        refine g_imulN hx hb 9 (s_L X - 1) rfl rfl dX2_needed_21 ?_
        refine g_icmp_geN (tgt := 51) hx hb q (9 * (s_L X - 1)) rfl rfl (by omega) (by omega) dX2_needed_22 (by decide) (fun c_22 => ?_) (fun c_22 => ?_)
        · skip
          refine lv_iload_n hx hb dX2_needed_51 rfl (lv_at hl 1 rfl) ?_
          exact hret H locs _ _ _ _ _ dX2_needed_52 hS (Nat.le_refl _) (Nat.le_refl _) (⟨by rw [show q = 9 * (s_L X - 1) by omega]; rfl, _, _, hz, hM⟩)
        · skip
          refine lv_iload_n hx hb dX2_needed_25 rfl (lv_at hl 1 rfl) ?_
          refine lv_aload_n hx hb dX2_needed_26 rfl (lv_at hl 2 rfl) ?_
          refine lv_iload_n hx hb dX2_needed_27 rfl (lv_at hl 3 rfl) ?_
          refine lv_iload_n hx hb dX2_needed_28 rfl (lv_at hl 0 rfl) ?_
          refine g_cMV hX hl y_X2_isNeedless v_X2_isNeedless q2745 (k_X2_isNeedless j q hj hwk (by omega)) (hM.rc hX.2.2.2) hM rfl ⟨Nat.le_of_ble_eq_true rfl, Nat.le_of_ble_eq_true rfl⟩ ⟨Nat.le_refl _, Nat.le_refl _⟩ (rest := [.int (nI (s_cnt (fun w => !s_ndl X j w) q))]) (st1 := [.int (g_b (s_ndl X j q)), .int (nI (s_cnt (fun w => !s_ndl X j w) q))]) rfl rfl (Nat.le_of_ble_eq_true rfl) dX2_needed_29 hS (fun _ h => h) (fun H locs hM hS _ => ?_)
          obtain ⟨Z1_1, hxZ1_2, hM⟩ := hM
          refine g_if_neB (tgt := 39) hx hb (b := s_ndl X j q) rfl dX2_needed_32 (by decide) (fun c_32 => ?_) (fun c_32 => ?_)
          · skip
            refine lv_iconst (v := 0) hx hb dX2_needed_39 rfl ?_
            refine g_cRS hX hl y_X2_one v_X2_one q2386 (k_X2_one false) trivial rfl ⟨Nat.le_of_ble_eq_true rfl, Nat.le_of_ble_eq_true rfl⟩ ⟨Nat.zero_le _, Nat.zero_le _⟩ (rest := [.int (nI (s_cnt (fun w => !s_ndl X j w) q))]) (st1 := [.int (nI (s_n false)), .int (nI (s_cnt (fun w => !s_ndl X j w) q))]) rfl rfl (Nat.le_of_ble_eq_true rfl) dX2_needed_40 ?_
            refine g_iaddN hx hb (s_cnt (fun w => !s_ndl X j w) q) (s_n false) rfl rfl dX2_needed_43 ?_
            refine lv_istore_n (lv' := [(2, .int (nI (s_cnt (fun w => !s_ndl X j w) q + s_n false))), (3, .int (nI q)), (0, .ref (ad 0)), (1, .int (nI j))]) hx hb dX2_needed_44 rfl hl (by decide) rfl (fun ls hl => ?_)
            refine lv_iinc (v := (nI (q + 1))) (lv' := [(3, .int (nI (q + 1))), (2, .int (nI (s_cnt (fun w => !s_ndl X j w) q + s_n false))), (0, .ref (ad 0)), (1, .int (nI j))]) hx hb dX2_needed_45 hl (k := 1) rfl (nI_1 _) (by decide) rfl (fun ls hl => ?_)
            refine lv_goto (tgt := 14) hx hb dX2_needed_48 (by decide) ?_
            have e_2 : (nI (s_cnt (fun w => !s_ndl X j w) q + s_n false)) = (nI (s_cnt (fun w => !s_ndl X j w) (q + 1))) := by first | (simp [s_cnt, s_n, c_22, c_32]; done) | grind [s_cnt, s_n]
            rw [e_2] at hl
            exact ih14 H locs (q + 1) X Z1_1 (by omega) (hz.tr (by assumption)) (by omega) hM hS ls (lv_sub hl [0, 1, 2, 3] rfl)
          · skip
            refine lv_iconst (v := 1) hx hb dX2_needed_35 rfl ?_
            refine lv_goto (tgt := 40) hx hb dX2_needed_36 (by decide) ?_
            refine g_cRS hX hl y_X2_one v_X2_one q2386 (k_X2_one true) trivial rfl ⟨Nat.le_of_ble_eq_true rfl, Nat.le_of_ble_eq_true rfl⟩ ⟨Nat.zero_le _, Nat.zero_le _⟩ (rest := [.int (nI (s_cnt (fun w => !s_ndl X j w) q))]) (st1 := [.int (nI (s_n true)), .int (nI (s_cnt (fun w => !s_ndl X j w) q))]) rfl rfl (Nat.le_of_ble_eq_true rfl) dX2_needed_40 ?_
            refine g_iaddN hx hb (s_cnt (fun w => !s_ndl X j w) q) (s_n true) rfl rfl dX2_needed_43 ?_
            refine lv_istore_n (lv' := [(2, .int (nI (s_cnt (fun w => !s_ndl X j w) q + s_n true))), (3, .int (nI q)), (0, .ref (ad 0)), (1, .int (nI j))]) hx hb dX2_needed_44 rfl hl (by decide) rfl (fun ls hl => ?_)
            refine lv_iinc (v := (nI (q + 1))) (lv' := [(3, .int (nI (q + 1))), (2, .int (nI (s_cnt (fun w => !s_ndl X j w) q + s_n true))), (0, .ref (ad 0)), (1, .int (nI j))]) hx hb dX2_needed_45 hl (k := 1) rfl (nI_1 _) (by decide) rfl (fun ls hl => ?_)
            refine lv_goto (tgt := 14) hx hb dX2_needed_48 (by decide) ?_
            have e_2 : (nI (s_cnt (fun w => !s_ndl X j w) q + s_n true)) = (nI (s_cnt (fun w => !s_ndl X j w) (q + 1))) := by first | (simp [s_cnt, s_n, c_22, c_32]; done) | grind [s_cnt, s_n]
            rw [e_2] at hl
            exact ih14 H locs (q + 1) X Z1_1 (by omega) (hz.tr (by assumption)) (by omega) hM hS ls (lv_sub hl [0, 1, 2, 3] rfl)
    exact L14 (9 * (s_L X - 1) - 0 + 1) H locs 0 Y Z (by omega) (z_k.rf) (Nat.lt_succ_self _) hM hS ls (lv_sub hl [0, 1, 2, 3] rfl)
  exact key _ _ hM hS

set_option maxHeartbeats 4000000 in
theorem no_X2_needed {G : g_G} {l : Launch} {ad : Nat → Nat} {F : Nat → Int32} {X Y : g_Wd} {U V : Nat → g_Wd} {Z : g_Wd} (t9 : Int32) (v : Int32) (ht9 : ¬ t9 = 0) (hbad : s_may (F 6) (g_b (s_isMsg F X v)) 1 = t9) (hWc : ¬ F 6 = 0 → s_ok X) : g_Md G l yX2_needed cX2_needed 4 (some .int) 3 0 0 [.ref (ad 0), .int v] (g_Mod G ad F X Y U V Z) (g_Qv (some (.int 0)) (g_Mod G ad (upd F 0 t9) X Y U V Z)) (md_A ad) := by
  refine g_Md.ofI (by decide) (fun _ _ _ => rfl) ?_
  intro p e s m args below meth c ls Q hX hM hl hS hret
  have hx := hX.1.1
  have hb := hX.1.2.1
  have hl : lv_has ls 4 [(0, .ref (ad 0)), (1, .int v)] := hl
  have key : ∀ (H : Heap) (locs : List Loc), g_Mod G ad F X Y U V Z H → va_S (md_A ad) s.heap H locs → W p l e (g_rm 3 0 0) s m args below meth c H locs 0 0 Q (F0 m 0 ls []) := by
    intro H locs hM hS
    refine lv_aload_n hx hb dX2_needed_0 rfl (lv_at hl 0 rfl) ?_
    refine lv_iload_n hx hb dX2_needed_1 rfl (lv_at hl 1 rfl) ?_
    refine g_cMV hX hl y_X2_mayMessage v_X2_mayMessage q2636 (k_X2_mayMessage v) (hM.rc hX.2.2.2) hM rfl ⟨Nat.le_of_ble_eq_true rfl, Nat.le_of_ble_eq_true rfl⟩ ⟨Nat.le_refl _, Nat.le_refl _⟩ (rest := []) (st1 := [.int (g_b (decide (s_may (F 6) (g_b (s_isMsg F X v)) 1 = 0)))]) rfl rfl (Nat.le_of_ble_eq_true rfl) dX2_needed_2 hS (fun _ h => h) (fun H locs hM hS _ => ?_)
    have hmy : s_may (F 6) (g_b (s_isMsg F X v)) 1 = t9 := by first | exact hbad | (rw [← hbad]; simp [g_b, g_b]; done) | (rw [← hbad]; simp only [g_b, g_b]; rfl)
    rw [hmy] at hM ⊢
    refine g_if_neB (tgt := 10) hx hb (b := decide (t9 = 0)) rfl dX2_needed_5 (by decide) (fun c_5 => ?_) (fun c_5 => ?_)
    · exact Bool.noConfusion ((decide_eq_false ht9).symm.trans c_5)
    skip
    refine lv_iconst (v := 0) hx hb dX2_needed_8 rfl ?_
    exact hret H locs _ _ _ _ _ dX2_needed_9 hS (Nat.le_refl _) (Nat.le_refl _) (⟨rfl, hM⟩)
  exact key _ _ hM hS

theorem y_X2_bestAsks : g_Y yX2_bestAsks cX2_bestAsks 6 (some .int) 1 := ⟨q2760, by decide +kernel⟩
theorem v_X2_bestAsks : g_YV yX2_bestAsks := ⟨q2758, q2759, q140⟩
set_option maxHeartbeats 4000000 in
theorem ok_X2_bestAsks {G : g_G} {l : Launch} {ad : Nat → Nat} {F : Nat → Int32} {X Y : g_Wd} {U V : Nat → g_Wd} {Z : g_Wd} (j : Nat) (hF : ¬ F 6 = 0) (hwl : s_wl X) (hwk : s_wk X) (hj : j < s_M X) : g_Md G l yX2_bestAsks cX2_bestAsks 6 (some .int) 10 0 0 [.ref (ad 0), .int (nI j)] (g_Mod G ad F X Y U V Z) (g_Qv (some (.int ((s_bst (fun a => s_rA X j a) 6).1))) (fun H9 => ∃ Y1 : g_Wd, g_Mod G ad (upd F 0 0) X Y1 U V Z H9)) (md_A ad) := by
  refine g_Md.ofI (by decide) (fun _ _ _ => rfl) ?_
  intro p e s m args below meth c ls Q hX hM hl hS hret
  have hx := hX.1.1
  have hb := hX.1.2.1
  have hl : lv_has ls 6 [(0, .ref (ad 0)), (1, .int (nI j))] := hl
  have key : ∀ (H : Heap) (locs : List Loc), g_Mod G ad F X Y U V Z H → va_S (md_A ad) s.heap H locs → W p l e (g_rm 10 0 0) s m args below meth c H locs 0 0 Q (F0 m 0 ls []) := by
    intro H locs hM hS
    have hW := hwl.1
    have hWc : ¬ F 6 = 0 → s_ok X := fun _ => hW
    have hW9 := hW
    obtain ⟨⟨hL0, hL2, hL6⟩, ⟨hM0, hM6⟩, ⟨hG0, hG40⟩, hok⟩ := hW9
    have hw9 : s_W X ≤ 45 := by unfold s_W; omega
    have hmsg := s_isMsg_ok hF hW hj
    have ho := hok j hj
    have hL := ho.2
    have hj6 : j < 6 := by omega
    refine lv_aload_n hx hb dX2_bestAsks_0 rfl (lv_at hl 0 rfl) ?_
    refine lv_iload_n hx hb dX2_bestAsks_1 rfl (lv_at hl 1 rfl) ?_
    refine g_cMV hX hl y_X2_mayMessage v_X2_mayMessage q2636 (k_X2_mayMessage (nI j)) (hM.rc hX.2.2.2) hM rfl ⟨Nat.le_of_ble_eq_true rfl, Nat.le_of_ble_eq_true rfl⟩ ⟨Nat.le_refl _, Nat.le_refl _⟩ (rest := []) (st1 := [.int (g_b (decide (s_may (F 6) (g_b (s_isMsg F X (nI j))) 1 = 0)))]) rfl rfl (Nat.le_of_ble_eq_true rfl) dX2_bestAsks_2 hS (fun _ h => h) (fun H locs hM hS _ => ?_)
    have hmy : s_may (F 6) (g_b (s_isMsg F X (nI j))) 1 = 0 := s_may_ok hF (g_b_ne hmsg) (by decide)
    rw [hmy] at hM ⊢
    refine g_if_neB (tgt := 10) hx hb (b := decide ((0 : Int32) = 0)) rfl dX2_bestAsks_5 (by decide) (fun c_5 => ?_) (fun c_5 => ?_)
    rotate_left
    · exact Bool.noConfusion ((rfl : decide ((0 : Int32) = 0) = true).symm.trans c_5)
    refine lv_iconst (v := 0) hx hb dX2_bestAsks_10 rfl ?_
    refine lv_istore_n (lv' := [(2, .int 0), (0, .ref (ad 0)), (1, .int (nI j))]) hx hb dX2_bestAsks_11 rfl hl (by decide) rfl (fun ls hl => ?_)
    refine lv_iconst (v := (-1)) hx hb dX2_bestAsks_12 rfl ?_
    refine lv_istore_n (lv' := [(3, .int (-1)), (2, .int 0), (0, .ref (ad 0)), (1, .int (nI j))]) hx hb dX2_bestAsks_13 rfl hl (by decide) rfl (fun ls hl => ?_)
    refine lv_iconst (v := 0) hx hb dX2_bestAsks_14 rfl ?_
    refine lv_istore (lv' := [(4, .int 0), (3, .int (-1)), (2, .int 0), (0, .ref (ad 0)), (1, .int (nI j))]) hx hb dX2_bestAsks_15 hl (by decide) rfl (fun ls hl => ?_)
    have L17 : ∀ (nf : Nat) (H : Heap) (locs : List Loc) (a : Nat) (Y1 : g_Wd), (a ≤ 6) → (6 - a < nf) → (g_Mod G ad (upd F 0 0) X Y1 U V Z H) → va_S (md_A ad) s.heap H locs → ∀ ls : Array Slot, lv_has ls 6 [(4, .int (nI a)), (2, .int ((s_bst (fun z9 => s_rA X j z9) a).1)), (3, .int ((s_bst (fun z9 => s_rA X j z9) a).2)), (0, .ref (ad 0)), (1, .int (nI j))] → W p l e (g_rm 10 0 0) s m args below meth c H locs 0 0 Q (F0 m 17 ls []) := by
      intro n17
      induction n17 with
      | zero => intro H locs a Y1 ha hn; exact absurd hn (Nat.not_lt_zero _)
      | succ n17 ih17 =>
        intro H locs a Y1 ha hn17 hM hS ls hl
        refine lv_iload hx hb dX2_bestAsks_17 (lv_at hl 0 rfl) ?_
        refine lv_iconst (v := 5) hx hb dX2_bestAsks_19 rfl ?_
        refine g_icmp_gtN (tgt := 63) hx hb a 5 rfl rfl (by omega) (by omega) dX2_bestAsks_20 (by decide) (fun c_20 => ?_) (fun c_20 => ?_)
        · skip
          refine lv_iload_n hx hb dX2_bestAsks_63 rfl (lv_at hl 1 rfl) ?_
          exact hret H locs _ _ _ _ _ dX2_bestAsks_64 hS (Nat.le_refl _) (Nat.le_refl _) (⟨by rw [show a = 6 by omega], _, hM⟩)
        · skip
          have hs := hwk.asks (a := a) (by omega)
          refine lv_aload_n hx hb dX2_bestAsks_23 rfl (lv_at hl 3 rfl) ?_
          refine g_cMV hX hl y_X2_thinks v_X2_thinks q2265 k_X2_thinks (hM.rc hX.2.2.2) hM rfl ⟨Nat.le_of_ble_eq_true rfl, Nat.le_of_ble_eq_true rfl⟩ ⟨Nat.le_refl _, Nat.le_refl _⟩ (rest := []) (st1 := []) rfl rfl (Nat.le_of_ble_eq_true rfl) dX2_bestAsks_24 hS (fun _ h => h) (fun H locs hM hS _ => ?_)
          refine lv_aload_n hx hb dX2_bestAsks_27 rfl (lv_at hl 3 rfl) ?_
          refine g_getM hX hM 1 (by decide) q2164 rfl (v := .ref (ad 1)) rfl dX2_bestAsks_28 ?_
          refine lv_iconst (v := 1) hx hb dX2_bestAsks_31 rfl ?_
          refine lv_iload hx hb dX2_bestAsks_32 (lv_at hl 0 rfl) ?_
          refine g_istX hX hM hS 1 rfl (by omega) (X' := g_up2 X 0 1 (nI a)) (g_flu0 _ (by omega) _) dX2_bestAsks_34 (fun H locs hM hS => ?_)
          refine lv_aload_n hx hb dX2_bestAsks_35 rfl (lv_at hl 3 rfl) ?_
          refine lv_iload_n hx hb dX2_bestAsks_36 rfl (lv_at hl 4 rfl) ?_
          refine g_cMV hX hl y_X2_rightAtEnd v_X2_rightAtEnd q2717 (k_X2_rightAtEnd j (by rw [hs.2]; exact hj) hs.1.1 (s_wk.arv hs.1 (by rw [hs.2]; exact hj))) (hM.rc hX.2.2.2) hM rfl ⟨Nat.le_of_ble_eq_true rfl, Nat.le_of_ble_eq_true rfl⟩ ⟨Nat.le_refl _, Nat.le_refl _⟩ (rest := []) (st1 := [.int (nI (s_rigP (s_endM (g_up2 X 0 1 (nI a)) j)))]) rfl rfl (Nat.le_of_ble_eq_true rfl) dX2_bestAsks_37 hS (fun _ h => h) (fun H locs hM hS _ => ?_)
          refine lv_istore (lv' := [(5, .int (nI (s_rigP (s_endM (g_up2 X 0 1 (nI a)) j)))), (4, .int (nI a)), (2, .int ((s_bst (fun z9 => s_rA X j z9) a).1)), (3, .int ((s_bst (fun z9 => s_rA X j z9) a).2)), (0, .ref (ad 0)), (1, .int (nI j))]) hx hb dX2_bestAsks_40 hl (by decide) rfl (fun ls hl => ?_)
          refine lv_iload hx hb dX2_bestAsks_42 (lv_at hl 0 rfl) ?_
          refine lv_iload_n hx hb dX2_bestAsks_44 rfl (lv_at hl 3 rfl) ?_
          refine lv_icmp_gt (tgt := 51) hx hb dX2_bestAsks_45 (by decide) (fun c_45 => ?_) (fun c_45 => ?_)
          · skip
            refine lv_iload hx hb dX2_bestAsks_51 (lv_at hl 0 rfl) ?_
            refine lv_istore_n (lv' := [(3, .int (nI (s_rigP (s_endM (g_up2 X 0 1 (nI a)) j)))), (5, .int (nI (s_rigP (s_endM (g_up2 X 0 1 (nI a)) j)))), (4, .int (nI a)), (2, .int ((s_bst (fun z9 => s_rA X j z9) a).1)), (0, .ref (ad 0)), (1, .int (nI j))]) hx hb dX2_bestAsks_53 rfl hl (by decide) rfl (fun ls hl => ?_)
            refine lv_iload hx hb dX2_bestAsks_54 (lv_at hl 2 rfl) ?_
            refine lv_istore_n (lv' := [(2, .int (nI a)), (3, .int (nI (s_rigP (s_endM (g_up2 X 0 1 (nI a)) j)))), (5, .int (nI (s_rigP (s_endM (g_up2 X 0 1 (nI a)) j)))), (4, .int (nI a)), (0, .ref (ad 0)), (1, .int (nI j))]) hx hb dX2_bestAsks_56 rfl hl (by decide) rfl (fun ls hl => ?_)
            refine lv_iinc (v := (nI (a + 1))) (lv' := [(4, .int (nI (a + 1))), (2, .int (nI a)), (3, .int (nI (s_rigP (s_endM (g_up2 X 0 1 (nI a)) j)))), (5, .int (nI (s_rigP (s_endM (g_up2 X 0 1 (nI a)) j)))), (0, .ref (ad 0)), (1, .int (nI j))]) hx hb dX2_bestAsks_57 hl (k := 3) rfl (nI_1 _) (by decide) rfl (fun ls hl => ?_)
            refine lv_goto (tgt := 17) hx hb dX2_bestAsks_60 (by decide) ?_
            have e_3 : (nI (s_rigP (s_endM (g_up2 X 0 1 (nI a)) j))) = ((s_bst (fun z9 => s_rA X j z9) (a + 1)).2) := by simp only [s_bst]; grind [s_rA]
            rw [e_3] at hl
            have e_2 : (nI a) = ((s_bst (fun z9 => s_rA X j z9) (a + 1)).1) := by simp only [s_bst]; grind [s_rA]
            rw [e_2] at hl
            exact ih17 H locs (a + 1) X (by omega) (by omega) hM hS ls (lv_sub hl [0, 1, 2, 4, 5] rfl)
          · skip
            refine lv_goto (tgt := 57) hx hb dX2_bestAsks_48 (by decide) ?_
            refine lv_iinc (v := (nI (a + 1))) (lv' := [(4, .int (nI (a + 1))), (5, .int (nI (s_rigP (s_endM (g_up2 X 0 1 (nI a)) j)))), (2, .int ((s_bst (fun z9 => s_rA X j z9) a).1)), (3, .int ((s_bst (fun z9 => s_rA X j z9) a).2)), (0, .ref (ad 0)), (1, .int (nI j))]) hx hb dX2_bestAsks_57 hl (k := 1) rfl (nI_1 _) (by decide) rfl (fun ls hl => ?_)
            refine lv_goto (tgt := 17) hx hb dX2_bestAsks_60 (by decide) ?_
            have e_2 : ((s_bst (fun z9 => s_rA X j z9) a).1) = ((s_bst (fun z9 => s_rA X j z9) (a + 1)).1) := by simp only [s_bst]; grind [s_rA]
            rw [e_2] at hl
            have e_3 : ((s_bst (fun z9 => s_rA X j z9) a).2) = ((s_bst (fun z9 => s_rA X j z9) (a + 1)).2) := by simp only [s_bst]; grind [s_rA]
            rw [e_3] at hl
            exact ih17 H locs (a + 1) X (by omega) (by omega) hM hS ls (lv_sub hl [0, 2, 3, 4, 5] rfl)
    exact L17 (6 - 0 + 1) H locs 0 Y (by omega) (Nat.lt_succ_self _) hM hS ls (lv_sub hl [0, 2, 1, 3, 4] rfl)
  exact key _ _ hM hS

set_option maxHeartbeats 4000000 in
theorem no_X2_bestAsks {G : g_G} {l : Launch} {ad : Nat → Nat} {F : Nat → Int32} {X Y : g_Wd} {U V : Nat → g_Wd} {Z : g_Wd} (t9 : Int32) (v : Int32) (ht9 : ¬ t9 = 0) (hbad : s_may (F 6) (g_b (s_isMsg F X v)) 1 = t9) (hWc : ¬ F 6 = 0 → s_ok X) : g_Md G l yX2_bestAsks cX2_bestAsks 6 (some .int) 3 0 0 [.ref (ad 0), .int v] (g_Mod G ad F X Y U V Z) (g_Qv (some (.int 0)) (g_Mod G ad (upd F 0 t9) X Y U V Z)) (md_A ad) := by
  refine g_Md.ofI (by decide) (fun _ _ _ => rfl) ?_
  intro p e s m args below meth c ls Q hX hM hl hS hret
  have hx := hX.1.1
  have hb := hX.1.2.1
  have hl : lv_has ls 6 [(0, .ref (ad 0)), (1, .int v)] := hl
  have key : ∀ (H : Heap) (locs : List Loc), g_Mod G ad F X Y U V Z H → va_S (md_A ad) s.heap H locs → W p l e (g_rm 3 0 0) s m args below meth c H locs 0 0 Q (F0 m 0 ls []) := by
    intro H locs hM hS
    refine lv_aload_n hx hb dX2_bestAsks_0 rfl (lv_at hl 0 rfl) ?_
    refine lv_iload_n hx hb dX2_bestAsks_1 rfl (lv_at hl 1 rfl) ?_
    refine g_cMV hX hl y_X2_mayMessage v_X2_mayMessage q2636 (k_X2_mayMessage v) (hM.rc hX.2.2.2) hM rfl ⟨Nat.le_of_ble_eq_true rfl, Nat.le_of_ble_eq_true rfl⟩ ⟨Nat.le_refl _, Nat.le_refl _⟩ (rest := []) (st1 := [.int (g_b (decide (s_may (F 6) (g_b (s_isMsg F X v)) 1 = 0)))]) rfl rfl (Nat.le_of_ble_eq_true rfl) dX2_bestAsks_2 hS (fun _ h => h) (fun H locs hM hS _ => ?_)
    have hmy : s_may (F 6) (g_b (s_isMsg F X v)) 1 = t9 := by first | exact hbad | (rw [← hbad]; simp [g_b, g_b]; done) | (rw [← hbad]; simp only [g_b, g_b]; rfl)
    rw [hmy] at hM ⊢
    refine g_if_neB (tgt := 10) hx hb (b := decide (t9 = 0)) rfl dX2_bestAsks_5 (by decide) (fun c_5 => ?_) (fun c_5 => ?_)
    · exact Bool.noConfusion ((decide_eq_false ht9).symm.trans c_5)
    skip
    refine lv_iconst (v := 0) hx hb dX2_bestAsks_8 rfl ?_
    exact hret H locs _ _ _ _ _ dX2_bestAsks_9 hS (Nat.le_refl _) (Nat.le_refl _) (⟨rfl, hM⟩)
  exact key _ _ hM hS

theorem y_X2_copiesIn : g_Y yX2_copiesIn cX2_copiesIn 5 (some .int) 2 := ⟨q2764, by decide +kernel⟩
theorem v_X2_copiesIn : g_YV yX2_copiesIn := ⟨q2762, q2763, q140⟩
set_option maxHeartbeats 4000000 in
theorem ok_X2_copiesIn {G : g_G} {l : Launch} {ad : Nat → Nat} {F : Nat → Int32} {X Y : g_Wd} {U V : Nat → g_Wd} {Z : g_Wd} (h : Nat) (w : Nat) (hF : ¬ F 6 = 0) (hwl : s_wl X) (hwk : s_wk X) (h50 : h ≤ 50) (hw : w < 3) : g_Md G l yX2_copiesIn cX2_copiesIn 5 (some .int) 8 0 0 [.ref (ad 0), .int (nI h), .int (nI w)] (g_Mod G ad F X Y U V Z) (g_Qv (some (.int (x_pH X h 0 (5 + w) - X 0 (5 + w)))) (g_Mod G ad (upd F 0 0) X X U V Z)) (md_A ad) := by
  refine g_Md.ofI (by decide) (fun _ _ _ => rfl) ?_
  intro p e s m args below meth c ls Q hX hM hl hS hret
  have hx := hX.1.1
  have hb := hX.1.2.1
  have hl : lv_has ls 5 [(0, .ref (ad 0)), (1, .int (nI h)), (2, .int (nI w))] := hl
  have key : ∀ (H : Heap) (locs : List Loc), g_Mod G ad F X Y U V Z H → va_S (md_A ad) s.heap H locs → W p l e (g_rm 8 0 0) s m args below meth c H locs 0 0 Q (F0 m 0 ls []) := by
    intro H locs hM hS
    have hW := hwl.1
    have hWc : ¬ F 6 = 0 → s_ok X := fun _ => hW
    have hW9 := hW
    obtain ⟨⟨hL0, hL2, hL6⟩, ⟨hM0, hM6⟩, ⟨hG0, hG40⟩, hok⟩ := hW9
    have hw9 : s_W X ≤ 45 := by unfold s_W; omega
    have hi1 : s_in (nI h) 0 50 = true := s_in_le (show h ≤ 50 by omega) (by decide)
    have hi2 : s_in (nI w) 0 2 = true := s_in_le (show w ≤ 2 by omega) (by decide)
    refine lv_aload_n hx hb dX2_copiesIn_0 rfl (lv_at hl 0 rfl) ?_
    refine lv_aload_n hx hb dX2_copiesIn_1 rfl (lv_at hl 0 rfl) ?_
    refine g_getM hX hM 6 (by decide) q2169 rfl (v := .int (F 6)) rfl dX2_copiesIn_2 ?_
    refine lv_iload_n hx hb dX2_copiesIn_5 rfl (lv_at hl 1 rfl) ?_
    refine lv_iconst (v := 0) hx hb dX2_copiesIn_6 rfl ?_
    refine lv_bipush (v := 50) hx hb dX2_copiesIn_7 (by decide) ?_
    refine g_cRS hX hl y_X2_in v_X2_in q2258 (k_X2_in (nI h) 0 50) trivial rfl ⟨Nat.le_of_ble_eq_true rfl, Nat.le_of_ble_eq_true rfl⟩ ⟨Nat.zero_le _, Nat.zero_le _⟩ (rest := [.int (F 6), .ref (ad 0)]) (st1 := [.int (g_b (s_in (nI h) 0 50)), .int (F 6), .ref (ad 0)]) rfl rfl (Nat.le_of_ble_eq_true rfl) dX2_copiesIn_9 ?_
    refine g_if_eqB (tgt := 28) hx hb (b := s_in (nI h) 0 50) rfl dX2_copiesIn_12 (by decide) (fun c_12 => ?_) (fun c_12 => ?_)
    · exact Bool.noConfusion (hi1.symm.trans c_12)
    skip
    refine lv_iload_n hx hb dX2_copiesIn_15 rfl (lv_at hl 2 rfl) ?_
    refine lv_iconst (v := 0) hx hb dX2_copiesIn_16 rfl ?_
    refine lv_iconst (v := 2) hx hb dX2_copiesIn_17 rfl ?_
    refine g_cRS hX hl y_X2_in v_X2_in q2258 (k_X2_in (nI w) 0 2) trivial rfl ⟨Nat.le_of_ble_eq_true rfl, Nat.le_of_ble_eq_true rfl⟩ ⟨Nat.zero_le _, Nat.zero_le _⟩ (rest := [.int (F 6), .ref (ad 0)]) (st1 := [.int (g_b (s_in (nI w) 0 2)), .int (F 6), .ref (ad 0)]) rfl rfl (Nat.le_of_ble_eq_true rfl) dX2_copiesIn_18 ?_
    refine g_if_eqB (tgt := 28) hx hb (b := s_in (nI w) 0 2) rfl dX2_copiesIn_21 (by decide) (fun c_21 => ?_) (fun c_21 => ?_)
    · exact Bool.noConfusion (hi2.symm.trans c_21)
    skip
    refine lv_iconst (v := 1) hx hb dX2_copiesIn_24 rfl ?_
    refine lv_goto (tgt := 29) hx hb dX2_copiesIn_25 (by decide) ?_
    refine g_cMV hX hl y_X2_mayTwo v_X2_mayTwo q2501 (k_X2_mayTwo (F 6) 1) (hM.rc hX.2.2.2) hM rfl ⟨Nat.le_of_ble_eq_true rfl, Nat.le_of_ble_eq_true rfl⟩ ⟨Nat.le_refl _, Nat.le_refl _⟩ (rest := []) (st1 := [.int (g_b (decide (s_may (F 6) 1 1 = 0)))]) rfl rfl (Nat.le_of_ble_eq_true rfl) dX2_copiesIn_29 hS (fun _ h => h) (fun H locs hM hS _ => ?_)
    have hmy : s_may (F 6) 1 1 = 0 := s_may_ok hF (by decide) (by decide)
    rw [hmy] at hM ⊢
    refine g_if_neB (tgt := 37) hx hb (b := decide ((0 : Int32) = 0)) rfl dX2_copiesIn_32 (by decide) (fun c_32 => ?_) (fun c_32 => ?_)
    rotate_left
    · exact Bool.noConfusion ((rfl : decide ((0 : Int32) = 0) = true).symm.trans c_32)
    refine lv_aload_n hx hb dX2_copiesIn_37 rfl (lv_at hl 0 rfl) ?_
    refine g_getM hX hM 1 (by decide) q2164 rfl (v := .ref (ad 1)) rfl dX2_copiesIn_38 ?_
    refine lv_iconst (v := 5) hx hb dX2_copiesIn_41 rfl ?_
    refine lv_iload_n hx hb dX2_copiesIn_42 rfl (lv_at hl 2 rfl) ?_
    refine g_iaddN hx hb 5 w rfl rfl dX2_copiesIn_43 ?_
    refine g_iald hX hM.a1 (5 + w) rfl (by omega) (by decide) (v := (X 0 (5 + w))) (g_fl0 _ (by omega)) dX2_copiesIn_44 ?_
    refine lv_istore_n (lv' := [(3, .int (X 0 (5 + w))), (0, .ref (ad 0)), (1, .int (nI h)), (2, .int (nI w))]) hx hb dX2_copiesIn_45 rfl hl (by decide) rfl (fun ls hl => ?_)
    refine lv_aload_n hx hb dX2_copiesIn_46 rfl (lv_at hl 1 rfl) ?_
    refine g_cMV hX hl y_X2_thinks v_X2_thinks q2265 k_X2_thinks (hM.rc hX.2.2.2) hM rfl ⟨Nat.le_of_ble_eq_true rfl, Nat.le_of_ble_eq_true rfl⟩ ⟨Nat.le_refl _, Nat.le_refl _⟩ (rest := []) (st1 := []) rfl rfl (Nat.le_of_ble_eq_true rfl) dX2_copiesIn_47 hS (fun _ h => h) (fun H locs hM hS _ => ?_)
    refine lv_aload_n hx hb dX2_copiesIn_50 rfl (lv_at hl 1 rfl) ?_
    refine lv_iload_n hx hb dX2_copiesIn_51 rfl (lv_at hl 2 rfl) ?_
    refine g_cMV hX hl y_X2_passes v_X2_passes q2374 (k_X2_passes h hwl (by omega)) (hM.rc hX.2.2.2) hM rfl ⟨Nat.le_of_ble_eq_true rfl, Nat.le_of_ble_eq_true rfl⟩ ⟨Nat.le_refl _, Nat.le_refl _⟩ (rest := []) (st1 := [.int (nI (s_arrd (x_pH X h)) - nI (s_arrd X))]) rfl rfl (Nat.le_of_ble_eq_true rfl) dX2_copiesIn_52 hS (fun _ h => h) (fun H locs hM hS _ => ?_)
    refine lv_istore (lv' := [(4, .int (nI (s_arrd (x_pH X h)) - nI (s_arrd X))), (3, .int (X 0 (5 + w))), (0, .ref (ad 0)), (1, .int (nI h)), (2, .int (nI w))]) hx hb dX2_copiesIn_55 hl (by decide) rfl (fun ls hl => ?_)
    refine lv_aload_n hx hb dX2_copiesIn_57 rfl (lv_at hl 2 rfl) ?_
    refine lv_aload_n hx hb dX2_copiesIn_58 rfl (lv_at hl 2 rfl) ?_
    refine g_getM hX hM 1 (by decide) q2164 rfl (v := .ref (ad 1)) rfl dX2_copiesIn_59 ?_
    refine lv_iconst (v := 5) hx hb dX2_copiesIn_62 rfl ?_
    refine lv_iload_n hx hb dX2_copiesIn_63 rfl (lv_at hl 4 rfl) ?_
    refine g_iaddN hx hb 5 w rfl rfl dX2_copiesIn_64 ?_
    refine g_iald hX hM.a1 (5 + w) rfl (by omega) (by decide) (v := ((x_pH X h) 0 (5 + w))) (g_fl0 _ (by omega)) dX2_copiesIn_65 ?_
    refine lv_iload_n hx hb dX2_copiesIn_66 rfl (lv_at hl 1 rfl) ?_
    refine lv_isub hx hb dX2_copiesIn_67 ?_
    refine g_cMV hX hl y_X2_back v_X2_back q2493 (k_X2_back (((x_pH X h) 0 (5 + w)) - (X 0 (5 + w)))) (hM.rc hX.2.2.2) hM rfl ⟨Nat.le_of_ble_eq_true rfl, Nat.le_of_ble_eq_true rfl⟩ ⟨Nat.le_refl _, Nat.le_refl _⟩ (rest := []) (st1 := [.int (((x_pH X h) 0 (5 + w)) - (X 0 (5 + w)))]) rfl rfl (Nat.le_of_ble_eq_true rfl) dX2_copiesIn_68 hS (fun _ h => h) (fun H locs hM hS _ => ?_)
    exact hret H locs _ _ _ _ _ dX2_copiesIn_71 hS (Nat.le_refl _) (Nat.le_refl _) (⟨rfl, hM⟩)
  exact key _ _ hM hS

set_option maxHeartbeats 4000000 in
theorem no_X2_copiesIn {G : g_G} {l : Launch} {ad : Nat → Nat} {F : Nat → Int32} {X Y : g_Wd} {U V : Nat → g_Wd} {Z : g_Wd} (t9 : Int32) (h : Int32) (w : Int32) (ht9 : ¬ t9 = 0) (hbad : s_may (F 6) (g_b (s_in h 0 50 && s_in w 0 2)) 1 = t9) (hWc : ¬ F 6 = 0 → s_ok X) : g_Md G l yX2_copiesIn cX2_copiesIn 5 (some .int) 2 0 0 [.ref (ad 0), .int h, .int w] (g_Mod G ad F X Y U V Z) (g_Qv (some (.int 0)) (g_Mod G ad (upd F 0 t9) X Y U V Z)) (md_A ad) := by
  refine g_Md.ofI (by decide) (fun _ _ _ => rfl) ?_
  intro p e s m args below meth c ls Q hX hM hl hS hret
  have hx := hX.1.1
  have hb := hX.1.2.1
  have hl : lv_has ls 5 [(0, .ref (ad 0)), (1, .int h), (2, .int w)] := hl
  have key : ∀ (H : Heap) (locs : List Loc), g_Mod G ad F X Y U V Z H → va_S (md_A ad) s.heap H locs → W p l e (g_rm 2 0 0) s m args below meth c H locs 0 0 Q (F0 m 0 ls []) := by
    intro H locs hM hS
    refine lv_aload_n hx hb dX2_copiesIn_0 rfl (lv_at hl 0 rfl) ?_
    refine lv_aload_n hx hb dX2_copiesIn_1 rfl (lv_at hl 0 rfl) ?_
    refine g_getM hX hM 6 (by decide) q2169 rfl (v := .int (F 6)) rfl dX2_copiesIn_2 ?_
    refine lv_iload_n hx hb dX2_copiesIn_5 rfl (lv_at hl 1 rfl) ?_
    refine lv_iconst (v := 0) hx hb dX2_copiesIn_6 rfl ?_
    refine lv_bipush (v := 50) hx hb dX2_copiesIn_7 (by decide) ?_
    refine g_cRS hX hl y_X2_in v_X2_in q2258 (k_X2_in h 0 50) trivial rfl ⟨Nat.le_of_ble_eq_true rfl, Nat.le_of_ble_eq_true rfl⟩ ⟨Nat.zero_le _, Nat.zero_le _⟩ (rest := [.int (F 6), .ref (ad 0)]) (st1 := [.int (g_b (s_in h 0 50)), .int (F 6), .ref (ad 0)]) rfl rfl (Nat.le_of_ble_eq_true rfl) dX2_copiesIn_9 ?_
    refine g_if_eqB (tgt := 28) hx hb (b := s_in h 0 50) rfl dX2_copiesIn_12 (by decide) (fun c_12 => ?_) (fun c_12 => ?_)
    · skip
      refine lv_iconst (v := 0) hx hb dX2_copiesIn_28 rfl ?_
      refine g_cMV hX hl y_X2_mayTwo v_X2_mayTwo q2501 (k_X2_mayTwo (F 6) 0) (hM.rc hX.2.2.2) hM rfl ⟨Nat.le_of_ble_eq_true rfl, Nat.le_of_ble_eq_true rfl⟩ ⟨Nat.le_refl _, Nat.le_refl _⟩ (rest := []) (st1 := [.int (g_b (decide (s_may (F 6) 0 1 = 0)))]) rfl rfl (Nat.le_of_ble_eq_true rfl) dX2_copiesIn_29 hS (fun _ h => h) (fun H locs hM hS _ => ?_)
      have hmy : s_may (F 6) 0 1 = t9 := by first | exact hbad | (rw [← hbad]; simp [g_b, c_12]; done) | (rw [← hbad]; simp only [g_b, c_12]; rfl)
      rw [hmy] at hM ⊢
      refine g_if_neB (tgt := 37) hx hb (b := decide (t9 = 0)) rfl dX2_copiesIn_32 (by decide) (fun c_32 => ?_) (fun c_32 => ?_)
      · exact Bool.noConfusion ((decide_eq_false ht9).symm.trans c_32)
      skip
      refine lv_iconst (v := 0) hx hb dX2_copiesIn_35 rfl ?_
      exact hret H locs _ _ _ _ _ dX2_copiesIn_36 hS (Nat.le_refl _) (Nat.le_refl _) (⟨rfl, hM⟩)
    · skip
      refine lv_iload_n hx hb dX2_copiesIn_15 rfl (lv_at hl 2 rfl) ?_
      refine lv_iconst (v := 0) hx hb dX2_copiesIn_16 rfl ?_
      refine lv_iconst (v := 2) hx hb dX2_copiesIn_17 rfl ?_
      refine g_cRS hX hl y_X2_in v_X2_in q2258 (k_X2_in w 0 2) trivial rfl ⟨Nat.le_of_ble_eq_true rfl, Nat.le_of_ble_eq_true rfl⟩ ⟨Nat.zero_le _, Nat.zero_le _⟩ (rest := [.int (F 6), .ref (ad 0)]) (st1 := [.int (g_b (s_in w 0 2)), .int (F 6), .ref (ad 0)]) rfl rfl (Nat.le_of_ble_eq_true rfl) dX2_copiesIn_18 ?_
      refine g_if_eqB (tgt := 28) hx hb (b := s_in w 0 2) rfl dX2_copiesIn_21 (by decide) (fun c_21 => ?_) (fun c_21 => ?_)
      · skip
        refine lv_iconst (v := 0) hx hb dX2_copiesIn_28 rfl ?_
        refine g_cMV hX hl y_X2_mayTwo v_X2_mayTwo q2501 (k_X2_mayTwo (F 6) 0) (hM.rc hX.2.2.2) hM rfl ⟨Nat.le_of_ble_eq_true rfl, Nat.le_of_ble_eq_true rfl⟩ ⟨Nat.le_refl _, Nat.le_refl _⟩ (rest := []) (st1 := [.int (g_b (decide (s_may (F 6) 0 1 = 0)))]) rfl rfl (Nat.le_of_ble_eq_true rfl) dX2_copiesIn_29 hS (fun _ h => h) (fun H locs hM hS _ => ?_)
        have hmy : s_may (F 6) 0 1 = t9 := by first | exact hbad | (rw [← hbad]; simp [g_b, c_12, c_21]; done) | (rw [← hbad]; simp only [g_b, c_12, c_21]; rfl)
        rw [hmy] at hM ⊢
        refine g_if_neB (tgt := 37) hx hb (b := decide (t9 = 0)) rfl dX2_copiesIn_32 (by decide) (fun c_32 => ?_) (fun c_32 => ?_)
        · exact Bool.noConfusion ((decide_eq_false ht9).symm.trans c_32)
        skip
        refine lv_iconst (v := 0) hx hb dX2_copiesIn_35 rfl ?_
        exact hret H locs _ _ _ _ _ dX2_copiesIn_36 hS (Nat.le_refl _) (Nat.le_refl _) (⟨rfl, hM⟩)
      · skip
        refine lv_iconst (v := 1) hx hb dX2_copiesIn_24 rfl ?_
        refine lv_goto (tgt := 29) hx hb dX2_copiesIn_25 (by decide) ?_
        refine g_cMV hX hl y_X2_mayTwo v_X2_mayTwo q2501 (k_X2_mayTwo (F 6) 1) (hM.rc hX.2.2.2) hM rfl ⟨Nat.le_of_ble_eq_true rfl, Nat.le_of_ble_eq_true rfl⟩ ⟨Nat.le_refl _, Nat.le_refl _⟩ (rest := []) (st1 := [.int (g_b (decide (s_may (F 6) 1 1 = 0)))]) rfl rfl (Nat.le_of_ble_eq_true rfl) dX2_copiesIn_29 hS (fun _ h => h) (fun H locs hM hS _ => ?_)
        have hmy : s_may (F 6) 1 1 = t9 := by first | exact hbad | (rw [← hbad]; simp [g_b, c_12, c_21]; done) | (rw [← hbad]; simp only [g_b, c_12, c_21]; rfl)
        rw [hmy] at hM ⊢
        refine g_if_neB (tgt := 37) hx hb (b := decide (t9 = 0)) rfl dX2_copiesIn_32 (by decide) (fun c_32 => ?_) (fun c_32 => ?_)
        · exact Bool.noConfusion ((decide_eq_false ht9).symm.trans c_32)
        skip
        refine lv_iconst (v := 0) hx hb dX2_copiesIn_35 rfl ?_
        exact hret H locs _ _ _ _ _ dX2_copiesIn_36 hS (Nat.le_refl _) (Nat.le_refl _) (⟨rfl, hM⟩)
  exact key _ _ hM hS

theorem y_X2_bestCut : g_Y yX2_bestCut cX2_bestCut 6 (some .int) 1 := ⟨q2768, by decide +kernel⟩
theorem v_X2_bestCut : g_YV yX2_bestCut := ⟨q2766, q2767, q140⟩
set_option maxHeartbeats 4000000 in
theorem ok_X2_bestCut {G : g_G} {l : Launch} {ad : Nat → Nat} {F : Nat → Int32} {X Y : g_Wd} {U V : Nat → g_Wd} {Z : g_Wd} (j : Nat) (hF : ¬ F 6 = 0) (hwl : s_wl X) (hwk : s_wk X) (hj : j < s_M X) : g_Md G l yX2_bestCut cX2_bestCut 6 (some .int) 11 0 0 [.ref (ad 0), .int (nI j)] (g_Mod G ad F X Y U V Z) (g_Qv (some (.int ((s_bst (fun w => s_rC X j w) (s_W X)).1))) (fun H9 => ∃ Y1 : g_Wd, g_Mod G ad (upd F 0 0) X Y1 U V Z H9)) (md_A ad) := by
  refine g_Md.ofI (by decide) (fun _ _ _ => rfl) ?_
  intro p e s m args below meth c ls Q hX hM hl hS hret
  have hx := hX.1.1
  have hb := hX.1.2.1
  have hl : lv_has ls 6 [(0, .ref (ad 0)), (1, .int (nI j))] := hl
  have key : ∀ (H : Heap) (locs : List Loc), g_Mod G ad F X Y U V Z H → va_S (md_A ad) s.heap H locs → W p l e (g_rm 11 0 0) s m args below meth c H locs 0 0 Q (F0 m 0 ls []) := by
    intro H locs hM hS
    have hW := hwl.1
    have hWc : ¬ F 6 = 0 → s_ok X := fun _ => hW
    have hW9 := hW
    obtain ⟨⟨hL0, hL2, hL6⟩, ⟨hM0, hM6⟩, ⟨hG0, hG40⟩, hok⟩ := hW9
    have hw9 : s_W X ≤ 45 := by unfold s_W; omega
    have hmsg := s_isMsg_ok hF hW hj
    have ho := hok j hj
    have hL := ho.2
    have hj6 : j < 6 := by omega
    have hb1 : s_bst (fun z9 => s_rC X j z9) 1 = (0, s_rC X j 0) := s_bst_1 (n := s_rigP (s_endM (g_up2 X 1 (5 * 0 + 2) 1) j)) rfl (by have h1 := s_rigP_le (hwk.r1 (k := 5 * 0 + 2) (v := 1)).1 (m := j) (by rw [(hwk.r1 (k := 5 * 0 + 2) (v := 1)).2]; exact hj); omega)
    refine lv_aload_n hx hb dX2_bestCut_0 rfl (lv_at hl 0 rfl) ?_
    refine lv_iload_n hx hb dX2_bestCut_1 rfl (lv_at hl 1 rfl) ?_
    refine g_cMV hX hl y_X2_mayMessage v_X2_mayMessage q2636 (k_X2_mayMessage (nI j)) (hM.rc hX.2.2.2) hM rfl ⟨Nat.le_of_ble_eq_true rfl, Nat.le_of_ble_eq_true rfl⟩ ⟨Nat.le_refl _, Nat.le_refl _⟩ (rest := []) (st1 := [.int (g_b (decide (s_may (F 6) (g_b (s_isMsg F X (nI j))) 1 = 0)))]) rfl rfl (Nat.le_of_ble_eq_true rfl) dX2_bestCut_2 hS (fun _ h => h) (fun H locs hM hS _ => ?_)
    have hmy : s_may (F 6) (g_b (s_isMsg F X (nI j))) 1 = 0 := s_may_ok hF (g_b_ne hmsg) (by decide)
    rw [hmy] at hM ⊢
    refine g_if_neB (tgt := 10) hx hb (b := decide ((0 : Int32) = 0)) rfl dX2_bestCut_5 (by decide) (fun c_5 => ?_) (fun c_5 => ?_)
    rotate_left
    · exact Bool.noConfusion ((rfl : decide ((0 : Int32) = 0) = true).symm.trans c_5)
    refine lv_iconst (v := 0) hx hb dX2_bestCut_10 rfl ?_
    refine lv_istore_n (lv' := [(2, .int 0), (0, .ref (ad 0)), (1, .int (nI j))]) hx hb dX2_bestCut_11 rfl hl (by decide) rfl (fun ls hl => ?_)
    refine lv_aload_n hx hb dX2_bestCut_12 rfl (lv_at hl 1 rfl) ?_
    refine lv_iload_n hx hb dX2_bestCut_13 rfl (lv_at hl 2 rfl) ?_
    refine lv_iconst (v := 0) hx hb dX2_bestCut_14 rfl ?_
    refine g_cMV hX hl y_X2_rightCut v_X2_rightCut q2769 (k_X2_rightCut j 0 hj hwk (by omega)) (hM.rc hX.2.2.2) hM rfl ⟨Nat.le_of_ble_eq_true rfl, Nat.le_of_ble_eq_true rfl⟩ ⟨Nat.le_refl _, Nat.le_refl _⟩ (rest := []) (st1 := [.int (s_rC X j 0)]) rfl rfl (Nat.le_of_ble_eq_true rfl) dX2_bestCut_15 hS (fun _ h => h) (fun H locs hM hS _ => ?_)
    refine lv_istore_n (lv' := [(3, .int (s_rC X j 0)), (2, .int 0), (0, .ref (ad 0)), (1, .int (nI j))]) hx hb dX2_bestCut_18 rfl hl (by decide) rfl (fun ls hl => ?_)
    refine lv_iconst (v := 1) hx hb dX2_bestCut_19 rfl ?_
    refine lv_istore (lv' := [(4, .int 1), (3, .int (s_rC X j 0)), (2, .int 0), (0, .ref (ad 0)), (1, .int (nI j))]) hx hb dX2_bestCut_20 hl (by decide) rfl (fun ls hl => ?_)
    have L22 : ∀ (nf : Nat) (H : Heap) (locs : List Loc) (a : Nat) (Y1 : g_Wd), (1 ≤ a) → (a ≤ 9 * (s_L X - 1)) → (9 * (s_L X - 1) - a < nf) → (g_Mod G ad (upd F 0 0) X Y1 U V Z H) → va_S (md_A ad) s.heap H locs → ∀ ls : Array Slot, lv_has ls 6 [(4, .int (nI a)), (2, .int ((s_bst (fun z9 => s_rC X j z9) a).1)), (3, .int ((s_bst (fun z9 => s_rC X j z9) a).2)), (0, .ref (ad 0)), (1, .int (nI j))] → W p l e (g_rm 11 0 0) s m args below meth c H locs 0 0 Q (F0 m 22 ls []) := by
      intro n22
      induction n22 with
      | zero => intro H locs a Y1 ha1 ha hn; exact absurd hn (Nat.not_lt_zero _)
      | succ n22 ih22 =>
        intro H locs a Y1 ha1 ha hn22 hM hS ls hl
        refine lv_iload hx hb dX2_bestCut_22 (lv_at hl 0 rfl) ?_
        refine lv_bipush (v := 9) hx hb dX2_bestCut_24 (by decide) ?_
        refine lv_aload_n hx hb dX2_bestCut_26 rfl (lv_at hl 3 rfl) ?_
        refine g_cRV hX hl y_X2_lastLevel v_X2_lastLevel q2440 (k_X2_lastLevel hW) (hM.rc hX.2.2.2) hM rfl ⟨Nat.le_of_ble_eq_true rfl, Nat.le_of_ble_eq_true rfl⟩ ⟨Nat.zero_le _, Nat.zero_le _⟩ (rest := [.int 9, .int (nI a)]) (st1 := [.int (nI (s_L X - 1)), .int 9, .int (nI a)]) rfl rfl (Nat.le_of_ble_eq_true rfl) dX2_bestCut_27 ?_
        refine g_imulN hx hb 9 (s_L X - 1) rfl rfl dX2_bestCut_30 ?_
        refine g_icmp_geN (tgt := 64) hx hb a (9 * (s_L X - 1)) rfl rfl (by omega) (by omega) dX2_bestCut_31 (by decide) (fun c_31 => ?_) (fun c_31 => ?_)
        · skip
          refine lv_iload_n hx hb dX2_bestCut_64 rfl (lv_at hl 1 rfl) ?_
          exact hret H locs _ _ _ _ _ dX2_bestCut_65 hS (Nat.le_refl _) (Nat.le_refl _) (⟨by rw [show a = s_W X by unfold s_W; omega], _, hM⟩)
        · skip
          refine lv_aload_n hx hb dX2_bestCut_34 rfl (lv_at hl 3 rfl) ?_
          refine lv_iload_n hx hb dX2_bestCut_35 rfl (lv_at hl 4 rfl) ?_
          refine lv_iload hx hb dX2_bestCut_36 (lv_at hl 0 rfl) ?_
          refine g_cMV hX hl y_X2_rightCut v_X2_rightCut q2769 (k_X2_rightCut j a hj hwk (by omega)) (hM.rc hX.2.2.2) hM rfl ⟨Nat.le_of_ble_eq_true rfl, Nat.le_of_ble_eq_true rfl⟩ ⟨Nat.le_refl _, Nat.le_refl _⟩ (rest := []) (st1 := [.int (s_rC X j a)]) rfl rfl (Nat.le_of_ble_eq_true rfl) dX2_bestCut_38 hS (fun _ h => h) (fun H locs hM hS _ => ?_)
          refine lv_istore (lv' := [(5, .int (s_rC X j a)), (4, .int (nI a)), (2, .int ((s_bst (fun z9 => s_rC X j z9) a).1)), (3, .int ((s_bst (fun z9 => s_rC X j z9) a).2)), (0, .ref (ad 0)), (1, .int (nI j))]) hx hb dX2_bestCut_41 hl (by decide) rfl (fun ls hl => ?_)
          refine lv_iload hx hb dX2_bestCut_43 (lv_at hl 0 rfl) ?_
          refine lv_iload_n hx hb dX2_bestCut_45 rfl (lv_at hl 3 rfl) ?_
          refine lv_icmp_gt (tgt := 52) hx hb dX2_bestCut_46 (by decide) (fun c_46 => ?_) (fun c_46 => ?_)
          · skip
            refine lv_iload hx hb dX2_bestCut_52 (lv_at hl 0 rfl) ?_
            refine lv_istore_n (lv' := [(3, .int (s_rC X j a)), (5, .int (s_rC X j a)), (4, .int (nI a)), (2, .int ((s_bst (fun z9 => s_rC X j z9) a).1)), (0, .ref (ad 0)), (1, .int (nI j))]) hx hb dX2_bestCut_54 rfl hl (by decide) rfl (fun ls hl => ?_)
            refine lv_iload hx hb dX2_bestCut_55 (lv_at hl 2 rfl) ?_
            refine lv_istore_n (lv' := [(2, .int (nI a)), (3, .int (s_rC X j a)), (5, .int (s_rC X j a)), (4, .int (nI a)), (0, .ref (ad 0)), (1, .int (nI j))]) hx hb dX2_bestCut_57 rfl hl (by decide) rfl (fun ls hl => ?_)
            refine lv_iinc (v := (nI (a + 1))) (lv' := [(4, .int (nI (a + 1))), (2, .int (nI a)), (3, .int (s_rC X j a)), (5, .int (s_rC X j a)), (0, .ref (ad 0)), (1, .int (nI j))]) hx hb dX2_bestCut_58 hl (k := 3) rfl (nI_1 _) (by decide) rfl (fun ls hl => ?_)
            refine lv_goto (tgt := 22) hx hb dX2_bestCut_61 (by decide) ?_
            have e_3 : (s_rC X j a) = ((s_bst (fun z9 => s_rC X j z9) (a + 1)).2) := by simp only [s_bst]; grind
            rw [e_3] at hl
            have e_2 : (nI a) = ((s_bst (fun z9 => s_rC X j z9) (a + 1)).1) := by simp only [s_bst]; grind
            rw [e_2] at hl
            exact ih22 H locs (a + 1) X (by omega) (by omega) (by omega) hM hS ls (lv_sub hl [0, 1, 2, 4, 5] rfl)
          · skip
            refine lv_goto (tgt := 58) hx hb dX2_bestCut_49 (by decide) ?_
            refine lv_iinc (v := (nI (a + 1))) (lv' := [(4, .int (nI (a + 1))), (5, .int (s_rC X j a)), (2, .int ((s_bst (fun z9 => s_rC X j z9) a).1)), (3, .int ((s_bst (fun z9 => s_rC X j z9) a).2)), (0, .ref (ad 0)), (1, .int (nI j))]) hx hb dX2_bestCut_58 hl (k := 1) rfl (nI_1 _) (by decide) rfl (fun ls hl => ?_)
            refine lv_goto (tgt := 22) hx hb dX2_bestCut_61 (by decide) ?_
            have e_2 : ((s_bst (fun z9 => s_rC X j z9) a).1) = ((s_bst (fun z9 => s_rC X j z9) (a + 1)).1) := by simp only [s_bst]; grind
            rw [e_2] at hl
            have e_3 : ((s_bst (fun z9 => s_rC X j z9) a).2) = ((s_bst (fun z9 => s_rC X j z9) (a + 1)).2) := by simp only [s_bst]; grind
            rw [e_3] at hl
            exact ih22 H locs (a + 1) X (by omega) (by omega) (by omega) hM hS ls (lv_sub hl [0, 2, 3, 4, 5] rfl)
    exact L22 (9 * (s_L X - 1) - 1 + 1) H locs 1 X (by omega) (by omega) (Nat.lt_succ_self _) hM hS ls (by rw [hb1]; exact lv_sub hl [0, 2, 1, 3, 4] rfl)
  exact key _ _ hM hS

set_option maxHeartbeats 4000000 in
theorem no_X2_bestCut {G : g_G} {l : Launch} {ad : Nat → Nat} {F : Nat → Int32} {X Y : g_Wd} {U V : Nat → g_Wd} {Z : g_Wd} (t9 : Int32) (v : Int32) (ht9 : ¬ t9 = 0) (hbad : s_may (F 6) (g_b (s_isMsg F X v)) 1 = t9) (hWc : ¬ F 6 = 0 → s_ok X) : g_Md G l yX2_bestCut cX2_bestCut 6 (some .int) 3 0 0 [.ref (ad 0), .int v] (g_Mod G ad F X Y U V Z) (g_Qv (some (.int 0)) (g_Mod G ad (upd F 0 t9) X Y U V Z)) (md_A ad) := by
  refine g_Md.ofI (by decide) (fun _ _ _ => rfl) ?_
  intro p e s m args below meth c ls Q hX hM hl hS hret
  have hx := hX.1.1
  have hb := hX.1.2.1
  have hl : lv_has ls 6 [(0, .ref (ad 0)), (1, .int v)] := hl
  have key : ∀ (H : Heap) (locs : List Loc), g_Mod G ad F X Y U V Z H → va_S (md_A ad) s.heap H locs → W p l e (g_rm 3 0 0) s m args below meth c H locs 0 0 Q (F0 m 0 ls []) := by
    intro H locs hM hS
    refine lv_aload_n hx hb dX2_bestCut_0 rfl (lv_at hl 0 rfl) ?_
    refine lv_iload_n hx hb dX2_bestCut_1 rfl (lv_at hl 1 rfl) ?_
    refine g_cMV hX hl y_X2_mayMessage v_X2_mayMessage q2636 (k_X2_mayMessage v) (hM.rc hX.2.2.2) hM rfl ⟨Nat.le_of_ble_eq_true rfl, Nat.le_of_ble_eq_true rfl⟩ ⟨Nat.le_refl _, Nat.le_refl _⟩ (rest := []) (st1 := [.int (g_b (decide (s_may (F 6) (g_b (s_isMsg F X v)) 1 = 0)))]) rfl rfl (Nat.le_of_ble_eq_true rfl) dX2_bestCut_2 hS (fun _ h => h) (fun H locs hM hS _ => ?_)
    have hmy : s_may (F 6) (g_b (s_isMsg F X v)) 1 = t9 := by first | exact hbad | (rw [← hbad]; simp [g_b, g_b]; done) | (rw [← hbad]; simp only [g_b, g_b]; rfl)
    rw [hmy] at hM ⊢
    refine g_if_neB (tgt := 10) hx hb (b := decide (t9 = 0)) rfl dX2_bestCut_5 (by decide) (fun c_5 => ?_) (fun c_5 => ?_)
    · exact Bool.noConfusion ((decide_eq_false ht9).symm.trans c_5)
    skip
    refine lv_iconst (v := 0) hx hb dX2_bestCut_8 rfl ?_
    exact hret H locs _ _ _ _ _ dX2_bestCut_9 hS (Nat.le_refl _) (Nat.le_refl _) (⟨rfl, hM⟩)
  exact key _ _ hM hS

theorem y_X2_rightBehind : g_Y yX2_rightBehind cX2_rightBehind 6 (some .int) 3 := ⟨q2780, by decide +kernel⟩
theorem v_X2_rightBehind : g_YV yX2_rightBehind := ⟨q2779, qs126, q140⟩
set_option maxHeartbeats 4000000 in
theorem k_X2_rightBehind {G : g_G} {l : Launch} {ad : Nat → Nat} {F : Nat → Int32} {X Y : g_Wd} {U V : Nat → g_Wd} {Z : g_Wd} (d : Int32) (len : Nat) (h : Nat) (hwk : s_wk X) (hl1 : 1 ≤ len) (hl12 : len ≤ 12) (h20 : h ≤ 20) : g_Md G l yX2_rightBehind cX2_rightBehind 6 (some .int) 10 0 0 [.ref (ad 0), .int d, .int (nI len), .int (nI h)] (g_Mod G ad F X Y U V Z) (g_Qv (some (.int (s_rS X d len h))) (g_Mod G ad F X X U V Z)) (md_A ad) := by
  refine g_Md.ofI (by decide) (fun _ _ _ => rfl) ?_
  intro p e s m args below meth c ls Q hX hM hl hS hret
  have hx := hX.1.1
  have hb := hX.1.2.1
  have hl : lv_has ls 6 [(0, .ref (ad 0)), (1, .int d), (2, .int (nI len)), (3, .int (nI h))] := hl
  have key : ∀ (H : Heap) (locs : List Loc), g_Mod G ad F X Y U V Z H → va_S (md_A ad) s.heap H locs → W p l e (g_rm 10 0 0) s m args below meth c H locs 0 0 Q (F0 m 0 ls []) := by
    intro H locs hM hS
    have hb0 := hwk.bh0 (h0 := h) (by omega)
    have hm0 := x_bh0_M (X := X) (h := h)
    have hb1 := hb0.beg (len := len) (by omega) (by omega)
    have hb2 := x_beg_3 (X := x_bh0 X h) (len := nI len) (by omega)
    refine lv_aload_n hx hb dX2_rightBehind_0 rfl (lv_at hl 0 rfl) ?_
    refine g_cMV hX hl y_X2_thinks v_X2_thinks q2265 k_X2_thinks (hM.rc hX.2.2.2) hM rfl ⟨Nat.le_of_ble_eq_true rfl, Nat.le_of_ble_eq_true rfl⟩ ⟨Nat.le_refl _, Nat.le_refl _⟩ (rest := []) (st1 := []) rfl rfl (Nat.le_of_ble_eq_true rfl) dX2_rightBehind_1 hS (fun _ h => h) (fun H locs hM hS _ => ?_)
    refine lv_aload_n hx hb dX2_rightBehind_4 rfl (lv_at hl 0 rfl) ?_
    refine g_getM hX hM 1 (by decide) q2164 rfl (v := .ref (ad 1)) rfl dX2_rightBehind_5 ?_
    refine lv_iconst (v := 3) hx hb dX2_rightBehind_8 rfl ?_
    refine lv_iconst (v := 0) hx hb dX2_rightBehind_9 rfl ?_
    refine g_istX hX hM hS 3 rfl (by omega) (X' := g_up2 X 0 3 0) (g_flu0 _ (by omega) _) dX2_rightBehind_10 (fun H locs hM hS => ?_)
    refine lv_aload_n hx hb dX2_rightBehind_11 rfl (lv_at hl 0 rfl) ?_
    refine g_getM hX hM 1 (by decide) q2164 rfl (v := .ref (ad 1)) rfl dX2_rightBehind_12 ?_
    refine lv_iconst (v := 2) hx hb dX2_rightBehind_15 rfl ?_
    refine lv_dup2_11 hx hb dX2_rightBehind_16 rfl rfl ?_
    refine g_iald hX hM.a1 2 rfl (by omega) (by decide) (v := ((g_up2 X 0 3 0) 0 2)) rfl dX2_rightBehind_17 ?_
    refine g_topi (y := X 0 2) (by simp [g_up2]) ?_
    refine lv_iload_n hx hb dX2_rightBehind_18 rfl (lv_at hl 3 rfl) ?_
    refine lv_iadd hx hb dX2_rightBehind_19 ?_
    refine g_istX hX hM hS 2 rfl (by omega) (X' := g_up2 (g_up2 X 0 3 0) 0 2 ((X 0 2) + (nI h))) (g_flu0 _ (by omega) _) dX2_rightBehind_20 (fun H locs hM hS => ?_)
    refine lv_aload_n hx hb dX2_rightBehind_21 rfl (lv_at hl 0 rfl) ?_
    refine lv_iload_n hx hb dX2_rightBehind_22 rfl (lv_at hl 2 rfl) ?_
    refine g_cMV hX hl y_X2_begins v_X2_begins q2349 (k_X2_begins (nI len) (by show x_bh0 X h 0 3 = nI (s_M (x_bh0 X h)); rw [hm0.1]; exact hm0.2) (by show s_M (x_bh0 X h) < 6; omega)) (hM.rc hX.2.2.2) hM rfl ⟨Nat.le_of_ble_eq_true rfl, Nat.le_of_ble_eq_true rfl⟩ ⟨Nat.le_refl _, Nat.le_refl _⟩ (rest := []) (st1 := [.int (nI (s_M (g_up2 (g_up2 X 0 3 0) 0 2 ((X 0 2) + (nI h)))))]) rfl rfl (Nat.le_of_ble_eq_true rfl) dX2_rightBehind_23 hS (fun _ h => h) (fun H locs hM hS _ => ?_)
    refine g_topi (y := nI 0) (by show nI (s_M (x_bh0 X h)) = nI 0; rw [hm0.1]) ?_
    refine lv_istore (lv' := [(4, .int (nI 0)), (0, .ref (ad 0)), (1, .int d), (2, .int (nI len)), (3, .int (nI h))]) hx hb dX2_rightBehind_26 hl (by decide) rfl (fun ls hl => ?_)
    refine lv_iconst (v := 0) hx hb dX2_rightBehind_28 rfl ?_
    refine lv_istore (lv' := [(5, .int 0), (4, .int (nI 0)), (0, .ref (ad 0)), (1, .int d), (2, .int (nI len)), (3, .int (nI h))]) hx hb dX2_rightBehind_29 hl (by decide) rfl (fun ls hl => ?_)
    have L31 : ∀ (nf : Nat) (H : Heap) (locs : List Loc) (j : Nat) (X1 : g_Wd), (j ≤ len) → (X1 = x_sameN (x_beg (x_bh0 X h) (nI len)) 0 d j) → (len - j < nf) → (g_Mod G ad F X1 X U V Z H) → va_S (md_A ad) s.heap H locs → ∀ ls : Array Slot, lv_has ls 6 [(5, .int (nI j)), (4, .int (nI 0)), (1, .int d), (2, .int (nI len)), (0, .ref (ad 0))] → W p l e (g_rm 10 0 0) s m args below meth c H locs 0 0 Q (F0 m 31 ls []) := by
      intro n31
      induction n31 with
      | zero => intro H locs j X1 hj hX1 hn; exact absurd hn (Nat.not_lt_zero _)
      | succ n31 ih31 =>
        intro H locs j X1 hj hX1 hn31 hM hS ls hl
        refine lv_iload hx hb dX2_rightBehind_31 (lv_at hl 0 rfl) ?_
        refine lv_iload_n hx hb dX2_rightBehind_33 rfl (lv_at hl 3 rfl) ?_
        refine g_icmp_geN (tgt := 52) hx hb j len rfl rfl (by omega) (by omega) dX2_rightBehind_34 (by decide) (fun c_34 => ?_) (fun c_34 => ?_)
        · skip
          obtain rfl : len = j := (by omega)
          subst hX1
          refine lv_aload_n hx hb dX2_rightBehind_52 rfl (lv_at hl 4 rfl) ?_
          refine lv_iload hx hb dX2_rightBehind_53 (lv_at hl 1 rfl) ?_
          refine g_cMV hX hl y_X2_rightAtEnd v_X2_rightAtEnd q2717 (k_X2_rightAtEnd 0 (by have := (hb1.sameN (m := 0) (p := len) (d := d)).2; omega) (hb1.sameN (m := 0) (p := len) (d := d)).1.1 (s_arv_of (hb1.sameN (m := 0) (p := len) (d := d)).1 (by omega) (by have := (hb1.sameN (m := 0) (p := len) (d := d)).2; omega))) (hM.rc hX.2.2.2) hM rfl ⟨Nat.le_of_ble_eq_true rfl, Nat.le_of_ble_eq_true rfl⟩ ⟨Nat.le_refl _, Nat.le_refl _⟩ (rest := []) (st1 := [.int (nI (s_rigP (s_endM (x_sameN (x_beg (x_bh0 X h) (nI len)) 0 d len) 0)))]) rfl rfl (Nat.le_of_ble_eq_true rfl) dX2_rightBehind_55 hS (fun _ h => h) (fun H locs hM hS _ => ?_)
          exact hret H locs _ _ _ _ _ dX2_rightBehind_58 hS (Nat.le_refl _) (Nat.le_refl _) (⟨rfl, hM⟩)
        · skip
          refine lv_aload_n hx hb dX2_rightBehind_37 rfl (lv_at hl 4 rfl) ?_
          refine lv_iload hx hb dX2_rightBehind_38 (lv_at hl 1 rfl) ?_
          refine lv_iload hx hb dX2_rightBehind_40 (lv_at hl 0 rfl) ?_
          refine lv_iload_n hx hb dX2_rightBehind_42 rfl (lv_at hl 2 rfl) ?_
          refine g_cMV hX hl y_X2_putsDigit v_X2_putsDigit q2357 (k_X2_putsDigit 0 j d (by omega) (by omega)) (hM.rc hX.2.2.2) hM rfl ⟨Nat.le_of_ble_eq_true rfl, Nat.le_of_ble_eq_true rfl⟩ ⟨Nat.le_refl _, Nat.le_refl _⟩ (rest := []) (st1 := []) rfl rfl (Nat.le_of_ble_eq_true rfl) dX2_rightBehind_43 hS (fun _ h => h) (fun H locs hM hS _ => ?_)
          refine lv_iinc (v := (nI (j + 1))) (lv' := [(5, .int (nI (j + 1))), (4, .int (nI 0)), (1, .int d), (2, .int (nI len)), (0, .ref (ad 0))]) hx hb dX2_rightBehind_46 hl (k := 0) rfl (nI_1 _) (by decide) rfl (fun ls hl => ?_)
          refine lv_goto (tgt := 31) hx hb dX2_rightBehind_49 (by decide) ?_
          exact ih31 H locs (j + 1) (x_dig X1 0 j d) (by omega) (by rw [hX1]; rfl) (by omega) hM hS ls (lv_sub hl [0, 1, 2, 3, 4] rfl)
    exact L31 (len - 0 + 1) H locs 0 (x_beg (g_up2 (g_up2 X 0 3 0) 0 2 ((X 0 2) + (nI h))) (nI len)) (by omega) (rfl) (Nat.lt_succ_self _) hM hS ls (lv_sub hl [0, 1, 3, 4, 2] rfl)
  exact key _ _ hM hS

theorem y_X2_bestStart : g_Y yX2_bestStart cX2_bestStart 8 (some .int) 3 := ⟨q2776, by decide +kernel⟩
theorem v_X2_bestStart : g_YV yX2_bestStart := ⟨q2774, q2775, q140⟩
set_option maxHeartbeats 4000000 in
theorem ok_X2_bestStart {G : g_G} {l : Launch} {ad : Nat → Nat} {F : Nat → Int32} {X Y : g_Wd} {U V : Nat → g_Wd} {Z : g_Wd} (d : Nat) (len : Nat) (n : Nat) (hF : ¬ F 6 = 0) (hwl : s_wl X) (hwk : s_wk X) (hd : d ≤ 9) (hl1 : 1 ≤ len) (hl12 : len ≤ 12) (hn1 : 1 ≤ n) (hn20 : n ≤ 20) : g_Md G l yX2_bestStart cX2_bestStart 8 (some .int) 11 0 0 [.ref (ad 0), .int (nI d), .int (nI len), .int (nI n)] (g_Mod G ad F X Y U V Z) (g_Qv (some (.int ((s_bst (fun h => s_rS X (nI d) len h) n).1))) (fun H9 => ∃ Y1 : g_Wd, g_Mod G ad (upd F 0 0) X Y1 U V Z H9)) (md_A ad) := by
  refine g_Md.ofI (by decide) (fun _ _ _ => rfl) ?_
  intro p e s m args below meth c ls Q hX hM hl hS hret
  have hx := hX.1.1
  have hb := hX.1.2.1
  have hl : lv_has ls 8 [(0, .ref (ad 0)), (1, .int (nI d)), (2, .int (nI len)), (3, .int (nI n))] := hl
  have key : ∀ (H : Heap) (locs : List Loc), g_Mod G ad F X Y U V Z H → va_S (md_A ad) s.heap H locs → W p l e (g_rm 11 0 0) s m args below meth c H locs 0 0 Q (F0 m 0 ls []) := by
    intro H locs hM hS
    have hW := hwl.1
    have hWc : ¬ F 6 = 0 → s_ok X := fun _ => hW
    have hW9 := hW
    obtain ⟨⟨hL0, hL2, hL6⟩, ⟨hM0, hM6⟩, ⟨hG0, hG40⟩, hok⟩ := hW9
    have hw9 : s_W X ≤ 45 := by unfold s_W; omega
    have htd : s_in (nI d) 0 9 = true := s_in_le (show d ≤ 9 by omega) (by decide)
    have hi1 : s_in (nI len) 1 12 = true := s_in_le2 (show 1 ≤ len by omega) (show len ≤ 12 by omega) (by decide)
    have hi2 : s_in (nI n) 1 20 = true := s_in_le2 (show 1 ≤ n by omega) (show n ≤ 20 by omega) (by decide)
    refine lv_aload_n hx hb dX2_bestStart_0 rfl (lv_at hl 0 rfl) ?_
    refine lv_aload_n hx hb dX2_bestStart_1 rfl (lv_at hl 0 rfl) ?_
    refine g_getM hX hM 6 (by decide) q2169 rfl (v := .int (F 6)) rfl dX2_bestStart_2 ?_
    refine lv_iload_n hx hb dX2_bestStart_5 rfl (lv_at hl 1 rfl) ?_
    refine g_cRS hX hl y_X2_isTen v_X2_isTen q2529 (k_X2_isTen (nI d)) trivial rfl ⟨Nat.le_of_ble_eq_true rfl, Nat.le_of_ble_eq_true rfl⟩ ⟨Nat.zero_le _, Nat.zero_le _⟩ (rest := [.int (F 6), .ref (ad 0)]) (st1 := [.int (g_b (s_in (nI d) 0 9)), .int (F 6), .ref (ad 0)]) rfl rfl (Nat.le_of_ble_eq_true rfl) dX2_bestStart_6 ?_
    refine g_if_eqB (tgt := 36) hx hb (b := s_in (nI d) 0 9) rfl dX2_bestStart_9 (by decide) (fun c_9 => ?_) (fun c_9 => ?_)
    · exact Bool.noConfusion (htd.symm.trans c_9)
    skip
    refine lv_iload_n hx hb dX2_bestStart_12 rfl (lv_at hl 2 rfl) ?_
    refine lv_iconst (v := 1) hx hb dX2_bestStart_13 rfl ?_
    refine lv_bipush (v := 12) hx hb dX2_bestStart_14 (by decide) ?_
    refine g_cRS hX hl y_X2_in v_X2_in q2258 (k_X2_in (nI len) 1 12) trivial rfl ⟨Nat.le_of_ble_eq_true rfl, Nat.le_of_ble_eq_true rfl⟩ ⟨Nat.zero_le _, Nat.zero_le _⟩ (rest := [.int (F 6), .ref (ad 0)]) (st1 := [.int (g_b (s_in (nI len) 1 12)), .int (F 6), .ref (ad 0)]) rfl rfl (Nat.le_of_ble_eq_true rfl) dX2_bestStart_16 ?_
    refine g_if_eqB (tgt := 36) hx hb (b := s_in (nI len) 1 12) rfl dX2_bestStart_19 (by decide) (fun c_19 => ?_) (fun c_19 => ?_)
    · exact Bool.noConfusion (hi1.symm.trans c_19)
    skip
    refine lv_iload_n hx hb dX2_bestStart_22 rfl (lv_at hl 3 rfl) ?_
    refine lv_iconst (v := 1) hx hb dX2_bestStart_23 rfl ?_
    refine lv_bipush (v := 20) hx hb dX2_bestStart_24 (by decide) ?_
    refine g_cRS hX hl y_X2_in v_X2_in q2258 (k_X2_in (nI n) 1 20) trivial rfl ⟨Nat.le_of_ble_eq_true rfl, Nat.le_of_ble_eq_true rfl⟩ ⟨Nat.zero_le _, Nat.zero_le _⟩ (rest := [.int (F 6), .ref (ad 0)]) (st1 := [.int (g_b (s_in (nI n) 1 20)), .int (F 6), .ref (ad 0)]) rfl rfl (Nat.le_of_ble_eq_true rfl) dX2_bestStart_26 ?_
    refine g_if_eqB (tgt := 36) hx hb (b := s_in (nI n) 1 20) rfl dX2_bestStart_29 (by decide) (fun c_29 => ?_) (fun c_29 => ?_)
    · exact Bool.noConfusion (hi2.symm.trans c_29)
    skip
    refine lv_iconst (v := 1) hx hb dX2_bestStart_32 rfl ?_
    refine lv_goto (tgt := 37) hx hb dX2_bestStart_33 (by decide) ?_
    refine g_cMV hX hl y_X2_mayTwo v_X2_mayTwo q2501 (k_X2_mayTwo (F 6) 1) (hM.rc hX.2.2.2) hM rfl ⟨Nat.le_of_ble_eq_true rfl, Nat.le_of_ble_eq_true rfl⟩ ⟨Nat.le_refl _, Nat.le_refl _⟩ (rest := []) (st1 := [.int (g_b (decide (s_may (F 6) 1 1 = 0)))]) rfl rfl (Nat.le_of_ble_eq_true rfl) dX2_bestStart_37 hS (fun _ h => h) (fun H locs hM hS _ => ?_)
    have hmy : s_may (F 6) 1 1 = 0 := s_may_ok hF (by decide) (by decide)
    rw [hmy] at hM ⊢
    refine g_if_neB (tgt := 45) hx hb (b := decide ((0 : Int32) = 0)) rfl dX2_bestStart_40 (by decide) (fun c_40 => ?_) (fun c_40 => ?_)
    rotate_left
    · exact Bool.noConfusion ((rfl : decide ((0 : Int32) = 0) = true).symm.trans c_40)
    refine lv_iconst (v := 0) hx hb dX2_bestStart_45 rfl ?_
    refine lv_istore (lv' := [(4, .int 0), (0, .ref (ad 0)), (1, .int (nI d)), (2, .int (nI len)), (3, .int (nI n))]) hx hb dX2_bestStart_46 hl (by decide) rfl (fun ls hl => ?_)
    refine lv_iconst (v := (-1)) hx hb dX2_bestStart_48 rfl ?_
    refine lv_istore (lv' := [(5, .int (-1)), (4, .int 0), (0, .ref (ad 0)), (1, .int (nI d)), (2, .int (nI len)), (3, .int (nI n))]) hx hb dX2_bestStart_49 hl (by decide) rfl (fun ls hl => ?_)
    refine lv_iconst (v := 0) hx hb dX2_bestStart_51 rfl ?_
    refine lv_istore (lv' := [(6, .int 0), (5, .int (-1)), (4, .int 0), (0, .ref (ad 0)), (1, .int (nI d)), (2, .int (nI len)), (3, .int (nI n))]) hx hb dX2_bestStart_52 hl (by decide) rfl (fun ls hl => ?_)
    have L54 : ∀ (nf : Nat) (H : Heap) (locs : List Loc) (a : Nat) (Y1 : g_Wd), (a ≤ n) → (n - a < nf) → (g_Mod G ad (upd F 0 0) X Y1 U V Z H) → va_S (md_A ad) s.heap H locs → ∀ ls : Array Slot, lv_has ls 8 [(6, .int (nI a)), (4, .int ((s_bst (fun z9 => s_rS X (nI d) len z9) a).1)), (5, .int ((s_bst (fun z9 => s_rS X (nI d) len z9) a).2)), (0, .ref (ad 0)), (1, .int (nI d)), (2, .int (nI len)), (3, .int (nI n))] → W p l e (g_rm 11 0 0) s m args below meth c H locs 0 0 Q (F0 m 54 ls []) := by
      intro n54
      induction n54 with
      | zero => intro H locs a Y1 ha hn; exact absurd hn (Nat.not_lt_zero _)
      | succ n54 ih54 =>
        intro H locs a Y1 ha hn54 hM hS ls hl
        refine lv_iload hx hb dX2_bestStart_54 (lv_at hl 0 rfl) ?_
        refine lv_iload_n hx hb dX2_bestStart_56 rfl (lv_at hl 6 rfl) ?_
        refine g_icmp_geN (tgt := 94) hx hb a n rfl rfl (by omega) (by omega) dX2_bestStart_57 (by decide) (fun c_57 => ?_) (fun c_57 => ?_)
        · skip
          refine lv_iload hx hb dX2_bestStart_94 (lv_at hl 1 rfl) ?_
          exact hret H locs _ _ _ _ _ dX2_bestStart_96 hS (Nat.le_refl _) (Nat.le_refl _) (⟨by rw [show a = n by omega], _, hM⟩)
        · skip
          refine lv_aload_n hx hb dX2_bestStart_60 rfl (lv_at hl 3 rfl) ?_
          refine lv_iload_n hx hb dX2_bestStart_61 rfl (lv_at hl 4 rfl) ?_
          refine lv_iload_n hx hb dX2_bestStart_62 rfl (lv_at hl 5 rfl) ?_
          refine lv_iload hx hb dX2_bestStart_63 (lv_at hl 0 rfl) ?_
          refine g_cMV hX hl y_X2_rightBehind v_X2_rightBehind q2777 (k_X2_rightBehind (nI d) len a hwk (by omega) (by omega) (by omega)) (hM.rc hX.2.2.2) hM rfl ⟨Nat.le_of_ble_eq_true rfl, Nat.le_of_ble_eq_true rfl⟩ ⟨Nat.le_refl _, Nat.le_refl _⟩ (rest := []) (st1 := [.int (s_rS X (nI d) len a)]) rfl rfl (Nat.le_of_ble_eq_true rfl) dX2_bestStart_65 hS (fun _ h => h) (fun H locs hM hS _ => ?_)
          refine lv_istore (lv' := [(7, .int (s_rS X (nI d) len a)), (6, .int (nI a)), (4, .int ((s_bst (fun z9 => s_rS X (nI d) len z9) a).1)), (5, .int ((s_bst (fun z9 => s_rS X (nI d) len z9) a).2)), (0, .ref (ad 0)), (1, .int (nI d)), (2, .int (nI len)), (3, .int (nI n))]) hx hb dX2_bestStart_68 hl (by decide) rfl (fun ls hl => ?_)
          refine lv_iload hx hb dX2_bestStart_70 (lv_at hl 0 rfl) ?_
          refine lv_iload hx hb dX2_bestStart_72 (lv_at hl 3 rfl) ?_
          refine lv_icmp_gt (tgt := 80) hx hb dX2_bestStart_74 (by decide) (fun c_74 => ?_) (fun c_74 => ?_)
          · skip
            refine lv_iload hx hb dX2_bestStart_80 (lv_at hl 0 rfl) ?_
            refine lv_istore (lv' := [(5, .int (s_rS X (nI d) len a)), (7, .int (s_rS X (nI d) len a)), (6, .int (nI a)), (4, .int ((s_bst (fun z9 => s_rS X (nI d) len z9) a).1)), (0, .ref (ad 0)), (1, .int (nI d)), (2, .int (nI len)), (3, .int (nI n))]) hx hb dX2_bestStart_82 hl (by decide) rfl (fun ls hl => ?_)
            refine lv_iload hx hb dX2_bestStart_84 (lv_at hl 2 rfl) ?_
            refine lv_istore (lv' := [(4, .int (nI a)), (5, .int (s_rS X (nI d) len a)), (7, .int (s_rS X (nI d) len a)), (6, .int (nI a)), (0, .ref (ad 0)), (1, .int (nI d)), (2, .int (nI len)), (3, .int (nI n))]) hx hb dX2_bestStart_86 hl (by decide) rfl (fun ls hl => ?_)
            refine lv_iinc (v := (nI (a + 1))) (lv' := [(6, .int (nI (a + 1))), (4, .int (nI a)), (5, .int (s_rS X (nI d) len a)), (7, .int (s_rS X (nI d) len a)), (0, .ref (ad 0)), (1, .int (nI d)), (2, .int (nI len)), (3, .int (nI n))]) hx hb dX2_bestStart_88 hl (k := 3) rfl (nI_1 _) (by decide) rfl (fun ls hl => ?_)
            refine lv_goto (tgt := 54) hx hb dX2_bestStart_91 (by decide) ?_
            have e_5 : (s_rS X (nI d) len a) = ((s_bst (fun z9 => s_rS X (nI d) len z9) (a + 1)).2) := by simp only [s_bst]; grind
            rw [e_5] at hl
            have e_4 : (nI a) = ((s_bst (fun z9 => s_rS X (nI d) len z9) (a + 1)).1) := by simp only [s_bst]; grind
            rw [e_4] at hl
            exact ih54 H locs (a + 1) X (by omega) (by omega) hM hS ls (lv_sub hl [0, 1, 2, 4, 5, 6, 7] rfl)
          · skip
            refine lv_goto (tgt := 88) hx hb dX2_bestStart_77 (by decide) ?_
            refine lv_iinc (v := (nI (a + 1))) (lv' := [(6, .int (nI (a + 1))), (7, .int (s_rS X (nI d) len a)), (4, .int ((s_bst (fun z9 => s_rS X (nI d) len z9) a).1)), (5, .int ((s_bst (fun z9 => s_rS X (nI d) len z9) a).2)), (0, .ref (ad 0)), (1, .int (nI d)), (2, .int (nI len)), (3, .int (nI n))]) hx hb dX2_bestStart_88 hl (k := 1) rfl (nI_1 _) (by decide) rfl (fun ls hl => ?_)
            refine lv_goto (tgt := 54) hx hb dX2_bestStart_91 (by decide) ?_
            have e_4 : ((s_bst (fun z9 => s_rS X (nI d) len z9) a).1) = ((s_bst (fun z9 => s_rS X (nI d) len z9) (a + 1)).1) := by simp only [s_bst]; grind
            rw [e_4] at hl
            have e_5 : ((s_bst (fun z9 => s_rS X (nI d) len z9) a).2) = ((s_bst (fun z9 => s_rS X (nI d) len z9) (a + 1)).2) := by simp only [s_bst]; grind
            rw [e_5] at hl
            exact ih54 H locs (a + 1) X (by omega) (by omega) hM hS ls (lv_sub hl [0, 2, 3, 4, 5, 6, 7] rfl)
    exact L54 (n - 0 + 1) H locs 0 Y (by omega) (Nat.lt_succ_self _) hM hS ls (lv_sub hl [0, 2, 1, 3, 4, 5, 6] rfl)
  exact key _ _ hM hS

set_option maxHeartbeats 4000000 in
theorem no_X2_bestStart {G : g_G} {l : Launch} {ad : Nat → Nat} {F : Nat → Int32} {X Y : g_Wd} {U V : Nat → g_Wd} {Z : g_Wd} (t9 : Int32) (d : Int32) (len : Int32) (n : Int32) (ht9 : ¬ t9 = 0) (hbad : s_may (F 6) (g_b (s_in d 0 9 && (s_in len 1 12 && s_in n 1 20))) 1 = t9) (hWc : ¬ F 6 = 0 → s_ok X) : g_Md G l yX2_bestStart cX2_bestStart 8 (some .int) 2 0 0 [.ref (ad 0), .int d, .int len, .int n] (g_Mod G ad F X Y U V Z) (g_Qv (some (.int 0)) (g_Mod G ad (upd F 0 t9) X Y U V Z)) (md_A ad) := by
  refine g_Md.ofI (by decide) (fun _ _ _ => rfl) ?_
  intro p e s m args below meth c ls Q hX hM hl hS hret
  have hx := hX.1.1
  have hb := hX.1.2.1
  have hl : lv_has ls 8 [(0, .ref (ad 0)), (1, .int d), (2, .int len), (3, .int n)] := hl
  have key : ∀ (H : Heap) (locs : List Loc), g_Mod G ad F X Y U V Z H → va_S (md_A ad) s.heap H locs → W p l e (g_rm 2 0 0) s m args below meth c H locs 0 0 Q (F0 m 0 ls []) := by
    intro H locs hM hS
    refine lv_aload_n hx hb dX2_bestStart_0 rfl (lv_at hl 0 rfl) ?_
    refine lv_aload_n hx hb dX2_bestStart_1 rfl (lv_at hl 0 rfl) ?_
    refine g_getM hX hM 6 (by decide) q2169 rfl (v := .int (F 6)) rfl dX2_bestStart_2 ?_
    refine lv_iload_n hx hb dX2_bestStart_5 rfl (lv_at hl 1 rfl) ?_
    refine g_cRS hX hl y_X2_isTen v_X2_isTen q2529 (k_X2_isTen d) trivial rfl ⟨Nat.le_of_ble_eq_true rfl, Nat.le_of_ble_eq_true rfl⟩ ⟨Nat.zero_le _, Nat.zero_le _⟩ (rest := [.int (F 6), .ref (ad 0)]) (st1 := [.int (g_b (s_in d 0 9)), .int (F 6), .ref (ad 0)]) rfl rfl (Nat.le_of_ble_eq_true rfl) dX2_bestStart_6 ?_
    refine g_if_eqB (tgt := 36) hx hb (b := s_in d 0 9) rfl dX2_bestStart_9 (by decide) (fun c_9 => ?_) (fun c_9 => ?_)
    · skip
      refine lv_iconst (v := 0) hx hb dX2_bestStart_36 rfl ?_
      refine g_cMV hX hl y_X2_mayTwo v_X2_mayTwo q2501 (k_X2_mayTwo (F 6) 0) (hM.rc hX.2.2.2) hM rfl ⟨Nat.le_of_ble_eq_true rfl, Nat.le_of_ble_eq_true rfl⟩ ⟨Nat.le_refl _, Nat.le_refl _⟩ (rest := []) (st1 := [.int (g_b (decide (s_may (F 6) 0 1 = 0)))]) rfl rfl (Nat.le_of_ble_eq_true rfl) dX2_bestStart_37 hS (fun _ h => h) (fun H locs hM hS _ => ?_)
      have hmy : s_may (F 6) 0 1 = t9 := by first | exact hbad | (rw [← hbad]; simp [g_b, c_9]; done) | (rw [← hbad]; simp only [g_b, c_9]; rfl)
      rw [hmy] at hM ⊢
      refine g_if_neB (tgt := 45) hx hb (b := decide (t9 = 0)) rfl dX2_bestStart_40 (by decide) (fun c_40 => ?_) (fun c_40 => ?_)
      · exact Bool.noConfusion ((decide_eq_false ht9).symm.trans c_40)
      skip
      refine lv_iconst (v := 0) hx hb dX2_bestStart_43 rfl ?_
      exact hret H locs _ _ _ _ _ dX2_bestStart_44 hS (Nat.le_refl _) (Nat.le_refl _) (⟨rfl, hM⟩)
    · skip
      refine lv_iload_n hx hb dX2_bestStart_12 rfl (lv_at hl 2 rfl) ?_
      refine lv_iconst (v := 1) hx hb dX2_bestStart_13 rfl ?_
      refine lv_bipush (v := 12) hx hb dX2_bestStart_14 (by decide) ?_
      refine g_cRS hX hl y_X2_in v_X2_in q2258 (k_X2_in len 1 12) trivial rfl ⟨Nat.le_of_ble_eq_true rfl, Nat.le_of_ble_eq_true rfl⟩ ⟨Nat.zero_le _, Nat.zero_le _⟩ (rest := [.int (F 6), .ref (ad 0)]) (st1 := [.int (g_b (s_in len 1 12)), .int (F 6), .ref (ad 0)]) rfl rfl (Nat.le_of_ble_eq_true rfl) dX2_bestStart_16 ?_
      refine g_if_eqB (tgt := 36) hx hb (b := s_in len 1 12) rfl dX2_bestStart_19 (by decide) (fun c_19 => ?_) (fun c_19 => ?_)
      · skip
        refine lv_iconst (v := 0) hx hb dX2_bestStart_36 rfl ?_
        refine g_cMV hX hl y_X2_mayTwo v_X2_mayTwo q2501 (k_X2_mayTwo (F 6) 0) (hM.rc hX.2.2.2) hM rfl ⟨Nat.le_of_ble_eq_true rfl, Nat.le_of_ble_eq_true rfl⟩ ⟨Nat.le_refl _, Nat.le_refl _⟩ (rest := []) (st1 := [.int (g_b (decide (s_may (F 6) 0 1 = 0)))]) rfl rfl (Nat.le_of_ble_eq_true rfl) dX2_bestStart_37 hS (fun _ h => h) (fun H locs hM hS _ => ?_)
        have hmy : s_may (F 6) 0 1 = t9 := by first | exact hbad | (rw [← hbad]; simp [g_b, c_9, c_19]; done) | (rw [← hbad]; simp only [g_b, c_9, c_19]; rfl)
        rw [hmy] at hM ⊢
        refine g_if_neB (tgt := 45) hx hb (b := decide (t9 = 0)) rfl dX2_bestStart_40 (by decide) (fun c_40 => ?_) (fun c_40 => ?_)
        · exact Bool.noConfusion ((decide_eq_false ht9).symm.trans c_40)
        skip
        refine lv_iconst (v := 0) hx hb dX2_bestStart_43 rfl ?_
        exact hret H locs _ _ _ _ _ dX2_bestStart_44 hS (Nat.le_refl _) (Nat.le_refl _) (⟨rfl, hM⟩)
      · skip
        refine lv_iload_n hx hb dX2_bestStart_22 rfl (lv_at hl 3 rfl) ?_
        refine lv_iconst (v := 1) hx hb dX2_bestStart_23 rfl ?_
        refine lv_bipush (v := 20) hx hb dX2_bestStart_24 (by decide) ?_
        refine g_cRS hX hl y_X2_in v_X2_in q2258 (k_X2_in n 1 20) trivial rfl ⟨Nat.le_of_ble_eq_true rfl, Nat.le_of_ble_eq_true rfl⟩ ⟨Nat.zero_le _, Nat.zero_le _⟩ (rest := [.int (F 6), .ref (ad 0)]) (st1 := [.int (g_b (s_in n 1 20)), .int (F 6), .ref (ad 0)]) rfl rfl (Nat.le_of_ble_eq_true rfl) dX2_bestStart_26 ?_
        refine g_if_eqB (tgt := 36) hx hb (b := s_in n 1 20) rfl dX2_bestStart_29 (by decide) (fun c_29 => ?_) (fun c_29 => ?_)
        · skip
          refine lv_iconst (v := 0) hx hb dX2_bestStart_36 rfl ?_
          refine g_cMV hX hl y_X2_mayTwo v_X2_mayTwo q2501 (k_X2_mayTwo (F 6) 0) (hM.rc hX.2.2.2) hM rfl ⟨Nat.le_of_ble_eq_true rfl, Nat.le_of_ble_eq_true rfl⟩ ⟨Nat.le_refl _, Nat.le_refl _⟩ (rest := []) (st1 := [.int (g_b (decide (s_may (F 6) 0 1 = 0)))]) rfl rfl (Nat.le_of_ble_eq_true rfl) dX2_bestStart_37 hS (fun _ h => h) (fun H locs hM hS _ => ?_)
          have hmy : s_may (F 6) 0 1 = t9 := by first | exact hbad | (rw [← hbad]; simp [g_b, c_9, c_19, c_29]; done) | (rw [← hbad]; simp only [g_b, c_9, c_19, c_29]; rfl)
          rw [hmy] at hM ⊢
          refine g_if_neB (tgt := 45) hx hb (b := decide (t9 = 0)) rfl dX2_bestStart_40 (by decide) (fun c_40 => ?_) (fun c_40 => ?_)
          · exact Bool.noConfusion ((decide_eq_false ht9).symm.trans c_40)
          skip
          refine lv_iconst (v := 0) hx hb dX2_bestStart_43 rfl ?_
          exact hret H locs _ _ _ _ _ dX2_bestStart_44 hS (Nat.le_refl _) (Nat.le_refl _) (⟨rfl, hM⟩)
        · skip
          refine lv_iconst (v := 1) hx hb dX2_bestStart_32 rfl ?_
          refine lv_goto (tgt := 37) hx hb dX2_bestStart_33 (by decide) ?_
          refine g_cMV hX hl y_X2_mayTwo v_X2_mayTwo q2501 (k_X2_mayTwo (F 6) 1) (hM.rc hX.2.2.2) hM rfl ⟨Nat.le_of_ble_eq_true rfl, Nat.le_of_ble_eq_true rfl⟩ ⟨Nat.le_refl _, Nat.le_refl _⟩ (rest := []) (st1 := [.int (g_b (decide (s_may (F 6) 1 1 = 0)))]) rfl rfl (Nat.le_of_ble_eq_true rfl) dX2_bestStart_37 hS (fun _ h => h) (fun H locs hM hS _ => ?_)
          have hmy : s_may (F 6) 1 1 = t9 := by first | exact hbad | (rw [← hbad]; simp [g_b, c_9, c_19, c_29]; done) | (rw [← hbad]; simp only [g_b, c_9, c_19, c_29]; rfl)
          rw [hmy] at hM ⊢
          refine g_if_neB (tgt := 45) hx hb (b := decide (t9 = 0)) rfl dX2_bestStart_40 (by decide) (fun c_40 => ?_) (fun c_40 => ?_)
          · exact Bool.noConfusion ((decide_eq_false ht9).symm.trans c_40)
          skip
          refine lv_iconst (v := 0) hx hb dX2_bestStart_43 rfl ?_
          exact hret H locs _ _ _ _ _ dX2_bestStart_44 hS (Nat.le_refl _) (Nat.le_refl _) (⟨rfl, hM⟩)
  exact key _ _ hM hS

theorem y_X2_leastStorm : g_Y yX2_leastStorm cX2_leastStorm 6 (some .int) 2 := ⟨q2784, by decide +kernel⟩
theorem v_X2_leastStorm : g_YV yX2_leastStorm := ⟨q2782, q2783, q140⟩
set_option maxHeartbeats 4000000 in
theorem ok_X2_leastStorm {G : g_G} {l : Launch} {ad : Nat → Nat} {F : Nat → Int32} {X Y : g_Wd} {U V : Nat → g_Wd} {Z : g_Wd} (j : Nat) (w : Nat) (hF : ¬ F 6 = 0) (hwl : s_wl X) (hwk : s_wk X) (hj : j < s_M X) (hw : w < s_W X) : g_Md G l yX2_leastStorm cX2_leastStorm 6 (some .int) 11 0 0 [.ref (ad 0), .int (nI j), .int (nI w)] (g_Mod G ad F X Y U V Z) (g_Qv (some (.int (s_lsM X j w))) (fun H9 => ∃ Y1 : g_Wd, g_Mod G ad (upd F 0 0) X Y1 U V Z H9)) (md_A ad) := by
  refine g_Md.ofI (by decide) (fun _ _ _ => rfl) ?_
  intro p e s m args below meth c ls Q hX hM hl hS hret
  have hx := hX.1.1
  have hb := hX.1.2.1
  have hl : lv_has ls 6 [(0, .ref (ad 0)), (1, .int (nI j)), (2, .int (nI w))] := hl
  have key : ∀ (H : Heap) (locs : List Loc), g_Mod G ad F X Y U V Z H → va_S (md_A ad) s.heap H locs → W p l e (g_rm 11 0 0) s m args below meth c H locs 0 0 Q (F0 m 0 ls []) := by
    intro H locs hM hS
    have hW := hwl.1
    have hWc : ¬ F 6 = 0 → s_ok X := fun _ => hW
    have hW9 := hW
    obtain ⟨⟨hL0, hL2, hL6⟩, ⟨hM0, hM6⟩, ⟨hG0, hG40⟩, hok⟩ := hW9
    have hw9 : s_W X ≤ 45 := by unfold s_W; omega
    have hmsg := s_isMsg_ok hF hW hj
    have ho := hok j hj
    have hL := ho.2
    have hj6 : j < 6 := by omega
    have hwn := s_isWN_ok hF hW hw
    have hbo : (s_isMsg F X (nI j) && s_isWN F X (nI w)) = true := by rw [hmsg, hwn]; rfl
    have hrb : ∀ a b, s_rW X j w a b ≤ 12 := fun a b => s_rW_le hwk hj a b
    refine lv_aload_n hx hb dX2_leastStorm_0 rfl (lv_at hl 0 rfl) ?_
    refine lv_aload_n hx hb dX2_leastStorm_1 rfl (lv_at hl 0 rfl) ?_
    refine g_getM hX hM 6 (by decide) q2169 rfl (v := .int (F 6)) rfl dX2_leastStorm_2 ?_
    refine lv_aload_n hx hb dX2_leastStorm_5 rfl (lv_at hl 0 rfl) ?_
    refine lv_iload_n hx hb dX2_leastStorm_6 rfl (lv_at hl 1 rfl) ?_
    refine lv_iload_n hx hb dX2_leastStorm_7 rfl (lv_at hl 2 rfl) ?_
    refine g_cRV hX hl y_X2_areBoth v_X2_areBoth q2729 (k_X2_areBoth (nI j) (nI w) hWc) (hM.rc hX.2.2.2) hM rfl ⟨Nat.le_of_ble_eq_true rfl, Nat.le_of_ble_eq_true rfl⟩ ⟨Nat.zero_le _, Nat.zero_le _⟩ (rest := [.int (F 6), .ref (ad 0)]) (st1 := [.int (g_b (s_isMsg F X (nI j) && s_isWN F X (nI w))), .int (F 6), .ref (ad 0)]) rfl rfl (Nat.le_of_ble_eq_true rfl) dX2_leastStorm_8 ?_
    refine g_cMV hX hl y_X2_mayTwo v_X2_mayTwo q2501 (k_X2_mayTwo (F 6) (g_b (s_isMsg F X (nI j) && s_isWN F X (nI w)))) (hM.rc hX.2.2.2) hM rfl ⟨Nat.le_of_ble_eq_true rfl, Nat.le_of_ble_eq_true rfl⟩ ⟨Nat.le_refl _, Nat.le_refl _⟩ (rest := []) (st1 := [.int (g_b (decide (s_may (F 6) (g_b (s_isMsg F X (nI j) && s_isWN F X (nI w))) 1 = 0)))]) rfl rfl (Nat.le_of_ble_eq_true rfl) dX2_leastStorm_11 hS (fun _ h => h) (fun H locs hM hS _ => ?_)
    have hmy : s_may (F 6) (g_b (s_isMsg F X (nI j) && s_isWN F X (nI w))) 1 = 0 := s_may_ok hF (g_b_ne hbo) (by decide)
    rw [hmy] at hM ⊢
    refine g_if_neB (tgt := 19) hx hb (b := decide ((0 : Int32) = 0)) rfl dX2_leastStorm_14 (by decide) (fun c_14 => ?_) (fun c_14 => ?_)
    rotate_left
    · exact Bool.noConfusion ((rfl : decide ((0 : Int32) = 0) = true).symm.trans c_14)
    refine lv_aload_n hx hb dX2_leastStorm_19 rfl (lv_at hl 0 rfl) ?_
    refine lv_iload_n hx hb dX2_leastStorm_20 rfl (lv_at hl 2 rfl) ?_
    refine lv_iconst (v := 1) hx hb dX2_leastStorm_21 rfl ?_
    refine g_cRV hX hl y_X2_ofWire v_X2_ofWire q2340 (k_X2_ofWire w 1 (by omega) (by omega)) (hM.rc hX.2.2.2) hM rfl ⟨Nat.le_of_ble_eq_true rfl, Nat.le_of_ble_eq_true rfl⟩ ⟨Nat.zero_le _, Nat.zero_le _⟩ (rest := []) (st1 := [.int (X 1 (5 * w + 1))]) rfl rfl (Nat.le_of_ble_eq_true rfl) dX2_leastStorm_22 ?_
    refine lv_istore_n (lv' := [(3, .int (X 1 (5 * w + 1))), (0, .ref (ad 0)), (1, .int (nI j)), (2, .int (nI w))]) hx hb dX2_leastStorm_25 rfl hl (by decide) rfl (fun ls hl => ?_)
    refine lv_aload_n hx hb dX2_leastStorm_26 rfl (lv_at hl 1 rfl) ?_
    refine lv_iload_n hx hb dX2_leastStorm_27 rfl (lv_at hl 2 rfl) ?_
    refine lv_iload_n hx hb dX2_leastStorm_28 rfl (lv_at hl 3 rfl) ?_
    refine lv_iconst (v := 0) hx hb dX2_leastStorm_29 rfl ?_
    refine lv_iload_n hx hb dX2_leastStorm_30 rfl (lv_at hl 0 rfl) ?_
    refine g_cMV hX hl y_X2_rightWith v_X2_rightWith q2737 (k_X2_rightWith j w 0 (X 1 (5 * w + 1)) hj hwk (by omega)) (hM.rc hX.2.2.2) hM rfl ⟨Nat.le_of_ble_eq_true rfl, Nat.le_of_ble_eq_true rfl⟩ ⟨Nat.le_refl _, Nat.le_refl _⟩ (rest := []) (st1 := [.int (nI (s_rW X j w 0 (X 1 (5 * w + 1))))]) rfl rfl (Nat.le_of_ble_eq_true rfl) dX2_leastStorm_31 hS (fun _ h => h) (fun H locs hM hS _ => ?_)
    refine lv_istore (lv' := [(4, .int (nI (s_rW X j w 0 (X 1 (5 * w + 1))))), (3, .int (X 1 (5 * w + 1))), (0, .ref (ad 0)), (1, .int (nI j)), (2, .int (nI w))]) hx hb dX2_leastStorm_34 hl (by decide) rfl (fun ls hl => ?_)
    refine lv_iconst (v := 1) hx hb dX2_leastStorm_36 rfl ?_
    refine lv_istore (lv' := [(5, .int 1), (4, .int (nI (s_rW X j w 0 (X 1 (5 * w + 1))))), (3, .int (X 1 (5 * w + 1))), (0, .ref (ad 0)), (1, .int (nI j)), (2, .int (nI w))]) hx hb dX2_leastStorm_37 hl (by decide) rfl (fun ls hl => ?_)
    have L39 : ∀ (nf : Nat) (H : Heap) (locs : List Loc) (a : Nat) (Y1 : g_Wd), (a ≤ 9) → (s_any (fun k => decide (s_rW X j w (nI (k + 1)) (X 1 (5 * w + 1)) < s_rW X j w 0 (X 1 (5 * w + 1)))) a = false) → (9 - a < nf) → (g_Mod G ad (upd F 0 0) X Y1 U V Z H) → va_S (md_A ad) s.heap H locs → ∀ ls : Array Slot, lv_has ls 6 [(5, .int (nI (a + 1))), (4, .int (nI (s_rW X j w 0 (X 1 (5 * w + 1))))), (3, .int (X 1 (5 * w + 1))), (0, .ref (ad 0)), (1, .int (nI j)), (2, .int (nI w))] → W p l e (g_rm 11 0 0) s m args below meth c H locs 0 0 Q (F0 m 39 ls []) := by
      intro n39
      induction n39 with
      | zero => intro H locs a Y1 ha hs hn; exact absurd hn (Nat.not_lt_zero _)
      | succ n39 ih39 =>
        intro H locs a Y1 ha hs hn39 hM hS ls hl
        refine lv_iload hx hb dX2_leastStorm_39 (lv_at hl 0 rfl) ?_
        refine lv_bipush (v := 9) hx hb dX2_leastStorm_41 (by decide) ?_
        refine g_icmp_gtN (tgt := 69) hx hb (a + 1) 9 rfl rfl (by omega) (by omega) dX2_leastStorm_43 (by decide) (fun c_43 => ?_) (fun c_43 => ?_)
        · skip
          refine lv_iconst (v := (-1)) hx hb dX2_leastStorm_69 rfl ?_
          exact hret H locs _ _ _ _ _ dX2_leastStorm_70 hS (Nat.le_refl _) (Nat.le_refl _) (⟨by rw [s_lsM, show (9 : Nat) = a by omega, s_fstN_none hs, if_pos rfl], _, hM⟩)
        · skip
          refine lv_aload_n hx hb dX2_leastStorm_46 rfl (lv_at hl 3 rfl) ?_
          refine lv_iload_n hx hb dX2_leastStorm_47 rfl (lv_at hl 4 rfl) ?_
          refine lv_iload_n hx hb dX2_leastStorm_48 rfl (lv_at hl 5 rfl) ?_
          refine lv_iload hx hb dX2_leastStorm_49 (lv_at hl 0 rfl) ?_
          refine lv_iload_n hx hb dX2_leastStorm_51 rfl (lv_at hl 2 rfl) ?_
          refine g_cMV hX hl y_X2_rightWith v_X2_rightWith q2737 (k_X2_rightWith j w (nI (a + 1)) (X 1 (5 * w + 1)) hj hwk (by omega)) (hM.rc hX.2.2.2) hM rfl ⟨Nat.le_of_ble_eq_true rfl, Nat.le_of_ble_eq_true rfl⟩ ⟨Nat.le_refl _, Nat.le_refl _⟩ (rest := []) (st1 := [.int (nI (s_rW X j w (nI (a + 1)) (X 1 (5 * w + 1))))]) rfl rfl (Nat.le_of_ble_eq_true rfl) dX2_leastStorm_52 hS (fun _ h => h) (fun H locs hM hS _ => ?_)
          refine lv_iload hx hb dX2_leastStorm_55 (lv_at hl 1 rfl) ?_
          refine g_icmp_geN (tgt := 63) hx hb (s_rW X j w (nI (a + 1)) (X 1 (5 * w + 1))) (s_rW X j w 0 (X 1 (5 * w + 1))) rfl rfl (by have h1 := hrb (nI (a + 1)) (X 1 (5 * w + 1)); have h2 := hrb 0 (X 1 (5 * w + 1)); omega) (by have h1 := hrb (nI (a + 1)) (X 1 (5 * w + 1)); have h2 := hrb 0 (X 1 (5 * w + 1)); omega) dX2_leastStorm_57 (by decide) (fun c_57 => ?_) (fun c_57 => ?_)
          · skip
            refine lv_iinc (v := (nI (a + 1 + 1))) (lv' := [(5, .int (nI (a + 1 + 1))), (4, .int (nI (s_rW X j w 0 (X 1 (5 * w + 1))))), (3, .int (X 1 (5 * w + 1))), (0, .ref (ad 0)), (1, .int (nI j)), (2, .int (nI w))]) hx hb dX2_leastStorm_63 hl (k := 0) rfl (nI_1 _) (by decide) rfl (fun ls hl => ?_)
            refine lv_goto (tgt := 39) hx hb dX2_leastStorm_66 (by decide) ?_
            exact ih39 H locs (a + 1) X (by omega) (by simp only [s_any, hs, Bool.false_or]; exact decide_eq_false (by omega)) (by omega) hM hS ls (lv_sub hl [0, 1, 2, 3, 4, 5] rfl)
          · skip
            refine lv_iload hx hb dX2_leastStorm_60 (lv_at hl 0 rfl) ?_
            exact hret H locs _ _ _ _ _ dX2_leastStorm_62 hS (Nat.le_refl _) (Nat.le_refl _) (⟨by rw [s_lsM, s_fstN_at hs (decide_eq_true c_57) (show a < 9 by omega), if_neg (nI_ne_m1 (by omega)), nI_1], _, hM⟩)
    exact L39 (9 - 0 + 1) H locs 0 X (by omega) (rfl) (Nat.lt_succ_self _) hM hS ls (lv_sub hl [0, 1, 2, 3, 4, 5] rfl)
  exact key _ _ hM hS

set_option maxHeartbeats 4000000 in
theorem no_X2_leastStorm {G : g_G} {l : Launch} {ad : Nat → Nat} {F : Nat → Int32} {X Y : g_Wd} {U V : Nat → g_Wd} {Z : g_Wd} (t9 : Int32) (v : Int32) (w : Int32) (ht9 : ¬ t9 = 0) (hbad : s_may (F 6) (g_b (s_isMsg F X v && s_isWN F X w)) 1 = t9) (hWc : ¬ F 6 = 0 → s_ok X) : g_Md G l yX2_leastStorm cX2_leastStorm 6 (some .int) 3 0 0 [.ref (ad 0), .int v, .int w] (g_Mod G ad F X Y U V Z) (g_Qv (some (.int 0)) (g_Mod G ad (upd F 0 t9) X Y U V Z)) (md_A ad) := by
  refine g_Md.ofI (by decide) (fun _ _ _ => rfl) ?_
  intro p e s m args below meth c ls Q hX hM hl hS hret
  have hx := hX.1.1
  have hb := hX.1.2.1
  have hl : lv_has ls 6 [(0, .ref (ad 0)), (1, .int v), (2, .int w)] := hl
  have key : ∀ (H : Heap) (locs : List Loc), g_Mod G ad F X Y U V Z H → va_S (md_A ad) s.heap H locs → W p l e (g_rm 3 0 0) s m args below meth c H locs 0 0 Q (F0 m 0 ls []) := by
    intro H locs hM hS
    refine lv_aload_n hx hb dX2_leastStorm_0 rfl (lv_at hl 0 rfl) ?_
    refine lv_aload_n hx hb dX2_leastStorm_1 rfl (lv_at hl 0 rfl) ?_
    refine g_getM hX hM 6 (by decide) q2169 rfl (v := .int (F 6)) rfl dX2_leastStorm_2 ?_
    refine lv_aload_n hx hb dX2_leastStorm_5 rfl (lv_at hl 0 rfl) ?_
    refine lv_iload_n hx hb dX2_leastStorm_6 rfl (lv_at hl 1 rfl) ?_
    refine lv_iload_n hx hb dX2_leastStorm_7 rfl (lv_at hl 2 rfl) ?_
    refine g_cRV hX hl y_X2_areBoth v_X2_areBoth q2729 (k_X2_areBoth v w hWc) (hM.rc hX.2.2.2) hM rfl ⟨Nat.le_of_ble_eq_true rfl, Nat.le_of_ble_eq_true rfl⟩ ⟨Nat.zero_le _, Nat.zero_le _⟩ (rest := [.int (F 6), .ref (ad 0)]) (st1 := [.int (g_b (s_isMsg F X v && s_isWN F X w)), .int (F 6), .ref (ad 0)]) rfl rfl (Nat.le_of_ble_eq_true rfl) dX2_leastStorm_8 ?_
    refine g_cMV hX hl y_X2_mayTwo v_X2_mayTwo q2501 (k_X2_mayTwo (F 6) (g_b (s_isMsg F X v && s_isWN F X w))) (hM.rc hX.2.2.2) hM rfl ⟨Nat.le_of_ble_eq_true rfl, Nat.le_of_ble_eq_true rfl⟩ ⟨Nat.le_refl _, Nat.le_refl _⟩ (rest := []) (st1 := [.int (g_b (decide (s_may (F 6) (g_b (s_isMsg F X v && s_isWN F X w)) 1 = 0)))]) rfl rfl (Nat.le_of_ble_eq_true rfl) dX2_leastStorm_11 hS (fun _ h => h) (fun H locs hM hS _ => ?_)
    have hmy : s_may (F 6) (g_b (s_isMsg F X v && s_isWN F X w)) 1 = t9 := by first | exact hbad | (rw [← hbad]; simp [g_b, g_b]; done) | (rw [← hbad]; simp only [g_b, g_b]; rfl)
    rw [hmy] at hM ⊢
    refine g_if_neB (tgt := 19) hx hb (b := decide (t9 = 0)) rfl dX2_leastStorm_14 (by decide) (fun c_14 => ?_) (fun c_14 => ?_)
    · exact Bool.noConfusion ((decide_eq_false ht9).symm.trans c_14)
    skip
    refine lv_iconst (v := 0) hx hb dX2_leastStorm_17 rfl ?_
    exact hret H locs _ _ _ _ _ dX2_leastStorm_18 hS (Nat.le_refl _) (Nat.le_refl _) (⟨rfl, hM⟩)
  exact key _ _ hM hS
