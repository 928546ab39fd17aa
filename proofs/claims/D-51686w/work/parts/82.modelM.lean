/-! THE MODEL: share, meanHours -/
set_option maxRecDepth 100000
theorem y_X2_share : g_Y yX2_share cX2_share 1 (some .float) 0 := ⟨q2788, by decide +kernel⟩
theorem v_X2_share : g_YV yX2_share := ⟨q2786, q2787, q140⟩
set_option maxHeartbeats 4000000 in
theorem ok_X2_share {G : g_G} {l : Launch} {ad : Nat → Nat} {F : Nat → Int32} {X Y : g_Wd} {U V : Nat → g_Wd} {Z : g_Wd}  (hF : ¬ F 6 = 0) (hwl : s_wl X) : g_Md G l yX2_share cX2_share 1 (some .float) 2 0 0 [.ref (ad 0)] (g_Mod G ad F X Y U V Z) (g_Qv (some (.float (s_share X))) (g_Mod G ad (upd F 0 0) X Y U V Z)) (md_A ad) := by
  refine g_Md.ofF (by decide) ?_
  intro p e s m args below meth c ls Q hX hM hl hS hret
  have hx := hX.1.1
  have hb := hX.1.2.1
  have hl : lv_has ls 1 [(0, .ref (ad 0))] := hl
  have key : ∀ (H : Heap) (locs : List Loc), g_Mod G ad F X Y U V Z H → va_S (md_A ad) s.heap H locs → W p l e (g_rm 2 0 0) s m args below meth c H locs 0 0 Q (F0 m 0 ls []) := by
    intro H locs hM hS
    have hW := hwl.1
    have hWc : ¬ F 6 = 0 → s_ok X := fun _ => hW
    have hW9 := hW
    obtain ⟨⟨hL0, hL2, hL6⟩, ⟨hM0, hM6⟩, ⟨hG0, hG40⟩, hok⟩ := hW9
    have hw9 : s_W X ≤ 45 := by unfold s_W; omega
    refine lv_aload_n hx hb dX2_share_0 rfl (lv_at hl 0 rfl) ?_
    refine g_cMV hX hl y_X2_mayLook v_X2_mayLook q2536 k_X2_mayLook (hM.rc hX.2.2.2) hM rfl ⟨Nat.le_of_ble_eq_true rfl, Nat.le_of_ble_eq_true rfl⟩ ⟨Nat.le_refl _, Nat.le_refl _⟩ (rest := []) (st1 := [.int (g_b (decide (s_may (F 6) 1 1 = 0)))]) rfl rfl (Nat.le_of_ble_eq_true rfl) dX2_share_1 hS (fun _ h => h) (fun H locs hM hS _ => ?_)
    have hmy : s_may (F 6) 1 1 = 0 := s_may_ok hF (by decide) (by decide)
    rw [hmy] at hM ⊢
    refine g_if_eqB (tgt := 35) hx hb (b := decide ((0 : Int32) = 0)) rfl dX2_share_4 (by decide) (fun c_4 => ?_) (fun c_4 => ?_)
    · exact Bool.noConfusion ((rfl : decide ((0 : Int32) = 0) = true).symm.trans c_4)
    skip
    refine lv_aload_n hx hb dX2_share_7 rfl (lv_at hl 0 rfl) ?_
    refine g_getM hX hM 1 (by decide) q2164 rfl (v := .ref (ad 1)) rfl dX2_share_8 ?_
    refine lv_iconst (v := 5) hx hb dX2_share_11 rfl ?_
    refine g_iald hX hM.a1 5 rfl (by omega) (by decide) (v := (X 0 5)) rfl dX2_share_12 ?_
    refine lv_if_le (tgt := 35) hx hb dX2_share_13 (by decide) (fun c_13 => ?_) (fun c_13 => ?_)
    · skip
      refine lv_fconst0 hx hb dX2_share_35 ?_
      exact hret H locs _ _ _ _ _ dX2_share_36 hS (Nat.le_refl _) (Nat.le_refl _) (⟨by unfold s_share; first | rw [if_pos c_13] | rw [if_neg c_13], hM⟩)
    · skip
      refine lv_aload_n hx hb dX2_share_16 rfl (lv_at hl 0 rfl) ?_
      refine g_getM hX hM 1 (by decide) q2164 rfl (v := .ref (ad 1)) rfl dX2_share_17 ?_
      refine lv_bipush (v := 6) hx hb dX2_share_20 (by decide) ?_
      refine g_iald hX hM.a1 6 rfl (by omega) (by decide) (v := (X 0 6)) rfl dX2_share_22 ?_
      refine lv_i2f hx hb dX2_share_23 ?_
      refine lv_aload_n hx hb dX2_share_24 rfl (lv_at hl 0 rfl) ?_
      refine g_getM hX hM 1 (by decide) q2164 rfl (v := .ref (ad 1)) rfl dX2_share_25 ?_
      refine lv_iconst (v := 5) hx hb dX2_share_28 rfl ?_
      refine g_iald hX hM.a1 5 rfl (by omega) (by decide) (v := (X 0 5)) rfl dX2_share_29 ?_
      refine lv_i2f hx hb dX2_share_30 ?_
      refine lv_fdiv hx hb dX2_share_31 (e_fdiv (fun z => c_13 (by rw [z]; exact Int32.le_refl _))) ?_
      refine lv_goto (tgt := 36) hx hb dX2_share_32 (by decide) ?_
      exact hret H locs _ _ _ _ _ dX2_share_36 hS (Nat.le_refl _) (Nat.le_refl _) (⟨by unfold s_share; first | rw [if_pos c_13] | rw [if_neg c_13], hM⟩)
  exact key _ _ hM hS

theorem y_X2_meanHours : g_Y yX2_meanHours cX2_meanHours 1 (some .double) 0 := ⟨q2792, by decide +kernel⟩
theorem v_X2_meanHours : g_YV yX2_meanHours := ⟨q2790, q2791, q140⟩
set_option maxHeartbeats 4000000 in
theorem ok_X2_meanHours {G : g_G} {l : Launch} {ad : Nat → Nat} {F : Nat → Int32} {X Y : g_Wd} {U V : Nat → g_Wd} {Z : g_Wd}  (hF : ¬ F 6 = 0) (hwl : s_wl X) : g_Md G l yX2_meanHours cX2_meanHours 1 (some .double) 3 0 0 [.ref (ad 0)] (g_Mod G ad F X Y U V Z) (g_Qv (some (.double (s_mean X))) (g_Mod G ad (upd F 0 0) X Y U V Z)) (md_A ad) := by
  refine g_Md.ofD (by decide) ?_
  intro p e s m args below meth c ls Q hX hM hl hS hret
  have hx := hX.1.1
  have hb := hX.1.2.1
  have hl : lv_has ls 1 [(0, .ref (ad 0))] := hl
  have key : ∀ (H : Heap) (locs : List Loc), g_Mod G ad F X Y U V Z H → va_S (md_A ad) s.heap H locs → W p l e (g_rm 3 0 0) s m args below meth c H locs 0 0 Q (F0 m 0 ls []) := by
    intro H locs hM hS
    have hW := hwl.1
    have hWc : ¬ F 6 = 0 → s_ok X := fun _ => hW
    have hW9 := hW
    obtain ⟨⟨hL0, hL2, hL6⟩, ⟨hM0, hM6⟩, ⟨hG0, hG40⟩, hok⟩ := hW9
    have hw9 : s_W X ≤ 45 := by unfold s_W; omega
    have har := s_arrd_le hW
    refine lv_aload_n hx hb dX2_meanHours_0 rfl (lv_at hl 0 rfl) ?_
    refine g_cMV hX hl y_X2_mayLook v_X2_mayLook q2536 k_X2_mayLook (hM.rc hX.2.2.2) hM rfl ⟨Nat.le_of_ble_eq_true rfl, Nat.le_of_ble_eq_true rfl⟩ ⟨Nat.le_refl _, Nat.le_refl _⟩ (rest := []) (st1 := [.int (g_b (decide (s_may (F 6) 1 1 = 0)))]) rfl rfl (Nat.le_of_ble_eq_true rfl) dX2_meanHours_1 hS (fun _ h => h) (fun H locs hM hS _ => ?_)
    have hmy : s_may (F 6) 1 1 = 0 := s_may_ok hF (by decide) (by decide)
    rw [hmy] at hM ⊢
    refine g_if_eqB (tgt := 28) hx hb (b := decide ((0 : Int32) = 0)) rfl dX2_meanHours_4 (by decide) (fun c_4 => ?_) (fun c_4 => ?_)
    · exact Bool.noConfusion ((rfl : decide ((0 : Int32) = 0) = true).symm.trans c_4)
    skip
    refine lv_aload_n hx hb dX2_meanHours_7 rfl (lv_at hl 0 rfl) ?_
    refine g_cRV hX hl y_X2_arrivedMany v_X2_arrivedMany q2378 (k_X2_arrivedMany hW) (hM.rc hX.2.2.2) hM rfl ⟨Nat.le_of_ble_eq_true rfl, Nat.le_of_ble_eq_true rfl⟩ ⟨Nat.zero_le _, Nat.zero_le _⟩ (rest := []) (st1 := [.int (nI (s_arrd X))]) rfl rfl (Nat.le_of_ble_eq_true rfl) dX2_meanHours_8 ?_
    refine g_if_leN (tgt := 28) hx hb (s_arrd X) rfl (by omega) dX2_meanHours_11 (by decide) (fun c_11 => ?_) (fun c_11 => ?_)
    · skip
      refine lv_dconst0 hx hb dX2_meanHours_28 ?_
      exact hret H locs _ _ _ _ _ dX2_meanHours_29 hS (Nat.le_refl _) (Nat.le_refl _) (⟨by unfold s_mean; first | rw [if_pos (by omega)] | rw [if_neg (by omega)], hM⟩)
    · skip
      refine lv_aload_n hx hb dX2_meanHours_14 rfl (lv_at hl 0 rfl) ?_
      refine g_cRV hX hl y_X2_allHours v_X2_allHours q2793 (k_X2_allHours hW) (hM.rc hX.2.2.2) hM rfl ⟨Nat.le_of_ble_eq_true rfl, Nat.le_of_ble_eq_true rfl⟩ ⟨Nat.zero_le _, Nat.zero_le _⟩ (rest := []) (st1 := [.int (s_hours X)]) rfl rfl (Nat.le_of_ble_eq_true rfl) dX2_meanHours_15 ?_
      refine lv_i2d hx hb dX2_meanHours_18 ?_
      refine lv_aload_n hx hb dX2_meanHours_19 rfl (lv_at hl 0 rfl) ?_
      refine g_cRV hX hl y_X2_arrivedMany v_X2_arrivedMany q2378 (k_X2_arrivedMany hW) (hM.rc hX.2.2.2) hM rfl ⟨Nat.le_of_ble_eq_true rfl, Nat.le_of_ble_eq_true rfl⟩ ⟨Nat.zero_le _, Nat.zero_le _⟩ (rest := [.double (FP.i2d (s_hours X))]) (st1 := [.int (nI (s_arrd X)), .double (FP.i2d (s_hours X))]) rfl rfl (Nat.le_of_ble_eq_true rfl) dX2_meanHours_20 ?_
      refine lv_i2d hx hb dX2_meanHours_23 ?_
      refine lv_ddiv hx hb dX2_meanHours_24 (e_ddiv (fun z => by have h9 := (nI_eq (a := s_arrd X) (b := 0) (by omega) (by decide)).mp (z.trans (rfl : (0 : Int32) = nI 0)); omega)) ?_
      refine lv_goto (tgt := 29) hx hb dX2_meanHours_25 (by decide) ?_
      exact hret H locs _ _ _ _ _ dX2_meanHours_29 hS (Nat.le_refl _) (Nat.le_refl _) (⟨by unfold s_mean; first | rw [if_pos (by omega)] | rw [if_neg (by omega)], hM⟩)
  exact key _ _ hM hS

set_option maxHeartbeats 4000000 in
theorem no_X2_share {G : g_G} {l : Launch} {ad : Nat → Nat} {F : Nat → Int32} {X Y : g_Wd} {U V : Nat → g_Wd} {Z : g_Wd} (t9 : Int32) (ht9 : ¬ t9 = 0) (hbad : s_may (F 6) 1 1 = t9) : g_Md G l yX2_share cX2_share 1 (some .float) 2 0 0 [.ref (ad 0)] (g_Mod G ad F X Y U V Z) (g_Qv (some (.float FP.fconst0)) (g_Mod G ad (upd F 0 t9) X Y U V Z)) (md_A ad) := by
  refine g_Md.ofF (by decide) ?_
  intro p e s m args below meth c ls Q hX hM hl hS hret
  have hx := hX.1.1
  have hb := hX.1.2.1
  have hl : lv_has ls 1 [(0, .ref (ad 0))] := hl
  have key : ∀ (H : Heap) (locs : List Loc), g_Mod G ad F X Y U V Z H → va_S (md_A ad) s.heap H locs → W p l e (g_rm 2 0 0) s m args below meth c H locs 0 0 Q (F0 m 0 ls []) := by
    intro H locs hM hS
    refine lv_aload_n hx hb dX2_share_0 rfl (lv_at hl 0 rfl) ?_
    refine g_cMV hX hl y_X2_mayLook v_X2_mayLook q2536 k_X2_mayLook (hM.rc hX.2.2.2) hM rfl ⟨Nat.le_of_ble_eq_true rfl, Nat.le_of_ble_eq_true rfl⟩ ⟨Nat.le_refl _, Nat.le_refl _⟩ (rest := []) (st1 := [.int (g_b (decide (s_may (F 6) 1 1 = 0)))]) rfl rfl (Nat.le_of_ble_eq_true rfl) dX2_share_1 hS (fun _ h => h) (fun H locs hM hS _ => ?_)
    have hmy : s_may (F 6) 1 1 = t9 := by first | exact hbad | (rw [← hbad]; simp [g_b, g_b]; done) | (rw [← hbad]; simp only [g_b, g_b]; rfl) | (rw [← hbad]; grind [g_b])
    rw [hmy] at hM ⊢
    refine g_if_eqB (tgt := 35) hx hb (b := decide (t9 = 0)) rfl dX2_share_4 (by decide) (fun c_4 => ?_) (fun c_4 => ?_)
    rotate_left
    · exact Bool.noConfusion ((decide_eq_false ht9).symm.trans c_4)
    refine lv_fconst0 hx hb dX2_share_35 ?_
    exact hret H locs _ _ _ _ _ dX2_share_36 hS (Nat.le_refl _) (Nat.le_refl _) (⟨rfl, hM⟩)
  exact key _ _ hM hS

set_option maxHeartbeats 4000000 in
theorem no_X2_meanHours {G : g_G} {l : Launch} {ad : Nat → Nat} {F : Nat → Int32} {X Y : g_Wd} {U V : Nat → g_Wd} {Z : g_Wd} (t9 : Int32) (ht9 : ¬ t9 = 0) (hbad : s_may (F 6) 1 1 = t9) : g_Md G l yX2_meanHours cX2_meanHours 1 (some .double) 2 0 0 [.ref (ad 0)] (g_Mod G ad F X Y U V Z) (g_Qv (some (.double FP.dconst0)) (g_Mod G ad (upd F 0 t9) X Y U V Z)) (md_A ad) := by
  refine g_Md.ofD (by decide) ?_
  intro p e s m args below meth c ls Q hX hM hl hS hret
  have hx := hX.1.1
  have hb := hX.1.2.1
  have hl : lv_has ls 1 [(0, .ref (ad 0))] := hl
  have key : ∀ (H : Heap) (locs : List Loc), g_Mod G ad F X Y U V Z H → va_S (md_A ad) s.heap H locs → W p l e (g_rm 2 0 0) s m args below meth c H locs 0 0 Q (F0 m 0 ls []) := by
    intro H locs hM hS
    refine lv_aload_n hx hb dX2_meanHours_0 rfl (lv_at hl 0 rfl) ?_
    refine g_cMV hX hl y_X2_mayLook v_X2_mayLook q2536 k_X2_mayLook (hM.rc hX.2.2.2) hM rfl ⟨Nat.le_of_ble_eq_true rfl, Nat.le_of_ble_eq_true rfl⟩ ⟨Nat.le_refl _, Nat.le_refl _⟩ (rest := []) (st1 := [.int (g_b (decide (s_may (F 6) 1 1 = 0)))]) rfl rfl (Nat.le_of_ble_eq_true rfl) dX2_meanHours_1 hS (fun _ h => h) (fun H locs hM hS _ => ?_)
    have hmy : s_may (F 6) 1 1 = t9 := by first | exact hbad | (rw [← hbad]; simp [g_b, g_b]; done) | (rw [← hbad]; simp only [g_b, g_b]; rfl) | (rw [← hbad]; grind [g_b])
    rw [hmy] at hM ⊢
    refine g_if_eqB (tgt := 28) hx hb (b := decide (t9 = 0)) rfl dX2_meanHours_4 (by decide) (fun c_4 => ?_) (fun c_4 => ?_)
    rotate_left
    · exact Bool.noConfusion ((decide_eq_false ht9).symm.trans c_4)
    refine lv_dconst0 hx hb dX2_meanHours_28 ?_
    exact hret H locs _ _ _ _ _ dX2_meanHours_29 hS (Nat.le_refl _) (Nat.le_refl _) (⟨rfl, hM⟩)
  exact key _ _ hM hS
