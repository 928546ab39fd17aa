/-! THE MODEL: texts -/
set_option maxRecDepth 100000
theorem y_X2_gap : g_Y yX2_gap cX2_gap 3 (some .int) 0 := ⟨q2687, by decide +kernel⟩
theorem v_X2_gap : g_YV yX2_gap := ⟨q2685, q2686, q140⟩
set_option maxHeartbeats 4000000 in
theorem ok_X2_gap {G : g_G} {l : Launch} {ad : Nat → Nat} {F : Nat → Int32} {X Y : g_Wd} {U V : Nat → g_Wd} {Z : g_Wd}  (hF : ¬ F 6 = 0) (hwl : s_wl X) (hwk : s_wk X) : g_Md G l yX2_gap cX2_gap 3 (some .int) 4 0 0 [.ref (ad 0)] (g_Mod G ad F X Y U V Z) (g_Qv (some (.int (s_gap X))) (g_Mod G ad (upd F 0 0) X Y U V Z)) (md_A ad) := by
  refine g_Md.ofI (by decide) (fun _ _ _ => rfl) ?_
  intro p e s m args below meth c ls Q hX hM hl hS hret
  have hx := hX.1.1
  have hb := hX.1.2.1
  have hl : lv_has ls 3 [(0, .ref (ad 0))] := hl
  have key : ∀ (H : Heap) (locs : List Loc), g_Mod G ad F X Y U V Z H → va_S (md_A ad) s.heap H locs → W p l e (g_rm 4 0 0) s m args below meth c H locs 0 0 Q (F0 m 0 ls []) := by
    intro H locs hM hS
    have hW := hwl.1
    have hWc : ¬ F 6 = 0 → s_ok X := fun _ => hW
    have hW9 := hW
    obtain ⟨⟨hL0, hL2, hL6⟩, ⟨hM0, hM6⟩, ⟨hG0, hG40⟩, hok⟩ := hW9
    have hw9 : s_W X ≤ 45 := by unfold s_W; omega
    refine lv_aload_n hx hb dX2_gap_0 rfl (lv_at hl 0 rfl) ?_
    refine g_cMV hX hl y_X2_mayLook v_X2_mayLook q2536 k_X2_mayLook (hM.rc hX.2.2.2) hM rfl ⟨Nat.le_of_ble_eq_true rfl, Nat.le_of_ble_eq_true rfl⟩ ⟨Nat.le_refl _, Nat.le_refl _⟩ (rest := []) (st1 := [.int (g_b (decide (s_may (F 6) 1 1 = 0)))]) rfl rfl (Nat.le_of_ble_eq_true rfl) dX2_gap_1 hS (fun _ h => h) (fun H locs hM hS _ => ?_)
    have hmy : s_may (F 6) 1 1 = 0 := s_may_ok hF (by decide) (by decide)
    rw [hmy] at hM ⊢
    refine g_if_neB (tgt := 9) hx hb (b := decide ((0 : Int32) = 0)) rfl dX2_gap_4 (by decide) (fun c_4 => ?_) (fun c_4 => ?_)
    rotate_left
    · exact Bool.noConfusion ((rfl : decide ((0 : Int32) = 0) = true).symm.trans c_4)
    refine lv_aload_n hx hb dX2_gap_9 rfl (lv_at hl 0 rfl) ?_
    refine g_getM hX hM 1 (by decide) q2164 rfl (v := .ref (ad 1)) rfl dX2_gap_10 ?_
    refine lv_iconst (v := 5) hx hb dX2_gap_13 rfl ?_
    refine g_iald hX hM.a1 5 rfl (by omega) (by decide) (v := (X 0 5)) rfl dX2_gap_14 ?_
    refine lv_aload_n hx hb dX2_gap_15 rfl (lv_at hl 0 rfl) ?_
    refine lv_iconst (v := 3) hx hb dX2_gap_16 rfl ?_
    refine g_cRV hX hl y_X2_ofAllWires v_X2_ofAllWires q2688 (k_X2_ofAllWires 3 hW (by omega)) (hM.rc hX.2.2.2) hM rfl ⟨Nat.le_of_ble_eq_true rfl, Nat.le_of_ble_eq_true rfl⟩ ⟨Nat.zero_le _, Nat.zero_le _⟩ (rest := [.int (X 0 5)]) (st1 := [.int (s_wsum X 3), .int (X 0 5)]) rfl rfl (Nat.le_of_ble_eq_true rfl) dX2_gap_17 ?_
    refine lv_isub hx hb dX2_gap_20 ?_
    refine va_mabs hx hb (hX.1.2.2.1.trans hl.1.symm) hX.1.2.2.2.1 (hX.1.2.2.2.2 _ q2692) (hX.1.2.2.2.2 _ q1629) (hX.1.2.2.2.2 _ q150) (hX.1.2.2.2.2 _ q1630) (Nat.le_of_ble_eq_true rfl) (Nat.le_of_ble_eq_true rfl) (Nat.zero_le _) (Nat.zero_le _) dX2_gap_21 ?_
    refine lv_aload_n hx hb dX2_gap_24 rfl (lv_at hl 0 rfl) ?_
    refine g_getM hX hM 1 (by decide) q2164 rfl (v := .ref (ad 1)) rfl dX2_gap_25 ?_
    refine lv_bipush (v := 6) hx hb dX2_gap_28 (by decide) ?_
    refine g_iald hX hM.a1 6 rfl (by omega) (by decide) (v := (X 0 6)) rfl dX2_gap_30 ?_
    refine lv_aload_n hx hb dX2_gap_31 rfl (lv_at hl 0 rfl) ?_
    refine lv_iconst (v := 4) hx hb dX2_gap_32 rfl ?_
    refine g_cRV hX hl y_X2_ofAllWires v_X2_ofAllWires q2688 (k_X2_ofAllWires 4 hW (by omega)) (hM.rc hX.2.2.2) hM rfl ⟨Nat.le_of_ble_eq_true rfl, Nat.le_of_ble_eq_true rfl⟩ ⟨Nat.zero_le _, Nat.zero_le _⟩ (rest := [.int (X 0 6), .int (s_abs ((X 0 5) - (s_wsum X 3)))]) (st1 := [.int (s_wsum X 4), .int (X 0 6), .int (s_abs ((X 0 5) - (s_wsum X 3)))]) rfl rfl (Nat.le_of_ble_eq_true rfl) dX2_gap_33 ?_
    refine lv_isub hx hb dX2_gap_36 ?_
    refine va_mabs hx hb (hX.1.2.2.1.trans hl.1.symm) hX.1.2.2.2.1 (hX.1.2.2.2.2 _ q2692) (hX.1.2.2.2.2 _ q1629) (hX.1.2.2.2.2 _ q150) (hX.1.2.2.2.2 _ q1630) (Nat.le_of_ble_eq_true rfl) (Nat.le_of_ble_eq_true rfl) (Nat.zero_le _) (Nat.zero_le _) dX2_gap_37 ?_
    refine lv_iadd hx hb dX2_gap_40 ?_
    refine lv_istore_n (lv' := [(1, .int ((s_abs ((X 0 5) - (s_wsum X 3))) + (s_abs ((X 0 6) - (s_wsum X 4))))), (0, .ref (ad 0))]) hx hb dX2_gap_41 rfl hl (by decide) rfl (fun ls hl => ?_)
    refine lv_iconst (v := 0) hx hb dX2_gap_42 rfl ?_
    refine lv_istore_n (lv' := [(2, .int 0), (1, .int ((s_abs ((X 0 5) - (s_wsum X 3))) + (s_abs ((X 0 6) - (s_wsum X 4))))), (0, .ref (ad 0))]) hx hb dX2_gap_43 rfl hl (by decide) rfl (fun ls hl => ?_)
    have L44 : ∀ (nf : Nat) (H : Heap) (locs : List Loc) (j : Nat), (j ≤ s_M X) → (s_M X - j < nf) → (g_Mod G ad (upd F 0 0) X Y U V Z H) → va_S (md_A ad) s.heap H locs → ∀ ls : Array Slot, lv_has ls 3 [(2, .int (nI j)), (1, .int (s_abs (X 0 5 - s_wsum X 3) + s_abs (X 0 6 - s_wsum X 4) + s_isum (fun m => nI (s_unlM (X (3 + m))))  j)), (0, .ref (ad 0))] → W p l e (g_rm 4 0 0) s m args below meth c H locs 0 0 Q (F0 m 44 ls []) := by
      intro n44
      induction n44 with
      | zero => intro H locs j hj hn; exact absurd hn (Nat.not_lt_zero _)
      | succ n44 ih44 =>
        intro H locs j hj hn44 hM hS ls hl
        refine lv_iload_n hx hb dX2_gap_44 rfl (lv_at hl 0 rfl) ?_
        refine lv_aload_n hx hb dX2_gap_45 rfl (lv_at hl 2 rfl) ?_
        refine g_getM hX hM 1 (by decide) q2164 rfl (v := .ref (ad 1)) rfl dX2_gap_46 ?_
        refine lv_iconst (v := 3) hx hb dX2_gap_49 rfl ?_
        refine g_iald hX hM.a1 3 rfl (by omega) (by decide) (v := (X 0 3)) rfl dX2_gap_50 ?_
        refine g_icmp_geN (tgt := 68) hx hb j (s_M X) rfl hM0 (by omega) (by omega) dX2_gap_51 (by decide) (fun c_51 => ?_) (fun c_51 => ?_)
        · skip
          refine lv_iload_n hx hb dX2_gap_68 rfl (lv_at hl 1 rfl) ?_
          exact hret H locs _ _ _ _ _ dX2_gap_69 hS (Nat.le_refl _) (Nat.le_refl _) (⟨by rw [show j = s_M X by omega]; rfl, hM⟩)
        · skip
          refine lv_iload_n hx hb dX2_gap_54 rfl (lv_at hl 1 rfl) ?_
          refine lv_aload_n hx hb dX2_gap_55 rfl (lv_at hl 2 rfl) ?_
          refine lv_iload_n hx hb dX2_gap_56 rfl (lv_at hl 0 rfl) ?_
          refine g_cRV hX hl y_X2_unlikeCopies v_X2_unlikeCopies q2693 (k_X2_unlikeCopies j (by omega) (hok j c_51)) (hM.rc hX.2.2.2) hM rfl ⟨Nat.le_of_ble_eq_true rfl, Nat.le_of_ble_eq_true rfl⟩ ⟨Nat.zero_le _, Nat.zero_le _⟩ (rest := [.int (s_abs (X 0 5 - s_wsum X 3) + s_abs (X 0 6 - s_wsum X 4) + s_isum (fun m => nI (s_unlM (X (3 + m))))  j)]) (st1 := [.int (nI (s_unlM (X (3 + j)))), .int (s_abs (X 0 5 - s_wsum X 3) + s_abs (X 0 6 - s_wsum X 4) + s_isum (fun m => nI (s_unlM (X (3 + m))))  j)]) rfl rfl (Nat.le_of_ble_eq_true rfl) dX2_gap_57 ?_
          refine lv_iadd hx hb dX2_gap_60 ?_
          refine lv_istore_n (lv' := [(1, .int ((s_abs (X 0 5 - s_wsum X 3) + s_abs (X 0 6 - s_wsum X 4) + s_isum (fun m => nI (s_unlM (X (3 + m))))  j) + (nI (s_unlM (X (3 + j)))))), (2, .int (nI j)), (0, .ref (ad 0))]) hx hb dX2_gap_61 rfl hl (by decide) rfl (fun ls hl => ?_)
          refine lv_iinc (v := (nI (j + 1))) (lv' := [(2, .int (nI (j + 1))), (1, .int ((s_abs (X 0 5 - s_wsum X 3) + s_abs (X 0 6 - s_wsum X 4) + s_isum (fun m => nI (s_unlM (X (3 + m))))  j) + (nI (s_unlM (X (3 + j)))))), (0, .ref (ad 0))]) hx hb dX2_gap_62 hl (k := 1) rfl (nI_1 _) (by decide) rfl (fun ls hl => ?_)
          refine lv_goto (tgt := 44) hx hb dX2_gap_65 (by decide) ?_
          have e_1 : ((s_abs (X 0 5 - s_wsum X 3) + s_abs (X 0 6 - s_wsum X 4) + s_isum (fun m => nI (s_unlM (X (3 + m))))  j) + (nI (s_unlM (X (3 + j))))) = (s_abs (X 0 5 - s_wsum X 3) + s_abs (X 0 6 - s_wsum X 4) + s_isum (fun m => nI (s_unlM (X (3 + m))))  (j + 1)) := Int32.add_assoc _ _ _
          rw [e_1] at hl
          exact ih44 H locs (j + 1) (by omega) (by omega) hM hS ls (lv_sub hl [0, 1, 2] rfl)
    exact L44 (s_M X - 0 + 1) H locs 0 (by omega) (Nat.lt_succ_self _) hM hS ls (by rw [show s_abs (X 0 5 - s_wsum X 3) + s_abs (X 0 6 - s_wsum X 4) + s_isum (fun m => nI (s_unlM (X (3 + m))))  0 = s_abs (X 0 5 - s_wsum X 3) + s_abs (X 0 6 - s_wsum X 4) from Int32.add_zero _]; exact lv_sub hl [0, 1, 2] rfl)
  exact key _ _ hM hS

set_option maxHeartbeats 4000000 in
theorem no_X2_gap {G : g_G} {l : Launch} {ad : Nat → Nat} {F : Nat → Int32} {X Y : g_Wd} {U V : Nat → g_Wd} {Z : g_Wd} (t9 : Int32) (ht9 : ¬ t9 = 0) (hbad : s_may (F 6) 1 1 = t9) (hWc : ¬ F 6 = 0 → s_ok X) : g_Md G l yX2_gap cX2_gap 3 (some .int) 2 0 0 [.ref (ad 0)] (g_Mod G ad F X Y U V Z) (g_Qv (some (.int 0)) (g_Mod G ad (upd F 0 t9) X Y U V Z)) (md_A ad) := by
  refine g_Md.ofI (by decide) (fun _ _ _ => rfl) ?_
  intro p e s m args below meth c ls Q hX hM hl hS hret
  have hx := hX.1.1
  have hb := hX.1.2.1
  have hl : lv_has ls 3 [(0, .ref (ad 0))] := hl
  have key : ∀ (H : Heap) (locs : List Loc), g_Mod G ad F X Y U V Z H → va_S (md_A ad) s.heap H locs → W p l e (g_rm 2 0 0) s m args below meth c H locs 0 0 Q (F0 m 0 ls []) := by
    intro H locs hM hS
    refine lv_aload_n hx hb dX2_gap_0 rfl (lv_at hl 0 rfl) ?_
    refine g_cMV hX hl y_X2_mayLook v_X2_mayLook q2536 k_X2_mayLook (hM.rc hX.2.2.2) hM rfl ⟨Nat.le_of_ble_eq_true rfl, Nat.le_of_ble_eq_true rfl⟩ ⟨Nat.le_refl _, Nat.le_refl _⟩ (rest := []) (st1 := [.int (g_b (decide (s_may (F 6) 1 1 = 0)))]) rfl rfl (Nat.le_of_ble_eq_true rfl) dX2_gap_1 hS (fun _ h => h) (fun H locs hM hS _ => ?_)
    have hmy : s_may (F 6) 1 1 = t9 := by first | exact hbad | (rw [← hbad]; simp [g_b, g_b]; done) | (rw [← hbad]; simp only [g_b, g_b]; rfl)
    rw [hmy] at hM ⊢
    refine g_if_neB (tgt := 9) hx hb (b := decide (t9 = 0)) rfl dX2_gap_4 (by decide) (fun c_4 => ?_) (fun c_4 => ?_)
    · exact Bool.noConfusion ((decide_eq_false ht9).symm.trans c_4)
    skip
    refine lv_iconst (v := 0) hx hb dX2_gap_7 rfl ?_
    exact hret H locs _ _ _ _ _ dX2_gap_8 hS (Nat.le_refl _) (Nat.le_refl _) (⟨rfl, hM⟩)
  exact key _ _ hM hS

theorem y_X2_writesByte : g_Y yX2_writesByte cX2_writesByte 2 none 1 := ⟨q2804, by decide +kernel⟩
theorem v_X2_writesByte : g_YV yX2_writesByte := ⟨q2803, qs128, q140⟩
set_option maxHeartbeats 4000000 in
theorem k_X2_writesByte {G : g_G} {l : Launch} {ad : Nat → Nat} {F : Nat → Int32} {X Y : g_Wd} {U V : Nat → g_Wd} (ch : Int32) (T : g_Tx) (hT : T.2 < 600) : g_Md G l yX2_writesByte cX2_writesByte 2 none 0 0 0 [.ref (ad 0), .int ch] (g_Mod G ad (upd F 19 (nI T.2)) X Y U V T.1) (g_Qv none (g_Mod G ad (upd F 19 (nI (w_b T ch).2)) X Y U V ((w_b T ch).1))) (md_A ad) := by
  refine g_Md.ofV (by decide) ?_
  intro p e s m args below meth c ls Q hX hM hl hS hret
  have hx := hX.1.1
  have hb := hX.1.2.1
  have hl : lv_has ls 2 [(0, .ref (ad 0)), (1, .int ch)] := hl
  have key : ∀ (H : Heap) (locs : List Loc), g_Mod G ad (upd F 19 (nI T.2)) X Y U V T.1 H → va_S (md_A ad) s.heap H locs → W p l e (g_rm 0 0 0) s m args below meth c H locs 0 0 Q (F0 m 0 ls []) := by
    intro H locs hM hS
    refine lv_aload_n hx hb dX2_writesByte_0 rfl (lv_at hl 0 rfl) ?_
    refine g_getM hX hM 18 (by decide) q2181 rfl (v := .ref (ad 18)) rfl dX2_writesByte_1 ?_
    refine lv_aload_n hx hb dX2_writesByte_4 rfl (lv_at hl 0 rfl) ?_
    refine g_getM hX hM 19 (by decide) q2182 rfl (v := .int (nI T.2)) rfl dX2_writesByte_5 ?_
    refine lv_iload_n hx hb dX2_writesByte_8 rfl (lv_at hl 1 rfl) ?_
    refine lv_i2b hx hb dX2_writesByte_9 rfl ?_
    refine g_stZ18 hX hM hS T.2 rfl (by omega) (x' := ch.toInt8.toInt32) (vw_nar ch) dX2_writesByte_10 (fun H locs hM hS => ?_)
    refine lv_aload_n hx hb dX2_writesByte_11 rfl (lv_at hl 0 rfl) ?_
    refine lv_dup hx hb dX2_writesByte_12 rfl ?_
    refine g_getM hX hM 19 (by decide) q2182 rfl (v := .int (nI T.2)) rfl dX2_writesByte_13 ?_
    refine lv_iconst (v := 1) hx hb dX2_writesByte_16 rfl ?_
    refine g_iaddN hx hb T.2 1 rfl rfl dX2_writesByte_17 ?_
    refine g_putM hX hM hS 19 (by decide) q2182 rfl rfl (x := (nI (T.2 + 1))) rfl rfl (F' := upd F 19 (nI (T.2 + 1))) rfl dX2_writesByte_18 (fun H locs hM hS => ?_)
    exact hret H locs _ _ _ _ dX2_writesByte_21 hS (Nat.le_refl _) (Nat.le_refl _) (⟨rfl, hM⟩)
  exact key _ _ hM hS

theorem y_X2_writesDigit : g_Y yX2_writesDigit cX2_writesDigit 2 none 1 := ⟨q2808, by decide +kernel⟩
theorem v_X2_writesDigit : g_YV yX2_writesDigit := ⟨q2807, qs129, q140⟩
set_option maxHeartbeats 4000000 in
theorem k_X2_writesDigit {G : g_G} {l : Launch} {ad : Nat → Nat} {F : Nat → Int32} {X Y : g_Wd} {U V : Nat → g_Wd} (dg : Int32) (T : g_Tx) (hT : T.2 < 600) : g_Md G l yX2_writesDigit cX2_writesDigit 2 none 1 0 0 [.ref (ad 0), .int dg] (g_Mod G ad (upd F 19 (nI T.2)) X Y U V T.1) (g_Qv none (g_Mod G ad (upd F 19 (nI (w_d T dg).2)) X Y U V ((w_d T dg).1))) (md_A ad) := by
  refine g_Md.ofV (by decide) ?_
  intro p e s m args below meth c ls Q hX hM hl hS hret
  have hx := hX.1.1
  have hb := hX.1.2.1
  have hl : lv_has ls 2 [(0, .ref (ad 0)), (1, .int dg)] := hl
  have key : ∀ (H : Heap) (locs : List Loc), g_Mod G ad (upd F 19 (nI T.2)) X Y U V T.1 H → va_S (md_A ad) s.heap H locs → W p l e (g_rm 1 0 0) s m args below meth c H locs 0 0 Q (F0 m 0 ls []) := by
    intro H locs hM hS
    refine lv_aload_n hx hb dX2_writesDigit_0 rfl (lv_at hl 0 rfl) ?_
    refine lv_iload_n hx hb dX2_writesDigit_1 rfl (lv_at hl 1 rfl) ?_
    refine lv_iconst (v := (-1)) hx hb dX2_writesDigit_2 rfl ?_
    refine lv_icmp_ne (tgt := 11) hx hb dX2_writesDigit_3 (by decide) (fun c_3 => ?_) (fun c_3 => ?_)
    · skip
      refine lv_bipush (v := 48) hx hb dX2_writesDigit_11 (by decide) ?_
      refine lv_iload_n hx hb dX2_writesDigit_13 rfl (lv_at hl 1 rfl) ?_
      refine lv_iadd hx hb dX2_writesDigit_14 ?_
      refine g_cMV hX hl y_X2_writesByte v_X2_writesByte q2801 (k_X2_writesByte (48 + dg) T (by (try simp only [w_b_2, w_n_2, w_d_2]); omega)) (hM.rc hX.2.2.2) hM rfl ⟨Nat.le_of_ble_eq_true rfl, Nat.le_of_ble_eq_true rfl⟩ ⟨Nat.le_refl _, Nat.le_refl _⟩ (rest := []) (st1 := []) rfl rfl (Nat.le_of_ble_eq_true rfl) dX2_writesDigit_15 hS (fun _ h => h) (fun H locs hM hS _ => ?_)
      exact hret H locs _ _ _ _ dX2_writesDigit_18 hS (Nat.le_refl _) (Nat.le_refl _) (⟨rfl, by unfold w_d; first | (rw [if_pos c_3]; exact hM) | (rw [if_neg c_3]; exact hM)⟩)
    · skip
      refine lv_bipush (v := 63) hx hb dX2_writesDigit_6 (by decide) ?_
      refine lv_goto (tgt := 15) hx hb dX2_writesDigit_8 (by decide) ?_
      refine g_cMV hX hl y_X2_writesByte v_X2_writesByte q2801 (k_X2_writesByte 63 T (by (try simp only [w_b_2, w_n_2, w_d_2]); omega)) (hM.rc hX.2.2.2) hM rfl ⟨Nat.le_of_ble_eq_true rfl, Nat.le_of_ble_eq_true rfl⟩ ⟨Nat.le_refl _, Nat.le_refl _⟩ (rest := []) (st1 := []) rfl rfl (Nat.le_of_ble_eq_true rfl) dX2_writesDigit_15 hS (fun _ h => h) (fun H locs hM hS _ => ?_)
      exact hret H locs _ _ _ _ dX2_writesDigit_18 hS (Nat.le_refl _) (Nat.le_refl _) (⟨rfl, by unfold w_d; first | (rw [if_pos c_3]; exact hM) | (rw [if_neg c_3]; exact hM)⟩)
  exact key _ _ hM hS

theorem y_X2_writesNumber : g_Y yX2_writesNumber cX2_writesNumber 3 none 1 := ⟨q2824, by decide +kernel⟩
theorem v_X2_writesNumber : g_YV yX2_writesNumber := ⟨q2823, qs130, q140⟩
set_option maxHeartbeats 4000000 in
theorem k_X2_writesNumber {G : g_G} {l : Launch} {ad : Nat → Nat} {F : Nat → Int32} {X Y : g_Wd} {U V : Nat → g_Wd} (v : Nat) (T : g_Tx) (hv : v < 10000000) (hT : T.2 + 7 < 600) : g_Md G l yX2_writesNumber cX2_writesNumber 3 none 1 0 0 [.ref (ad 0), .int (nI v)] (g_Mod G ad (upd F 19 (nI T.2)) X Y U V T.1) (g_Qv none (g_Mod G ad (upd F 19 (nI (w_n T v).2)) X Y U V ((w_n T v).1))) (md_A ad) := by
  refine g_Md.ofV (by decide) ?_
  intro p e s m args below meth c ls Q hX hM hl hS hret
  have hx := hX.1.1
  have hb := hX.1.2.1
  have hl : lv_has ls 3 [(0, .ref (ad 0)), (1, .int (nI v))] := hl
  have key : ∀ (H : Heap) (locs : List Loc), g_Mod G ad (upd F 19 (nI T.2)) X Y U V T.1 H → va_S (md_A ad) s.heap H locs → W p l e (g_rm 1 0 0) s m args below meth c H locs 0 0 Q (F0 m 0 ls []) := by
    intro H locs hM hS
    have hpl := w_pow_le v
    refine lv_iconst (v := 1) hx hb dX2_writesNumber_0 rfl ?_
    refine lv_istore_n (lv' := [(2, .int 1), (0, .ref (ad 0)), (1, .int (nI v))]) hx hb dX2_writesNumber_1 rfl hl (by decide) rfl (fun ls hl => ?_)
    have L2 : ∀ (nf : Nat) (H : Heap) (locs : List Loc) (e9 : Nat), (e9 ≤ w_pow v) → (w_pow v - e9 < nf) → (g_Mod G ad (upd F 19 (nI T.2)) X Y U V T.1 H) → va_S (md_A ad) s.heap H locs → ∀ ls : Array Slot, lv_has ls 3 [(2, .int (nI (10 ^ e9))), (1, .int (nI v)), (0, .ref (ad 0))] → W p l e (g_rm 1 0 0) s m args below meth c H locs 0 0 Q (F0 m 2 ls []) := by
      intro n2
      induction n2 with
      | zero => intro H locs e9 he hn; exact absurd hn (Nat.not_lt_zero _)
      | succ n2 ih2 =>
        intro H locs e9 he hn2 hM hS ls hl
        have hte := w_ten e9 (by omega)
        have hq : v / 10 ^ e9 ≤ v := Nat.div_le_self _ _
        have hlt := w_pow_lt (e := e9) hv (by omega)
        refine lv_iload_n hx hb dX2_writesNumber_2 rfl (lv_at hl 1 rfl) ?_
        refine lv_iload_n hx hb dX2_writesNumber_3 rfl (lv_at hl 0 rfl) ?_
        refine g_idivN hx hb v (10 ^ e9) rfl rfl (by omega) (by omega) (by omega) dX2_writesNumber_4 ?_
        refine lv_bipush (v := 9) hx hb dX2_writesNumber_5 (by decide) ?_
        refine g_icmp_leN (tgt := 18) hx hb (v / 10 ^ e9) 9 rfl rfl (by omega) (by omega) dX2_writesNumber_7 (by decide) (fun c_7 => ?_) (fun c_7 => ?_)
        · skip
          have L18 : ∀ (nf : Nat) (H : Heap) (locs : List Loc) (r : Nat) (T1 : g_Tx), (r ≤ 7) → (T1.2 + r < 600) → (w_rest T1 v r = w_n T v) → (r < nf) → (g_Mod G ad (upd F 19 (nI T1.2)) X Y U V T1.1 H) → va_S (md_A ad) s.heap H locs → ∀ ls : Array Slot, lv_has ls 3 [(2, .int (nI (w_by r))), (1, .int (nI v)), (0, .ref (ad 0))] → W p l e (g_rm 1 0 0) s m args below meth c H locs 0 0 Q (F0 m 18 ls []) := by
            intro n18
            induction n18 with
            | zero => intro H locs r T1 hr hb7 hR hn; exact absurd hn (Nat.not_lt_zero _)
            | succ n18 ih18 =>
              intro H locs r T1 hr hb7 hR hn18 hM hS ls hl
              have hwb : w_by r < 2 ^ 31 := w_by_lt r hr
              refine lv_iload_n hx hb dX2_writesNumber_18 rfl (lv_at hl 0 rfl) ?_
              refine g_if_leN (tgt := 43) hx hb (w_by r) rfl (by omega) dX2_writesNumber_19 (by decide) (fun c_19 => ?_) (fun c_19 => ?_)
              · skip
                exact hret H locs _ _ _ _ dX2_writesNumber_43 hS (Nat.le_refl _) (Nat.le_refl _) (⟨rfl, by have hr0 : r = 0 := w_by_0 c_19; rw [hr0] at hR; rw [← hR]; exact hM⟩)
              · skip
                obtain ⟨r, rfl⟩ : ∃ z, r = z + 1 := ⟨r - 1, by have h1 : r ≠ 0 := (fun z => by rw [z] at c_19; exact absurd c_19 (Nat.lt_irrefl _)); omega⟩
                have hte := w_ten r (by omega)
                have hq : v / 10 ^ r ≤ v := Nat.div_le_self _ _
                refine lv_aload_n hx hb dX2_writesNumber_22 rfl (lv_at hl 2 rfl) ?_
                refine lv_bipush (v := 48) hx hb dX2_writesNumber_23 (by decide) ?_
                refine lv_iload_n hx hb dX2_writesNumber_25 rfl (lv_at hl 1 rfl) ?_
                refine lv_iload_n hx hb dX2_writesNumber_26 rfl (lv_at hl 0 rfl) ?_
                refine g_idivN hx hb v (10 ^ r) rfl rfl (by omega) (by omega) (by omega) dX2_writesNumber_27 ?_
                refine lv_bipush (v := 10) hx hb dX2_writesNumber_28 (by decide) ?_
                refine g_iremN hx hb (v / 10 ^ r) 10 rfl rfl (by omega) (by decide) (by decide) dX2_writesNumber_30 ?_
                refine g_iaddN hx hb 48 (v / 10 ^ r % 10) rfl rfl dX2_writesNumber_31 ?_
                refine g_cMV hX hl y_X2_writesByte v_X2_writesByte q2801 (k_X2_writesByte (nI (48 + v / 10 ^ r % 10)) T1 (by (try simp only [w_b_2, w_n_2, w_d_2]); omega)) (hM.rc hX.2.2.2) hM rfl ⟨Nat.le_of_ble_eq_true rfl, Nat.le_of_ble_eq_true rfl⟩ ⟨Nat.le_refl _, Nat.le_refl _⟩ (rest := []) (st1 := []) rfl rfl (Nat.le_of_ble_eq_true rfl) dX2_writesNumber_32 hS (fun _ h => h) (fun H locs hM hS _ => ?_)
                refine lv_iload_n hx hb dX2_writesNumber_35 rfl (lv_at hl 0 rfl) ?_
                refine lv_bipush (v := 10) hx hb dX2_writesNumber_36 (by decide) ?_
                refine g_idivN hx hb (10 ^ r) 10 rfl rfl (by omega) (by decide) (by decide) dX2_writesNumber_38 ?_
                refine lv_istore_n (lv' := [(2, .int (nI (10 ^ r / 10))), (1, .int (nI v)), (0, .ref (ad 0))]) hx hb dX2_writesNumber_39 rfl hl (by decide) rfl (fun ls hl => ?_)
                refine lv_goto (tgt := 18) hx hb dX2_writesNumber_40 (by decide) ?_
                have e_2 : (nI (10 ^ r / 10)) = (nI (w_by r)) := by rw [w_by_div]
                rw [e_2] at hl
                exact ih18 H locs r (w_b T1 (nI (48 + v / 10 ^ r % 10))) (by omega) (by show T1.2 + 1 + r < 600; omega) (by rw [w_rest_s]; exact hR) (by omega) hM hS ls (lv_sub hl [0, 1, 2] rfl)
          exact L18 ((e9 + 1) + 1) H locs (e9 + 1) T (by omega) (by omega) (by rw [show e9 = w_pow v by omega]; rfl) (Nat.lt_succ_self _) hM hS ls (lv_sub hl [0, 1, 2] rfl)
        · skip
          refine lv_iload_n hx hb dX2_writesNumber_10 rfl (lv_at hl 0 rfl) ?_
          refine lv_bipush (v := 10) hx hb dX2_writesNumber_11 (by decide) ?_
          refine g_imulN hx hb (10 ^ e9) 10 rfl rfl dX2_writesNumber_13 ?_
          refine lv_istore_n (lv' := [(2, .int (nI ((10 ^ e9) * 10))), (1, .int (nI v)), (0, .ref (ad 0))]) hx hb dX2_writesNumber_14 rfl hl (by decide) rfl (fun ls hl => ?_)
          refine lv_goto (tgt := 2) hx hb dX2_writesNumber_15 (by decide) ?_
          have e_2 : (nI ((10 ^ e9) * 10)) = (nI (10 ^ (e9 + 1))) := rfl
          rw [e_2] at hl
          exact ih2 H locs (e9 + 1) ((w_pow_lt hv (by omega)).mp c_7) (by omega) hM hS ls (lv_sub hl [0, 1, 2] rfl)
    exact L2 (w_pow v - 0 + 1) H locs 0 (by omega) (Nat.lt_succ_self _) hM hS ls (lv_sub hl [0, 2, 1] rfl)
  exact key _ _ hM hS

theorem y_X2_writeMessage : g_Y yX2_writeMessage cX2_writeMessage 4 (some .int) 1 := ⟨q2800, by decide +kernel⟩
theorem v_X2_writeMessage : g_YV yX2_writeMessage := ⟨q2798, q2799, q140⟩
set_option maxHeartbeats 4000000 in
theorem ok_X2_writeMessage {G : g_G} {l : Launch} {ad : Nat → Nat} {F : Nat → Int32} {X Y : g_Wd} {U V : Nat → g_Wd} {Z : g_Wd} (j : Nat) (hF : ¬ F 6 = 0) (hwl : s_wl X) (hj : j < s_M X) : g_Md G l yX2_writeMessage cX2_writeMessage 4 (some .int) 3 0 0 [.ref (ad 0), .int (nI j)] (g_Mod G ad F X Y U V Z) (g_Qv (some (.int (nI ((w_msg (Z, 0) (X (3 + j)) 3).2)))) (g_Mod G ad (upd (upd F 0 0) 19 (nI (w_msg (Z, 0) (X (3 + j)) 3).2)) X Y U V ((w_msg (Z, 0) (X (3 + j)) 3).1))) (md_A ad) := by
  refine g_Md.ofI (by decide) (fun _ _ _ => rfl) ?_
  intro p e s m args below meth c ls Q hX hM hl hS hret
  have hx := hX.1.1
  have hb := hX.1.2.1
  have hl : lv_has ls 4 [(0, .ref (ad 0)), (1, .int (nI j))] := hl
  have key : ∀ (H : Heap) (locs : List Loc), g_Mod G ad F X Y U V Z H → va_S (md_A ad) s.heap H locs → W p l e (g_rm 3 0 0) s m args below meth c H locs 0 0 Q (F0 m 0 ls []) := by
    intro H locs hM hS
    have hW := hwl.1
    have hWc : ¬ F 6 = 0 → s_ok X := fun _ => hW
    have hW9 := hW
    obtain ⟨⟨hL0, hL2, hL6⟩, ⟨hM0, hM6⟩, ⟨hG0, hG40⟩, hok⟩ := hW9
    have hw9 : s_W X ≤ 45 := by unfold s_W; omega
    have hmsg := s_isMsg_ok hF hW hj
    have ho := hok j hj
    have hL := ho.2
    have hj6 : j < 6 := by omega
    refine lv_aload_n hx hb dX2_writeMessage_0 rfl (lv_at hl 0 rfl) ?_
    refine lv_iload_n hx hb dX2_writeMessage_1 rfl (lv_at hl 1 rfl) ?_
    refine g_cMV hX hl y_X2_mayMessage v_X2_mayMessage q2636 (k_X2_mayMessage (nI j)) (hM.rc hX.2.2.2) hM rfl ⟨Nat.le_of_ble_eq_true rfl, Nat.le_of_ble_eq_true rfl⟩ ⟨Nat.le_refl _, Nat.le_refl _⟩ (rest := []) (st1 := [.int (g_b (decide (s_may (F 6) (g_b (s_isMsg F X (nI j))) 1 = 0)))]) rfl rfl (Nat.le_of_ble_eq_true rfl) dX2_writeMessage_2 hS (fun _ h => h) (fun H locs hM hS _ => ?_)
    have hmy : s_may (F 6) (g_b (s_isMsg F X (nI j))) 1 = 0 := s_may_ok hF (g_b_ne hmsg) (by decide)
    rw [hmy] at hM ⊢
    refine g_if_neB (tgt := 10) hx hb (b := decide ((0 : Int32) = 0)) rfl dX2_writeMessage_5 (by decide) (fun c_5 => ?_) (fun c_5 => ?_)
    rotate_left
    · exact Bool.noConfusion ((rfl : decide ((0 : Int32) = 0) = true).symm.trans c_5)
    refine lv_aload_n hx hb dX2_writeMessage_10 rfl (lv_at hl 0 rfl) ?_
    refine lv_iconst (v := 0) hx hb dX2_writeMessage_11 rfl ?_
    refine g_putM hX hM hS 19 (by decide) q2182 rfl rfl (x := 0) rfl rfl (F' := upd (upd F 0 0) 19 0) rfl dX2_writeMessage_12 (fun H locs hM hS => ?_)
    replace hM : g_Mod G ad (upd (upd F 0 0) 19 (nI (Z, 0).2)) X Y U V ((Z, 0).1) H := hM
    refine lv_iconst (v := 0) hx hb dX2_writeMessage_15 rfl ?_
    refine lv_istore_n (lv' := [(2, .int 0), (0, .ref (ad 0)), (1, .int (nI j))]) hx hb dX2_writeMessage_16 rfl hl (by decide) rfl (fun ls hl => ?_)
    have L17 : ∀ (nf : Nat) (H : Heap) (locs : List Loc) (i : Nat) (T1 : g_Tx), (i ≤ 3) → (T1 = w_msg (Z, 0) (X (3 + j)) i) → (3 - i < nf) → (g_Mod G ad (upd (upd F 0 0) 19 (nI T1.2)) X Y U V T1.1 H) → va_S (md_A ad) s.heap H locs → ∀ ls : Array Slot, lv_has ls 4 [(2, .int (nI i)), (0, .ref (ad 0)), (1, .int (nI j))] → W p l e (g_rm 3 0 0) s m args below meth c H locs 0 0 Q (F0 m 17 ls []) := by
      intro n17
      induction n17 with
      | zero => intro H locs i T1 hi hT1 hn; exact absurd hn (Nat.not_lt_zero _)
      | succ n17 ih17 =>
        intro H locs i T1 hi hT1 hn17 hM hS ls hl
        have hb1 := w_msg_2 (Z, 0) (X (3 + j)) i
        rw [← hT1] at hb1
        have hb2 : i * (s_len (X (3 + j)) + 1) ≤ 3 * 13 := Nat.mul_le_mul hi (by omega)
        have hb3 : T1.2 ≤ 39 := by have h0 : ((Z, 0) : g_Tx).2 = 0 := rfl; omega
        refine lv_iload_n hx hb dX2_writeMessage_17 rfl (lv_at hl 0 rfl) ?_
        refine lv_iconst (v := 3) hx hb dX2_writeMessage_18 rfl ?_
        refine g_icmp_geN (tgt := 67) hx hb i 3 rfl rfl (by omega) (by omega) dX2_writeMessage_19 (by decide) (fun c_19 => ?_) (fun c_19 => ?_)
        · skip
          refine lv_aload_n hx hb dX2_writeMessage_67 rfl (lv_at hl 1 rfl) ?_
          refine g_getM hX hM 19 (by decide) q2182 rfl (v := .int (nI T1.2)) rfl dX2_writeMessage_68 ?_
          exact hret H locs _ _ _ _ _ dX2_writeMessage_71 hS (Nat.le_refl _) (Nat.le_refl _) (by obtain rfl : i = 3 := (by omega); subst hT1; exact ⟨rfl, hM⟩)
        · skip
          refine lv_iload_n hx hb dX2_writeMessage_22 rfl (lv_at hl 0 rfl) ?_
          refine g_if_leN (tgt := 32) hx hb i rfl (by omega) dX2_writeMessage_23 (by decide) (fun c_23 => ?_) (fun c_23 => ?_)
          · skip
            refine lv_iconst (v := 0) hx hb dX2_writeMessage_32 rfl ?_
            refine lv_istore_n (lv' := [(3, .int 0), (2, .int (nI i)), (0, .ref (ad 0)), (1, .int (nI j))]) hx hb dX2_writeMessage_33 rfl hl (by decide) rfl (fun ls hl => ?_)
            have L34 : ∀ (nf : Nat) (H : Heap) (locs : List Loc) (q : Nat) (T2 : g_Tx), (q ≤ s_len (X (3 + j))) → (T2 = w_row (w_sep T1 i 47) (fun p => s_has (X (3 + j)) i p) q) → (s_len (X (3 + j)) - q < nf) → (g_Mod G ad (upd (upd F 0 0) 19 (nI T2.2)) X Y U V T2.1 H) → va_S (md_A ad) s.heap H locs → ∀ ls : Array Slot, lv_has ls 4 [(3, .int (nI q)), (2, .int (nI i)), (0, .ref (ad 0)), (1, .int (nI j))] → W p l e (g_rm 3 0 0) s m args below meth c H locs 0 0 Q (F0 m 34 ls []) := by
              intro n34
              induction n34 with
              | zero => intro H locs q T2 hq hT2 hn; exact absurd hn (Nat.not_lt_zero _)
              | succ n34 ih34 =>
                intro H locs q T2 hq hT2 hn34 hM hS ls hl
                have hb4 := w_row_2 (w_sep T1 i 47) (fun p => s_has (X (3 + j)) i p) q
                rw [← hT2] at hb4
                have hb5 := w_sep_2 T1 i 47
                refine lv_iload_n hx hb dX2_writeMessage_34 rfl (lv_at hl 0 rfl) ?_
                refine lv_aload_n hx hb dX2_writeMessage_35 rfl (lv_at hl 2 rfl) ?_
                refine lv_iload_n hx hb dX2_writeMessage_36 rfl (lv_at hl 3 rfl) ?_
                refine lv_iconst (v := 0) hx hb dX2_writeMessage_37 rfl ?_
                refine g_cRV hX hl y_X2_of v_X2_of q2365 (k_X2_of j 0 (by omega) (by omega)) (hM.rc hX.2.2.2) hM rfl ⟨Nat.le_of_ble_eq_true rfl, Nat.le_of_ble_eq_true rfl⟩ ⟨Nat.zero_le _, Nat.zero_le _⟩ (rest := [.int (nI q)]) (st1 := [.int (X (3 + j) 0), .int (nI q)]) rfl rfl (Nat.le_of_ble_eq_true rfl) dX2_writeMessage_38 ?_
                refine g_icmp_geN (tgt := 61) hx hb q (s_len (X (3 + j))) rfl ho.1 (by omega) (by omega) dX2_writeMessage_41 (by decide) (fun c_41 => ?_) (fun c_41 => ?_)
                · skip
                  refine lv_iinc (v := (nI (i + 1))) (lv' := [(2, .int (nI (i + 1))), (3, .int (nI q)), (0, .ref (ad 0)), (1, .int (nI j))]) hx hb dX2_writeMessage_61 hl (k := 1) rfl (nI_1 _) (by decide) rfl (fun ls hl => ?_)
                  refine lv_goto (tgt := 17) hx hb dX2_writeMessage_64 (by decide) ?_
                  exact ih17 H locs (i + 1) T2 (by omega) (by rw [hT2, show q = s_len (X (3 + j)) by omega, hT1]; rfl) (by omega) hM hS ls (lv_sub hl [0, 2, 3] rfl)
                · skip
                  refine lv_aload_n hx hb dX2_writeMessage_44 rfl (lv_at hl 2 rfl) ?_
                  refine lv_aload_n hx hb dX2_writeMessage_45 rfl (lv_at hl 2 rfl) ?_
                  refine lv_iload_n hx hb dX2_writeMessage_46 rfl (lv_at hl 3 rfl) ?_
                  refine lv_iload_n hx hb dX2_writeMessage_47 rfl (lv_at hl 1 rfl) ?_
                  refine lv_iload_n hx hb dX2_writeMessage_48 rfl (lv_at hl 0 rfl) ?_
                  refine g_cRV hX hl y_X2_hasAt v_X2_hasAt q2405 (k_X2_hasAt j i q (by omega) (by omega) (by omega)) (hM.rc hX.2.2.2) hM rfl ⟨Nat.le_of_ble_eq_true rfl, Nat.le_of_ble_eq_true rfl⟩ ⟨Nat.zero_le _, Nat.zero_le _⟩ (rest := [.ref (ad 0)]) (st1 := [.int (s_has (X (3 + j)) i q), .ref (ad 0)]) rfl rfl (Nat.le_of_ble_eq_true rfl) dX2_writeMessage_49 ?_
                  refine g_cMV hX hl y_X2_writesDigit v_X2_writesDigit q2805 (k_X2_writesDigit (s_has (X (3 + j)) i q) T2 (by (try simp only [w_b_2, w_n_2, w_d_2]); omega)) (hM.rc hX.2.2.2) hM rfl ⟨Nat.le_of_ble_eq_true rfl, Nat.le_of_ble_eq_true rfl⟩ ⟨Nat.le_refl _, Nat.le_refl _⟩ (rest := []) (st1 := []) rfl rfl (Nat.le_of_ble_eq_true rfl) dX2_writeMessage_52 hS (fun _ h => h) (fun H locs hM hS _ => ?_)
                  refine lv_iinc (v := (nI (q + 1))) (lv' := [(3, .int (nI (q + 1))), (2, .int (nI i)), (0, .ref (ad 0)), (1, .int (nI j))]) hx hb dX2_writeMessage_55 hl (k := 0) rfl (nI_1 _) (by decide) rfl (fun ls hl => ?_)
                  refine lv_goto (tgt := 34) hx hb dX2_writeMessage_58 (by decide) ?_
                  exact ih34 H locs (q + 1) (w_d T2 (s_has (X (3 + j)) i q)) (by omega) (by rw [hT2]; rfl) (by omega) hM hS ls (lv_sub hl [0, 1, 2, 3] rfl)
            exact L34 (s_len (X (3 + j)) - 0 + 1) H locs 0 T1 (by omega) (by show _ = w_sep T1 i 47; unfold w_sep; first | rw [if_pos (show i = 0 by omega)] | rw [if_neg (show ¬ i = 0 by omega)]) (Nat.lt_succ_self _) hM hS ls (lv_sub hl [0, 1, 2, 3] rfl)
          · skip
            refine lv_aload_n hx hb dX2_writeMessage_26 rfl (lv_at hl 1 rfl) ?_
            refine lv_bipush (v := 47) hx hb dX2_writeMessage_27 (by decide) ?_
            refine g_cMV hX hl y_X2_writesByte v_X2_writesByte q2801 (k_X2_writesByte 47 T1 (by (try simp only [w_b_2, w_n_2, w_d_2]); omega)) (hM.rc hX.2.2.2) hM rfl ⟨Nat.le_of_ble_eq_true rfl, Nat.le_of_ble_eq_true rfl⟩ ⟨Nat.le_refl _, Nat.le_refl _⟩ (rest := []) (st1 := []) rfl rfl (Nat.le_of_ble_eq_true rfl) dX2_writeMessage_29 hS (fun _ h => h) (fun H locs hM hS _ => ?_)
            refine lv_iconst (v := 0) hx hb dX2_writeMessage_32 rfl ?_
            refine lv_istore_n (lv' := [(3, .int 0), (2, .int (nI i)), (0, .ref (ad 0)), (1, .int (nI j))]) hx hb dX2_writeMessage_33 rfl hl (by decide) rfl (fun ls hl => ?_)
            have L34 : ∀ (nf : Nat) (H : Heap) (locs : List Loc) (q : Nat) (T2 : g_Tx), (q ≤ s_len (X (3 + j))) → (T2 = w_row (w_sep T1 i 47) (fun p => s_has (X (3 + j)) i p) q) → (s_len (X (3 + j)) - q < nf) → (g_Mod G ad (upd (upd F 0 0) 19 (nI T2.2)) X Y U V T2.1 H) → va_S (md_A ad) s.heap H locs → ∀ ls : Array Slot, lv_has ls 4 [(3, .int (nI q)), (2, .int (nI i)), (0, .ref (ad 0)), (1, .int (nI j))] → W p l e (g_rm 3 0 0) s m args below meth c H locs 0 0 Q (F0 m 34 ls []) := by
              intro n34
              induction n34 with
              | zero => intro H locs q T2 hq hT2 hn; exact absurd hn (Nat.not_lt_zero _)
              | succ n34 ih34 =>
                intro H locs q T2 hq hT2 hn34 hM hS ls hl
                have hb4 := w_row_2 (w_sep T1 i 47) (fun p => s_has (X (3 + j)) i p) q
                rw [← hT2] at hb4
                have hb5 := w_sep_2 T1 i 47
                refine lv_iload_n hx hb dX2_writeMessage_34 rfl (lv_at hl 0 rfl) ?_
                refine lv_aload_n hx hb dX2_writeMessage_35 rfl (lv_at hl 2 rfl) ?_
                refine lv_iload_n hx hb dX2_writeMessage_36 rfl (lv_at hl 3 rfl) ?_
                refine lv_iconst (v := 0) hx hb dX2_writeMessage_37 rfl ?_
                refine g_cRV hX hl y_X2_of v_X2_of q2365 (k_X2_of j 0 (by omega) (by omega)) (hM.rc hX.2.2.2) hM rfl ⟨Nat.le_of_ble_eq_true rfl, Nat.le_of_ble_eq_true rfl⟩ ⟨Nat.zero_le _, Nat.zero_le _⟩ (rest := [.int (nI q)]) (st1 := [.int (X (3 + j) 0), .int (nI q)]) rfl rfl (Nat.le_of_ble_eq_true rfl) dX2_writeMessage_38 ?_
                refine g_icmp_geN (tgt := 61) hx hb q (s_len (X (3 + j))) rfl ho.1 (by omega) (by omega) dX2_writeMessage_41 (by decide) (fun c_41 => ?_) (fun c_41 => ?_)
                · skip
                  refine lv_iinc (v := (nI (i + 1))) (lv' := [(2, .int (nI (i + 1))), (3, .int (nI q)), (0, .ref (ad 0)), (1, .int (nI j))]) hx hb dX2_writeMessage_61 hl (k := 1) rfl (nI_1 _) (by decide) rfl (fun ls hl => ?_)
                  refine lv_goto (tgt := 17) hx hb dX2_writeMessage_64 (by decide) ?_
                  exact ih17 H locs (i + 1) T2 (by omega) (by rw [hT2, show q = s_len (X (3 + j)) by omega, hT1]; rfl) (by omega) hM hS ls (lv_sub hl [0, 2, 3] rfl)
                · skip
                  refine lv_aload_n hx hb dX2_writeMessage_44 rfl (lv_at hl 2 rfl) ?_
                  refine lv_aload_n hx hb dX2_writeMessage_45 rfl (lv_at hl 2 rfl) ?_
                  refine lv_iload_n hx hb dX2_writeMessage_46 rfl (lv_at hl 3 rfl) ?_
                  refine lv_iload_n hx hb dX2_writeMessage_47 rfl (lv_at hl 1 rfl) ?_
                  refine lv_iload_n hx hb dX2_writeMessage_48 rfl (lv_at hl 0 rfl) ?_
                  refine g_cRV hX hl y_X2_hasAt v_X2_hasAt q2405 (k_X2_hasAt j i q (by omega) (by omega) (by omega)) (hM.rc hX.2.2.2) hM rfl ⟨Nat.le_of_ble_eq_true rfl, Nat.le_of_ble_eq_true rfl⟩ ⟨Nat.zero_le _, Nat.zero_le _⟩ (rest := [.ref (ad 0)]) (st1 := [.int (s_has (X (3 + j)) i q), .ref (ad 0)]) rfl rfl (Nat.le_of_ble_eq_true rfl) dX2_writeMessage_49 ?_
                  refine g_cMV hX hl y_X2_writesDigit v_X2_writesDigit q2805 (k_X2_writesDigit (s_has (X (3 + j)) i q) T2 (by (try simp only [w_b_2, w_n_2, w_d_2]); omega)) (hM.rc hX.2.2.2) hM rfl ⟨Nat.le_of_ble_eq_true rfl, Nat.le_of_ble_eq_true rfl⟩ ⟨Nat.le_refl _, Nat.le_refl _⟩ (rest := []) (st1 := []) rfl rfl (Nat.le_of_ble_eq_true rfl) dX2_writeMessage_52 hS (fun _ h => h) (fun H locs hM hS _ => ?_)
                  refine lv_iinc (v := (nI (q + 1))) (lv' := [(3, .int (nI (q + 1))), (2, .int (nI i)), (0, .ref (ad 0)), (1, .int (nI j))]) hx hb dX2_writeMessage_55 hl (k := 0) rfl (nI_1 _) (by decide) rfl (fun ls hl => ?_)
                  refine lv_goto (tgt := 34) hx hb dX2_writeMessage_58 (by decide) ?_
                  exact ih34 H locs (q + 1) (w_d T2 (s_has (X (3 + j)) i q)) (by omega) (by rw [hT2]; rfl) (by omega) hM hS ls (lv_sub hl [0, 1, 2, 3] rfl)
            exact L34 (s_len (X (3 + j)) - 0 + 1) H locs 0 (w_b T1 47) (by omega) (by show _ = w_sep T1 i 47; unfold w_sep; first | rw [if_pos (show i = 0 by omega)] | rw [if_neg (show ¬ i = 0 by omega)]) (Nat.lt_succ_self _) hM hS ls (lv_sub hl [0, 1, 2, 3] rfl)
    exact L17 (3 - 0 + 1) H locs 0 (Z, 0) (by omega) (rfl) (Nat.lt_succ_self _) hM hS ls (lv_sub hl [0, 1, 2] rfl)
  exact key _ _ hM hS

set_option maxHeartbeats 4000000 in
theorem no_X2_writeMessage {G : g_G} {l : Launch} {ad : Nat → Nat} {F : Nat → Int32} {X Y : g_Wd} {U V : Nat → g_Wd} {Z : g_Wd} (t9 : Int32) (v : Int32) (ht9 : ¬ t9 = 0) (hbad : s_may (F 6) (g_b (s_isMsg F X v)) 1 = t9) (hWc : ¬ F 6 = 0 → s_ok X) : g_Md G l yX2_writeMessage cX2_writeMessage 4 (some .int) 3 0 0 [.ref (ad 0), .int v] (g_Mod G ad F X Y U V Z) (g_Qv (some (.int 0)) (g_Mod G ad (upd F 0 t9) X Y U V Z)) (md_A ad) := by
  refine g_Md.ofI (by decide) (fun _ _ _ => rfl) ?_
  intro p e s m args below meth c ls Q hX hM hl hS hret
  have hx := hX.1.1
  have hb := hX.1.2.1
  have hl : lv_has ls 4 [(0, .ref (ad 0)), (1, .int v)] := hl
  have key : ∀ (H : Heap) (locs : List Loc), g_Mod G ad F X Y U V Z H → va_S (md_A ad) s.heap H locs → W p l e (g_rm 3 0 0) s m args below meth c H locs 0 0 Q (F0 m 0 ls []) := by
    intro H locs hM hS
    refine lv_aload_n hx hb dX2_writeMessage_0 rfl (lv_at hl 0 rfl) ?_
    refine lv_iload_n hx hb dX2_writeMessage_1 rfl (lv_at hl 1 rfl) ?_
    refine g_cMV hX hl y_X2_mayMessage v_X2_mayMessage q2636 (k_X2_mayMessage v) (hM.rc hX.2.2.2) hM rfl ⟨Nat.le_of_ble_eq_true rfl, Nat.le_of_ble_eq_true rfl⟩ ⟨Nat.le_refl _, Nat.le_refl _⟩ (rest := []) (st1 := [.int (g_b (decide (s_may (F 6) (g_b (s_isMsg F X v)) 1 = 0)))]) rfl rfl (Nat.le_of_ble_eq_true rfl) dX2_writeMessage_2 hS (fun _ h => h) (fun H locs hM hS _ => ?_)
    have hmy : s_may (F 6) (g_b (s_isMsg F X v)) 1 = t9 := by first | exact hbad | (rw [← hbad]; simp [g_b, g_b]; done) | (rw [← hbad]; simp only [g_b, g_b]; rfl)
    rw [hmy] at hM ⊢
    refine g_if_neB (tgt := 10) hx hb (b := decide (t9 = 0)) rfl dX2_writeMessage_5 (by decide) (fun c_5 => ?_) (fun c_5 => ?_)
    · exact Bool.noConfusion ((decide_eq_false ht9).symm.trans c_5)
    skip
    refine lv_iconst (v := 0) hx hb dX2_writeMessage_8 rfl ?_
    exact hret H locs _ _ _ _ _ dX2_writeMessage_9 hS (Nat.le_refl _) (Nat.le_refl _) (⟨rfl, hM⟩)
  exact key _ _ hM hS

theorem y_X2_writeBelieved : g_Y yX2_writeBelieved cX2_writeBelieved 3 (some .int) 1 := ⟨q2812, by decide +kernel⟩
theorem v_X2_writeBelieved : g_YV yX2_writeBelieved := ⟨q2810, q2811, q140⟩
set_option maxHeartbeats 4000000 in
theorem ok_X2_writeBelieved {G : g_G} {l : Launch} {ad : Nat → Nat} {F : Nat → Int32} {X Y : g_Wd} {U V : Nat → g_Wd} {Z : g_Wd} (j : Nat) (hF : ¬ F 6 = 0) (hwl : s_wl X) (hj : j < s_M X) : g_Md G l yX2_writeBelieved cX2_writeBelieved 3 (some .int) 3 0 0 [.ref (ad 0), .int (nI j)] (g_Mod G ad F X Y U V Z) (g_Qv (some (.int (nI ((w_row (Z, 0) (fun p => s_bel (X (3 + j)) p) (s_len (X (3 + j)))).2)))) (g_Mod G ad (upd (upd F 0 0) 19 (nI (w_row (Z, 0) (fun p => s_bel (X (3 + j)) p) (s_len (X (3 + j)))).2)) X Y U V ((w_row (Z, 0) (fun p => s_bel (X (3 + j)) p) (s_len (X (3 + j)))).1))) (md_A ad) := by
  refine g_Md.ofI (by decide) (fun _ _ _ => rfl) ?_
  intro p e s m args below meth c ls Q hX hM hl hS hret
  have hx := hX.1.1
  have hb := hX.1.2.1
  have hl : lv_has ls 3 [(0, .ref (ad 0)), (1, .int (nI j))] := hl
  have key : ∀ (H : Heap) (locs : List Loc), g_Mod G ad F X Y U V Z H → va_S (md_A ad) s.heap H locs → W p l e (g_rm 3 0 0) s m args below meth c H locs 0 0 Q (F0 m 0 ls []) := by
    intro H locs hM hS
    have hW := hwl.1
    have hWc : ¬ F 6 = 0 → s_ok X := fun _ => hW
    have hW9 := hW
    obtain ⟨⟨hL0, hL2, hL6⟩, ⟨hM0, hM6⟩, ⟨hG0, hG40⟩, hok⟩ := hW9
    have hw9 : s_W X ≤ 45 := by unfold s_W; omega
    have hmsg := s_isMsg_ok hF hW hj
    have ho := hok j hj
    have hL := ho.2
    have hj6 : j < 6 := by omega
    refine lv_aload_n hx hb dX2_writeBelieved_0 rfl (lv_at hl 0 rfl) ?_
    refine lv_iload_n hx hb dX2_writeBelieved_1 rfl (lv_at hl 1 rfl) ?_
    refine g_cMV hX hl y_X2_mayMessage v_X2_mayMessage q2636 (k_X2_mayMessage (nI j)) (hM.rc hX.2.2.2) hM rfl ⟨Nat.le_of_ble_eq_true rfl, Nat.le_of_ble_eq_true rfl⟩ ⟨Nat.le_refl _, Nat.le_refl _⟩ (rest := []) (st1 := [.int (g_b (decide (s_may (F 6) (g_b (s_isMsg F X (nI j))) 1 = 0)))]) rfl rfl (Nat.le_of_ble_eq_true rfl) dX2_writeBelieved_2 hS (fun _ h => h) (fun H locs hM hS _ => ?_)
    have hmy : s_may (F 6) (g_b (s_isMsg F X (nI j))) 1 = 0 := s_may_ok hF (g_b_ne hmsg) (by decide)
    rw [hmy] at hM ⊢
    refine g_if_neB (tgt := 10) hx hb (b := decide ((0 : Int32) = 0)) rfl dX2_writeBelieved_5 (by decide) (fun c_5 => ?_) (fun c_5 => ?_)
    rotate_left
    · exact Bool.noConfusion ((rfl : decide ((0 : Int32) = 0) = true).symm.trans c_5)
    refine lv_aload_n hx hb dX2_writeBelieved_10 rfl (lv_at hl 0 rfl) ?_
    refine lv_iconst (v := 0) hx hb dX2_writeBelieved_11 rfl ?_
    refine g_putM hX hM hS 19 (by decide) q2182 rfl rfl (x := 0) rfl rfl (F' := upd (upd F 0 0) 19 0) rfl dX2_writeBelieved_12 (fun H locs hM hS => ?_)
    replace hM : g_Mod G ad (upd (upd F 0 0) 19 (nI (Z, 0).2)) X Y U V ((Z, 0).1) H := hM
    refine lv_iconst (v := 0) hx hb dX2_writeBelieved_15 rfl ?_
    refine lv_istore_n (lv' := [(2, .int 0), (0, .ref (ad 0)), (1, .int (nI j))]) hx hb dX2_writeBelieved_16 rfl hl (by decide) rfl (fun ls hl => ?_)
    have L17 : ∀ (nf : Nat) (H : Heap) (locs : List Loc) (q : Nat) (T2 : g_Tx), (q ≤ s_len (X (3 + j))) → (T2 = w_row (Z, 0) (fun p => s_bel (X (3 + j)) p) q) → (s_len (X (3 + j)) - q < nf) → (g_Mod G ad (upd (upd F 0 0) 19 (nI T2.2)) X Y U V T2.1 H) → va_S (md_A ad) s.heap H locs → ∀ ls : Array Slot, lv_has ls 3 [(2, .int (nI q)), (0, .ref (ad 0)), (1, .int (nI j))] → W p l e (g_rm 3 0 0) s m args below meth c H locs 0 0 Q (F0 m 17 ls []) := by
      intro n17
      induction n17 with
      | zero => intro H locs q T2 hq hT2 hn; exact absurd hn (Nat.not_lt_zero _)
      | succ n17 ih17 =>
        intro H locs q T2 hq hT2 hn17 hM hS ls hl
        have hb4 := w_row_2 (Z, 0) (fun p => s_bel (X (3 + j)) p) q
        rw [← hT2] at hb4
        have hb5 : ((Z, 0) : g_Tx).2 = 0 := rfl
        refine lv_iload_n hx hb dX2_writeBelieved_17 rfl (lv_at hl 0 rfl) ?_
        refine lv_aload_n hx hb dX2_writeBelieved_18 rfl (lv_at hl 1 rfl) ?_
        refine lv_iload_n hx hb dX2_writeBelieved_19 rfl (lv_at hl 2 rfl) ?_
        refine lv_iconst (v := 0) hx hb dX2_writeBelieved_20 rfl ?_
        refine g_cRV hX hl y_X2_of v_X2_of q2365 (k_X2_of j 0 (by omega) (by omega)) (hM.rc hX.2.2.2) hM rfl ⟨Nat.le_of_ble_eq_true rfl, Nat.le_of_ble_eq_true rfl⟩ ⟨Nat.zero_le _, Nat.zero_le _⟩ (rest := [.int (nI q)]) (st1 := [.int (X (3 + j) 0), .int (nI q)]) rfl rfl (Nat.le_of_ble_eq_true rfl) dX2_writeBelieved_21 ?_
        refine g_icmp_geN (tgt := 43) hx hb q (s_len (X (3 + j))) rfl ho.1 (by omega) (by omega) dX2_writeBelieved_24 (by decide) (fun c_24 => ?_) (fun c_24 => ?_)
        · skip
          refine lv_aload_n hx hb dX2_writeBelieved_43 rfl (lv_at hl 1 rfl) ?_
          refine g_getM hX hM 19 (by decide) q2182 rfl (v := .int (nI T2.2)) rfl dX2_writeBelieved_44 ?_
          exact hret H locs _ _ _ _ _ dX2_writeBelieved_47 hS (Nat.le_refl _) (Nat.le_refl _) (by obtain rfl : q = s_len (X (3 + j)) := (by omega); subst hT2; exact ⟨rfl, hM⟩)
        · skip
          refine lv_aload_n hx hb dX2_writeBelieved_27 rfl (lv_at hl 1 rfl) ?_
          refine lv_aload_n hx hb dX2_writeBelieved_28 rfl (lv_at hl 1 rfl) ?_
          refine lv_iload_n hx hb dX2_writeBelieved_29 rfl (lv_at hl 2 rfl) ?_
          refine lv_iload_n hx hb dX2_writeBelieved_30 rfl (lv_at hl 0 rfl) ?_
          refine g_cRV hX hl y_X2_believedAt v_X2_believedAt q2628 (k_X2_believedAt j q (by omega) (by omega)) (hM.rc hX.2.2.2) hM rfl ⟨Nat.le_of_ble_eq_true rfl, Nat.le_of_ble_eq_true rfl⟩ ⟨Nat.zero_le _, Nat.zero_le _⟩ (rest := [.ref (ad 0)]) (st1 := [.int (s_bel (X (3 + j)) q), .ref (ad 0)]) rfl rfl (Nat.le_of_ble_eq_true rfl) dX2_writeBelieved_31 ?_
          refine g_cMV hX hl y_X2_writesDigit v_X2_writesDigit q2805 (k_X2_writesDigit (s_bel (X (3 + j)) q) T2 (by (try simp only [w_b_2, w_n_2, w_d_2]); omega)) (hM.rc hX.2.2.2) hM rfl ⟨Nat.le_of_ble_eq_true rfl, Nat.le_of_ble_eq_true rfl⟩ ⟨Nat.le_refl _, Nat.le_refl _⟩ (rest := []) (st1 := []) rfl rfl (Nat.le_of_ble_eq_true rfl) dX2_writeBelieved_34 hS (fun _ h => h) (fun H locs hM hS _ => ?_)
          refine lv_iinc (v := (nI (q + 1))) (lv' := [(2, .int (nI (q + 1))), (0, .ref (ad 0)), (1, .int (nI j))]) hx hb dX2_writeBelieved_37 hl (k := 0) rfl (nI_1 _) (by decide) rfl (fun ls hl => ?_)
          refine lv_goto (tgt := 17) hx hb dX2_writeBelieved_40 (by decide) ?_
          exact ih17 H locs (q + 1) (w_d T2 (s_bel (X (3 + j)) q)) (by omega) (by rw [hT2]; rfl) (by omega) hM hS ls (lv_sub hl [0, 1, 2] rfl)
    exact L17 (s_len (X (3 + j)) - 0 + 1) H locs 0 (Z, 0) (by omega) (rfl) (Nat.lt_succ_self _) hM hS ls (lv_sub hl [0, 1, 2] rfl)
  exact key _ _ hM hS

set_option maxHeartbeats 4000000 in
theorem no_X2_writeBelieved {G : g_G} {l : Launch} {ad : Nat → Nat} {F : Nat → Int32} {X Y : g_Wd} {U V : Nat → g_Wd} {Z : g_Wd} (t9 : Int32) (v : Int32) (ht9 : ¬ t9 = 0) (hbad : s_may (F 6) (g_b (s_isMsg F X v)) 1 = t9) (hWc : ¬ F 6 = 0 → s_ok X) : g_Md G l yX2_writeBelieved cX2_writeBelieved 3 (some .int) 3 0 0 [.ref (ad 0), .int v] (g_Mod G ad F X Y U V Z) (g_Qv (some (.int 0)) (g_Mod G ad (upd F 0 t9) X Y U V Z)) (md_A ad) := by
  refine g_Md.ofI (by decide) (fun _ _ _ => rfl) ?_
  intro p e s m args below meth c ls Q hX hM hl hS hret
  have hx := hX.1.1
  have hb := hX.1.2.1
  have hl : lv_has ls 3 [(0, .ref (ad 0)), (1, .int v)] := hl
  have key : ∀ (H : Heap) (locs : List Loc), g_Mod G ad F X Y U V Z H → va_S (md_A ad) s.heap H locs → W p l e (g_rm 3 0 0) s m args below meth c H locs 0 0 Q (F0 m 0 ls []) := by
    intro H locs hM hS
    refine lv_aload_n hx hb dX2_writeBelieved_0 rfl (lv_at hl 0 rfl) ?_
    refine lv_iload_n hx hb dX2_writeBelieved_1 rfl (lv_at hl 1 rfl) ?_
    refine g_cMV hX hl y_X2_mayMessage v_X2_mayMessage q2636 (k_X2_mayMessage v) (hM.rc hX.2.2.2) hM rfl ⟨Nat.le_of_ble_eq_true rfl, Nat.le_of_ble_eq_true rfl⟩ ⟨Nat.le_refl _, Nat.le_refl _⟩ (rest := []) (st1 := [.int (g_b (decide (s_may (F 6) (g_b (s_isMsg F X v)) 1 = 0)))]) rfl rfl (Nat.le_of_ble_eq_true rfl) dX2_writeBelieved_2 hS (fun _ h => h) (fun H locs hM hS _ => ?_)
    have hmy : s_may (F 6) (g_b (s_isMsg F X v)) 1 = t9 := by first | exact hbad | (rw [← hbad]; simp [g_b, g_b]; done) | (rw [← hbad]; simp only [g_b, g_b]; rfl)
    rw [hmy] at hM ⊢
    refine g_if_neB (tgt := 10) hx hb (b := decide (t9 = 0)) rfl dX2_writeBelieved_5 (by decide) (fun c_5 => ?_) (fun c_5 => ?_)
    · exact Bool.noConfusion ((decide_eq_false ht9).symm.trans c_5)
    skip
    refine lv_iconst (v := 0) hx hb dX2_writeBelieved_8 rfl ?_
    exact hret H locs _ _ _ _ _ dX2_writeBelieved_9 hS (Nat.le_refl _) (Nat.le_refl _) (⟨rfl, hM⟩)
  exact key _ _ hM hS

theorem y_X2_writeWires : g_Y yX2_writeWires cX2_writeWires 3 (some .int) 1 := ⟨q2816, by decide +kernel⟩
theorem v_X2_writeWires : g_YV yX2_writeWires := ⟨q2814, q2815, q140⟩
set_option maxHeartbeats 4000000 in
theorem ok_X2_writeWires {G : g_G} {l : Launch} {ad : Nat → Nat} {F : Nat → Int32} {X Y : g_Wd} {U V : Nat → g_Wd} {Z : g_Wd} (k : Nat) (hF : ¬ F 6 = 0) (hwl : s_wl X) (hk : k < s_L X - 1) : g_Md G l yX2_writeWires cX2_writeWires 3 (some .int) 3 0 0 [.ref (ad 0), .int (nI k)] (g_Mod G ad F X Y U V Z) (g_Qv (some (.int (nI ((w_wires (Z, 0) (X 1) k 9).2)))) (g_Mod G ad (upd (upd F 0 0) 19 (nI (w_wires (Z, 0) (X 1) k 9).2)) X Y U V ((w_wires (Z, 0) (X 1) k 9).1))) (md_A ad) := by
  refine g_Md.ofI (by decide) (fun _ _ _ => rfl) ?_
  intro p e s m args below meth c ls Q hX hM hl hS hret
  have hx := hX.1.1
  have hb := hX.1.2.1
  have hl : lv_has ls 3 [(0, .ref (ad 0)), (1, .int (nI k))] := hl
  have key : ∀ (H : Heap) (locs : List Loc), g_Mod G ad F X Y U V Z H → va_S (md_A ad) s.heap H locs → W p l e (g_rm 3 0 0) s m args below meth c H locs 0 0 Q (F0 m 0 ls []) := by
    intro H locs hM hS
    have hW := hwl.1
    have hWc : ¬ F 6 = 0 → s_ok X := fun _ => hW
    have hW9 := hW
    obtain ⟨⟨hL0, hL2, hL6⟩, ⟨hM0, hM6⟩, ⟨hG0, hG40⟩, hok⟩ := hW9
    have hw9 : s_W X ≤ 45 := by unfold s_W; omega
    have hwi := s_isWire_ok hF hW hk (show 0 < 3 by decide) (show 0 < 3 by decide)
    refine lv_aload_n hx hb dX2_writeWires_0 rfl (lv_at hl 0 rfl) ?_
    refine lv_aload_n hx hb dX2_writeWires_1 rfl (lv_at hl 0 rfl) ?_
    refine g_getM hX hM 6 (by decide) q2169 rfl (v := .int (F 6)) rfl dX2_writeWires_2 ?_
    refine lv_aload_n hx hb dX2_writeWires_5 rfl (lv_at hl 0 rfl) ?_
    refine lv_iload_n hx hb dX2_writeWires_6 rfl (lv_at hl 1 rfl) ?_
    refine lv_iconst (v := 0) hx hb dX2_writeWires_7 rfl ?_
    refine lv_iconst (v := 0) hx hb dX2_writeWires_8 rfl ?_
    refine g_cRV hX hl y_X2_isWire v_X2_isWire q2513 (k_X2_isWire (nI k) 0 0) (hM.rc hX.2.2.2) hM rfl ⟨Nat.le_of_ble_eq_true rfl, Nat.le_of_ble_eq_true rfl⟩ ⟨Nat.zero_le _, Nat.zero_le _⟩ (rest := [.int (F 6), .ref (ad 0)]) (st1 := [.int (g_b (s_isWire F X (nI k) 0 0)), .int (F 6), .ref (ad 0)]) rfl rfl (Nat.le_of_ble_eq_true rfl) dX2_writeWires_9 ?_
    refine g_cMV hX hl y_X2_mayTwo v_X2_mayTwo q2501 (k_X2_mayTwo (F 6) (g_b (s_isWire F X (nI k) 0 0))) (hM.rc hX.2.2.2) hM rfl ⟨Nat.le_of_ble_eq_true rfl, Nat.le_of_ble_eq_true rfl⟩ ⟨Nat.le_refl _, Nat.le_refl _⟩ (rest := []) (st1 := [.int (g_b (decide (s_may (F 6) (g_b (s_isWire F X (nI k) 0 0)) 1 = 0)))]) rfl rfl (Nat.le_of_ble_eq_true rfl) dX2_writeWires_12 hS (fun _ h => h) (fun H locs hM hS _ => ?_)
    have hmy : s_may (F 6) (g_b (s_isWire F X (nI k) 0 0)) 1 = 0 := s_may_ok hF (g_b_ne hwi) (by decide)
    rw [hmy] at hM ⊢
    refine g_if_neB (tgt := 20) hx hb (b := decide ((0 : Int32) = 0)) rfl dX2_writeWires_15 (by decide) (fun c_15 => ?_) (fun c_15 => ?_)
    rotate_left
    · exact Bool.noConfusion ((rfl : decide ((0 : Int32) = 0) = true).symm.trans c_15)
    refine lv_aload_n hx hb dX2_writeWires_20 rfl (lv_at hl 0 rfl) ?_
    refine lv_iconst (v := 0) hx hb dX2_writeWires_21 rfl ?_
    refine g_putM hX hM hS 19 (by decide) q2182 rfl rfl (x := 0) rfl rfl (F' := upd (upd F 0 0) 19 0) rfl dX2_writeWires_22 (fun H locs hM hS => ?_)
    replace hM : g_Mod G ad (upd (upd F 0 0) 19 (nI (Z, 0).2)) X Y U V ((Z, 0).1) H := hM
    refine lv_bipush (v := 9) hx hb dX2_writeWires_25 (by decide) ?_
    refine lv_iload_n hx hb dX2_writeWires_27 rfl (lv_at hl 1 rfl) ?_
    refine g_imulN hx hb 9 k rfl rfl dX2_writeWires_28 ?_
    refine lv_istore_n (lv' := [(2, .int (nI (9 * k))), (0, .ref (ad 0)), (1, .int (nI k))]) hx hb dX2_writeWires_29 rfl hl (by decide) rfl (fun ls hl => ?_)
    have L30 : ∀ (nf : Nat) (H : Heap) (locs : List Loc) (i : Nat) (T1 : g_Tx), (i ≤ 9) → (T1 = w_wires (Z, 0) (X 1) k i) → (9 - i < nf) → (g_Mod G ad (upd (upd F 0 0) 19 (nI T1.2)) X Y U V T1.1 H) → va_S (md_A ad) s.heap H locs → ∀ ls : Array Slot, lv_has ls 3 [(2, .int (nI (9 * k + i))), (0, .ref (ad 0)), (1, .int (nI k))] → W p l e (g_rm 3 0 0) s m args below meth c H locs 0 0 Q (F0 m 30 ls []) := by
      intro n30
      induction n30 with
      | zero => intro H locs i T1 hi hT1 hn; exact absurd hn (Nat.not_lt_zero _)
      | succ n30 ih30 =>
        intro H locs i T1 hi hT1 hn30 hM hS ls hl
        have hb1 := w_wires_2 (Z, 0) (X 1) k i
        rw [← hT1] at hb1
        have hb3 : ((Z, 0) : g_Tx).2 = 0 := rfl
        refine lv_iload_n hx hb dX2_writeWires_30 rfl (lv_at hl 0 rfl) ?_
        refine lv_bipush (v := 9) hx hb dX2_writeWires_31 (by decide) ?_
        refine lv_iload_n hx hb dX2_writeWires_33 rfl (lv_at hl 2 rfl) ?_
        refine g_imulN hx hb 9 k rfl rfl dX2_writeWires_34 ?_
        refine lv_bipush (v := 9) hx hb dX2_writeWires_35 (by decide) ?_
        refine g_iaddN hx hb (9 * k) 9 rfl rfl dX2_writeWires_37 ?_
        refine g_icmp_geN (tgt := 94) hx hb (9 * k + i) (9 * k + 9) rfl rfl (by omega) (by omega) dX2_writeWires_38 (by decide) (fun c_38 => ?_) (fun c_38 => ?_)
        · skip
          refine lv_aload_n hx hb dX2_writeWires_94 rfl (lv_at hl 1 rfl) ?_
          refine g_getM hX hM 19 (by decide) q2182 rfl (v := .int (nI T1.2)) rfl dX2_writeWires_95 ?_
          exact hret H locs _ _ _ _ _ dX2_writeWires_98 hS (Nat.le_refl _) (Nat.le_refl _) (by obtain rfl : i = 9 := (by omega); subst hT1; exact ⟨rfl, hM⟩)
        · skip
          refine lv_iload_n hx hb dX2_writeWires_41 rfl (lv_at hl 0 rfl) ?_
          refine lv_iconst (v := 3) hx hb dX2_writeWires_42 rfl ?_
          refine g_iremN hx hb (9 * k + i) 3 rfl rfl (by omega) (by decide) (by decide) dX2_writeWires_43 ?_
          refine g_if_neN (tgt := 60) hx hb ((9 * k + i) % 3) rfl (by omega) dX2_writeWires_44 (by decide) (fun c_44 => ?_) (fun c_44 => ?_)
          · skip
            refine lv_aload_n hx hb dX2_writeWires_60 rfl (lv_at hl 1 rfl) ?_
            refine lv_aload_n hx hb dX2_writeWires_61 rfl (lv_at hl 1 rfl) ?_
            refine lv_iload_n hx hb dX2_writeWires_62 rfl (lv_at hl 0 rfl) ?_
            refine lv_iconst (v := 2) hx hb dX2_writeWires_63 rfl ?_
            refine g_cRV hX hl y_X2_ofWire v_X2_ofWire q2340 (k_X2_ofWire (9 * k + i) 2 (by omega) (by omega)) (hM.rc hX.2.2.2) hM rfl ⟨Nat.le_of_ble_eq_true rfl, Nat.le_of_ble_eq_true rfl⟩ ⟨Nat.zero_le _, Nat.zero_le _⟩ (rest := [.ref (ad 0)]) (st1 := [.int (X 1 (5 * (9 * k + i) + 2)), .ref (ad 0)]) rfl rfl (Nat.le_of_ble_eq_true rfl) dX2_writeWires_64 ?_
            refine lv_iconst (v := 1) hx hb dX2_writeWires_67 rfl ?_
            refine lv_icmp_ne (tgt := 76) hx hb dX2_writeWires_68 (by decide) (fun c_68 => ?_) (fun c_68 => ?_)
            · skip
              refine lv_bipush (v := 48) hx hb dX2_writeWires_76 (by decide) ?_
              refine lv_aload_n hx hb dX2_writeWires_78 rfl (lv_at hl 1 rfl) ?_
              refine lv_iload_n hx hb dX2_writeWires_79 rfl (lv_at hl 0 rfl) ?_
              refine lv_iconst (v := 0) hx hb dX2_writeWires_80 rfl ?_
              refine g_cRV hX hl y_X2_ofWire v_X2_ofWire q2340 (k_X2_ofWire (9 * k + i) 0 (by omega) (by omega)) (hM.rc hX.2.2.2) hM rfl ⟨Nat.le_of_ble_eq_true rfl, Nat.le_of_ble_eq_true rfl⟩ ⟨Nat.zero_le _, Nat.zero_le _⟩ (rest := [.int 48, .ref (ad 0)]) (st1 := [.int (X 1 (5 * (9 * k + i) + 0)), .int 48, .ref (ad 0)]) rfl rfl (Nat.le_of_ble_eq_true rfl) dX2_writeWires_81 ?_
              refine lv_iadd hx hb dX2_writeWires_84 ?_
              refine g_cMV hX hl y_X2_writesByte v_X2_writesByte q2801 (k_X2_writesByte (48 + (X 1 (5 * (9 * k + i) + 0))) T1 (by (try simp only [w_b_2, w_n_2, w_d_2]); omega)) (hM.rc hX.2.2.2) hM rfl ⟨Nat.le_of_ble_eq_true rfl, Nat.le_of_ble_eq_true rfl⟩ ⟨Nat.le_refl _, Nat.le_refl _⟩ (rest := []) (st1 := []) rfl rfl (Nat.le_of_ble_eq_true rfl) dX2_writeWires_85 hS (fun _ h => h) (fun H locs hM hS _ => ?_)
              refine lv_iinc (v := (nI (9 * k + i + 1))) (lv' := [(2, .int (nI (9 * k + i + 1))), (0, .ref (ad 0)), (1, .int (nI k))]) hx hb dX2_writeWires_88 hl (k := 0) rfl (nI_1 _) (by decide) rfl (fun ls hl => ?_)
              refine lv_goto (tgt := 30) hx hb dX2_writeWires_91 (by decide) ?_
              exact ih30 H locs (i + 1) (w_b T1 (48 + (X 1 (5 * (9 * k + i) + 0)))) (by omega) (by rw [show w_wires (Z, 0) (X 1) k (i + 1) = w_b (if i % 3 = 0 ∧ 0 < i then w_b (w_wires (Z, 0) (X 1) k i) 32 else w_wires (Z, 0) (X 1) k i) (w_wire (X 1) (9 * k + i)) from rfl, ← hT1]; (first | rw [if_pos (by omega)] | rw [if_neg (by omega)]); first | (simp only [w_wire, if_pos c_68]; done) | (simp only [w_wire, if_neg c_68]; done)) (by omega) hM hS ls (lv_sub hl [0, 1, 2] rfl)
            · skip
              refine lv_bipush (v := 120) hx hb dX2_writeWires_71 (by decide) ?_
              refine lv_goto (tgt := 85) hx hb dX2_writeWires_73 (by decide) ?_
              refine g_cMV hX hl y_X2_writesByte v_X2_writesByte q2801 (k_X2_writesByte 120 T1 (by (try simp only [w_b_2, w_n_2, w_d_2]); omega)) (hM.rc hX.2.2.2) hM rfl ⟨Nat.le_of_ble_eq_true rfl, Nat.le_of_ble_eq_true rfl⟩ ⟨Nat.le_refl _, Nat.le_refl _⟩ (rest := []) (st1 := []) rfl rfl (Nat.le_of_ble_eq_true rfl) dX2_writeWires_85 hS (fun _ h => h) (fun H locs hM hS _ => ?_)
              refine lv_iinc (v := (nI (9 * k + i + 1))) (lv' := [(2, .int (nI (9 * k + i + 1))), (0, .ref (ad 0)), (1, .int (nI k))]) hx hb dX2_writeWires_88 hl (k := 0) rfl (nI_1 _) (by decide) rfl (fun ls hl => ?_)
              refine lv_goto (tgt := 30) hx hb dX2_writeWires_91 (by decide) ?_
              exact ih30 H locs (i + 1) (w_b T1 120) (by omega) (by rw [show w_wires (Z, 0) (X 1) k (i + 1) = w_b (if i % 3 = 0 ∧ 0 < i then w_b (w_wires (Z, 0) (X 1) k i) 32 else w_wires (Z, 0) (X 1) k i) (w_wire (X 1) (9 * k + i)) from rfl, ← hT1]; (first | rw [if_pos (by omega)] | rw [if_neg (by omega)]); first | (simp only [w_wire, if_pos c_68]; done) | (simp only [w_wire, if_neg c_68]; done)) (by omega) hM hS ls (lv_sub hl [0, 1, 2] rfl)
          · skip
            refine lv_aload_n hx hb dX2_writeWires_47 rfl (lv_at hl 1 rfl) ?_
            refine g_getM hX hM 19 (by decide) q2182 rfl (v := .int (nI T1.2)) rfl dX2_writeWires_48 ?_
            refine g_if_leN (tgt := 60) hx hb T1.2 rfl (by omega) dX2_writeWires_51 (by decide) (fun c_51 => ?_) (fun c_51 => ?_)
            · skip
              refine lv_aload_n hx hb dX2_writeWires_60 rfl (lv_at hl 1 rfl) ?_
              refine lv_aload_n hx hb dX2_writeWires_61 rfl (lv_at hl 1 rfl) ?_
              refine lv_iload_n hx hb dX2_writeWires_62 rfl (lv_at hl 0 rfl) ?_
              refine lv_iconst (v := 2) hx hb dX2_writeWires_63 rfl ?_
              refine g_cRV hX hl y_X2_ofWire v_X2_ofWire q2340 (k_X2_ofWire (9 * k + i) 2 (by omega) (by omega)) (hM.rc hX.2.2.2) hM rfl ⟨Nat.le_of_ble_eq_true rfl, Nat.le_of_ble_eq_true rfl⟩ ⟨Nat.zero_le _, Nat.zero_le _⟩ (rest := [.ref (ad 0)]) (st1 := [.int (X 1 (5 * (9 * k + i) + 2)), .ref (ad 0)]) rfl rfl (Nat.le_of_ble_eq_true rfl) dX2_writeWires_64 ?_
              refine lv_iconst (v := 1) hx hb dX2_writeWires_67 rfl ?_
              refine lv_icmp_ne (tgt := 76) hx hb dX2_writeWires_68 (by decide) (fun c_68 => ?_) (fun c_68 => ?_)
              · skip
                refine lv_bipush (v := 48) hx hb dX2_writeWires_76 (by decide) ?_
                refine lv_aload_n hx hb dX2_writeWires_78 rfl (lv_at hl 1 rfl) ?_
                refine lv_iload_n hx hb dX2_writeWires_79 rfl (lv_at hl 0 rfl) ?_
                refine lv_iconst (v := 0) hx hb dX2_writeWires_80 rfl ?_
                refine g_cRV hX hl y_X2_ofWire v_X2_ofWire q2340 (k_X2_ofWire (9 * k + i) 0 (by omega) (by omega)) (hM.rc hX.2.2.2) hM rfl ⟨Nat.le_of_ble_eq_true rfl, Nat.le_of_ble_eq_true rfl⟩ ⟨Nat.zero_le _, Nat.zero_le _⟩ (rest := [.int 48, .ref (ad 0)]) (st1 := [.int (X 1 (5 * (9 * k + i) + 0)), .int 48, .ref (ad 0)]) rfl rfl (Nat.le_of_ble_eq_true rfl) dX2_writeWires_81 ?_
                refine lv_iadd hx hb dX2_writeWires_84 ?_
                refine g_cMV hX hl y_X2_writesByte v_X2_writesByte q2801 (k_X2_writesByte (48 + (X 1 (5 * (9 * k + i) + 0))) T1 (by (try simp only [w_b_2, w_n_2, w_d_2]); omega)) (hM.rc hX.2.2.2) hM rfl ⟨Nat.le_of_ble_eq_true rfl, Nat.le_of_ble_eq_true rfl⟩ ⟨Nat.le_refl _, Nat.le_refl _⟩ (rest := []) (st1 := []) rfl rfl (Nat.le_of_ble_eq_true rfl) dX2_writeWires_85 hS (fun _ h => h) (fun H locs hM hS _ => ?_)
                refine lv_iinc (v := (nI (9 * k + i + 1))) (lv' := [(2, .int (nI (9 * k + i + 1))), (0, .ref (ad 0)), (1, .int (nI k))]) hx hb dX2_writeWires_88 hl (k := 0) rfl (nI_1 _) (by decide) rfl (fun ls hl => ?_)
                refine lv_goto (tgt := 30) hx hb dX2_writeWires_91 (by decide) ?_
                exact ih30 H locs (i + 1) (w_b T1 (48 + (X 1 (5 * (9 * k + i) + 0)))) (by omega) (by rw [show w_wires (Z, 0) (X 1) k (i + 1) = w_b (if i % 3 = 0 ∧ 0 < i then w_b (w_wires (Z, 0) (X 1) k i) 32 else w_wires (Z, 0) (X 1) k i) (w_wire (X 1) (9 * k + i)) from rfl, ← hT1]; (first | rw [if_pos (by omega)] | rw [if_neg (by omega)]); first | (simp only [w_wire, if_pos c_68]; done) | (simp only [w_wire, if_neg c_68]; done)) (by omega) hM hS ls (lv_sub hl [0, 1, 2] rfl)
              · skip
                refine lv_bipush (v := 120) hx hb dX2_writeWires_71 (by decide) ?_
                refine lv_goto (tgt := 85) hx hb dX2_writeWires_73 (by decide) ?_
                refine g_cMV hX hl y_X2_writesByte v_X2_writesByte q2801 (k_X2_writesByte 120 T1 (by (try simp only [w_b_2, w_n_2, w_d_2]); omega)) (hM.rc hX.2.2.2) hM rfl ⟨Nat.le_of_ble_eq_true rfl, Nat.le_of_ble_eq_true rfl⟩ ⟨Nat.le_refl _, Nat.le_refl _⟩ (rest := []) (st1 := []) rfl rfl (Nat.le_of_ble_eq_true rfl) dX2_writeWires_85 hS (fun _ h => h) (fun H locs hM hS _ => ?_)
                refine lv_iinc (v := (nI (9 * k + i + 1))) (lv' := [(2, .int (nI (9 * k + i + 1))), (0, .ref (ad 0)), (1, .int (nI k))]) hx hb dX2_writeWires_88 hl (k := 0) rfl (nI_1 _) (by decide) rfl (fun ls hl => ?_)
                refine lv_goto (tgt := 30) hx hb dX2_writeWires_91 (by decide) ?_
                exact ih30 H locs (i + 1) (w_b T1 120) (by omega) (by rw [show w_wires (Z, 0) (X 1) k (i + 1) = w_b (if i % 3 = 0 ∧ 0 < i then w_b (w_wires (Z, 0) (X 1) k i) 32 else w_wires (Z, 0) (X 1) k i) (w_wire (X 1) (9 * k + i)) from rfl, ← hT1]; (first | rw [if_pos (by omega)] | rw [if_neg (by omega)]); first | (simp only [w_wire, if_pos c_68]; done) | (simp only [w_wire, if_neg c_68]; done)) (by omega) hM hS ls (lv_sub hl [0, 1, 2] rfl)
            · skip
              refine lv_aload_n hx hb dX2_writeWires_54 rfl (lv_at hl 1 rfl) ?_
              refine lv_bipush (v := 32) hx hb dX2_writeWires_55 (by decide) ?_
              refine g_cMV hX hl y_X2_writesByte v_X2_writesByte q2801 (k_X2_writesByte 32 T1 (by (try simp only [w_b_2, w_n_2, w_d_2]); omega)) (hM.rc hX.2.2.2) hM rfl ⟨Nat.le_of_ble_eq_true rfl, Nat.le_of_ble_eq_true rfl⟩ ⟨Nat.le_refl _, Nat.le_refl _⟩ (rest := []) (st1 := []) rfl rfl (Nat.le_of_ble_eq_true rfl) dX2_writeWires_57 hS (fun _ h => h) (fun H locs hM hS _ => ?_)
              refine lv_aload_n hx hb dX2_writeWires_60 rfl (lv_at hl 1 rfl) ?_
              refine lv_aload_n hx hb dX2_writeWires_61 rfl (lv_at hl 1 rfl) ?_
              refine lv_iload_n hx hb dX2_writeWires_62 rfl (lv_at hl 0 rfl) ?_
              refine lv_iconst (v := 2) hx hb dX2_writeWires_63 rfl ?_
              refine g_cRV hX hl y_X2_ofWire v_X2_ofWire q2340 (k_X2_ofWire (9 * k + i) 2 (by omega) (by omega)) (hM.rc hX.2.2.2) hM rfl ⟨Nat.le_of_ble_eq_true rfl, Nat.le_of_ble_eq_true rfl⟩ ⟨Nat.zero_le _, Nat.zero_le _⟩ (rest := [.ref (ad 0)]) (st1 := [.int (X 1 (5 * (9 * k + i) + 2)), .ref (ad 0)]) rfl rfl (Nat.le_of_ble_eq_true rfl) dX2_writeWires_64 ?_
              refine lv_iconst (v := 1) hx hb dX2_writeWires_67 rfl ?_
              refine lv_icmp_ne (tgt := 76) hx hb dX2_writeWires_68 (by decide) (fun c_68 => ?_) (fun c_68 => ?_)
              · skip
                refine lv_bipush (v := 48) hx hb dX2_writeWires_76 (by decide) ?_
                refine lv_aload_n hx hb dX2_writeWires_78 rfl (lv_at hl 1 rfl) ?_
                refine lv_iload_n hx hb dX2_writeWires_79 rfl (lv_at hl 0 rfl) ?_
                refine lv_iconst (v := 0) hx hb dX2_writeWires_80 rfl ?_
                refine g_cRV hX hl y_X2_ofWire v_X2_ofWire q2340 (k_X2_ofWire (9 * k + i) 0 (by omega) (by omega)) (hM.rc hX.2.2.2) hM rfl ⟨Nat.le_of_ble_eq_true rfl, Nat.le_of_ble_eq_true rfl⟩ ⟨Nat.zero_le _, Nat.zero_le _⟩ (rest := [.int 48, .ref (ad 0)]) (st1 := [.int (X 1 (5 * (9 * k + i) + 0)), .int 48, .ref (ad 0)]) rfl rfl (Nat.le_of_ble_eq_true rfl) dX2_writeWires_81 ?_
                refine lv_iadd hx hb dX2_writeWires_84 ?_
                refine g_cMV hX hl y_X2_writesByte v_X2_writesByte q2801 (k_X2_writesByte (48 + (X 1 (5 * (9 * k + i) + 0))) (w_b T1 32) (by (try simp only [w_b_2, w_n_2, w_d_2]); omega)) (hM.rc hX.2.2.2) hM rfl ⟨Nat.le_of_ble_eq_true rfl, Nat.le_of_ble_eq_true rfl⟩ ⟨Nat.le_refl _, Nat.le_refl _⟩ (rest := []) (st1 := []) rfl rfl (Nat.le_of_ble_eq_true rfl) dX2_writeWires_85 hS (fun _ h => h) (fun H locs hM hS _ => ?_)
                refine lv_iinc (v := (nI (9 * k + i + 1))) (lv' := [(2, .int (nI (9 * k + i + 1))), (0, .ref (ad 0)), (1, .int (nI k))]) hx hb dX2_writeWires_88 hl (k := 0) rfl (nI_1 _) (by decide) rfl (fun ls hl => ?_)
                refine lv_goto (tgt := 30) hx hb dX2_writeWires_91 (by decide) ?_
                exact ih30 H locs (i + 1) (w_b (w_b T1 32) (48 + (X 1 (5 * (9 * k + i) + 0)))) (by omega) (by rw [show w_wires (Z, 0) (X 1) k (i + 1) = w_b (if i % 3 = 0 ∧ 0 < i then w_b (w_wires (Z, 0) (X 1) k i) 32 else w_wires (Z, 0) (X 1) k i) (w_wire (X 1) (9 * k + i)) from rfl, ← hT1]; (first | rw [if_pos (by omega)] | rw [if_neg (by omega)]); first | (simp only [w_wire, if_pos c_68]; done) | (simp only [w_wire, if_neg c_68]; done)) (by omega) hM hS ls (lv_sub hl [0, 1, 2] rfl)
              · skip
                refine lv_bipush (v := 120) hx hb dX2_writeWires_71 (by decide) ?_
                refine lv_goto (tgt := 85) hx hb dX2_writeWires_73 (by decide) ?_
                refine g_cMV hX hl y_X2_writesByte v_X2_writesByte q2801 (k_X2_writesByte 120 (w_b T1 32) (by (try simp only [w_b_2, w_n_2, w_d_2]); omega)) (hM.rc hX.2.2.2) hM rfl ⟨Nat.le_of_ble_eq_true rfl, Nat.le_of_ble_eq_true rfl⟩ ⟨Nat.le_refl _, Nat.le_refl _⟩ (rest := []) (st1 := []) rfl rfl (Nat.le_of_ble_eq_true rfl) dX2_writeWires_85 hS (fun _ h => h) (fun H locs hM hS _ => ?_)
                refine lv_iinc (v := (nI (9 * k + i + 1))) (lv' := [(2, .int (nI (9 * k + i + 1))), (0, .ref (ad 0)), (1, .int (nI k))]) hx hb dX2_writeWires_88 hl (k := 0) rfl (nI_1 _) (by decide) rfl (fun ls hl => ?_)
                refine lv_goto (tgt := 30) hx hb dX2_writeWires_91 (by decide) ?_
                exact ih30 H locs (i + 1) (w_b (w_b T1 32) 120) (by omega) (by rw [show w_wires (Z, 0) (X 1) k (i + 1) = w_b (if i % 3 = 0 ∧ 0 < i then w_b (w_wires (Z, 0) (X 1) k i) 32 else w_wires (Z, 0) (X 1) k i) (w_wire (X 1) (9 * k + i)) from rfl, ← hT1]; (first | rw [if_pos (by omega)] | rw [if_neg (by omega)]); first | (simp only [w_wire, if_pos c_68]; done) | (simp only [w_wire, if_neg c_68]; done)) (by omega) hM hS ls (lv_sub hl [0, 1, 2] rfl)
    exact L30 (9 - 0 + 1) H locs 0 (Z, 0) (by omega) (rfl) (Nat.lt_succ_self _) hM hS ls (lv_sub hl [0, 1, 2] rfl)
  exact key _ _ hM hS

set_option maxHeartbeats 4000000 in
theorem no_X2_writeWires {G : g_G} {l : Launch} {ad : Nat → Nat} {F : Nat → Int32} {X Y : g_Wd} {U V : Nat → g_Wd} {Z : g_Wd} (t9 : Int32) (k : Int32) (ht9 : ¬ t9 = 0) (hbad : s_may (F 6) (g_b (s_isWire F X k 0 0)) 1 = t9) (hWc : ¬ F 6 = 0 → s_ok X) : g_Md G l yX2_writeWires cX2_writeWires 3 (some .int) 3 0 0 [.ref (ad 0), .int k] (g_Mod G ad F X Y U V Z) (g_Qv (some (.int 0)) (g_Mod G ad (upd F 0 t9) X Y U V Z)) (md_A ad) := by
  refine g_Md.ofI (by decide) (fun _ _ _ => rfl) ?_
  intro p e s m args below meth c ls Q hX hM hl hS hret
  have hx := hX.1.1
  have hb := hX.1.2.1
  have hl : lv_has ls 3 [(0, .ref (ad 0)), (1, .int k)] := hl
  have key : ∀ (H : Heap) (locs : List Loc), g_Mod G ad F X Y U V Z H → va_S (md_A ad) s.heap H locs → W p l e (g_rm 3 0 0) s m args below meth c H locs 0 0 Q (F0 m 0 ls []) := by
    intro H locs hM hS
    refine lv_aload_n hx hb dX2_writeWires_0 rfl (lv_at hl 0 rfl) ?_
    refine lv_aload_n hx hb dX2_writeWires_1 rfl (lv_at hl 0 rfl) ?_
    refine g_getM hX hM 6 (by decide) q2169 rfl (v := .int (F 6)) rfl dX2_writeWires_2 ?_
    refine lv_aload_n hx hb dX2_writeWires_5 rfl (lv_at hl 0 rfl) ?_
    refine lv_iload_n hx hb dX2_writeWires_6 rfl (lv_at hl 1 rfl) ?_
    refine lv_iconst (v := 0) hx hb dX2_writeWires_7 rfl ?_
    refine lv_iconst (v := 0) hx hb dX2_writeWires_8 rfl ?_
    refine g_cRV hX hl y_X2_isWire v_X2_isWire q2513 (k_X2_isWire k 0 0) (hM.rc hX.2.2.2) hM rfl ⟨Nat.le_of_ble_eq_true rfl, Nat.le_of_ble_eq_true rfl⟩ ⟨Nat.zero_le _, Nat.zero_le _⟩ (rest := [.int (F 6), .ref (ad 0)]) (st1 := [.int (g_b (s_isWire F X k 0 0)), .int (F 6), .ref (ad 0)]) rfl rfl (Nat.le_of_ble_eq_true rfl) dX2_writeWires_9 ?_
    refine g_cMV hX hl y_X2_mayTwo v_X2_mayTwo q2501 (k_X2_mayTwo (F 6) (g_b (s_isWire F X k 0 0))) (hM.rc hX.2.2.2) hM rfl ⟨Nat.le_of_ble_eq_true rfl, Nat.le_of_ble_eq_true rfl⟩ ⟨Nat.le_refl _, Nat.le_refl _⟩ (rest := []) (st1 := [.int (g_b (decide (s_may (F 6) (g_b (s_isWire F X k 0 0)) 1 = 0)))]) rfl rfl (Nat.le_of_ble_eq_true rfl) dX2_writeWires_12 hS (fun _ h => h) (fun H locs hM hS _ => ?_)
    have hmy : s_may (F 6) (g_b (s_isWire F X k 0 0)) 1 = t9 := by first | exact hbad | (rw [← hbad]; simp [g_b, g_b]; done) | (rw [← hbad]; simp only [g_b, g_b]; rfl)
    rw [hmy] at hM ⊢
    refine g_if_neB (tgt := 20) hx hb (b := decide (t9 = 0)) rfl dX2_writeWires_15 (by decide) (fun c_15 => ?_) (fun c_15 => ?_)
    · exact Bool.noConfusion ((decide_eq_false ht9).symm.trans c_15)
    skip
    refine lv_iconst (v := 0) hx hb dX2_writeWires_18 rfl ?_
    exact hret H locs _ _ _ _ _ dX2_writeWires_19 hS (Nat.le_refl _) (Nat.le_refl _) (⟨rfl, hM⟩)
  exact key _ _ hM hS

theorem y_X2_writeLog : g_Y yX2_writeLog cX2_writeLog 2 (some .int) 0 := ⟨q2820, by decide +kernel⟩
theorem v_X2_writeLog : g_YV yX2_writeLog := ⟨q2818, q2819, q140⟩
set_option maxHeartbeats 4000000 in
theorem ok_X2_writeLog {G : g_G} {l : Launch} {ad : Nat → Nat} {F : Nat → Int32} {X Y : g_Wd} {U V : Nat → g_Wd} {Z : g_Wd}  (hF : ¬ F 6 = 0) (hwl : s_wl X) (hlg : s_okl X) : g_Md G l yX2_writeLog cX2_writeLog 2 (some .int) 2 0 0 [.ref (ad 0)] (g_Mod G ad F X Y U V Z) (g_Qv (some (.int (nI ((w_log (Z, 0) X).2)))) (g_Mod G ad (upd (upd F 0 0) 19 (nI (w_log (Z, 0) X).2)) X Y U V ((w_log (Z, 0) X).1))) (md_A ad) := by
  refine g_Md.ofI (by decide) (fun _ _ _ => rfl) ?_
  intro p e s m args below meth c ls Q hX hM hl hS hret
  have hx := hX.1.1
  have hb := hX.1.2.1
  have hl : lv_has ls 2 [(0, .ref (ad 0))] := hl
  have key : ∀ (H : Heap) (locs : List Loc), g_Mod G ad F X Y U V Z H → va_S (md_A ad) s.heap H locs → W p l e (g_rm 2 0 0) s m args below meth c H locs 0 0 Q (F0 m 0 ls []) := by
    intro H locs hM hS
    have hW := hwl.1
    have hWc : ¬ F 6 = 0 → s_ok X := fun _ => hW
    have hW9 := hW
    obtain ⟨⟨hL0, hL2, hL6⟩, ⟨hM0, hM6⟩, ⟨hG0, hG40⟩, hok⟩ := hW9
    have hw9 : s_W X ≤ 45 := by unfold s_W; omega
    refine lv_aload_n hx hb dX2_writeLog_0 rfl (lv_at hl 0 rfl) ?_
    refine g_cMV hX hl y_X2_mayLook v_X2_mayLook q2536 k_X2_mayLook (hM.rc hX.2.2.2) hM rfl ⟨Nat.le_of_ble_eq_true rfl, Nat.le_of_ble_eq_true rfl⟩ ⟨Nat.le_refl _, Nat.le_refl _⟩ (rest := []) (st1 := [.int (g_b (decide (s_may (F 6) 1 1 = 0)))]) rfl rfl (Nat.le_of_ble_eq_true rfl) dX2_writeLog_1 hS (fun _ h => h) (fun H locs hM hS _ => ?_)
    have hmy : s_may (F 6) 1 1 = 0 := s_may_ok hF (by decide) (by decide)
    rw [hmy] at hM ⊢
    refine g_if_neB (tgt := 9) hx hb (b := decide ((0 : Int32) = 0)) rfl dX2_writeLog_4 (by decide) (fun c_4 => ?_) (fun c_4 => ?_)
    rotate_left
    · exact Bool.noConfusion ((rfl : decide ((0 : Int32) = 0) = true).symm.trans c_4)
    refine lv_aload_n hx hb dX2_writeLog_9 rfl (lv_at hl 0 rfl) ?_
    refine lv_iconst (v := 0) hx hb dX2_writeLog_10 rfl ?_
    refine g_putM hX hM hS 19 (by decide) q2182 rfl rfl (x := 0) rfl rfl (F' := upd (upd F 0 0) 19 0) rfl dX2_writeLog_11 (fun H locs hM hS => ?_)
    replace hM : g_Mod G ad (upd (upd F 0 0) 19 (nI (Z, 0).2)) X Y U V ((Z, 0).1) H := hM
    refine lv_iconst (v := 0) hx hb dX2_writeLog_14 rfl ?_
    refine lv_istore_n (lv' := [(1, .int 0), (0, .ref (ad 0))]) hx hb dX2_writeLog_15 rfl hl (by decide) rfl (fun ls hl => ?_)
    have L16 : ∀ (nf : Nat) (H : Heap) (locs : List Loc) (j : Nat) (T1 : g_Tx), (j ≤ s_G X) → (T1 = w_logN (Z, 0) X j) → (s_G X - j < nf) → (g_Mod G ad (upd (upd F 0 0) 19 (nI T1.2)) X Y U V T1.1 H) → va_S (md_A ad) s.heap H locs → ∀ ls : Array Slot, lv_has ls 2 [(1, .int (nI j)), (0, .ref (ad 0))] → W p l e (g_rm 2 0 0) s m args below meth c H locs 0 0 Q (F0 m 16 ls []) := by
      intro n16
      induction n16 with
      | zero => intro H locs j T1 hj hT1 hn; exact absurd hn (Nat.not_lt_zero _)
      | succ n16 ih16 =>
        intro H locs j T1 hj hT1 hn16 hM hS ls hl
        have hb1 := w_logN_2 (T := (Z, 0)) hlg (g := j) (by omega)
        rw [← hT1] at hb1
        have hb3 : ((Z, 0) : g_Tx).2 = 0 := rfl
        refine lv_iload_n hx hb dX2_writeLog_16 rfl (lv_at hl 0 rfl) ?_
        refine lv_aload_n hx hb dX2_writeLog_17 rfl (lv_at hl 1 rfl) ?_
        refine g_getM hX hM 1 (by decide) q2164 rfl (v := .ref (ad 1)) rfl dX2_writeLog_18 ?_
        refine lv_iconst (v := 4) hx hb dX2_writeLog_21 rfl ?_
        refine g_iald hX hM.a1 4 rfl (by omega) (by decide) (v := (X 0 4)) rfl dX2_writeLog_22 ?_
        refine g_icmp_geN (tgt := 97) hx hb j (s_G X) rfl hG0 (by omega) (by omega) dX2_writeLog_23 (by decide) (fun c_23 => ?_) (fun c_23 => ?_)
        · skip
          refine lv_aload_n hx hb dX2_writeLog_97 rfl (lv_at hl 1 rfl) ?_
          refine g_getM hX hM 19 (by decide) q2182 rfl (v := .int (nI T1.2)) rfl dX2_writeLog_98 ?_
          refine g_if_neN (tgt := 110) hx hb T1.2 rfl (by omega) dX2_writeLog_101 (by decide) (fun c_101 => ?_) (fun c_101 => ?_)
          · skip
            refine lv_aload_n hx hb dX2_writeLog_110 rfl (lv_at hl 1 rfl) ?_
            refine g_getM hX hM 19 (by decide) q2182 rfl (v := .int (nI T1.2)) rfl dX2_writeLog_111 ?_
            exact hret H locs _ _ _ _ _ dX2_writeLog_114 hS (Nat.le_refl _) (Nat.le_refl _) (by first | (have h0 : s_G X = 0 := (by omega); have e : w_log (Z, 0) X = w_b T1 45 := (by unfold w_log; rw [if_pos h0, hT1, show j = 0 by omega]; rfl); rw [e]; exact ⟨rfl, hM⟩) | (have h0 : ¬ s_G X = 0 := (by omega); have e : w_log (Z, 0) X = T1 := (by unfold w_log; rw [if_neg h0, hT1, show j = s_G X by omega]); rw [e]; exact ⟨rfl, hM⟩))
          · skip
            refine lv_aload_n hx hb dX2_writeLog_104 rfl (lv_at hl 1 rfl) ?_
            refine lv_bipush (v := 45) hx hb dX2_writeLog_105 (by decide) ?_
            refine g_cMV hX hl y_X2_writesByte v_X2_writesByte q2801 (k_X2_writesByte 45 T1 (by (try simp only [w_b_2, w_n_2, w_d_2]); omega)) (hM.rc hX.2.2.2) hM rfl ⟨Nat.le_of_ble_eq_true rfl, Nat.le_of_ble_eq_true rfl⟩ ⟨Nat.le_refl _, Nat.le_refl _⟩ (rest := []) (st1 := []) rfl rfl (Nat.le_of_ble_eq_true rfl) dX2_writeLog_107 hS (fun _ h => h) (fun H locs hM hS _ => ?_)
            refine lv_aload_n hx hb dX2_writeLog_110 rfl (lv_at hl 1 rfl) ?_
            refine g_getM hX hM 19 (by decide) q2182 rfl (v := .int (nI (w_b T1 45).2)) rfl dX2_writeLog_111 ?_
            exact hret H locs _ _ _ _ _ dX2_writeLog_114 hS (Nat.le_refl _) (Nat.le_refl _) (by first | (have h0 : s_G X = 0 := (by omega); have e : w_log (Z, 0) X = w_b T1 45 := (by unfold w_log; rw [if_pos h0, hT1, show j = 0 by omega]; rfl); rw [e]; exact ⟨rfl, hM⟩) | (have h0 : ¬ s_G X = 0 := (by omega); have e : w_log (Z, 0) X = T1 := (by unfold w_log; rw [if_neg h0, hT1, show j = s_G X by omega]); rw [e]; exact ⟨rfl, hM⟩))
        · skip
          have hl1 := hlg j c_23
          have hl2 := hl1.1.2
          have hl3 := hl1.2.2.2
          have hb6 := w_sep_2 T1 j 32
          have hb7 := w_n_2 (w_sep T1 j 32) (s_nt (X 2 (4 * j)))
          have hb8 := w_pow_le (s_nt (X 2 (4 * j)))
          have hb9 := w_pow_6 hl3
          refine lv_iload_n hx hb dX2_writeLog_26 rfl (lv_at hl 0 rfl) ?_
          refine g_if_leN (tgt := 36) hx hb j rfl (by omega) dX2_writeLog_27 (by decide) (fun c_27 => ?_) (fun c_27 => ?_)
          · skip
            refine lv_aload_n hx hb dX2_writeLog_36 rfl (lv_at hl 1 rfl) ?_
            refine lv_aload_n hx hb dX2_writeLog_37 rfl (lv_at hl 1 rfl) ?_
            refine g_getM hX hM 1 (by decide) q2164 rfl (v := .ref (ad 1)) rfl dX2_writeLog_38 ?_
            refine lv_sipush (v := 1416) hx hb dX2_writeLog_41 (by decide) ?_
            refine lv_iconst (v := 4) hx hb dX2_writeLog_44 rfl ?_
            refine lv_iload_n hx hb dX2_writeLog_45 rfl (lv_at hl 0 rfl) ?_
            refine g_imulN hx hb 4 j rfl rfl dX2_writeLog_46 ?_
            refine g_iaddN hx hb 1416 (4 * j) rfl rfl dX2_writeLog_47 ?_
            refine g_iald hX hM.a1 (1416 + 4 * j) rfl (by omega) (by decide) (v := (X 2 (4 * j))) (g_fl2 _) dX2_writeLog_48 ?_
            refine g_cMV hX hl y_X2_writesNumber v_X2_writesNumber q2821 (k_X2_writesNumber (s_nt (X 2 (4 * j))) T1 (by omega) (by (try simp only [w_b_2, w_n_2, w_d_2]); omega)) (hM.rc hX.2.2.2) hM rfl ⟨Nat.le_of_ble_eq_true rfl, Nat.le_of_ble_eq_true rfl⟩ ⟨Nat.le_refl _, Nat.le_refl _⟩ (rest := []) (st1 := []) (by rw [← hl1.1.1]; rfl) rfl (Nat.le_of_ble_eq_true rfl) dX2_writeLog_49 hS (fun _ h => h) (fun H locs hM hS _ => ?_)
            refine lv_aload_n hx hb dX2_writeLog_52 rfl (lv_at hl 1 rfl) ?_
            refine lv_aload_n hx hb dX2_writeLog_53 rfl (lv_at hl 1 rfl) ?_
            refine g_getM hX hM 1 (by decide) q2164 rfl (v := .ref (ad 1)) rfl dX2_writeLog_54 ?_
            refine lv_sipush (v := 1416) hx hb dX2_writeLog_57 (by decide) ?_
            refine lv_iconst (v := 4) hx hb dX2_writeLog_60 rfl ?_
            refine lv_iload_n hx hb dX2_writeLog_61 rfl (lv_at hl 0 rfl) ?_
            refine g_imulN hx hb 4 j rfl rfl dX2_writeLog_62 ?_
            refine g_iaddN hx hb 1416 (4 * j) rfl rfl dX2_writeLog_63 ?_
            refine lv_iconst (v := 1) hx hb dX2_writeLog_64 rfl ?_
            refine g_iaddN hx hb (1416 + 4 * j) 1 rfl rfl dX2_writeLog_65 ?_
            refine g_iald hX hM.a1 (1416 + 4 * j + 1) rfl (by omega) (by decide) (v := (X 2 (4 * j + 1))) (g_flg _) dX2_writeLog_66 ?_
            refine g_cRS hX hl y_X2_signOf v_X2_signOf q2825 (k_X2_signOf (X 2 (4 * j + 1))) trivial rfl ⟨Nat.le_of_ble_eq_true rfl, Nat.le_of_ble_eq_true rfl⟩ ⟨Nat.zero_le _, Nat.zero_le _⟩ (rest := [.ref (ad 0)]) (st1 := [.int (s_sign (X 2 (4 * j + 1))), .ref (ad 0)]) rfl rfl (Nat.le_of_ble_eq_true rfl) dX2_writeLog_67 ?_
            refine g_cMV hX hl y_X2_writesByte v_X2_writesByte q2801 (k_X2_writesByte (s_sign (X 2 (4 * j + 1))) (w_n T1 (s_nt (X 2 (4 * j)))) (by (try simp only [w_b_2, w_n_2, w_d_2]); omega)) (hM.rc hX.2.2.2) hM rfl ⟨Nat.le_of_ble_eq_true rfl, Nat.le_of_ble_eq_true rfl⟩ ⟨Nat.le_refl _, Nat.le_refl _⟩ (rest := []) (st1 := []) rfl rfl (Nat.le_of_ble_eq_true rfl) dX2_writeLog_70 hS (fun _ h => h) (fun H locs hM hS _ => ?_)
            refine lv_aload_n hx hb dX2_writeLog_73 rfl (lv_at hl 1 rfl) ?_
            refine lv_aload_n hx hb dX2_writeLog_74 rfl (lv_at hl 1 rfl) ?_
            refine g_getM hX hM 1 (by decide) q2164 rfl (v := .ref (ad 1)) rfl dX2_writeLog_75 ?_
            refine lv_sipush (v := 1416) hx hb dX2_writeLog_78 (by decide) ?_
            refine lv_iconst (v := 4) hx hb dX2_writeLog_81 rfl ?_
            refine lv_iload_n hx hb dX2_writeLog_82 rfl (lv_at hl 0 rfl) ?_
            refine g_imulN hx hb 4 j rfl rfl dX2_writeLog_83 ?_
            refine g_iaddN hx hb 1416 (4 * j) rfl rfl dX2_writeLog_84 ?_
            refine lv_iconst (v := 2) hx hb dX2_writeLog_85 rfl ?_
            refine g_iaddN hx hb (1416 + 4 * j) 2 rfl rfl dX2_writeLog_86 ?_
            refine g_iald hX hM.a1 (1416 + 4 * j + 2) rfl (by omega) (by decide) (v := (X 2 (4 * j + 2))) (g_flg _) dX2_writeLog_87 ?_
            refine g_cMV hX hl y_X2_writesNumber v_X2_writesNumber q2821 (k_X2_writesNumber (s_nt (X 2 (4 * j + 2))) (w_b (w_n T1 (s_nt (X 2 (4 * j)))) (s_sign (X 2 (4 * j + 1)))) (by omega) (by (try simp only [w_b_2, w_n_2, w_d_2]); omega)) (hM.rc hX.2.2.2) hM rfl ⟨Nat.le_of_ble_eq_true rfl, Nat.le_of_ble_eq_true rfl⟩ ⟨Nat.le_refl _, Nat.le_refl _⟩ (rest := []) (st1 := []) (by rw [← hl1.2.2.1]; rfl) rfl (Nat.le_of_ble_eq_true rfl) dX2_writeLog_88 hS (fun _ h => h) (fun H locs hM hS _ => ?_)
            refine lv_iinc (v := (nI (j + 1))) (lv' := [(1, .int (nI (j + 1))), (0, .ref (ad 0))]) hx hb dX2_writeLog_91 hl (k := 0) rfl (nI_1 _) (by decide) rfl (fun ls hl => ?_)
            refine lv_goto (tgt := 16) hx hb dX2_writeLog_94 (by decide) ?_
            exact ih16 H locs (j + 1) (w_n (w_b (w_n T1 (s_nt (X 2 (4 * j)))) (s_sign (X 2 (4 * j + 1)))) (s_nt (X 2 (4 * j + 2)))) (by omega) (by rw [show w_logN (Z, 0) X (j + 1) = w_ent (w_logN (Z, 0) X j) X j from rfl, ← hT1]; unfold w_ent w_sep; first | rw [if_pos (show j = 0 by omega)] | rw [if_neg (show ¬ j = 0 by omega)]) (by omega) hM hS ls (lv_sub hl [0, 1] rfl)
          · skip
            refine lv_aload_n hx hb dX2_writeLog_30 rfl (lv_at hl 1 rfl) ?_
            refine lv_bipush (v := 32) hx hb dX2_writeLog_31 (by decide) ?_
            refine g_cMV hX hl y_X2_writesByte v_X2_writesByte q2801 (k_X2_writesByte 32 T1 (by (try simp only [w_b_2, w_n_2, w_d_2]); omega)) (hM.rc hX.2.2.2) hM rfl ⟨Nat.le_of_ble_eq_true rfl, Nat.le_of_ble_eq_true rfl⟩ ⟨Nat.le_refl _, Nat.le_refl _⟩ (rest := []) (st1 := []) rfl rfl (Nat.le_of_ble_eq_true rfl) dX2_writeLog_33 hS (fun _ h => h) (fun H locs hM hS _ => ?_)
            refine lv_aload_n hx hb dX2_writeLog_36 rfl (lv_at hl 1 rfl) ?_
            refine lv_aload_n hx hb dX2_writeLog_37 rfl (lv_at hl 1 rfl) ?_
            refine g_getM hX hM 1 (by decide) q2164 rfl (v := .ref (ad 1)) rfl dX2_writeLog_38 ?_
            refine lv_sipush (v := 1416) hx hb dX2_writeLog_41 (by decide) ?_
            refine lv_iconst (v := 4) hx hb dX2_writeLog_44 rfl ?_
            refine lv_iload_n hx hb dX2_writeLog_45 rfl (lv_at hl 0 rfl) ?_
            refine g_imulN hx hb 4 j rfl rfl dX2_writeLog_46 ?_
            refine g_iaddN hx hb 1416 (4 * j) rfl rfl dX2_writeLog_47 ?_
            refine g_iald hX hM.a1 (1416 + 4 * j) rfl (by omega) (by decide) (v := (X 2 (4 * j))) (g_fl2 _) dX2_writeLog_48 ?_
            refine g_cMV hX hl y_X2_writesNumber v_X2_writesNumber q2821 (k_X2_writesNumber (s_nt (X 2 (4 * j))) (w_b T1 32) (by omega) (by (try simp only [w_b_2, w_n_2, w_d_2]); omega)) (hM.rc hX.2.2.2) hM rfl ⟨Nat.le_of_ble_eq_true rfl, Nat.le_of_ble_eq_true rfl⟩ ⟨Nat.le_refl _, Nat.le_refl _⟩ (rest := []) (st1 := []) (by rw [← hl1.1.1]; rfl) rfl (Nat.le_of_ble_eq_true rfl) dX2_writeLog_49 hS (fun _ h => h) (fun H locs hM hS _ => ?_)
            refine lv_aload_n hx hb dX2_writeLog_52 rfl (lv_at hl 1 rfl) ?_
            refine lv_aload_n hx hb dX2_writeLog_53 rfl (lv_at hl 1 rfl) ?_
            refine g_getM hX hM 1 (by decide) q2164 rfl (v := .ref (ad 1)) rfl dX2_writeLog_54 ?_
            refine lv_sipush (v := 1416) hx hb dX2_writeLog_57 (by decide) ?_
            refine lv_iconst (v := 4) hx hb dX2_writeLog_60 rfl ?_
            refine lv_iload_n hx hb dX2_writeLog_61 rfl (lv_at hl 0 rfl) ?_
            refine g_imulN hx hb 4 j rfl rfl dX2_writeLog_62 ?_
            refine g_iaddN hx hb 1416 (4 * j) rfl rfl dX2_writeLog_63 ?_
            refine lv_iconst (v := 1) hx hb dX2_writeLog_64 rfl ?_
            refine g_iaddN hx hb (1416 + 4 * j) 1 rfl rfl dX2_writeLog_65 ?_
            refine g_iald hX hM.a1 (1416 + 4 * j + 1) rfl (by omega) (by decide) (v := (X 2 (4 * j + 1))) (g_flg _) dX2_writeLog_66 ?_
            refine g_cRS hX hl y_X2_signOf v_X2_signOf q2825 (k_X2_signOf (X 2 (4 * j + 1))) trivial rfl ⟨Nat.le_of_ble_eq_true rfl, Nat.le_of_ble_eq_true rfl⟩ ⟨Nat.zero_le _, Nat.zero_le _⟩ (rest := [.ref (ad 0)]) (st1 := [.int (s_sign (X 2 (4 * j + 1))), .ref (ad 0)]) rfl rfl (Nat.le_of_ble_eq_true rfl) dX2_writeLog_67 ?_
            refine g_cMV hX hl y_X2_writesByte v_X2_writesByte q2801 (k_X2_writesByte (s_sign (X 2 (4 * j + 1))) (w_n (w_b T1 32) (s_nt (X 2 (4 * j)))) (by (try simp only [w_b_2, w_n_2, w_d_2]); omega)) (hM.rc hX.2.2.2) hM rfl ⟨Nat.le_of_ble_eq_true rfl, Nat.le_of_ble_eq_true rfl⟩ ⟨Nat.le_refl _, Nat.le_refl _⟩ (rest := []) (st1 := []) rfl rfl (Nat.le_of_ble_eq_true rfl) dX2_writeLog_70 hS (fun _ h => h) (fun H locs hM hS _ => ?_)
            refine lv_aload_n hx hb dX2_writeLog_73 rfl (lv_at hl 1 rfl) ?_
            refine lv_aload_n hx hb dX2_writeLog_74 rfl (lv_at hl 1 rfl) ?_
            refine g_getM hX hM 1 (by decide) q2164 rfl (v := .ref (ad 1)) rfl dX2_writeLog_75 ?_
            refine lv_sipush (v := 1416) hx hb dX2_writeLog_78 (by decide) ?_
            refine lv_iconst (v := 4) hx hb dX2_writeLog_81 rfl ?_
            refine lv_iload_n hx hb dX2_writeLog_82 rfl (lv_at hl 0 rfl) ?_
            refine g_imulN hx hb 4 j rfl rfl dX2_writeLog_83 ?_
            refine g_iaddN hx hb 1416 (4 * j) rfl rfl dX2_writeLog_84 ?_
            refine lv_iconst (v := 2) hx hb dX2_writeLog_85 rfl ?_
            refine g_iaddN hx hb (1416 + 4 * j) 2 rfl rfl dX2_writeLog_86 ?_
            refine g_iald hX hM.a1 (1416 + 4 * j + 2) rfl (by omega) (by decide) (v := (X 2 (4 * j + 2))) (g_flg _) dX2_writeLog_87 ?_
            refine g_cMV hX hl y_X2_writesNumber v_X2_writesNumber q2821 (k_X2_writesNumber (s_nt (X 2 (4 * j + 2))) (w_b (w_n (w_b T1 32) (s_nt (X 2 (4 * j)))) (s_sign (X 2 (4 * j + 1)))) (by omega) (by (try simp only [w_b_2, w_n_2, w_d_2]); omega)) (hM.rc hX.2.2.2) hM rfl ⟨Nat.le_of_ble_eq_true rfl, Nat.le_of_ble_eq_true rfl⟩ ⟨Nat.le_refl _, Nat.le_refl _⟩ (rest := []) (st1 := []) (by rw [← hl1.2.2.1]; rfl) rfl (Nat.le_of_ble_eq_true rfl) dX2_writeLog_88 hS (fun _ h => h) (fun H locs hM hS _ => ?_)
            refine lv_iinc (v := (nI (j + 1))) (lv' := [(1, .int (nI (j + 1))), (0, .ref (ad 0))]) hx hb dX2_writeLog_91 hl (k := 0) rfl (nI_1 _) (by decide) rfl (fun ls hl => ?_)
            refine lv_goto (tgt := 16) hx hb dX2_writeLog_94 (by decide) ?_
            exact ih16 H locs (j + 1) (w_n (w_b (w_n (w_b T1 32) (s_nt (X 2 (4 * j)))) (s_sign (X 2 (4 * j + 1)))) (s_nt (X 2 (4 * j + 2)))) (by omega) (by rw [show w_logN (Z, 0) X (j + 1) = w_ent (w_logN (Z, 0) X j) X j from rfl, ← hT1]; unfold w_ent w_sep; first | rw [if_pos (show j = 0 by omega)] | rw [if_neg (show ¬ j = 0 by omega)]) (by omega) hM hS ls (lv_sub hl [0, 1] rfl)
    exact L16 (s_G X - 0 + 1) H locs 0 (Z, 0) (by omega) (rfl) (Nat.lt_succ_self _) hM hS ls (lv_sub hl [0, 1] rfl)
  exact key _ _ hM hS

set_option maxHeartbeats 4000000 in
theorem no_X2_writeLog {G : g_G} {l : Launch} {ad : Nat → Nat} {F : Nat → Int32} {X Y : g_Wd} {U V : Nat → g_Wd} {Z : g_Wd} (t9 : Int32) (ht9 : ¬ t9 = 0) (hbad : s_may (F 6) 1 1 = t9) (hWc : ¬ F 6 = 0 → s_ok X) : g_Md G l yX2_writeLog cX2_writeLog 2 (some .int) 2 0 0 [.ref (ad 0)] (g_Mod G ad F X Y U V Z) (g_Qv (some (.int 0)) (g_Mod G ad (upd F 0 t9) X Y U V Z)) (md_A ad) := by
  refine g_Md.ofI (by decide) (fun _ _ _ => rfl) ?_
  intro p e s m args below meth c ls Q hX hM hl hS hret
  have hx := hX.1.1
  have hb := hX.1.2.1
  have hl : lv_has ls 2 [(0, .ref (ad 0))] := hl
  have key : ∀ (H : Heap) (locs : List Loc), g_Mod G ad F X Y U V Z H → va_S (md_A ad) s.heap H locs → W p l e (g_rm 2 0 0) s m args below meth c H locs 0 0 Q (F0 m 0 ls []) := by
    intro H locs hM hS
    refine lv_aload_n hx hb dX2_writeLog_0 rfl (lv_at hl 0 rfl) ?_
    refine g_cMV hX hl y_X2_mayLook v_X2_mayLook q2536 k_X2_mayLook (hM.rc hX.2.2.2) hM rfl ⟨Nat.le_of_ble_eq_true rfl, Nat.le_of_ble_eq_true rfl⟩ ⟨Nat.le_refl _, Nat.le_refl _⟩ (rest := []) (st1 := [.int (g_b (decide (s_may (F 6) 1 1 = 0)))]) rfl rfl (Nat.le_of_ble_eq_true rfl) dX2_writeLog_1 hS (fun _ h => h) (fun H locs hM hS _ => ?_)
    have hmy : s_may (F 6) 1 1 = t9 := by first | exact hbad | (rw [← hbad]; simp [g_b, g_b]; done) | (rw [← hbad]; simp only [g_b, g_b]; rfl)
    rw [hmy] at hM ⊢
    refine g_if_neB (tgt := 9) hx hb (b := decide (t9 = 0)) rfl dX2_writeLog_4 (by decide) (fun c_4 => ?_) (fun c_4 => ?_)
    · exact Bool.noConfusion ((decide_eq_false ht9).symm.trans c_4)
    skip
    refine lv_iconst (v := 0) hx hb dX2_writeLog_7 rfl ?_
    exact hret H locs _ _ _ _ _ dX2_writeLog_8 hS (Nat.le_refl _) (Nat.le_refl _) (⟨rfl, hM⟩)
  exact key _ _ hM hS

theorem y_X2_textByte : g_Y yX2_textByte cX2_textByte 2 (some .int) 1 := ⟨q2831, by decide +kernel⟩
theorem v_X2_textByte : g_YV yX2_textByte := ⟨q2829, q2830, q140⟩
set_option maxHeartbeats 4000000 in
theorem ok_X2_textByte {G : g_G} {l : Launch} {ad : Nat → Nat} {F : Nat → Int32} {X Y : g_Wd} {U V : Nat → g_Wd} {Z : g_Wd} (i : Nat) (n : Nat) (hn : F 19 = nI n) (hn6 : n ≤ 600) (hi : i < n) : g_Md G l yX2_textByte cX2_textByte 2 (some .int) 1 0 0 [.ref (ad 0), .int (nI i)] (g_Mod G ad F X Y U V Z) (g_Qv (some (.int (Z 18 i))) (g_Mod G ad (upd F 0 0) X Y U V Z)) (md_A ad) := by
  refine g_Md.ofI (by decide) (fun _ _ _ => rfl) ?_
  intro p e s m args below meth c ls Q hX hM hl hS hret
  have hx := hX.1.1
  have hb := hX.1.2.1
  have hl : lv_has ls 2 [(0, .ref (ad 0)), (1, .int (nI i))] := hl
  have key : ∀ (H : Heap) (locs : List Loc), g_Mod G ad F X Y U V Z H → va_S (md_A ad) s.heap H locs → W p l e (g_rm 1 0 0) s m args below meth c H locs 0 0 Q (F0 m 0 ls []) := by
    intro H locs hM hS
    have hin : s_in (nI i) 0 (F 19 - 1) = true := by rw [hn]; exact s_in_nI hi (by omega)
    refine lv_aload_n hx hb dX2_textByte_0 rfl (lv_at hl 0 rfl) ?_
    refine lv_iload_n hx hb dX2_textByte_1 rfl (lv_at hl 1 rfl) ?_
    refine lv_iconst (v := 0) hx hb dX2_textByte_2 rfl ?_
    refine lv_aload_n hx hb dX2_textByte_3 rfl (lv_at hl 0 rfl) ?_
    refine g_getM hX hM 19 (by decide) q2182 rfl (v := .int (F 19)) rfl dX2_textByte_4 ?_
    refine lv_iconst (v := 1) hx hb dX2_textByte_7 rfl ?_
    refine lv_isub hx hb dX2_textByte_8 ?_
    refine g_cRS hX hl y_X2_in v_X2_in q2258 (k_X2_in (nI i) 0 ((F 19) - 1)) trivial rfl ⟨Nat.le_of_ble_eq_true rfl, Nat.le_of_ble_eq_true rfl⟩ ⟨Nat.zero_le _, Nat.zero_le _⟩ (rest := [.ref (ad 0)]) (st1 := [.int (g_b (s_in (nI i) 0 ((F 19) - 1))), .ref (ad 0)]) rfl rfl (Nat.le_of_ble_eq_true rfl) dX2_textByte_9 ?_
    refine lv_iconst (v := 1) hx hb dX2_textByte_12 rfl ?_
    refine lv_iconst (v := 1) hx hb dX2_textByte_13 rfl ?_
    refine g_cMV hX hl y_X2_may v_X2_may q2261 (k_X2_may (g_b (s_in (nI i) 0 ((F 19) - 1))) 1 1) (hM.rc hX.2.2.2) hM rfl ⟨Nat.le_of_ble_eq_true rfl, Nat.le_of_ble_eq_true rfl⟩ ⟨Nat.le_refl _, Nat.le_refl _⟩ (rest := []) (st1 := [.int (g_b (decide (s_may (g_b (s_in (nI i) 0 ((F 19) - 1))) 1 1 = 0)))]) rfl rfl (Nat.le_of_ble_eq_true rfl) dX2_textByte_14 hS (fun _ h => h) (fun H locs hM hS _ => ?_)
    have hmy : s_may (g_b (s_in (nI i) 0 ((F 19) - 1))) 1 1 = 0 := s_may_ok (g_b_ne hin) (by decide) (by decide)
    rw [hmy] at hM ⊢
    refine g_if_eqB (tgt := 29) hx hb (b := decide ((0 : Int32) = 0)) rfl dX2_textByte_17 (by decide) (fun c_17 => ?_) (fun c_17 => ?_)
    · exact Bool.noConfusion ((rfl : decide ((0 : Int32) = 0) = true).symm.trans c_17)
    skip
    refine lv_aload_n hx hb dX2_textByte_20 rfl (lv_at hl 0 rfl) ?_
    refine g_getM hX hM 18 (by decide) q2181 rfl (v := .ref (ad 18)) rfl dX2_textByte_21 ?_
    refine lv_iload_n hx hb dX2_textByte_24 rfl (lv_at hl 1 rfl) ?_
    refine g_bald hX hM.a18 i rfl (by omega) (by decide) (v := (Z 18 i)) rfl dX2_textByte_25 ?_
    refine lv_goto (tgt := 30) hx hb dX2_textByte_26 (by decide) ?_
    exact hret H locs _ _ _ _ _ dX2_textByte_30 hS (Nat.le_refl _) (Nat.le_refl _) (⟨rfl, hM⟩)
  exact key _ _ hM hS

set_option maxHeartbeats 4000000 in
theorem no_X2_textByte {G : g_G} {l : Launch} {ad : Nat → Nat} {F : Nat → Int32} {X Y : g_Wd} {U V : Nat → g_Wd} {Z : g_Wd} (t9 : Int32) (i : Int32) (ht9 : ¬ t9 = 0) (hbad : s_may (g_b (s_in i 0 (F 19 - 1))) 1 1 = t9) : g_Md G l yX2_textByte cX2_textByte 2 (some .int) 1 0 0 [.ref (ad 0), .int i] (g_Mod G ad F X Y U V Z) (g_Qv (some (.int 0)) (g_Mod G ad (upd F 0 t9) X Y U V Z)) (md_A ad) := by
  refine g_Md.ofI (by decide) (fun _ _ _ => rfl) ?_
  intro p e s m args below meth c ls Q hX hM hl hS hret
  have hx := hX.1.1
  have hb := hX.1.2.1
  have hl : lv_has ls 2 [(0, .ref (ad 0)), (1, .int i)] := hl
  have key : ∀ (H : Heap) (locs : List Loc), g_Mod G ad F X Y U V Z H → va_S (md_A ad) s.heap H locs → W p l e (g_rm 1 0 0) s m args below meth c H locs 0 0 Q (F0 m 0 ls []) := by
    intro H locs hM hS
    refine lv_aload_n hx hb dX2_textByte_0 rfl (lv_at hl 0 rfl) ?_
    refine lv_iload_n hx hb dX2_textByte_1 rfl (lv_at hl 1 rfl) ?_
    refine lv_iconst (v := 0) hx hb dX2_textByte_2 rfl ?_
    refine lv_aload_n hx hb dX2_textByte_3 rfl (lv_at hl 0 rfl) ?_
    refine g_getM hX hM 19 (by decide) q2182 rfl (v := .int (F 19)) rfl dX2_textByte_4 ?_
    refine lv_iconst (v := 1) hx hb dX2_textByte_7 rfl ?_
    refine lv_isub hx hb dX2_textByte_8 ?_
    refine g_cRS hX hl y_X2_in v_X2_in q2258 (k_X2_in i 0 ((F 19) - 1)) trivial rfl ⟨Nat.le_of_ble_eq_true rfl, Nat.le_of_ble_eq_true rfl⟩ ⟨Nat.zero_le _, Nat.zero_le _⟩ (rest := [.ref (ad 0)]) (st1 := [.int (g_b (s_in i 0 ((F 19) - 1))), .ref (ad 0)]) rfl rfl (Nat.le_of_ble_eq_true rfl) dX2_textByte_9 ?_
    refine lv_iconst (v := 1) hx hb dX2_textByte_12 rfl ?_
    refine lv_iconst (v := 1) hx hb dX2_textByte_13 rfl ?_
    refine g_cMV hX hl y_X2_may v_X2_may q2261 (k_X2_may (g_b (s_in i 0 ((F 19) - 1))) 1 1) (hM.rc hX.2.2.2) hM rfl ⟨Nat.le_of_ble_eq_true rfl, Nat.le_of_ble_eq_true rfl⟩ ⟨Nat.le_refl _, Nat.le_refl _⟩ (rest := []) (st1 := [.int (g_b (decide (s_may (g_b (s_in i 0 ((F 19) - 1))) 1 1 = 0)))]) rfl rfl (Nat.le_of_ble_eq_true rfl) dX2_textByte_14 hS (fun _ h => h) (fun H locs hM hS _ => ?_)
    have hmy : s_may (g_b (s_in i 0 ((F 19) - 1))) 1 1 = t9 := by first | exact hbad | (rw [← hbad]; simp [g_b, g_b]; done) | (rw [← hbad]; simp only [g_b, g_b]; rfl)
    rw [hmy] at hM ⊢
    refine g_if_eqB (tgt := 29) hx hb (b := decide (t9 = 0)) rfl dX2_textByte_17 (by decide) (fun c_17 => ?_) (fun c_17 => ?_)
    rotate_left
    · exact Bool.noConfusion ((decide_eq_false ht9).symm.trans c_17)
    refine lv_iconst (v := 0) hx hb dX2_textByte_29 rfl ?_
    exact hret H locs _ _ _ _ _ dX2_textByte_30 hS (Nat.le_refl _) (Nat.le_refl _) (⟨rfl, hM⟩)
  exact key _ _ hM hS
