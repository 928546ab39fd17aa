/-! THE MODEL: changes -/
set_option maxRecDepth 100000
theorem y_X2_remembers : g_Y yX2_remembers cX2_remembers 2 none 0 := ⟨q2842, by decide +kernel⟩
theorem v_X2_remembers : g_YV yX2_remembers := ⟨q2841, qs131, q140⟩
set_option maxHeartbeats 4000000 in
theorem k_X2_remembers {G : g_G} {l : Launch} {ad : Nat → Nat} {F : Nat → Int32} {X Y : g_Wd} {U V : Nat → g_Wd} {Z : g_Wd}  (u : Nat) (hu : F 7 = nI u) (hu8 : u ≤ 8) : g_Md G l yX2_remembers cX2_remembers 2 none 1 0 0 [.ref (ad 0)] (g_Mod G ad F X Y U V Z) (g_Qv none (g_Mod G ad (upd F 7 (nI (x_um u))) X Y (x_rem U u X) V Z)) (md_A ad) := by
  refine g_Md.ofV (by decide) ?_
  intro p e s m args below meth c ls Q hX hM hl hS hret
  have hx := hX.1.1
  have hb := hX.1.2.1
  have hl : lv_has ls 2 [(0, .ref (ad 0))] := hl
  have key : ∀ (H : Heap) (locs : List Loc), g_Mod G ad F X Y U V Z H → va_S (md_A ad) s.heap H locs → W p l e (g_rm 1 0 0) s m args below meth c H locs 0 0 Q (F0 m 0 ls []) := by
    intro H locs hM hS
    refine lv_aload_n hx hb dX2_remembers_0 rfl (lv_at hl 0 rfl) ?_
    refine g_getM hX hM 7 (by decide) q2170 rfl (v := .int (F 7)) rfl dX2_remembers_1 ?_
    refine lv_bipush (v := 8) hx hb dX2_remembers_4 (by decide) ?_
    refine g_icmp_neN (tgt := 50) hx hb u 8 hu rfl (by omega) (by omega) dX2_remembers_6 (by decide) (fun c_6 => ?_) (fun c_6 => ?_)
    · skip
      refine lv_aload_n hx hb dX2_remembers_50 rfl (lv_at hl 0 rfl) ?_
      refine g_getM hX hM 1 (by decide) q2164 rfl (v := .ref (ad 1)) rfl dX2_remembers_51 ?_
      refine lv_iconst (v := 0) hx hb dX2_remembers_54 rfl ?_
      refine lv_aload_n hx hb dX2_remembers_55 rfl (lv_at hl 0 rfl) ?_
      refine g_getM hX hM 3 (by decide) q2166 rfl (v := .ref (ad 3)) rfl dX2_remembers_56 ?_
      refine lv_aload_n hx hb dX2_remembers_59 rfl (lv_at hl 0 rfl) ?_
      refine g_getM hX hM 7 (by decide) q2170 rfl (v := .int (F 7)) rfl dX2_remembers_60 ?_
      refine lv_sipush (v := 1576) hx hb dX2_remembers_63 (by decide) ?_
      refine g_imulN hx hb u 1576 hu rfl dX2_remembers_66 ?_
      refine g_cMS hX hl y_X2_lays v_X2_lays q2269 (k_X2_lays (ad 1) (ad 3) 1576 12608 0 (u * 1576) (g_fl X) (g_fls U) (hM.ne (by decide) (by decide) (by decide)) (by omega) (by omega) (by decide) (by decide)) ⟨hM.a1, hM.a3⟩ rfl ⟨Nat.le_of_ble_eq_true rfl, Nat.le_of_ble_eq_true rfl⟩ ⟨Nat.le_refl _, Nat.le_refl _⟩ (rest := []) (st1 := []) rfl rfl (Nat.le_of_ble_eq_true rfl) dX2_remembers_67 hS (fun z h => by rw [h]; exact md_A.at (by decide)) (fun H1 locs h9 hS o9 => ?_)
      replace hM : g_Mod G ad F X Y (va_up U u X) V Z H1 := hM.l13 (u := u) h9 o9.2
      clear h9 o9
      revert hM hS
      generalize H1 = H
      intro hS hM
      refine lv_aload_n hx hb dX2_remembers_70 rfl (lv_at hl 0 rfl) ?_
      refine lv_dup hx hb dX2_remembers_71 rfl ?_
      refine g_getM hX hM 7 (by decide) q2170 rfl (v := .int (F 7)) rfl dX2_remembers_72 ?_
      refine lv_iconst (v := 1) hx hb dX2_remembers_75 rfl ?_
      refine g_iaddN hx hb u 1 hu rfl dX2_remembers_76 ?_
      refine g_putM hX hM hS 7 (by decide) q2170 rfl rfl (x := (nI (u + 1))) rfl rfl (F' := upd F 7 (nI (u + 1))) rfl dX2_remembers_77 (fun H locs hM hS => ?_)
      exact hret H locs _ _ _ _ dX2_remembers_80 hS (Nat.le_refl _) (Nat.le_refl _) (by first | (subst c_6; exact ⟨rfl, hM⟩) | exact ⟨rfl, by rw [x_um, if_neg c_6, x_rem, if_neg c_6]; exact hM⟩)
    · skip
      replace hM := hM.to3
      refine lv_iconst (v := 0) hx hb dX2_remembers_9 rfl ?_
      refine lv_istore_n (lv' := [(1, .int 0), (0, .ref (ad 0))]) hx hb dX2_remembers_10 rfl hl (by decide) rfl (fun ls hl => ?_)
      have L11 : ∀ (nf : Nat) (H : Heap) (locs : List Loc) (j : Nat) (c3 : Nat → Int32), (j ≤ 11032) → (c3 = c_shN U j) → (11032 - j < nf) → (g_Mod3 G ad F X Y V Z c3 H) → va_S (md_A ad) s.heap H locs → ∀ ls : Array Slot, lv_has ls 2 [(1, .int (nI j)), (0, .ref (ad 0))] → W p l e (g_rm 1 0 0) s m args below meth c H locs 0 0 Q (F0 m 11 ls []) := by
        intro n11
        induction n11 with
        | zero => intro H locs j c3 hj hc3 hn; exact absurd hn (Nat.not_lt_zero _)
        | succ n11 ih11 =>
          intro H locs j c3 hj hc3 hn11 hM hS ls hl
          refine lv_iload_n hx hb dX2_remembers_11 rfl (lv_at hl 0 rfl) ?_
          refine lv_sipush (v := 11032) hx hb dX2_remembers_12 (by decide) ?_
          refine g_icmp_geN (tgt := 40) hx hb j 11032 rfl rfl (by omega) (by omega) dX2_remembers_15 (by decide) (fun c_15 => ?_) (fun c_15 => ?_)
          · skip
            replace hM : g_Mod G ad F X Y (x_sh8 U) V Z H := hM.of (fun q hq => by rw [hc3, show j = 11032 by omega]; exact c_sh8 q hq)
            refine lv_aload_n hx hb dX2_remembers_40 rfl (lv_at hl 1 rfl) ?_
            refine lv_dup hx hb dX2_remembers_41 rfl ?_
            refine g_getM hX hM 7 (by decide) q2170 rfl (v := .int (F 7)) rfl dX2_remembers_42 ?_
            refine lv_iconst (v := 1) hx hb dX2_remembers_45 rfl ?_
            refine g_isubN hx hb u 1 hu rfl (by omega) dX2_remembers_46 ?_
            refine g_putM hX hM hS 7 (by decide) q2170 rfl rfl (x := (nI (u - 1))) rfl rfl (F' := upd F 7 (nI (u - 1))) rfl dX2_remembers_47 (fun H locs hM hS => ?_)
            refine lv_aload_n hx hb dX2_remembers_50 rfl (lv_at hl 1 rfl) ?_
            refine g_getM hX hM 1 (by decide) q2164 rfl (v := .ref (ad 1)) rfl dX2_remembers_51 ?_
            refine lv_iconst (v := 0) hx hb dX2_remembers_54 rfl ?_
            refine lv_aload_n hx hb dX2_remembers_55 rfl (lv_at hl 1 rfl) ?_
            refine g_getM hX hM 3 (by decide) q2166 rfl (v := .ref (ad 3)) rfl dX2_remembers_56 ?_
            refine lv_aload_n hx hb dX2_remembers_59 rfl (lv_at hl 1 rfl) ?_
            refine g_getM hX hM 7 (by decide) q2170 rfl (v := .int (nI (u - 1))) rfl dX2_remembers_60 ?_
            refine lv_sipush (v := 1576) hx hb dX2_remembers_63 (by decide) ?_
            refine g_imulN hx hb (u - 1) 1576 rfl rfl dX2_remembers_66 ?_
            refine g_cMS hX hl y_X2_lays v_X2_lays q2269 (k_X2_lays (ad 1) (ad 3) 1576 12608 0 ((u - 1) * 1576) (g_fl X) (g_fls (x_sh8 U)) (hM.ne (by decide) (by decide) (by decide)) (by omega) (by omega) (by decide) (by decide)) ⟨hM.a1, hM.a3⟩ rfl ⟨Nat.le_of_ble_eq_true rfl, Nat.le_of_ble_eq_true rfl⟩ ⟨Nat.le_refl _, Nat.le_refl _⟩ (rest := []) (st1 := []) rfl rfl (Nat.le_of_ble_eq_true rfl) dX2_remembers_67 hS (fun z h => by rw [h]; exact md_A.at (by decide)) (fun H1 locs h9 hS o9 => ?_)
            replace hM : g_Mod G ad (upd F 7 (nI (u - 1))) X Y (va_up (x_sh8 U) (u - 1) X) V Z H1 := hM.l13 (u := (u - 1)) h9 o9.2
            clear h9 o9
            revert hM hS
            generalize H1 = H
            intro hS hM
            refine lv_aload_n hx hb dX2_remembers_70 rfl (lv_at hl 1 rfl) ?_
            refine lv_dup hx hb dX2_remembers_71 rfl ?_
            refine g_getM hX hM 7 (by decide) q2170 rfl (v := .int (nI (u - 1))) rfl dX2_remembers_72 ?_
            refine lv_iconst (v := 1) hx hb dX2_remembers_75 rfl ?_
            refine g_iaddN hx hb (u - 1) 1 rfl rfl dX2_remembers_76 ?_
            refine g_putM hX hM hS 7 (by decide) q2170 rfl rfl (x := (nI (u - 1 + 1))) rfl rfl (F' := upd F 7 (nI (u - 1 + 1))) rfl dX2_remembers_77 (fun H locs hM hS => ?_)
            exact hret H locs _ _ _ _ dX2_remembers_80 hS (Nat.le_refl _) (Nat.le_refl _) (by first | (subst c_6; exact ⟨rfl, hM⟩) | exact ⟨rfl, by rw [x_um, if_neg c_6, x_rem, if_neg c_6]; exact hM⟩)
          · skip
            refine lv_aload_n hx hb dX2_remembers_18 rfl (lv_at hl 1 rfl) ?_
            refine g_get in_X2 (ci := 1) rfl hX hM.ob 3 (by decide) q2166 (fun _ h9 => h9) (v := .ref (ad 3)) rfl dX2_remembers_19 ?_
            refine lv_iload_n hx hb dX2_remembers_22 rfl (lv_at hl 0 rfl) ?_
            refine lv_aload_n hx hb dX2_remembers_23 rfl (lv_at hl 1 rfl) ?_
            refine g_get in_X2 (ci := 1) rfl hX hM.ob 3 (by decide) q2166 (fun _ h9 => h9) (v := .ref (ad 3)) rfl dX2_remembers_24 ?_
            refine lv_iload_n hx hb dX2_remembers_27 rfl (lv_at hl 0 rfl) ?_
            refine lv_sipush (v := 1576) hx hb dX2_remembers_28 (by decide) ?_
            refine g_iaddN hx hb j 1576 rfl rfl dX2_remembers_31 ?_
            refine g_iald hX hM.2.1 (j + 1576) rfl (by omega) (by decide) (v := (c3 (j + 1576))) rfl dX2_remembers_32 ?_
            refine g_iast hX hM.2.1 (md_A.at (by decide)) hS j rfl (by omega) (by decide) dX2_remembers_33 (fun H1 locs h9 o9 hS => ?_)
            replace hM : g_Mod3 G ad F X Y V Z (upd c3 j (c3 (j + 1576))) H1 := hM.up h9 o9
            clear h9 o9
            revert hM hS
            generalize H1 = H
            intro hS hM
            refine lv_iinc (v := (nI (j + 1))) (lv' := [(1, .int (nI (j + 1))), (0, .ref (ad 0))]) hx hb dX2_remembers_34 hl (k := 0) rfl (nI_1 _) (by decide) rfl (fun ls hl => ?_)
            refine lv_goto (tgt := 11) hx hb dX2_remembers_37 (by decide) ?_
            exact ih11 H locs (j + 1) (upd c3 j (c3 (j + 1576))) (by omega) (c_shN_s hc3) (by omega) hM hS ls (lv_sub hl [0, 1] rfl)
      exact L11 (11032 - 0 + 1) H locs 0 (g_fls U) (by omega) (c_shN_0) (Nat.lt_succ_self _) hM hS ls (lv_sub hl [0, 1] rfl)
  exact key _ _ hM hS

theorem y_X2_pass : g_Y yX2_pass cX2_pass 2 (some .int) 1 := ⟨q2854, by decide +kernel⟩
theorem v_X2_pass : g_YV yX2_pass := ⟨q2852, q2853, q140⟩
set_option maxHeartbeats 4000000 in
theorem ok_X2_pass {G : g_G} {l : Launch} {ad : Nat → Nat} {F : Nat → Int32} {X Y : g_Wd} {U V : Nat → g_Wd} {Z : g_Wd} (h : Nat) (u : Nat) (hF : ¬ F 6 = 0) (hwl : s_wl X) (hwk : s_wk X) (hu : F 7 = nI u) (hu8 : u ≤ 8) (h1 : 1 ≤ h) (h50 : h ≤ 50) : g_Md G l yX2_pass cX2_pass 2 (some .int) 8 0 0 [.ref (ad 0), .int (nI h)] (g_Mod G ad F X Y U V Z) (g_Qv (some (.int (nI (s_arrd (x_pH X h)) - nI (s_arrd X)))) (g_Mod G ad (upd (upd F 0 0) 7 (nI (x_um u))) (x_pH X h) Y (x_rem U u X) V Z)) (md_A ad) := by
  refine g_Md.ofI (by decide) (fun _ _ _ => rfl) ?_
  intro p e s m args below meth c ls Q hX hM hl hS hret
  have hx := hX.1.1
  have hb := hX.1.2.1
  have hl : lv_has ls 2 [(0, .ref (ad 0)), (1, .int (nI h))] := hl
  have key : ∀ (H : Heap) (locs : List Loc), g_Mod G ad F X Y U V Z H → va_S (md_A ad) s.heap H locs → W p l e (g_rm 8 0 0) s m args below meth c H locs 0 0 Q (F0 m 0 ls []) := by
    intro H locs hM hS
    have hW := hwl.1
    have hWc : ¬ F 6 = 0 → s_ok X := fun _ => hW
    have hW9 := hW
    obtain ⟨⟨hL0, hL2, hL6⟩, ⟨hM0, hM6⟩, ⟨hG0, hG40⟩, hok⟩ := hW9
    have hw9 : s_W X ≤ 45 := by unfold s_W; omega
    have hin : s_in (nI h) 1 50 = true := s_in_le2 (show 1 ≤ h by omega) (show h ≤ 50 by omega) (by decide)
    refine lv_aload_n hx hb dX2_pass_0 rfl (lv_at hl 0 rfl) ?_
    refine lv_aload_n hx hb dX2_pass_1 rfl (lv_at hl 0 rfl) ?_
    refine g_getM hX hM 6 (by decide) q2169 rfl (v := .int (F 6)) rfl dX2_pass_2 ?_
    refine lv_iload_n hx hb dX2_pass_5 rfl (lv_at hl 1 rfl) ?_
    refine lv_iconst (v := 1) hx hb dX2_pass_6 rfl ?_
    refine lv_bipush (v := 50) hx hb dX2_pass_7 (by decide) ?_
    refine g_cRS hX hl y_X2_in v_X2_in q2258 (k_X2_in (nI h) 1 50) trivial rfl ⟨Nat.le_of_ble_eq_true rfl, Nat.le_of_ble_eq_true rfl⟩ ⟨Nat.zero_le _, Nat.zero_le _⟩ (rest := [.int (F 6), .ref (ad 0)]) (st1 := [.int (g_b (s_in (nI h) 1 50)), .int (F 6), .ref (ad 0)]) rfl rfl (Nat.le_of_ble_eq_true rfl) dX2_pass_9 ?_
    refine g_cMV hX hl y_X2_mayTwo v_X2_mayTwo q2501 (k_X2_mayTwo (F 6) (g_b (s_in (nI h) 1 50))) (hM.rc hX.2.2.2) hM rfl ⟨Nat.le_of_ble_eq_true rfl, Nat.le_of_ble_eq_true rfl⟩ ⟨Nat.le_refl _, Nat.le_refl _⟩ (rest := []) (st1 := [.int (g_b (decide (s_may (F 6) (g_b (s_in (nI h) 1 50)) 1 = 0)))]) rfl rfl (Nat.le_of_ble_eq_true rfl) dX2_pass_12 hS (fun _ h => h) (fun H locs hM hS _ => ?_)
    have hmy : s_may (F 6) (g_b (s_in (nI h) 1 50)) 1 = 0 := s_may_ok hF (g_b_ne hin) (by decide)
    rw [hmy] at hM ⊢
    refine g_if_neB (tgt := 20) hx hb (b := decide ((0 : Int32) = 0)) rfl dX2_pass_15 (by decide) (fun c_15 => ?_) (fun c_15 => ?_)
    rotate_left
    · exact Bool.noConfusion ((rfl : decide ((0 : Int32) = 0) = true).symm.trans c_15)
    refine lv_aload_n hx hb dX2_pass_20 rfl (lv_at hl 0 rfl) ?_
    refine g_cMV hX hl y_X2_remembers v_X2_remembers q2839 (k_X2_remembers u (by exact hu) hu8) (hM.rc hX.2.2.2) hM rfl ⟨Nat.le_of_ble_eq_true rfl, Nat.le_of_ble_eq_true rfl⟩ ⟨Nat.le_refl _, Nat.le_refl _⟩ (rest := []) (st1 := []) rfl rfl (Nat.le_of_ble_eq_true rfl) dX2_pass_21 hS (fun _ h => h) (fun H locs hM hS _ => ?_)
    refine lv_aload_n hx hb dX2_pass_24 rfl (lv_at hl 0 rfl) ?_
    refine lv_iload_n hx hb dX2_pass_25 rfl (lv_at hl 1 rfl) ?_
    refine g_cMV hX hl y_X2_passes v_X2_passes q2374 (k_X2_passes h hwl (by omega)) (hM.rc hX.2.2.2) hM rfl ⟨Nat.le_of_ble_eq_true rfl, Nat.le_of_ble_eq_true rfl⟩ ⟨Nat.le_refl _, Nat.le_refl _⟩ (rest := []) (st1 := [.int (nI (s_arrd (x_pH X h)) - nI (s_arrd X))]) rfl rfl (Nat.le_of_ble_eq_true rfl) dX2_pass_26 hS (fun _ h => h) (fun H locs hM hS _ => ?_)
    exact hret H locs _ _ _ _ _ dX2_pass_29 hS (Nat.le_refl _) (Nat.le_refl _) (⟨rfl, hM⟩)
  exact key _ _ hM hS

set_option maxHeartbeats 4000000 in
theorem no_X2_pass {G : g_G} {l : Launch} {ad : Nat → Nat} {F : Nat → Int32} {X Y : g_Wd} {U V : Nat → g_Wd} {Z : g_Wd} (t9 : Int32) (h : Int32) (ht9 : ¬ t9 = 0) (hbad : s_may (F 6) (g_b (s_in h 1 50)) 1 = t9) (hWc : ¬ F 6 = 0 → s_ok X) : g_Md G l yX2_pass cX2_pass 2 (some .int) 2 0 0 [.ref (ad 0), .int h] (g_Mod G ad F X Y U V Z) (g_Qv (some (.int 0)) (g_Mod G ad (upd F 0 t9) X Y U V Z)) (md_A ad) := by
  refine g_Md.ofI (by decide) (fun _ _ _ => rfl) ?_
  intro p e s m args below meth c ls Q hX hM hl hS hret
  have hx := hX.1.1
  have hb := hX.1.2.1
  have hl : lv_has ls 2 [(0, .ref (ad 0)), (1, .int h)] := hl
  have key : ∀ (H : Heap) (locs : List Loc), g_Mod G ad F X Y U V Z H → va_S (md_A ad) s.heap H locs → W p l e (g_rm 2 0 0) s m args below meth c H locs 0 0 Q (F0 m 0 ls []) := by
    intro H locs hM hS
    refine lv_aload_n hx hb dX2_pass_0 rfl (lv_at hl 0 rfl) ?_
    refine lv_aload_n hx hb dX2_pass_1 rfl (lv_at hl 0 rfl) ?_
    refine g_getM hX hM 6 (by decide) q2169 rfl (v := .int (F 6)) rfl dX2_pass_2 ?_
    refine lv_iload_n hx hb dX2_pass_5 rfl (lv_at hl 1 rfl) ?_
    refine lv_iconst (v := 1) hx hb dX2_pass_6 rfl ?_
    refine lv_bipush (v := 50) hx hb dX2_pass_7 (by decide) ?_
    refine g_cRS hX hl y_X2_in v_X2_in q2258 (k_X2_in h 1 50) trivial rfl ⟨Nat.le_of_ble_eq_true rfl, Nat.le_of_ble_eq_true rfl⟩ ⟨Nat.zero_le _, Nat.zero_le _⟩ (rest := [.int (F 6), .ref (ad 0)]) (st1 := [.int (g_b (s_in h 1 50)), .int (F 6), .ref (ad 0)]) rfl rfl (Nat.le_of_ble_eq_true rfl) dX2_pass_9 ?_
    refine g_cMV hX hl y_X2_mayTwo v_X2_mayTwo q2501 (k_X2_mayTwo (F 6) (g_b (s_in h 1 50))) (hM.rc hX.2.2.2) hM rfl ⟨Nat.le_of_ble_eq_true rfl, Nat.le_of_ble_eq_true rfl⟩ ⟨Nat.le_refl _, Nat.le_refl _⟩ (rest := []) (st1 := [.int (g_b (decide (s_may (F 6) (g_b (s_in h 1 50)) 1 = 0)))]) rfl rfl (Nat.le_of_ble_eq_true rfl) dX2_pass_12 hS (fun _ h => h) (fun H locs hM hS _ => ?_)
    have hmy : s_may (F 6) (g_b (s_in h 1 50)) 1 = t9 := by first | exact hbad | (rw [← hbad]; simp [g_b, g_b]; done) | (rw [← hbad]; simp only [g_b, g_b]; rfl) | (rw [← hbad]; grind [g_b])
    rw [hmy] at hM ⊢
    refine g_if_neB (tgt := 20) hx hb (b := decide (t9 = 0)) rfl dX2_pass_15 (by decide) (fun c_15 => ?_) (fun c_15 => ?_)
    · exact Bool.noConfusion ((decide_eq_false ht9).symm.trans c_15)
    skip
    refine lv_iconst (v := 0) hx hb dX2_pass_18 rfl ?_
    exact hret H locs _ _ _ _ _ dX2_pass_19 hS (Nat.le_refl _) (Nat.le_refl _) (⟨rfl, hM⟩)
  exact key _ _ hM hS

theorem y_X2_setAsks : g_Y yX2_setAsks cX2_setAsks 3 (some .int) 1 := ⟨q2878, by decide +kernel⟩
theorem v_X2_setAsks : g_YV yX2_setAsks := ⟨q2876, q2877, q140⟩
set_option maxHeartbeats 4000000 in
theorem ok_X2_setAsks {G : g_G} {l : Launch} {ad : Nat → Nat} {F : Nat → Int32} {X Y : g_Wd} {U V : Nat → g_Wd} {Z : g_Wd} (a : Nat) (u : Nat) (hF : ¬ F 6 = 0) (hwl : s_wl X) (hwk : s_wk X) (hu : F 7 = nI u) (hu8 : u ≤ 8) (ha : a ≤ 5) : g_Md G l yX2_setAsks cX2_setAsks 3 (some .int) 2 0 0 [.ref (ad 0), .int (nI a)] (g_Mod G ad F X Y U V Z) (g_Qv (some (.int (X 0 1))) (g_Mod G ad (upd (upd F 0 0) 7 (nI (x_um u))) (g_up2 X 0 1 (nI a)) Y (x_rem U u X) V Z)) (md_A ad) := by
  refine g_Md.ofI (by decide) (fun _ _ _ => rfl) ?_
  intro p e s m args below meth c ls Q hX hM hl hS hret
  have hx := hX.1.1
  have hb := hX.1.2.1
  have hl : lv_has ls 3 [(0, .ref (ad 0)), (1, .int (nI a))] := hl
  have key : ∀ (H : Heap) (locs : List Loc), g_Mod G ad F X Y U V Z H → va_S (md_A ad) s.heap H locs → W p l e (g_rm 2 0 0) s m args below meth c H locs 0 0 Q (F0 m 0 ls []) := by
    intro H locs hM hS
    have hW := hwl.1
    have hWc : ¬ F 6 = 0 → s_ok X := fun _ => hW
    have hW9 := hW
    obtain ⟨⟨hL0, hL2, hL6⟩, ⟨hM0, hM6⟩, ⟨hG0, hG40⟩, hok⟩ := hW9
    have hw9 : s_W X ≤ 45 := by unfold s_W; omega
    have hin : s_in (nI a) 0 5 = true := s_in_le (show a ≤ 5 by omega) (by decide)
    refine lv_aload_n hx hb dX2_setAsks_0 rfl (lv_at hl 0 rfl) ?_
    refine lv_aload_n hx hb dX2_setAsks_1 rfl (lv_at hl 0 rfl) ?_
    refine g_getM hX hM 6 (by decide) q2169 rfl (v := .int (F 6)) rfl dX2_setAsks_2 ?_
    refine lv_iload_n hx hb dX2_setAsks_5 rfl (lv_at hl 1 rfl) ?_
    refine lv_iconst (v := 0) hx hb dX2_setAsks_6 rfl ?_
    refine lv_iconst (v := 5) hx hb dX2_setAsks_7 rfl ?_
    refine g_cRS hX hl y_X2_in v_X2_in q2258 (k_X2_in (nI a) 0 5) trivial rfl ⟨Nat.le_of_ble_eq_true rfl, Nat.le_of_ble_eq_true rfl⟩ ⟨Nat.zero_le _, Nat.zero_le _⟩ (rest := [.int (F 6), .ref (ad 0)]) (st1 := [.int (g_b (s_in (nI a) 0 5)), .int (F 6), .ref (ad 0)]) rfl rfl (Nat.le_of_ble_eq_true rfl) dX2_setAsks_8 ?_
    refine g_cMV hX hl y_X2_mayTwo v_X2_mayTwo q2501 (k_X2_mayTwo (F 6) (g_b (s_in (nI a) 0 5))) (hM.rc hX.2.2.2) hM rfl ⟨Nat.le_of_ble_eq_true rfl, Nat.le_of_ble_eq_true rfl⟩ ⟨Nat.le_refl _, Nat.le_refl _⟩ (rest := []) (st1 := [.int (g_b (decide (s_may (F 6) (g_b (s_in (nI a) 0 5)) 1 = 0)))]) rfl rfl (Nat.le_of_ble_eq_true rfl) dX2_setAsks_11 hS (fun _ h => h) (fun H locs hM hS _ => ?_)
    have hmy : s_may (F 6) (g_b (s_in (nI a) 0 5)) 1 = 0 := s_may_ok hF (g_b_ne hin) (by decide)
    rw [hmy] at hM ⊢
    refine g_if_neB (tgt := 19) hx hb (b := decide ((0 : Int32) = 0)) rfl dX2_setAsks_14 (by decide) (fun c_14 => ?_) (fun c_14 => ?_)
    rotate_left
    · exact Bool.noConfusion ((rfl : decide ((0 : Int32) = 0) = true).symm.trans c_14)
    refine lv_aload_n hx hb dX2_setAsks_19 rfl (lv_at hl 0 rfl) ?_
    refine g_cMV hX hl y_X2_remembers v_X2_remembers q2839 (k_X2_remembers u (by exact hu) hu8) (hM.rc hX.2.2.2) hM rfl ⟨Nat.le_of_ble_eq_true rfl, Nat.le_of_ble_eq_true rfl⟩ ⟨Nat.le_refl _, Nat.le_refl _⟩ (rest := []) (st1 := []) rfl rfl (Nat.le_of_ble_eq_true rfl) dX2_setAsks_20 hS (fun _ h => h) (fun H locs hM hS _ => ?_)
    refine lv_aload_n hx hb dX2_setAsks_23 rfl (lv_at hl 0 rfl) ?_
    refine g_getM hX hM 1 (by decide) q2164 rfl (v := .ref (ad 1)) rfl dX2_setAsks_24 ?_
    refine lv_iconst (v := 1) hx hb dX2_setAsks_27 rfl ?_
    refine g_iald hX hM.a1 1 rfl (by omega) (by decide) (v := (X 0 1)) rfl dX2_setAsks_28 ?_
    refine lv_istore_n (lv' := [(2, .int (X 0 1)), (0, .ref (ad 0)), (1, .int (nI a))]) hx hb dX2_setAsks_29 rfl hl (by decide) rfl (fun ls hl => ?_)
    refine lv_aload_n hx hb dX2_setAsks_30 rfl (lv_at hl 1 rfl) ?_
    refine g_getM hX hM 1 (by decide) q2164 rfl (v := .ref (ad 1)) rfl dX2_setAsks_31 ?_
    refine lv_iconst (v := 1) hx hb dX2_setAsks_34 rfl ?_
    refine lv_iload_n hx hb dX2_setAsks_35 rfl (lv_at hl 2 rfl) ?_
    refine g_istX hX hM hS 1 rfl (by omega) (X' := g_up2 X 0 1 (nI a)) (g_flu0 _ (by omega) _) dX2_setAsks_36 (fun H locs hM hS => ?_)
    refine lv_iload_n hx hb dX2_setAsks_37 rfl (lv_at hl 0 rfl) ?_
    exact hret H locs _ _ _ _ _ dX2_setAsks_38 hS (Nat.le_refl _) (Nat.le_refl _) (⟨rfl, hM⟩)
  exact key _ _ hM hS

set_option maxHeartbeats 4000000 in
theorem no_X2_setAsks {G : g_G} {l : Launch} {ad : Nat → Nat} {F : Nat → Int32} {X Y : g_Wd} {U V : Nat → g_Wd} {Z : g_Wd} (t9 : Int32) (a : Int32) (ht9 : ¬ t9 = 0) (hbad : s_may (F 6) (g_b (s_in a 0 5)) 1 = t9) (hWc : ¬ F 6 = 0 → s_ok X) : g_Md G l yX2_setAsks cX2_setAsks 3 (some .int) 2 0 0 [.ref (ad 0), .int a] (g_Mod G ad F X Y U V Z) (g_Qv (some (.int 0)) (g_Mod G ad (upd F 0 t9) X Y U V Z)) (md_A ad) := by
  refine g_Md.ofI (by decide) (fun _ _ _ => rfl) ?_
  intro p e s m args below meth c ls Q hX hM hl hS hret
  have hx := hX.1.1
  have hb := hX.1.2.1
  have hl : lv_has ls 3 [(0, .ref (ad 0)), (1, .int a)] := hl
  have key : ∀ (H : Heap) (locs : List Loc), g_Mod G ad F X Y U V Z H → va_S (md_A ad) s.heap H locs → W p l e (g_rm 2 0 0) s m args below meth c H locs 0 0 Q (F0 m 0 ls []) := by
    intro H locs hM hS
    refine lv_aload_n hx hb dX2_setAsks_0 rfl (lv_at hl 0 rfl) ?_
    refine lv_aload_n hx hb dX2_setAsks_1 rfl (lv_at hl 0 rfl) ?_
    refine g_getM hX hM 6 (by decide) q2169 rfl (v := .int (F 6)) rfl dX2_setAsks_2 ?_
    refine lv_iload_n hx hb dX2_setAsks_5 rfl (lv_at hl 1 rfl) ?_
    refine lv_iconst (v := 0) hx hb dX2_setAsks_6 rfl ?_
    refine lv_iconst (v := 5) hx hb dX2_setAsks_7 rfl ?_
    refine g_cRS hX hl y_X2_in v_X2_in q2258 (k_X2_in a 0 5) trivial rfl ⟨Nat.le_of_ble_eq_true rfl, Nat.le_of_ble_eq_true rfl⟩ ⟨Nat.zero_le _, Nat.zero_le _⟩ (rest := [.int (F 6), .ref (ad 0)]) (st1 := [.int (g_b (s_in a 0 5)), .int (F 6), .ref (ad 0)]) rfl rfl (Nat.le_of_ble_eq_true rfl) dX2_setAsks_8 ?_
    refine g_cMV hX hl y_X2_mayTwo v_X2_mayTwo q2501 (k_X2_mayTwo (F 6) (g_b (s_in a 0 5))) (hM.rc hX.2.2.2) hM rfl ⟨Nat.le_of_ble_eq_true rfl, Nat.le_of_ble_eq_true rfl⟩ ⟨Nat.le_refl _, Nat.le_refl _⟩ (rest := []) (st1 := [.int (g_b (decide (s_may (F 6) (g_b (s_in a 0 5)) 1 = 0)))]) rfl rfl (Nat.le_of_ble_eq_true rfl) dX2_setAsks_11 hS (fun _ h => h) (fun H locs hM hS _ => ?_)
    have hmy : s_may (F 6) (g_b (s_in a 0 5)) 1 = t9 := by first | exact hbad | (rw [← hbad]; simp [g_b, g_b]; done) | (rw [← hbad]; simp only [g_b, g_b]; rfl) | (rw [← hbad]; grind [g_b])
    rw [hmy] at hM ⊢
    refine g_if_neB (tgt := 19) hx hb (b := decide (t9 = 0)) rfl dX2_setAsks_14 (by decide) (fun c_14 => ?_) (fun c_14 => ?_)
    · exact Bool.noConfusion ((decide_eq_false ht9).symm.trans c_14)
    skip
    refine lv_iconst (v := 0) hx hb dX2_setAsks_17 rfl ?_
    exact hret H locs _ _ _ _ _ dX2_setAsks_18 hS (Nat.le_refl _) (Nat.le_refl _) (⟨rfl, hM⟩)
  exact key _ _ hM hS

theorem y_X2_turnWire : g_Y yX2_turnWire cX2_turnWire 2 (some .int) 1 := ⟨q2874, by decide +kernel⟩
theorem v_X2_turnWire : g_YV yX2_turnWire := ⟨q2872, q2873, q140⟩
set_option maxHeartbeats 4000000 in
theorem ok_X2_turnWire {G : g_G} {l : Launch} {ad : Nat → Nat} {F : Nat → Int32} {X Y : g_Wd} {U V : Nat → g_Wd} {Z : g_Wd} (w : Nat) (u : Nat) (hF : ¬ F 6 = 0) (hwl : s_wl X) (hwk : s_wk X) (hu : F 7 = nI u) (hu8 : u ≤ 8) (hw : w < s_W X) : g_Md G l yX2_turnWire cX2_turnWire 2 (some .int) 2 0 0 [.ref (ad 0), .int (nI w)] (g_Mod G ad F X Y U V Z) (g_Qv (some (.int (1 - X 1 (5 * w + 2)))) (g_Mod G ad (upd (upd F 0 0) 7 (nI (x_um u))) (g_up2 X 1 (5 * w + 2) (1 - X 1 (5 * w + 2))) Y (x_rem U u X) V Z)) (md_A ad) := by
  refine g_Md.ofI (by decide) (fun _ _ _ => rfl) ?_
  intro p e s m args below meth c ls Q hX hM hl hS hret
  have hx := hX.1.1
  have hb := hX.1.2.1
  have hl : lv_has ls 2 [(0, .ref (ad 0)), (1, .int (nI w))] := hl
  have key : ∀ (H : Heap) (locs : List Loc), g_Mod G ad F X Y U V Z H → va_S (md_A ad) s.heap H locs → W p l e (g_rm 2 0 0) s m args below meth c H locs 0 0 Q (F0 m 0 ls []) := by
    intro H locs hM hS
    have hW := hwl.1
    have hWc : ¬ F 6 = 0 → s_ok X := fun _ => hW
    have hW9 := hW
    obtain ⟨⟨hL0, hL2, hL6⟩, ⟨hM0, hM6⟩, ⟨hG0, hG40⟩, hok⟩ := hW9
    have hw9 : s_W X ≤ 45 := by unfold s_W; omega
    have hwn := s_isWN_ok hF hW hw
    refine lv_aload_n hx hb dX2_turnWire_0 rfl (lv_at hl 0 rfl) ?_
    refine lv_aload_n hx hb dX2_turnWire_1 rfl (lv_at hl 0 rfl) ?_
    refine g_getM hX hM 6 (by decide) q2169 rfl (v := .int (F 6)) rfl dX2_turnWire_2 ?_
    refine lv_aload_n hx hb dX2_turnWire_5 rfl (lv_at hl 0 rfl) ?_
    refine lv_iload_n hx hb dX2_turnWire_6 rfl (lv_at hl 1 rfl) ?_
    refine g_cRV hX hl y_X2_isWireNumber v_X2_isWireNumber q2733 (k_X2_isWireNumber (nI w) hWc) (hM.rc hX.2.2.2) hM rfl ⟨Nat.le_of_ble_eq_true rfl, Nat.le_of_ble_eq_true rfl⟩ ⟨Nat.zero_le _, Nat.zero_le _⟩ (rest := [.int (F 6), .ref (ad 0)]) (st1 := [.int (g_b (s_isWN F X (nI w))), .int (F 6), .ref (ad 0)]) rfl rfl (Nat.le_of_ble_eq_true rfl) dX2_turnWire_7 ?_
    refine g_cMV hX hl y_X2_mayTwo v_X2_mayTwo q2501 (k_X2_mayTwo (F 6) (g_b (s_isWN F X (nI w)))) (hM.rc hX.2.2.2) hM rfl ⟨Nat.le_of_ble_eq_true rfl, Nat.le_of_ble_eq_true rfl⟩ ⟨Nat.le_refl _, Nat.le_refl _⟩ (rest := []) (st1 := [.int (g_b (decide (s_may (F 6) (g_b (s_isWN F X (nI w))) 1 = 0)))]) rfl rfl (Nat.le_of_ble_eq_true rfl) dX2_turnWire_10 hS (fun _ h => h) (fun H locs hM hS _ => ?_)
    have hmy : s_may (F 6) (g_b (s_isWN F X (nI w))) 1 = 0 := s_may_ok hF (g_b_ne hwn) (by decide)
    rw [hmy] at hM ⊢
    refine g_if_neB (tgt := 18) hx hb (b := decide ((0 : Int32) = 0)) rfl dX2_turnWire_13 (by decide) (fun c_13 => ?_) (fun c_13 => ?_)
    rotate_left
    · exact Bool.noConfusion ((rfl : decide ((0 : Int32) = 0) = true).symm.trans c_13)
    refine lv_aload_n hx hb dX2_turnWire_18 rfl (lv_at hl 0 rfl) ?_
    refine g_cMV hX hl y_X2_remembers v_X2_remembers q2839 (k_X2_remembers u (by exact hu) hu8) (hM.rc hX.2.2.2) hM rfl ⟨Nat.le_of_ble_eq_true rfl, Nat.le_of_ble_eq_true rfl⟩ ⟨Nat.le_refl _, Nat.le_refl _⟩ (rest := []) (st1 := []) rfl rfl (Nat.le_of_ble_eq_true rfl) dX2_turnWire_19 hS (fun _ h => h) (fun H locs hM hS _ => ?_)
    refine lv_aload_n hx hb dX2_turnWire_22 rfl (lv_at hl 0 rfl) ?_
    refine lv_iload_n hx hb dX2_turnWire_23 rfl (lv_at hl 1 rfl) ?_
    refine lv_iconst (v := 2) hx hb dX2_turnWire_24 rfl ?_
    refine lv_iconst (v := 1) hx hb dX2_turnWire_25 rfl ?_
    refine lv_aload_n hx hb dX2_turnWire_26 rfl (lv_at hl 0 rfl) ?_
    refine lv_iload_n hx hb dX2_turnWire_27 rfl (lv_at hl 1 rfl) ?_
    refine lv_iconst (v := 2) hx hb dX2_turnWire_28 rfl ?_
    refine g_cRV hX hl y_X2_ofWire v_X2_ofWire q2340 (k_X2_ofWire w 2 (by omega) (by omega)) (hM.rc hX.2.2.2) hM rfl ⟨Nat.le_of_ble_eq_true rfl, Nat.le_of_ble_eq_true rfl⟩ ⟨Nat.zero_le _, Nat.zero_le _⟩ (rest := [.int 1, .int 2, .int (nI w), .ref (ad 0)]) (st1 := [.int (X 1 (5 * w + 2)), .int 1, .int 2, .int (nI w), .ref (ad 0)]) rfl rfl (Nat.le_of_ble_eq_true rfl) dX2_turnWire_29 ?_
    refine lv_isub hx hb dX2_turnWire_32 ?_
    refine g_cMV hX hl y_X2_putsWire v_X2_putsWire q2331 (k_X2_putsWire w 2 (1 - (X 1 (5 * w + 2))) (by omega) (by omega)) (hM.rc hX.2.2.2) hM rfl ⟨Nat.le_of_ble_eq_true rfl, Nat.le_of_ble_eq_true rfl⟩ ⟨Nat.le_refl _, Nat.le_refl _⟩ (rest := []) (st1 := []) rfl rfl (Nat.le_of_ble_eq_true rfl) dX2_turnWire_33 hS (fun _ h => h) (fun H locs hM hS _ => ?_)
    refine lv_aload_n hx hb dX2_turnWire_36 rfl (lv_at hl 0 rfl) ?_
    refine lv_iload_n hx hb dX2_turnWire_37 rfl (lv_at hl 1 rfl) ?_
    refine lv_iconst (v := 2) hx hb dX2_turnWire_38 rfl ?_
    refine g_cRV hX hl y_X2_ofWire v_X2_ofWire q2340 (k_X2_ofWire w 2 (by omega) (by omega)) (hM.rc hX.2.2.2) hM rfl ⟨Nat.le_of_ble_eq_true rfl, Nat.le_of_ble_eq_true rfl⟩ ⟨Nat.zero_le _, Nat.zero_le _⟩ (rest := []) (st1 := [.int ((g_up2 X 1 (5 * w + 2) (1 - (X 1 (5 * w + 2)))) 1 (5 * w + 2))]) rfl rfl (Nat.le_of_ble_eq_true rfl) dX2_turnWire_39 ?_
    refine g_topi (y := 1 - X 1 (5 * w + 2)) (by rw [g_up2_own]; simp [upd]) ?_
    exact hret H locs _ _ _ _ _ dX2_turnWire_42 hS (Nat.le_refl _) (Nat.le_refl _) (⟨rfl, hM⟩)
  exact key _ _ hM hS

set_option maxHeartbeats 4000000 in
theorem no_X2_turnWire {G : g_G} {l : Launch} {ad : Nat → Nat} {F : Nat → Int32} {X Y : g_Wd} {U V : Nat → g_Wd} {Z : g_Wd} (t9 : Int32) (w : Int32) (ht9 : ¬ t9 = 0) (hbad : s_may (F 6) (g_b (s_isWN F X w)) 1 = t9) (hWc : ¬ F 6 = 0 → s_ok X) : g_Md G l yX2_turnWire cX2_turnWire 2 (some .int) 2 0 0 [.ref (ad 0), .int w] (g_Mod G ad F X Y U V Z) (g_Qv (some (.int 0)) (g_Mod G ad (upd F 0 t9) X Y U V Z)) (md_A ad) := by
  refine g_Md.ofI (by decide) (fun _ _ _ => rfl) ?_
  intro p e s m args below meth c ls Q hX hM hl hS hret
  have hx := hX.1.1
  have hb := hX.1.2.1
  have hl : lv_has ls 2 [(0, .ref (ad 0)), (1, .int w)] := hl
  have key : ∀ (H : Heap) (locs : List Loc), g_Mod G ad F X Y U V Z H → va_S (md_A ad) s.heap H locs → W p l e (g_rm 2 0 0) s m args below meth c H locs 0 0 Q (F0 m 0 ls []) := by
    intro H locs hM hS
    refine lv_aload_n hx hb dX2_turnWire_0 rfl (lv_at hl 0 rfl) ?_
    refine lv_aload_n hx hb dX2_turnWire_1 rfl (lv_at hl 0 rfl) ?_
    refine g_getM hX hM 6 (by decide) q2169 rfl (v := .int (F 6)) rfl dX2_turnWire_2 ?_
    refine lv_aload_n hx hb dX2_turnWire_5 rfl (lv_at hl 0 rfl) ?_
    refine lv_iload_n hx hb dX2_turnWire_6 rfl (lv_at hl 1 rfl) ?_
    refine g_cRV hX hl y_X2_isWireNumber v_X2_isWireNumber q2733 (k_X2_isWireNumber w hWc) (hM.rc hX.2.2.2) hM rfl ⟨Nat.le_of_ble_eq_true rfl, Nat.le_of_ble_eq_true rfl⟩ ⟨Nat.zero_le _, Nat.zero_le _⟩ (rest := [.int (F 6), .ref (ad 0)]) (st1 := [.int (g_b (s_isWN F X w)), .int (F 6), .ref (ad 0)]) rfl rfl (Nat.le_of_ble_eq_true rfl) dX2_turnWire_7 ?_
    refine g_cMV hX hl y_X2_mayTwo v_X2_mayTwo q2501 (k_X2_mayTwo (F 6) (g_b (s_isWN F X w))) (hM.rc hX.2.2.2) hM rfl ⟨Nat.le_of_ble_eq_true rfl, Nat.le_of_ble_eq_true rfl⟩ ⟨Nat.le_refl _, Nat.le_refl _⟩ (rest := []) (st1 := [.int (g_b (decide (s_may (F 6) (g_b (s_isWN F X w)) 1 = 0)))]) rfl rfl (Nat.le_of_ble_eq_true rfl) dX2_turnWire_10 hS (fun _ h => h) (fun H locs hM hS _ => ?_)
    have hmy : s_may (F 6) (g_b (s_isWN F X w)) 1 = t9 := by first | exact hbad | (rw [← hbad]; simp [g_b, g_b]; done) | (rw [← hbad]; simp only [g_b, g_b]; rfl) | (rw [← hbad]; grind [g_b])
    rw [hmy] at hM ⊢
    refine g_if_neB (tgt := 18) hx hb (b := decide (t9 = 0)) rfl dX2_turnWire_13 (by decide) (fun c_13 => ?_) (fun c_13 => ?_)
    · exact Bool.noConfusion ((decide_eq_false ht9).symm.trans c_13)
    skip
    refine lv_iconst (v := 0) hx hb dX2_turnWire_16 rfl ?_
    exact hret H locs _ _ _ _ _ dX2_turnWire_17 hS (Nat.le_refl _) (Nat.le_refl _) (⟨rfl, hM⟩)
  exact key _ _ hM hS

theorem y_X2_setStorm : g_Y yX2_setStorm cX2_setStorm 5 (some .int) 3 := ⟨q2858, by decide +kernel⟩
theorem v_X2_setStorm : g_YV yX2_setStorm := ⟨q2856, q2857, q140⟩
set_option maxHeartbeats 4000000 in
theorem ok_X2_setStorm {G : g_G} {l : Launch} {ad : Nat → Nat} {F : Nat → Int32} {X Y : g_Wd} {U V : Nat → g_Wd} {Z : g_Wd} (w : Nat) (a : Nat) (b : Nat) (u : Nat) (hF : ¬ F 6 = 0) (hwl : s_wl X) (hwk : s_wk X) (hu : F 7 = nI u) (hu8 : u ≤ 8) (hw : w < s_W X) (ha9 : a ≤ 9) (hb9 : b ≤ 9) : g_Md G l yX2_setStorm cX2_setStorm 5 (some .int) 2 0 0 [.ref (ad 0), .int (nI w), .int (nI a), .int (nI b)] (g_Mod G ad F X Y U V Z) (g_Qv (some (.int (X 1 (5 * w + 0)))) (g_Mod G ad (upd (upd F 0 0) 7 (nI (x_um u))) (x_storms X w (nI a) (nI b)) Y (x_rem U u X) V Z)) (md_A ad) := by
  refine g_Md.ofI (by decide) (fun _ _ _ => rfl) ?_
  intro p e s m args below meth c ls Q hX hM hl hS hret
  have hx := hX.1.1
  have hb := hX.1.2.1
  have hl : lv_has ls 5 [(0, .ref (ad 0)), (1, .int (nI w)), (2, .int (nI a)), (3, .int (nI b))] := hl
  have key : ∀ (H : Heap) (locs : List Loc), g_Mod G ad F X Y U V Z H → va_S (md_A ad) s.heap H locs → W p l e (g_rm 2 0 0) s m args below meth c H locs 0 0 Q (F0 m 0 ls []) := by
    intro H locs hM hS
    have hW := hwl.1
    have hWc : ¬ F 6 = 0 → s_ok X := fun _ => hW
    have hW9 := hW
    obtain ⟨⟨hL0, hL2, hL6⟩, ⟨hM0, hM6⟩, ⟨hG0, hG40⟩, hok⟩ := hW9
    have hw9 : s_W X ≤ 45 := by unfold s_W; omega
    have hwn := s_isWN_ok hF hW hw
    have hta : s_in (nI a) 0 9 = true := s_in_le (show a ≤ 9 by omega) (by decide)
    have htb : s_in (nI b) 0 9 = true := s_in_le (show b ≤ 9 by omega) (by decide)
    refine lv_aload_n hx hb dX2_setStorm_0 rfl (lv_at hl 0 rfl) ?_
    refine lv_aload_n hx hb dX2_setStorm_1 rfl (lv_at hl 0 rfl) ?_
    refine g_getM hX hM 6 (by decide) q2169 rfl (v := .int (F 6)) rfl dX2_setStorm_2 ?_
    refine lv_aload_n hx hb dX2_setStorm_5 rfl (lv_at hl 0 rfl) ?_
    refine lv_iload_n hx hb dX2_setStorm_6 rfl (lv_at hl 1 rfl) ?_
    refine g_cRV hX hl y_X2_isWireNumber v_X2_isWireNumber q2733 (k_X2_isWireNumber (nI w) hWc) (hM.rc hX.2.2.2) hM rfl ⟨Nat.le_of_ble_eq_true rfl, Nat.le_of_ble_eq_true rfl⟩ ⟨Nat.zero_le _, Nat.zero_le _⟩ (rest := [.int (F 6), .ref (ad 0)]) (st1 := [.int (g_b (s_isWN F X (nI w))), .int (F 6), .ref (ad 0)]) rfl rfl (Nat.le_of_ble_eq_true rfl) dX2_setStorm_7 ?_
    refine lv_iload_n hx hb dX2_setStorm_10 rfl (lv_at hl 2 rfl) ?_
    refine g_cRS hX hl y_X2_isTen v_X2_isTen q2529 (k_X2_isTen (nI a)) trivial rfl ⟨Nat.le_of_ble_eq_true rfl, Nat.le_of_ble_eq_true rfl⟩ ⟨Nat.zero_le _, Nat.zero_le _⟩ (rest := [.int (g_b (s_isWN F X (nI w))), .int (F 6), .ref (ad 0)]) (st1 := [.int (g_b (s_in (nI a) 0 9)), .int (g_b (s_isWN F X (nI w))), .int (F 6), .ref (ad 0)]) rfl rfl (Nat.le_of_ble_eq_true rfl) dX2_setStorm_11 ?_
    refine g_if_eqB (tgt := 28) hx hb (b := s_in (nI a) 0 9) rfl dX2_setStorm_14 (by decide) (fun c_14 => ?_) (fun c_14 => ?_)
    · exact Bool.noConfusion (hta.symm.trans c_14)
    skip
    refine lv_iload_n hx hb dX2_setStorm_17 rfl (lv_at hl 3 rfl) ?_
    refine g_cRS hX hl y_X2_isTen v_X2_isTen q2529 (k_X2_isTen (nI b)) trivial rfl ⟨Nat.le_of_ble_eq_true rfl, Nat.le_of_ble_eq_true rfl⟩ ⟨Nat.zero_le _, Nat.zero_le _⟩ (rest := [.int (g_b (s_isWN F X (nI w))), .int (F 6), .ref (ad 0)]) (st1 := [.int (g_b (s_in (nI b) 0 9)), .int (g_b (s_isWN F X (nI w))), .int (F 6), .ref (ad 0)]) rfl rfl (Nat.le_of_ble_eq_true rfl) dX2_setStorm_18 ?_
    refine g_if_eqB (tgt := 28) hx hb (b := s_in (nI b) 0 9) rfl dX2_setStorm_21 (by decide) (fun c_21 => ?_) (fun c_21 => ?_)
    · exact Bool.noConfusion (htb.symm.trans c_21)
    skip
    refine lv_iconst (v := 1) hx hb dX2_setStorm_24 rfl ?_
    refine lv_goto (tgt := 29) hx hb dX2_setStorm_25 (by decide) ?_
    refine g_cMV hX hl y_X2_may v_X2_may q2261 (k_X2_may (F 6) (g_b (s_isWN F X (nI w))) 1) (hM.rc hX.2.2.2) hM rfl ⟨Nat.le_of_ble_eq_true rfl, Nat.le_of_ble_eq_true rfl⟩ ⟨Nat.le_refl _, Nat.le_refl _⟩ (rest := []) (st1 := [.int (g_b (decide (s_may (F 6) (g_b (s_isWN F X (nI w))) 1 = 0)))]) rfl rfl (Nat.le_of_ble_eq_true rfl) dX2_setStorm_29 hS (fun _ h => h) (fun H locs hM hS _ => ?_)
    have hmy : s_may (F 6) (g_b (s_isWN F X (nI w))) 1 = 0 := s_may_ok hF (g_b_ne hwn) (by decide)
    rw [hmy] at hM ⊢
    refine g_if_neB (tgt := 37) hx hb (b := decide ((0 : Int32) = 0)) rfl dX2_setStorm_32 (by decide) (fun c_32 => ?_) (fun c_32 => ?_)
    rotate_left
    · exact Bool.noConfusion ((rfl : decide ((0 : Int32) = 0) = true).symm.trans c_32)
    refine lv_aload_n hx hb dX2_setStorm_37 rfl (lv_at hl 0 rfl) ?_
    refine g_cMV hX hl y_X2_remembers v_X2_remembers q2839 (k_X2_remembers u (by exact hu) hu8) (hM.rc hX.2.2.2) hM rfl ⟨Nat.le_of_ble_eq_true rfl, Nat.le_of_ble_eq_true rfl⟩ ⟨Nat.le_refl _, Nat.le_refl _⟩ (rest := []) (st1 := []) rfl rfl (Nat.le_of_ble_eq_true rfl) dX2_setStorm_38 hS (fun _ h => h) (fun H locs hM hS _ => ?_)
    refine lv_aload_n hx hb dX2_setStorm_41 rfl (lv_at hl 0 rfl) ?_
    refine lv_iload_n hx hb dX2_setStorm_42 rfl (lv_at hl 1 rfl) ?_
    refine lv_iconst (v := 0) hx hb dX2_setStorm_43 rfl ?_
    refine g_cRV hX hl y_X2_ofWire v_X2_ofWire q2340 (k_X2_ofWire w 0 (by omega) (by omega)) (hM.rc hX.2.2.2) hM rfl ⟨Nat.le_of_ble_eq_true rfl, Nat.le_of_ble_eq_true rfl⟩ ⟨Nat.zero_le _, Nat.zero_le _⟩ (rest := []) (st1 := [.int (X 1 (5 * w + 0))]) rfl rfl (Nat.le_of_ble_eq_true rfl) dX2_setStorm_44 ?_
    refine lv_istore (lv' := [(4, .int (X 1 (5 * w + 0))), (0, .ref (ad 0)), (1, .int (nI w)), (2, .int (nI a)), (3, .int (nI b))]) hx hb dX2_setStorm_47 hl (by decide) rfl (fun ls hl => ?_)
    refine lv_aload_n hx hb dX2_setStorm_49 rfl (lv_at hl 1 rfl) ?_
    refine lv_iload_n hx hb dX2_setStorm_50 rfl (lv_at hl 2 rfl) ?_
    refine lv_iload_n hx hb dX2_setStorm_51 rfl (lv_at hl 3 rfl) ?_
    refine lv_iload_n hx hb dX2_setStorm_52 rfl (lv_at hl 4 rfl) ?_
    refine g_cMV hX hl y_X2_storms v_X2_storms q2327 (k_X2_storms w (nI a) (nI b) (by omega)) (hM.rc hX.2.2.2) hM rfl ⟨Nat.le_of_ble_eq_true rfl, Nat.le_of_ble_eq_true rfl⟩ ⟨Nat.le_refl _, Nat.le_refl _⟩ (rest := []) (st1 := []) rfl rfl (Nat.le_of_ble_eq_true rfl) dX2_setStorm_53 hS (fun _ h => h) (fun H locs hM hS _ => ?_)
    refine lv_iload hx hb dX2_setStorm_56 (lv_at hl 0 rfl) ?_
    exact hret H locs _ _ _ _ _ dX2_setStorm_58 hS (Nat.le_refl _) (Nat.le_refl _) (⟨rfl, hM⟩)
  exact key _ _ hM hS

set_option maxHeartbeats 4000000 in
theorem no_X2_setStorm {G : g_G} {l : Launch} {ad : Nat → Nat} {F : Nat → Int32} {X Y : g_Wd} {U V : Nat → g_Wd} {Z : g_Wd} (t9 : Int32) (w : Int32) (a : Int32) (b : Int32) (ht9 : ¬ t9 = 0) (hbad : s_may (F 6) (g_b (s_isWN F X w)) (g_b (s_in a 0 9 && s_in b 0 9)) = t9) (hWc : ¬ F 6 = 0 → s_ok X) : g_Md G l yX2_setStorm cX2_setStorm 5 (some .int) 2 0 0 [.ref (ad 0), .int w, .int a, .int b] (g_Mod G ad F X Y U V Z) (g_Qv (some (.int 0)) (g_Mod G ad (upd F 0 t9) X Y U V Z)) (md_A ad) := by
  refine g_Md.ofI (by decide) (fun _ _ _ => rfl) ?_
  intro p e s m args below meth c ls Q hX hM hl hS hret
  have hx := hX.1.1
  have hb := hX.1.2.1
  have hl : lv_has ls 5 [(0, .ref (ad 0)), (1, .int w), (2, .int a), (3, .int b)] := hl
  have key : ∀ (H : Heap) (locs : List Loc), g_Mod G ad F X Y U V Z H → va_S (md_A ad) s.heap H locs → W p l e (g_rm 2 0 0) s m args below meth c H locs 0 0 Q (F0 m 0 ls []) := by
    intro H locs hM hS
    refine lv_aload_n hx hb dX2_setStorm_0 rfl (lv_at hl 0 rfl) ?_
    refine lv_aload_n hx hb dX2_setStorm_1 rfl (lv_at hl 0 rfl) ?_
    refine g_getM hX hM 6 (by decide) q2169 rfl (v := .int (F 6)) rfl dX2_setStorm_2 ?_
    refine lv_aload_n hx hb dX2_setStorm_5 rfl (lv_at hl 0 rfl) ?_
    refine lv_iload_n hx hb dX2_setStorm_6 rfl (lv_at hl 1 rfl) ?_
    refine g_cRV hX hl y_X2_isWireNumber v_X2_isWireNumber q2733 (k_X2_isWireNumber w hWc) (hM.rc hX.2.2.2) hM rfl ⟨Nat.le_of_ble_eq_true rfl, Nat.le_of_ble_eq_true rfl⟩ ⟨Nat.zero_le _, Nat.zero_le _⟩ (rest := [.int (F 6), .ref (ad 0)]) (st1 := [.int (g_b (s_isWN F X w)), .int (F 6), .ref (ad 0)]) rfl rfl (Nat.le_of_ble_eq_true rfl) dX2_setStorm_7 ?_
    refine lv_iload_n hx hb dX2_setStorm_10 rfl (lv_at hl 2 rfl) ?_
    refine g_cRS hX hl y_X2_isTen v_X2_isTen q2529 (k_X2_isTen a) trivial rfl ⟨Nat.le_of_ble_eq_true rfl, Nat.le_of_ble_eq_true rfl⟩ ⟨Nat.zero_le _, Nat.zero_le _⟩ (rest := [.int (g_b (s_isWN F X w)), .int (F 6), .ref (ad 0)]) (st1 := [.int (g_b (s_in a 0 9)), .int (g_b (s_isWN F X w)), .int (F 6), .ref (ad 0)]) rfl rfl (Nat.le_of_ble_eq_true rfl) dX2_setStorm_11 ?_
    refine g_if_eqB (tgt := 28) hx hb (b := s_in a 0 9) rfl dX2_setStorm_14 (by decide) (fun c_14 => ?_) (fun c_14 => ?_)
    · skip
      refine lv_iconst (v := 0) hx hb dX2_setStorm_28 rfl ?_
      refine g_cMV hX hl y_X2_may v_X2_may q2261 (k_X2_may (F 6) (g_b (s_isWN F X w)) 0) (hM.rc hX.2.2.2) hM rfl ⟨Nat.le_of_ble_eq_true rfl, Nat.le_of_ble_eq_true rfl⟩ ⟨Nat.le_refl _, Nat.le_refl _⟩ (rest := []) (st1 := [.int (g_b (decide (s_may (F 6) (g_b (s_isWN F X w)) 0 = 0)))]) rfl rfl (Nat.le_of_ble_eq_true rfl) dX2_setStorm_29 hS (fun _ h => h) (fun H locs hM hS _ => ?_)
      have hmy : s_may (F 6) (g_b (s_isWN F X w)) 0 = t9 := by first | exact hbad | (rw [← hbad]; simp [g_b, c_14]; done) | (rw [← hbad]; simp only [g_b, c_14]; rfl) | (rw [← hbad]; grind [g_b])
      rw [hmy] at hM ⊢
      refine g_if_neB (tgt := 37) hx hb (b := decide (t9 = 0)) rfl dX2_setStorm_32 (by decide) (fun c_32 => ?_) (fun c_32 => ?_)
      · exact Bool.noConfusion ((decide_eq_false ht9).symm.trans c_32)
      skip
      refine lv_iconst (v := 0) hx hb dX2_setStorm_35 rfl ?_
      exact hret H locs _ _ _ _ _ dX2_setStorm_36 hS (Nat.le_refl _) (Nat.le_refl _) (⟨rfl, hM⟩)
    · skip
      refine lv_iload_n hx hb dX2_setStorm_17 rfl (lv_at hl 3 rfl) ?_
      refine g_cRS hX hl y_X2_isTen v_X2_isTen q2529 (k_X2_isTen b) trivial rfl ⟨Nat.le_of_ble_eq_true rfl, Nat.le_of_ble_eq_true rfl⟩ ⟨Nat.zero_le _, Nat.zero_le _⟩ (rest := [.int (g_b (s_isWN F X w)), .int (F 6), .ref (ad 0)]) (st1 := [.int (g_b (s_in b 0 9)), .int (g_b (s_isWN F X w)), .int (F 6), .ref (ad 0)]) rfl rfl (Nat.le_of_ble_eq_true rfl) dX2_setStorm_18 ?_
      refine g_if_eqB (tgt := 28) hx hb (b := s_in b 0 9) rfl dX2_setStorm_21 (by decide) (fun c_21 => ?_) (fun c_21 => ?_)
      · skip
        refine lv_iconst (v := 0) hx hb dX2_setStorm_28 rfl ?_
        refine g_cMV hX hl y_X2_may v_X2_may q2261 (k_X2_may (F 6) (g_b (s_isWN F X w)) 0) (hM.rc hX.2.2.2) hM rfl ⟨Nat.le_of_ble_eq_true rfl, Nat.le_of_ble_eq_true rfl⟩ ⟨Nat.le_refl _, Nat.le_refl _⟩ (rest := []) (st1 := [.int (g_b (decide (s_may (F 6) (g_b (s_isWN F X w)) 0 = 0)))]) rfl rfl (Nat.le_of_ble_eq_true rfl) dX2_setStorm_29 hS (fun _ h => h) (fun H locs hM hS _ => ?_)
        have hmy : s_may (F 6) (g_b (s_isWN F X w)) 0 = t9 := by first | exact hbad | (rw [← hbad]; simp [g_b, c_14, c_21]; done) | (rw [← hbad]; simp only [g_b, c_14, c_21]; rfl) | (rw [← hbad]; grind [g_b])
        rw [hmy] at hM ⊢
        refine g_if_neB (tgt := 37) hx hb (b := decide (t9 = 0)) rfl dX2_setStorm_32 (by decide) (fun c_32 => ?_) (fun c_32 => ?_)
        · exact Bool.noConfusion ((decide_eq_false ht9).symm.trans c_32)
        skip
        refine lv_iconst (v := 0) hx hb dX2_setStorm_35 rfl ?_
        exact hret H locs _ _ _ _ _ dX2_setStorm_36 hS (Nat.le_refl _) (Nat.le_refl _) (⟨rfl, hM⟩)
      · skip
        refine lv_iconst (v := 1) hx hb dX2_setStorm_24 rfl ?_
        refine lv_goto (tgt := 29) hx hb dX2_setStorm_25 (by decide) ?_
        refine g_cMV hX hl y_X2_may v_X2_may q2261 (k_X2_may (F 6) (g_b (s_isWN F X w)) 1) (hM.rc hX.2.2.2) hM rfl ⟨Nat.le_of_ble_eq_true rfl, Nat.le_of_ble_eq_true rfl⟩ ⟨Nat.le_refl _, Nat.le_refl _⟩ (rest := []) (st1 := [.int (g_b (decide (s_may (F 6) (g_b (s_isWN F X w)) 1 = 0)))]) rfl rfl (Nat.le_of_ble_eq_true rfl) dX2_setStorm_29 hS (fun _ h => h) (fun H locs hM hS _ => ?_)
        have hmy : s_may (F 6) (g_b (s_isWN F X w)) 1 = t9 := by first | exact hbad | (rw [← hbad]; simp [g_b, c_14, c_21]; done) | (rw [← hbad]; simp only [g_b, c_14, c_21]; rfl) | (rw [← hbad]; grind [g_b])
        rw [hmy] at hM ⊢
        refine g_if_neB (tgt := 37) hx hb (b := decide (t9 = 0)) rfl dX2_setStorm_32 (by decide) (fun c_32 => ?_) (fun c_32 => ?_)
        · exact Bool.noConfusion ((decide_eq_false ht9).symm.trans c_32)
        skip
        refine lv_iconst (v := 0) hx hb dX2_setStorm_35 rfl ?_
        exact hret H locs _ _ _ _ _ dX2_setStorm_36 hS (Nat.le_refl _) (Nat.le_refl _) (⟨rfl, hM⟩)
  exact key _ _ hM hS

theorem y_X2_calms : g_Y yX2_calms cX2_calms 2 none 0 := ⟨q2479, by decide +kernel⟩
theorem v_X2_calms : g_YV yX2_calms := ⟨q2478, qs88, q140⟩
set_option maxHeartbeats 4000000 in
theorem k_X2_calms {G : g_G} {l : Launch} {ad : Nat → Nat} {F : Nat → Int32} {X Y : g_Wd} {U V : Nat → g_Wd} {Z : g_Wd}  (hW : s_ok X) : g_Md G l yX2_calms cX2_calms 2 none 1 0 0 [.ref (ad 0)] (g_Mod G ad F X Y U V Z) (g_Qv none (g_Mod G ad F (x_cW X 0 (9 * (s_L X - 1))) Y U V Z)) (md_A ad) := by
  refine g_Md.ofV (by decide) ?_
  intro p e s m args below meth c ls Q hX hM hl hS hret
  have hx := hX.1.1
  have hb := hX.1.2.1
  have hl : lv_has ls 2 [(0, .ref (ad 0))] := hl
  have key : ∀ (H : Heap) (locs : List Loc), g_Mod G ad F X Y U V Z H → va_S (md_A ad) s.heap H locs → W p l e (g_rm 1 0 0) s m args below meth c H locs 0 0 Q (F0 m 0 ls []) := by
    intro H locs hM hS
    have hW9 := hW
    obtain ⟨⟨hL0, hL2, hL6⟩, ⟨hM0, hM6⟩, ⟨hG0, hG40⟩, hok⟩ := hW9
    have hw9 : s_W X ≤ 45 := by unfold s_W; omega
    refine lv_iconst (v := 0) hx hb dX2_calms_0 rfl ?_
    refine lv_istore_n (lv' := [(1, .int 0), (0, .ref (ad 0))]) hx hb dX2_calms_1 rfl hl (by decide) rfl (fun ls hl => ?_)
    have L2 : ∀ (nf : Nat) (H : Heap) (locs : List Loc) (j : Nat) (X1 : g_Wd), (j ≤ 9 * (s_L X - 1)) → (X1 = x_cW X 0 j) → (9 * (s_L X - 1) - j < nf) → (g_Mod G ad F X1 Y U V Z H) → va_S (md_A ad) s.heap H locs → ∀ ls : Array Slot, lv_has ls 2 [(1, .int (nI j)), (0, .ref (ad 0))] → W p l e (g_rm 1 0 0) s m args below meth c H locs 0 0 Q (F0 m 2 ls []) := by
      intro n2
      induction n2 with
      | zero => intro H locs j X1 hj hX1 hn; exact absurd hn (Nat.not_lt_zero _)
      | succ n2 ih2 =>
        intro H locs j X1 hj hX1 hn2 hM hS ls hl
        have hL1 : s_L X1 = s_L X := by rw [hX1, s_L, x_cW_r (by omega)]; rfl
        have hW1 : s_ok X1 := by rw [hX1]; exact s_ok_cW hW
        refine lv_iload_n hx hb dX2_calms_2 rfl (lv_at hl 0 rfl) ?_
        refine lv_bipush (v := 9) hx hb dX2_calms_3 (by decide) ?_
        refine lv_aload_n hx hb dX2_calms_5 rfl (lv_at hl 1 rfl) ?_
        refine g_cRV hX hl y_X2_lastLevel v_X2_lastLevel q2440 (k_X2_lastLevel hW1) (hM.rc hX.2.2.2) hM rfl ⟨Nat.le_of_ble_eq_true rfl, Nat.le_of_ble_eq_true rfl⟩ ⟨Nat.zero_le _, Nat.zero_le _⟩ (rest := [.int 9, .int (nI j)]) (st1 := [.int (nI (s_L X1 - 1)), .int 9, .int (nI j)]) rfl rfl (Nat.le_of_ble_eq_true rfl) dX2_calms_6 ?_
        refine g_topi (y := nI (s_L X - 1)) (by rw [hL1]) ?_
        refine g_imulN hx hb 9 (s_L X - 1) rfl rfl dX2_calms_9 ?_
        refine g_icmp_geN (tgt := 26) hx hb j (9 * (s_L X - 1)) rfl rfl (by omega) (by omega) dX2_calms_10 (by decide) (fun c_10 => ?_) (fun c_10 => ?_)
        · skip
          exact hret H locs _ _ _ _ dX2_calms_26 hS (Nat.le_refl _) (Nat.le_refl _) (by obtain rfl : j = 9 * (s_L X - 1) := (by omega); subst hX1; exact ⟨rfl, hM⟩)
        · skip
          refine lv_aload_n hx hb dX2_calms_13 rfl (lv_at hl 1 rfl) ?_
          refine lv_iload_n hx hb dX2_calms_14 rfl (lv_at hl 0 rfl) ?_
          refine lv_iconst (v := 0) hx hb dX2_calms_15 rfl ?_
          refine lv_iconst (v := 0) hx hb dX2_calms_16 rfl ?_
          refine g_cMV hX hl y_X2_putsWire v_X2_putsWire q2331 (k_X2_putsWire j 0 0 (by omega) (by omega)) (hM.rc hX.2.2.2) hM rfl ⟨Nat.le_of_ble_eq_true rfl, Nat.le_of_ble_eq_true rfl⟩ ⟨Nat.le_refl _, Nat.le_refl _⟩ (rest := []) (st1 := []) rfl rfl (Nat.le_of_ble_eq_true rfl) dX2_calms_17 hS (fun _ h => h) (fun H locs hM hS _ => ?_)
          refine lv_iinc (v := (nI (j + 1))) (lv' := [(1, .int (nI (j + 1))), (0, .ref (ad 0))]) hx hb dX2_calms_20 hl (k := 0) rfl (nI_1 _) (by decide) rfl (fun ls hl => ?_)
          refine lv_goto (tgt := 2) hx hb dX2_calms_23 (by decide) ?_
          exact ih2 H locs (j + 1) (g_up2 X1 1 (5 * j + 0) 0) (by omega) (x_cW_s hX1) (by omega) hM hS ls (lv_sub hl [0, 1] rfl)
    exact L2 (9 * (s_L X - 1) - 0 + 1) H locs 0 X (by omega) (x_cW_0) (Nat.lt_succ_self _) hM hS ls (lv_sub hl [0, 1] rfl)
  exact key _ _ hM hS

theorem y_X2_calm : g_Y yX2_calm cX2_calm 2 (some .int) 0 := ⟨q2862, by decide +kernel⟩
theorem v_X2_calm : g_YV yX2_calm := ⟨q2860, q2861, q140⟩
set_option maxHeartbeats 4000000 in
theorem ok_X2_calm {G : g_G} {l : Launch} {ad : Nat → Nat} {F : Nat → Int32} {X Y : g_Wd} {U V : Nat → g_Wd} {Z : g_Wd} (u : Nat) (hF : ¬ F 6 = 0) (hwl : s_wl X) (hwk : s_wk X) (hu : F 7 = nI u) (hu8 : u ≤ 8) : g_Md G l yX2_calm cX2_calm 2 (some .int) 2 0 0 [.ref (ad 0)] (g_Mod G ad F X Y U V Z) (g_Qv (some (.int (nI (s_wwith X 0)))) (g_Mod G ad (upd (upd F 0 0) 7 (nI (x_um u))) (x_cW X 0 (9 * (s_L X - 1))) Y (x_rem U u X) V Z)) (md_A ad) := by
  refine g_Md.ofI (by decide) (fun _ _ _ => rfl) ?_
  intro p e s m args below meth c ls Q hX hM hl hS hret
  have hx := hX.1.1
  have hb := hX.1.2.1
  have hl : lv_has ls 2 [(0, .ref (ad 0))] := hl
  have key : ∀ (H : Heap) (locs : List Loc), g_Mod G ad F X Y U V Z H → va_S (md_A ad) s.heap H locs → W p l e (g_rm 2 0 0) s m args below meth c H locs 0 0 Q (F0 m 0 ls []) := by
    intro H locs hM hS
    have hW := hwl.1
    have hWc : ¬ F 6 = 0 → s_ok X := fun _ => hW
    have hW9 := hW
    obtain ⟨⟨hL0, hL2, hL6⟩, ⟨hM0, hM6⟩, ⟨hG0, hG40⟩, hok⟩ := hW9
    have hw9 : s_W X ≤ 45 := by unfold s_W; omega
    refine lv_aload_n hx hb dX2_calm_0 rfl (lv_at hl 0 rfl) ?_
    refine g_cMV hX hl y_X2_mayLook v_X2_mayLook q2536 k_X2_mayLook (hM.rc hX.2.2.2) hM rfl ⟨Nat.le_of_ble_eq_true rfl, Nat.le_of_ble_eq_true rfl⟩ ⟨Nat.le_refl _, Nat.le_refl _⟩ (rest := []) (st1 := [.int (g_b (decide (s_may (F 6) 1 1 = 0)))]) rfl rfl (Nat.le_of_ble_eq_true rfl) dX2_calm_1 hS (fun _ h => h) (fun H locs hM hS _ => ?_)
    have hmy : s_may (F 6) 1 1 = 0 := s_may_ok hF (by decide) (by decide)
    rw [hmy] at hM ⊢
    refine g_if_neB (tgt := 9) hx hb (b := decide ((0 : Int32) = 0)) rfl dX2_calm_4 (by decide) (fun c_4 => ?_) (fun c_4 => ?_)
    rotate_left
    · exact Bool.noConfusion ((rfl : decide ((0 : Int32) = 0) = true).symm.trans c_4)
    refine lv_aload_n hx hb dX2_calm_9 rfl (lv_at hl 0 rfl) ?_
    refine g_cMV hX hl y_X2_remembers v_X2_remembers q2839 (k_X2_remembers u (by exact hu) hu8) (hM.rc hX.2.2.2) hM rfl ⟨Nat.le_of_ble_eq_true rfl, Nat.le_of_ble_eq_true rfl⟩ ⟨Nat.le_refl _, Nat.le_refl _⟩ (rest := []) (st1 := []) rfl rfl (Nat.le_of_ble_eq_true rfl) dX2_calm_10 hS (fun _ h => h) (fun H locs hM hS _ => ?_)
    refine lv_aload_n hx hb dX2_calm_13 rfl (lv_at hl 0 rfl) ?_
    refine lv_iconst (v := 0) hx hb dX2_calm_14 rfl ?_
    refine g_cRV hX hl y_X2_wiresWith v_X2_wiresWith q2505 (k_X2_wiresWith 0 hW (by omega)) (hM.rc hX.2.2.2) hM rfl ⟨Nat.le_of_ble_eq_true rfl, Nat.le_of_ble_eq_true rfl⟩ ⟨Nat.zero_le _, Nat.zero_le _⟩ (rest := []) (st1 := [.int (nI (s_wwith X 0))]) rfl rfl (Nat.le_of_ble_eq_true rfl) dX2_calm_15 ?_
    refine lv_istore_n (lv' := [(1, .int (nI (s_wwith X 0))), (0, .ref (ad 0))]) hx hb dX2_calm_18 rfl hl (by decide) rfl (fun ls hl => ?_)
    refine lv_aload_n hx hb dX2_calm_19 rfl (lv_at hl 1 rfl) ?_
    refine g_cMV hX hl y_X2_calms v_X2_calms q2476 (k_X2_calms hW) (hM.rc hX.2.2.2) hM rfl ⟨Nat.le_of_ble_eq_true rfl, Nat.le_of_ble_eq_true rfl⟩ ⟨Nat.le_refl _, Nat.le_refl _⟩ (rest := []) (st1 := []) rfl rfl (Nat.le_of_ble_eq_true rfl) dX2_calm_20 hS (fun _ h => h) (fun H locs hM hS _ => ?_)
    refine lv_iload_n hx hb dX2_calm_23 rfl (lv_at hl 0 rfl) ?_
    exact hret H locs _ _ _ _ _ dX2_calm_24 hS (Nat.le_refl _) (Nat.le_refl _) (⟨rfl, hM⟩)
  exact key _ _ hM hS

set_option maxHeartbeats 4000000 in
theorem no_X2_calm {G : g_G} {l : Launch} {ad : Nat → Nat} {F : Nat → Int32} {X Y : g_Wd} {U V : Nat → g_Wd} {Z : g_Wd} (t9 : Int32) (ht9 : ¬ t9 = 0) (hbad : s_may (F 6) 1 1 = t9) (hWc : ¬ F 6 = 0 → s_ok X) : g_Md G l yX2_calm cX2_calm 2 (some .int) 2 0 0 [.ref (ad 0)] (g_Mod G ad F X Y U V Z) (g_Qv (some (.int 0)) (g_Mod G ad (upd F 0 t9) X Y U V Z)) (md_A ad) := by
  refine g_Md.ofI (by decide) (fun _ _ _ => rfl) ?_
  intro p e s m args below meth c ls Q hX hM hl hS hret
  have hx := hX.1.1
  have hb := hX.1.2.1
  have hl : lv_has ls 2 [(0, .ref (ad 0))] := hl
  have key : ∀ (H : Heap) (locs : List Loc), g_Mod G ad F X Y U V Z H → va_S (md_A ad) s.heap H locs → W p l e (g_rm 2 0 0) s m args below meth c H locs 0 0 Q (F0 m 0 ls []) := by
    intro H locs hM hS
    refine lv_aload_n hx hb dX2_calm_0 rfl (lv_at hl 0 rfl) ?_
    refine g_cMV hX hl y_X2_mayLook v_X2_mayLook q2536 k_X2_mayLook (hM.rc hX.2.2.2) hM rfl ⟨Nat.le_of_ble_eq_true rfl, Nat.le_of_ble_eq_true rfl⟩ ⟨Nat.le_refl _, Nat.le_refl _⟩ (rest := []) (st1 := [.int (g_b (decide (s_may (F 6) 1 1 = 0)))]) rfl rfl (Nat.le_of_ble_eq_true rfl) dX2_calm_1 hS (fun _ h => h) (fun H locs hM hS _ => ?_)
    have hmy : s_may (F 6) 1 1 = t9 := by first | exact hbad | (rw [← hbad]; simp [g_b, g_b]; done) | (rw [← hbad]; simp only [g_b, g_b]; rfl) | (rw [← hbad]; grind [g_b])
    rw [hmy] at hM ⊢
    refine g_if_neB (tgt := 9) hx hb (b := decide (t9 = 0)) rfl dX2_calm_4 (by decide) (fun c_4 => ?_) (fun c_4 => ?_)
    · exact Bool.noConfusion ((decide_eq_false ht9).symm.trans c_4)
    skip
    refine lv_iconst (v := 0) hx hb dX2_calm_7 rfl ?_
    exact hret H locs _ _ _ _ _ dX2_calm_8 hS (Nat.le_refl _) (Nat.le_refl _) (⟨rfl, hM⟩)
  exact key _ _ hM hS

theorem y_X2_mendAll : g_Y yX2_mendAll cX2_mendAll 3 (some .int) 0 := ⟨q2866, by decide +kernel⟩
theorem v_X2_mendAll : g_YV yX2_mendAll := ⟨q2864, q2865, q140⟩
set_option maxHeartbeats 4000000 in
theorem ok_X2_mendAll {G : g_G} {l : Launch} {ad : Nat → Nat} {F : Nat → Int32} {X Y : g_Wd} {U V : Nat → g_Wd} {Z : g_Wd} (u : Nat) (hF : ¬ F 6 = 0) (hwl : s_wl X) (hwk : s_wk X) (hu : F 7 = nI u) (hu8 : u ≤ 8) : g_Md G l yX2_mendAll cX2_mendAll 3 (some .int) 2 0 0 [.ref (ad 0)] (g_Mod G ad F X Y U V Z) (g_Qv (some (.int (nI (s_wwith X 2)))) (g_Mod G ad (upd (upd F 0 0) 7 (nI (x_um u))) (x_cW X 2 (9 * (s_L X - 1))) Y (x_rem U u X) V Z)) (md_A ad) := by
  refine g_Md.ofI (by decide) (fun _ _ _ => rfl) ?_
  intro p e s m args below meth c ls Q hX hM hl hS hret
  have hx := hX.1.1
  have hb := hX.1.2.1
  have hl : lv_has ls 3 [(0, .ref (ad 0))] := hl
  have key : ∀ (H : Heap) (locs : List Loc), g_Mod G ad F X Y U V Z H → va_S (md_A ad) s.heap H locs → W p l e (g_rm 2 0 0) s m args below meth c H locs 0 0 Q (F0 m 0 ls []) := by
    intro H locs hM hS
    have hW := hwl.1
    have hWc : ¬ F 6 = 0 → s_ok X := fun _ => hW
    have hW9 := hW
    obtain ⟨⟨hL0, hL2, hL6⟩, ⟨hM0, hM6⟩, ⟨hG0, hG40⟩, hok⟩ := hW9
    have hw9 : s_W X ≤ 45 := by unfold s_W; omega
    refine lv_aload_n hx hb dX2_mendAll_0 rfl (lv_at hl 0 rfl) ?_
    refine g_cMV hX hl y_X2_mayLook v_X2_mayLook q2536 k_X2_mayLook (hM.rc hX.2.2.2) hM rfl ⟨Nat.le_of_ble_eq_true rfl, Nat.le_of_ble_eq_true rfl⟩ ⟨Nat.le_refl _, Nat.le_refl _⟩ (rest := []) (st1 := [.int (g_b (decide (s_may (F 6) 1 1 = 0)))]) rfl rfl (Nat.le_of_ble_eq_true rfl) dX2_mendAll_1 hS (fun _ h => h) (fun H locs hM hS _ => ?_)
    have hmy : s_may (F 6) 1 1 = 0 := s_may_ok hF (by decide) (by decide)
    rw [hmy] at hM ⊢
    refine g_if_neB (tgt := 9) hx hb (b := decide ((0 : Int32) = 0)) rfl dX2_mendAll_4 (by decide) (fun c_4 => ?_) (fun c_4 => ?_)
    rotate_left
    · exact Bool.noConfusion ((rfl : decide ((0 : Int32) = 0) = true).symm.trans c_4)
    refine lv_aload_n hx hb dX2_mendAll_9 rfl (lv_at hl 0 rfl) ?_
    refine g_cMV hX hl y_X2_remembers v_X2_remembers q2839 (k_X2_remembers u (by exact hu) hu8) (hM.rc hX.2.2.2) hM rfl ⟨Nat.le_of_ble_eq_true rfl, Nat.le_of_ble_eq_true rfl⟩ ⟨Nat.le_refl _, Nat.le_refl _⟩ (rest := []) (st1 := []) rfl rfl (Nat.le_of_ble_eq_true rfl) dX2_mendAll_10 hS (fun _ h => h) (fun H locs hM hS _ => ?_)
    refine lv_aload_n hx hb dX2_mendAll_13 rfl (lv_at hl 0 rfl) ?_
    refine lv_iconst (v := 2) hx hb dX2_mendAll_14 rfl ?_
    refine g_cRV hX hl y_X2_wiresWith v_X2_wiresWith q2505 (k_X2_wiresWith 2 hW (by omega)) (hM.rc hX.2.2.2) hM rfl ⟨Nat.le_of_ble_eq_true rfl, Nat.le_of_ble_eq_true rfl⟩ ⟨Nat.zero_le _, Nat.zero_le _⟩ (rest := []) (st1 := [.int (nI (s_wwith X 2))]) rfl rfl (Nat.le_of_ble_eq_true rfl) dX2_mendAll_15 ?_
    refine lv_istore_n (lv' := [(1, .int (nI (s_wwith X 2))), (0, .ref (ad 0))]) hx hb dX2_mendAll_18 rfl hl (by decide) rfl (fun ls hl => ?_)
    refine lv_iconst (v := 0) hx hb dX2_mendAll_19 rfl ?_
    refine lv_istore_n (lv' := [(2, .int 0), (1, .int (nI (s_wwith X 2))), (0, .ref (ad 0))]) hx hb dX2_mendAll_20 rfl hl (by decide) rfl (fun ls hl => ?_)
    have L21 : ∀ (nf : Nat) (H : Heap) (locs : List Loc) (j : Nat) (X1 : g_Wd), (j ≤ 9 * (s_L X - 1)) → (X1 = x_cW X 2 j) → (9 * (s_L X - 1) - j < nf) → (g_Mod G ad (upd (upd F 0 0) 7 (nI (x_um u))) X1 Y (x_rem U u X) V Z H) → va_S (md_A ad) s.heap H locs → ∀ ls : Array Slot, lv_has ls 3 [(2, .int (nI j)), (1, .int (nI (s_wwith X 2))), (0, .ref (ad 0))] → W p l e (g_rm 2 0 0) s m args below meth c H locs 0 0 Q (F0 m 21 ls []) := by
      intro n21
      induction n21 with
      | zero => intro H locs j X1 hj hX1 hn; exact absurd hn (Nat.not_lt_zero _)
      | succ n21 ih21 =>
        intro H locs j X1 hj hX1 hn21 hM hS ls hl
        have hL1 : s_L X1 = s_L X := by rw [hX1, s_L, x_cW_r (by omega)]; rfl
        have hW1 : s_ok X1 := by rw [hX1]; exact s_ok_cW hW
        refine lv_iload_n hx hb dX2_mendAll_21 rfl (lv_at hl 0 rfl) ?_
        refine lv_bipush (v := 9) hx hb dX2_mendAll_22 (by decide) ?_
        refine lv_aload_n hx hb dX2_mendAll_24 rfl (lv_at hl 2 rfl) ?_
        refine g_cRV hX hl y_X2_lastLevel v_X2_lastLevel q2440 (k_X2_lastLevel hW1) (hM.rc hX.2.2.2) hM rfl ⟨Nat.le_of_ble_eq_true rfl, Nat.le_of_ble_eq_true rfl⟩ ⟨Nat.zero_le _, Nat.zero_le _⟩ (rest := [.int 9, .int (nI j)]) (st1 := [.int (nI (s_L X1 - 1)), .int 9, .int (nI j)]) rfl rfl (Nat.le_of_ble_eq_true rfl) dX2_mendAll_25 ?_
        refine g_topi (y := nI (s_L X - 1)) (by rw [hL1]) ?_
        refine g_imulN hx hb 9 (s_L X - 1) rfl rfl dX2_mendAll_28 ?_
        refine g_icmp_geN (tgt := 45) hx hb j (9 * (s_L X - 1)) rfl rfl (by omega) (by omega) dX2_mendAll_29 (by decide) (fun c_29 => ?_) (fun c_29 => ?_)
        · skip
          refine lv_iload_n hx hb dX2_mendAll_45 rfl (lv_at hl 1 rfl) ?_
          exact hret H locs _ _ _ _ _ dX2_mendAll_46 hS (Nat.le_refl _) (Nat.le_refl _) (by obtain rfl : j = 9 * (s_L X - 1) := (by omega); subst hX1; exact ⟨rfl, hM⟩)
        · skip
          refine lv_aload_n hx hb dX2_mendAll_32 rfl (lv_at hl 2 rfl) ?_
          refine lv_iload_n hx hb dX2_mendAll_33 rfl (lv_at hl 0 rfl) ?_
          refine lv_iconst (v := 2) hx hb dX2_mendAll_34 rfl ?_
          refine lv_iconst (v := 0) hx hb dX2_mendAll_35 rfl ?_
          refine g_cMV hX hl y_X2_putsWire v_X2_putsWire q2331 (k_X2_putsWire j 2 0 (by omega) (by omega)) (hM.rc hX.2.2.2) hM rfl ⟨Nat.le_of_ble_eq_true rfl, Nat.le_of_ble_eq_true rfl⟩ ⟨Nat.le_refl _, Nat.le_refl _⟩ (rest := []) (st1 := []) rfl rfl (Nat.le_of_ble_eq_true rfl) dX2_mendAll_36 hS (fun _ h => h) (fun H locs hM hS _ => ?_)
          refine lv_iinc (v := (nI (j + 1))) (lv' := [(2, .int (nI (j + 1))), (1, .int (nI (s_wwith X 2))), (0, .ref (ad 0))]) hx hb dX2_mendAll_39 hl (k := 0) rfl (nI_1 _) (by decide) rfl (fun ls hl => ?_)
          refine lv_goto (tgt := 21) hx hb dX2_mendAll_42 (by decide) ?_
          exact ih21 H locs (j + 1) (g_up2 X1 1 (5 * j + 2) 0) (by omega) (x_cW_s hX1) (by omega) hM hS ls (lv_sub hl [0, 1, 2] rfl)
    exact L21 (9 * (s_L X - 1) - 0 + 1) H locs 0 X (by omega) (x_cW_0) (Nat.lt_succ_self _) hM hS ls (lv_sub hl [0, 1, 2] rfl)
  exact key _ _ hM hS

set_option maxHeartbeats 4000000 in
theorem no_X2_mendAll {G : g_G} {l : Launch} {ad : Nat → Nat} {F : Nat → Int32} {X Y : g_Wd} {U V : Nat → g_Wd} {Z : g_Wd} (t9 : Int32) (ht9 : ¬ t9 = 0) (hbad : s_may (F 6) 1 1 = t9) (hWc : ¬ F 6 = 0 → s_ok X) : g_Md G l yX2_mendAll cX2_mendAll 3 (some .int) 2 0 0 [.ref (ad 0)] (g_Mod G ad F X Y U V Z) (g_Qv (some (.int 0)) (g_Mod G ad (upd F 0 t9) X Y U V Z)) (md_A ad) := by
  refine g_Md.ofI (by decide) (fun _ _ _ => rfl) ?_
  intro p e s m args below meth c ls Q hX hM hl hS hret
  have hx := hX.1.1
  have hb := hX.1.2.1
  have hl : lv_has ls 3 [(0, .ref (ad 0))] := hl
  have key : ∀ (H : Heap) (locs : List Loc), g_Mod G ad F X Y U V Z H → va_S (md_A ad) s.heap H locs → W p l e (g_rm 2 0 0) s m args below meth c H locs 0 0 Q (F0 m 0 ls []) := by
    intro H locs hM hS
    refine lv_aload_n hx hb dX2_mendAll_0 rfl (lv_at hl 0 rfl) ?_
    refine g_cMV hX hl y_X2_mayLook v_X2_mayLook q2536 k_X2_mayLook (hM.rc hX.2.2.2) hM rfl ⟨Nat.le_of_ble_eq_true rfl, Nat.le_of_ble_eq_true rfl⟩ ⟨Nat.le_refl _, Nat.le_refl _⟩ (rest := []) (st1 := [.int (g_b (decide (s_may (F 6) 1 1 = 0)))]) rfl rfl (Nat.le_of_ble_eq_true rfl) dX2_mendAll_1 hS (fun _ h => h) (fun H locs hM hS _ => ?_)
    have hmy : s_may (F 6) 1 1 = t9 := by first | exact hbad | (rw [← hbad]; simp [g_b, g_b]; done) | (rw [← hbad]; simp only [g_b, g_b]; rfl) | (rw [← hbad]; grind [g_b])
    rw [hmy] at hM ⊢
    refine g_if_neB (tgt := 9) hx hb (b := decide (t9 = 0)) rfl dX2_mendAll_4 (by decide) (fun c_4 => ?_) (fun c_4 => ?_)
    · exact Bool.noConfusion ((decide_eq_false ht9).symm.trans c_4)
    skip
    refine lv_iconst (v := 0) hx hb dX2_mendAll_7 rfl ?_
    exact hret H locs _ _ _ _ _ dX2_mendAll_8 hS (Nat.le_refl _) (Nat.le_refl _) (⟨rfl, hM⟩)
  exact key _ _ hM hS

theorem y_X2_sendsSame : g_Y yX2_sendsSame cX2_sendsSame 5 (some .int) 2 := ⟨q2465, by decide +kernel⟩
theorem v_X2_sendsSame : g_YV yX2_sendsSame := ⟨q2464, qs85, q140⟩
set_option maxHeartbeats 4000000 in
theorem k_X2_sendsSame {G : g_G} {l : Launch} {ad : Nat → Nat} {F : Nat → Int32} {X Y : g_Wd} {U V : Nat → g_Wd} {Z : g_Wd} (d : Int32) (len : Nat) (hwl : s_wl X) (hMl : s_M X < 6) (hl12 : len ≤ 12) : g_Md G l yX2_sendsSame cX2_sendsSame 5 (some .int) 2 0 0 [.ref (ad 0), .int d, .int (nI len)] (g_Mod G ad F X Y U V Z) (g_Qv (some (.int (nI (s_M X)))) (g_Mod G ad F (x_sendS X d len) Y U V Z)) (md_A ad) := by
  refine g_Md.ofI (by decide) (fun _ _ _ => rfl) ?_
  intro p e s m args below meth c ls Q hX hM hl hS hret
  have hx := hX.1.1
  have hb := hX.1.2.1
  have hl : lv_has ls 5 [(0, .ref (ad 0)), (1, .int d), (2, .int (nI len))] := hl
  have key : ∀ (H : Heap) (locs : List Loc), g_Mod G ad F X Y U V Z H → va_S (md_A ad) s.heap H locs → W p l e (g_rm 2 0 0) s m args below meth c H locs 0 0 Q (F0 m 0 ls []) := by
    intro H locs hM hS
    have hM0 : X 0 3 = nI (s_M X) := hwl.1.2.1.1
    have hG9 : s_okG X := hwl.1.2.2.1
    have hbl := x_beg_3 (X := X) (len := nI len) hMl
    refine lv_aload_n hx hb dX2_sendsSame_0 rfl (lv_at hl 0 rfl) ?_
    refine lv_iload_n hx hb dX2_sendsSame_1 rfl (lv_at hl 2 rfl) ?_
    refine g_cMV hX hl y_X2_begins v_X2_begins q2349 (k_X2_begins (nI len) hM0 hMl) (hM.rc hX.2.2.2) hM rfl ⟨Nat.le_of_ble_eq_true rfl, Nat.le_of_ble_eq_true rfl⟩ ⟨Nat.le_refl _, Nat.le_refl _⟩ (rest := []) (st1 := [.int (nI (s_M X))]) rfl rfl (Nat.le_of_ble_eq_true rfl) dX2_sendsSame_2 hS (fun _ h => h) (fun H locs hM hS _ => ?_)
    refine lv_istore_n (lv' := [(3, .int (nI (s_M X))), (0, .ref (ad 0)), (1, .int d), (2, .int (nI len))]) hx hb dX2_sendsSame_5 rfl hl (by decide) rfl (fun ls hl => ?_)
    refine lv_iconst (v := 0) hx hb dX2_sendsSame_6 rfl ?_
    refine lv_istore (lv' := [(4, .int 0), (3, .int (nI (s_M X))), (0, .ref (ad 0)), (1, .int d), (2, .int (nI len))]) hx hb dX2_sendsSame_7 hl (by decide) rfl (fun ls hl => ?_)
    have L9 : ∀ (nf : Nat) (H : Heap) (locs : List Loc) (j : Nat) (X1 : g_Wd), (j ≤ len) → (X1 = x_sameN (x_beg X (nI len)) (s_M X) d j) → (len - j < nf) → (g_Mod G ad F X1 Y U V Z H) → va_S (md_A ad) s.heap H locs → ∀ ls : Array Slot, lv_has ls 5 [(4, .int (nI j)), (3, .int (nI (s_M X))), (0, .ref (ad 0)), (1, .int d), (2, .int (nI len))] → W p l e (g_rm 2 0 0) s m args below meth c H locs 0 0 Q (F0 m 9 ls []) := by
      intro n9
      induction n9 with
      | zero => intro H locs j X1 hj hX1 hn; exact absurd hn (Nat.not_lt_zero _)
      | succ n9 ih9 =>
        intro H locs j X1 hj hX1 hn9 hM hS ls hl
        refine lv_iload hx hb dX2_sendsSame_9 (lv_at hl 0 rfl) ?_
        refine lv_iload_n hx hb dX2_sendsSame_11 rfl (lv_at hl 4 rfl) ?_
        refine g_icmp_geN (tgt := 29) hx hb j len rfl rfl (by omega) (by omega) dX2_sendsSame_12 (by decide) (fun c_12 => ?_) (fun c_12 => ?_)
        · skip
          refine lv_aload_n hx hb dX2_sendsSame_29 rfl (lv_at hl 2 rfl) ?_
          refine lv_iconst (v := 0) hx hb dX2_sendsSame_30 rfl ?_
          refine lv_iload_n hx hb dX2_sendsSame_31 rfl (lv_at hl 1 rfl) ?_
          refine g_cMV hX hl y_X2_logs v_X2_logs q2361 (k_X2_logs 0 (s_M X) (by omega) (s_okG_of (X := X) (by rw [hX1, x_sameN_0 (Or.inr (by omega))]; exact x_beg_04) hG9)) (hM.rc hX.2.2.2) hM rfl ⟨Nat.le_of_ble_eq_true rfl, Nat.le_of_ble_eq_true rfl⟩ ⟨Nat.le_refl _, Nat.le_refl _⟩ (rest := []) (st1 := []) rfl rfl (Nat.le_of_ble_eq_true rfl) dX2_sendsSame_32 hS (fun _ h => h) (fun H locs hM hS _ => ?_)
          refine lv_iload_n hx hb dX2_sendsSame_35 rfl (lv_at hl 1 rfl) ?_
          exact hret H locs _ _ _ _ _ dX2_sendsSame_36 hS (Nat.le_refl _) (Nat.le_refl _) (by obtain rfl : len = j := (by omega); subst hX1; exact ⟨rfl, hM⟩)
        · skip
          refine lv_aload_n hx hb dX2_sendsSame_15 rfl (lv_at hl 2 rfl) ?_
          refine lv_iload_n hx hb dX2_sendsSame_16 rfl (lv_at hl 1 rfl) ?_
          refine lv_iload hx hb dX2_sendsSame_17 (lv_at hl 0 rfl) ?_
          refine lv_iload_n hx hb dX2_sendsSame_19 rfl (lv_at hl 3 rfl) ?_
          refine g_cMV hX hl y_X2_putsDigit v_X2_putsDigit q2357 (k_X2_putsDigit (s_M X) j d (by omega) (by omega)) (hM.rc hX.2.2.2) hM rfl ⟨Nat.le_of_ble_eq_true rfl, Nat.le_of_ble_eq_true rfl⟩ ⟨Nat.le_refl _, Nat.le_refl _⟩ (rest := []) (st1 := []) rfl rfl (Nat.le_of_ble_eq_true rfl) dX2_sendsSame_20 hS (fun _ h => h) (fun H locs hM hS _ => ?_)
          refine lv_iinc (v := (nI (j + 1))) (lv' := [(4, .int (nI (j + 1))), (3, .int (nI (s_M X))), (0, .ref (ad 0)), (1, .int d), (2, .int (nI len))]) hx hb dX2_sendsSame_23 hl (k := 0) rfl (nI_1 _) (by decide) rfl (fun ls hl => ?_)
          refine lv_goto (tgt := 9) hx hb dX2_sendsSame_26 (by decide) ?_
          exact ih9 H locs (j + 1) (x_dig X1 (s_M X) j d) (by omega) (by rw [hX1]; rfl) (by omega) hM hS ls (lv_sub hl [0, 1, 2, 3, 4] rfl)
    exact L9 (len - 0 + 1) H locs 0 (x_beg X (nI len)) (by omega) (rfl) (Nat.lt_succ_self _) hM hS ls (lv_sub hl [0, 1, 2, 3, 4] rfl)
  exact key _ _ hM hS

theorem y_X2_sendSame : g_Y yX2_sendSame cX2_sendSame 3 (some .int) 2 := ⟨q2846, by decide +kernel⟩
theorem v_X2_sendSame : g_YV yX2_sendSame := ⟨q2844, q2845, q140⟩
set_option maxHeartbeats 4000000 in
theorem ok_X2_sendSame {G : g_G} {l : Launch} {ad : Nat → Nat} {F : Nat → Int32} {X Y : g_Wd} {U V : Nat → g_Wd} {Z : g_Wd} (d : Nat) (len : Nat) (u : Nat) (hF : ¬ F 6 = 0) (hwl : s_wl X) (hwk : s_wk X) (hu : F 7 = nI u) (hu8 : u ≤ 8) (hd : d ≤ 9) (hl1 : 1 ≤ len) (hl12 : len ≤ 12) (hMl : s_M X < 6) : g_Md G l yX2_sendSame cX2_sendSame 3 (some .int) 3 0 0 [.ref (ad 0), .int (nI d), .int (nI len)] (g_Mod G ad F X Y U V Z) (g_Qv (some (.int (nI (s_M X)))) (g_Mod G ad (upd (upd F 0 0) 7 (nI (x_um u))) (x_sendS X (nI d) len) Y (x_rem U u X) V Z)) (md_A ad) := by
  refine g_Md.ofI (by decide) (fun _ _ _ => rfl) ?_
  intro p e s m args below meth c ls Q hX hM hl hS hret
  have hx := hX.1.1
  have hb := hX.1.2.1
  have hl : lv_has ls 3 [(0, .ref (ad 0)), (1, .int (nI d)), (2, .int (nI len))] := hl
  have key : ∀ (H : Heap) (locs : List Loc), g_Mod G ad F X Y U V Z H → va_S (md_A ad) s.heap H locs → W p l e (g_rm 3 0 0) s m args below meth c H locs 0 0 Q (F0 m 0 ls []) := by
    intro H locs hM hS
    have hW := hwl.1
    have hWc : ¬ F 6 = 0 → s_ok X := fun _ => hW
    have hW9 := hW
    obtain ⟨⟨hL0, hL2, hL6⟩, ⟨hM0, hM6⟩, ⟨hG0, hG40⟩, hok⟩ := hW9
    have hw9 : s_W X ≤ 45 := by unfold s_W; omega
    have htd : s_in (nI d) 0 9 = true := s_in_le (show d ≤ 9 by omega) (by decide)
    have hin : s_in (nI len) 1 12 = true := s_in_le2 (show 1 ≤ len by omega) (show len ≤ 12 by omega) (by decide)
    refine lv_aload_n hx hb dX2_sendSame_0 rfl (lv_at hl 0 rfl) ?_
    refine lv_aload_n hx hb dX2_sendSame_1 rfl (lv_at hl 0 rfl) ?_
    refine g_getM hX hM 6 (by decide) q2169 rfl (v := .int (F 6)) rfl dX2_sendSame_2 ?_
    refine lv_iload_n hx hb dX2_sendSame_5 rfl (lv_at hl 1 rfl) ?_
    refine g_cRS hX hl y_X2_isTen v_X2_isTen q2529 (k_X2_isTen (nI d)) trivial rfl ⟨Nat.le_of_ble_eq_true rfl, Nat.le_of_ble_eq_true rfl⟩ ⟨Nat.zero_le _, Nat.zero_le _⟩ (rest := [.int (F 6), .ref (ad 0)]) (st1 := [.int (g_b (s_in (nI d) 0 9)), .int (F 6), .ref (ad 0)]) rfl rfl (Nat.le_of_ble_eq_true rfl) dX2_sendSame_6 ?_
    refine g_if_eqB (tgt := 37) hx hb (b := s_in (nI d) 0 9) rfl dX2_sendSame_9 (by decide) (fun c_9 => ?_) (fun c_9 => ?_)
    · exact Bool.noConfusion (htd.symm.trans c_9)
    skip
    refine lv_iload_n hx hb dX2_sendSame_12 rfl (lv_at hl 2 rfl) ?_
    refine lv_iconst (v := 1) hx hb dX2_sendSame_13 rfl ?_
    refine lv_bipush (v := 12) hx hb dX2_sendSame_14 (by decide) ?_
    refine g_cRS hX hl y_X2_in v_X2_in q2258 (k_X2_in (nI len) 1 12) trivial rfl ⟨Nat.le_of_ble_eq_true rfl, Nat.le_of_ble_eq_true rfl⟩ ⟨Nat.zero_le _, Nat.zero_le _⟩ (rest := [.int (F 6), .ref (ad 0)]) (st1 := [.int (g_b (s_in (nI len) 1 12)), .int (F 6), .ref (ad 0)]) rfl rfl (Nat.le_of_ble_eq_true rfl) dX2_sendSame_16 ?_
    refine g_if_eqB (tgt := 37) hx hb (b := s_in (nI len) 1 12) rfl dX2_sendSame_19 (by decide) (fun c_19 => ?_) (fun c_19 => ?_)
    · exact Bool.noConfusion (hin.symm.trans c_19)
    skip
    refine lv_aload_n hx hb dX2_sendSame_22 rfl (lv_at hl 0 rfl) ?_
    refine g_getM hX hM 1 (by decide) q2164 rfl (v := .ref (ad 1)) rfl dX2_sendSame_23 ?_
    refine lv_iconst (v := 3) hx hb dX2_sendSame_26 rfl ?_
    refine g_iald hX hM.a1 3 rfl (by omega) (by decide) (v := (X 0 3)) rfl dX2_sendSame_27 ?_
    refine lv_bipush (v := 6) hx hb dX2_sendSame_28 (by decide) ?_
    refine g_icmp_geN (tgt := 37) hx hb (s_M X) 6 hM0 rfl (by omega) (by omega) dX2_sendSame_30 (by decide) (fun c_30 => ?_) (fun c_30 => ?_)
    · exact absurd c_30 (by omega)
    skip
    refine lv_iconst (v := 1) hx hb dX2_sendSame_33 rfl ?_
    refine lv_goto (tgt := 38) hx hb dX2_sendSame_34 (by decide) ?_
    refine g_cMV hX hl y_X2_mayTwo v_X2_mayTwo q2501 (k_X2_mayTwo (F 6) 1) (hM.rc hX.2.2.2) hM rfl ⟨Nat.le_of_ble_eq_true rfl, Nat.le_of_ble_eq_true rfl⟩ ⟨Nat.le_refl _, Nat.le_refl _⟩ (rest := []) (st1 := [.int (g_b (decide (s_may (F 6) 1 1 = 0)))]) rfl rfl (Nat.le_of_ble_eq_true rfl) dX2_sendSame_38 hS (fun _ h => h) (fun H locs hM hS _ => ?_)
    have hmy : s_may (F 6) 1 1 = 0 := s_may_ok hF (by decide) (by decide)
    rw [hmy] at hM ⊢
    refine g_if_neB (tgt := 46) hx hb (b := decide ((0 : Int32) = 0)) rfl dX2_sendSame_41 (by decide) (fun c_41 => ?_) (fun c_41 => ?_)
    rotate_left
    · exact Bool.noConfusion ((rfl : decide ((0 : Int32) = 0) = true).symm.trans c_41)
    refine lv_aload_n hx hb dX2_sendSame_46 rfl (lv_at hl 0 rfl) ?_
    refine g_cMV hX hl y_X2_remembers v_X2_remembers q2839 (k_X2_remembers u (by exact hu) hu8) (hM.rc hX.2.2.2) hM rfl ⟨Nat.le_of_ble_eq_true rfl, Nat.le_of_ble_eq_true rfl⟩ ⟨Nat.le_refl _, Nat.le_refl _⟩ (rest := []) (st1 := []) rfl rfl (Nat.le_of_ble_eq_true rfl) dX2_sendSame_47 hS (fun _ h => h) (fun H locs hM hS _ => ?_)
    refine lv_aload_n hx hb dX2_sendSame_50 rfl (lv_at hl 0 rfl) ?_
    refine lv_iload_n hx hb dX2_sendSame_51 rfl (lv_at hl 1 rfl) ?_
    refine lv_iload_n hx hb dX2_sendSame_52 rfl (lv_at hl 2 rfl) ?_
    refine g_cMV hX hl y_X2_sendsSame v_X2_sendsSame q2462 (k_X2_sendsSame (nI d) len hwl hMl hl12) (hM.rc hX.2.2.2) hM rfl ⟨Nat.le_of_ble_eq_true rfl, Nat.le_of_ble_eq_true rfl⟩ ⟨Nat.le_refl _, Nat.le_refl _⟩ (rest := []) (st1 := [.int (nI (s_M X))]) rfl rfl (Nat.le_of_ble_eq_true rfl) dX2_sendSame_53 hS (fun _ h => h) (fun H locs hM hS _ => ?_)
    exact hret H locs _ _ _ _ _ dX2_sendSame_56 hS (Nat.le_refl _) (Nat.le_refl _) (⟨rfl, hM⟩)
  exact key _ _ hM hS

set_option maxHeartbeats 4000000 in
theorem no_X2_sendSame {G : g_G} {l : Launch} {ad : Nat → Nat} {F : Nat → Int32} {X Y : g_Wd} {U V : Nat → g_Wd} {Z : g_Wd} (t9 : Int32) (d : Int32) (len : Int32) (ht9 : ¬ t9 = 0) (hbad : s_may (F 6) (g_b (s_in d 0 9 && (s_in len 1 12 && decide (X 0 3 < 6)))) 1 = t9) (hWc : ¬ F 6 = 0 → s_ok X) : g_Md G l yX2_sendSame cX2_sendSame 3 (some .int) 2 0 0 [.ref (ad 0), .int d, .int len] (g_Mod G ad F X Y U V Z) (g_Qv (some (.int 0)) (g_Mod G ad (upd F 0 t9) X Y U V Z)) (md_A ad) := by
  refine g_Md.ofI (by decide) (fun _ _ _ => rfl) ?_
  intro p e s m args below meth c ls Q hX hM hl hS hret
  have hx := hX.1.1
  have hb := hX.1.2.1
  have hl : lv_has ls 3 [(0, .ref (ad 0)), (1, .int d), (2, .int len)] := hl
  have key : ∀ (H : Heap) (locs : List Loc), g_Mod G ad F X Y U V Z H → va_S (md_A ad) s.heap H locs → W p l e (g_rm 2 0 0) s m args below meth c H locs 0 0 Q (F0 m 0 ls []) := by
    intro H locs hM hS
    refine lv_aload_n hx hb dX2_sendSame_0 rfl (lv_at hl 0 rfl) ?_
    refine lv_aload_n hx hb dX2_sendSame_1 rfl (lv_at hl 0 rfl) ?_
    refine g_getM hX hM 6 (by decide) q2169 rfl (v := .int (F 6)) rfl dX2_sendSame_2 ?_
    refine lv_iload_n hx hb dX2_sendSame_5 rfl (lv_at hl 1 rfl) ?_
    refine g_cRS hX hl y_X2_isTen v_X2_isTen q2529 (k_X2_isTen d) trivial rfl ⟨Nat.le_of_ble_eq_true rfl, Nat.le_of_ble_eq_true rfl⟩ ⟨Nat.zero_le _, Nat.zero_le _⟩ (rest := [.int (F 6), .ref (ad 0)]) (st1 := [.int (g_b (s_in d 0 9)), .int (F 6), .ref (ad 0)]) rfl rfl (Nat.le_of_ble_eq_true rfl) dX2_sendSame_6 ?_
    refine g_if_eqB (tgt := 37) hx hb (b := s_in d 0 9) rfl dX2_sendSame_9 (by decide) (fun c_9 => ?_) (fun c_9 => ?_)
    · skip
      refine lv_iconst (v := 0) hx hb dX2_sendSame_37 rfl ?_
      refine g_cMV hX hl y_X2_mayTwo v_X2_mayTwo q2501 (k_X2_mayTwo (F 6) 0) (hM.rc hX.2.2.2) hM rfl ⟨Nat.le_of_ble_eq_true rfl, Nat.le_of_ble_eq_true rfl⟩ ⟨Nat.le_refl _, Nat.le_refl _⟩ (rest := []) (st1 := [.int (g_b (decide (s_may (F 6) 0 1 = 0)))]) rfl rfl (Nat.le_of_ble_eq_true rfl) dX2_sendSame_38 hS (fun _ h => h) (fun H locs hM hS _ => ?_)
      have hmy : s_may (F 6) 0 1 = t9 := by first | exact hbad | (rw [← hbad]; simp [g_b, c_9]; done) | (rw [← hbad]; simp only [g_b, c_9]; rfl) | (rw [← hbad]; grind [g_b])
      rw [hmy] at hM ⊢
      refine g_if_neB (tgt := 46) hx hb (b := decide (t9 = 0)) rfl dX2_sendSame_41 (by decide) (fun c_41 => ?_) (fun c_41 => ?_)
      · exact Bool.noConfusion ((decide_eq_false ht9).symm.trans c_41)
      skip
      refine lv_iconst (v := 0) hx hb dX2_sendSame_44 rfl ?_
      exact hret H locs _ _ _ _ _ dX2_sendSame_45 hS (Nat.le_refl _) (Nat.le_refl _) (⟨rfl, hM⟩)
    · skip
      refine lv_iload_n hx hb dX2_sendSame_12 rfl (lv_at hl 2 rfl) ?_
      refine lv_iconst (v := 1) hx hb dX2_sendSame_13 rfl ?_
      refine lv_bipush (v := 12) hx hb dX2_sendSame_14 (by decide) ?_
      refine g_cRS hX hl y_X2_in v_X2_in q2258 (k_X2_in len 1 12) trivial rfl ⟨Nat.le_of_ble_eq_true rfl, Nat.le_of_ble_eq_true rfl⟩ ⟨Nat.zero_le _, Nat.zero_le _⟩ (rest := [.int (F 6), .ref (ad 0)]) (st1 := [.int (g_b (s_in len 1 12)), .int (F 6), .ref (ad 0)]) rfl rfl (Nat.le_of_ble_eq_true rfl) dX2_sendSame_16 ?_
      refine g_if_eqB (tgt := 37) hx hb (b := s_in len 1 12) rfl dX2_sendSame_19 (by decide) (fun c_19 => ?_) (fun c_19 => ?_)
      · skip
        refine lv_iconst (v := 0) hx hb dX2_sendSame_37 rfl ?_
        refine g_cMV hX hl y_X2_mayTwo v_X2_mayTwo q2501 (k_X2_mayTwo (F 6) 0) (hM.rc hX.2.2.2) hM rfl ⟨Nat.le_of_ble_eq_true rfl, Nat.le_of_ble_eq_true rfl⟩ ⟨Nat.le_refl _, Nat.le_refl _⟩ (rest := []) (st1 := [.int (g_b (decide (s_may (F 6) 0 1 = 0)))]) rfl rfl (Nat.le_of_ble_eq_true rfl) dX2_sendSame_38 hS (fun _ h => h) (fun H locs hM hS _ => ?_)
        have hmy : s_may (F 6) 0 1 = t9 := by first | exact hbad | (rw [← hbad]; simp [g_b, c_9, c_19]; done) | (rw [← hbad]; simp only [g_b, c_9, c_19]; rfl) | (rw [← hbad]; grind [g_b])
        rw [hmy] at hM ⊢
        refine g_if_neB (tgt := 46) hx hb (b := decide (t9 = 0)) rfl dX2_sendSame_41 (by decide) (fun c_41 => ?_) (fun c_41 => ?_)
        · exact Bool.noConfusion ((decide_eq_false ht9).symm.trans c_41)
        skip
        refine lv_iconst (v := 0) hx hb dX2_sendSame_44 rfl ?_
        exact hret H locs _ _ _ _ _ dX2_sendSame_45 hS (Nat.le_refl _) (Nat.le_refl _) (⟨rfl, hM⟩)
      · skip
        refine lv_aload_n hx hb dX2_sendSame_22 rfl (lv_at hl 0 rfl) ?_
        refine g_getM hX hM 1 (by decide) q2164 rfl (v := .ref (ad 1)) rfl dX2_sendSame_23 ?_
        refine lv_iconst (v := 3) hx hb dX2_sendSame_26 rfl ?_
        refine g_iald hX hM.a1 3 rfl (by omega) (by decide) (v := (X 0 3)) rfl dX2_sendSame_27 ?_
        refine lv_bipush (v := 6) hx hb dX2_sendSame_28 (by decide) ?_
        refine lv_icmp_ge (tgt := 37) hx hb dX2_sendSame_30 (by decide) (fun c_30 => ?_) (fun c_30 => ?_)
        · skip
          refine lv_iconst (v := 0) hx hb dX2_sendSame_37 rfl ?_
          refine g_cMV hX hl y_X2_mayTwo v_X2_mayTwo q2501 (k_X2_mayTwo (F 6) 0) (hM.rc hX.2.2.2) hM rfl ⟨Nat.le_of_ble_eq_true rfl, Nat.le_of_ble_eq_true rfl⟩ ⟨Nat.le_refl _, Nat.le_refl _⟩ (rest := []) (st1 := [.int (g_b (decide (s_may (F 6) 0 1 = 0)))]) rfl rfl (Nat.le_of_ble_eq_true rfl) dX2_sendSame_38 hS (fun _ h => h) (fun H locs hM hS _ => ?_)
          have hmy : s_may (F 6) 0 1 = t9 := by first | exact hbad | (rw [← hbad]; simp [g_b, c_9, c_19, c_30]; done) | (rw [← hbad]; simp only [g_b, c_9, c_19, c_30]; rfl) | (rw [← hbad]; grind [g_b])
          rw [hmy] at hM ⊢
          refine g_if_neB (tgt := 46) hx hb (b := decide (t9 = 0)) rfl dX2_sendSame_41 (by decide) (fun c_41 => ?_) (fun c_41 => ?_)
          · exact Bool.noConfusion ((decide_eq_false ht9).symm.trans c_41)
          skip
          refine lv_iconst (v := 0) hx hb dX2_sendSame_44 rfl ?_
          exact hret H locs _ _ _ _ _ dX2_sendSame_45 hS (Nat.le_refl _) (Nat.le_refl _) (⟨rfl, hM⟩)
        · skip
          refine lv_iconst (v := 1) hx hb dX2_sendSame_33 rfl ?_
          refine lv_goto (tgt := 38) hx hb dX2_sendSame_34 (by decide) ?_
          refine g_cMV hX hl y_X2_mayTwo v_X2_mayTwo q2501 (k_X2_mayTwo (F 6) 1) (hM.rc hX.2.2.2) hM rfl ⟨Nat.le_of_ble_eq_true rfl, Nat.le_of_ble_eq_true rfl⟩ ⟨Nat.le_refl _, Nat.le_refl _⟩ (rest := []) (st1 := [.int (g_b (decide (s_may (F 6) 1 1 = 0)))]) rfl rfl (Nat.le_of_ble_eq_true rfl) dX2_sendSame_38 hS (fun _ h => h) (fun H locs hM hS _ => ?_)
          have hmy : s_may (F 6) 1 1 = t9 := by first | exact hbad | (rw [← hbad]; simp [g_b, c_9, c_19, c_30]; done) | (rw [← hbad]; simp only [g_b, c_9, c_19, c_30]; rfl) | (rw [← hbad]; grind [g_b])
          rw [hmy] at hM ⊢
          refine g_if_neB (tgt := 46) hx hb (b := decide (t9 = 0)) rfl dX2_sendSame_41 (by decide) (fun c_41 => ?_) (fun c_41 => ?_)
          · exact Bool.noConfusion ((decide_eq_false ht9).symm.trans c_41)
          skip
          refine lv_iconst (v := 0) hx hb dX2_sendSame_44 rfl ?_
          exact hret H locs _ _ _ _ _ dX2_sendSame_45 hS (Nat.le_refl _) (Nat.le_refl _) (⟨rfl, hM⟩)
  exact key _ _ hM hS

theorem y_X2_send : g_Y yX2_send cX2_send 7 (some .int) 2 := ⟨q2835, by decide +kernel⟩
theorem v_X2_send : g_YV yX2_send := ⟨q2833, q2834, q140⟩
set_option maxHeartbeats 4000000 in
theorem ok_X2_send {G : g_G} {l : Launch} {ad : Nat → Nat} {F : Nat → Int32} {X Y : g_Wd} {U V : Nat → g_Wd} {Z : g_Wd} (dn : Nat) (len : Nat) (u : Nat) (hF : ¬ F 6 = 0) (hwl : s_wl X) (hwk : s_wk X) (hu : F 7 = nI u) (hu8 : u ≤ 8) (hl1 : 1 ≤ len) (hl9 : len ≤ 9) (hdn : dn < 2 ^ 31) (had : s_areD (nI dn) len = true) (hMl : s_M X < 6) : g_Md G l yX2_send cX2_send 7 (some .int) 2 0 0 [.ref (ad 0), .int (nI dn), .int (nI len)] (g_Mod G ad F X Y U V Z) (g_Qv (some (.int (nI (s_M X)))) (g_Mod G ad (upd (upd F 0 0) 7 (nI (x_um u))) (x_sendD X dn len) Y (x_rem U u X) V Z)) (md_A ad) := by
  refine g_Md.ofI (by decide) (fun _ _ _ => rfl) ?_
  intro p e s m args below meth c ls Q hX hM hl hS hret
  have hx := hX.1.1
  have hb := hX.1.2.1
  have hl : lv_has ls 7 [(0, .ref (ad 0)), (1, .int (nI dn)), (2, .int (nI len))] := hl
  have key : ∀ (H : Heap) (locs : List Loc), g_Mod G ad F X Y U V Z H → va_S (md_A ad) s.heap H locs → W p l e (g_rm 2 0 0) s m args below meth c H locs 0 0 Q (F0 m 0 ls []) := by
    intro H locs hM hS
    have hW := hwl.1
    have hWc : ¬ F 6 = 0 → s_ok X := fun _ => hW
    have hW9 := hW
    obtain ⟨⟨hL0, hL2, hL6⟩, ⟨hM0, hM6⟩, ⟨hG0, hG40⟩, hok⟩ := hW9
    have hw9 : s_W X ≤ 45 := by unfold s_W; omega
    have hin : s_in (nI len) 1 9 = true := s_in_le2 (show 1 ≤ len by omega) (show len ≤ 9 by omega) (by decide)
    have hM0 : X 0 3 = nI (s_M X) := hwl.1.2.1.1
    have hG9 : s_okG X := hwl.1.2.2.1
    have hbl := x_beg_3 (X := X) (len := nI len) hMl
    refine lv_iload_n hx hb dX2_send_0 rfl (lv_at hl 2 rfl) ?_
    refine lv_iconst (v := 1) hx hb dX2_send_1 rfl ?_
    refine lv_bipush (v := 9) hx hb dX2_send_2 (by decide) ?_
    refine g_cRS hX hl y_X2_in v_X2_in q2258 (k_X2_in (nI len) 1 9) trivial rfl ⟨Nat.le_of_ble_eq_true rfl, Nat.le_of_ble_eq_true rfl⟩ ⟨Nat.zero_le _, Nat.zero_le _⟩ (rest := []) (st1 := [.int (g_b (s_in (nI len) 1 9))]) rfl rfl (Nat.le_of_ble_eq_true rfl) dX2_send_4 ?_
    refine g_if_eqB (tgt := 22) hx hb (b := s_in (nI len) 1 9) rfl dX2_send_7 (by decide) (fun c_7 => ?_) (fun c_7 => ?_)
    · exact Bool.noConfusion (hin.symm.trans c_7)
    skip
    refine lv_iload_n hx hb dX2_send_10 rfl (lv_at hl 1 rfl) ?_
    refine lv_iload_n hx hb dX2_send_11 rfl (lv_at hl 2 rfl) ?_
    refine g_cRS hX hl y_X2_areDigits v_X2_areDigits q2836 (k_X2_areDigits (nI dn) len (by omega)) trivial rfl ⟨Nat.le_of_ble_eq_true rfl, Nat.le_of_ble_eq_true rfl⟩ ⟨Nat.zero_le _, Nat.zero_le _⟩ (rest := []) (st1 := [.int (g_b (s_areD (nI dn) len))]) rfl rfl (Nat.le_of_ble_eq_true rfl) dX2_send_12 ?_
    refine g_if_eqB (tgt := 22) hx hb (b := s_areD (nI dn) len) rfl dX2_send_15 (by decide) (fun c_15 => ?_) (fun c_15 => ?_)
    · exact Bool.noConfusion (had.symm.trans c_15)
    skip
    refine lv_iconst (v := 1) hx hb dX2_send_18 rfl ?_
    refine lv_goto (tgt := 23) hx hb dX2_send_19 (by decide) ?_
    refine lv_istore_n (lv' := [(3, .int 1), (0, .ref (ad 0)), (1, .int (nI dn)), (2, .int (nI len))]) hx hb dX2_send_23 rfl hl (by decide) rfl (fun ls hl => ?_)
    refine lv_aload_n hx hb dX2_send_24 rfl (lv_at hl 1 rfl) ?_
    refine lv_aload_n hx hb dX2_send_25 rfl (lv_at hl 1 rfl) ?_
    refine g_getM hX hM 6 (by decide) q2169 rfl (v := .int (F 6)) rfl dX2_send_26 ?_
    refine lv_iload_n hx hb dX2_send_29 rfl (lv_at hl 0 rfl) ?_
    refine g_if_eqN (tgt := 48) hx hb 1 rfl (by omega) dX2_send_30 (by decide) (fun c_30 => ?_) (fun c_30 => ?_)
    · exact absurd c_30 (by decide)
    skip
    refine lv_aload_n hx hb dX2_send_33 rfl (lv_at hl 1 rfl) ?_
    refine g_getM hX hM 1 (by decide) q2164 rfl (v := .ref (ad 1)) rfl dX2_send_34 ?_
    refine lv_iconst (v := 3) hx hb dX2_send_37 rfl ?_
    refine g_iald hX hM.a1 3 rfl (by omega) (by decide) (v := (X 0 3)) rfl dX2_send_38 ?_
    refine lv_bipush (v := 6) hx hb dX2_send_39 (by decide) ?_
    refine g_icmp_geN (tgt := 48) hx hb (s_M X) 6 hM0 rfl (by omega) (by omega) dX2_send_41 (by decide) (fun c_41 => ?_) (fun c_41 => ?_)
    · exact absurd c_41 (by omega)
    skip
    refine lv_iconst (v := 1) hx hb dX2_send_44 rfl ?_
    refine lv_goto (tgt := 49) hx hb dX2_send_45 (by decide) ?_
    refine g_cMV hX hl y_X2_mayTwo v_X2_mayTwo q2501 (k_X2_mayTwo (F 6) 1) (hM.rc hX.2.2.2) hM rfl ⟨Nat.le_of_ble_eq_true rfl, Nat.le_of_ble_eq_true rfl⟩ ⟨Nat.le_refl _, Nat.le_refl _⟩ (rest := []) (st1 := [.int (g_b (decide (s_may (F 6) 1 1 = 0)))]) rfl rfl (Nat.le_of_ble_eq_true rfl) dX2_send_49 hS (fun _ h => h) (fun H locs hM hS _ => ?_)
    have hmy : s_may (F 6) 1 1 = 0 := s_may_ok hF (by decide) (by decide)
    rw [hmy] at hM ⊢
    refine g_if_neB (tgt := 57) hx hb (b := decide ((0 : Int32) = 0)) rfl dX2_send_52 (by decide) (fun c_52 => ?_) (fun c_52 => ?_)
    rotate_left
    · exact Bool.noConfusion ((rfl : decide ((0 : Int32) = 0) = true).symm.trans c_52)
    refine lv_aload_n hx hb dX2_send_57 rfl (lv_at hl 1 rfl) ?_
    refine g_cMV hX hl y_X2_remembers v_X2_remembers q2839 (k_X2_remembers u (by exact hu) hu8) (hM.rc hX.2.2.2) hM rfl ⟨Nat.le_of_ble_eq_true rfl, Nat.le_of_ble_eq_true rfl⟩ ⟨Nat.le_refl _, Nat.le_refl _⟩ (rest := []) (st1 := []) rfl rfl (Nat.le_of_ble_eq_true rfl) dX2_send_58 hS (fun _ h => h) (fun H locs hM hS _ => ?_)
    refine lv_aload_n hx hb dX2_send_61 rfl (lv_at hl 1 rfl) ?_
    refine lv_iload_n hx hb dX2_send_62 rfl (lv_at hl 3 rfl) ?_
    refine g_cMV hX hl y_X2_begins v_X2_begins q2349 (k_X2_begins (nI len) hM0 hMl) (hM.rc hX.2.2.2) hM rfl ⟨Nat.le_of_ble_eq_true rfl, Nat.le_of_ble_eq_true rfl⟩ ⟨Nat.le_refl _, Nat.le_refl _⟩ (rest := []) (st1 := [.int (nI (s_M X))]) rfl rfl (Nat.le_of_ble_eq_true rfl) dX2_send_63 hS (fun _ h => h) (fun H locs hM hS _ => ?_)
    refine lv_istore (lv' := [(4, .int (nI (s_M X))), (3, .int 1), (0, .ref (ad 0)), (1, .int (nI dn)), (2, .int (nI len))]) hx hb dX2_send_66 hl (by decide) rfl (fun ls hl => ?_)
    refine lv_iload_n hx hb dX2_send_68 rfl (lv_at hl 3 rfl) ?_
    refine lv_istore (lv' := [(5, .int (nI dn)), (4, .int (nI (s_M X))), (3, .int 1), (0, .ref (ad 0)), (1, .int (nI dn)), (2, .int (nI len))]) hx hb dX2_send_69 hl (by decide) rfl (fun ls hl => ?_)
    refine lv_iload_n hx hb dX2_send_71 rfl (lv_at hl 5 rfl) ?_
    refine lv_iconst (v := 1) hx hb dX2_send_72 rfl ?_
    refine g_isubN hx hb len 1 rfl rfl (by omega) dX2_send_73 ?_
    refine lv_istore (lv' := [(6, .int (nI (len - 1))), (5, .int (nI dn)), (4, .int (nI (s_M X))), (3, .int 1), (0, .ref (ad 0)), (1, .int (nI dn)), (2, .int (nI len))]) hx hb dX2_send_74 hl (by decide) rfl (fun ls hl => ?_)
    have L76 : ∀ (nf : Nat) (H : Heap) (locs : List Loc) (q : Nat) (rest : Nat) (X1 : g_Wd), (q ≤ 9) → (rest < 2 ^ 31) → (x_sdR X1 (s_M X) rest q = x_sdR (x_beg X (nI len)) (s_M X) dn len) → (q < nf) → (g_Mod G ad (upd (upd F 0 0) 7 (nI (x_um u))) X1 Y (x_rem U u X) V Z H) → va_S (md_A ad) s.heap H locs → ∀ ls : Array Slot, lv_has ls 7 [(6, .int (s_dn q)), (5, .int (nI rest)), (4, .int (nI (s_M X))), (0, .ref (ad 0)), (1, .int (nI dn)), (2, .int (nI len))] → W p l e (g_rm 2 0 0) s m args below meth c H locs 0 0 Q (F0 m 76 ls []) := by
      intro n76
      induction n76 with
      | zero => intro H locs q rest X1 hq hr hR hn; exact absurd hn (Nat.not_lt_zero _)
      | succ n76 ih76 =>
        intro H locs q rest X1 hq hr hR hn76 hM hS ls hl
        refine lv_iload hx hb dX2_send_76 (lv_at hl 0 rfl) ?_
        refine lv_if_lt (tgt := 107) hx hb dX2_send_78 (by decide) (fun c_78 => ?_) (fun c_78 => ?_)
        · skip
          obtain rfl : q = 0 := s_dn_ng (by omega) c_78
          refine lv_aload_n hx hb dX2_send_107 rfl (lv_at hl 3 rfl) ?_
          refine lv_iconst (v := 0) hx hb dX2_send_108 rfl ?_
          refine lv_iload hx hb dX2_send_109 (lv_at hl 2 rfl) ?_
          refine g_cMV hX hl y_X2_logs v_X2_logs q2361 (k_X2_logs 0 (s_M X) (by omega) (s_okG_of (X := X) (by rw [show X1 = x_sdR (x_beg X (nI len)) (s_M X) dn len from hR, x_sdR_0 (Or.inr (by omega))]; exact x_beg_04) hG9)) (hM.rc hX.2.2.2) hM rfl ⟨Nat.le_of_ble_eq_true rfl, Nat.le_of_ble_eq_true rfl⟩ ⟨Nat.le_refl _, Nat.le_refl _⟩ (rest := []) (st1 := []) rfl rfl (Nat.le_of_ble_eq_true rfl) dX2_send_111 hS (fun _ h => h) (fun H locs hM hS _ => ?_)
          refine lv_iload hx hb dX2_send_114 (lv_at hl 2 rfl) ?_
          exact hret H locs _ _ _ _ _ dX2_send_116 hS (Nat.le_refl _) (Nat.le_refl _) (by have hR0 : X1 = x_sdR (x_beg X (nI len)) (s_M X) dn len := hR; subst hR0; exact ⟨rfl, hM⟩)
        · skip
          obtain ⟨r, rfl⟩ : ∃ z, q = z + 1 := s_dn_nn c_78
          refine lv_aload_n hx hb dX2_send_81 rfl (lv_at hl 3 rfl) ?_
          refine lv_iload hx hb dX2_send_82 (lv_at hl 2 rfl) ?_
          refine lv_iload hx hb dX2_send_84 (lv_at hl 0 rfl) ?_
          refine lv_iload hx hb dX2_send_86 (lv_at hl 1 rfl) ?_
          refine lv_bipush (v := 10) hx hb dX2_send_88 (by decide) ?_
          refine g_iremN hx hb rest 10 rfl rfl (by omega) (by decide) (by decide) dX2_send_90 ?_
          refine g_cMV hX hl y_X2_putsDigit v_X2_putsDigit q2357 (k_X2_putsDigit (s_M X) r (nI (rest % 10)) (by omega) (by omega)) (hM.rc hX.2.2.2) hM rfl ⟨Nat.le_of_ble_eq_true rfl, Nat.le_of_ble_eq_true rfl⟩ ⟨Nat.le_refl _, Nat.le_refl _⟩ (rest := []) (st1 := []) rfl rfl (Nat.le_of_ble_eq_true rfl) dX2_send_91 hS (fun _ h => h) (fun H locs hM hS _ => ?_)
          refine lv_iload hx hb dX2_send_94 (lv_at hl 1 rfl) ?_
          refine lv_bipush (v := 10) hx hb dX2_send_96 (by decide) ?_
          refine g_idivN hx hb rest 10 rfl rfl (by omega) (by decide) (by decide) dX2_send_98 ?_
          refine lv_istore (lv' := [(5, .int (nI (rest / 10))), (6, .int (nI r)), (4, .int (nI (s_M X))), (0, .ref (ad 0)), (1, .int (nI dn)), (2, .int (nI len))]) hx hb dX2_send_99 hl (by decide) rfl (fun ls hl => ?_)
          refine lv_iinc (v := ((nI r) + (-1))) (lv' := [(6, .int ((nI r) + (-1))), (5, .int (nI (rest / 10))), (4, .int (nI (s_M X))), (0, .ref (ad 0)), (1, .int (nI dn)), (2, .int (nI len))]) hx hb dX2_send_101 hl (k := 1) rfl rfl (by decide) rfl (fun ls hl => ?_)
          refine lv_goto (tgt := 76) hx hb dX2_send_104 (by decide) ?_
          have e_6 : ((nI r) + (-1)) = (s_dn r) := s_dn_s r
          rw [e_6] at hl
          exact ih76 H locs r (rest / 10) (x_dig X1 (s_M X) r (nI (rest % 10))) (by omega) (by omega) (hR) (by omega) hM hS ls (lv_sub hl [0, 1, 2, 3, 4, 5] rfl)
    exact L76 (len + 1) H locs len dn (x_beg X (nI len)) (by omega) (by omega) (rfl) (Nat.lt_succ_self _) hM hS ls (by rw [s_dn_1 hl1]; exact lv_sub hl [0, 1, 2, 4, 5, 6] rfl)
  exact key _ _ hM hS

set_option maxHeartbeats 4000000 in
theorem no_X2_send {G : g_G} {l : Launch} {ad : Nat → Nat} {F : Nat → Int32} {X Y : g_Wd} {U V : Nat → g_Wd} {Z : g_Wd} (t9 : Int32) (d : Int32) (len : Int32) (ht9 : ¬ t9 = 0) (hbad : s_may (F 6) (g_b ((s_in len 1 9 && s_areD d len.toNatClampNeg) && decide (X 0 3 < 6))) 1 = t9) (hWc : ¬ F 6 = 0 → s_ok X) : g_Md G l yX2_send cX2_send 7 (some .int) 2 0 0 [.ref (ad 0), .int d, .int len] (g_Mod G ad F X Y U V Z) (g_Qv (some (.int 0)) (g_Mod G ad (upd F 0 t9) X Y U V Z)) (md_A ad) := by
  refine g_Md.ofI (by decide) (fun _ _ _ => rfl) ?_
  intro p e s m args below meth c ls Q hX hM hl hS hret
  have hx := hX.1.1
  have hb := hX.1.2.1
  have hl : lv_has ls 7 [(0, .ref (ad 0)), (1, .int d), (2, .int len)] := hl
  have key : ∀ (H : Heap) (locs : List Loc), g_Mod G ad F X Y U V Z H → va_S (md_A ad) s.heap H locs → W p l e (g_rm 2 0 0) s m args below meth c H locs 0 0 Q (F0 m 0 ls []) := by
    intro H locs hM hS
    refine lv_iload_n hx hb dX2_send_0 rfl (lv_at hl 2 rfl) ?_
    refine lv_iconst (v := 1) hx hb dX2_send_1 rfl ?_
    refine lv_bipush (v := 9) hx hb dX2_send_2 (by decide) ?_
    refine g_cRS hX hl y_X2_in v_X2_in q2258 (k_X2_in len 1 9) trivial rfl ⟨Nat.le_of_ble_eq_true rfl, Nat.le_of_ble_eq_true rfl⟩ ⟨Nat.zero_le _, Nat.zero_le _⟩ (rest := []) (st1 := [.int (g_b (s_in len 1 9))]) rfl rfl (Nat.le_of_ble_eq_true rfl) dX2_send_4 ?_
    refine g_if_eqB (tgt := 22) hx hb (b := s_in len 1 9) rfl dX2_send_7 (by decide) (fun c_7 => ?_) (fun c_7 => ?_)
    · skip
      refine lv_iconst (v := 0) hx hb dX2_send_22 rfl ?_
      refine lv_istore_n (lv' := [(3, .int 0), (0, .ref (ad 0)), (1, .int d), (2, .int len)]) hx hb dX2_send_23 rfl hl (by decide) rfl (fun ls hl => ?_)
      refine lv_aload_n hx hb dX2_send_24 rfl (lv_at hl 1 rfl) ?_
      refine lv_aload_n hx hb dX2_send_25 rfl (lv_at hl 1 rfl) ?_
      refine g_getM hX hM 6 (by decide) q2169 rfl (v := .int (F 6)) rfl dX2_send_26 ?_
      refine lv_iload_n hx hb dX2_send_29 rfl (lv_at hl 0 rfl) ?_
      refine g_if_eqN (tgt := 48) hx hb 0 rfl (by omega) dX2_send_30 (by decide) (fun c_30 => ?_) (fun c_30 => ?_)
      rotate_left
      · exact absurd c_30 (by decide)
      refine lv_iconst (v := 0) hx hb dX2_send_48 rfl ?_
      refine g_cMV hX hl y_X2_mayTwo v_X2_mayTwo q2501 (k_X2_mayTwo (F 6) 0) (hM.rc hX.2.2.2) hM rfl ⟨Nat.le_of_ble_eq_true rfl, Nat.le_of_ble_eq_true rfl⟩ ⟨Nat.le_refl _, Nat.le_refl _⟩ (rest := []) (st1 := [.int (g_b (decide (s_may (F 6) 0 1 = 0)))]) rfl rfl (Nat.le_of_ble_eq_true rfl) dX2_send_49 hS (fun _ h => h) (fun H locs hM hS _ => ?_)
      have hmy : s_may (F 6) 0 1 = t9 := by first | exact hbad | (rw [← hbad]; simp [g_b, c_7]; done) | (rw [← hbad]; simp only [g_b, c_7]; rfl) | (rw [← hbad]; grind [g_b])
      rw [hmy] at hM ⊢
      refine g_if_neB (tgt := 57) hx hb (b := decide (t9 = 0)) rfl dX2_send_52 (by decide) (fun c_52 => ?_) (fun c_52 => ?_)
      · exact Bool.noConfusion ((decide_eq_false ht9).symm.trans c_52)
      skip
      refine lv_iconst (v := 0) hx hb dX2_send_55 rfl ?_
      exact hret H locs _ _ _ _ _ dX2_send_56 hS (Nat.le_refl _) (Nat.le_refl _) (⟨rfl, hM⟩)
    · skip
      obtain ⟨q9, hq9, rfl⟩ := s_in_19 c_7
      have hcl9 : (nI q9).toNatClampNeg = q9 := nI_clamp (by omega)
      refine lv_iload_n hx hb dX2_send_10 rfl (lv_at hl 1 rfl) ?_
      refine lv_iload_n hx hb dX2_send_11 rfl (lv_at hl 2 rfl) ?_
      refine g_cRS hX hl y_X2_areDigits v_X2_areDigits q2836 (k_X2_areDigits d q9 (by omega)) trivial rfl ⟨Nat.le_of_ble_eq_true rfl, Nat.le_of_ble_eq_true rfl⟩ ⟨Nat.zero_le _, Nat.zero_le _⟩ (rest := []) (st1 := [.int (g_b (s_areD d q9))]) rfl rfl (Nat.le_of_ble_eq_true rfl) dX2_send_12 ?_
      refine g_if_eqB (tgt := 22) hx hb (b := s_areD d q9) rfl dX2_send_15 (by decide) (fun c_15 => ?_) (fun c_15 => ?_)
      · skip
        refine lv_iconst (v := 0) hx hb dX2_send_22 rfl ?_
        refine lv_istore_n (lv' := [(3, .int 0), (0, .ref (ad 0)), (1, .int d), (2, .int (nI q9))]) hx hb dX2_send_23 rfl hl (by decide) rfl (fun ls hl => ?_)
        refine lv_aload_n hx hb dX2_send_24 rfl (lv_at hl 1 rfl) ?_
        refine lv_aload_n hx hb dX2_send_25 rfl (lv_at hl 1 rfl) ?_
        refine g_getM hX hM 6 (by decide) q2169 rfl (v := .int (F 6)) rfl dX2_send_26 ?_
        refine lv_iload_n hx hb dX2_send_29 rfl (lv_at hl 0 rfl) ?_
        refine g_if_eqN (tgt := 48) hx hb 0 rfl (by omega) dX2_send_30 (by decide) (fun c_30 => ?_) (fun c_30 => ?_)
        rotate_left
        · exact absurd c_30 (by decide)
        refine lv_iconst (v := 0) hx hb dX2_send_48 rfl ?_
        refine g_cMV hX hl y_X2_mayTwo v_X2_mayTwo q2501 (k_X2_mayTwo (F 6) 0) (hM.rc hX.2.2.2) hM rfl ⟨Nat.le_of_ble_eq_true rfl, Nat.le_of_ble_eq_true rfl⟩ ⟨Nat.le_refl _, Nat.le_refl _⟩ (rest := []) (st1 := [.int (g_b (decide (s_may (F 6) 0 1 = 0)))]) rfl rfl (Nat.le_of_ble_eq_true rfl) dX2_send_49 hS (fun _ h => h) (fun H locs hM hS _ => ?_)
        have hmy : s_may (F 6) 0 1 = t9 := by first | exact hbad | (rw [← hbad]; simp [g_b, c_7, hcl9, c_15]; done) | (rw [← hbad]; simp only [g_b, c_7, hcl9, c_15]; rfl) | (rw [← hbad]; grind [g_b])
        rw [hmy] at hM ⊢
        refine g_if_neB (tgt := 57) hx hb (b := decide (t9 = 0)) rfl dX2_send_52 (by decide) (fun c_52 => ?_) (fun c_52 => ?_)
        · exact Bool.noConfusion ((decide_eq_false ht9).symm.trans c_52)
        skip
        refine lv_iconst (v := 0) hx hb dX2_send_55 rfl ?_
        exact hret H locs _ _ _ _ _ dX2_send_56 hS (Nat.le_refl _) (Nat.le_refl _) (⟨rfl, hM⟩)
      · skip
        refine lv_iconst (v := 1) hx hb dX2_send_18 rfl ?_
        refine lv_goto (tgt := 23) hx hb dX2_send_19 (by decide) ?_
        refine lv_istore_n (lv' := [(3, .int 1), (0, .ref (ad 0)), (1, .int d), (2, .int (nI q9))]) hx hb dX2_send_23 rfl hl (by decide) rfl (fun ls hl => ?_)
        refine lv_aload_n hx hb dX2_send_24 rfl (lv_at hl 1 rfl) ?_
        refine lv_aload_n hx hb dX2_send_25 rfl (lv_at hl 1 rfl) ?_
        refine g_getM hX hM 6 (by decide) q2169 rfl (v := .int (F 6)) rfl dX2_send_26 ?_
        refine lv_iload_n hx hb dX2_send_29 rfl (lv_at hl 0 rfl) ?_
        refine g_if_eqN (tgt := 48) hx hb 1 rfl (by omega) dX2_send_30 (by decide) (fun c_30 => ?_) (fun c_30 => ?_)
        · exact absurd c_30 (by decide)
        skip
        refine lv_aload_n hx hb dX2_send_33 rfl (lv_at hl 1 rfl) ?_
        refine g_getM hX hM 1 (by decide) q2164 rfl (v := .ref (ad 1)) rfl dX2_send_34 ?_
        refine lv_iconst (v := 3) hx hb dX2_send_37 rfl ?_
        refine g_iald hX hM.a1 3 rfl (by omega) (by decide) (v := (X 0 3)) rfl dX2_send_38 ?_
        refine lv_bipush (v := 6) hx hb dX2_send_39 (by decide) ?_
        refine lv_icmp_ge (tgt := 48) hx hb dX2_send_41 (by decide) (fun c_41 => ?_) (fun c_41 => ?_)
        · skip
          refine lv_iconst (v := 0) hx hb dX2_send_48 rfl ?_
          refine g_cMV hX hl y_X2_mayTwo v_X2_mayTwo q2501 (k_X2_mayTwo (F 6) 0) (hM.rc hX.2.2.2) hM rfl ⟨Nat.le_of_ble_eq_true rfl, Nat.le_of_ble_eq_true rfl⟩ ⟨Nat.le_refl _, Nat.le_refl _⟩ (rest := []) (st1 := [.int (g_b (decide (s_may (F 6) 0 1 = 0)))]) rfl rfl (Nat.le_of_ble_eq_true rfl) dX2_send_49 hS (fun _ h => h) (fun H locs hM hS _ => ?_)
          have hmy : s_may (F 6) 0 1 = t9 := by first | exact hbad | (rw [← hbad]; simp [g_b, c_7, hcl9, c_15, c_41]; done) | (rw [← hbad]; simp only [g_b, c_7, hcl9, c_15, c_41]; rfl) | (rw [← hbad]; grind [g_b])
          rw [hmy] at hM ⊢
          refine g_if_neB (tgt := 57) hx hb (b := decide (t9 = 0)) rfl dX2_send_52 (by decide) (fun c_52 => ?_) (fun c_52 => ?_)
          · exact Bool.noConfusion ((decide_eq_false ht9).symm.trans c_52)
          skip
          refine lv_iconst (v := 0) hx hb dX2_send_55 rfl ?_
          exact hret H locs _ _ _ _ _ dX2_send_56 hS (Nat.le_refl _) (Nat.le_refl _) (⟨rfl, hM⟩)
        · skip
          refine lv_iconst (v := 1) hx hb dX2_send_44 rfl ?_
          refine lv_goto (tgt := 49) hx hb dX2_send_45 (by decide) ?_
          refine g_cMV hX hl y_X2_mayTwo v_X2_mayTwo q2501 (k_X2_mayTwo (F 6) 1) (hM.rc hX.2.2.2) hM rfl ⟨Nat.le_of_ble_eq_true rfl, Nat.le_of_ble_eq_true rfl⟩ ⟨Nat.le_refl _, Nat.le_refl _⟩ (rest := []) (st1 := [.int (g_b (decide (s_may (F 6) 1 1 = 0)))]) rfl rfl (Nat.le_of_ble_eq_true rfl) dX2_send_49 hS (fun _ h => h) (fun H locs hM hS _ => ?_)
          have hmy : s_may (F 6) 1 1 = t9 := by first | exact hbad | (rw [← hbad]; simp [g_b, c_7, hcl9, c_15, c_41]; done) | (rw [← hbad]; simp only [g_b, c_7, hcl9, c_15, c_41]; rfl) | (rw [← hbad]; grind [g_b])
          rw [hmy] at hM ⊢
          refine g_if_neB (tgt := 57) hx hb (b := decide (t9 = 0)) rfl dX2_send_52 (by decide) (fun c_52 => ?_) (fun c_52 => ?_)
          · exact Bool.noConfusion ((decide_eq_false ht9).symm.trans c_52)
          skip
          refine lv_iconst (v := 0) hx hb dX2_send_55 rfl ?_
          exact hret H locs _ _ _ _ _ dX2_send_56 hS (Nat.le_refl _) (Nat.le_refl _) (⟨rfl, hM⟩)
  exact key _ _ hM hS

theorem y_X2_resend : g_Y yX2_resend cX2_resend 4 (some .int) 1 := ⟨q2850, by decide +kernel⟩
theorem v_X2_resend : g_YV yX2_resend := ⟨q2848, q2849, q140⟩
set_option maxHeartbeats 4000000 in
theorem ok_X2_resend {G : g_G} {l : Launch} {ad : Nat → Nat} {F : Nat → Int32} {X Y : g_Wd} {U V : Nat → g_Wd} {Z : g_Wd} (j : Nat) (u : Nat) (hF : ¬ F 6 = 0) (hwl : s_wl X) (hwk : s_wk X) (hu : F 7 = nI u) (hu8 : u ≤ 8) (hj : j < s_M X) (hMl : s_M X < 6) : g_Md G l yX2_resend cX2_resend 4 (some .int) 2 0 0 [.ref (ad 0), .int (nI j)] (g_Mod G ad F X Y U V Z) (g_Qv (some (.int (nI (s_M X)))) (g_Mod G ad (upd (upd F 0 0) 7 (nI (x_um u))) (x_sendM X j) Y (x_rem U u X) V Z)) (md_A ad) := by
  refine g_Md.ofI (by decide) (fun _ _ _ => rfl) ?_
  intro p e s m args below meth c ls Q hX hM hl hS hret
  have hx := hX.1.1
  have hb := hX.1.2.1
  have hl : lv_has ls 4 [(0, .ref (ad 0)), (1, .int (nI j))] := hl
  have key : ∀ (H : Heap) (locs : List Loc), g_Mod G ad F X Y U V Z H → va_S (md_A ad) s.heap H locs → W p l e (g_rm 2 0 0) s m args below meth c H locs 0 0 Q (F0 m 0 ls []) := by
    intro H locs hM hS
    have hW := hwl.1
    have hWc : ¬ F 6 = 0 → s_ok X := fun _ => hW
    have hW9 := hW
    obtain ⟨⟨hL0, hL2, hL6⟩, ⟨hM0, hM6⟩, ⟨hG0, hG40⟩, hok⟩ := hW9
    have hw9 : s_W X ≤ 45 := by unfold s_W; omega
    have hmsg := s_isMsg_ok hF hW hj
    have ho := hok j hj
    have hL := ho.2
    have hj6 : j < 6 := by omega
    have hM0 : X 0 3 = nI (s_M X) := hwl.1.2.1.1
    have hG9 : s_okG X := hwl.1.2.2.1
    refine lv_aload_n hx hb dX2_resend_0 rfl (lv_at hl 0 rfl) ?_
    refine lv_aload_n hx hb dX2_resend_1 rfl (lv_at hl 0 rfl) ?_
    refine g_getM hX hM 6 (by decide) q2169 rfl (v := .int (F 6)) rfl dX2_resend_2 ?_
    refine lv_aload_n hx hb dX2_resend_5 rfl (lv_at hl 0 rfl) ?_
    refine lv_iload_n hx hb dX2_resend_6 rfl (lv_at hl 1 rfl) ?_
    refine g_cRV hX hl y_X2_isMessage v_X2_isMessage q2564 (k_X2_isMessage (nI j)) (hM.rc hX.2.2.2) hM rfl ⟨Nat.le_of_ble_eq_true rfl, Nat.le_of_ble_eq_true rfl⟩ ⟨Nat.zero_le _, Nat.zero_le _⟩ (rest := [.int (F 6), .ref (ad 0)]) (st1 := [.int (g_b (s_isMsg F X (nI j))), .int (F 6), .ref (ad 0)]) rfl rfl (Nat.le_of_ble_eq_true rfl) dX2_resend_7 ?_
    refine lv_aload_n hx hb dX2_resend_10 rfl (lv_at hl 0 rfl) ?_
    refine g_getM hX hM 1 (by decide) q2164 rfl (v := .ref (ad 1)) rfl dX2_resend_11 ?_
    refine lv_iconst (v := 3) hx hb dX2_resend_14 rfl ?_
    refine g_iald hX hM.a1 3 rfl (by omega) (by decide) (v := (X 0 3)) rfl dX2_resend_15 ?_
    refine lv_bipush (v := 6) hx hb dX2_resend_16 (by decide) ?_
    refine g_icmp_geN (tgt := 25) hx hb (s_M X) 6 hM0 rfl (by omega) (by omega) dX2_resend_18 (by decide) (fun c_18 => ?_) (fun c_18 => ?_)
    · exact absurd c_18 (by omega)
    skip
    refine lv_iconst (v := 1) hx hb dX2_resend_21 rfl ?_
    refine lv_goto (tgt := 26) hx hb dX2_resend_22 (by decide) ?_
    refine g_cMV hX hl y_X2_may v_X2_may q2261 (k_X2_may (F 6) (g_b (s_isMsg F X (nI j))) 1) (hM.rc hX.2.2.2) hM rfl ⟨Nat.le_of_ble_eq_true rfl, Nat.le_of_ble_eq_true rfl⟩ ⟨Nat.le_refl _, Nat.le_refl _⟩ (rest := []) (st1 := [.int (g_b (decide (s_may (F 6) (g_b (s_isMsg F X (nI j))) 1 = 0)))]) rfl rfl (Nat.le_of_ble_eq_true rfl) dX2_resend_26 hS (fun _ h => h) (fun H locs hM hS _ => ?_)
    have hmy : s_may (F 6) (g_b (s_isMsg F X (nI j))) 1 = 0 := s_may_ok hF (g_b_ne hmsg) (by decide)
    rw [hmy] at hM ⊢
    refine g_if_neB (tgt := 34) hx hb (b := decide ((0 : Int32) = 0)) rfl dX2_resend_29 (by decide) (fun c_29 => ?_) (fun c_29 => ?_)
    rotate_left
    · exact Bool.noConfusion ((rfl : decide ((0 : Int32) = 0) = true).symm.trans c_29)
    refine lv_aload_n hx hb dX2_resend_34 rfl (lv_at hl 0 rfl) ?_
    refine g_cMV hX hl y_X2_remembers v_X2_remembers q2839 (k_X2_remembers u (by exact hu) hu8) (hM.rc hX.2.2.2) hM rfl ⟨Nat.le_of_ble_eq_true rfl, Nat.le_of_ble_eq_true rfl⟩ ⟨Nat.le_refl _, Nat.le_refl _⟩ (rest := []) (st1 := []) rfl rfl (Nat.le_of_ble_eq_true rfl) dX2_resend_35 hS (fun _ h => h) (fun H locs hM hS _ => ?_)
    refine lv_aload_n hx hb dX2_resend_38 rfl (lv_at hl 0 rfl) ?_
    refine lv_aload_n hx hb dX2_resend_39 rfl (lv_at hl 0 rfl) ?_
    refine lv_iload_n hx hb dX2_resend_40 rfl (lv_at hl 1 rfl) ?_
    refine lv_iconst (v := 0) hx hb dX2_resend_41 rfl ?_
    refine g_cRV hX hl y_X2_of v_X2_of q2365 (k_X2_of j 0 (by omega) (by omega)) (hM.rc hX.2.2.2) hM rfl ⟨Nat.le_of_ble_eq_true rfl, Nat.le_of_ble_eq_true rfl⟩ ⟨Nat.zero_le _, Nat.zero_le _⟩ (rest := [.ref (ad 0)]) (st1 := [.int (X (3 + j) 0), .ref (ad 0)]) rfl rfl (Nat.le_of_ble_eq_true rfl) dX2_resend_42 ?_
    refine g_cMV hX hl y_X2_begins v_X2_begins q2349 (k_X2_begins (X (3 + j) 0) hM0 hMl) (hM.rc hX.2.2.2) hM rfl ⟨Nat.le_of_ble_eq_true rfl, Nat.le_of_ble_eq_true rfl⟩ ⟨Nat.le_refl _, Nat.le_refl _⟩ (rest := []) (st1 := [.int (nI (s_M X))]) rfl rfl (Nat.le_of_ble_eq_true rfl) dX2_resend_45 hS (fun _ h => h) (fun H locs hM hS _ => ?_)
    refine lv_istore_n (lv' := [(2, .int (nI (s_M X))), (0, .ref (ad 0)), (1, .int (nI j))]) hx hb dX2_resend_48 rfl hl (by decide) rfl (fun ls hl => ?_)
    refine lv_iconst (v := 0) hx hb dX2_resend_49 rfl ?_
    refine lv_istore_n (lv' := [(3, .int 0), (2, .int (nI (s_M X))), (0, .ref (ad 0)), (1, .int (nI j))]) hx hb dX2_resend_50 rfl hl (by decide) rfl (fun ls hl => ?_)
    have L51 : ∀ (nf : Nat) (H : Heap) (locs : List Loc) (q : Nat) (X1 : g_Wd), (q ≤ s_len (X (3 + j))) → (X1 = x_fN (x_beg X (X (3 + j) 0)) (s_M X) (fun p => s_dig (X (3 + j)) p) q) → (s_len (X (3 + j)) - q < nf) → (g_Mod G ad (upd (upd F 0 0) 7 (nI (x_um u))) X1 Y (x_rem U u X) V Z H) → va_S (md_A ad) s.heap H locs → ∀ ls : Array Slot, lv_has ls 4 [(3, .int (nI q)), (2, .int (nI (s_M X))), (0, .ref (ad 0)), (1, .int (nI j))] → W p l e (g_rm 2 0 0) s m args below meth c H locs 0 0 Q (F0 m 51 ls []) := by
      intro n51
      induction n51 with
      | zero => intro H locs q X1 hq hX1 hn; exact absurd hn (Nat.not_lt_zero _)
      | succ n51 ih51 =>
        intro H locs q X1 hq hX1 hn51 hM hS ls hl
        have hrow : X1 (3 + j) = X (3 + j) := by rw [hX1]; funext k; rw [x_fN_0 (Or.inl (by omega))]; exact x_beg_0 (by omega) (Or.inl (by omega))
        have hl0 : X1 (3 + j) 0 = nI (s_len (X (3 + j))) := by rw [hrow]; exact ho.1
        refine lv_iload_n hx hb dX2_resend_51 rfl (lv_at hl 0 rfl) ?_
        refine lv_aload_n hx hb dX2_resend_52 rfl (lv_at hl 2 rfl) ?_
        refine lv_iload_n hx hb dX2_resend_53 rfl (lv_at hl 3 rfl) ?_
        refine lv_iconst (v := 0) hx hb dX2_resend_54 rfl ?_
        refine g_cRV hX hl y_X2_of v_X2_of q2365 (k_X2_of j 0 (by omega) (by omega)) (hM.rc hX.2.2.2) hM rfl ⟨Nat.le_of_ble_eq_true rfl, Nat.le_of_ble_eq_true rfl⟩ ⟨Nat.zero_le _, Nat.zero_le _⟩ (rest := [.int (nI q)]) (st1 := [.int (X1 (3 + j) 0), .int (nI q)]) rfl rfl (Nat.le_of_ble_eq_true rfl) dX2_resend_55 ?_
        refine g_icmp_geN (tgt := 79) hx hb q (s_len (X (3 + j))) rfl hl0 (by omega) (by omega) dX2_resend_58 (by decide) (fun c_58 => ?_) (fun c_58 => ?_)
        · skip
          refine lv_aload_n hx hb dX2_resend_79 rfl (lv_at hl 2 rfl) ?_
          refine lv_iconst (v := 0) hx hb dX2_resend_80 rfl ?_
          refine lv_iload_n hx hb dX2_resend_81 rfl (lv_at hl 1 rfl) ?_
          refine g_cMV hX hl y_X2_logs v_X2_logs q2361 (k_X2_logs 0 (s_M X) (by omega) (s_okG_of (X := X) (by rw [hX1, x_fN_0 (Or.inr (by omega))]; exact x_beg_04) hG9)) (hM.rc hX.2.2.2) hM rfl ⟨Nat.le_of_ble_eq_true rfl, Nat.le_of_ble_eq_true rfl⟩ ⟨Nat.le_refl _, Nat.le_refl _⟩ (rest := []) (st1 := []) rfl rfl (Nat.le_of_ble_eq_true rfl) dX2_resend_82 hS (fun _ h => h) (fun H locs hM hS _ => ?_)
          refine lv_iload_n hx hb dX2_resend_85 rfl (lv_at hl 1 rfl) ?_
          exact hret H locs _ _ _ _ _ dX2_resend_86 hS (Nat.le_refl _) (Nat.le_refl _) (by obtain rfl : q = s_len (X (3 + j)) := (by omega); refine ⟨rfl, ?_⟩; unfold x_sendM; rw [← ho.1, ← hX1]; exact hM)
        · skip
          refine lv_aload_n hx hb dX2_resend_61 rfl (lv_at hl 2 rfl) ?_
          refine lv_iload_n hx hb dX2_resend_62 rfl (lv_at hl 1 rfl) ?_
          refine lv_iload_n hx hb dX2_resend_63 rfl (lv_at hl 0 rfl) ?_
          refine lv_aload_n hx hb dX2_resend_64 rfl (lv_at hl 2 rfl) ?_
          refine lv_iload_n hx hb dX2_resend_65 rfl (lv_at hl 3 rfl) ?_
          refine lv_iload_n hx hb dX2_resend_66 rfl (lv_at hl 0 rfl) ?_
          refine g_cRV hX hl y_X2_digitAt v_X2_digitAt q2576 (k_X2_digitAt j q (by omega) (by omega)) (hM.rc hX.2.2.2) hM rfl ⟨Nat.le_of_ble_eq_true rfl, Nat.le_of_ble_eq_true rfl⟩ ⟨Nat.zero_le _, Nat.zero_le _⟩ (rest := [.int (nI q), .int (nI (s_M X)), .ref (ad 0)]) (st1 := [.int (s_dig (X1 (3 + j)) q), .int (nI q), .int (nI (s_M X)), .ref (ad 0)]) rfl rfl (Nat.le_of_ble_eq_true rfl) dX2_resend_67 ?_
          refine g_topi (y := s_dig (X (3 + j)) q) (by rw [hrow]) ?_
          refine g_cMV hX hl y_X2_putsDigit v_X2_putsDigit q2357 (k_X2_putsDigit (s_M X) q (s_dig (X (3 + j)) q) (by omega) (by omega)) (hM.rc hX.2.2.2) hM rfl ⟨Nat.le_of_ble_eq_true rfl, Nat.le_of_ble_eq_true rfl⟩ ⟨Nat.le_refl _, Nat.le_refl _⟩ (rest := []) (st1 := []) rfl rfl (Nat.le_of_ble_eq_true rfl) dX2_resend_70 hS (fun _ h => h) (fun H locs hM hS _ => ?_)
          refine lv_iinc (v := (nI (q + 1))) (lv' := [(3, .int (nI (q + 1))), (2, .int (nI (s_M X))), (0, .ref (ad 0)), (1, .int (nI j))]) hx hb dX2_resend_73 hl (k := 0) rfl (nI_1 _) (by decide) rfl (fun ls hl => ?_)
          refine lv_goto (tgt := 51) hx hb dX2_resend_76 (by decide) ?_
          exact ih51 H locs (q + 1) (x_dig X1 (s_M X) q (s_dig (X (3 + j)) q)) (by omega) (by rw [hX1]; rfl) (by omega) hM hS ls (lv_sub hl [0, 1, 2, 3] rfl)
    exact L51 (s_len (X (3 + j)) - 0 + 1) H locs 0 (x_beg X (X (3 + j) 0)) (by omega) (rfl) (Nat.lt_succ_self _) hM hS ls (lv_sub hl [0, 1, 2, 3] rfl)
  exact key _ _ hM hS

set_option maxHeartbeats 4000000 in
theorem no_X2_resend {G : g_G} {l : Launch} {ad : Nat → Nat} {F : Nat → Int32} {X Y : g_Wd} {U V : Nat → g_Wd} {Z : g_Wd} (t9 : Int32) (v : Int32) (ht9 : ¬ t9 = 0) (hbad : s_may (F 6) (g_b (s_isMsg F X v)) (g_b (decide (X 0 3 < 6))) = t9) (hWc : ¬ F 6 = 0 → s_ok X) : g_Md G l yX2_resend cX2_resend 4 (some .int) 2 0 0 [.ref (ad 0), .int v] (g_Mod G ad F X Y U V Z) (g_Qv (some (.int 0)) (g_Mod G ad (upd F 0 t9) X Y U V Z)) (md_A ad) := by
  refine g_Md.ofI (by decide) (fun _ _ _ => rfl) ?_
  intro p e s m args below meth c ls Q hX hM hl hS hret
  have hx := hX.1.1
  have hb := hX.1.2.1
  have hl : lv_has ls 4 [(0, .ref (ad 0)), (1, .int v)] := hl
  have key : ∀ (H : Heap) (locs : List Loc), g_Mod G ad F X Y U V Z H → va_S (md_A ad) s.heap H locs → W p l e (g_rm 2 0 0) s m args below meth c H locs 0 0 Q (F0 m 0 ls []) := by
    intro H locs hM hS
    refine lv_aload_n hx hb dX2_resend_0 rfl (lv_at hl 0 rfl) ?_
    refine lv_aload_n hx hb dX2_resend_1 rfl (lv_at hl 0 rfl) ?_
    refine g_getM hX hM 6 (by decide) q2169 rfl (v := .int (F 6)) rfl dX2_resend_2 ?_
    refine lv_aload_n hx hb dX2_resend_5 rfl (lv_at hl 0 rfl) ?_
    refine lv_iload_n hx hb dX2_resend_6 rfl (lv_at hl 1 rfl) ?_
    refine g_cRV hX hl y_X2_isMessage v_X2_isMessage q2564 (k_X2_isMessage v) (hM.rc hX.2.2.2) hM rfl ⟨Nat.le_of_ble_eq_true rfl, Nat.le_of_ble_eq_true rfl⟩ ⟨Nat.zero_le _, Nat.zero_le _⟩ (rest := [.int (F 6), .ref (ad 0)]) (st1 := [.int (g_b (s_isMsg F X v)), .int (F 6), .ref (ad 0)]) rfl rfl (Nat.le_of_ble_eq_true rfl) dX2_resend_7 ?_
    refine lv_aload_n hx hb dX2_resend_10 rfl (lv_at hl 0 rfl) ?_
    refine g_getM hX hM 1 (by decide) q2164 rfl (v := .ref (ad 1)) rfl dX2_resend_11 ?_
    refine lv_iconst (v := 3) hx hb dX2_resend_14 rfl ?_
    refine g_iald hX hM.a1 3 rfl (by omega) (by decide) (v := (X 0 3)) rfl dX2_resend_15 ?_
    refine lv_bipush (v := 6) hx hb dX2_resend_16 (by decide) ?_
    refine lv_icmp_ge (tgt := 25) hx hb dX2_resend_18 (by decide) (fun c_18 => ?_) (fun c_18 => ?_)
    · skip
      refine lv_iconst (v := 0) hx hb dX2_resend_25 rfl ?_
      refine g_cMV hX hl y_X2_may v_X2_may q2261 (k_X2_may (F 6) (g_b (s_isMsg F X v)) 0) (hM.rc hX.2.2.2) hM rfl ⟨Nat.le_of_ble_eq_true rfl, Nat.le_of_ble_eq_true rfl⟩ ⟨Nat.le_refl _, Nat.le_refl _⟩ (rest := []) (st1 := [.int (g_b (decide (s_may (F 6) (g_b (s_isMsg F X v)) 0 = 0)))]) rfl rfl (Nat.le_of_ble_eq_true rfl) dX2_resend_26 hS (fun _ h => h) (fun H locs hM hS _ => ?_)
      have hmy : s_may (F 6) (g_b (s_isMsg F X v)) 0 = t9 := by first | exact hbad | (rw [← hbad]; simp [g_b, c_18]; done) | (rw [← hbad]; simp only [g_b, c_18]; rfl) | (rw [← hbad]; grind [g_b])
      rw [hmy] at hM ⊢
      refine g_if_neB (tgt := 34) hx hb (b := decide (t9 = 0)) rfl dX2_resend_29 (by decide) (fun c_29 => ?_) (fun c_29 => ?_)
      · exact Bool.noConfusion ((decide_eq_false ht9).symm.trans c_29)
      skip
      refine lv_iconst (v := 0) hx hb dX2_resend_32 rfl ?_
      exact hret H locs _ _ _ _ _ dX2_resend_33 hS (Nat.le_refl _) (Nat.le_refl _) (⟨rfl, hM⟩)
    · skip
      refine lv_iconst (v := 1) hx hb dX2_resend_21 rfl ?_
      refine lv_goto (tgt := 26) hx hb dX2_resend_22 (by decide) ?_
      refine g_cMV hX hl y_X2_may v_X2_may q2261 (k_X2_may (F 6) (g_b (s_isMsg F X v)) 1) (hM.rc hX.2.2.2) hM rfl ⟨Nat.le_of_ble_eq_true rfl, Nat.le_of_ble_eq_true rfl⟩ ⟨Nat.le_refl _, Nat.le_refl _⟩ (rest := []) (st1 := [.int (g_b (decide (s_may (F 6) (g_b (s_isMsg F X v)) 1 = 0)))]) rfl rfl (Nat.le_of_ble_eq_true rfl) dX2_resend_26 hS (fun _ h => h) (fun H locs hM hS _ => ?_)
      have hmy : s_may (F 6) (g_b (s_isMsg F X v)) 1 = t9 := by first | exact hbad | (rw [← hbad]; simp [g_b, c_18]; done) | (rw [← hbad]; simp only [g_b, c_18]; rfl) | (rw [← hbad]; grind [g_b])
      rw [hmy] at hM ⊢
      refine g_if_neB (tgt := 34) hx hb (b := decide (t9 = 0)) rfl dX2_resend_29 (by decide) (fun c_29 => ?_) (fun c_29 => ?_)
      · exact Bool.noConfusion ((decide_eq_false ht9).symm.trans c_29)
      skip
      refine lv_iconst (v := 0) hx hb dX2_resend_32 rfl ?_
      exact hret H locs _ _ _ _ _ dX2_resend_33 hS (Nat.le_refl _) (Nat.le_refl _) (⟨rfl, hM⟩)
  exact key _ _ hM hS

theorem y_X2_turnLevel : g_Y yX2_turnLevel cX2_turnLevel 5 (some .int) 1 := ⟨q2870, by decide +kernel⟩
theorem v_X2_turnLevel : g_YV yX2_turnLevel := ⟨q2868, q2869, q140⟩
set_option maxHeartbeats 4000000 in
theorem ok_X2_turnLevel {G : g_G} {l : Launch} {ad : Nat → Nat} {F : Nat → Int32} {X Y : g_Wd} {U V : Nat → g_Wd} {Z : g_Wd} (k : Nat) (u : Nat) (hF : ¬ F 6 = 0) (hwl : s_wl X) (hwk : s_wk X) (hu : F 7 = nI u) (hu8 : u ≤ 8) (hk : k < s_L X - 1) : g_Md G l yX2_turnLevel cX2_turnLevel 5 (some .int) 3 0 0 [.ref (ad 0), .int (nI k)] (g_Mod G ad F X Y U V Z) (g_Qv (some (.int (nI (s_turn X k)))) (fun H9 => ∃ Z1 : g_Wd, z_q Z Z1 ∧ g_Mod G ad (upd (upd F 0 0) 7 (nI (x_um u))) (x_turn X k) Y (x_rem U u X) V Z1 H9)) (md_A ad) := by
  refine g_Md.ofI (by decide) (fun _ _ _ => rfl) ?_
  intro p e s m args below meth c ls Q hX hM hl hS hret
  have hx := hX.1.1
  have hb := hX.1.2.1
  have hl : lv_has ls 5 [(0, .ref (ad 0)), (1, .int (nI k))] := hl
  have key : ∀ (H : Heap) (locs : List Loc), g_Mod G ad F X Y U V Z H → va_S (md_A ad) s.heap H locs → W p l e (g_rm 3 0 0) s m args below meth c H locs 0 0 Q (F0 m 0 ls []) := by
    intro H locs hM hS
    have hW := hwl.1
    have hWc : ¬ F 6 = 0 → s_ok X := fun _ => hW
    have hW9 := hW
    obtain ⟨⟨hL0, hL2, hL6⟩, ⟨hM0, hM6⟩, ⟨hG0, hG40⟩, hok⟩ := hW9
    have hw9 : s_W X ≤ 45 := by unfold s_W; omega
    have hwi := s_isWire_ok hF hW hk (show 0 < 3 by decide) (show 0 < 3 by decide)
    refine lv_aload_n hx hb dX2_turnLevel_0 rfl (lv_at hl 0 rfl) ?_
    refine lv_aload_n hx hb dX2_turnLevel_1 rfl (lv_at hl 0 rfl) ?_
    refine g_getM hX hM 6 (by decide) q2169 rfl (v := .int (F 6)) rfl dX2_turnLevel_2 ?_
    refine lv_aload_n hx hb dX2_turnLevel_5 rfl (lv_at hl 0 rfl) ?_
    refine lv_iload_n hx hb dX2_turnLevel_6 rfl (lv_at hl 1 rfl) ?_
    refine lv_iconst (v := 0) hx hb dX2_turnLevel_7 rfl ?_
    refine lv_iconst (v := 0) hx hb dX2_turnLevel_8 rfl ?_
    refine g_cRV hX hl y_X2_isWire v_X2_isWire q2513 (k_X2_isWire (nI k) 0 0) (hM.rc hX.2.2.2) hM rfl ⟨Nat.le_of_ble_eq_true rfl, Nat.le_of_ble_eq_true rfl⟩ ⟨Nat.zero_le _, Nat.zero_le _⟩ (rest := [.int (F 6), .ref (ad 0)]) (st1 := [.int (g_b (s_isWire F X (nI k) 0 0)), .int (F 6), .ref (ad 0)]) rfl rfl (Nat.le_of_ble_eq_true rfl) dX2_turnLevel_9 ?_
    refine g_cMV hX hl y_X2_mayTwo v_X2_mayTwo q2501 (k_X2_mayTwo (F 6) (g_b (s_isWire F X (nI k) 0 0))) (hM.rc hX.2.2.2) hM rfl ⟨Nat.le_of_ble_eq_true rfl, Nat.le_of_ble_eq_true rfl⟩ ⟨Nat.le_refl _, Nat.le_refl _⟩ (rest := []) (st1 := [.int (g_b (decide (s_may (F 6) (g_b (s_isWire F X (nI k) 0 0)) 1 = 0)))]) rfl rfl (Nat.le_of_ble_eq_true rfl) dX2_turnLevel_12 hS (fun _ h => h) (fun H locs hM hS _ => ?_)
    have hmy : s_may (F 6) (g_b (s_isWire F X (nI k) 0 0)) 1 = 0 := s_may_ok hF (g_b_ne hwi) (by decide)
    rw [hmy] at hM ⊢
    refine g_if_neB (tgt := 20) hx hb (b := decide ((0 : Int32) = 0)) rfl dX2_turnLevel_15 (by decide) (fun c_15 => ?_) (fun c_15 => ?_)
    rotate_left
    · exact Bool.noConfusion ((rfl : decide ((0 : Int32) = 0) = true).symm.trans c_15)
    refine lv_aload_n hx hb dX2_turnLevel_20 rfl (lv_at hl 0 rfl) ?_
    refine g_cMV hX hl y_X2_remembers v_X2_remembers q2839 (k_X2_remembers u (by exact hu) hu8) (hM.rc hX.2.2.2) hM rfl ⟨Nat.le_of_ble_eq_true rfl, Nat.le_of_ble_eq_true rfl⟩ ⟨Nat.le_refl _, Nat.le_refl _⟩ (rest := []) (st1 := []) rfl rfl (Nat.le_of_ble_eq_true rfl) dX2_turnLevel_21 hS (fun _ h => h) (fun H locs hM hS _ => ?_)
    refine lv_iconst (v := 0) hx hb dX2_turnLevel_24 rfl ?_
    refine lv_istore_n (lv' := [(2, .int 0), (0, .ref (ad 0)), (1, .int (nI k))]) hx hb dX2_turnLevel_25 rfl hl (by decide) rfl (fun ls hl => ?_)
    have L26 : ∀ (nf : Nat) (H : Heap) (locs : List Loc) (q : Nat) (Z1 : g_Wd), (q ≤ 9) → (z_q Z Z1) → (∀ i, i < q → Z1 20 i = s_lvS X k i) → (∀ i, i < q → Z1 21 i = s_lvP X k i) → (9 - q < nf) → (g_Mod G ad (upd (upd F 0 0) 7 (nI (x_um u))) X Y (x_rem U u X) V Z1 H) → va_S (md_A ad) s.heap H locs → ∀ ls : Array Slot, lv_has ls 5 [(2, .int (nI q)), (0, .ref (ad 0)), (1, .int (nI k))] → W p l e (g_rm 3 0 0) s m args below meth c H locs 0 0 Q (F0 m 26 ls []) := by
      intro n26
      induction n26 with
      | zero => intro H locs q Z1 hq hz0 hz1 hz2 hn; exact absurd hn (Nat.not_lt_zero _)
      | succ n26 ih26 =>
        intro H locs q Z1 hq hz0 hz1 hz2 hn26 hM hS ls hl
        refine lv_iload_n hx hb dX2_turnLevel_26 rfl (lv_at hl 0 rfl) ?_
        refine lv_bipush (v := 9) hx hb dX2_turnLevel_27 (by decide) ?_
        refine g_icmp_geN (tgt := 72) hx hb q 9 rfl rfl (by omega) (by omega) dX2_turnLevel_29 (by decide) (fun c_29 => ?_) (fun c_29 => ?_)
        · skip
          have hz1 : ∀ i, i < 9 → Z1 20 i = s_lvS X k i := fun i hi => hz1 i (by omega)
          have hz2 : ∀ i, i < 9 → Z1 21 i = s_lvP X k i := fun i hi => hz2 i (by omega)
          refine lv_iconst (v := 0) hx hb dX2_turnLevel_72 rfl ?_
          refine lv_istore_n (lv' := [(2, .int 0), (0, .ref (ad 0)), (1, .int (nI k))]) hx hb dX2_turnLevel_73 rfl hl (by decide) rfl (fun ls hl => ?_)
          refine lv_iconst (v := 0) hx hb dX2_turnLevel_74 rfl ?_
          refine lv_istore_n (lv' := [(3, .int 0), (2, .int 0), (0, .ref (ad 0)), (1, .int (nI k))]) hx hb dX2_turnLevel_75 rfl hl (by decide) rfl (fun ls hl => ?_)
          have L76 : ∀ (nf : Nat) (H : Heap) (locs : List Loc) (q : Nat) (X1 : g_Wd), (q ≤ 9) → (X1 = x_tuN X k (s_lvS X k) (s_lvP X k) q) → (9 - q < nf) → (g_Mod G ad (upd (upd F 0 0) 7 (nI (x_um u))) X1 Y (x_rem U u X) V Z1 H) → va_S (md_A ad) s.heap H locs → ∀ ls : Array Slot, lv_has ls 5 [(3, .int (nI q)), (2, .int (nI (s_cnt (fun w => !decide (s_lvS X k ((w + 6) % 9) = s_lvS X k w)) q))), (0, .ref (ad 0)), (1, .int (nI k))] → W p l e (g_rm 3 0 0) s m args below meth c H locs 0 0 Q (F0 m 76 ls []) := by
            intro n76
            induction n76 with
            | zero => intro H locs q X1 hq hX1 hn; exact absurd hn (Nat.not_lt_zero _)
            | succ n76 ih76 =>
              intro H locs q X1 hq hX1 hn76 hM hS ls hl
              refine lv_iload_n hx hb dX2_turnLevel_76 rfl (lv_at hl 0 rfl) ?_
              refine lv_bipush (v := 9) hx hb dX2_turnLevel_77 (by decide) ?_
              refine g_icmp_geN (tgt := 148) hx hb q 9 rfl rfl (by omega) (by omega) dX2_turnLevel_79 (by decide) (fun c_79 => ?_) (fun c_79 => ?_)
              · skip
                refine lv_iload_n hx hb dX2_turnLevel_148 rfl (lv_at hl 1 rfl) ?_
                exact hret H locs _ _ _ _ _ dX2_turnLevel_149 hS (Nat.le_refl _) (Nat.le_refl _) (by obtain rfl : q = 9 := (by omega); subst hX1; exact ⟨rfl, _, hz0, hM⟩)
              · skip
                refine lv_iload_n hx hb dX2_turnLevel_82 rfl (lv_at hl 0 rfl) ?_
                refine lv_bipush (v := 6) hx hb dX2_turnLevel_83 (by decide) ?_
                refine g_iaddN hx hb q 6 rfl rfl dX2_turnLevel_85 ?_
                refine lv_bipush (v := 9) hx hb dX2_turnLevel_86 (by decide) ?_
                refine g_iremN hx hb (q + 6) 9 rfl rfl (by omega) (by decide) (by decide) dX2_turnLevel_88 ?_
                refine lv_istore (lv' := [(4, .int (nI ((q + 6) % 9))), (3, .int (nI q)), (2, .int (nI (s_cnt (fun w => !decide (s_lvS X k ((w + 6) % 9) = s_lvS X k w)) q))), (0, .ref (ad 0)), (1, .int (nI k))]) hx hb dX2_turnLevel_89 hl (by decide) rfl (fun ls hl => ?_)
                refine lv_iload_n hx hb dX2_turnLevel_91 rfl (lv_at hl 2 rfl) ?_
                refine lv_aload_n hx hb dX2_turnLevel_92 rfl (lv_at hl 3 rfl) ?_
                refine g_getM hX hM 20 (by decide) q2183 rfl (v := .ref (ad 20)) rfl dX2_turnLevel_93 ?_
                refine lv_iload hx hb dX2_turnLevel_96 (lv_at hl 0 rfl) ?_
                refine g_iald hX hM.a20 ((q + 6) % 9) rfl (by omega) (by decide) (v := (Z1 20 ((q + 6) % 9))) rfl dX2_turnLevel_98 ?_
                refine g_topi (y := s_lvS X k ((q + 6) % 9)) (hz1 _ (by omega)) ?_
                refine lv_aload_n hx hb dX2_turnLevel_99 rfl (lv_at hl 3 rfl) ?_
                refine g_getM hX hM 20 (by decide) q2183 rfl (v := .ref (ad 20)) rfl dX2_turnLevel_100 ?_
                refine lv_iload_n hx hb dX2_turnLevel_103 rfl (lv_at hl 1 rfl) ?_
                refine g_iald hX hM.a20 q rfl (by omega) (by decide) (v := (Z1 20 q)) rfl dX2_turnLevel_104 ?_
                refine g_topi (y := s_lvS X k q) (hz1 _ (by omega)) ?_
                refine lv_icmp_eq (tgt := 112) hx hb dX2_turnLevel_105 (by decide) (fun c_105 => ?_) (fun c_105 => ?_)
                · skip
                  refine lv_iconst (v := 0) hx hb dX2_turnLevel_112 rfl ?_
                  refine g_cRS hX hl y_X2_one v_X2_one q2386 (k_X2_one false) trivial rfl ⟨Nat.le_of_ble_eq_true rfl, Nat.le_of_ble_eq_true rfl⟩ ⟨Nat.zero_le _, Nat.zero_le _⟩ (rest := [.int (nI (s_cnt (fun w => !decide (s_lvS X k ((w + 6) % 9) = s_lvS X k w)) q))]) (st1 := [.int (nI (s_n false)), .int (nI (s_cnt (fun w => !decide (s_lvS X k ((w + 6) % 9) = s_lvS X k w)) q))]) rfl rfl (Nat.le_of_ble_eq_true rfl) dX2_turnLevel_113 ?_
                  refine g_iaddN hx hb (s_cnt (fun w => !decide (s_lvS X k ((w + 6) % 9) = s_lvS X k w)) q) (s_n false) rfl rfl dX2_turnLevel_116 ?_
                  refine lv_istore_n (lv' := [(2, .int (nI (s_cnt (fun w => !decide (s_lvS X k ((w + 6) % 9) = s_lvS X k w)) q + s_n false))), (4, .int (nI ((q + 6) % 9))), (3, .int (nI q)), (0, .ref (ad 0)), (1, .int (nI k))]) hx hb dX2_turnLevel_117 rfl hl (by decide) rfl (fun ls hl => ?_)
                  refine lv_aload_n hx hb dX2_turnLevel_118 rfl (lv_at hl 3 rfl) ?_
                  refine lv_bipush (v := 9) hx hb dX2_turnLevel_119 (by decide) ?_
                  refine lv_iload_n hx hb dX2_turnLevel_121 rfl (lv_at hl 4 rfl) ?_
                  refine g_imulN hx hb 9 k rfl rfl dX2_turnLevel_122 ?_
                  refine lv_iload_n hx hb dX2_turnLevel_123 rfl (lv_at hl 2 rfl) ?_
                  refine g_iaddN hx hb (9 * k) q rfl rfl dX2_turnLevel_124 ?_
                  refine lv_aload_n hx hb dX2_turnLevel_125 rfl (lv_at hl 3 rfl) ?_
                  refine g_getM hX hM 20 (by decide) q2183 rfl (v := .ref (ad 20)) rfl dX2_turnLevel_126 ?_
                  refine lv_iload hx hb dX2_turnLevel_129 (lv_at hl 1 rfl) ?_
                  refine g_iald hX hM.a20 ((q + 6) % 9) rfl (by omega) (by decide) (v := (Z1 20 ((q + 6) % 9))) rfl dX2_turnLevel_131 ?_
                  refine g_topi (y := s_lvS X k ((q + 6) % 9)) (hz1 _ (by omega)) ?_
                  refine lv_aload_n hx hb dX2_turnLevel_132 rfl (lv_at hl 3 rfl) ?_
                  refine g_getM hX hM 21 (by decide) q2184 rfl (v := .ref (ad 21)) rfl dX2_turnLevel_133 ?_
                  refine lv_iload hx hb dX2_turnLevel_136 (lv_at hl 1 rfl) ?_
                  refine g_iald hX hM.a21 ((q + 6) % 9) rfl (by omega) (by decide) (v := (Z1 21 ((q + 6) % 9))) rfl dX2_turnLevel_138 ?_
                  refine g_topi (y := s_lvP X k ((q + 6) % 9)) (hz2 _ (by omega)) ?_
                  refine g_cMV hX hl y_X2_storms v_X2_storms q2327 (k_X2_storms (9 * k + q) (s_lvS X k ((q + 6) % 9)) (s_lvP X k ((q + 6) % 9)) (by omega)) (hM.rc hX.2.2.2) hM rfl ⟨Nat.le_of_ble_eq_true rfl, Nat.le_of_ble_eq_true rfl⟩ ⟨Nat.le_refl _, Nat.le_refl _⟩ (rest := []) (st1 := []) rfl rfl (Nat.le_of_ble_eq_true rfl) dX2_turnLevel_139 hS (fun _ h => h) (fun H locs hM hS _ => ?_)
                  refine lv_iinc (v := (nI (q + 1))) (lv' := [(3, .int (nI (q + 1))), (2, .int (nI (s_cnt (fun w => !decide (s_lvS X k ((w + 6) % 9) = s_lvS X k w)) q + s_n false))), (4, .int (nI ((q + 6) % 9))), (0, .ref (ad 0)), (1, .int (nI k))]) hx hb dX2_turnLevel_142 hl (k := 2) rfl (nI_1 _) (by decide) rfl (fun ls hl => ?_)
                  refine lv_goto (tgt := 76) hx hb dX2_turnLevel_145 (by decide) ?_
                  have e_2 : (nI (s_cnt (fun w => !decide (s_lvS X k ((w + 6) % 9) = s_lvS X k w)) q + s_n false)) = (nI (s_cnt (fun w => !decide (s_lvS X k ((w + 6) % 9) = s_lvS X k w)) (q + 1))) := by first | (simp [s_cnt, s_n, c_79, c_105]; done) | grind [s_cnt, s_n]
                  rw [e_2] at hl
                  exact ih76 H locs (q + 1) (x_storms X1 (9 * k + q) (s_lvS X k ((q + 6) % 9)) (s_lvP X k ((q + 6) % 9))) (by omega) (by rw [hX1]; rfl) (by omega) hM hS ls (lv_sub hl [0, 1, 3, 4] rfl)
                · skip
                  refine lv_iconst (v := 1) hx hb dX2_turnLevel_108 rfl ?_
                  refine lv_goto (tgt := 113) hx hb dX2_turnLevel_109 (by decide) ?_
                  refine g_cRS hX hl y_X2_one v_X2_one q2386 (k_X2_one true) trivial rfl ⟨Nat.le_of_ble_eq_true rfl, Nat.le_of_ble_eq_true rfl⟩ ⟨Nat.zero_le _, Nat.zero_le _⟩ (rest := [.int (nI (s_cnt (fun w => !decide (s_lvS X k ((w + 6) % 9) = s_lvS X k w)) q))]) (st1 := [.int (nI (s_n true)), .int (nI (s_cnt (fun w => !decide (s_lvS X k ((w + 6) % 9) = s_lvS X k w)) q))]) rfl rfl (Nat.le_of_ble_eq_true rfl) dX2_turnLevel_113 ?_
                  refine g_iaddN hx hb (s_cnt (fun w => !decide (s_lvS X k ((w + 6) % 9) = s_lvS X k w)) q) (s_n true) rfl rfl dX2_turnLevel_116 ?_
                  refine lv_istore_n (lv' := [(2, .int (nI (s_cnt (fun w => !decide (s_lvS X k ((w + 6) % 9) = s_lvS X k w)) q + s_n true))), (4, .int (nI ((q + 6) % 9))), (3, .int (nI q)), (0, .ref (ad 0)), (1, .int (nI k))]) hx hb dX2_turnLevel_117 rfl hl (by decide) rfl (fun ls hl => ?_)
                  refine lv_aload_n hx hb dX2_turnLevel_118 rfl (lv_at hl 3 rfl) ?_
                  refine lv_bipush (v := 9) hx hb dX2_turnLevel_119 (by decide) ?_
                  refine lv_iload_n hx hb dX2_turnLevel_121 rfl (lv_at hl 4 rfl) ?_
                  refine g_imulN hx hb 9 k rfl rfl dX2_turnLevel_122 ?_
                  refine lv_iload_n hx hb dX2_turnLevel_123 rfl (lv_at hl 2 rfl) ?_
                  refine g_iaddN hx hb (9 * k) q rfl rfl dX2_turnLevel_124 ?_
                  refine lv_aload_n hx hb dX2_turnLevel_125 rfl (lv_at hl 3 rfl) ?_
                  refine g_getM hX hM 20 (by decide) q2183 rfl (v := .ref (ad 20)) rfl dX2_turnLevel_126 ?_
                  refine lv_iload hx hb dX2_turnLevel_129 (lv_at hl 1 rfl) ?_
                  refine g_iald hX hM.a20 ((q + 6) % 9) rfl (by omega) (by decide) (v := (Z1 20 ((q + 6) % 9))) rfl dX2_turnLevel_131 ?_
                  refine g_topi (y := s_lvS X k ((q + 6) % 9)) (hz1 _ (by omega)) ?_
                  refine lv_aload_n hx hb dX2_turnLevel_132 rfl (lv_at hl 3 rfl) ?_
                  refine g_getM hX hM 21 (by decide) q2184 rfl (v := .ref (ad 21)) rfl dX2_turnLevel_133 ?_
                  refine lv_iload hx hb dX2_turnLevel_136 (lv_at hl 1 rfl) ?_
                  refine g_iald hX hM.a21 ((q + 6) % 9) rfl (by omega) (by decide) (v := (Z1 21 ((q + 6) % 9))) rfl dX2_turnLevel_138 ?_
                  refine g_topi (y := s_lvP X k ((q + 6) % 9)) (hz2 _ (by omega)) ?_
                  refine g_cMV hX hl y_X2_storms v_X2_storms q2327 (k_X2_storms (9 * k + q) (s_lvS X k ((q + 6) % 9)) (s_lvP X k ((q + 6) % 9)) (by omega)) (hM.rc hX.2.2.2) hM rfl ⟨Nat.le_of_ble_eq_true rfl, Nat.le_of_ble_eq_true rfl⟩ ⟨Nat.le_refl _, Nat.le_refl _⟩ (rest := []) (st1 := []) rfl rfl (Nat.le_of_ble_eq_true rfl) dX2_turnLevel_139 hS (fun _ h => h) (fun H locs hM hS _ => ?_)
                  refine lv_iinc (v := (nI (q + 1))) (lv' := [(3, .int (nI (q + 1))), (2, .int (nI (s_cnt (fun w => !decide (s_lvS X k ((w + 6) % 9) = s_lvS X k w)) q + s_n true))), (4, .int (nI ((q + 6) % 9))), (0, .ref (ad 0)), (1, .int (nI k))]) hx hb dX2_turnLevel_142 hl (k := 2) rfl (nI_1 _) (by decide) rfl (fun ls hl => ?_)
                  refine lv_goto (tgt := 76) hx hb dX2_turnLevel_145 (by decide) ?_
                  have e_2 : (nI (s_cnt (fun w => !decide (s_lvS X k ((w + 6) % 9) = s_lvS X k w)) q + s_n true)) = (nI (s_cnt (fun w => !decide (s_lvS X k ((w + 6) % 9) = s_lvS X k w)) (q + 1))) := by first | (simp [s_cnt, s_n, c_79, c_105]; done) | grind [s_cnt, s_n]
                  rw [e_2] at hl
                  exact ih76 H locs (q + 1) (x_storms X1 (9 * k + q) (s_lvS X k ((q + 6) % 9)) (s_lvP X k ((q + 6) % 9))) (by omega) (by rw [hX1]; rfl) (by omega) hM hS ls (lv_sub hl [0, 1, 3, 4] rfl)
          exact L76 (9 - 0 + 1) H locs 0 X (by omega) (rfl) (Nat.lt_succ_self _) hM hS ls (lv_sub hl [0, 1, 2, 3] rfl)
        · skip
          refine lv_aload_n hx hb dX2_turnLevel_32 rfl (lv_at hl 1 rfl) ?_
          refine g_getM hX hM 20 (by decide) q2183 rfl (v := .ref (ad 20)) rfl dX2_turnLevel_33 ?_
          refine lv_iload_n hx hb dX2_turnLevel_36 rfl (lv_at hl 0 rfl) ?_
          refine lv_aload_n hx hb dX2_turnLevel_37 rfl (lv_at hl 1 rfl) ?_
          refine lv_bipush (v := 9) hx hb dX2_turnLevel_38 (by decide) ?_
          refine lv_iload_n hx hb dX2_turnLevel_40 rfl (lv_at hl 2 rfl) ?_
          refine g_imulN hx hb 9 k rfl rfl dX2_turnLevel_41 ?_
          refine lv_iload_n hx hb dX2_turnLevel_42 rfl (lv_at hl 0 rfl) ?_
          refine g_iaddN hx hb (9 * k) q rfl rfl dX2_turnLevel_43 ?_
          refine lv_iconst (v := 0) hx hb dX2_turnLevel_44 rfl ?_
          refine g_cRV hX hl y_X2_ofWire v_X2_ofWire q2340 (k_X2_ofWire (9 * k + q) 0 (by omega) (by omega)) (hM.rc hX.2.2.2) hM rfl ⟨Nat.le_of_ble_eq_true rfl, Nat.le_of_ble_eq_true rfl⟩ ⟨Nat.zero_le _, Nat.zero_le _⟩ (rest := [.int (nI q), .ref (ad 20)]) (st1 := [.int (X 1 (5 * (9 * k + q) + 0)), .int (nI q), .ref (ad 20)]) rfl rfl (Nat.le_of_ble_eq_true rfl) dX2_turnLevel_45 ?_
          refine g_stZ20 hX hM hS q rfl (by omega) dX2_turnLevel_48 (fun H locs hM hS => ?_)
          refine lv_aload_n hx hb dX2_turnLevel_49 rfl (lv_at hl 1 rfl) ?_
          refine g_getM hX hM 21 (by decide) q2184 rfl (v := .ref (ad 21)) rfl dX2_turnLevel_50 ?_
          refine lv_iload_n hx hb dX2_turnLevel_53 rfl (lv_at hl 0 rfl) ?_
          refine lv_aload_n hx hb dX2_turnLevel_54 rfl (lv_at hl 1 rfl) ?_
          refine lv_bipush (v := 9) hx hb dX2_turnLevel_55 (by decide) ?_
          refine lv_iload_n hx hb dX2_turnLevel_57 rfl (lv_at hl 2 rfl) ?_
          refine g_imulN hx hb 9 k rfl rfl dX2_turnLevel_58 ?_
          refine lv_iload_n hx hb dX2_turnLevel_59 rfl (lv_at hl 0 rfl) ?_
          refine g_iaddN hx hb (9 * k) q rfl rfl dX2_turnLevel_60 ?_
          refine lv_iconst (v := 1) hx hb dX2_turnLevel_61 rfl ?_
          refine g_cRV hX hl y_X2_ofWire v_X2_ofWire q2340 (k_X2_ofWire (9 * k + q) 1 (by omega) (by omega)) (hM.rc hX.2.2.2) hM rfl ⟨Nat.le_of_ble_eq_true rfl, Nat.le_of_ble_eq_true rfl⟩ ⟨Nat.zero_le _, Nat.zero_le _⟩ (rest := [.int (nI q), .ref (ad 21)]) (st1 := [.int (X 1 (5 * (9 * k + q) + 1)), .int (nI q), .ref (ad 21)]) rfl rfl (Nat.le_of_ble_eq_true rfl) dX2_turnLevel_62 ?_
          refine g_stZ21 hX hM hS q rfl (by omega) dX2_turnLevel_65 (fun H locs hM hS => ?_)
          refine lv_iinc (v := (nI (q + 1))) (lv' := [(2, .int (nI (q + 1))), (0, .ref (ad 0)), (1, .int (nI k))]) hx hb dX2_turnLevel_66 hl (k := 0) rfl (nI_1 _) (by decide) rfl (fun ls hl => ?_)
          refine lv_goto (tgt := 26) hx hb dX2_turnLevel_69 (by decide) ?_
          exact ih26 H locs (q + 1) (g_up2 (g_up2 Z1 20 q (X 1 (5 * (9 * k + q) + 0))) 21 q (X 1 (5 * (9 * k + q) + 1))) (by omega) ((hz0.st (by omega)).st (by omega)) (z_q_1 hz1) (z_q_2 hz2) (by omega) hM hS ls (lv_sub hl [0, 1, 2] rfl)
    exact L26 (9 - 0 + 1) H locs 0 Z (by omega) (z_q.rf) (fun i hi => by omega) (fun i hi => by omega) (Nat.lt_succ_self _) hM hS ls (lv_sub hl [0, 1, 2] rfl)
  exact key _ _ hM hS

set_option maxHeartbeats 4000000 in
theorem no_X2_turnLevel {G : g_G} {l : Launch} {ad : Nat → Nat} {F : Nat → Int32} {X Y : g_Wd} {U V : Nat → g_Wd} {Z : g_Wd} (t9 : Int32) (k : Int32) (ht9 : ¬ t9 = 0) (hbad : s_may (F 6) (g_b (s_isWire F X k 0 0)) 1 = t9) (hWc : ¬ F 6 = 0 → s_ok X) : g_Md G l yX2_turnLevel cX2_turnLevel 5 (some .int) 3 0 0 [.ref (ad 0), .int k] (g_Mod G ad F X Y U V Z) (g_Qv (some (.int 0)) (g_Mod G ad (upd F 0 t9) X Y U V Z)) (md_A ad) := by
  refine g_Md.ofI (by decide) (fun _ _ _ => rfl) ?_
  intro p e s m args below meth c ls Q hX hM hl hS hret
  have hx := hX.1.1
  have hb := hX.1.2.1
  have hl : lv_has ls 5 [(0, .ref (ad 0)), (1, .int k)] := hl
  have key : ∀ (H : Heap) (locs : List Loc), g_Mod G ad F X Y U V Z H → va_S (md_A ad) s.heap H locs → W p l e (g_rm 3 0 0) s m args below meth c H locs 0 0 Q (F0 m 0 ls []) := by
    intro H locs hM hS
    refine lv_aload_n hx hb dX2_turnLevel_0 rfl (lv_at hl 0 rfl) ?_
    refine lv_aload_n hx hb dX2_turnLevel_1 rfl (lv_at hl 0 rfl) ?_
    refine g_getM hX hM 6 (by decide) q2169 rfl (v := .int (F 6)) rfl dX2_turnLevel_2 ?_
    refine lv_aload_n hx hb dX2_turnLevel_5 rfl (lv_at hl 0 rfl) ?_
    refine lv_iload_n hx hb dX2_turnLevel_6 rfl (lv_at hl 1 rfl) ?_
    refine lv_iconst (v := 0) hx hb dX2_turnLevel_7 rfl ?_
    refine lv_iconst (v := 0) hx hb dX2_turnLevel_8 rfl ?_
    refine g_cRV hX hl y_X2_isWire v_X2_isWire q2513 (k_X2_isWire k 0 0) (hM.rc hX.2.2.2) hM rfl ⟨Nat.le_of_ble_eq_true rfl, Nat.le_of_ble_eq_true rfl⟩ ⟨Nat.zero_le _, Nat.zero_le _⟩ (rest := [.int (F 6), .ref (ad 0)]) (st1 := [.int (g_b (s_isWire F X k 0 0)), .int (F 6), .ref (ad 0)]) rfl rfl (Nat.le_of_ble_eq_true rfl) dX2_turnLevel_9 ?_
    refine g_cMV hX hl y_X2_mayTwo v_X2_mayTwo q2501 (k_X2_mayTwo (F 6) (g_b (s_isWire F X k 0 0))) (hM.rc hX.2.2.2) hM rfl ⟨Nat.le_of_ble_eq_true rfl, Nat.le_of_ble_eq_true rfl⟩ ⟨Nat.le_refl _, Nat.le_refl _⟩ (rest := []) (st1 := [.int (g_b (decide (s_may (F 6) (g_b (s_isWire F X k 0 0)) 1 = 0)))]) rfl rfl (Nat.le_of_ble_eq_true rfl) dX2_turnLevel_12 hS (fun _ h => h) (fun H locs hM hS _ => ?_)
    have hmy : s_may (F 6) (g_b (s_isWire F X k 0 0)) 1 = t9 := by first | exact hbad | (rw [← hbad]; simp [g_b, g_b]; done) | (rw [← hbad]; simp only [g_b, g_b]; rfl) | (rw [← hbad]; grind [g_b])
    rw [hmy] at hM ⊢
    refine g_if_neB (tgt := 20) hx hb (b := decide (t9 = 0)) rfl dX2_turnLevel_15 (by decide) (fun c_15 => ?_) (fun c_15 => ?_)
    · exact Bool.noConfusion ((decide_eq_false ht9).symm.trans c_15)
    skip
    refine lv_iconst (v := 0) hx hb dX2_turnLevel_18 rfl ?_
    exact hret H locs _ _ _ _ _ dX2_turnLevel_19 hS (Nat.le_refl _) (Nat.le_refl _) (⟨rfl, hM⟩)
  exact key _ _ hM hS

theorem y_X2_dropsFromLog : g_Y yX2_dropsFromLog cX2_dropsFromLog 6 none 1 := ⟨q2492, by decide +kernel⟩
theorem v_X2_dropsFromLog : g_YV yX2_dropsFromLog := ⟨q2491, qs91, q140⟩
set_option maxHeartbeats 4000000 in
theorem k_X2_dropsFromLog {G : g_G} {l : Launch} {ad : Nat → Nat} {F : Nat → Int32} {X Y : g_Wd} {U V : Nat → g_Wd} {Z : g_Wd} (m0 : Nat) (hg : s_okG X) : g_Md G l yX2_dropsFromLog cX2_dropsFromLog 6 none 0 0 0 [.ref (ad 0), .int (nI m0)] (g_Mod G ad F X Y U V Z) (g_Qv none (g_Mod G ad F (x_dl X m0) Y U V Z)) (md_A ad) := by
  refine g_Md.ofV (by decide) ?_
  intro p e s m args below meth c ls Q hX hM hl hS hret
  have hx := hX.1.1
  have hb := hX.1.2.1
  have hl : lv_has ls 6 [(0, .ref (ad 0)), (1, .int (nI m0))] := hl
  have key : ∀ (H : Heap) (locs : List Loc), g_Mod G ad F X Y U V Z H → va_S (md_A ad) s.heap H locs → W p l e (g_rm 0 0 0) s m args below meth c H locs 0 0 Q (F0 m 0 ls []) := by
    intro H locs hM hS
    have hg40 := hg.2
    refine lv_iconst (v := 0) hx hb dX2_dropsFromLog_0 rfl ?_
    refine lv_istore_n (lv' := [(2, .int 0), (0, .ref (ad 0)), (1, .int (nI m0))]) hx hb dX2_dropsFromLog_1 rfl hl (by decide) rfl (fun ls hl => ?_)
    refine lv_iconst (v := 0) hx hb dX2_dropsFromLog_2 rfl ?_
    refine lv_istore_n (lv' := [(3, .int 0), (2, .int 0), (0, .ref (ad 0)), (1, .int (nI m0))]) hx hb dX2_dropsFromLog_3 rfl hl (by decide) rfl (fun ls hl => ?_)
    have L4 : ∀ (nf : Nat) (H : Heap) (locs : List Loc) (j : Nat) (X1 : g_Wd), (j ≤ s_G X) → (X1 = (x_dlN X m0 j).1) → (s_G X - j < nf) → (g_Mod G ad F X1 Y U V Z H) → va_S (md_A ad) s.heap H locs → ∀ ls : Array Slot, lv_has ls 6 [(3, .int (nI j)), (2, .int (nI ((x_dlN X m0 j).2))), (0, .ref (ad 0)), (1, .int (nI m0))] → W p l e (g_rm 0 0 0) s m args below meth c H locs 0 0 Q (F0 m 4 ls []) := by
      intro n4
      induction n4 with
      | zero => intro H locs j X1 hj hX1 hn; exact absurd hn (Nat.not_lt_zero _)
      | succ n4 ih4 =>
        intro H locs j X1 hj hX1 hn4 hM hS ls hl
        have hn := x_dlN_2 (X := X) (m := m0) (k := j)
        have hg1 : X1 0 4 = nI (s_G X) := by rw [hX1, x_dlN_r (by omega)]; exact hg.1
        refine lv_iload_n hx hb dX2_dropsFromLog_4 rfl (lv_at hl 0 rfl) ?_
        refine lv_aload_n hx hb dX2_dropsFromLog_5 rfl (lv_at hl 2 rfl) ?_
        refine g_getM hX hM 1 (by decide) q2164 rfl (v := .ref (ad 1)) rfl dX2_dropsFromLog_6 ?_
        refine lv_iconst (v := 4) hx hb dX2_dropsFromLog_9 rfl ?_
        refine g_iald hX hM.a1 4 rfl (by omega) (by decide) (v := (X1 0 4)) rfl dX2_dropsFromLog_10 ?_
        refine g_icmp_geN (tgt := 122) hx hb j (s_G X) rfl hg1 (by omega) (by omega) dX2_dropsFromLog_11 (by decide) (fun c_11 => ?_) (fun c_11 => ?_)
        · skip
          refine lv_aload_n hx hb dX2_dropsFromLog_122 rfl (lv_at hl 2 rfl) ?_
          refine g_getM hX hM 1 (by decide) q2164 rfl (v := .ref (ad 1)) rfl dX2_dropsFromLog_123 ?_
          refine lv_iconst (v := 4) hx hb dX2_dropsFromLog_126 rfl ?_
          refine lv_iload_n hx hb dX2_dropsFromLog_127 rfl (lv_at hl 1 rfl) ?_
          refine g_istX hX hM hS 4 rfl (by omega) (X' := g_up2 X1 0 4 (nI ((x_dlN X m0 j).2))) (g_flu0 _ (by omega) _) dX2_dropsFromLog_128 (fun H locs hM hS => ?_)
          exact hret H locs _ _ _ _ dX2_dropsFromLog_129 hS (Nat.le_refl _) (Nat.le_refl _) (by obtain rfl : j = s_G X := (by omega); subst hX1; exact ⟨rfl, hM⟩)
        · skip
          refine lv_aload_n hx hb dX2_dropsFromLog_14 rfl (lv_at hl 2 rfl) ?_
          refine g_getM hX hM 1 (by decide) q2164 rfl (v := .ref (ad 1)) rfl dX2_dropsFromLog_15 ?_
          refine lv_sipush (v := 1416) hx hb dX2_dropsFromLog_18 (by decide) ?_
          refine lv_iconst (v := 4) hx hb dX2_dropsFromLog_21 rfl ?_
          refine lv_iload_n hx hb dX2_dropsFromLog_22 rfl (lv_at hl 0 rfl) ?_
          refine g_imulN hx hb 4 j rfl rfl dX2_dropsFromLog_23 ?_
          refine g_iaddN hx hb 1416 (4 * j) rfl rfl dX2_dropsFromLog_24 ?_
          refine lv_iconst (v := 2) hx hb dX2_dropsFromLog_25 rfl ?_
          refine g_iaddN hx hb (1416 + 4 * j) 2 rfl rfl dX2_dropsFromLog_26 ?_
          refine g_iald hX hM.a1 (1416 + 4 * j + 2) rfl (by omega) (by decide) (v := (X1 2 (4 * j + 2))) (g_flg _) dX2_dropsFromLog_27 ?_
          refine lv_istore (lv' := [(4, .int (X1 2 (4 * j + 2))), (3, .int (nI j)), (2, .int (nI ((x_dlN X m0 j).2))), (0, .ref (ad 0)), (1, .int (nI m0))]) hx hb dX2_dropsFromLog_28 hl (by decide) rfl (fun ls hl => ?_)
          refine lv_iload hx hb dX2_dropsFromLog_30 (lv_at hl 0 rfl) ?_
          refine lv_iload_n hx hb dX2_dropsFromLog_32 rfl (lv_at hl 4 rfl) ?_
          refine lv_icmp_ne (tgt := 39) hx hb dX2_dropsFromLog_33 (by decide) (fun c_33 => ?_) (fun c_33 => ?_)
          · skip
            refine lv_iconst (v := 0) hx hb dX2_dropsFromLog_39 rfl ?_
            refine lv_istore (lv' := [(5, .int 0), (4, .int (X1 2 (4 * j + 2))), (3, .int (nI j)), (2, .int (nI ((x_dlN X m0 j).2))), (0, .ref (ad 0)), (1, .int (nI m0))]) hx hb dX2_dropsFromLog_40 hl (by decide) rfl (fun ls hl => ?_)
            have L42 : ∀ (nf : Nat) (H : Heap) (locs : List Loc) (q : Nat) (X2 : g_Wd), (q ≤ 4) → (X2 = x_dlC X1 j (x_dlN X m0 j).2 q) → (4 - q < nf) → (g_Mod G ad F X2 Y U V Z H) → va_S (md_A ad) s.heap H locs → ∀ ls : Array Slot, lv_has ls 6 [(5, .int (nI q)), (4, .int (X1 2 (4 * j + 2))), (3, .int (nI j)), (2, .int (nI ((x_dlN X m0 j).2))), (0, .ref (ad 0)), (1, .int (nI m0))] → W p l e (g_rm 0 0 0) s m args below meth c H locs 0 0 Q (F0 m 42 ls []) := by
              intro n42
              induction n42 with
              | zero => intro H locs q X2 hq hX2 hn; exact absurd hn (Nat.not_lt_zero _)
              | succ n42 ih42 =>
                intro H locs q X2 hq hX2 hn42 hM hS ls hl
                refine lv_iload hx hb dX2_dropsFromLog_42 (lv_at hl 0 rfl) ?_
                refine lv_iconst (v := 4) hx hb dX2_dropsFromLog_44 rfl ?_
                refine g_icmp_geN (tgt := 84) hx hb q 4 rfl rfl (by omega) (by omega) dX2_dropsFromLog_45 (by decide) (fun c_45 => ?_) (fun c_45 => ?_)
                · skip
                  refine lv_aload_n hx hb dX2_dropsFromLog_84 rfl (lv_at hl 4 rfl) ?_
                  refine g_getM hX hM 1 (by decide) q2164 rfl (v := .ref (ad 1)) rfl dX2_dropsFromLog_85 ?_
                  refine lv_sipush (v := 1416) hx hb dX2_dropsFromLog_88 (by decide) ?_
                  refine lv_iconst (v := 4) hx hb dX2_dropsFromLog_91 rfl ?_
                  refine lv_iload_n hx hb dX2_dropsFromLog_92 rfl (lv_at hl 3 rfl) ?_
                  refine g_imulN hx hb 4 ((x_dlN X m0 j).2) rfl rfl dX2_dropsFromLog_93 ?_
                  refine g_iaddN hx hb 1416 (4 * ((x_dlN X m0 j).2)) rfl rfl dX2_dropsFromLog_94 ?_
                  refine lv_iconst (v := 2) hx hb dX2_dropsFromLog_95 rfl ?_
                  refine g_iaddN hx hb (1416 + 4 * ((x_dlN X m0 j).2)) 2 rfl rfl dX2_dropsFromLog_96 ?_
                  refine lv_iload hx hb dX2_dropsFromLog_97 (lv_at hl 1 rfl) ?_
                  refine lv_iload_n hx hb dX2_dropsFromLog_99 rfl (lv_at hl 5 rfl) ?_
                  refine lv_icmp_le (tgt := 110) hx hb dX2_dropsFromLog_100 (by decide) (fun c_100 => ?_) (fun c_100 => ?_)
                  · skip
                    refine lv_iload hx hb dX2_dropsFromLog_110 (lv_at hl 1 rfl) ?_
                    refine g_istX hX hM hS (1416 + 4 * ((x_dlN X m0 j).2) + 2) rfl (by omega) (X' := g_up2 X2 2 (4 * ((x_dlN X m0 j).2) + 2) (X1 2 (4 * j + 2))) (g_flug _ _) dX2_dropsFromLog_112 (fun H locs hM hS => ?_)
                    refine lv_iinc (v := (nI ((x_dlN X m0 j).2 + 1))) (lv' := [(2, .int (nI ((x_dlN X m0 j).2 + 1))), (5, .int (nI q)), (4, .int (X1 2 (4 * j + 2))), (3, .int (nI j)), (0, .ref (ad 0)), (1, .int (nI m0))]) hx hb dX2_dropsFromLog_113 hl (k := 3) rfl (nI_1 _) (by decide) rfl (fun ls hl => ?_)
                    refine lv_iinc (v := (nI (j + 1))) (lv' := [(3, .int (nI (j + 1))), (2, .int (nI ((x_dlN X m0 j).2 + 1))), (5, .int (nI q)), (4, .int (X1 2 (4 * j + 2))), (0, .ref (ad 0)), (1, .int (nI m0))]) hx hb dX2_dropsFromLog_116 hl (k := 3) rfl (nI_1 _) (by decide) rfl (fun ls hl => ?_)
                    refine lv_goto (tgt := 4) hx hb dX2_dropsFromLog_119 (by decide) ?_
                    have e_2 : (nI ((x_dlN X m0 j).2 + 1)) = (nI ((x_dlN X m0 (j + 1)).2)) := by rw [x_dlN_s, ← hX1]; first | rw [if_pos c_33] | rw [if_neg c_33]
                    rw [e_2] at hl
                    exact ih4 H locs (j + 1) (g_up2 X2 2 (4 * ((x_dlN X m0 j).2) + 2) (X1 2 (4 * j + 2))) (by omega) (by rw [x_dlN_s, ← hX1]; first | (rw [if_pos c_33]; try exact hX1) | (obtain rfl : q = 4 := (by omega); rw [if_neg c_33]; show _ = x_dl1 X1 m0 j _; unfold x_dl1; rw [hX2]; first | (rw [if_neg (Int32.not_lt.mpr c_100)]; done) | (rw [if_pos (Int32.not_le.mp c_100)]; done))) (by omega) hM hS ls (lv_sub hl [0, 1, 4, 5] rfl)
                  · skip
                    refine lv_iload hx hb dX2_dropsFromLog_103 (lv_at hl 1 rfl) ?_
                    refine lv_iconst (v := 1) hx hb dX2_dropsFromLog_105 rfl ?_
                    refine lv_isub hx hb dX2_dropsFromLog_106 ?_
                    refine lv_goto (tgt := 112) hx hb dX2_dropsFromLog_107 (by decide) ?_
                    refine g_istX hX hM hS (1416 + 4 * ((x_dlN X m0 j).2) + 2) rfl (by omega) (X' := g_up2 X2 2 (4 * ((x_dlN X m0 j).2) + 2) ((X1 2 (4 * j + 2)) - 1)) (g_flug _ _) dX2_dropsFromLog_112 (fun H locs hM hS => ?_)
                    refine lv_iinc (v := (nI ((x_dlN X m0 j).2 + 1))) (lv' := [(2, .int (nI ((x_dlN X m0 j).2 + 1))), (5, .int (nI q)), (4, .int (X1 2 (4 * j + 2))), (3, .int (nI j)), (0, .ref (ad 0)), (1, .int (nI m0))]) hx hb dX2_dropsFromLog_113 hl (k := 3) rfl (nI_1 _) (by decide) rfl (fun ls hl => ?_)
                    refine lv_iinc (v := (nI (j + 1))) (lv' := [(3, .int (nI (j + 1))), (2, .int (nI ((x_dlN X m0 j).2 + 1))), (5, .int (nI q)), (4, .int (X1 2 (4 * j + 2))), (0, .ref (ad 0)), (1, .int (nI m0))]) hx hb dX2_dropsFromLog_116 hl (k := 3) rfl (nI_1 _) (by decide) rfl (fun ls hl => ?_)
                    refine lv_goto (tgt := 4) hx hb dX2_dropsFromLog_119 (by decide) ?_
                    have e_2 : (nI ((x_dlN X m0 j).2 + 1)) = (nI ((x_dlN X m0 (j + 1)).2)) := by rw [x_dlN_s, ← hX1]; first | rw [if_pos c_33] | rw [if_neg c_33]
                    rw [e_2] at hl
                    exact ih4 H locs (j + 1) (g_up2 X2 2 (4 * ((x_dlN X m0 j).2) + 2) ((X1 2 (4 * j + 2)) - 1)) (by omega) (by rw [x_dlN_s, ← hX1]; first | (rw [if_pos c_33]; try exact hX1) | (obtain rfl : q = 4 := (by omega); rw [if_neg c_33]; show _ = x_dl1 X1 m0 j _; unfold x_dl1; rw [hX2]; first | (rw [if_neg (Int32.not_lt.mpr c_100)]; done) | (rw [if_pos (Int32.not_le.mp c_100)]; done))) (by omega) hM hS ls (lv_sub hl [0, 1, 4, 5] rfl)
                · skip
                  refine lv_aload_n hx hb dX2_dropsFromLog_48 rfl (lv_at hl 4 rfl) ?_
                  refine g_getM hX hM 1 (by decide) q2164 rfl (v := .ref (ad 1)) rfl dX2_dropsFromLog_49 ?_
                  refine lv_sipush (v := 1416) hx hb dX2_dropsFromLog_52 (by decide) ?_
                  refine lv_iconst (v := 4) hx hb dX2_dropsFromLog_55 rfl ?_
                  refine lv_iload_n hx hb dX2_dropsFromLog_56 rfl (lv_at hl 3 rfl) ?_
                  refine g_imulN hx hb 4 ((x_dlN X m0 j).2) rfl rfl dX2_dropsFromLog_57 ?_
                  refine g_iaddN hx hb 1416 (4 * ((x_dlN X m0 j).2)) rfl rfl dX2_dropsFromLog_58 ?_
                  refine lv_iload hx hb dX2_dropsFromLog_59 (lv_at hl 0 rfl) ?_
                  refine g_iaddN hx hb (1416 + 4 * ((x_dlN X m0 j).2)) q rfl rfl dX2_dropsFromLog_61 ?_
                  refine lv_aload_n hx hb dX2_dropsFromLog_62 rfl (lv_at hl 4 rfl) ?_
                  refine g_getM hX hM 1 (by decide) q2164 rfl (v := .ref (ad 1)) rfl dX2_dropsFromLog_63 ?_
                  refine lv_sipush (v := 1416) hx hb dX2_dropsFromLog_66 (by decide) ?_
                  refine lv_iconst (v := 4) hx hb dX2_dropsFromLog_69 rfl ?_
                  refine lv_iload_n hx hb dX2_dropsFromLog_70 rfl (lv_at hl 2 rfl) ?_
                  refine g_imulN hx hb 4 j rfl rfl dX2_dropsFromLog_71 ?_
                  refine g_iaddN hx hb 1416 (4 * j) rfl rfl dX2_dropsFromLog_72 ?_
                  refine lv_iload hx hb dX2_dropsFromLog_73 (lv_at hl 0 rfl) ?_
                  refine g_iaddN hx hb (1416 + 4 * j) q rfl rfl dX2_dropsFromLog_75 ?_
                  refine g_iald hX hM.a1 (1416 + 4 * j + q) rfl (by omega) (by decide) (v := (X2 2 (4 * j + q))) (g_flg _) dX2_dropsFromLog_76 ?_
                  refine g_istX hX hM hS (1416 + 4 * ((x_dlN X m0 j).2) + q) rfl (by omega) (X' := g_up2 X2 2 (4 * ((x_dlN X m0 j).2) + q) (X2 2 (4 * j + q))) (g_flug _ _) dX2_dropsFromLog_77 (fun H locs hM hS => ?_)
                  refine lv_iinc (v := (nI (q + 1))) (lv' := [(5, .int (nI (q + 1))), (4, .int (X1 2 (4 * j + 2))), (3, .int (nI j)), (2, .int (nI ((x_dlN X m0 j).2))), (0, .ref (ad 0)), (1, .int (nI m0))]) hx hb dX2_dropsFromLog_78 hl (k := 0) rfl (nI_1 _) (by decide) rfl (fun ls hl => ?_)
                  refine lv_goto (tgt := 42) hx hb dX2_dropsFromLog_81 (by decide) ?_
                  exact ih42 H locs (q + 1) (g_up2 X2 2 (4 * ((x_dlN X m0 j).2) + q) (X2 2 (4 * j + q))) (by omega) (by rw [hX2]; rfl) (by omega) hM hS ls (lv_sub hl [0, 1, 2, 3, 4, 5] rfl)
            exact L42 (4 - 0 + 1) H locs 0 X1 (by omega) (rfl) (Nat.lt_succ_self _) hM hS ls (lv_sub hl [0, 1, 2, 3, 4, 5] rfl)
          · skip
            refine lv_goto (tgt := 116) hx hb dX2_dropsFromLog_36 (by decide) ?_
            refine lv_iinc (v := (nI (j + 1))) (lv' := [(3, .int (nI (j + 1))), (4, .int (X1 2 (4 * j + 2))), (2, .int (nI ((x_dlN X m0 j).2))), (0, .ref (ad 0)), (1, .int (nI m0))]) hx hb dX2_dropsFromLog_116 hl (k := 1) rfl (nI_1 _) (by decide) rfl (fun ls hl => ?_)
            refine lv_goto (tgt := 4) hx hb dX2_dropsFromLog_119 (by decide) ?_
            have e_2 : (nI ((x_dlN X m0 j).2)) = (nI ((x_dlN X m0 (j + 1)).2)) := by rw [x_dlN_s, ← hX1]; first | rw [if_pos c_33] | rw [if_neg c_33]
            rw [e_2] at hl
            exact ih4 H locs (j + 1) X1 (by omega) (by rw [x_dlN_s, ← hX1]; first | (rw [if_pos c_33]; try exact hX1) | (obtain rfl : q = 4 := (by omega); rw [if_neg c_33]; show _ = x_dl1 X1 m0 j _; unfold x_dl1; rw [hX2]; first | (rw [if_neg (Int32.not_lt.mpr c_100)]; done) | (rw [if_pos (Int32.not_le.mp c_100)]; done))) (by omega) hM hS ls (lv_sub hl [0, 2, 3, 4] rfl)
    exact L4 (s_G X - 0 + 1) H locs 0 X (by omega) (rfl) (Nat.lt_succ_self _) hM hS ls (lv_sub hl [0, 1, 2, 3] rfl)
  exact key _ _ hM hS

theorem y_X2_drops : g_Y yX2_drops cX2_drops 4 none 1 := ⟨q2488, by decide +kernel⟩
theorem v_X2_drops : g_YV yX2_drops := ⟨q2487, qs90, q140⟩
set_option maxHeartbeats 4000000 in
theorem k_X2_drops {G : g_G} {l : Launch} {ad : Nat → Nat} {F : Nat → Int32} {X Y : g_Wd} {U V : Nat → g_Wd} {Z : g_Wd} (m0 : Nat) (hm : m0 < s_M X) (hwl : s_wl X) : g_Md G l yX2_drops cX2_drops 4 none 1 0 0 [.ref (ad 0), .int (nI m0)] (g_Mod G ad F X Y U V Z) (g_Qv none (g_Mod G ad F (x_drop X m0) Y U V Z)) (md_A ad) := by
  refine g_Md.ofV (by decide) ?_
  intro p e s m args below meth c ls Q hX hM hl hS hret
  have hx := hX.1.1
  have hb := hX.1.2.1
  have hl : lv_has ls 4 [(0, .ref (ad 0)), (1, .int (nI m0))] := hl
  have key : ∀ (H : Heap) (locs : List Loc), g_Mod G ad F X Y U V Z H → va_S (md_A ad) s.heap H locs → W p l e (g_rm 1 0 0) s m args below meth c H locs 0 0 Q (F0 m 0 ls []) := by
    intro H locs hM hS
    have hM0 : X 0 3 = nI (s_M X) := hwl.1.2.1.1
    have hM6 : s_M X ≤ 6 := hwl.1.2.1.2
    have hm6 : m0 < 6 := by omega
    refine lv_iload_n hx hb dX2_drops_0 rfl (lv_at hl 1 rfl) ?_
    refine lv_istore_n (lv' := [(2, .int (nI m0)), (0, .ref (ad 0)), (1, .int (nI m0))]) hx hb dX2_drops_1 rfl hl (by decide) rfl (fun ls hl => ?_)
    have L2 : ∀ (nf : Nat) (H : Heap) (locs : List Loc) (j : Nat) (X1 : g_Wd), (m0 + j < s_M X) → (X1 = x_drN X m0 j) → (s_M X - j < nf) → (g_Mod G ad F X1 Y U V Z H) → va_S (md_A ad) s.heap H locs → ∀ ls : Array Slot, lv_has ls 4 [(2, .int (nI (m0 + j))), (0, .ref (ad 0)), (1, .int (nI m0))] → W p l e (g_rm 1 0 0) s m args below meth c H locs 0 0 Q (F0 m 2 ls []) := by
      intro n2
      induction n2 with
      | zero => intro H locs j X1 hj hX1 hn; exact absurd hn (Nat.not_lt_zero _)
      | succ n2 ih2 =>
        intro H locs j X1 hj hX1 hn2 hM hS ls hl
        have hm3 : X1 0 3 = nI (s_M X) := by rw [hX1, x_drN_r (by omega)]; exact hM0
        refine lv_iload_n hx hb dX2_drops_2 rfl (lv_at hl 0 rfl) ?_
        refine lv_iconst (v := 1) hx hb dX2_drops_3 rfl ?_
        refine g_iaddN hx hb (m0 + j) 1 rfl rfl dX2_drops_4 ?_
        refine lv_aload_n hx hb dX2_drops_5 rfl (lv_at hl 1 rfl) ?_
        refine g_getM hX hM 1 (by decide) q2164 rfl (v := .ref (ad 1)) rfl dX2_drops_6 ?_
        refine lv_iconst (v := 3) hx hb dX2_drops_9 rfl ?_
        refine g_iald hX hM.a1 3 rfl (by omega) (by decide) (v := (X1 0 3)) rfl dX2_drops_10 ?_
        refine g_icmp_geN (tgt := 49) hx hb (m0 + j + 1) (s_M X) rfl hm3 (by omega) (by omega) dX2_drops_11 (by decide) (fun c_11 => ?_) (fun c_11 => ?_)
        · skip
          refine lv_aload_n hx hb dX2_drops_49 rfl (lv_at hl 1 rfl) ?_
          refine g_getM hX hM 1 (by decide) q2164 rfl (v := .ref (ad 1)) rfl dX2_drops_50 ?_
          refine lv_iconst (v := 3) hx hb dX2_drops_53 rfl ?_
          refine lv_dup2_11 hx hb dX2_drops_54 rfl rfl ?_
          refine g_iald hX hM.a1 3 rfl (by omega) (by decide) (v := (X1 0 3)) rfl dX2_drops_55 ?_
          refine lv_iconst (v := 1) hx hb dX2_drops_56 rfl ?_
          refine g_isubN hx hb (s_M X) 1 hm3 rfl (by omega) dX2_drops_57 ?_
          refine g_istX hX hM hS 3 rfl (by omega) (X' := g_up2 X1 0 3 (nI (s_M X - 1))) (g_flu0 _ (by omega) _) dX2_drops_58 (fun H locs hM hS => ?_)
          refine lv_aload_n hx hb dX2_drops_59 rfl (lv_at hl 1 rfl) ?_
          refine lv_iload_n hx hb dX2_drops_60 rfl (lv_at hl 2 rfl) ?_
          refine g_cMV hX hl y_X2_dropsFromLog v_X2_dropsFromLog q2489 (k_X2_dropsFromLog m0 (s_okG_of (X := X) (by rw [g_up2_own]; unfold upd; rw [if_neg (by omega), hX1, x_drN_r (by omega)]) hwl.1.2.2.1)) (hM.rc hX.2.2.2) hM rfl ⟨Nat.le_of_ble_eq_true rfl, Nat.le_of_ble_eq_true rfl⟩ ⟨Nat.le_refl _, Nat.le_refl _⟩ (rest := []) (st1 := []) rfl rfl (Nat.le_of_ble_eq_true rfl) dX2_drops_61 hS (fun _ h => h) (fun H locs hM hS _ => ?_)
          exact hret H locs _ _ _ _ dX2_drops_64 hS (Nat.le_refl _) (Nat.le_refl _) (by obtain rfl : j = s_M X - 1 - m0 := (by omega); subst hX1; exact ⟨rfl, hM⟩)
        · skip
          refine lv_iconst (v := 0) hx hb dX2_drops_14 rfl ?_
          refine lv_istore_n (lv' := [(3, .int 0), (2, .int (nI (m0 + j))), (0, .ref (ad 0)), (1, .int (nI m0))]) hx hb dX2_drops_15 rfl hl (by decide) rfl (fun ls hl => ?_)
          have L16 : ∀ (nf : Nat) (H : Heap) (locs : List Loc) (q : Nat) (X2 : g_Wd), (q ≤ 197) → (X2 = x_drK X m0 j q) → (197 - q < nf) → (g_Mod G ad F X2 Y U V Z H) → va_S (md_A ad) s.heap H locs → ∀ ls : Array Slot, lv_has ls 4 [(3, .int (nI q)), (2, .int (nI (m0 + j))), (0, .ref (ad 0)), (1, .int (nI m0))] → W p l e (g_rm 1 0 0) s m args below meth c H locs 0 0 Q (F0 m 16 ls []) := by
            intro n16
            induction n16 with
            | zero => intro H locs q X2 hq hX2 hn; exact absurd hn (Nat.not_lt_zero _)
            | succ n16 ih16 =>
              intro H locs q X2 hq hX2 hn16 hM hS ls hl
              refine lv_iload_n hx hb dX2_drops_16 rfl (lv_at hl 0 rfl) ?_
              refine lv_sipush (v := 197) hx hb dX2_drops_17 (by decide) ?_
              refine g_icmp_geN (tgt := 43) hx hb q 197 rfl rfl (by omega) (by omega) dX2_drops_20 (by decide) (fun c_20 => ?_) (fun c_20 => ?_)
              · skip
                refine lv_iinc (v := (nI (m0 + j + 1))) (lv' := [(2, .int (nI (m0 + j + 1))), (3, .int (nI q)), (0, .ref (ad 0)), (1, .int (nI m0))]) hx hb dX2_drops_43 hl (k := 1) rfl (nI_1 _) (by decide) rfl (fun ls hl => ?_)
                refine lv_goto (tgt := 2) hx hb dX2_drops_46 (by decide) ?_
                exact ih2 H locs (j + 1) X2 (by omega) (x_drK_n (by rw [show (197 : Nat) = q by omega]; exact hX2)) (by omega) hM hS ls (lv_sub hl [0, 2, 3] rfl)
              · skip
                refine lv_aload_n hx hb dX2_drops_23 rfl (lv_at hl 2 rfl) ?_
                refine lv_iload_n hx hb dX2_drops_24 rfl (lv_at hl 1 rfl) ?_
                refine lv_iload_n hx hb dX2_drops_25 rfl (lv_at hl 0 rfl) ?_
                refine lv_aload_n hx hb dX2_drops_26 rfl (lv_at hl 2 rfl) ?_
                refine lv_iload_n hx hb dX2_drops_27 rfl (lv_at hl 1 rfl) ?_
                refine lv_iconst (v := 1) hx hb dX2_drops_28 rfl ?_
                refine g_iaddN hx hb (m0 + j) 1 rfl rfl dX2_drops_29 ?_
                refine lv_iload_n hx hb dX2_drops_30 rfl (lv_at hl 0 rfl) ?_
                refine g_cRV hX hl y_X2_of v_X2_of q2365 (k_X2_of (m0 + j + 1) q (by omega) (by omega)) (hM.rc hX.2.2.2) hM rfl ⟨Nat.le_of_ble_eq_true rfl, Nat.le_of_ble_eq_true rfl⟩ ⟨Nat.zero_le _, Nat.zero_le _⟩ (rest := [.int (nI q), .int (nI (m0 + j)), .ref (ad 0)]) (st1 := [.int (X2 (3 + (m0 + j + 1)) q), .int (nI q), .int (nI (m0 + j)), .ref (ad 0)]) rfl rfl (Nat.le_of_ble_eq_true rfl) dX2_drops_31 ?_
                refine g_cMV hX hl y_X2_puts v_X2_puts q2353 (k_X2_puts (m0 + j) q (X2 (3 + (m0 + j + 1)) q) (by omega) (by omega)) (hM.rc hX.2.2.2) hM rfl ⟨Nat.le_of_ble_eq_true rfl, Nat.le_of_ble_eq_true rfl⟩ ⟨Nat.le_refl _, Nat.le_refl _⟩ (rest := []) (st1 := []) rfl rfl (Nat.le_of_ble_eq_true rfl) dX2_drops_34 hS (fun _ h => h) (fun H locs hM hS _ => ?_)
                refine lv_iinc (v := (nI (q + 1))) (lv' := [(3, .int (nI (q + 1))), (2, .int (nI (m0 + j))), (0, .ref (ad 0)), (1, .int (nI m0))]) hx hb dX2_drops_37 hl (k := 0) rfl (nI_1 _) (by decide) rfl (fun ls hl => ?_)
                refine lv_goto (tgt := 16) hx hb dX2_drops_40 (by decide) ?_
                exact ih16 H locs (q + 1) (g_up2 X2 (3 + (m0 + j)) q (X2 (3 + (m0 + j + 1)) q)) (by omega) (x_drK_s hX2) (by omega) hM hS ls (lv_sub hl [0, 1, 2, 3] rfl)
          exact L16 (197 - 0 + 1) H locs 0 X1 (by omega) (x_drK_0 hX1) (Nat.lt_succ_self _) hM hS ls (lv_sub hl [0, 1, 2, 3] rfl)
    exact L2 (s_M X - 0 + 1) H locs 0 X (by omega) (x_drN_0) (Nat.lt_succ_self _) hM hS ls (lv_sub hl [0, 1, 2] rfl)
  exact key _ _ hM hS

theorem y_X2_drop : g_Y yX2_drop cX2_drop 3 (some .int) 1 := ⟨q2882, by decide +kernel⟩
theorem v_X2_drop : g_YV yX2_drop := ⟨q2880, q2881, q140⟩
set_option maxHeartbeats 4000000 in
theorem ok_X2_drop {G : g_G} {l : Launch} {ad : Nat → Nat} {F : Nat → Int32} {X Y : g_Wd} {U V : Nat → g_Wd} {Z : g_Wd} (j : Nat) (u : Nat) (hF : ¬ F 6 = 0) (hwl : s_wl X) (hwk : s_wk X) (hu : F 7 = nI u) (hu8 : u ≤ 8) (hj : j < s_M X) (harr : ¬ X (3 + j) 4 = -1) : g_Md G l yX2_drop cX2_drop 3 (some .int) 2 0 0 [.ref (ad 0), .int (nI j)] (g_Mod G ad F X Y U V Z) (g_Qv (some (.int (x_drop X j 0 3))) (g_Mod G ad (upd (upd F 0 0) 7 (nI (x_um u))) (x_drop X j) Y (x_rem U u X) V Z)) (md_A ad) := by
  refine g_Md.ofI (by decide) (fun _ _ _ => rfl) ?_
  intro p e s m args below meth c ls Q hX hM hl hS hret
  have hx := hX.1.1
  have hb := hX.1.2.1
  have hl : lv_has ls 3 [(0, .ref (ad 0)), (1, .int (nI j))] := hl
  have key : ∀ (H : Heap) (locs : List Loc), g_Mod G ad F X Y U V Z H → va_S (md_A ad) s.heap H locs → W p l e (g_rm 2 0 0) s m args below meth c H locs 0 0 Q (F0 m 0 ls []) := by
    intro H locs hM hS
    have hW := hwl.1
    have hWc : ¬ F 6 = 0 → s_ok X := fun _ => hW
    have hW9 := hW
    obtain ⟨⟨hL0, hL2, hL6⟩, ⟨hM0, hM6⟩, ⟨hG0, hG40⟩, hok⟩ := hW9
    have hw9 : s_W X ≤ 45 := by unfold s_W; omega
    have hmsg := s_isMsg_ok hF hW hj
    have ho := hok j hj
    have hL := ho.2
    have hj6 : j < 6 := by omega
    refine lv_aload_n hx hb dX2_drop_0 rfl (lv_at hl 0 rfl) ?_
    refine lv_iload_n hx hb dX2_drop_1 rfl (lv_at hl 1 rfl) ?_
    refine g_cRV hX hl y_X2_isMessage v_X2_isMessage q2564 (k_X2_isMessage (nI j)) (hM.rc hX.2.2.2) hM rfl ⟨Nat.le_of_ble_eq_true rfl, Nat.le_of_ble_eq_true rfl⟩ ⟨Nat.zero_le _, Nat.zero_le _⟩ (rest := []) (st1 := [.int (g_b (s_isMsg F X (nI j)))]) rfl rfl (Nat.le_of_ble_eq_true rfl) dX2_drop_2 ?_
    refine lv_istore_n (lv' := [(2, .int (g_b (s_isMsg F X (nI j)))), (0, .ref (ad 0)), (1, .int (nI j))]) hx hb dX2_drop_5 rfl hl (by decide) rfl (fun ls hl => ?_)
    refine lv_aload_n hx hb dX2_drop_6 rfl (lv_at hl 1 rfl) ?_
    refine lv_aload_n hx hb dX2_drop_7 rfl (lv_at hl 1 rfl) ?_
    refine g_getM hX hM 6 (by decide) q2169 rfl (v := .int (F 6)) rfl dX2_drop_8 ?_
    refine lv_iload_n hx hb dX2_drop_11 rfl (lv_at hl 0 rfl) ?_
    refine lv_iload_n hx hb dX2_drop_12 rfl (lv_at hl 0 rfl) ?_
    refine g_if_eqB (tgt := 28) hx hb (b := s_isMsg F X (nI j)) rfl dX2_drop_13 (by decide) (fun c_13 => ?_) (fun c_13 => ?_)
    · exact Bool.noConfusion (hmsg.symm.trans c_13)
    skip
    refine lv_aload_n hx hb dX2_drop_16 rfl (lv_at hl 1 rfl) ?_
    refine lv_iload_n hx hb dX2_drop_17 rfl (lv_at hl 2 rfl) ?_
    refine g_cRV hX hl y_X2_isUnderWay v_X2_isUnderWay q2382 (k_X2_isUnderWay j (by omega)) (hM.rc hX.2.2.2) hM rfl ⟨Nat.le_of_ble_eq_true rfl, Nat.le_of_ble_eq_true rfl⟩ ⟨Nat.zero_le _, Nat.zero_le _⟩ (rest := [.int (g_b (s_isMsg F X (nI j))), .int (F 6), .ref (ad 0)]) (st1 := [.int (g_b (decide (X (3 + j) 4 = -1))), .int (g_b (s_isMsg F X (nI j))), .int (F 6), .ref (ad 0)]) rfl rfl (Nat.le_of_ble_eq_true rfl) dX2_drop_18 ?_
    refine g_if_neB (tgt := 28) hx hb (b := decide (X (3 + j) 4 = -1)) rfl dX2_drop_21 (by decide) (fun c_21 => ?_) (fun c_21 => ?_)
    · exact Bool.noConfusion ((decide_eq_false harr).symm.trans c_21)
    skip
    refine lv_iconst (v := 1) hx hb dX2_drop_24 rfl ?_
    refine lv_goto (tgt := 29) hx hb dX2_drop_25 (by decide) ?_
    refine g_cMV hX hl y_X2_may v_X2_may q2261 (k_X2_may (F 6) (g_b (s_isMsg F X (nI j))) 1) (hM.rc hX.2.2.2) hM rfl ⟨Nat.le_of_ble_eq_true rfl, Nat.le_of_ble_eq_true rfl⟩ ⟨Nat.le_refl _, Nat.le_refl _⟩ (rest := []) (st1 := [.int (g_b (decide (s_may (F 6) (g_b (s_isMsg F X (nI j))) 1 = 0)))]) rfl rfl (Nat.le_of_ble_eq_true rfl) dX2_drop_29 hS (fun _ h => h) (fun H locs hM hS _ => ?_)
    have hmy : s_may (F 6) (g_b (s_isMsg F X (nI j))) 1 = 0 := s_may_ok hF (g_b_ne hmsg) (by decide)
    rw [hmy] at hM ⊢
    refine g_if_neB (tgt := 37) hx hb (b := decide ((0 : Int32) = 0)) rfl dX2_drop_32 (by decide) (fun c_32 => ?_) (fun c_32 => ?_)
    rotate_left
    · exact Bool.noConfusion ((rfl : decide ((0 : Int32) = 0) = true).symm.trans c_32)
    refine lv_aload_n hx hb dX2_drop_37 rfl (lv_at hl 1 rfl) ?_
    refine g_cMV hX hl y_X2_remembers v_X2_remembers q2839 (k_X2_remembers u (by exact hu) hu8) (hM.rc hX.2.2.2) hM rfl ⟨Nat.le_of_ble_eq_true rfl, Nat.le_of_ble_eq_true rfl⟩ ⟨Nat.le_refl _, Nat.le_refl _⟩ (rest := []) (st1 := []) rfl rfl (Nat.le_of_ble_eq_true rfl) dX2_drop_38 hS (fun _ h => h) (fun H locs hM hS _ => ?_)
    refine lv_aload_n hx hb dX2_drop_41 rfl (lv_at hl 1 rfl) ?_
    refine lv_iload_n hx hb dX2_drop_42 rfl (lv_at hl 2 rfl) ?_
    refine g_cMV hX hl y_X2_drops v_X2_drops q2485 (k_X2_drops j hj hwl) (hM.rc hX.2.2.2) hM rfl ⟨Nat.le_of_ble_eq_true rfl, Nat.le_of_ble_eq_true rfl⟩ ⟨Nat.le_refl _, Nat.le_refl _⟩ (rest := []) (st1 := []) rfl rfl (Nat.le_of_ble_eq_true rfl) dX2_drop_43 hS (fun _ h => h) (fun H locs hM hS _ => ?_)
    refine lv_aload_n hx hb dX2_drop_46 rfl (lv_at hl 1 rfl) ?_
    refine g_getM hX hM 1 (by decide) q2164 rfl (v := .ref (ad 1)) rfl dX2_drop_47 ?_
    refine lv_iconst (v := 3) hx hb dX2_drop_50 rfl ?_
    refine g_iald hX hM.a1 3 rfl (by omega) (by decide) (v := ((x_drop X j) 0 3)) rfl dX2_drop_51 ?_
    exact hret H locs _ _ _ _ _ dX2_drop_52 hS (Nat.le_refl _) (Nat.le_refl _) (⟨rfl, hM⟩)
  exact key _ _ hM hS

set_option maxHeartbeats 4000000 in
theorem no_X2_drop {G : g_G} {l : Launch} {ad : Nat → Nat} {F : Nat → Int32} {X Y : g_Wd} {U V : Nat → g_Wd} {Z : g_Wd} (t9 : Int32) (v : Int32) (ht9 : ¬ t9 = 0) (hbad : s_may (F 6) (g_b (s_isMsg F X v)) (g_b (s_isMsg F X v && !decide (X (3 + v.toNatClampNeg) 4 = -1))) = t9) (hWc : ¬ F 6 = 0 → s_ok X) : g_Md G l yX2_drop cX2_drop 3 (some .int) 2 0 0 [.ref (ad 0), .int v] (g_Mod G ad F X Y U V Z) (g_Qv (some (.int 0)) (g_Mod G ad (upd F 0 t9) X Y U V Z)) (md_A ad) := by
  refine g_Md.ofI (by decide) (fun _ _ _ => rfl) ?_
  intro p e s m args below meth c ls Q hX hM hl hS hret
  have hx := hX.1.1
  have hb := hX.1.2.1
  have hl : lv_has ls 3 [(0, .ref (ad 0)), (1, .int v)] := hl
  have key : ∀ (H : Heap) (locs : List Loc), g_Mod G ad F X Y U V Z H → va_S (md_A ad) s.heap H locs → W p l e (g_rm 2 0 0) s m args below meth c H locs 0 0 Q (F0 m 0 ls []) := by
    intro H locs hM hS
    refine lv_aload_n hx hb dX2_drop_0 rfl (lv_at hl 0 rfl) ?_
    refine lv_iload_n hx hb dX2_drop_1 rfl (lv_at hl 1 rfl) ?_
    refine g_cRV hX hl y_X2_isMessage v_X2_isMessage q2564 (k_X2_isMessage v) (hM.rc hX.2.2.2) hM rfl ⟨Nat.le_of_ble_eq_true rfl, Nat.le_of_ble_eq_true rfl⟩ ⟨Nat.zero_le _, Nat.zero_le _⟩ (rest := []) (st1 := [.int (g_b (s_isMsg F X v))]) rfl rfl (Nat.le_of_ble_eq_true rfl) dX2_drop_2 ?_
    refine lv_istore_n (lv' := [(2, .int (g_b (s_isMsg F X v))), (0, .ref (ad 0)), (1, .int v)]) hx hb dX2_drop_5 rfl hl (by decide) rfl (fun ls hl => ?_)
    refine lv_aload_n hx hb dX2_drop_6 rfl (lv_at hl 1 rfl) ?_
    refine lv_aload_n hx hb dX2_drop_7 rfl (lv_at hl 1 rfl) ?_
    refine g_getM hX hM 6 (by decide) q2169 rfl (v := .int (F 6)) rfl dX2_drop_8 ?_
    refine lv_iload_n hx hb dX2_drop_11 rfl (lv_at hl 0 rfl) ?_
    refine lv_iload_n hx hb dX2_drop_12 rfl (lv_at hl 0 rfl) ?_
    refine g_if_eqB (tgt := 28) hx hb (b := s_isMsg F X v) rfl dX2_drop_13 (by decide) (fun c_13 => ?_) (fun c_13 => ?_)
    · skip
      refine lv_iconst (v := 0) hx hb dX2_drop_28 rfl ?_
      refine g_cMV hX hl y_X2_may v_X2_may q2261 (k_X2_may (F 6) (g_b (s_isMsg F X v)) 0) (hM.rc hX.2.2.2) hM rfl ⟨Nat.le_of_ble_eq_true rfl, Nat.le_of_ble_eq_true rfl⟩ ⟨Nat.le_refl _, Nat.le_refl _⟩ (rest := []) (st1 := [.int (g_b (decide (s_may (F 6) (g_b (s_isMsg F X v)) 0 = 0)))]) rfl rfl (Nat.le_of_ble_eq_true rfl) dX2_drop_29 hS (fun _ h => h) (fun H locs hM hS _ => ?_)
      have hmy : s_may (F 6) (g_b (s_isMsg F X v)) 0 = t9 := by first | exact hbad | (rw [← hbad]; simp [g_b, c_13]; done) | (rw [← hbad]; simp only [g_b, c_13]; rfl) | (rw [← hbad]; grind [g_b])
      rw [hmy] at hM ⊢
      refine g_if_neB (tgt := 37) hx hb (b := decide (t9 = 0)) rfl dX2_drop_32 (by decide) (fun c_32 => ?_) (fun c_32 => ?_)
      · exact Bool.noConfusion ((decide_eq_false ht9).symm.trans c_32)
      skip
      refine lv_iconst (v := 0) hx hb dX2_drop_35 rfl ?_
      exact hret H locs _ _ _ _ _ dX2_drop_36 hS (Nat.le_refl _) (Nat.le_refl _) (⟨rfl, hM⟩)
    · skip
      obtain ⟨j9, hj9, rfl, hF9⟩ := s_isMsg_nat c_13 hWc
      have hM69 := (hWc hF9).2.1.2
      have hcl9 : (nI j9).toNatClampNeg = j9 := nI_clamp (by omega)
      refine lv_aload_n hx hb dX2_drop_16 rfl (lv_at hl 1 rfl) ?_
      refine lv_iload_n hx hb dX2_drop_17 rfl (lv_at hl 2 rfl) ?_
      refine g_cRV hX hl y_X2_isUnderWay v_X2_isUnderWay q2382 (k_X2_isUnderWay j9 (by omega)) (hM.rc hX.2.2.2) hM rfl ⟨Nat.le_of_ble_eq_true rfl, Nat.le_of_ble_eq_true rfl⟩ ⟨Nat.zero_le _, Nat.zero_le _⟩ (rest := [.int (g_b (s_isMsg F X (nI j9))), .int (F 6), .ref (ad 0)]) (st1 := [.int (g_b (decide (X (3 + j9) 4 = -1))), .int (g_b (s_isMsg F X (nI j9))), .int (F 6), .ref (ad 0)]) rfl rfl (Nat.le_of_ble_eq_true rfl) dX2_drop_18 ?_
      refine g_if_neB (tgt := 28) hx hb (b := decide (X (3 + j9) 4 = -1)) rfl dX2_drop_21 (by decide) (fun c_21 => ?_) (fun c_21 => ?_)
      · skip
        refine lv_iconst (v := 0) hx hb dX2_drop_28 rfl ?_
        refine g_cMV hX hl y_X2_may v_X2_may q2261 (k_X2_may (F 6) (g_b (s_isMsg F X (nI j9))) 0) (hM.rc hX.2.2.2) hM rfl ⟨Nat.le_of_ble_eq_true rfl, Nat.le_of_ble_eq_true rfl⟩ ⟨Nat.le_refl _, Nat.le_refl _⟩ (rest := []) (st1 := [.int (g_b (decide (s_may (F 6) (g_b (s_isMsg F X (nI j9))) 0 = 0)))]) rfl rfl (Nat.le_of_ble_eq_true rfl) dX2_drop_29 hS (fun _ h => h) (fun H locs hM hS _ => ?_)
        have hmy : s_may (F 6) (g_b (s_isMsg F X (nI j9))) 0 = t9 := by first | exact hbad | (rw [← hbad]; simp [g_b, c_13, hcl9, c_21]; done) | (rw [← hbad]; simp only [g_b, c_13, hcl9, c_21]; rfl) | (rw [← hbad]; grind [g_b])
        rw [hmy] at hM ⊢
        refine g_if_neB (tgt := 37) hx hb (b := decide (t9 = 0)) rfl dX2_drop_32 (by decide) (fun c_32 => ?_) (fun c_32 => ?_)
        · exact Bool.noConfusion ((decide_eq_false ht9).symm.trans c_32)
        skip
        refine lv_iconst (v := 0) hx hb dX2_drop_35 rfl ?_
        exact hret H locs _ _ _ _ _ dX2_drop_36 hS (Nat.le_refl _) (Nat.le_refl _) (⟨rfl, hM⟩)
      · skip
        refine lv_iconst (v := 1) hx hb dX2_drop_24 rfl ?_
        refine lv_goto (tgt := 29) hx hb dX2_drop_25 (by decide) ?_
        refine g_cMV hX hl y_X2_may v_X2_may q2261 (k_X2_may (F 6) (g_b (s_isMsg F X (nI j9))) 1) (hM.rc hX.2.2.2) hM rfl ⟨Nat.le_of_ble_eq_true rfl, Nat.le_of_ble_eq_true rfl⟩ ⟨Nat.le_refl _, Nat.le_refl _⟩ (rest := []) (st1 := [.int (g_b (decide (s_may (F 6) (g_b (s_isMsg F X (nI j9))) 1 = 0)))]) rfl rfl (Nat.le_of_ble_eq_true rfl) dX2_drop_29 hS (fun _ h => h) (fun H locs hM hS _ => ?_)
        have hmy : s_may (F 6) (g_b (s_isMsg F X (nI j9))) 1 = t9 := by first | exact hbad | (rw [← hbad]; simp [g_b, c_13, hcl9, c_21]; done) | (rw [← hbad]; simp only [g_b, c_13, hcl9, c_21]; rfl) | (rw [← hbad]; grind [g_b])
        rw [hmy] at hM ⊢
        refine g_if_neB (tgt := 37) hx hb (b := decide (t9 = 0)) rfl dX2_drop_32 (by decide) (fun c_32 => ?_) (fun c_32 => ?_)
        · exact Bool.noConfusion ((decide_eq_false ht9).symm.trans c_32)
        skip
        refine lv_iconst (v := 0) hx hb dX2_drop_35 rfl ?_
        exact hret H locs _ _ _ _ _ dX2_drop_36 hS (Nat.le_refl _) (Nat.le_refl _) (⟨rfl, hM⟩)
  exact key _ _ hM hS

theorem y_X2_undo : g_Y yX2_undo cX2_undo 1 (some .int) 0 := ⟨q2886, by decide +kernel⟩
theorem v_X2_undo : g_YV yX2_undo := ⟨q2884, q2885, q140⟩
set_option maxHeartbeats 4000000 in
theorem ok_X2_undo {G : g_G} {l : Launch} {ad : Nat → Nat} {F : Nat → Int32} {X Y : g_Wd} {U V : Nat → g_Wd} {Z : g_Wd} (u : Nat) (hu : F 7 = nI u) (hu1 : 1 ≤ u) (hu8 : u ≤ 8) : g_Md G l yX2_undo cX2_undo 1 (some .int) 1 0 0 [.ref (ad 0)] (g_Mod G ad F X Y U V Z) (g_Qv (some (.int (nI (u - 1)))) (g_Mod G ad (upd (upd F 0 0) 7 (nI (u - 1))) (U (u - 1)) Y U V Z)) (md_A ad) := by
  refine g_Md.ofI (by decide) (fun _ _ _ => rfl) ?_
  intro p e s m args below meth c ls Q hX hM hl hS hret
  have hx := hX.1.1
  have hb := hX.1.2.1
  have hl : lv_has ls 1 [(0, .ref (ad 0))] := hl
  have key : ∀ (H : Heap) (locs : List Loc), g_Mod G ad F X Y U V Z H → va_S (md_A ad) s.heap H locs → W p l e (g_rm 1 0 0) s m args below meth c H locs 0 0 Q (F0 m 0 ls []) := by
    intro H locs hM hS
    refine lv_aload_n hx hb dX2_undo_0 rfl (lv_at hl 0 rfl) ?_
    refine lv_aload_n hx hb dX2_undo_1 rfl (lv_at hl 0 rfl) ?_
    refine g_getM hX hM 7 (by decide) q2170 rfl (v := .int (F 7)) rfl dX2_undo_2 ?_
    refine g_if_leN (tgt := 12) hx hb u hu (by omega) dX2_undo_5 (by decide) (fun c_5 => ?_) (fun c_5 => ?_)
    · exact absurd c_5 (by omega)
    skip
    refine lv_iconst (v := 1) hx hb dX2_undo_8 rfl ?_
    refine lv_goto (tgt := 13) hx hb dX2_undo_9 (by decide) ?_
    refine lv_iconst (v := 1) hx hb dX2_undo_13 rfl ?_
    refine lv_iconst (v := 1) hx hb dX2_undo_14 rfl ?_
    refine g_cMV hX hl y_X2_may v_X2_may q2261 (k_X2_may 1 1 1) (hM.rc hX.2.2.2) hM rfl ⟨Nat.le_of_ble_eq_true rfl, Nat.le_of_ble_eq_true rfl⟩ ⟨Nat.le_refl _, Nat.le_refl _⟩ (rest := []) (st1 := [.int (g_b (decide (s_may 1 1 1 = 0)))]) rfl rfl (Nat.le_of_ble_eq_true rfl) dX2_undo_15 hS (fun _ h => h) (fun H locs hM hS _ => ?_)
    have hmy : s_may 1 1 1 = 0 := s_may_ok (by decide) (by decide) (by decide)
    rw [hmy] at hM ⊢
    refine g_if_neB (tgt := 23) hx hb (b := decide ((0 : Int32) = 0)) rfl dX2_undo_18 (by decide) (fun c_18 => ?_) (fun c_18 => ?_)
    rotate_left
    · exact Bool.noConfusion ((rfl : decide ((0 : Int32) = 0) = true).symm.trans c_18)
    refine lv_aload_n hx hb dX2_undo_23 rfl (lv_at hl 0 rfl) ?_
    refine lv_dup hx hb dX2_undo_24 rfl ?_
    refine g_getM hX hM 7 (by decide) q2170 rfl (v := .int (F 7)) rfl dX2_undo_25 ?_
    refine lv_iconst (v := 1) hx hb dX2_undo_28 rfl ?_
    refine g_isubN hx hb u 1 hu rfl (by omega) dX2_undo_29 ?_
    refine g_putM hX hM hS 7 (by decide) q2170 rfl rfl (x := (nI (u - 1))) rfl rfl (F' := upd (upd F 0 0) 7 (nI (u - 1))) rfl dX2_undo_30 (fun H locs hM hS => ?_)
    refine lv_aload_n hx hb dX2_undo_33 rfl (lv_at hl 0 rfl) ?_
    refine g_getM hX hM 3 (by decide) q2166 rfl (v := .ref (ad 3)) rfl dX2_undo_34 ?_
    refine lv_aload_n hx hb dX2_undo_37 rfl (lv_at hl 0 rfl) ?_
    refine g_getM hX hM 7 (by decide) q2170 rfl (v := .int (nI (u - 1))) rfl dX2_undo_38 ?_
    refine lv_sipush (v := 1576) hx hb dX2_undo_41 (by decide) ?_
    refine g_imulN hx hb (u - 1) 1576 rfl rfl dX2_undo_44 ?_
    refine lv_aload_n hx hb dX2_undo_45 rfl (lv_at hl 0 rfl) ?_
    refine g_getM hX hM 1 (by decide) q2164 rfl (v := .ref (ad 1)) rfl dX2_undo_46 ?_
    refine lv_iconst (v := 0) hx hb dX2_undo_49 rfl ?_
    refine g_cMS hX hl y_X2_lays v_X2_lays q2269 (k_X2_lays (ad 3) (ad 1) 12608 1576 ((u - 1) * 1576) 0 (g_fls U) (g_fl X) (hM.ne (by decide) (by decide) (by decide)) (by omega) (by omega) (by decide) (by decide)) ⟨hM.a3, hM.a1⟩ rfl ⟨Nat.le_of_ble_eq_true rfl, Nat.le_of_ble_eq_true rfl⟩ ⟨Nat.le_refl _, Nat.le_refl _⟩ (rest := []) (st1 := []) rfl rfl (Nat.le_of_ble_eq_true rfl) dX2_undo_50 hS (fun z h => by rw [h]; exact md_A.at (by decide)) (fun H1 locs h9 hS o9 => ?_)
    replace hM : g_Mod G ad (upd (upd F 0 0) 7 (nI (u - 1))) (U (u - 1)) Y U V Z H1 := hM.l31 (u := (u - 1)) h9 o9.2
    clear h9 o9
    revert hM hS
    generalize H1 = H
    intro hS hM
    refine lv_aload_n hx hb dX2_undo_53 rfl (lv_at hl 0 rfl) ?_
    refine g_getM hX hM 7 (by decide) q2170 rfl (v := .int (nI (u - 1))) rfl dX2_undo_54 ?_
    exact hret H locs _ _ _ _ _ dX2_undo_57 hS (Nat.le_refl _) (Nat.le_refl _) (⟨rfl, hM⟩)
  exact key _ _ hM hS

set_option maxHeartbeats 4000000 in
theorem no_X2_undo {G : g_G} {l : Launch} {ad : Nat → Nat} {F : Nat → Int32} {X Y : g_Wd} {U V : Nat → g_Wd} {Z : g_Wd} (t9 : Int32) (ht9 : ¬ t9 = 0) (hbad : 1 = t9) (hu : F 7 = 0) : g_Md G l yX2_undo cX2_undo 1 (some .int) 1 0 0 [.ref (ad 0)] (g_Mod G ad F X Y U V Z) (g_Qv (some (.int 0)) (g_Mod G ad (upd F 0 t9) X Y U V Z)) (md_A ad) := by
  refine g_Md.ofI (by decide) (fun _ _ _ => rfl) ?_
  intro p e s m args below meth c ls Q hX hM hl hS hret
  have hx := hX.1.1
  have hb := hX.1.2.1
  have hl : lv_has ls 1 [(0, .ref (ad 0))] := hl
  have key : ∀ (H : Heap) (locs : List Loc), g_Mod G ad F X Y U V Z H → va_S (md_A ad) s.heap H locs → W p l e (g_rm 1 0 0) s m args below meth c H locs 0 0 Q (F0 m 0 ls []) := by
    intro H locs hM hS
    refine lv_aload_n hx hb dX2_undo_0 rfl (lv_at hl 0 rfl) ?_
    refine lv_aload_n hx hb dX2_undo_1 rfl (lv_at hl 0 rfl) ?_
    refine g_getM hX hM 7 (by decide) q2170 rfl (v := .int (F 7)) rfl dX2_undo_2 ?_
    refine lv_if_le (tgt := 12) hx hb dX2_undo_5 (by decide) (fun c_5 => ?_) (fun c_5 => ?_)
    rotate_left
    · exact absurd c_5 (by rw [hu]; decide)
    refine lv_iconst (v := 0) hx hb dX2_undo_12 rfl ?_
    refine lv_iconst (v := 1) hx hb dX2_undo_13 rfl ?_
    refine lv_iconst (v := 1) hx hb dX2_undo_14 rfl ?_
    refine g_cMV hX hl y_X2_may v_X2_may q2261 (k_X2_may 0 1 1) (hM.rc hX.2.2.2) hM rfl ⟨Nat.le_of_ble_eq_true rfl, Nat.le_of_ble_eq_true rfl⟩ ⟨Nat.le_refl _, Nat.le_refl _⟩ (rest := []) (st1 := [.int (g_b (decide (s_may 0 1 1 = 0)))]) rfl rfl (Nat.le_of_ble_eq_true rfl) dX2_undo_15 hS (fun _ h => h) (fun H locs hM hS _ => ?_)
    have hmy : s_may 0 1 1 = t9 := by first | exact hbad | (rw [← hbad]; simp [g_b, g_b]; done) | (rw [← hbad]; simp only [g_b, g_b]; rfl) | (rw [← hbad]; grind [g_b])
    rw [hmy] at hM ⊢
    refine g_if_neB (tgt := 23) hx hb (b := decide (t9 = 0)) rfl dX2_undo_18 (by decide) (fun c_18 => ?_) (fun c_18 => ?_)
    · exact Bool.noConfusion ((decide_eq_false ht9).symm.trans c_18)
    skip
    refine lv_iconst (v := 0) hx hb dX2_undo_21 rfl ?_
    exact hret H locs _ _ _ _ _ dX2_undo_22 hS (Nat.le_refl _) (Nat.le_refl _) (⟨rfl, hM⟩)
  exact key _ _ hM hS

theorem y_X2_undoable : g_Y yX2_undoable cX2_undoable 1 (some .int) 0 := ⟨q2890, by decide +kernel⟩
theorem v_X2_undoable : g_YV yX2_undoable := ⟨q2888, q2889, q140⟩
set_option maxHeartbeats 4000000 in
theorem k_X2_undoable {G : g_G} {l : Launch} {ad : Nat → Nat} {F : Nat → Int32} {X Y : g_Wd} {U V : Nat → g_Wd} {Z : g_Wd}   : g_Md G l yX2_undoable cX2_undoable 1 (some .int) 0 0 0 [.ref (ad 0)] (g_Mod G ad F X Y U V Z) (g_Qv (some (.int (F 7))) (g_Mod G ad (upd F 0 0) X Y U V Z)) (md_A ad) := by
  refine g_Md.ofI (by decide) (fun _ _ _ => rfl) ?_
  intro p e s m args below meth c ls Q hX hM hl hS hret
  have hx := hX.1.1
  have hb := hX.1.2.1
  have hl : lv_has ls 1 [(0, .ref (ad 0))] := hl
  have key : ∀ (H : Heap) (locs : List Loc), g_Mod G ad F X Y U V Z H → va_S (md_A ad) s.heap H locs → W p l e (g_rm 0 0 0) s m args below meth c H locs 0 0 Q (F0 m 0 ls []) := by
    intro H locs hM hS
    refine lv_aload_n hx hb dX2_undoable_0 rfl (lv_at hl 0 rfl) ?_
    refine lv_iconst (v := 0) hx hb dX2_undoable_1 rfl ?_
    refine g_putM hX hM hS 0 (by decide) q2163 rfl rfl (x := 0) rfl rfl (F' := upd F 0 0) rfl dX2_undoable_2 (fun H locs hM hS => ?_)
    refine lv_aload_n hx hb dX2_undoable_5 rfl (lv_at hl 0 rfl) ?_
    refine g_getM hX hM 7 (by decide) q2170 rfl (v := .int ((upd F 0 0) 7)) rfl dX2_undoable_6 ?_
    exact hret H locs _ _ _ _ _ dX2_undoable_9 hS (Nat.le_refl _) (Nat.le_refl _) (⟨rfl, hM⟩)
  exact key _ _ hM hS

theorem y_X2_thrown : g_Y yX2_thrown cX2_thrown 1 (some .int) 0 := ⟨q2233, by decide +kernel⟩
theorem v_X2_thrown : g_YV yX2_thrown := ⟨q2231, q2232, q140⟩
set_option maxHeartbeats 4000000 in
theorem k_X2_thrown {G : g_G} {l : Launch} {ad : Nat → Nat} {F : Nat → Int32} {X Y : g_Wd} {U V : Nat → g_Wd} {Z : g_Wd}   : g_Rd G l yX2_thrown cX2_thrown 1 (some .int) 0 [.ref (ad 0)] (g_Mod G ad F X Y U V Z) (some (.int (F 0))) := by
  refine g_Rd.ofI (by decide) rfl ?_
  intro p e s m args below meth c ls Q hX hM hl hret
  have hx := hX.1.1
  have hb := hX.1.2.1
  have hl : lv_has ls 1 [(0, .ref (ad 0))] := hl
  refine lv_aload_n hx hb dX2_thrown_0 rfl (lv_at hl 0 rfl) ?_
  refine g_getM hX hM 0 (by decide) q2163 rfl (v := .int (F 0)) rfl dX2_thrown_1 ?_
  exact hret _ _ _ dX2_thrown_4 (rfl)

theorem y_X2_save : g_Y yX2_save cX2_save 2 (some .int) 1 := ⟨q2894, by decide +kernel⟩
theorem v_X2_save : g_YV yX2_save := ⟨q2892, q2893, q140⟩
set_option maxHeartbeats 4000000 in
theorem ok_X2_save {G : g_G} {l : Launch} {ad : Nat → Nat} {F : Nat → Int32} {X Y : g_Wd} {U V : Nat → g_Wd} {Z : g_Wd} (q : Nat) (hF : ¬ F 6 = 0) (hwl : s_wl X) (hwk : s_wk X) (hs : q < 2) : g_Md G l yX2_save cX2_save 2 (some .int) 2 0 0 [.ref (ad 0), .int (nI q)] (g_Mod G ad F X Y U V Z) (g_Qv (some (.int (X 0 2))) (g_Mod G ad (upd F 0 0) X Y U (va_up V q X) (g_up2 Z 5 q 1))) (md_A ad) := by
  refine g_Md.ofI (by decide) (fun _ _ _ => rfl) ?_
  intro p e s m args below meth c ls Q hX hM hl hS hret
  have hx := hX.1.1
  have hb := hX.1.2.1
  have hl : lv_has ls 2 [(0, .ref (ad 0)), (1, .int (nI q))] := hl
  have key : ∀ (H : Heap) (locs : List Loc), g_Mod G ad F X Y U V Z H → va_S (md_A ad) s.heap H locs → W p l e (g_rm 2 0 0) s m args below meth c H locs 0 0 Q (F0 m 0 ls []) := by
    intro H locs hM hS
    have hW := hwl.1
    have hWc : ¬ F 6 = 0 → s_ok X := fun _ => hW
    have hW9 := hW
    obtain ⟨⟨hL0, hL2, hL6⟩, ⟨hM0, hM6⟩, ⟨hG0, hG40⟩, hok⟩ := hW9
    have hw9 : s_W X ≤ 45 := by unfold s_W; omega
    have hin : s_in (nI q) 0 1 = true := s_in_le (show q ≤ 1 by omega) (by decide)
    refine lv_aload_n hx hb dX2_save_0 rfl (lv_at hl 0 rfl) ?_
    refine lv_aload_n hx hb dX2_save_1 rfl (lv_at hl 0 rfl) ?_
    refine g_getM hX hM 6 (by decide) q2169 rfl (v := .int (F 6)) rfl dX2_save_2 ?_
    refine lv_iload_n hx hb dX2_save_5 rfl (lv_at hl 1 rfl) ?_
    refine g_cRS hX hl y_X2_isSlot v_X2_isSlot q2895 (k_X2_isSlot (nI q)) trivial rfl ⟨Nat.le_of_ble_eq_true rfl, Nat.le_of_ble_eq_true rfl⟩ ⟨Nat.zero_le _, Nat.zero_le _⟩ (rest := [.int (F 6), .ref (ad 0)]) (st1 := [.int (g_b (s_in (nI q) 0 1)), .int (F 6), .ref (ad 0)]) rfl rfl (Nat.le_of_ble_eq_true rfl) dX2_save_6 ?_
    refine g_cMV hX hl y_X2_mayTwo v_X2_mayTwo q2501 (k_X2_mayTwo (F 6) (g_b (s_in (nI q) 0 1))) (hM.rc hX.2.2.2) hM rfl ⟨Nat.le_of_ble_eq_true rfl, Nat.le_of_ble_eq_true rfl⟩ ⟨Nat.le_refl _, Nat.le_refl _⟩ (rest := []) (st1 := [.int (g_b (decide (s_may (F 6) (g_b (s_in (nI q) 0 1)) 1 = 0)))]) rfl rfl (Nat.le_of_ble_eq_true rfl) dX2_save_9 hS (fun _ h => h) (fun H locs hM hS _ => ?_)
    have hmy : s_may (F 6) (g_b (s_in (nI q) 0 1)) 1 = 0 := s_may_ok hF (g_b_ne hin) (by decide)
    rw [hmy] at hM ⊢
    refine g_if_neB (tgt := 17) hx hb (b := decide ((0 : Int32) = 0)) rfl dX2_save_12 (by decide) (fun c_12 => ?_) (fun c_12 => ?_)
    rotate_left
    · exact Bool.noConfusion ((rfl : decide ((0 : Int32) = 0) = true).symm.trans c_12)
    refine lv_aload_n hx hb dX2_save_17 rfl (lv_at hl 0 rfl) ?_
    refine g_getM hX hM 1 (by decide) q2164 rfl (v := .ref (ad 1)) rfl dX2_save_18 ?_
    refine lv_iconst (v := 0) hx hb dX2_save_21 rfl ?_
    refine lv_aload_n hx hb dX2_save_22 rfl (lv_at hl 0 rfl) ?_
    refine g_getM hX hM 4 (by decide) q2167 rfl (v := .ref (ad 4)) rfl dX2_save_23 ?_
    refine lv_iload_n hx hb dX2_save_26 rfl (lv_at hl 1 rfl) ?_
    refine lv_sipush (v := 1576) hx hb dX2_save_27 (by decide) ?_
    refine g_imulN hx hb q 1576 rfl rfl dX2_save_30 ?_
    refine g_cMS hX hl y_X2_lays v_X2_lays q2269 (k_X2_lays (ad 1) (ad 4) 1576 3152 0 (q * 1576) (g_fl X) (g_fls V) (hM.ne (by decide) (by decide) (by decide)) (by omega) (by omega) (by decide) (by decide)) ⟨hM.a1, hM.a4⟩ rfl ⟨Nat.le_of_ble_eq_true rfl, Nat.le_of_ble_eq_true rfl⟩ ⟨Nat.le_refl _, Nat.le_refl _⟩ (rest := []) (st1 := []) rfl rfl (Nat.le_of_ble_eq_true rfl) dX2_save_31 hS (fun z h => by rw [h]; exact md_A.at (by decide)) (fun H1 locs h9 hS o9 => ?_)
    replace hM : g_Mod G ad (upd F 0 0) X Y U (va_up V q X) Z H1 := hM.l14 (u := q) h9 o9.2
    clear h9 o9
    revert hM hS
    generalize H1 = H
    intro hS hM
    refine lv_aload_n hx hb dX2_save_34 rfl (lv_at hl 0 rfl) ?_
    refine g_getM hX hM 5 (by decide) q2168 rfl (v := .ref (ad 5)) rfl dX2_save_35 ?_
    refine lv_iload_n hx hb dX2_save_38 rfl (lv_at hl 1 rfl) ?_
    refine lv_iconst (v := 1) hx hb dX2_save_39 rfl ?_
    refine g_stZ5 hX hM hS q rfl (by omega) (x' := 1) (by rfl) dX2_save_40 (fun H locs hM hS => ?_)
    refine lv_aload_n hx hb dX2_save_41 rfl (lv_at hl 0 rfl) ?_
    refine g_getM hX hM 1 (by decide) q2164 rfl (v := .ref (ad 1)) rfl dX2_save_42 ?_
    refine lv_iconst (v := 2) hx hb dX2_save_45 rfl ?_
    refine g_iald hX hM.a1 2 rfl (by omega) (by decide) (v := (X 0 2)) rfl dX2_save_46 ?_
    exact hret H locs _ _ _ _ _ dX2_save_47 hS (Nat.le_refl _) (Nat.le_refl _) (⟨rfl, hM⟩)
  exact key _ _ hM hS

set_option maxHeartbeats 4000000 in
theorem no_X2_save {G : g_G} {l : Launch} {ad : Nat → Nat} {F : Nat → Int32} {X Y : g_Wd} {U V : Nat → g_Wd} {Z : g_Wd} (t9 : Int32) (q : Int32) (ht9 : ¬ t9 = 0) (hbad : s_may (F 6) (g_b (s_in q 0 1)) 1 = t9) (hWc : ¬ F 6 = 0 → s_ok X) : g_Md G l yX2_save cX2_save 2 (some .int) 2 0 0 [.ref (ad 0), .int q] (g_Mod G ad F X Y U V Z) (g_Qv (some (.int 0)) (g_Mod G ad (upd F 0 t9) X Y U V Z)) (md_A ad) := by
  refine g_Md.ofI (by decide) (fun _ _ _ => rfl) ?_
  intro p e s m args below meth c ls Q hX hM hl hS hret
  have hx := hX.1.1
  have hb := hX.1.2.1
  have hl : lv_has ls 2 [(0, .ref (ad 0)), (1, .int q)] := hl
  have key : ∀ (H : Heap) (locs : List Loc), g_Mod G ad F X Y U V Z H → va_S (md_A ad) s.heap H locs → W p l e (g_rm 2 0 0) s m args below meth c H locs 0 0 Q (F0 m 0 ls []) := by
    intro H locs hM hS
    refine lv_aload_n hx hb dX2_save_0 rfl (lv_at hl 0 rfl) ?_
    refine lv_aload_n hx hb dX2_save_1 rfl (lv_at hl 0 rfl) ?_
    refine g_getM hX hM 6 (by decide) q2169 rfl (v := .int (F 6)) rfl dX2_save_2 ?_
    refine lv_iload_n hx hb dX2_save_5 rfl (lv_at hl 1 rfl) ?_
    refine g_cRS hX hl y_X2_isSlot v_X2_isSlot q2895 (k_X2_isSlot q) trivial rfl ⟨Nat.le_of_ble_eq_true rfl, Nat.le_of_ble_eq_true rfl⟩ ⟨Nat.zero_le _, Nat.zero_le _⟩ (rest := [.int (F 6), .ref (ad 0)]) (st1 := [.int (g_b (s_in q 0 1)), .int (F 6), .ref (ad 0)]) rfl rfl (Nat.le_of_ble_eq_true rfl) dX2_save_6 ?_
    refine g_cMV hX hl y_X2_mayTwo v_X2_mayTwo q2501 (k_X2_mayTwo (F 6) (g_b (s_in q 0 1))) (hM.rc hX.2.2.2) hM rfl ⟨Nat.le_of_ble_eq_true rfl, Nat.le_of_ble_eq_true rfl⟩ ⟨Nat.le_refl _, Nat.le_refl _⟩ (rest := []) (st1 := [.int (g_b (decide (s_may (F 6) (g_b (s_in q 0 1)) 1 = 0)))]) rfl rfl (Nat.le_of_ble_eq_true rfl) dX2_save_9 hS (fun _ h => h) (fun H locs hM hS _ => ?_)
    have hmy : s_may (F 6) (g_b (s_in q 0 1)) 1 = t9 := by first | exact hbad | (rw [← hbad]; simp [g_b, g_b]; done) | (rw [← hbad]; simp only [g_b, g_b]; rfl) | (rw [← hbad]; grind [g_b])
    rw [hmy] at hM ⊢
    refine g_if_neB (tgt := 17) hx hb (b := decide (t9 = 0)) rfl dX2_save_12 (by decide) (fun c_12 => ?_) (fun c_12 => ?_)
    · exact Bool.noConfusion ((decide_eq_false ht9).symm.trans c_12)
    skip
    refine lv_iconst (v := 0) hx hb dX2_save_15 rfl ?_
    exact hret H locs _ _ _ _ _ dX2_save_16 hS (Nat.le_refl _) (Nat.le_refl _) (⟨rfl, hM⟩)
  exact key _ _ hM hS

theorem y_X2_restore : g_Y yX2_restore cX2_restore 3 (some .int) 1 := ⟨q2901, by decide +kernel⟩
theorem v_X2_restore : g_YV yX2_restore := ⟨q2899, q2900, q140⟩
set_option maxHeartbeats 4000000 in
theorem ok_X2_restore {G : g_G} {l : Launch} {ad : Nat → Nat} {F : Nat → Int32} {X Y : g_Wd} {U V : Nat → g_Wd} {Z : g_Wd} (q : Nat) (hs : q < 2) (hz : ¬ Z 5 q = 0) : g_Md G l yX2_restore cX2_restore 3 (some .int) 2 0 0 [.ref (ad 0), .int (nI q)] (g_Mod G ad F X Y U V Z) (g_Qv (some (.int (V q 0 2))) (g_Mod G ad (upd (upd F 0 0) 7 0) (V q) Y U V Z)) (md_A ad) := by
  refine g_Md.ofI (by decide) (fun _ _ _ => rfl) ?_
  intro p e s m args below meth c ls Q hX hM hl hS hret
  have hx := hX.1.1
  have hb := hX.1.2.1
  have hl : lv_has ls 3 [(0, .ref (ad 0)), (1, .int (nI q))] := hl
  have key : ∀ (H : Heap) (locs : List Loc), g_Mod G ad F X Y U V Z H → va_S (md_A ad) s.heap H locs → W p l e (g_rm 2 0 0) s m args below meth c H locs 0 0 Q (F0 m 0 ls []) := by
    intro H locs hM hS
    have hin : s_in (nI q) 0 1 = true := s_in_le (show q ≤ 1 by omega) (by decide)
    refine lv_iload_n hx hb dX2_restore_0 rfl (lv_at hl 1 rfl) ?_
    refine g_cRS hX hl y_X2_isSlot v_X2_isSlot q2895 (k_X2_isSlot (nI q)) trivial rfl ⟨Nat.le_of_ble_eq_true rfl, Nat.le_of_ble_eq_true rfl⟩ ⟨Nat.zero_le _, Nat.zero_le _⟩ (rest := []) (st1 := [.int (g_b (s_in (nI q) 0 1))]) rfl rfl (Nat.le_of_ble_eq_true rfl) dX2_restore_1 ?_
    refine lv_istore_n (lv' := [(2, .int (g_b (s_in (nI q) 0 1))), (0, .ref (ad 0)), (1, .int (nI q))]) hx hb dX2_restore_4 rfl hl (by decide) rfl (fun ls hl => ?_)
    refine lv_aload_n hx hb dX2_restore_5 rfl (lv_at hl 1 rfl) ?_
    refine lv_iload_n hx hb dX2_restore_6 rfl (lv_at hl 0 rfl) ?_
    refine lv_iload_n hx hb dX2_restore_7 rfl (lv_at hl 0 rfl) ?_
    refine g_if_eqB (tgt := 24) hx hb (b := s_in (nI q) 0 1) rfl dX2_restore_8 (by decide) (fun c_8 => ?_) (fun c_8 => ?_)
    · exact Bool.noConfusion (hin.symm.trans c_8)
    skip
    refine lv_aload_n hx hb dX2_restore_11 rfl (lv_at hl 1 rfl) ?_
    refine g_getM hX hM 5 (by decide) q2168 rfl (v := .ref (ad 5)) rfl dX2_restore_12 ?_
    refine lv_iload_n hx hb dX2_restore_15 rfl (lv_at hl 2 rfl) ?_
    refine g_zald hX hM.a5 q rfl (by omega) (by decide) (v := (Z 5 q)) rfl dX2_restore_16 ?_
    refine lv_if_eq (tgt := 24) hx hb dX2_restore_17 (by decide) (fun c_17 => ?_) (fun c_17 => ?_)
    · exact absurd c_17 (hz)
    skip
    refine lv_iconst (v := 1) hx hb dX2_restore_20 rfl ?_
    refine lv_goto (tgt := 25) hx hb dX2_restore_21 (by decide) ?_
    refine g_cMV hX hl y_X2_mayTwo v_X2_mayTwo q2501 (k_X2_mayTwo (g_b (s_in (nI q) 0 1)) 1) (hM.rc hX.2.2.2) hM rfl ⟨Nat.le_of_ble_eq_true rfl, Nat.le_of_ble_eq_true rfl⟩ ⟨Nat.le_refl _, Nat.le_refl _⟩ (rest := []) (st1 := [.int (g_b (decide (s_may (g_b (s_in (nI q) 0 1)) 1 1 = 0)))]) rfl rfl (Nat.le_of_ble_eq_true rfl) dX2_restore_25 hS (fun _ h => h) (fun H locs hM hS _ => ?_)
    have hmy : s_may (g_b (s_in (nI q) 0 1)) 1 1 = 0 := s_may_ok (g_b_ne hin) (by decide) (by decide)
    rw [hmy] at hM ⊢
    refine g_if_neB (tgt := 33) hx hb (b := decide ((0 : Int32) = 0)) rfl dX2_restore_28 (by decide) (fun c_28 => ?_) (fun c_28 => ?_)
    rotate_left
    · exact Bool.noConfusion ((rfl : decide ((0 : Int32) = 0) = true).symm.trans c_28)
    refine lv_aload_n hx hb dX2_restore_33 rfl (lv_at hl 1 rfl) ?_
    refine g_getM hX hM 4 (by decide) q2167 rfl (v := .ref (ad 4)) rfl dX2_restore_34 ?_
    refine lv_iload_n hx hb dX2_restore_37 rfl (lv_at hl 2 rfl) ?_
    refine lv_sipush (v := 1576) hx hb dX2_restore_38 (by decide) ?_
    refine g_imulN hx hb q 1576 rfl rfl dX2_restore_41 ?_
    refine lv_aload_n hx hb dX2_restore_42 rfl (lv_at hl 1 rfl) ?_
    refine g_getM hX hM 1 (by decide) q2164 rfl (v := .ref (ad 1)) rfl dX2_restore_43 ?_
    refine lv_iconst (v := 0) hx hb dX2_restore_46 rfl ?_
    refine g_cMS hX hl y_X2_lays v_X2_lays q2269 (k_X2_lays (ad 4) (ad 1) 3152 1576 (q * 1576) 0 (g_fls V) (g_fl X) (hM.ne (by decide) (by decide) (by decide)) (by omega) (by omega) (by decide) (by decide)) ⟨hM.a4, hM.a1⟩ rfl ⟨Nat.le_of_ble_eq_true rfl, Nat.le_of_ble_eq_true rfl⟩ ⟨Nat.le_refl _, Nat.le_refl _⟩ (rest := []) (st1 := []) rfl rfl (Nat.le_of_ble_eq_true rfl) dX2_restore_47 hS (fun z h => by rw [h]; exact md_A.at (by decide)) (fun H1 locs h9 hS o9 => ?_)
    replace hM : g_Mod G ad (upd F 0 0) (V q) Y U V Z H1 := hM.l41 (u := q) h9 o9.2
    clear h9 o9
    revert hM hS
    generalize H1 = H
    intro hS hM
    refine lv_aload_n hx hb dX2_restore_50 rfl (lv_at hl 1 rfl) ?_
    refine lv_iconst (v := 0) hx hb dX2_restore_51 rfl ?_
    refine g_putM hX hM hS 7 (by decide) q2170 rfl rfl (x := 0) rfl rfl (F' := upd (upd F 0 0) 7 0) rfl dX2_restore_52 (fun H locs hM hS => ?_)
    refine lv_aload_n hx hb dX2_restore_55 rfl (lv_at hl 1 rfl) ?_
    refine g_getM hX hM 1 (by decide) q2164 rfl (v := .ref (ad 1)) rfl dX2_restore_56 ?_
    refine lv_iconst (v := 2) hx hb dX2_restore_59 rfl ?_
    refine g_iald hX hM.a1 2 rfl (by omega) (by decide) (v := ((V q) 0 2)) rfl dX2_restore_60 ?_
    exact hret H locs _ _ _ _ _ dX2_restore_61 hS (Nat.le_refl _) (Nat.le_refl _) (⟨rfl, hM⟩)
  exact key _ _ hM hS

set_option maxHeartbeats 4000000 in
theorem no_X2_restore {G : g_G} {l : Launch} {ad : Nat → Nat} {F : Nat → Int32} {X Y : g_Wd} {U V : Nat → g_Wd} {Z : g_Wd} (t9 : Int32) (q : Int32) (ht9 : ¬ t9 = 0) (hbad : s_may (g_b (s_in q 0 1)) (g_b (s_in q 0 1 && !decide (Z 5 q.toNatClampNeg = 0))) 1 = t9) : g_Md G l yX2_restore cX2_restore 3 (some .int) 2 0 0 [.ref (ad 0), .int q] (g_Mod G ad F X Y U V Z) (g_Qv (some (.int 0)) (g_Mod G ad (upd F 0 t9) X Y U V Z)) (md_A ad) := by
  refine g_Md.ofI (by decide) (fun _ _ _ => rfl) ?_
  intro p e s m args below meth c ls Q hX hM hl hS hret
  have hx := hX.1.1
  have hb := hX.1.2.1
  have hl : lv_has ls 3 [(0, .ref (ad 0)), (1, .int q)] := hl
  have key : ∀ (H : Heap) (locs : List Loc), g_Mod G ad F X Y U V Z H → va_S (md_A ad) s.heap H locs → W p l e (g_rm 2 0 0) s m args below meth c H locs 0 0 Q (F0 m 0 ls []) := by
    intro H locs hM hS
    refine lv_iload_n hx hb dX2_restore_0 rfl (lv_at hl 1 rfl) ?_
    refine g_cRS hX hl y_X2_isSlot v_X2_isSlot q2895 (k_X2_isSlot q) trivial rfl ⟨Nat.le_of_ble_eq_true rfl, Nat.le_of_ble_eq_true rfl⟩ ⟨Nat.zero_le _, Nat.zero_le _⟩ (rest := []) (st1 := [.int (g_b (s_in q 0 1))]) rfl rfl (Nat.le_of_ble_eq_true rfl) dX2_restore_1 ?_
    refine lv_istore_n (lv' := [(2, .int (g_b (s_in q 0 1))), (0, .ref (ad 0)), (1, .int q)]) hx hb dX2_restore_4 rfl hl (by decide) rfl (fun ls hl => ?_)
    refine lv_aload_n hx hb dX2_restore_5 rfl (lv_at hl 1 rfl) ?_
    refine lv_iload_n hx hb dX2_restore_6 rfl (lv_at hl 0 rfl) ?_
    refine lv_iload_n hx hb dX2_restore_7 rfl (lv_at hl 0 rfl) ?_
    refine g_if_eqB (tgt := 24) hx hb (b := s_in q 0 1) rfl dX2_restore_8 (by decide) (fun c_8 => ?_) (fun c_8 => ?_)
    · skip
      refine lv_iconst (v := 0) hx hb dX2_restore_24 rfl ?_
      refine g_cMV hX hl y_X2_mayTwo v_X2_mayTwo q2501 (k_X2_mayTwo (g_b (s_in q 0 1)) 0) (hM.rc hX.2.2.2) hM rfl ⟨Nat.le_of_ble_eq_true rfl, Nat.le_of_ble_eq_true rfl⟩ ⟨Nat.le_refl _, Nat.le_refl _⟩ (rest := []) (st1 := [.int (g_b (decide (s_may (g_b (s_in q 0 1)) 0 1 = 0)))]) rfl rfl (Nat.le_of_ble_eq_true rfl) dX2_restore_25 hS (fun _ h => h) (fun H locs hM hS _ => ?_)
      have hmy : s_may (g_b (s_in q 0 1)) 0 1 = t9 := by first | exact hbad | (rw [← hbad]; simp [g_b, c_8]; done) | (rw [← hbad]; simp only [g_b, c_8]; rfl) | (rw [← hbad]; grind [g_b])
      rw [hmy] at hM ⊢
      refine g_if_neB (tgt := 33) hx hb (b := decide (t9 = 0)) rfl dX2_restore_28 (by decide) (fun c_28 => ?_) (fun c_28 => ?_)
      · exact Bool.noConfusion ((decide_eq_false ht9).symm.trans c_28)
      skip
      refine lv_iconst (v := 0) hx hb dX2_restore_31 rfl ?_
      exact hret H locs _ _ _ _ _ dX2_restore_32 hS (Nat.le_refl _) (Nat.le_refl _) (⟨rfl, hM⟩)
    · skip
      obtain ⟨j9, hj9, rfl⟩ := s_in_01 c_8
      have hcl9 : (nI j9).toNatClampNeg = j9 := nI_clamp (by omega)
      refine lv_aload_n hx hb dX2_restore_11 rfl (lv_at hl 1 rfl) ?_
      refine g_getM hX hM 5 (by decide) q2168 rfl (v := .ref (ad 5)) rfl dX2_restore_12 ?_
      refine lv_iload_n hx hb dX2_restore_15 rfl (lv_at hl 2 rfl) ?_
      refine g_zald hX hM.a5 j9 rfl (by omega) (by decide) (v := (Z 5 j9)) rfl dX2_restore_16 ?_
      refine lv_if_eq (tgt := 24) hx hb dX2_restore_17 (by decide) (fun c_17 => ?_) (fun c_17 => ?_)
      · skip
        refine lv_iconst (v := 0) hx hb dX2_restore_24 rfl ?_
        refine g_cMV hX hl y_X2_mayTwo v_X2_mayTwo q2501 (k_X2_mayTwo (g_b (s_in (nI j9) 0 1)) 0) (hM.rc hX.2.2.2) hM rfl ⟨Nat.le_of_ble_eq_true rfl, Nat.le_of_ble_eq_true rfl⟩ ⟨Nat.le_refl _, Nat.le_refl _⟩ (rest := []) (st1 := [.int (g_b (decide (s_may (g_b (s_in (nI j9) 0 1)) 0 1 = 0)))]) rfl rfl (Nat.le_of_ble_eq_true rfl) dX2_restore_25 hS (fun _ h => h) (fun H locs hM hS _ => ?_)
        have hmy : s_may (g_b (s_in (nI j9) 0 1)) 0 1 = t9 := by first | exact hbad | (rw [← hbad]; simp [g_b, c_8, hcl9, c_17]; done) | (rw [← hbad]; simp only [g_b, c_8, hcl9, c_17]; rfl) | (rw [← hbad]; grind [g_b])
        rw [hmy] at hM ⊢
        refine g_if_neB (tgt := 33) hx hb (b := decide (t9 = 0)) rfl dX2_restore_28 (by decide) (fun c_28 => ?_) (fun c_28 => ?_)
        · exact Bool.noConfusion ((decide_eq_false ht9).symm.trans c_28)
        skip
        refine lv_iconst (v := 0) hx hb dX2_restore_31 rfl ?_
        exact hret H locs _ _ _ _ _ dX2_restore_32 hS (Nat.le_refl _) (Nat.le_refl _) (⟨rfl, hM⟩)
      · skip
        refine lv_iconst (v := 1) hx hb dX2_restore_20 rfl ?_
        refine lv_goto (tgt := 25) hx hb dX2_restore_21 (by decide) ?_
        refine g_cMV hX hl y_X2_mayTwo v_X2_mayTwo q2501 (k_X2_mayTwo (g_b (s_in (nI j9) 0 1)) 1) (hM.rc hX.2.2.2) hM rfl ⟨Nat.le_of_ble_eq_true rfl, Nat.le_of_ble_eq_true rfl⟩ ⟨Nat.le_refl _, Nat.le_refl _⟩ (rest := []) (st1 := [.int (g_b (decide (s_may (g_b (s_in (nI j9) 0 1)) 1 1 = 0)))]) rfl rfl (Nat.le_of_ble_eq_true rfl) dX2_restore_25 hS (fun _ h => h) (fun H locs hM hS _ => ?_)
        have hmy : s_may (g_b (s_in (nI j9) 0 1)) 1 1 = t9 := by first | exact hbad | (rw [← hbad]; simp [g_b, c_8, hcl9, c_17]; done) | (rw [← hbad]; simp only [g_b, c_8, hcl9, c_17]; rfl) | (rw [← hbad]; grind [g_b])
        rw [hmy] at hM ⊢
        refine g_if_neB (tgt := 33) hx hb (b := decide (t9 = 0)) rfl dX2_restore_28 (by decide) (fun c_28 => ?_) (fun c_28 => ?_)
        · exact Bool.noConfusion ((decide_eq_false ht9).symm.trans c_28)
        skip
        refine lv_iconst (v := 0) hx hb dX2_restore_31 rfl ?_
        exact hret H locs _ _ _ _ _ dX2_restore_32 hS (Nat.le_refl _) (Nat.le_refl _) (⟨rfl, hM⟩)
  exact key _ _ hM hS
