/-! THE MODEL: the lines of a text -/
set_option maxRecDepth 100000
theorem y_X2_readsStorm : g_Y yX2_readsStorm cX2_readsStorm 6 none 0 := ⟨q2323, by decide +kernel⟩
theorem v_X2_readsStorm : g_YV yX2_readsStorm := ⟨q2322, qs53, q140⟩
set_option maxHeartbeats 4000000 in
theorem k_X2_readsStorm {G : g_G} {l : Launch} {ad : Nat → Nat} {F : Nat → Int32} {X Y : g_Wd} {U V : Nat → g_Wd} {Z : g_Wd}  (P : g_P) (n : Nat) (hn : F 12 = nI n) (hn4 : n ≤ 400) (hp : p_ok n P) (hwl : s_wl X) : g_Md G l yX2_readsStorm cX2_readsStorm 6 none 4 0 0 [.ref (ad 0)] (g_Mod G ad (p_F F P) X Y U V Z) (g_Qv none (g_Mod G ad (p_F F (r_l5 (Z 8) n X P)) (r_stX (Z 8) n X P) Y U V Z)) (md_A ad) := by
  refine g_Md.ofV (by decide) ?_
  intro p e s m args below meth c ls Q hX hM hl hS hret
  have hx := hX.1.1
  have hb := hX.1.2.1
  have hl : lv_has ls 6 [(0, .ref (ad 0))] := hl
  have key : ∀ (H : Heap) (locs : List Loc), g_Mod G ad (p_F F P) X Y U V Z H → va_S (md_A ad) s.heap H locs → W p l e (g_rm 4 0 0) s m args below meth c H locs 0 0 Q (F0 m 0 ls []) := by
    intro H locs hM hS
    have hpc : P.1 ≤ 3 := hp.1
    have hpu : P.2.2.1 ≤ n := hp.2.1
    have hps : P.2.2.2.1 ≤ P.2.2.1 := hp.2.2.1
    have hpt : P.2.2.2.2 ≤ 4 := hp.2.2.2.1
    have hW := hwl.1
    have hW9 := hW
    obtain ⟨⟨hL0, hL2, hL6⟩, ⟨hM0, hM6⟩, ⟨hG0, hG40⟩, hok⟩ := hW9
    have hw9 : s_W X ≤ 45 := by unfold s_W; omega
    refine lv_aload_n hx hb dX2_readsStorm_0 rfl (lv_at hl 0 rfl) ?_
    refine g_cMV hX hl y_X2_goes v_X2_goes q2276 (k_X2_goes P n hn hn4 (p_ok.w hp)) (hM.rc hX.2.2.2) hM rfl ⟨Nat.le_of_ble_eq_true rfl, Nat.le_of_ble_eq_true rfl⟩ ⟨Nat.le_refl _, Nat.le_refl _⟩ (rest := []) (st1 := []) rfl rfl (Nat.le_of_ble_eq_true rfl) dX2_readsStorm_1 hS (fun _ h => h) (fun H locs hM hS _ => ?_)
    obtain ⟨P_1, hP_1⟩ : ∃ z, z = q_goes (Z 8) n P := ⟨_, rfl⟩
    rw [← hP_1] at hM
    have hpP_1 : p_ok n P_1 := by rw [hP_1]; exact q_goes_ok hp
    have hcP_1 : P_1.1 ≤ 3 := hpP_1.1
    have hsP_1 : P_1.2.2.2.1 ≤ P_1.2.2.1 := hpP_1.2.2.1
    have huP_1 : P_1.2.2.1 ≤ n := hpP_1.2.1
    refine lv_aload_n hx hb dX2_readsStorm_4 rfl (lv_at hl 0 rfl) ?_
    refine lv_iconst (v := 0) hx hb dX2_readsStorm_5 rfl ?_
    refine lv_aload_n hx hb dX2_readsStorm_6 rfl (lv_at hl 0 rfl) ?_
    refine g_getM hX hM 1 (by decide) q2164 rfl (v := .ref (ad 1)) rfl dX2_readsStorm_7 ?_
    refine lv_iconst (v := 0) hx hb dX2_readsStorm_10 rfl ?_
    refine g_iald hX hM.a1 0 rfl (by omega) (by decide) (v := (X 0 0)) rfl dX2_readsStorm_11 ?_
    refine lv_iconst (v := 2) hx hb dX2_readsStorm_12 rfl ?_
    refine g_isubN hx hb (s_L X) 2 hL0 rfl (by omega) dX2_readsStorm_13 ?_
    refine g_cMV hX hl y_X2_number v_X2_number q2303 (k_X2_number 0 (nI (s_L X - 2)) P_1 n hn hn4 hpP_1) (hM.rc hX.2.2.2) hM rfl ⟨Nat.le_of_ble_eq_true rfl, Nat.le_of_ble_eq_true rfl⟩ ⟨Nat.le_refl _, Nat.le_refl _⟩ (rest := []) (st1 := [.int (q_nV (Z 8) P_1 0 (nI (s_L X - 2)))]) rfl rfl (Nat.le_of_ble_eq_true rfl) dX2_readsStorm_14 hS (fun _ h => h) (fun H locs hM hS _ => ?_)
    obtain ⟨v_2, hv_2⟩ : ∃ z, z = (q_nV (Z 8) P_1 0 (nI (s_L X - 2))) := ⟨_, rfl⟩
    rw [← hv_2]
    obtain ⟨P_3, hP_3⟩ : ∃ z, z = q_num (Z 8) n P_1 0 (nI (s_L X - 2)) := ⟨_, rfl⟩
    rw [← hP_3] at hM
    have hpP_3 : p_ok n P_3 := by rw [hP_3]; exact q_num_ok hpP_1
    have hcP_3 : P_3.1 ≤ 3 := hpP_3.1
    have hsP_3 : P_3.2.2.2.1 ≤ P_3.2.2.1 := hpP_3.2.2.1
    have huP_3 : P_3.2.2.1 ≤ n := hpP_3.2.1
    refine lv_istore_n (lv' := [(1, .int v_2), (0, .ref (ad 0))]) hx hb dX2_readsStorm_17 rfl hl (by decide) rfl (fun ls hl => ?_)
    refine lv_aload_n hx hb dX2_readsStorm_18 rfl (lv_at hl 1 rfl) ?_
    refine lv_iconst (v := 0) hx hb dX2_readsStorm_19 rfl ?_
    refine lv_iconst (v := 2) hx hb dX2_readsStorm_20 rfl ?_
    refine g_cMV hX hl y_X2_number v_X2_number q2303 (k_X2_number 0 2 P_3 n hn hn4 hpP_3) (hM.rc hX.2.2.2) hM rfl ⟨Nat.le_of_ble_eq_true rfl, Nat.le_of_ble_eq_true rfl⟩ ⟨Nat.le_refl _, Nat.le_refl _⟩ (rest := []) (st1 := [.int (q_nV (Z 8) P_3 0 2)]) rfl rfl (Nat.le_of_ble_eq_true rfl) dX2_readsStorm_21 hS (fun _ h => h) (fun H locs hM hS _ => ?_)
    obtain ⟨v_4, hv_4⟩ : ∃ z, z = (q_nV (Z 8) P_3 0 2) := ⟨_, rfl⟩
    rw [← hv_4]
    obtain ⟨P_5, hP_5⟩ : ∃ z, z = q_num (Z 8) n P_3 0 2 := ⟨_, rfl⟩
    rw [← hP_5] at hM
    have hpP_5 : p_ok n P_5 := by rw [hP_5]; exact q_num_ok hpP_3
    have hcP_5 : P_5.1 ≤ 3 := hpP_5.1
    have hsP_5 : P_5.2.2.2.1 ≤ P_5.2.2.1 := hpP_5.2.2.1
    have huP_5 : P_5.2.2.1 ≤ n := hpP_5.2.1
    refine lv_istore_n (lv' := [(2, .int v_4), (1, .int v_2), (0, .ref (ad 0))]) hx hb dX2_readsStorm_24 rfl hl (by decide) rfl (fun ls hl => ?_)
    refine lv_aload_n hx hb dX2_readsStorm_25 rfl (lv_at hl 2 rfl) ?_
    refine lv_iconst (v := 0) hx hb dX2_readsStorm_26 rfl ?_
    refine lv_iconst (v := 2) hx hb dX2_readsStorm_27 rfl ?_
    refine g_cMV hX hl y_X2_number v_X2_number q2303 (k_X2_number 0 2 P_5 n hn hn4 hpP_5) (hM.rc hX.2.2.2) hM rfl ⟨Nat.le_of_ble_eq_true rfl, Nat.le_of_ble_eq_true rfl⟩ ⟨Nat.le_refl _, Nat.le_refl _⟩ (rest := []) (st1 := [.int (q_nV (Z 8) P_5 0 2)]) rfl rfl (Nat.le_of_ble_eq_true rfl) dX2_readsStorm_28 hS (fun _ h => h) (fun H locs hM hS _ => ?_)
    obtain ⟨v_6, hv_6⟩ : ∃ z, z = (q_nV (Z 8) P_5 0 2) := ⟨_, rfl⟩
    rw [← hv_6]
    obtain ⟨P_7, hP_7⟩ : ∃ z, z = q_num (Z 8) n P_5 0 2 := ⟨_, rfl⟩
    rw [← hP_7] at hM
    have hpP_7 : p_ok n P_7 := by rw [hP_7]; exact q_num_ok hpP_5
    have hcP_7 : P_7.1 ≤ 3 := hpP_7.1
    have hsP_7 : P_7.2.2.2.1 ≤ P_7.2.2.1 := hpP_7.2.2.1
    have huP_7 : P_7.2.2.1 ≤ n := hpP_7.2.1
    refine lv_istore_n (lv' := [(3, .int v_6), (2, .int v_4), (1, .int v_2), (0, .ref (ad 0))]) hx hb dX2_readsStorm_31 rfl hl (by decide) rfl (fun ls hl => ?_)
    refine lv_aload_n hx hb dX2_readsStorm_32 rfl (lv_at hl 3 rfl) ?_
    refine lv_iconst (v := 0) hx hb dX2_readsStorm_33 rfl ?_
    refine lv_bipush (v := 9) hx hb dX2_readsStorm_34 (by decide) ?_
    refine g_cMV hX hl y_X2_number v_X2_number q2303 (k_X2_number 0 9 P_7 n hn hn4 hpP_7) (hM.rc hX.2.2.2) hM rfl ⟨Nat.le_of_ble_eq_true rfl, Nat.le_of_ble_eq_true rfl⟩ ⟨Nat.le_refl _, Nat.le_refl _⟩ (rest := []) (st1 := [.int (q_nV (Z 8) P_7 0 9)]) rfl rfl (Nat.le_of_ble_eq_true rfl) dX2_readsStorm_36 hS (fun _ h => h) (fun H locs hM hS _ => ?_)
    obtain ⟨v_8, hv_8⟩ : ∃ z, z = (q_nV (Z 8) P_7 0 9) := ⟨_, rfl⟩
    rw [← hv_8]
    obtain ⟨P_9, hP_9⟩ : ∃ z, z = q_num (Z 8) n P_7 0 9 := ⟨_, rfl⟩
    rw [← hP_9] at hM
    have hpP_9 : p_ok n P_9 := by rw [hP_9]; exact q_num_ok hpP_7
    have hcP_9 : P_9.1 ≤ 3 := hpP_9.1
    have hsP_9 : P_9.2.2.2.1 ≤ P_9.2.2.1 := hpP_9.2.2.1
    have huP_9 : P_9.2.2.1 ≤ n := hpP_9.2.1
    refine lv_istore (lv' := [(4, .int v_8), (3, .int v_6), (2, .int v_4), (1, .int v_2), (0, .ref (ad 0))]) hx hb dX2_readsStorm_39 hl (by decide) rfl (fun ls hl => ?_)
    refine lv_aload_n hx hb dX2_readsStorm_41 rfl (lv_at hl 4 rfl) ?_
    refine lv_iconst (v := 0) hx hb dX2_readsStorm_42 rfl ?_
    refine lv_bipush (v := 9) hx hb dX2_readsStorm_43 (by decide) ?_
    refine g_cMV hX hl y_X2_number v_X2_number q2303 (k_X2_number 0 9 P_9 n hn hn4 hpP_9) (hM.rc hX.2.2.2) hM rfl ⟨Nat.le_of_ble_eq_true rfl, Nat.le_of_ble_eq_true rfl⟩ ⟨Nat.le_refl _, Nat.le_refl _⟩ (rest := []) (st1 := [.int (q_nV (Z 8) P_9 0 9)]) rfl rfl (Nat.le_of_ble_eq_true rfl) dX2_readsStorm_45 hS (fun _ h => h) (fun H locs hM hS _ => ?_)
    obtain ⟨v_10, hv_10⟩ : ∃ z, z = (q_nV (Z 8) P_9 0 9) := ⟨_, rfl⟩
    rw [← hv_10]
    obtain ⟨P_11, hP_11⟩ : ∃ z, z = q_num (Z 8) n P_9 0 9 := ⟨_, rfl⟩
    rw [← hP_11] at hM
    have hpP_11 : p_ok n P_11 := by rw [hP_11]; exact q_num_ok hpP_9
    have hcP_11 : P_11.1 ≤ 3 := hpP_11.1
    have hsP_11 : P_11.2.2.2.1 ≤ P_11.2.2.1 := hpP_11.2.2.1
    have huP_11 : P_11.2.2.1 ≤ n := hpP_11.2.1
    refine lv_istore (lv' := [(5, .int v_10), (4, .int v_8), (3, .int v_6), (2, .int v_4), (1, .int v_2), (0, .ref (ad 0))]) hx hb dX2_readsStorm_48 hl (by decide) rfl (fun ls hl => ?_)
    refine lv_aload_n hx hb dX2_readsStorm_50 rfl (lv_at hl 5 rfl) ?_
    refine g_getM hX hM 10 (by decide) q2173 rfl (v := .int (nI P_11.1)) rfl dX2_readsStorm_51 ?_
    refine g_if_neN (tgt := 71) hx hb P_11.1 rfl (by omega) dX2_readsStorm_54 (by decide) (fun c_54 => ?_) (fun c_54 => ?_)
    · skip
      have eP : r_l5 (Z 8) n X P = P_11 := by subst hP_11 hv_10 hP_9 hv_8 hP_7 hv_6 hP_5 hv_4 hP_3 hv_2 hP_1; rfl
      have eX : r_stX (Z 8) n X P = X := by unfold r_stX; rw [eP]; (first | (rw [if_pos (by omega)]; done) | (rw [if_pos (by omega)]; subst hP_11 hv_10 hP_9 hv_8 hP_7 hv_6 hP_5 hv_4 hP_3 hv_2 hP_1; rfl) | (rw [if_neg (by omega)]; done) | (rw [if_neg (by omega)]; subst hP_11 hv_10 hP_9 hv_8 hP_7 hv_6 hP_5 hv_4 hP_3 hv_2 hP_1; rfl)); first | done | (subst hP_11 hv_10 hP_9 hv_8 hP_7 hv_6 hP_5 hv_4 hP_3 hv_2 hP_1; rfl)
      exact hret H locs _ _ _ _ dX2_readsStorm_71 hS (Nat.le_refl _) (Nat.le_refl _) ⟨rfl, by rw [eP, eX]; exact hM⟩
    · skip
      have hz0 : P_11.1 = 0 := by omega
      have hz1 := q_nn (b := Z 8) (n := n) (P := P_9) (lo := 0) (hi := 9) (k := 9) (by rw [← hP_11]; exact hz0) (by decide) (by rfl) (by omega)
      have hz2 := q_nn (b := Z 8) (n := n) (P := P_7) (lo := 0) (hi := 9) (k := 9) (by rw [← hP_9]; exact hz1.2.2) (by decide) (by rfl) (by omega)
      have hz3 := q_nn (b := Z 8) (n := n) (P := P_5) (lo := 0) (hi := 2) (k := 2) (by rw [← hP_7]; exact hz2.2.2) (by decide) (by rfl) (by omega)
      rw [hv_6, hz3.1] at hl
      have hz3b := hz3.2.1
      have hz4 := q_nn (b := Z 8) (n := n) (P := P_3) (lo := 0) (hi := 2) (k := 2) (by rw [← hP_5]; exact hz3.2.2) (by decide) (by rfl) (by omega)
      rw [hv_4, hz4.1] at hl
      have hz4b := hz4.2.1
      have hz5 := q_nn (b := Z 8) (n := n) (P := P_1) (lo := 0) (hi := (nI (s_L X - 2))) (k := s_L X - 2) (by rw [← hP_3]; exact hz4.2.2) (by decide) (by rfl) (by omega)
      rw [hv_2, hz5.1] at hl
      have hz5b := hz5.2.1
      refine lv_aload_n hx hb dX2_readsStorm_57 rfl (lv_at hl 5 rfl) ?_
      refine lv_iload_n hx hb dX2_readsStorm_58 rfl (lv_at hl 4 rfl) ?_
      refine lv_iload_n hx hb dX2_readsStorm_59 rfl (lv_at hl 3 rfl) ?_
      refine lv_iload_n hx hb dX2_readsStorm_60 rfl (lv_at hl 2 rfl) ?_
      refine g_cRS hX hl y_X2_wireOf v_X2_wireOf q2324 (k_X2_wireOf (q_n (Z 8) P_1 0 (nI (s_L X - 2))) (q_n (Z 8) P_3 0 2) (q_n (Z 8) P_5 0 2)) trivial rfl ⟨Nat.le_of_ble_eq_true rfl, Nat.le_of_ble_eq_true rfl⟩ ⟨Nat.zero_le _, Nat.zero_le _⟩ (rest := [.ref (ad 0)]) (st1 := [.int (nI (9 * (q_n (Z 8) P_1 0 (nI (s_L X - 2))) + 3 * (q_n (Z 8) P_3 0 2) + (q_n (Z 8) P_5 0 2))), .ref (ad 0)]) rfl rfl (Nat.le_of_ble_eq_true rfl) dX2_readsStorm_61 ?_
      refine lv_iload hx hb dX2_readsStorm_64 (lv_at hl 1 rfl) ?_
      refine lv_iload hx hb dX2_readsStorm_66 (lv_at hl 0 rfl) ?_
      refine g_cMV hX hl y_X2_storms v_X2_storms q2327 (k_X2_storms (9 * (q_n (Z 8) P_1 0 (nI (s_L X - 2))) + 3 * (q_n (Z 8) P_3 0 2) + (q_n (Z 8) P_5 0 2)) v_8 v_10 (by omega)) (hM.rc hX.2.2.2) hM rfl ⟨Nat.le_of_ble_eq_true rfl, Nat.le_of_ble_eq_true rfl⟩ ⟨Nat.le_refl _, Nat.le_refl _⟩ (rest := []) (st1 := []) rfl rfl (Nat.le_of_ble_eq_true rfl) dX2_readsStorm_68 hS (fun _ h => h) (fun H locs hM hS _ => ?_)
      have eP : r_l5 (Z 8) n X P = P_11 := by subst hP_11 hv_10 hP_9 hv_8 hP_7 hv_6 hP_5 hv_4 hP_3 hv_2 hP_1; rfl
      have eX : r_stX (Z 8) n X P = x_storms X (9 * (q_n (Z 8) P_1 0 (nI (s_L X - 2))) + 3 * (q_n (Z 8) P_3 0 2) + (q_n (Z 8) P_5 0 2)) v_8 v_10 := by unfold r_stX; rw [eP]; (first | (rw [if_pos (by omega)]; done) | (rw [if_pos (by omega)]; subst hP_11 hv_10 hP_9 hv_8 hP_7 hv_6 hP_5 hv_4 hP_3 hv_2 hP_1; rfl) | (rw [if_neg (by omega)]; done) | (rw [if_neg (by omega)]; subst hP_11 hv_10 hP_9 hv_8 hP_7 hv_6 hP_5 hv_4 hP_3 hv_2 hP_1; rfl)); first | done | (subst hP_11 hv_10 hP_9 hv_8 hP_7 hv_6 hP_5 hv_4 hP_3 hv_2 hP_1; rfl)
      exact hret H locs _ _ _ _ dX2_readsStorm_71 hS (Nat.le_refl _) (Nat.le_refl _) ⟨rfl, by rw [eP, eX]; exact hM⟩
  exact key _ _ hM hS

theorem y_X2_readsCut : g_Y yX2_readsCut cX2_readsCut 5 none 1 := ⟨q2339, by decide +kernel⟩
theorem v_X2_readsCut : g_YV yX2_readsCut := ⟨q2338, qs56, q140⟩
set_option maxHeartbeats 4000000 in
theorem k_X2_readsCut {G : g_G} {l : Launch} {ad : Nat → Nat} {F : Nat → Int32} {X Y : g_Wd} {U V : Nat → g_Wd} {Z : g_Wd} (c0 : Nat) (P : g_P) (n : Nat) (hn : F 12 = nI n) (hn4 : n ≤ 400) (hp : p_ok n P) (hwl : s_wl X) (hc0 : c0 ≤ 1) : g_Md G l yX2_readsCut cX2_readsCut 5 none 4 0 0 [.ref (ad 0), .int (nI c0)] (g_Mod G ad (p_F F P) X Y U V Z) (g_Qv none (g_Mod G ad (p_F F (q_goes (Z 8) n (r_c4 (Z 8) n X P c0))) (r_cuX (Z 8) n X P c0) Y U V Z)) (md_A ad) := by
  refine g_Md.ofV (by decide) ?_
  intro p e s m args below meth c ls Q hX hM hl hS hret
  have hx := hX.1.1
  have hb := hX.1.2.1
  have hl : lv_has ls 5 [(0, .ref (ad 0)), (1, .int (nI c0))] := hl
  have key : ∀ (H : Heap) (locs : List Loc), g_Mod G ad (p_F F P) X Y U V Z H → va_S (md_A ad) s.heap H locs → W p l e (g_rm 4 0 0) s m args below meth c H locs 0 0 Q (F0 m 0 ls []) := by
    intro H locs hM hS
    have hpc : P.1 ≤ 3 := hp.1
    have hpu : P.2.2.1 ≤ n := hp.2.1
    have hps : P.2.2.2.1 ≤ P.2.2.1 := hp.2.2.1
    have hpt : P.2.2.2.2 ≤ 4 := hp.2.2.2.1
    have hW := hwl.1
    have hW9 := hW
    obtain ⟨⟨hL0, hL2, hL6⟩, ⟨hM0, hM6⟩, ⟨hG0, hG40⟩, hok⟩ := hW9
    have hw9 : s_W X ≤ 45 := by unfold s_W; omega
    refine lv_aload_n hx hb dX2_readsCut_0 rfl (lv_at hl 0 rfl) ?_
    refine g_cMV hX hl y_X2_goes v_X2_goes q2276 (k_X2_goes P n hn hn4 (p_ok.w hp)) (hM.rc hX.2.2.2) hM rfl ⟨Nat.le_of_ble_eq_true rfl, Nat.le_of_ble_eq_true rfl⟩ ⟨Nat.le_refl _, Nat.le_refl _⟩ (rest := []) (st1 := []) rfl rfl (Nat.le_of_ble_eq_true rfl) dX2_readsCut_1 hS (fun _ h => h) (fun H locs hM hS _ => ?_)
    obtain ⟨P_1, hP_1⟩ : ∃ z, z = q_goes (Z 8) n P := ⟨_, rfl⟩
    rw [← hP_1] at hM
    have hpP_1 : p_ok n P_1 := by rw [hP_1]; exact q_goes_ok hp
    have hcP_1 : P_1.1 ≤ 3 := hpP_1.1
    have hsP_1 : P_1.2.2.2.1 ≤ P_1.2.2.1 := hpP_1.2.2.1
    have huP_1 : P_1.2.2.1 ≤ n := hpP_1.2.1
    refine lv_aload_n hx hb dX2_readsCut_4 rfl (lv_at hl 0 rfl) ?_
    refine lv_iconst (v := 0) hx hb dX2_readsCut_5 rfl ?_
    refine lv_aload_n hx hb dX2_readsCut_6 rfl (lv_at hl 0 rfl) ?_
    refine g_getM hX hM 1 (by decide) q2164 rfl (v := .ref (ad 1)) rfl dX2_readsCut_7 ?_
    refine lv_iconst (v := 0) hx hb dX2_readsCut_10 rfl ?_
    refine g_iald hX hM.a1 0 rfl (by omega) (by decide) (v := (X 0 0)) rfl dX2_readsCut_11 ?_
    refine lv_iconst (v := 2) hx hb dX2_readsCut_12 rfl ?_
    refine g_isubN hx hb (s_L X) 2 hL0 rfl (by omega) dX2_readsCut_13 ?_
    refine g_cMV hX hl y_X2_number v_X2_number q2303 (k_X2_number 0 (nI (s_L X - 2)) P_1 n hn hn4 hpP_1) (hM.rc hX.2.2.2) hM rfl ⟨Nat.le_of_ble_eq_true rfl, Nat.le_of_ble_eq_true rfl⟩ ⟨Nat.le_refl _, Nat.le_refl _⟩ (rest := []) (st1 := [.int (q_nV (Z 8) P_1 0 (nI (s_L X - 2)))]) rfl rfl (Nat.le_of_ble_eq_true rfl) dX2_readsCut_14 hS (fun _ h => h) (fun H locs hM hS _ => ?_)
    obtain ⟨v_2, hv_2⟩ : ∃ z, z = (q_nV (Z 8) P_1 0 (nI (s_L X - 2))) := ⟨_, rfl⟩
    rw [← hv_2]
    obtain ⟨P_3, hP_3⟩ : ∃ z, z = q_num (Z 8) n P_1 0 (nI (s_L X - 2)) := ⟨_, rfl⟩
    rw [← hP_3] at hM
    have hpP_3 : p_ok n P_3 := by rw [hP_3]; exact q_num_ok hpP_1
    have hcP_3 : P_3.1 ≤ 3 := hpP_3.1
    have hsP_3 : P_3.2.2.2.1 ≤ P_3.2.2.1 := hpP_3.2.2.1
    have huP_3 : P_3.2.2.1 ≤ n := hpP_3.2.1
    refine lv_istore_n (lv' := [(2, .int v_2), (0, .ref (ad 0)), (1, .int (nI c0))]) hx hb dX2_readsCut_17 rfl hl (by decide) rfl (fun ls hl => ?_)
    refine lv_aload_n hx hb dX2_readsCut_18 rfl (lv_at hl 1 rfl) ?_
    refine lv_iconst (v := 0) hx hb dX2_readsCut_19 rfl ?_
    refine lv_iconst (v := 2) hx hb dX2_readsCut_20 rfl ?_
    refine g_cMV hX hl y_X2_number v_X2_number q2303 (k_X2_number 0 2 P_3 n hn hn4 hpP_3) (hM.rc hX.2.2.2) hM rfl ⟨Nat.le_of_ble_eq_true rfl, Nat.le_of_ble_eq_true rfl⟩ ⟨Nat.le_refl _, Nat.le_refl _⟩ (rest := []) (st1 := [.int (q_nV (Z 8) P_3 0 2)]) rfl rfl (Nat.le_of_ble_eq_true rfl) dX2_readsCut_21 hS (fun _ h => h) (fun H locs hM hS _ => ?_)
    obtain ⟨v_4, hv_4⟩ : ∃ z, z = (q_nV (Z 8) P_3 0 2) := ⟨_, rfl⟩
    rw [← hv_4]
    obtain ⟨P_5, hP_5⟩ : ∃ z, z = q_num (Z 8) n P_3 0 2 := ⟨_, rfl⟩
    rw [← hP_5] at hM
    have hpP_5 : p_ok n P_5 := by rw [hP_5]; exact q_num_ok hpP_3
    have hcP_5 : P_5.1 ≤ 3 := hpP_5.1
    have hsP_5 : P_5.2.2.2.1 ≤ P_5.2.2.1 := hpP_5.2.2.1
    have huP_5 : P_5.2.2.1 ≤ n := hpP_5.2.1
    refine lv_istore_n (lv' := [(3, .int v_4), (2, .int v_2), (0, .ref (ad 0)), (1, .int (nI c0))]) hx hb dX2_readsCut_24 rfl hl (by decide) rfl (fun ls hl => ?_)
    refine lv_aload_n hx hb dX2_readsCut_25 rfl (lv_at hl 2 rfl) ?_
    refine lv_iconst (v := 0) hx hb dX2_readsCut_26 rfl ?_
    refine lv_iconst (v := 2) hx hb dX2_readsCut_27 rfl ?_
    refine g_cMV hX hl y_X2_numberHere v_X2_numberHere q2307 (k_X2_numberHere 0 2 P_5 n hn hn4 hpP_5) (hM.rc hX.2.2.2) hM rfl ⟨Nat.le_of_ble_eq_true rfl, Nat.le_of_ble_eq_true rfl⟩ ⟨Nat.le_refl _, Nat.le_refl _⟩ (rest := []) (st1 := [.int (q_nV (Z 8) P_5 0 2)]) rfl rfl (Nat.le_of_ble_eq_true rfl) dX2_readsCut_28 hS (fun _ h => h) (fun H locs hM hS _ => ?_)
    obtain ⟨v_6, hv_6⟩ : ∃ z, z = (q_nV (Z 8) P_5 0 2) := ⟨_, rfl⟩
    rw [← hv_6]
    obtain ⟨P_7, hP_7⟩ : ∃ z, z = q_nH (Z 8) P_5 0 2 := ⟨_, rfl⟩
    rw [← hP_7] at hM
    have hpP_7 : p_ok n P_7 := by rw [hP_7]; exact q_nH_ok hpP_5
    have hcP_7 : P_7.1 ≤ 3 := hpP_7.1
    have hsP_7 : P_7.2.2.2.1 ≤ P_7.2.2.1 := hpP_7.2.2.1
    have huP_7 : P_7.2.2.1 ≤ n := hpP_7.2.1
    refine lv_istore (lv' := [(4, .int v_6), (3, .int v_4), (2, .int v_2), (0, .ref (ad 0)), (1, .int (nI c0))]) hx hb dX2_readsCut_31 hl (by decide) rfl (fun ls hl => ?_)
    have eC : r_c3 (Z 8) n X P = P_7 := by subst hP_7 hv_6 hP_5 hv_4 hP_3 hv_2 hP_1; rfl
    refine lv_aload_n hx hb dX2_readsCut_33 rfl (lv_at hl 3 rfl) ?_
    refine g_getM hX hM 10 (by decide) q2173 rfl (v := .int (nI P_7.1)) rfl dX2_readsCut_34 ?_
    refine g_if_neN (tgt := 61) hx hb P_7.1 rfl (by omega) dX2_readsCut_37 (by decide) (fun c_37 => ?_) (fun c_37 => ?_)
    · skip
      have e61 : r_c4 (Z 8) n X P c0 = P_7 := by unfold r_c4; rw [eC, if_neg (fun z => by omega)]
      rw [← e61] at hM
      obtain ⟨P_8, hP_8⟩ : ∃ z, z = r_c4 (Z 8) n X P c0 := ⟨_, rfl⟩
      rw [← hP_8] at hM
      have hpP_8 : p_ok n P_8 := by rw [hP_8]; exact r_c4_ok hp
      have hcP_8 : P_8.1 ≤ 3 := hpP_8.1
      have hsP_8 : P_8.2.2.2.1 ≤ P_8.2.2.1 := hpP_8.2.2.1
      have huP_8 : P_8.2.2.1 ≤ n := hpP_8.2.1
      have e61b : P_8 = P_7 := by rw [hP_8]; exact e61
      refine lv_aload_n hx hb dX2_readsCut_61 rfl (lv_at hl 3 rfl) ?_
      refine g_getM hX hM 10 (by decide) q2173 rfl (v := .int (nI P_8.1)) rfl dX2_readsCut_62 ?_
      refine g_if_neN (tgt := 81) hx hb P_8.1 rfl (by omega) dX2_readsCut_65 (by decide) (fun c_65 => ?_) (fun c_65 => ?_)
      rotate_left
      · exact absurd c_65 (by rw [e61b]; exact c_37)
      refine lv_aload_n hx hb dX2_readsCut_81 rfl (lv_at hl 3 rfl) ?_
      refine g_cMV hX hl y_X2_goes v_X2_goes q2276 (k_X2_goes P_8 n hn hn4 (p_ok.w hpP_8)) (hM.rc hX.2.2.2) hM rfl ⟨Nat.le_of_ble_eq_true rfl, Nat.le_of_ble_eq_true rfl⟩ ⟨Nat.le_refl _, Nat.le_refl _⟩ (rest := []) (st1 := []) rfl rfl (Nat.le_of_ble_eq_true rfl) dX2_readsCut_82 hS (fun _ h => h) (fun H locs hM hS _ => ?_)
      obtain ⟨P_9, hP_9⟩ : ∃ z, z = q_goes (Z 8) n P_8 := ⟨_, rfl⟩
      rw [← hP_9] at hM
      have hpP_9 : p_ok n P_9 := by rw [hP_9]; exact q_goes_ok hpP_8
      have hcP_9 : P_9.1 ≤ 3 := hpP_9.1
      have hsP_9 : P_9.2.2.2.1 ≤ P_9.2.2.1 := hpP_9.2.2.1
      have huP_9 : P_9.2.2.1 ≤ n := hpP_9.2.1
      have eP : q_goes (Z 8) n (r_c4 (Z 8) n X P c0) = P_9 := by subst hP_9 hP_8 hP_7 hv_6 hP_5 hv_4 hP_3 hv_2 hP_1; rfl
      have eX : r_cuX (Z 8) n X P c0 = X := by unfold r_cuX; (rw [← hP_8]; first | (rw [if_pos (by omega), eW]; done) | (rw [if_neg (by omega)]; done)); first | done | (subst hP_9 hP_8 hP_7 hv_6 hP_5 hv_4 hP_3 hv_2 hP_1; rfl)
      exact hret H locs _ _ _ _ dX2_readsCut_85 hS (Nat.le_refl _) (Nat.le_refl _) ⟨rfl, by rw [eP, eX]; exact hM⟩
    · skip
      have hz0 : P_7.1 = 0 := by omega
      have hz1 := q_nnH (b := Z 8) (P := P_5) (lo := 0) (hi := 2) (k := 2) (by rw [← hP_7]; exact hz0) (by decide) (by rfl) (by omega)
      rw [hv_6, hz1.1] at hl
      have hz1b := hz1.2.1
      have hz2 := q_nn (b := Z 8) (n := n) (P := P_3) (lo := 0) (hi := 2) (k := 2) (by rw [← hP_5]; exact hz1.2.2) (by decide) (by rfl) (by omega)
      rw [hv_4, hz2.1] at hl
      have hz2b := hz2.2.1
      have hz3 := q_nn (b := Z 8) (n := n) (P := P_1) (lo := 0) (hi := (nI (s_L X - 2))) (k := s_L X - 2) (by rw [← hP_3]; exact hz2.2.2) (by decide) (by rfl) (by omega)
      rw [hv_2, hz3.1] at hl
      have hz3b := hz3.2.1
      have eW : r_w (Z 8) n X P = 9 * q_n (Z 8) P_1 0 (nI (s_L X - 2)) + 3 * q_n (Z 8) P_3 0 2 + q_n (Z 8) P_5 0 2 := by subst hP_7 hv_6 hP_5 hv_4 hP_3 hv_2 hP_1; rfl
      refine lv_aload_n hx hb dX2_readsCut_40 rfl (lv_at hl 3 rfl) ?_
      refine lv_iload_n hx hb dX2_readsCut_41 rfl (lv_at hl 2 rfl) ?_
      refine lv_iload_n hx hb dX2_readsCut_42 rfl (lv_at hl 1 rfl) ?_
      refine lv_iload hx hb dX2_readsCut_43 (lv_at hl 0 rfl) ?_
      refine g_cRS hX hl y_X2_wireOf v_X2_wireOf q2324 (k_X2_wireOf (q_n (Z 8) P_1 0 (nI (s_L X - 2))) (q_n (Z 8) P_3 0 2) (q_n (Z 8) P_5 0 2)) trivial rfl ⟨Nat.le_of_ble_eq_true rfl, Nat.le_of_ble_eq_true rfl⟩ ⟨Nat.zero_le _, Nat.zero_le _⟩ (rest := [.ref (ad 0)]) (st1 := [.int (nI (9 * (q_n (Z 8) P_1 0 (nI (s_L X - 2))) + 3 * (q_n (Z 8) P_3 0 2) + (q_n (Z 8) P_5 0 2))), .ref (ad 0)]) rfl rfl (Nat.le_of_ble_eq_true rfl) dX2_readsCut_45 ?_
      refine lv_iconst (v := 2) hx hb dX2_readsCut_48 rfl ?_
      refine g_cRV hX hl y_X2_ofWire v_X2_ofWire q2340 (k_X2_ofWire (9 * (q_n (Z 8) P_1 0 (nI (s_L X - 2))) + 3 * (q_n (Z 8) P_3 0 2) + (q_n (Z 8) P_5 0 2)) 2 (by omega) (by omega)) (hM.rc hX.2.2.2) hM rfl ⟨Nat.le_of_ble_eq_true rfl, Nat.le_of_ble_eq_true rfl⟩ ⟨Nat.zero_le _, Nat.zero_le _⟩ (rest := []) (st1 := [.int (X 1 (5 * (9 * (q_n (Z 8) P_1 0 (nI (s_L X - 2))) + 3 * (q_n (Z 8) P_3 0 2) + (q_n (Z 8) P_5 0 2)) + 2))]) rfl rfl (Nat.le_of_ble_eq_true rfl) dX2_readsCut_49 ?_
      refine lv_iload_n hx hb dX2_readsCut_52 rfl (lv_at hl 4 rfl) ?_
      refine lv_icmp_ne (tgt := 61) hx hb dX2_readsCut_53 (by decide) (fun c_53 => ?_) (fun c_53 => ?_)
      · skip
        have e61 : r_c4 (Z 8) n X P c0 = P_7 := by unfold r_c4; rw [eC, eW, if_neg (fun z => c_53 z.2)]
        rw [← e61] at hM
        obtain ⟨P_10, hP_10⟩ : ∃ z, z = r_c4 (Z 8) n X P c0 := ⟨_, rfl⟩
        rw [← hP_10] at hM
        have hpP_10 : p_ok n P_10 := by rw [hP_10]; exact r_c4_ok hp
        have hcP_10 : P_10.1 ≤ 3 := hpP_10.1
        have hsP_10 : P_10.2.2.2.1 ≤ P_10.2.2.1 := hpP_10.2.2.1
        have huP_10 : P_10.2.2.1 ≤ n := hpP_10.2.1
        have e61b : P_10 = P_7 := by rw [hP_10]; exact e61
        refine lv_aload_n hx hb dX2_readsCut_61 rfl (lv_at hl 3 rfl) ?_
        refine g_getM hX hM 10 (by decide) q2173 rfl (v := .int (nI P_10.1)) rfl dX2_readsCut_62 ?_
        refine g_if_neN (tgt := 81) hx hb P_10.1 rfl (by omega) dX2_readsCut_65 (by decide) (fun c_65 => ?_) (fun c_65 => ?_)
        · exact absurd c_65 (by rw [e61b]; omega)
        skip
        refine lv_aload_n hx hb dX2_readsCut_68 rfl (lv_at hl 3 rfl) ?_
        refine lv_iload_n hx hb dX2_readsCut_69 rfl (lv_at hl 2 rfl) ?_
        refine lv_iload_n hx hb dX2_readsCut_70 rfl (lv_at hl 1 rfl) ?_
        refine lv_iload hx hb dX2_readsCut_71 (lv_at hl 0 rfl) ?_
        refine g_cRS hX hl y_X2_wireOf v_X2_wireOf q2324 (k_X2_wireOf (q_n (Z 8) P_1 0 (nI (s_L X - 2))) (q_n (Z 8) P_3 0 2) (q_n (Z 8) P_5 0 2)) trivial rfl ⟨Nat.le_of_ble_eq_true rfl, Nat.le_of_ble_eq_true rfl⟩ ⟨Nat.zero_le _, Nat.zero_le _⟩ (rest := [.ref (ad 0)]) (st1 := [.int (nI (9 * (q_n (Z 8) P_1 0 (nI (s_L X - 2))) + 3 * (q_n (Z 8) P_3 0 2) + (q_n (Z 8) P_5 0 2))), .ref (ad 0)]) rfl rfl (Nat.le_of_ble_eq_true rfl) dX2_readsCut_73 ?_
        refine lv_iconst (v := 2) hx hb dX2_readsCut_76 rfl ?_
        refine lv_iload_n hx hb dX2_readsCut_77 rfl (lv_at hl 4 rfl) ?_
        refine g_cMV hX hl y_X2_putsWire v_X2_putsWire q2331 (k_X2_putsWire (9 * (q_n (Z 8) P_1 0 (nI (s_L X - 2))) + 3 * (q_n (Z 8) P_3 0 2) + (q_n (Z 8) P_5 0 2)) 2 (nI c0) (by omega) (by omega)) (hM.rc hX.2.2.2) hM rfl ⟨Nat.le_of_ble_eq_true rfl, Nat.le_of_ble_eq_true rfl⟩ ⟨Nat.le_refl _, Nat.le_refl _⟩ (rest := []) (st1 := []) rfl rfl (Nat.le_of_ble_eq_true rfl) dX2_readsCut_78 hS (fun _ h => h) (fun H locs hM hS _ => ?_)
        refine lv_aload_n hx hb dX2_readsCut_81 rfl (lv_at hl 3 rfl) ?_
        refine g_cMV hX hl y_X2_goes v_X2_goes q2276 (k_X2_goes P_10 n hn hn4 (p_ok.w hpP_10)) (hM.rc hX.2.2.2) hM rfl ⟨Nat.le_of_ble_eq_true rfl, Nat.le_of_ble_eq_true rfl⟩ ⟨Nat.le_refl _, Nat.le_refl _⟩ (rest := []) (st1 := []) rfl rfl (Nat.le_of_ble_eq_true rfl) dX2_readsCut_82 hS (fun _ h => h) (fun H locs hM hS _ => ?_)
        obtain ⟨P_11, hP_11⟩ : ∃ z, z = q_goes (Z 8) n P_10 := ⟨_, rfl⟩
        rw [← hP_11] at hM
        have hpP_11 : p_ok n P_11 := by rw [hP_11]; exact q_goes_ok hpP_10
        have hcP_11 : P_11.1 ≤ 3 := hpP_11.1
        have hsP_11 : P_11.2.2.2.1 ≤ P_11.2.2.1 := hpP_11.2.2.1
        have huP_11 : P_11.2.2.1 ≤ n := hpP_11.2.1
        have eP : q_goes (Z 8) n (r_c4 (Z 8) n X P c0) = P_11 := by subst hP_11 hP_10 hP_7 hv_6 hP_5 hv_4 hP_3 hv_2 hP_1; rfl
        have eX : r_cuX (Z 8) n X P c0 = g_up2 X 1 (5 * (9 * (q_n (Z 8) P_1 0 (nI (s_L X - 2))) + 3 * (q_n (Z 8) P_3 0 2) + (q_n (Z 8) P_5 0 2)) + 2) (nI c0) := by unfold r_cuX; (rw [← hP_10]; first | (rw [if_pos (by omega), eW]; done) | (rw [if_neg (by omega)]; done)); first | done | (subst hP_11 hP_10 hP_7 hv_6 hP_5 hv_4 hP_3 hv_2 hP_1; rfl)
        exact hret H locs _ _ _ _ dX2_readsCut_85 hS (Nat.le_refl _) (Nat.le_refl _) ⟨rfl, by rw [eP, eX]; exact hM⟩
      · skip
        refine lv_aload_n hx hb dX2_readsCut_56 rfl (lv_at hl 3 rfl) ?_
        refine lv_iconst (v := 3) hx hb dX2_readsCut_57 rfl ?_
        refine g_cMV hX hl y_X2_faults v_X2_faults q2299 (k_X2_faults 3 P_7 n hn hn4 hpP_7 (by omega)) (hM.rc hX.2.2.2) hM rfl ⟨Nat.le_of_ble_eq_true rfl, Nat.le_of_ble_eq_true rfl⟩ ⟨Nat.le_refl _, Nat.le_refl _⟩ (rest := []) (st1 := []) rfl rfl (Nat.le_of_ble_eq_true rfl) dX2_readsCut_58 hS (fun _ h => h) (fun H locs hM hS _ => ?_)
        obtain ⟨P_12, hP_12⟩ : ∃ z, z = q_f P_7 3 := ⟨_, rfl⟩
        rw [← hP_12] at hM
        have hpP_12 : p_ok n P_12 := by rw [hP_12]; exact q_f_ok hpP_7 (by decide)
        have hcP_12 : P_12.1 ≤ 3 := hpP_12.1
        have hsP_12 : P_12.2.2.2.1 ≤ P_12.2.2.1 := hpP_12.2.2.1
        have huP_12 : P_12.2.2.1 ≤ n := hpP_12.2.1
        have e61 : r_c4 (Z 8) n X P c0 = P_12 := by unfold r_c4; rw [eC, eW, if_pos ⟨hz0, c_53⟩, hP_12]
        rw [← e61] at hM
        obtain ⟨P_13, hP_13⟩ : ∃ z, z = r_c4 (Z 8) n X P c0 := ⟨_, rfl⟩
        rw [← hP_13] at hM
        have hpP_13 : p_ok n P_13 := by rw [hP_13]; exact r_c4_ok hp
        have hcP_13 : P_13.1 ≤ 3 := hpP_13.1
        have hsP_13 : P_13.2.2.2.1 ≤ P_13.2.2.1 := hpP_13.2.2.1
        have huP_13 : P_13.2.2.1 ≤ n := hpP_13.2.1
        have e61b : P_13 = P_12 := by rw [hP_13]; exact e61
        refine lv_aload_n hx hb dX2_readsCut_61 rfl (lv_at hl 3 rfl) ?_
        refine g_getM hX hM 10 (by decide) q2173 rfl (v := .int (nI P_13.1)) rfl dX2_readsCut_62 ?_
        refine g_if_neN (tgt := 81) hx hb P_13.1 rfl (by omega) dX2_readsCut_65 (by decide) (fun c_65 => ?_) (fun c_65 => ?_)
        rotate_left
        · exact absurd c_65 (by rw [e61b, hP_12]; exact fun z => by have := q_f_n (P := P_7) (c := 3) (by decide); omega)
        refine lv_aload_n hx hb dX2_readsCut_81 rfl (lv_at hl 3 rfl) ?_
        refine g_cMV hX hl y_X2_goes v_X2_goes q2276 (k_X2_goes P_13 n hn hn4 (p_ok.w hpP_13)) (hM.rc hX.2.2.2) hM rfl ⟨Nat.le_of_ble_eq_true rfl, Nat.le_of_ble_eq_true rfl⟩ ⟨Nat.le_refl _, Nat.le_refl _⟩ (rest := []) (st1 := []) rfl rfl (Nat.le_of_ble_eq_true rfl) dX2_readsCut_82 hS (fun _ h => h) (fun H locs hM hS _ => ?_)
        obtain ⟨P_14, hP_14⟩ : ∃ z, z = q_goes (Z 8) n P_13 := ⟨_, rfl⟩
        rw [← hP_14] at hM
        have hpP_14 : p_ok n P_14 := by rw [hP_14]; exact q_goes_ok hpP_13
        have hcP_14 : P_14.1 ≤ 3 := hpP_14.1
        have hsP_14 : P_14.2.2.2.1 ≤ P_14.2.2.1 := hpP_14.2.2.1
        have huP_14 : P_14.2.2.1 ≤ n := hpP_14.2.1
        have eP : q_goes (Z 8) n (r_c4 (Z 8) n X P c0) = P_14 := by subst hP_14 hP_13 hP_12 hP_7 hv_6 hP_5 hv_4 hP_3 hv_2 hP_1; rfl
        have eX : r_cuX (Z 8) n X P c0 = X := by unfold r_cuX; (rw [← hP_13]; first | (rw [if_pos (by omega), eW]; done) | (rw [if_neg (by omega)]; done)); first | done | (subst hP_14 hP_13 hP_12 hP_7 hv_6 hP_5 hv_4 hP_3 hv_2 hP_1; rfl)
        exact hret H locs _ _ _ _ dX2_readsCut_85 hS (Nat.le_refl _) (Nat.le_refl _) ⟨rfl, by rw [eP, eX]; exact hM⟩
  exact key _ _ hM hS

theorem y_X2_readsSame : g_Y yX2_readsSame cX2_readsSame 4 none 0 := ⟨q2461, by decide +kernel⟩
theorem v_X2_readsSame : g_YV yX2_readsSame := ⟨q2460, qs84, q140⟩
set_option maxHeartbeats 4000000 in
theorem k_X2_readsSame {G : g_G} {l : Launch} {ad : Nat → Nat} {F : Nat → Int32} {X Y : g_Wd} {U V : Nat → g_Wd} {Z : g_Wd}  (P : g_P) (n : Nat) (hn : F 12 = nI n) (hn4 : n ≤ 400) (hp : p_ok n P) (hwl : s_wl X) : g_Md G l yX2_readsSame cX2_readsSame 4 none 4 0 0 [.ref (ad 0)] (g_Mod G ad (p_F F P) X Y U V Z) (g_Qv none (g_Mod G ad (p_F F (r_s3 (Z 8) n X P)) (r_saX (Z 8) n X P) Y U V Z)) (md_A ad) := by
  refine g_Md.ofV (by decide) ?_
  intro p e s m args below meth c ls Q hX hM hl hS hret
  have hx := hX.1.1
  have hb := hX.1.2.1
  have hl : lv_has ls 4 [(0, .ref (ad 0))] := hl
  have key : ∀ (H : Heap) (locs : List Loc), g_Mod G ad (p_F F P) X Y U V Z H → va_S (md_A ad) s.heap H locs → W p l e (g_rm 4 0 0) s m args below meth c H locs 0 0 Q (F0 m 0 ls []) := by
    intro H locs hM hS
    have hpc : P.1 ≤ 3 := hp.1
    have hpu : P.2.2.1 ≤ n := hp.2.1
    have hps : P.2.2.2.1 ≤ P.2.2.1 := hp.2.2.1
    have hpt : P.2.2.2.2 ≤ 4 := hp.2.2.2.1
    have hW := hwl.1
    have hW9 := hW
    obtain ⟨⟨hL0, hL2, hL6⟩, ⟨hM0, hM6⟩, ⟨hG0, hG40⟩, hok⟩ := hW9
    have hw9 : s_W X ≤ 45 := by unfold s_W; omega
    have hM0 := hwl.1.2.1.1
    have hM6 := hwl.1.2.1.2
    refine lv_aload_n hx hb dX2_readsSame_0 rfl (lv_at hl 0 rfl) ?_
    refine g_getM hX hM 1 (by decide) q2164 rfl (v := .ref (ad 1)) rfl dX2_readsSame_1 ?_
    refine lv_iconst (v := 3) hx hb dX2_readsSame_4 rfl ?_
    refine g_iald hX hM.a1 3 rfl (by omega) (by decide) (v := (X 0 3)) rfl dX2_readsSame_5 ?_
    refine lv_bipush (v := 6) hx hb dX2_readsSame_6 (by decide) ?_
    refine g_icmp_neN (tgt := 16) hx hb (s_M X) 6 hM0 rfl (by omega) (by omega) dX2_readsSame_8 (by decide) (fun c_8 => ?_) (fun c_8 => ?_)
    · skip
      have e16 : r_m0 X P = P := by unfold r_m0; (first | rw [if_pos (by omega)] | rw [if_neg (by omega)]); first | done | (rfl)
      rw [← e16] at hM
      obtain ⟨P_1, hP_1⟩ : ∃ z, z = r_m0 X P := ⟨_, rfl⟩
      rw [← hP_1] at hM
      have hpP_1 : p_ok n P_1 := by rw [hP_1]; exact r_m0_ok hp
      have hcP_1 : P_1.1 ≤ 3 := hpP_1.1
      have hsP_1 : P_1.2.2.2.1 ≤ P_1.2.2.1 := hpP_1.2.2.1
      have huP_1 : P_1.2.2.1 ≤ n := hpP_1.2.1
      have e16b : P_1 = P := by rw [hP_1]; exact e16
      refine lv_aload_n hx hb dX2_readsSame_16 rfl (lv_at hl 0 rfl) ?_
      refine g_cMV hX hl y_X2_goes v_X2_goes q2276 (k_X2_goes P_1 n hn hn4 (p_ok.w hpP_1)) (hM.rc hX.2.2.2) hM rfl ⟨Nat.le_of_ble_eq_true rfl, Nat.le_of_ble_eq_true rfl⟩ ⟨Nat.le_refl _, Nat.le_refl _⟩ (rest := []) (st1 := []) rfl rfl (Nat.le_of_ble_eq_true rfl) dX2_readsSame_17 hS (fun _ h => h) (fun H locs hM hS _ => ?_)
      obtain ⟨P_2, hP_2⟩ : ∃ z, z = q_goes (Z 8) n P_1 := ⟨_, rfl⟩
      rw [← hP_2] at hM
      have hpP_2 : p_ok n P_2 := by rw [hP_2]; exact q_goes_ok hpP_1
      have hcP_2 : P_2.1 ≤ 3 := hpP_2.1
      have hsP_2 : P_2.2.2.2.1 ≤ P_2.2.2.1 := hpP_2.2.2.1
      have huP_2 : P_2.2.2.1 ≤ n := hpP_2.2.1
      refine lv_aload_n hx hb dX2_readsSame_20 rfl (lv_at hl 0 rfl) ?_
      refine lv_iconst (v := 0) hx hb dX2_readsSame_21 rfl ?_
      refine lv_bipush (v := 9) hx hb dX2_readsSame_22 (by decide) ?_
      refine g_cMV hX hl y_X2_number v_X2_number q2303 (k_X2_number 0 9 P_2 n hn hn4 hpP_2) (hM.rc hX.2.2.2) hM rfl ⟨Nat.le_of_ble_eq_true rfl, Nat.le_of_ble_eq_true rfl⟩ ⟨Nat.le_refl _, Nat.le_refl _⟩ (rest := []) (st1 := [.int (q_nV (Z 8) P_2 0 9)]) rfl rfl (Nat.le_of_ble_eq_true rfl) dX2_readsSame_24 hS (fun _ h => h) (fun H locs hM hS _ => ?_)
      obtain ⟨v_3, hv_3⟩ : ∃ z, z = (q_nV (Z 8) P_2 0 9) := ⟨_, rfl⟩
      rw [← hv_3]
      obtain ⟨P_4, hP_4⟩ : ∃ z, z = q_num (Z 8) n P_2 0 9 := ⟨_, rfl⟩
      rw [← hP_4] at hM
      have hpP_4 : p_ok n P_4 := by rw [hP_4]; exact q_num_ok hpP_2
      have hcP_4 : P_4.1 ≤ 3 := hpP_4.1
      have hsP_4 : P_4.2.2.2.1 ≤ P_4.2.2.1 := hpP_4.2.2.1
      have huP_4 : P_4.2.2.1 ≤ n := hpP_4.2.1
      refine lv_istore_n (lv' := [(1, .int v_3), (0, .ref (ad 0))]) hx hb dX2_readsSame_27 rfl hl (by decide) rfl (fun ls hl => ?_)
      refine lv_aload_n hx hb dX2_readsSame_28 rfl (lv_at hl 1 rfl) ?_
      refine lv_iconst (v := 1) hx hb dX2_readsSame_29 rfl ?_
      refine lv_bipush (v := 12) hx hb dX2_readsSame_30 (by decide) ?_
      refine g_cMV hX hl y_X2_number v_X2_number q2303 (k_X2_number 1 12 P_4 n hn hn4 hpP_4) (hM.rc hX.2.2.2) hM rfl ⟨Nat.le_of_ble_eq_true rfl, Nat.le_of_ble_eq_true rfl⟩ ⟨Nat.le_refl _, Nat.le_refl _⟩ (rest := []) (st1 := [.int (q_nV (Z 8) P_4 1 12)]) rfl rfl (Nat.le_of_ble_eq_true rfl) dX2_readsSame_32 hS (fun _ h => h) (fun H locs hM hS _ => ?_)
      obtain ⟨v_5, hv_5⟩ : ∃ z, z = (q_nV (Z 8) P_4 1 12) := ⟨_, rfl⟩
      rw [← hv_5]
      obtain ⟨P_6, hP_6⟩ : ∃ z, z = q_num (Z 8) n P_4 1 12 := ⟨_, rfl⟩
      rw [← hP_6] at hM
      have hpP_6 : p_ok n P_6 := by rw [hP_6]; exact q_num_ok hpP_4
      have hcP_6 : P_6.1 ≤ 3 := hpP_6.1
      have hsP_6 : P_6.2.2.2.1 ≤ P_6.2.2.1 := hpP_6.2.2.1
      have huP_6 : P_6.2.2.1 ≤ n := hpP_6.2.1
      refine lv_istore_n (lv' := [(2, .int v_5), (1, .int v_3), (0, .ref (ad 0))]) hx hb dX2_readsSame_35 rfl hl (by decide) rfl (fun ls hl => ?_)
      refine lv_aload_n hx hb dX2_readsSame_36 rfl (lv_at hl 2 rfl) ?_
      refine g_getM hX hM 10 (by decide) q2173 rfl (v := .int (nI P_6.1)) rfl dX2_readsSame_37 ?_
      refine g_if_leN (tgt := 44) hx hb P_6.1 rfl (by omega) dX2_readsSame_40 (by decide) (fun c_40 => ?_) (fun c_40 => ?_)
      · skip
        have hz0 : P_6.1 = 0 := by omega
        have hz1 := q_nn (b := Z 8) (n := n) (P := P_4) (lo := 1) (hi := 12) (k := 12) (by rw [← hP_6]; exact hz0) (by decide) (by rfl) (by omega)
        rw [hv_5, hz1.1] at hl
        have hz1b := hz1.2.1
        have hz2 := q_nn (b := Z 8) (n := n) (P := P_2) (lo := 0) (hi := 9) (k := 9) (by rw [← hP_4]; exact hz1.2.2) (by decide) (by rfl) (by omega)
        have h8 : P_1.1 = 0 := by rw [← q_goes_1 (b := Z 8) (n := n) (P := P_1), ← hP_2]; exact hz2.2.2
        have hMl : s_M X < 6 := by have h9 := r_m0_0 (X := X) (P := P) (by rw [← hP_1]; have h8 := h8; omega); omega
        refine lv_aload_n hx hb dX2_readsSame_44 rfl (lv_at hl 2 rfl) ?_
        refine lv_iload_n hx hb dX2_readsSame_45 rfl (lv_at hl 1 rfl) ?_
        refine lv_iload_n hx hb dX2_readsSame_46 rfl (lv_at hl 0 rfl) ?_
        refine g_cMV hX hl y_X2_sendsSame v_X2_sendsSame q2462 (k_X2_sendsSame v_3 (q_n (Z 8) P_4 1 12) hwl hMl hz1b) (hM.rc hX.2.2.2) hM rfl ⟨Nat.le_of_ble_eq_true rfl, Nat.le_of_ble_eq_true rfl⟩ ⟨Nat.le_refl _, Nat.le_refl _⟩ (rest := []) (st1 := [.int (nI (s_M X))]) rfl rfl (Nat.le_of_ble_eq_true rfl) dX2_readsSame_47 hS (fun _ h => h) (fun H locs hM hS _ => ?_)
        refine lv_istore_n (lv' := [(3, .int (nI (s_M X))), (2, .int (nI (q_n (Z 8) P_4 1 12))), (1, .int v_3), (0, .ref (ad 0))]) hx hb dX2_readsSame_50 rfl hl (by decide) rfl (fun ls hl => ?_)
        have eP : r_s3 (Z 8) n X P = P_6 := by subst hP_6 hv_5 hP_4 hv_3 hP_2 hP_1; rfl
        have eX : r_saX (Z 8) n X P = x_sendS X v_3 (q_n (Z 8) P_4 1 12) := by unfold r_saX; rw [eP]; (first | (rw [if_pos (by omega)]; done) | (rw [if_pos (by omega)]; subst hP_6 hv_5 hP_4 hv_3 hP_2 hP_1; rfl) | (rw [if_neg (by omega)]; done) | (rw [if_neg (by omega)]; subst hP_6 hv_5 hP_4 hv_3 hP_2 hP_1; rfl)); first | done | (subst hP_6 hv_5 hP_4 hv_3 hP_2 hP_1; rfl)
        exact hret H locs _ _ _ _ dX2_readsSame_51 hS (Nat.le_refl _) (Nat.le_refl _) ⟨rfl, by rw [eP, eX]; exact hM⟩
      · skip
        have eP : r_s3 (Z 8) n X P = P_6 := by subst hP_6 hv_5 hP_4 hv_3 hP_2 hP_1; rfl
        have eX : r_saX (Z 8) n X P = X := by unfold r_saX; rw [eP]; (first | (rw [if_pos (by omega)]; done) | (rw [if_pos (by omega)]; subst hP_6 hv_5 hP_4 hv_3 hP_2 hP_1; rfl) | (rw [if_neg (by omega)]; done) | (rw [if_neg (by omega)]; subst hP_6 hv_5 hP_4 hv_3 hP_2 hP_1; rfl)); first | done | (subst hP_6 hv_5 hP_4 hv_3 hP_2 hP_1; rfl)
        exact hret H locs _ _ _ _ dX2_readsSame_43 hS (Nat.le_refl _) (Nat.le_refl _) ⟨rfl, by rw [eP, eX]; exact hM⟩
    · skip
      refine lv_aload_n hx hb dX2_readsSame_11 rfl (lv_at hl 0 rfl) ?_
      refine lv_iconst (v := 3) hx hb dX2_readsSame_12 rfl ?_
      refine g_cMV hX hl y_X2_faults v_X2_faults q2299 (k_X2_faults 3 P n hn hn4 hp (by omega)) (hM.rc hX.2.2.2) hM rfl ⟨Nat.le_of_ble_eq_true rfl, Nat.le_of_ble_eq_true rfl⟩ ⟨Nat.le_refl _, Nat.le_refl _⟩ (rest := []) (st1 := []) rfl rfl (Nat.le_of_ble_eq_true rfl) dX2_readsSame_13 hS (fun _ h => h) (fun H locs hM hS _ => ?_)
      obtain ⟨P_7, hP_7⟩ : ∃ z, z = q_f P 3 := ⟨_, rfl⟩
      rw [← hP_7] at hM
      have hpP_7 : p_ok n P_7 := by rw [hP_7]; exact q_f_ok hp (by decide)
      have hcP_7 : P_7.1 ≤ 3 := hpP_7.1
      have hsP_7 : P_7.2.2.2.1 ≤ P_7.2.2.1 := hpP_7.2.2.1
      have huP_7 : P_7.2.2.1 ≤ n := hpP_7.2.1
      have e16 : r_m0 X P = P_7 := by unfold r_m0; (first | rw [if_pos (by omega)] | rw [if_neg (by omega)]); first | done | (subst hP_7; rfl)
      rw [← e16] at hM
      obtain ⟨P_8, hP_8⟩ : ∃ z, z = r_m0 X P := ⟨_, rfl⟩
      rw [← hP_8] at hM
      have hpP_8 : p_ok n P_8 := by rw [hP_8]; exact r_m0_ok hp
      have hcP_8 : P_8.1 ≤ 3 := hpP_8.1
      have hsP_8 : P_8.2.2.2.1 ≤ P_8.2.2.1 := hpP_8.2.2.1
      have huP_8 : P_8.2.2.1 ≤ n := hpP_8.2.1
      have e16b : P_8 = P_7 := by rw [hP_8]; exact e16
      refine lv_aload_n hx hb dX2_readsSame_16 rfl (lv_at hl 0 rfl) ?_
      refine g_cMV hX hl y_X2_goes v_X2_goes q2276 (k_X2_goes P_8 n hn hn4 (p_ok.w hpP_8)) (hM.rc hX.2.2.2) hM rfl ⟨Nat.le_of_ble_eq_true rfl, Nat.le_of_ble_eq_true rfl⟩ ⟨Nat.le_refl _, Nat.le_refl _⟩ (rest := []) (st1 := []) rfl rfl (Nat.le_of_ble_eq_true rfl) dX2_readsSame_17 hS (fun _ h => h) (fun H locs hM hS _ => ?_)
      obtain ⟨P_9, hP_9⟩ : ∃ z, z = q_goes (Z 8) n P_8 := ⟨_, rfl⟩
      rw [← hP_9] at hM
      have hpP_9 : p_ok n P_9 := by rw [hP_9]; exact q_goes_ok hpP_8
      have hcP_9 : P_9.1 ≤ 3 := hpP_9.1
      have hsP_9 : P_9.2.2.2.1 ≤ P_9.2.2.1 := hpP_9.2.2.1
      have huP_9 : P_9.2.2.1 ≤ n := hpP_9.2.1
      refine lv_aload_n hx hb dX2_readsSame_20 rfl (lv_at hl 0 rfl) ?_
      refine lv_iconst (v := 0) hx hb dX2_readsSame_21 rfl ?_
      refine lv_bipush (v := 9) hx hb dX2_readsSame_22 (by decide) ?_
      refine g_cMV hX hl y_X2_number v_X2_number q2303 (k_X2_number 0 9 P_9 n hn hn4 hpP_9) (hM.rc hX.2.2.2) hM rfl ⟨Nat.le_of_ble_eq_true rfl, Nat.le_of_ble_eq_true rfl⟩ ⟨Nat.le_refl _, Nat.le_refl _⟩ (rest := []) (st1 := [.int (q_nV (Z 8) P_9 0 9)]) rfl rfl (Nat.le_of_ble_eq_true rfl) dX2_readsSame_24 hS (fun _ h => h) (fun H locs hM hS _ => ?_)
      obtain ⟨v_10, hv_10⟩ : ∃ z, z = (q_nV (Z 8) P_9 0 9) := ⟨_, rfl⟩
      rw [← hv_10]
      obtain ⟨P_11, hP_11⟩ : ∃ z, z = q_num (Z 8) n P_9 0 9 := ⟨_, rfl⟩
      rw [← hP_11] at hM
      have hpP_11 : p_ok n P_11 := by rw [hP_11]; exact q_num_ok hpP_9
      have hcP_11 : P_11.1 ≤ 3 := hpP_11.1
      have hsP_11 : P_11.2.2.2.1 ≤ P_11.2.2.1 := hpP_11.2.2.1
      have huP_11 : P_11.2.2.1 ≤ n := hpP_11.2.1
      refine lv_istore_n (lv' := [(1, .int v_10), (0, .ref (ad 0))]) hx hb dX2_readsSame_27 rfl hl (by decide) rfl (fun ls hl => ?_)
      refine lv_aload_n hx hb dX2_readsSame_28 rfl (lv_at hl 1 rfl) ?_
      refine lv_iconst (v := 1) hx hb dX2_readsSame_29 rfl ?_
      refine lv_bipush (v := 12) hx hb dX2_readsSame_30 (by decide) ?_
      refine g_cMV hX hl y_X2_number v_X2_number q2303 (k_X2_number 1 12 P_11 n hn hn4 hpP_11) (hM.rc hX.2.2.2) hM rfl ⟨Nat.le_of_ble_eq_true rfl, Nat.le_of_ble_eq_true rfl⟩ ⟨Nat.le_refl _, Nat.le_refl _⟩ (rest := []) (st1 := [.int (q_nV (Z 8) P_11 1 12)]) rfl rfl (Nat.le_of_ble_eq_true rfl) dX2_readsSame_32 hS (fun _ h => h) (fun H locs hM hS _ => ?_)
      obtain ⟨v_12, hv_12⟩ : ∃ z, z = (q_nV (Z 8) P_11 1 12) := ⟨_, rfl⟩
      rw [← hv_12]
      obtain ⟨P_13, hP_13⟩ : ∃ z, z = q_num (Z 8) n P_11 1 12 := ⟨_, rfl⟩
      rw [← hP_13] at hM
      have hpP_13 : p_ok n P_13 := by rw [hP_13]; exact q_num_ok hpP_11
      have hcP_13 : P_13.1 ≤ 3 := hpP_13.1
      have hsP_13 : P_13.2.2.2.1 ≤ P_13.2.2.1 := hpP_13.2.2.1
      have huP_13 : P_13.2.2.1 ≤ n := hpP_13.2.1
      refine lv_istore_n (lv' := [(2, .int v_12), (1, .int v_10), (0, .ref (ad 0))]) hx hb dX2_readsSame_35 rfl hl (by decide) rfl (fun ls hl => ?_)
      refine lv_aload_n hx hb dX2_readsSame_36 rfl (lv_at hl 2 rfl) ?_
      refine g_getM hX hM 10 (by decide) q2173 rfl (v := .int (nI P_13.1)) rfl dX2_readsSame_37 ?_
      refine g_if_leN (tgt := 44) hx hb P_13.1 rfl (by omega) dX2_readsSame_40 (by decide) (fun c_40 => ?_) (fun c_40 => ?_)
      · skip
        have hz0 : P_13.1 = 0 := by omega
        have hz1 := q_nn (b := Z 8) (n := n) (P := P_11) (lo := 1) (hi := 12) (k := 12) (by rw [← hP_13]; exact hz0) (by decide) (by rfl) (by omega)
        rw [hv_12, hz1.1] at hl
        have hz1b := hz1.2.1
        have hz2 := q_nn (b := Z 8) (n := n) (P := P_9) (lo := 0) (hi := 9) (k := 9) (by rw [← hP_11]; exact hz1.2.2) (by decide) (by rfl) (by omega)
        have h8 : P_8.1 = 0 := by rw [← q_goes_1 (b := Z 8) (n := n) (P := P_8), ← hP_9]; exact hz2.2.2
        have hMl : s_M X < 6 := by have h9 := r_m0_0 (X := X) (P := P) (by rw [← hP_8]; have h8 := h8; omega); omega
        refine lv_aload_n hx hb dX2_readsSame_44 rfl (lv_at hl 2 rfl) ?_
        refine lv_iload_n hx hb dX2_readsSame_45 rfl (lv_at hl 1 rfl) ?_
        refine lv_iload_n hx hb dX2_readsSame_46 rfl (lv_at hl 0 rfl) ?_
        refine g_cMV hX hl y_X2_sendsSame v_X2_sendsSame q2462 (k_X2_sendsSame v_10 (q_n (Z 8) P_11 1 12) hwl hMl hz1b) (hM.rc hX.2.2.2) hM rfl ⟨Nat.le_of_ble_eq_true rfl, Nat.le_of_ble_eq_true rfl⟩ ⟨Nat.le_refl _, Nat.le_refl _⟩ (rest := []) (st1 := [.int (nI (s_M X))]) rfl rfl (Nat.le_of_ble_eq_true rfl) dX2_readsSame_47 hS (fun _ h => h) (fun H locs hM hS _ => ?_)
        refine lv_istore_n (lv' := [(3, .int (nI (s_M X))), (2, .int (nI (q_n (Z 8) P_11 1 12))), (1, .int v_10), (0, .ref (ad 0))]) hx hb dX2_readsSame_50 rfl hl (by decide) rfl (fun ls hl => ?_)
        have eP : r_s3 (Z 8) n X P = P_13 := by subst hP_13 hv_12 hP_11 hv_10 hP_9 hP_8 hP_7; rfl
        have eX : r_saX (Z 8) n X P = x_sendS X v_10 (q_n (Z 8) P_11 1 12) := by unfold r_saX; rw [eP]; (first | (rw [if_pos (by omega)]; done) | (rw [if_pos (by omega)]; subst hP_13 hv_12 hP_11 hv_10 hP_9 hP_8 hP_7; rfl) | (rw [if_neg (by omega)]; done) | (rw [if_neg (by omega)]; subst hP_13 hv_12 hP_11 hv_10 hP_9 hP_8 hP_7; rfl)); first | done | (subst hP_13 hv_12 hP_11 hv_10 hP_9 hP_8 hP_7; rfl)
        exact hret H locs _ _ _ _ dX2_readsSame_51 hS (Nat.le_refl _) (Nat.le_refl _) ⟨rfl, by rw [eP, eX]; exact hM⟩
      · skip
        have eP : r_s3 (Z 8) n X P = P_13 := by subst hP_13 hv_12 hP_11 hv_10 hP_9 hP_8 hP_7; rfl
        have eX : r_saX (Z 8) n X P = X := by unfold r_saX; rw [eP]; (first | (rw [if_pos (by omega)]; done) | (rw [if_pos (by omega)]; subst hP_13 hv_12 hP_11 hv_10 hP_9 hP_8 hP_7; rfl) | (rw [if_neg (by omega)]; done) | (rw [if_neg (by omega)]; subst hP_13 hv_12 hP_11 hv_10 hP_9 hP_8 hP_7; rfl)); first | done | (subst hP_13 hv_12 hP_11 hv_10 hP_9 hP_8 hP_7; rfl)
        exact hret H locs _ _ _ _ dX2_readsSame_43 hS (Nat.le_refl _) (Nat.le_refl _) ⟨rfl, by rw [eP, eX]; exact hM⟩
  exact key _ _ hM hS

theorem y_X2_readsAsks : g_Y yX2_readsAsks cX2_readsAsks 2 none 0 := ⟨q2470, by decide +kernel⟩
theorem v_X2_readsAsks : g_YV yX2_readsAsks := ⟨q2469, qs86, q140⟩
set_option maxHeartbeats 4000000 in
theorem k_X2_readsAsks {G : g_G} {l : Launch} {ad : Nat → Nat} {F : Nat → Int32} {X Y : g_Wd} {U V : Nat → g_Wd} {Z : g_Wd}  (P : g_P) (n : Nat) (hn : F 12 = nI n) (hn4 : n ≤ 400) (hp : p_ok n P) (hwl : s_wl X) : g_Md G l yX2_readsAsks cX2_readsAsks 2 none 4 0 0 [.ref (ad 0)] (g_Mod G ad (p_F F P) X Y U V Z) (g_Qv none (g_Mod G ad (p_F F (q_num (Z 8) n (q_goes (Z 8) n P) 0 5)) (r_asX (Z 8) n X P) Y U V Z)) (md_A ad) := by
  refine g_Md.ofV (by decide) ?_
  intro p e s m args below meth c ls Q hX hM hl hS hret
  have hx := hX.1.1
  have hb := hX.1.2.1
  have hl : lv_has ls 2 [(0, .ref (ad 0))] := hl
  have key : ∀ (H : Heap) (locs : List Loc), g_Mod G ad (p_F F P) X Y U V Z H → va_S (md_A ad) s.heap H locs → W p l e (g_rm 4 0 0) s m args below meth c H locs 0 0 Q (F0 m 0 ls []) := by
    intro H locs hM hS
    have hpc : P.1 ≤ 3 := hp.1
    have hpu : P.2.2.1 ≤ n := hp.2.1
    have hps : P.2.2.2.1 ≤ P.2.2.1 := hp.2.2.1
    have hpt : P.2.2.2.2 ≤ 4 := hp.2.2.2.1
    have hW := hwl.1
    have hW9 := hW
    obtain ⟨⟨hL0, hL2, hL6⟩, ⟨hM0, hM6⟩, ⟨hG0, hG40⟩, hok⟩ := hW9
    have hw9 : s_W X ≤ 45 := by unfold s_W; omega
    refine lv_aload_n hx hb dX2_readsAsks_0 rfl (lv_at hl 0 rfl) ?_
    refine g_cMV hX hl y_X2_goes v_X2_goes q2276 (k_X2_goes P n hn hn4 (p_ok.w hp)) (hM.rc hX.2.2.2) hM rfl ⟨Nat.le_of_ble_eq_true rfl, Nat.le_of_ble_eq_true rfl⟩ ⟨Nat.le_refl _, Nat.le_refl _⟩ (rest := []) (st1 := []) rfl rfl (Nat.le_of_ble_eq_true rfl) dX2_readsAsks_1 hS (fun _ h => h) (fun H locs hM hS _ => ?_)
    obtain ⟨P_1, hP_1⟩ : ∃ z, z = q_goes (Z 8) n P := ⟨_, rfl⟩
    rw [← hP_1] at hM
    have hpP_1 : p_ok n P_1 := by rw [hP_1]; exact q_goes_ok hp
    have hcP_1 : P_1.1 ≤ 3 := hpP_1.1
    have hsP_1 : P_1.2.2.2.1 ≤ P_1.2.2.1 := hpP_1.2.2.1
    have huP_1 : P_1.2.2.1 ≤ n := hpP_1.2.1
    refine lv_aload_n hx hb dX2_readsAsks_4 rfl (lv_at hl 0 rfl) ?_
    refine lv_iconst (v := 0) hx hb dX2_readsAsks_5 rfl ?_
    refine lv_iconst (v := 5) hx hb dX2_readsAsks_6 rfl ?_
    refine g_cMV hX hl y_X2_number v_X2_number q2303 (k_X2_number 0 5 P_1 n hn hn4 hpP_1) (hM.rc hX.2.2.2) hM rfl ⟨Nat.le_of_ble_eq_true rfl, Nat.le_of_ble_eq_true rfl⟩ ⟨Nat.le_refl _, Nat.le_refl _⟩ (rest := []) (st1 := [.int (q_nV (Z 8) P_1 0 5)]) rfl rfl (Nat.le_of_ble_eq_true rfl) dX2_readsAsks_7 hS (fun _ h => h) (fun H locs hM hS _ => ?_)
    obtain ⟨v_2, hv_2⟩ : ∃ z, z = (q_nV (Z 8) P_1 0 5) := ⟨_, rfl⟩
    rw [← hv_2]
    obtain ⟨P_3, hP_3⟩ : ∃ z, z = q_num (Z 8) n P_1 0 5 := ⟨_, rfl⟩
    rw [← hP_3] at hM
    have hpP_3 : p_ok n P_3 := by rw [hP_3]; exact q_num_ok hpP_1
    have hcP_3 : P_3.1 ≤ 3 := hpP_3.1
    have hsP_3 : P_3.2.2.2.1 ≤ P_3.2.2.1 := hpP_3.2.2.1
    have huP_3 : P_3.2.2.1 ≤ n := hpP_3.2.1
    refine lv_istore_n (lv' := [(1, .int v_2), (0, .ref (ad 0))]) hx hb dX2_readsAsks_10 rfl hl (by decide) rfl (fun ls hl => ?_)
    refine lv_aload_n hx hb dX2_readsAsks_11 rfl (lv_at hl 1 rfl) ?_
    refine g_getM hX hM 10 (by decide) q2173 rfl (v := .int (nI P_3.1)) rfl dX2_readsAsks_12 ?_
    refine g_if_neN (tgt := 25) hx hb P_3.1 rfl (by omega) dX2_readsAsks_15 (by decide) (fun c_15 => ?_) (fun c_15 => ?_)
    · skip
      have eP : q_num (Z 8) n (q_goes (Z 8) n P) 0 5 = P_3 := by subst hP_3 hv_2 hP_1; rfl
      have eX : r_asX (Z 8) n X P = X := by unfold r_asX; rw [eP]; (first | (rw [if_pos (by omega)]; done) | (rw [if_pos (by omega)]; subst hP_3 hv_2 hP_1; rfl) | (rw [if_neg (by omega)]; done) | (rw [if_neg (by omega)]; subst hP_3 hv_2 hP_1; rfl)); first | done | (subst hP_3 hv_2 hP_1; rfl)
      exact hret H locs _ _ _ _ dX2_readsAsks_25 hS (Nat.le_refl _) (Nat.le_refl _) ⟨rfl, by rw [eP, eX]; exact hM⟩
    · skip
      refine lv_aload_n hx hb dX2_readsAsks_18 rfl (lv_at hl 1 rfl) ?_
      refine g_getM hX hM 1 (by decide) q2164 rfl (v := .ref (ad 1)) rfl dX2_readsAsks_19 ?_
      refine lv_iconst (v := 1) hx hb dX2_readsAsks_22 rfl ?_
      refine lv_iload_n hx hb dX2_readsAsks_23 rfl (lv_at hl 0 rfl) ?_
      refine g_istX hX hM hS 1 rfl (by omega) (X' := g_up2 X 0 1 v_2) (g_flu0 _ (by omega) _) dX2_readsAsks_24 (fun H locs hM hS => ?_)
      have eP : q_num (Z 8) n (q_goes (Z 8) n P) 0 5 = P_3 := by subst hP_3 hv_2 hP_1; rfl
      have eX : r_asX (Z 8) n X P = g_up2 X 0 1 v_2 := by unfold r_asX; rw [eP]; (first | (rw [if_pos (by omega)]; done) | (rw [if_pos (by omega)]; subst hP_3 hv_2 hP_1; rfl) | (rw [if_neg (by omega)]; done) | (rw [if_neg (by omega)]; subst hP_3 hv_2 hP_1; rfl)); first | done | (subst hP_3 hv_2 hP_1; rfl)
      exact hret H locs _ _ _ _ dX2_readsAsks_25 hS (Nat.le_refl _) (Nat.le_refl _) ⟨rfl, by rw [eP, eX]; exact hM⟩
  exact key _ _ hM hS

theorem y_X2_readsCalm : g_Y yX2_readsCalm cX2_readsCalm 1 none 0 := ⟨q2475, by decide +kernel⟩
theorem v_X2_readsCalm : g_YV yX2_readsCalm := ⟨q2474, qs87, q140⟩
set_option maxHeartbeats 4000000 in
theorem k_X2_readsCalm {G : g_G} {l : Launch} {ad : Nat → Nat} {F : Nat → Int32} {X Y : g_Wd} {U V : Nat → g_Wd} {Z : g_Wd}  (P : g_P) (n : Nat) (hn : F 12 = nI n) (hn4 : n ≤ 400) (hp : p_ok n P) (hwl : s_wl X) : g_Md G l yX2_readsCalm cX2_readsCalm 1 none 3 0 0 [.ref (ad 0)] (g_Mod G ad (p_F F P) X Y U V Z) (g_Qv none (g_Mod G ad (p_F F (q_goes (Z 8) n P)) (x_cW X 0 (9 * (s_L X - 1))) Y U V Z)) (md_A ad) := by
  refine g_Md.ofV (by decide) ?_
  intro p e s m args below meth c ls Q hX hM hl hS hret
  have hx := hX.1.1
  have hb := hX.1.2.1
  have hl : lv_has ls 1 [(0, .ref (ad 0))] := hl
  have key : ∀ (H : Heap) (locs : List Loc), g_Mod G ad (p_F F P) X Y U V Z H → va_S (md_A ad) s.heap H locs → W p l e (g_rm 3 0 0) s m args below meth c H locs 0 0 Q (F0 m 0 ls []) := by
    intro H locs hM hS
    have hpc : P.1 ≤ 3 := hp.1
    have hpu : P.2.2.1 ≤ n := hp.2.1
    have hps : P.2.2.2.1 ≤ P.2.2.1 := hp.2.2.1
    have hpt : P.2.2.2.2 ≤ 4 := hp.2.2.2.1
    have hW := hwl.1
    have hW9 := hW
    obtain ⟨⟨hL0, hL2, hL6⟩, ⟨hM0, hM6⟩, ⟨hG0, hG40⟩, hok⟩ := hW9
    have hw9 : s_W X ≤ 45 := by unfold s_W; omega
    refine lv_aload_n hx hb dX2_readsCalm_0 rfl (lv_at hl 0 rfl) ?_
    refine g_cMV hX hl y_X2_calms v_X2_calms q2476 (k_X2_calms hW) (hM.rc hX.2.2.2) hM rfl ⟨Nat.le_of_ble_eq_true rfl, Nat.le_of_ble_eq_true rfl⟩ ⟨Nat.le_refl _, Nat.le_refl _⟩ (rest := []) (st1 := []) rfl rfl (Nat.le_of_ble_eq_true rfl) dX2_readsCalm_1 hS (fun _ h => h) (fun H locs hM hS _ => ?_)
    refine lv_aload_n hx hb dX2_readsCalm_4 rfl (lv_at hl 0 rfl) ?_
    refine g_cMV hX hl y_X2_goes v_X2_goes q2276 (k_X2_goes P n hn hn4 (p_ok.w hp)) (hM.rc hX.2.2.2) hM rfl ⟨Nat.le_of_ble_eq_true rfl, Nat.le_of_ble_eq_true rfl⟩ ⟨Nat.le_refl _, Nat.le_refl _⟩ (rest := []) (st1 := []) rfl rfl (Nat.le_of_ble_eq_true rfl) dX2_readsCalm_5 hS (fun _ h => h) (fun H locs hM hS _ => ?_)
    obtain ⟨P_1, hP_1⟩ : ∃ z, z = q_goes (Z 8) n P := ⟨_, rfl⟩
    rw [← hP_1] at hM
    have hpP_1 : p_ok n P_1 := by rw [hP_1]; exact q_goes_ok hp
    have hcP_1 : P_1.1 ≤ 3 := hpP_1.1
    have hsP_1 : P_1.2.2.2.1 ≤ P_1.2.2.1 := hpP_1.2.2.1
    have huP_1 : P_1.2.2.1 ≤ n := hpP_1.2.1
    have eP : q_goes (Z 8) n P = P_1 := by subst hP_1; rfl
    exact hret H locs _ _ _ _ dX2_readsCalm_8 hS (Nat.le_refl _) (Nat.le_refl _) ⟨rfl, by rw [eP]; exact hM⟩
  exact key _ _ hM hS

theorem y_X2_readsPass : g_Y yX2_readsPass cX2_readsPass 3 none 0 := ⟨q2373, by decide +kernel⟩
theorem v_X2_readsPass : g_YV yX2_readsPass := ⟨q2372, qs64, q140⟩
set_option maxHeartbeats 4000000 in
theorem k_X2_readsPass {G : g_G} {l : Launch} {ad : Nat → Nat} {F : Nat → Int32} {X Y : g_Wd} {U V : Nat → g_Wd} {Z : g_Wd}  (P : g_P) (n : Nat) (hn : F 12 = nI n) (hn4 : n ≤ 400) (hp : p_ok n P) (hwl : s_wl X) : g_Md G l yX2_readsPass cX2_readsPass 3 none 8 0 0 [.ref (ad 0)] (g_Mod G ad (p_F F P) X Y U V Z) (g_Qv none (g_Mod G ad (p_F F (q_num (Z 8) n (q_goes (Z 8) n P) 1 50)) (r_paX (Z 8) n X P) Y U V Z)) (md_A ad) := by
  refine g_Md.ofV (by decide) ?_
  intro p e s m args below meth c ls Q hX hM hl hS hret
  have hx := hX.1.1
  have hb := hX.1.2.1
  have hl : lv_has ls 3 [(0, .ref (ad 0))] := hl
  have key : ∀ (H : Heap) (locs : List Loc), g_Mod G ad (p_F F P) X Y U V Z H → va_S (md_A ad) s.heap H locs → W p l e (g_rm 8 0 0) s m args below meth c H locs 0 0 Q (F0 m 0 ls []) := by
    intro H locs hM hS
    have hpc : P.1 ≤ 3 := hp.1
    have hpu : P.2.2.1 ≤ n := hp.2.1
    have hps : P.2.2.2.1 ≤ P.2.2.1 := hp.2.2.1
    have hpt : P.2.2.2.2 ≤ 4 := hp.2.2.2.1
    have hW := hwl.1
    have hW9 := hW
    obtain ⟨⟨hL0, hL2, hL6⟩, ⟨hM0, hM6⟩, ⟨hG0, hG40⟩, hok⟩ := hW9
    have hw9 : s_W X ≤ 45 := by unfold s_W; omega
    refine lv_aload_n hx hb dX2_readsPass_0 rfl (lv_at hl 0 rfl) ?_
    refine g_cMV hX hl y_X2_goes v_X2_goes q2276 (k_X2_goes P n hn hn4 (p_ok.w hp)) (hM.rc hX.2.2.2) hM rfl ⟨Nat.le_of_ble_eq_true rfl, Nat.le_of_ble_eq_true rfl⟩ ⟨Nat.le_refl _, Nat.le_refl _⟩ (rest := []) (st1 := []) rfl rfl (Nat.le_of_ble_eq_true rfl) dX2_readsPass_1 hS (fun _ h => h) (fun H locs hM hS _ => ?_)
    obtain ⟨P_1, hP_1⟩ : ∃ z, z = q_goes (Z 8) n P := ⟨_, rfl⟩
    rw [← hP_1] at hM
    have hpP_1 : p_ok n P_1 := by rw [hP_1]; exact q_goes_ok hp
    have hcP_1 : P_1.1 ≤ 3 := hpP_1.1
    have hsP_1 : P_1.2.2.2.1 ≤ P_1.2.2.1 := hpP_1.2.2.1
    have huP_1 : P_1.2.2.1 ≤ n := hpP_1.2.1
    refine lv_aload_n hx hb dX2_readsPass_4 rfl (lv_at hl 0 rfl) ?_
    refine lv_iconst (v := 1) hx hb dX2_readsPass_5 rfl ?_
    refine lv_bipush (v := 50) hx hb dX2_readsPass_6 (by decide) ?_
    refine g_cMV hX hl y_X2_number v_X2_number q2303 (k_X2_number 1 50 P_1 n hn hn4 hpP_1) (hM.rc hX.2.2.2) hM rfl ⟨Nat.le_of_ble_eq_true rfl, Nat.le_of_ble_eq_true rfl⟩ ⟨Nat.le_refl _, Nat.le_refl _⟩ (rest := []) (st1 := [.int (q_nV (Z 8) P_1 1 50)]) rfl rfl (Nat.le_of_ble_eq_true rfl) dX2_readsPass_8 hS (fun _ h => h) (fun H locs hM hS _ => ?_)
    obtain ⟨v_2, hv_2⟩ : ∃ z, z = (q_nV (Z 8) P_1 1 50) := ⟨_, rfl⟩
    rw [← hv_2]
    obtain ⟨P_3, hP_3⟩ : ∃ z, z = q_num (Z 8) n P_1 1 50 := ⟨_, rfl⟩
    rw [← hP_3] at hM
    have hpP_3 : p_ok n P_3 := by rw [hP_3]; exact q_num_ok hpP_1
    have hcP_3 : P_3.1 ≤ 3 := hpP_3.1
    have hsP_3 : P_3.2.2.2.1 ≤ P_3.2.2.1 := hpP_3.2.2.1
    have huP_3 : P_3.2.2.1 ≤ n := hpP_3.2.1
    refine lv_istore_n (lv' := [(1, .int v_2), (0, .ref (ad 0))]) hx hb dX2_readsPass_11 rfl hl (by decide) rfl (fun ls hl => ?_)
    refine lv_aload_n hx hb dX2_readsPass_12 rfl (lv_at hl 1 rfl) ?_
    refine g_getM hX hM 10 (by decide) q2173 rfl (v := .int (nI P_3.1)) rfl dX2_readsPass_13 ?_
    refine g_if_leN (tgt := 20) hx hb P_3.1 rfl (by omega) dX2_readsPass_16 (by decide) (fun c_16 => ?_) (fun c_16 => ?_)
    · skip
      have hz0 : P_3.1 = 0 := by omega
      have hz1 := q_nn (b := Z 8) (n := n) (P := P_1) (lo := 1) (hi := 50) (k := 50) (by rw [← hP_3]; exact hz0) (by decide) (by rfl) (by omega)
      rw [hv_2, hz1.1] at hl
      have hz1b := hz1.2.1
      refine lv_aload_n hx hb dX2_readsPass_20 rfl (lv_at hl 1 rfl) ?_
      refine lv_iload_n hx hb dX2_readsPass_21 rfl (lv_at hl 0 rfl) ?_
      refine g_cMV hX hl y_X2_passes v_X2_passes q2374 (k_X2_passes (q_n (Z 8) P_1 1 50) hwl (by omega)) (hM.rc hX.2.2.2) hM rfl ⟨Nat.le_of_ble_eq_true rfl, Nat.le_of_ble_eq_true rfl⟩ ⟨Nat.le_refl _, Nat.le_refl _⟩ (rest := []) (st1 := [.int (nI (s_arrd (x_pH X (q_n (Z 8) P_1 1 50))) - nI (s_arrd X))]) rfl rfl (Nat.le_of_ble_eq_true rfl) dX2_readsPass_22 hS (fun _ h => h) (fun H locs hM hS _ => ?_)
      refine lv_istore_n (lv' := [(2, .int (nI (s_arrd (x_pH X (q_n (Z 8) P_1 1 50))) - nI (s_arrd X))), (1, .int (nI (q_n (Z 8) P_1 1 50))), (0, .ref (ad 0))]) hx hb dX2_readsPass_25 rfl hl (by decide) rfl (fun ls hl => ?_)
      have eP : q_num (Z 8) n (q_goes (Z 8) n P) 1 50 = P_3 := by subst hP_3 hv_2 hP_1; rfl
      have eX : r_paX (Z 8) n X P = x_pH X (q_n (Z 8) P_1 1 50) := by unfold r_paX; rw [eP]; (first | (rw [if_pos (by omega)]; done) | (rw [if_pos (by omega)]; subst hP_3 hv_2 hP_1; rfl) | (rw [if_neg (by omega)]; done) | (rw [if_neg (by omega)]; subst hP_3 hv_2 hP_1; rfl)); first | done | (subst hP_3 hv_2 hP_1; rfl)
      exact hret H locs _ _ _ _ dX2_readsPass_26 hS (Nat.le_refl _) (Nat.le_refl _) ⟨rfl, by rw [eP, eX]; exact hM⟩
    · skip
      have eP : q_num (Z 8) n (q_goes (Z 8) n P) 1 50 = P_3 := by subst hP_3 hv_2 hP_1; rfl
      have eX : r_paX (Z 8) n X P = X := by unfold r_paX; rw [eP]; (first | (rw [if_pos (by omega)]; done) | (rw [if_pos (by omega)]; subst hP_3 hv_2 hP_1; rfl) | (rw [if_neg (by omega)]; done) | (rw [if_neg (by omega)]; subst hP_3 hv_2 hP_1; rfl)); first | done | (subst hP_3 hv_2 hP_1; rfl)
      exact hret H locs _ _ _ _ dX2_readsPass_19 hS (Nat.le_refl _) (Nat.le_refl _) ⟨rfl, by rw [eP, eX]; exact hM⟩
  exact key _ _ hM hS

theorem y_X2_readsDrop : g_Y yX2_readsDrop cX2_readsDrop 2 none 0 := ⟨q2484, by decide +kernel⟩
theorem v_X2_readsDrop : g_YV yX2_readsDrop := ⟨q2483, qs89, q140⟩
set_option maxHeartbeats 4000000 in
theorem k_X2_readsDrop {G : g_G} {l : Launch} {ad : Nat → Nat} {F : Nat → Int32} {X Y : g_Wd} {U V : Nat → g_Wd} {Z : g_Wd}  (P : g_P) (n : Nat) (hn : F 12 = nI n) (hn4 : n ≤ 400) (hp : p_ok n P) (hwl : s_wl X) : g_Md G l yX2_readsDrop cX2_readsDrop 2 none 3 0 0 [.ref (ad 0)] (g_Mod G ad (p_F F P) X Y U V Z) (g_Qv none (g_Mod G ad (p_F F (q_goes (Z 8) n (r_d3 (Z 8) n X P))) (r_drX (Z 8) n X P) Y U V Z)) (md_A ad) := by
  refine g_Md.ofV (by decide) ?_
  intro p e s m args below meth c ls Q hX hM hl hS hret
  have hx := hX.1.1
  have hb := hX.1.2.1
  have hl : lv_has ls 2 [(0, .ref (ad 0))] := hl
  have key : ∀ (H : Heap) (locs : List Loc), g_Mod G ad (p_F F P) X Y U V Z H → va_S (md_A ad) s.heap H locs → W p l e (g_rm 3 0 0) s m args below meth c H locs 0 0 Q (F0 m 0 ls []) := by
    intro H locs hM hS
    have hpc : P.1 ≤ 3 := hp.1
    have hpu : P.2.2.1 ≤ n := hp.2.1
    have hps : P.2.2.2.1 ≤ P.2.2.1 := hp.2.2.1
    have hpt : P.2.2.2.2 ≤ 4 := hp.2.2.2.1
    have hW := hwl.1
    have hW9 := hW
    obtain ⟨⟨hL0, hL2, hL6⟩, ⟨hM0, hM6⟩, ⟨hG0, hG40⟩, hok⟩ := hW9
    have hw9 : s_W X ≤ 45 := by unfold s_W; omega
    have hM0 := hwl.1.2.1.1
    have hM6 := hwl.1.2.1.2
    refine lv_aload_n hx hb dX2_readsDrop_0 rfl (lv_at hl 0 rfl) ?_
    refine g_cMV hX hl y_X2_goes v_X2_goes q2276 (k_X2_goes P n hn hn4 (p_ok.w hp)) (hM.rc hX.2.2.2) hM rfl ⟨Nat.le_of_ble_eq_true rfl, Nat.le_of_ble_eq_true rfl⟩ ⟨Nat.le_refl _, Nat.le_refl _⟩ (rest := []) (st1 := []) rfl rfl (Nat.le_of_ble_eq_true rfl) dX2_readsDrop_1 hS (fun _ h => h) (fun H locs hM hS _ => ?_)
    obtain ⟨P_1, hP_1⟩ : ∃ z, z = q_goes (Z 8) n P := ⟨_, rfl⟩
    rw [← hP_1] at hM
    have hpP_1 : p_ok n P_1 := by rw [hP_1]; exact q_goes_ok hp
    have hcP_1 : P_1.1 ≤ 3 := hpP_1.1
    have hsP_1 : P_1.2.2.2.1 ≤ P_1.2.2.1 := hpP_1.2.2.1
    have huP_1 : P_1.2.2.1 ≤ n := hpP_1.2.1
    refine lv_aload_n hx hb dX2_readsDrop_4 rfl (lv_at hl 0 rfl) ?_
    refine lv_iconst (v := 0) hx hb dX2_readsDrop_5 rfl ?_
    refine lv_aload_n hx hb dX2_readsDrop_6 rfl (lv_at hl 0 rfl) ?_
    refine g_getM hX hM 1 (by decide) q2164 rfl (v := .ref (ad 1)) rfl dX2_readsDrop_7 ?_
    refine lv_iconst (v := 3) hx hb dX2_readsDrop_10 rfl ?_
    refine g_iald hX hM.a1 3 rfl (by omega) (by decide) (v := (X 0 3)) rfl dX2_readsDrop_11 ?_
    refine lv_iconst (v := 1) hx hb dX2_readsDrop_12 rfl ?_
    refine lv_isub hx hb dX2_readsDrop_13 ?_
    refine g_cMV hX hl y_X2_numberHere v_X2_numberHere q2307 (k_X2_numberHere 0 ((X 0 3) - 1) P_1 n hn hn4 hpP_1) (hM.rc hX.2.2.2) hM rfl ⟨Nat.le_of_ble_eq_true rfl, Nat.le_of_ble_eq_true rfl⟩ ⟨Nat.le_refl _, Nat.le_refl _⟩ (rest := []) (st1 := [.int (q_nV (Z 8) P_1 0 ((X 0 3) - 1))]) rfl rfl (Nat.le_of_ble_eq_true rfl) dX2_readsDrop_14 hS (fun _ h => h) (fun H locs hM hS _ => ?_)
    obtain ⟨v_2, hv_2⟩ : ∃ z, z = (q_nV (Z 8) P_1 0 ((X 0 3) - 1)) := ⟨_, rfl⟩
    rw [← hv_2]
    obtain ⟨P_3, hP_3⟩ : ∃ z, z = q_nH (Z 8) P_1 0 ((X 0 3) - 1) := ⟨_, rfl⟩
    rw [← hP_3] at hM
    have hpP_3 : p_ok n P_3 := by rw [hP_3]; exact q_nH_ok hpP_1
    have hcP_3 : P_3.1 ≤ 3 := hpP_3.1
    have hsP_3 : P_3.2.2.2.1 ≤ P_3.2.2.1 := hpP_3.2.2.1
    have huP_3 : P_3.2.2.1 ≤ n := hpP_3.2.1
    refine lv_istore_n (lv' := [(1, .int v_2), (0, .ref (ad 0))]) hx hb dX2_readsDrop_17 rfl hl (by decide) rfl (fun ls hl => ?_)
    have eC : r_d2 (Z 8) n X P = P_3 := by subst hP_3 hv_2 hP_1; rfl
    refine lv_aload_n hx hb dX2_readsDrop_18 rfl (lv_at hl 1 rfl) ?_
    refine g_getM hX hM 10 (by decide) q2173 rfl (v := .int (nI P_3.1)) rfl dX2_readsDrop_19 ?_
    refine g_if_neN (tgt := 38) hx hb P_3.1 rfl (by omega) dX2_readsDrop_22 (by decide) (fun c_22 => ?_) (fun c_22 => ?_)
    · skip
      have e38 : r_d3 (Z 8) n X P = P_3 := by unfold r_d3; rw [eC, if_neg (fun z => by omega)]
      rw [← e38] at hM
      obtain ⟨P_4, hP_4⟩ : ∃ z, z = r_d3 (Z 8) n X P := ⟨_, rfl⟩
      rw [← hP_4] at hM
      have hpP_4 : p_ok n P_4 := by rw [hP_4]; exact r_d3_ok hp
      have hcP_4 : P_4.1 ≤ 3 := hpP_4.1
      have hsP_4 : P_4.2.2.2.1 ≤ P_4.2.2.1 := hpP_4.2.2.1
      have huP_4 : P_4.2.2.1 ≤ n := hpP_4.2.1
      have e38b : P_4 = P_3 := by rw [hP_4]; exact e38
      refine lv_aload_n hx hb dX2_readsDrop_38 rfl (lv_at hl 1 rfl) ?_
      refine g_getM hX hM 10 (by decide) q2173 rfl (v := .int (nI P_4.1)) rfl dX2_readsDrop_39 ?_
      refine g_if_neN (tgt := 50) hx hb P_4.1 rfl (by omega) dX2_readsDrop_42 (by decide) (fun c_42 => ?_) (fun c_42 => ?_)
      rotate_left
      · exact absurd c_42 (by rw [e38b]; exact c_22)
      refine lv_aload_n hx hb dX2_readsDrop_50 rfl (lv_at hl 1 rfl) ?_
      refine g_cMV hX hl y_X2_goes v_X2_goes q2276 (k_X2_goes P_4 n hn hn4 (p_ok.w hpP_4)) (hM.rc hX.2.2.2) hM rfl ⟨Nat.le_of_ble_eq_true rfl, Nat.le_of_ble_eq_true rfl⟩ ⟨Nat.le_refl _, Nat.le_refl _⟩ (rest := []) (st1 := []) rfl rfl (Nat.le_of_ble_eq_true rfl) dX2_readsDrop_51 hS (fun _ h => h) (fun H locs hM hS _ => ?_)
      obtain ⟨P_5, hP_5⟩ : ∃ z, z = q_goes (Z 8) n P_4 := ⟨_, rfl⟩
      rw [← hP_5] at hM
      have hpP_5 : p_ok n P_5 := by rw [hP_5]; exact q_goes_ok hpP_4
      have hcP_5 : P_5.1 ≤ 3 := hpP_5.1
      have hsP_5 : P_5.2.2.2.1 ≤ P_5.2.2.1 := hpP_5.2.2.1
      have huP_5 : P_5.2.2.1 ≤ n := hpP_5.2.1
      have eP : q_goes (Z 8) n (r_d3 (Z 8) n X P) = P_5 := by subst hP_5 hP_4 hP_3 hv_2 hP_1; rfl
      have eX : r_drX (Z 8) n X P = X := by unfold r_drX; (rw [← hP_4]; first | (rw [if_pos (by omega), eD]; done) | (rw [if_neg (by omega)]; done)); first | done | (subst hP_5 hP_4 hP_3 hv_2 hP_1; rfl)
      exact hret H locs _ _ _ _ dX2_readsDrop_54 hS (Nat.le_refl _) (Nat.le_refl _) ⟨rfl, by rw [eP, eX]; exact hM⟩
    · skip
      have hz0 : P_3.1 = 0 := by omega
      have hz1 := q_nnM (b := Z 8) (P := P_1) (k := s_M X) (by rw [← hM0, ← hP_3]; exact hz0) (by omega)
      rw [← hM0] at hz1
      rw [hv_2, hz1.1] at hl
      have hz1b := hz1.2.1
      have eD : r_dm (Z 8) n X P = q_n (Z 8) P_1 0 (X 0 3 - 1) := by subst hP_3 hv_2 hP_1; rfl
      refine lv_aload_n hx hb dX2_readsDrop_25 rfl (lv_at hl 1 rfl) ?_
      refine lv_iload_n hx hb dX2_readsDrop_26 rfl (lv_at hl 0 rfl) ?_
      refine g_cRV hX hl y_X2_isUnderWay v_X2_isUnderWay q2382 (k_X2_isUnderWay (q_n (Z 8) P_1 0 (X 0 3 - 1)) (by omega)) (hM.rc hX.2.2.2) hM rfl ⟨Nat.le_of_ble_eq_true rfl, Nat.le_of_ble_eq_true rfl⟩ ⟨Nat.zero_le _, Nat.zero_le _⟩ (rest := []) (st1 := [.int (g_b (decide (X (3 + (q_n (Z 8) P_1 0 (X 0 3 - 1))) 4 = -1)))]) rfl rfl (Nat.le_of_ble_eq_true rfl) dX2_readsDrop_27 ?_
      refine g_if_eqB (tgt := 38) hx hb (b := decide (X (3 + (q_n (Z 8) P_1 0 (X 0 3 - 1))) 4 = -1)) rfl dX2_readsDrop_30 (by decide) (fun c_30 => ?_) (fun c_30 => ?_)
      · skip
        have e38 : r_d3 (Z 8) n X P = P_3 := by unfold r_d3; rw [eC, eD, if_neg (fun z => by simp [z.2] at c_30)]
        rw [← e38] at hM
        obtain ⟨P_6, hP_6⟩ : ∃ z, z = r_d3 (Z 8) n X P := ⟨_, rfl⟩
        rw [← hP_6] at hM
        have hpP_6 : p_ok n P_6 := by rw [hP_6]; exact r_d3_ok hp
        have hcP_6 : P_6.1 ≤ 3 := hpP_6.1
        have hsP_6 : P_6.2.2.2.1 ≤ P_6.2.2.1 := hpP_6.2.2.1
        have huP_6 : P_6.2.2.1 ≤ n := hpP_6.2.1
        have e38b : P_6 = P_3 := by rw [hP_6]; exact e38
        refine lv_aload_n hx hb dX2_readsDrop_38 rfl (lv_at hl 1 rfl) ?_
        refine g_getM hX hM 10 (by decide) q2173 rfl (v := .int (nI P_6.1)) rfl dX2_readsDrop_39 ?_
        refine g_if_neN (tgt := 50) hx hb P_6.1 rfl (by omega) dX2_readsDrop_42 (by decide) (fun c_42 => ?_) (fun c_42 => ?_)
        · exact absurd c_42 (by rw [e38b]; omega)
        skip
        refine lv_aload_n hx hb dX2_readsDrop_45 rfl (lv_at hl 1 rfl) ?_
        refine lv_iload_n hx hb dX2_readsDrop_46 rfl (lv_at hl 0 rfl) ?_
        refine g_cMV hX hl y_X2_drops v_X2_drops q2485 (k_X2_drops (q_n (Z 8) P_1 0 (X 0 3 - 1)) hz1b hwl) (hM.rc hX.2.2.2) hM rfl ⟨Nat.le_of_ble_eq_true rfl, Nat.le_of_ble_eq_true rfl⟩ ⟨Nat.le_refl _, Nat.le_refl _⟩ (rest := []) (st1 := []) rfl rfl (Nat.le_of_ble_eq_true rfl) dX2_readsDrop_47 hS (fun _ h => h) (fun H locs hM hS _ => ?_)
        refine lv_aload_n hx hb dX2_readsDrop_50 rfl (lv_at hl 1 rfl) ?_
        refine g_cMV hX hl y_X2_goes v_X2_goes q2276 (k_X2_goes P_6 n hn hn4 (p_ok.w hpP_6)) (hM.rc hX.2.2.2) hM rfl ⟨Nat.le_of_ble_eq_true rfl, Nat.le_of_ble_eq_true rfl⟩ ⟨Nat.le_refl _, Nat.le_refl _⟩ (rest := []) (st1 := []) rfl rfl (Nat.le_of_ble_eq_true rfl) dX2_readsDrop_51 hS (fun _ h => h) (fun H locs hM hS _ => ?_)
        obtain ⟨P_7, hP_7⟩ : ∃ z, z = q_goes (Z 8) n P_6 := ⟨_, rfl⟩
        rw [← hP_7] at hM
        have hpP_7 : p_ok n P_7 := by rw [hP_7]; exact q_goes_ok hpP_6
        have hcP_7 : P_7.1 ≤ 3 := hpP_7.1
        have hsP_7 : P_7.2.2.2.1 ≤ P_7.2.2.1 := hpP_7.2.2.1
        have huP_7 : P_7.2.2.1 ≤ n := hpP_7.2.1
        have eP : q_goes (Z 8) n (r_d3 (Z 8) n X P) = P_7 := by subst hP_7 hP_6 hP_3 hv_2 hP_1; rfl
        have eX : r_drX (Z 8) n X P = x_drop X (q_n (Z 8) P_1 0 (X 0 3 - 1)) := by unfold r_drX; (rw [← hP_6]; first | (rw [if_pos (by omega), eD]; done) | (rw [if_neg (by omega)]; done)); first | done | (subst hP_7 hP_6 hP_3 hv_2 hP_1; rfl)
        exact hret H locs _ _ _ _ dX2_readsDrop_54 hS (Nat.le_refl _) (Nat.le_refl _) ⟨rfl, by rw [eP, eX]; exact hM⟩
      · skip
        refine lv_aload_n hx hb dX2_readsDrop_33 rfl (lv_at hl 1 rfl) ?_
        refine lv_iconst (v := 3) hx hb dX2_readsDrop_34 rfl ?_
        refine g_cMV hX hl y_X2_faults v_X2_faults q2299 (k_X2_faults 3 P_3 n hn hn4 hpP_3 (by omega)) (hM.rc hX.2.2.2) hM rfl ⟨Nat.le_of_ble_eq_true rfl, Nat.le_of_ble_eq_true rfl⟩ ⟨Nat.le_refl _, Nat.le_refl _⟩ (rest := []) (st1 := []) rfl rfl (Nat.le_of_ble_eq_true rfl) dX2_readsDrop_35 hS (fun _ h => h) (fun H locs hM hS _ => ?_)
        obtain ⟨P_8, hP_8⟩ : ∃ z, z = q_f P_3 3 := ⟨_, rfl⟩
        rw [← hP_8] at hM
        have hpP_8 : p_ok n P_8 := by rw [hP_8]; exact q_f_ok hpP_3 (by decide)
        have hcP_8 : P_8.1 ≤ 3 := hpP_8.1
        have hsP_8 : P_8.2.2.2.1 ≤ P_8.2.2.1 := hpP_8.2.2.1
        have huP_8 : P_8.2.2.1 ≤ n := hpP_8.2.1
        have e38 : r_d3 (Z 8) n X P = P_8 := by unfold r_d3; rw [eC, eD, if_pos ⟨hz0, by simpa using c_30⟩, hP_8]
        rw [← e38] at hM
        obtain ⟨P_9, hP_9⟩ : ∃ z, z = r_d3 (Z 8) n X P := ⟨_, rfl⟩
        rw [← hP_9] at hM
        have hpP_9 : p_ok n P_9 := by rw [hP_9]; exact r_d3_ok hp
        have hcP_9 : P_9.1 ≤ 3 := hpP_9.1
        have hsP_9 : P_9.2.2.2.1 ≤ P_9.2.2.1 := hpP_9.2.2.1
        have huP_9 : P_9.2.2.1 ≤ n := hpP_9.2.1
        have e38b : P_9 = P_8 := by rw [hP_9]; exact e38
        refine lv_aload_n hx hb dX2_readsDrop_38 rfl (lv_at hl 1 rfl) ?_
        refine g_getM hX hM 10 (by decide) q2173 rfl (v := .int (nI P_9.1)) rfl dX2_readsDrop_39 ?_
        refine g_if_neN (tgt := 50) hx hb P_9.1 rfl (by omega) dX2_readsDrop_42 (by decide) (fun c_42 => ?_) (fun c_42 => ?_)
        rotate_left
        · exact absurd c_42 (by rw [e38b, hP_8]; exact fun z => by have := q_f_n (P := P_3) (c := 3) (by decide); omega)
        refine lv_aload_n hx hb dX2_readsDrop_50 rfl (lv_at hl 1 rfl) ?_
        refine g_cMV hX hl y_X2_goes v_X2_goes q2276 (k_X2_goes P_9 n hn hn4 (p_ok.w hpP_9)) (hM.rc hX.2.2.2) hM rfl ⟨Nat.le_of_ble_eq_true rfl, Nat.le_of_ble_eq_true rfl⟩ ⟨Nat.le_refl _, Nat.le_refl _⟩ (rest := []) (st1 := []) rfl rfl (Nat.le_of_ble_eq_true rfl) dX2_readsDrop_51 hS (fun _ h => h) (fun H locs hM hS _ => ?_)
        obtain ⟨P_10, hP_10⟩ : ∃ z, z = q_goes (Z 8) n P_9 := ⟨_, rfl⟩
        rw [← hP_10] at hM
        have hpP_10 : p_ok n P_10 := by rw [hP_10]; exact q_goes_ok hpP_9
        have hcP_10 : P_10.1 ≤ 3 := hpP_10.1
        have hsP_10 : P_10.2.2.2.1 ≤ P_10.2.2.1 := hpP_10.2.2.1
        have huP_10 : P_10.2.2.1 ≤ n := hpP_10.2.1
        have eP : q_goes (Z 8) n (r_d3 (Z 8) n X P) = P_10 := by subst hP_10 hP_9 hP_8 hP_3 hv_2 hP_1; rfl
        have eX : r_drX (Z 8) n X P = X := by unfold r_drX; (rw [← hP_9]; first | (rw [if_pos (by omega), eD]; done) | (rw [if_neg (by omega)]; done)); first | done | (subst hP_10 hP_9 hP_8 hP_3 hv_2 hP_1; rfl)
        exact hret H locs _ _ _ _ dX2_readsDrop_54 hS (Nat.le_refl _) (Nat.le_refl _) ⟨rfl, by rw [eP, eX]; exact hM⟩
  exact key _ _ hM hS

theorem y_X2_readsSend : g_Y yX2_readsSend cX2_readsSend 3 none 0 := ⟨q2348, by decide +kernel⟩
theorem v_X2_readsSend : g_YV yX2_readsSend := ⟨q2347, qs58, q140⟩
set_option maxHeartbeats 4000000 in
theorem k_X2_readsSend {G : g_G} {l : Launch} {ad : Nat → Nat} {F : Nat → Int32} {X Y : g_Wd} {U V : Nat → g_Wd} {Z : g_Wd}  (P : g_P) (n : Nat) (hn : F 12 = nI n) (hn4 : n ≤ 400) (hp : p_ok n P) (hwl : s_wl X) : g_Md G l yX2_readsSend cX2_readsSend 3 none 3 0 0 [.ref (ad 0)] (g_Mod G ad (p_F F P) X Y U V Z) (g_Qv none (g_Mod G ad (p_F F (r_eP (Z 8) n X P)) (r_seX (Z 8) n X P) Y U V Z)) (md_A ad) := by
  refine g_Md.ofV (by decide) ?_
  intro p e s m args below meth c ls Q hX hM hl hS hret
  have hx := hX.1.1
  have hb := hX.1.2.1
  have hl : lv_has ls 3 [(0, .ref (ad 0))] := hl
  have key : ∀ (H : Heap) (locs : List Loc), g_Mod G ad (p_F F P) X Y U V Z H → va_S (md_A ad) s.heap H locs → W p l e (g_rm 3 0 0) s m args below meth c H locs 0 0 Q (F0 m 0 ls []) := by
    intro H locs hM hS
    have hpc : P.1 ≤ 3 := hp.1
    have hpu : P.2.2.1 ≤ n := hp.2.1
    have hps : P.2.2.2.1 ≤ P.2.2.1 := hp.2.2.1
    have hpt : P.2.2.2.2 ≤ 4 := hp.2.2.2.1
    have hW := hwl.1
    have hW9 := hW
    obtain ⟨⟨hL0, hL2, hL6⟩, ⟨hM0, hM6⟩, ⟨hG0, hG40⟩, hok⟩ := hW9
    have hw9 : s_W X ≤ 45 := by unfold s_W; omega
    have hM0 := hwl.1.2.1.1
    have hM6 := hwl.1.2.1.2
    have hG9 : s_okG X := hwl.1.2.2.1
    refine lv_aload_n hx hb dX2_readsSend_0 rfl (lv_at hl 0 rfl) ?_
    refine g_getM hX hM 1 (by decide) q2164 rfl (v := .ref (ad 1)) rfl dX2_readsSend_1 ?_
    refine lv_iconst (v := 3) hx hb dX2_readsSend_4 rfl ?_
    refine g_iald hX hM.a1 3 rfl (by omega) (by decide) (v := (X 0 3)) rfl dX2_readsSend_5 ?_
    refine lv_bipush (v := 6) hx hb dX2_readsSend_6 (by decide) ?_
    refine g_icmp_neN (tgt := 16) hx hb (s_M X) 6 hM0 rfl (by omega) (by omega) dX2_readsSend_8 (by decide) (fun c_8 => ?_) (fun c_8 => ?_)
    · skip
      have e16 : r_m0 X P = P := by unfold r_m0; (first | rw [if_pos (by omega)] | rw [if_neg (by omega)]); first | done | (rfl)
      rw [← e16] at hM
      obtain ⟨P_1, hP_1⟩ : ∃ z, z = r_m0 X P := ⟨_, rfl⟩
      rw [← hP_1] at hM
      have hpP_1 : p_ok n P_1 := by rw [hP_1]; exact r_m0_ok hp
      have hcP_1 : P_1.1 ≤ 3 := hpP_1.1
      have hsP_1 : P_1.2.2.2.1 ≤ P_1.2.2.1 := hpP_1.2.2.1
      have huP_1 : P_1.2.2.1 ≤ n := hpP_1.2.1
      have e16b : P_1 = P := by rw [hP_1]; exact e16
      refine lv_aload_n hx hb dX2_readsSend_16 rfl (lv_at hl 0 rfl) ?_
      refine g_cMV hX hl y_X2_goes v_X2_goes q2276 (k_X2_goes P_1 n hn hn4 (p_ok.w hpP_1)) (hM.rc hX.2.2.2) hM rfl ⟨Nat.le_of_ble_eq_true rfl, Nat.le_of_ble_eq_true rfl⟩ ⟨Nat.le_refl _, Nat.le_refl _⟩ (rest := []) (st1 := []) rfl rfl (Nat.le_of_ble_eq_true rfl) dX2_readsSend_17 hS (fun _ h => h) (fun H locs hM hS _ => ?_)
      obtain ⟨P_2, hP_2⟩ : ∃ z, z = q_goes (Z 8) n P_1 := ⟨_, rfl⟩
      rw [← hP_2] at hM
      have hpP_2 : p_ok n P_2 := by rw [hP_2]; exact q_goes_ok hpP_1
      have hcP_2 : P_2.1 ≤ 3 := hpP_2.1
      have hsP_2 : P_2.2.2.2.1 ≤ P_2.2.2.1 := hpP_2.2.2.1
      have huP_2 : P_2.2.2.1 ≤ n := hpP_2.2.1
      refine lv_aload_n hx hb dX2_readsSend_20 rfl (lv_at hl 0 rfl) ?_
      refine lv_iconst (v := 3) hx hb dX2_readsSend_21 rfl ?_
      refine g_cRV hX hl y_X2_is v_X2_is q2293 (k_X2_is 3 P_2 n hn hn4 (by first | exact hp | assumption) (by omega)) (hM.rc hX.2.2.2) hM rfl ⟨Nat.le_of_ble_eq_true rfl, Nat.le_of_ble_eq_true rfl⟩ ⟨Nat.zero_le _, Nat.zero_le _⟩ (rest := []) (st1 := [.int (g_b (q_is P_2 3))]) rfl rfl (Nat.le_of_ble_eq_true rfl) dX2_readsSend_22 ?_
      refine g_if_neB (tgt := 33) hx hb (b := q_is P_2 3) rfl dX2_readsSend_25 (by decide) (fun c_25 => ?_) (fun c_25 => ?_)
      · skip
        have e33 : r_e2 (Z 8) n X P = P_2 := by unfold r_e2; (first | rw [if_pos (by subst hP_2 hP_1; exact c_25)] | rw [if_neg (by subst hP_2 hP_1; exact fun z => Bool.noConfusion (c_25.symm.trans z))]); first | done | (subst hP_2 hP_1; rfl)
        rw [← e33] at hM
        obtain ⟨P_3, hP_3⟩ : ∃ z, z = r_e2 (Z 8) n X P := ⟨_, rfl⟩
        rw [← hP_3] at hM
        have hpP_3 : p_ok n P_3 := by rw [hP_3]; exact r_e2_ok hp
        have hcP_3 : P_3.1 ≤ 3 := hpP_3.1
        have hsP_3 : P_3.2.2.2.1 ≤ P_3.2.2.1 := hpP_3.2.2.1
        have huP_3 : P_3.2.2.1 ≤ n := hpP_3.2.1
        have e33b : P_3 = P_2 := by rw [hP_3]; exact e33
        refine lv_aload_n hx hb dX2_readsSend_33 rfl (lv_at hl 0 rfl) ?_
        refine g_getM hX hM 10 (by decide) q2173 rfl (v := .int (nI P_3.1)) rfl dX2_readsSend_34 ?_
        refine g_if_leN (tgt := 41) hx hb P_3.1 rfl (by omega) dX2_readsSend_37 (by decide) (fun c_37 => ?_) (fun c_37 => ?_)
        · skip
          have hz0 : P_3.1 = 0 := by omega
          have h9 := r_e2_0 (b := Z 8) (n := n) (X := X) (P := P) (by rw [← hP_3]; exact hz0)
          have hMl : s_M X < 6 := by omega
          have hlen := hpP_3.2.2.2.2 (by rw [hP_3]; exact h9.1)
          have hbl := x_beg_3 (X := X) (len := nI (P_3.2.2.1 - P_3.2.2.2.1)) hMl
          refine lv_aload_n hx hb dX2_readsSend_41 rfl (lv_at hl 0 rfl) ?_
          refine lv_aload_n hx hb dX2_readsSend_42 rfl (lv_at hl 0 rfl) ?_
          refine g_getM hX hM 13 (by decide) q2176 rfl (v := .int (nI P_3.2.2.1)) rfl dX2_readsSend_43 ?_
          refine lv_aload_n hx hb dX2_readsSend_46 rfl (lv_at hl 0 rfl) ?_
          refine g_getM hX hM 14 (by decide) q2177 rfl (v := .int (nI P_3.2.2.2.1)) rfl dX2_readsSend_47 ?_
          refine g_isubN hx hb P_3.2.2.1 P_3.2.2.2.1 rfl rfl (by omega) dX2_readsSend_50 ?_
          refine g_cMV hX hl y_X2_begins v_X2_begins q2349 (k_X2_begins (nI (P_3.2.2.1 - P_3.2.2.2.1)) hM0 hMl) (hM.rc hX.2.2.2) hM rfl ⟨Nat.le_of_ble_eq_true rfl, Nat.le_of_ble_eq_true rfl⟩ ⟨Nat.le_refl _, Nat.le_refl _⟩ (rest := []) (st1 := [.int (nI (s_M X))]) rfl rfl (Nat.le_of_ble_eq_true rfl) dX2_readsSend_51 hS (fun _ h => h) (fun H locs hM hS _ => ?_)
          refine lv_istore_n (lv' := [(1, .int (nI (s_M X))), (0, .ref (ad 0))]) hx hb dX2_readsSend_54 rfl hl (by decide) rfl (fun ls hl => ?_)
          refine lv_iconst (v := 0) hx hb dX2_readsSend_55 rfl ?_
          refine lv_istore_n (lv' := [(2, .int 0), (1, .int (nI (s_M X))), (0, .ref (ad 0))]) hx hb dX2_readsSend_56 rfl hl (by decide) rfl (fun ls hl => ?_)
          have L57 : ∀ (nf : Nat) (H : Heap) (locs : List Loc) (j : Nat) (X1 : g_Wd), (j ≤ P_3.2.2.1 - P_3.2.2.2.1) → (X1 = x_fN (x_beg X (nI (P_3.2.2.1 - P_3.2.2.2.1))) (s_M X) (fun p => Z 8 (P_3.2.2.2.1 + p) - 48) j) → (P_3.2.2.1 - P_3.2.2.2.1 - j < nf) → (g_Mod G ad (p_F F P_3) X1 Y U V Z H) → va_S (md_A ad) s.heap H locs → ∀ ls : Array Slot, lv_has ls 3 [(2, .int (nI j)), (1, .int (nI (s_M X))), (0, .ref (ad 0))] → W p l e (g_rm 3 0 0) s m args below meth c H locs 0 0 Q (F0 m 57 ls []) := by
            intro n57
            induction n57 with
            | zero => intro H locs j X1 hj hX1 hn; exact absurd hn (Nat.not_lt_zero _)
            | succ n57 ih57 =>
              intro H locs j X1 hj hX1 hn57 hM hS ls hl
              refine lv_iload_n hx hb dX2_readsSend_57 rfl (lv_at hl 0 rfl) ?_
              refine lv_aload_n hx hb dX2_readsSend_58 rfl (lv_at hl 2 rfl) ?_
              refine g_getM hX hM 13 (by decide) q2176 rfl (v := .int (nI P_3.2.2.1)) rfl dX2_readsSend_59 ?_
              refine lv_aload_n hx hb dX2_readsSend_62 rfl (lv_at hl 2 rfl) ?_
              refine g_getM hX hM 14 (by decide) q2177 rfl (v := .int (nI P_3.2.2.2.1)) rfl dX2_readsSend_63 ?_
              refine g_isubN hx hb P_3.2.2.1 P_3.2.2.2.1 rfl rfl (by omega) dX2_readsSend_66 ?_
              refine g_icmp_geN (tgt := 96) hx hb j (P_3.2.2.1 - P_3.2.2.2.1) rfl rfl (by omega) (by omega) dX2_readsSend_67 (by decide) (fun c_67 => ?_) (fun c_67 => ?_)
              · skip
                refine lv_aload_n hx hb dX2_readsSend_96 rfl (lv_at hl 2 rfl) ?_
                refine lv_iconst (v := 0) hx hb dX2_readsSend_97 rfl ?_
                refine lv_iload_n hx hb dX2_readsSend_98 rfl (lv_at hl 1 rfl) ?_
                refine g_cMV hX hl y_X2_logs v_X2_logs q2361 (k_X2_logs 0 (s_M X) (by omega) (s_okG_of (X := X) (by rw [hX1, x_fN_0 (Or.inr (by omega))]; exact x_beg_04) hG9)) (hM.rc hX.2.2.2) hM rfl ⟨Nat.le_of_ble_eq_true rfl, Nat.le_of_ble_eq_true rfl⟩ ⟨Nat.le_refl _, Nat.le_refl _⟩ (rest := []) (st1 := []) rfl rfl (Nat.le_of_ble_eq_true rfl) dX2_readsSend_99 hS (fun _ h => h) (fun H locs hM hS _ => ?_)
                refine lv_aload_n hx hb dX2_readsSend_102 rfl (lv_at hl 2 rfl) ?_
                refine g_cMV hX hl y_X2_goes v_X2_goes q2276 (k_X2_goes P_3 n hn hn4 (p_ok.w hpP_3)) (hM.rc hX.2.2.2) hM rfl ⟨Nat.le_of_ble_eq_true rfl, Nat.le_of_ble_eq_true rfl⟩ ⟨Nat.le_refl _, Nat.le_refl _⟩ (rest := []) (st1 := []) rfl rfl (Nat.le_of_ble_eq_true rfl) dX2_readsSend_103 hS (fun _ h => h) (fun H locs hM hS _ => ?_)
                obtain ⟨P_4, hP_4⟩ : ∃ z, z = q_goes (Z 8) n P_3 := ⟨_, rfl⟩
                rw [← hP_4] at hM
                have hpP_4 : p_ok n P_4 := by rw [hP_4]; exact q_goes_ok hpP_3
                have hcP_4 : P_4.1 ≤ 3 := hpP_4.1
                have hsP_4 : P_4.2.2.2.1 ≤ P_4.2.2.1 := hpP_4.2.2.1
                have huP_4 : P_4.2.2.1 ≤ n := hpP_4.2.1
                have eP : r_eP (Z 8) n X P = P_4 := by unfold r_eP; rw [← hP_3]; first | (rw [if_neg (by omega)]; first | done | (subst hP_4 hP_3 hP_2 hP_1; rfl)) | (rw [if_pos (by omega)]; first | done | (subst hP_4 hP_3 hP_2 hP_1; rfl))
                have eX : r_seX (Z 8) n X P = x_log X1 0 (s_M X) := by unfold r_seX; (rw [← hP_3]; first | (rw [if_pos (by omega)]; done) | (rw [if_neg (by omega)]; unfold r_eX r_el; rw [hX1, show P_3.2.2.1 - P_3.2.2.2.1 = j by omega]; done)); first | done | (subst hP_4 hP_3 hP_2 hP_1; rfl)
                exact hret H locs _ _ _ _ dX2_readsSend_106 hS (Nat.le_refl _) (Nat.le_refl _) ⟨rfl, by rw [eP, eX]; exact hM⟩
              · skip
                refine lv_aload_n hx hb dX2_readsSend_70 rfl (lv_at hl 2 rfl) ?_
                refine lv_iload_n hx hb dX2_readsSend_71 rfl (lv_at hl 1 rfl) ?_
                refine lv_iload_n hx hb dX2_readsSend_72 rfl (lv_at hl 0 rfl) ?_
                refine lv_aload_n hx hb dX2_readsSend_73 rfl (lv_at hl 2 rfl) ?_
                refine g_getM hX hM 8 (by decide) q2171 rfl (v := .ref (ad 8)) rfl dX2_readsSend_74 ?_
                refine lv_aload_n hx hb dX2_readsSend_77 rfl (lv_at hl 2 rfl) ?_
                refine g_getM hX hM 14 (by decide) q2177 rfl (v := .int (nI P_3.2.2.2.1)) rfl dX2_readsSend_78 ?_
                refine lv_iload_n hx hb dX2_readsSend_81 rfl (lv_at hl 0 rfl) ?_
                refine g_iaddN hx hb P_3.2.2.2.1 j rfl rfl dX2_readsSend_82 ?_
                refine g_bald hX hM.a8 (P_3.2.2.2.1 + j) rfl (by omega) (by decide) (v := (Z 8 (P_3.2.2.2.1 + j))) rfl dX2_readsSend_83 ?_
                refine lv_bipush (v := 48) hx hb dX2_readsSend_84 (by decide) ?_
                refine lv_isub hx hb dX2_readsSend_86 ?_
                refine g_cMV hX hl y_X2_putsDigit v_X2_putsDigit q2357 (k_X2_putsDigit (s_M X) j ((Z 8 (P_3.2.2.2.1 + j)) - 48) (by omega) (by omega)) (hM.rc hX.2.2.2) hM rfl ⟨Nat.le_of_ble_eq_true rfl, Nat.le_of_ble_eq_true rfl⟩ ⟨Nat.le_refl _, Nat.le_refl _⟩ (rest := []) (st1 := []) rfl rfl (Nat.le_of_ble_eq_true rfl) dX2_readsSend_87 hS (fun _ h => h) (fun H locs hM hS _ => ?_)
                refine lv_iinc (v := (nI (j + 1))) (lv' := [(2, .int (nI (j + 1))), (1, .int (nI (s_M X))), (0, .ref (ad 0))]) hx hb dX2_readsSend_90 hl (k := 0) rfl (nI_1 _) (by decide) rfl (fun ls hl => ?_)
                refine lv_goto (tgt := 57) hx hb dX2_readsSend_93 (by decide) ?_
                exact ih57 H locs (j + 1) (x_dig X1 (s_M X) j ((Z 8 (P_3.2.2.2.1 + j)) - 48)) (by omega) (by rw [hX1]; rfl) (by omega) hM hS ls (lv_sub hl [0, 1, 2] rfl)
          exact L57 (P_3.2.2.1 - P_3.2.2.2.1 - 0 + 1) H locs 0 (x_beg X (nI (P_3.2.2.1 - P_3.2.2.2.1))) (by omega) (rfl) (Nat.lt_succ_self _) hM hS ls (lv_sub hl [0, 1, 2] rfl)
        · skip
          have eP : r_eP (Z 8) n X P = P_3 := by unfold r_eP; rw [← hP_3]; first | (rw [if_neg (by omega)]; first | done | (subst hP_3 hP_2 hP_1; rfl)) | (rw [if_pos (by omega)]; first | done | (subst hP_3 hP_2 hP_1; rfl))
          have eX : r_seX (Z 8) n X P = X := by unfold r_seX; (rw [← hP_3]; first | (rw [if_pos (by omega)]; done) | (rw [if_neg (by omega)]; unfold r_eX r_el; rw [hX1, show P_3.2.2.1 - P_3.2.2.2.1 = j by omega]; done)); first | done | (subst hP_3 hP_2 hP_1; rfl)
          exact hret H locs _ _ _ _ dX2_readsSend_40 hS (Nat.le_refl _) (Nat.le_refl _) ⟨rfl, by rw [eP, eX]; exact hM⟩
      · skip
        refine lv_aload_n hx hb dX2_readsSend_28 rfl (lv_at hl 0 rfl) ?_
        refine lv_iconst (v := 1) hx hb dX2_readsSend_29 rfl ?_
        refine g_cMV hX hl y_X2_faults v_X2_faults q2299 (k_X2_faults 1 P_2 n hn hn4 hpP_2 (by omega)) (hM.rc hX.2.2.2) hM rfl ⟨Nat.le_of_ble_eq_true rfl, Nat.le_of_ble_eq_true rfl⟩ ⟨Nat.le_refl _, Nat.le_refl _⟩ (rest := []) (st1 := []) rfl rfl (Nat.le_of_ble_eq_true rfl) dX2_readsSend_30 hS (fun _ h => h) (fun H locs hM hS _ => ?_)
        obtain ⟨P_5, hP_5⟩ : ∃ z, z = q_f P_2 1 := ⟨_, rfl⟩
        rw [← hP_5] at hM
        have hpP_5 : p_ok n P_5 := by rw [hP_5]; exact q_f_ok hpP_2 (by decide)
        have hcP_5 : P_5.1 ≤ 3 := hpP_5.1
        have hsP_5 : P_5.2.2.2.1 ≤ P_5.2.2.1 := hpP_5.2.2.1
        have huP_5 : P_5.2.2.1 ≤ n := hpP_5.2.1
        have e33 : r_e2 (Z 8) n X P = P_5 := by unfold r_e2; (first | rw [if_pos (by subst hP_5 hP_2 hP_1; exact c_25)] | rw [if_neg (by subst hP_5 hP_2 hP_1; exact fun z => Bool.noConfusion (c_25.symm.trans z))]); first | done | (subst hP_5 hP_2 hP_1; rfl)
        rw [← e33] at hM
        obtain ⟨P_6, hP_6⟩ : ∃ z, z = r_e2 (Z 8) n X P := ⟨_, rfl⟩
        rw [← hP_6] at hM
        have hpP_6 : p_ok n P_6 := by rw [hP_6]; exact r_e2_ok hp
        have hcP_6 : P_6.1 ≤ 3 := hpP_6.1
        have hsP_6 : P_6.2.2.2.1 ≤ P_6.2.2.1 := hpP_6.2.2.1
        have huP_6 : P_6.2.2.1 ≤ n := hpP_6.2.1
        have e33b : P_6 = P_5 := by rw [hP_6]; exact e33
        refine lv_aload_n hx hb dX2_readsSend_33 rfl (lv_at hl 0 rfl) ?_
        refine g_getM hX hM 10 (by decide) q2173 rfl (v := .int (nI P_6.1)) rfl dX2_readsSend_34 ?_
        refine g_if_leN (tgt := 41) hx hb P_6.1 rfl (by omega) dX2_readsSend_37 (by decide) (fun c_37 => ?_) (fun c_37 => ?_)
        · skip
          have hz0 : P_6.1 = 0 := by omega
          have h9 := r_e2_0 (b := Z 8) (n := n) (X := X) (P := P) (by rw [← hP_6]; exact hz0)
          have hMl : s_M X < 6 := by omega
          have hlen := hpP_6.2.2.2.2 (by rw [hP_6]; exact h9.1)
          have hbl := x_beg_3 (X := X) (len := nI (P_6.2.2.1 - P_6.2.2.2.1)) hMl
          refine lv_aload_n hx hb dX2_readsSend_41 rfl (lv_at hl 0 rfl) ?_
          refine lv_aload_n hx hb dX2_readsSend_42 rfl (lv_at hl 0 rfl) ?_
          refine g_getM hX hM 13 (by decide) q2176 rfl (v := .int (nI P_6.2.2.1)) rfl dX2_readsSend_43 ?_
          refine lv_aload_n hx hb dX2_readsSend_46 rfl (lv_at hl 0 rfl) ?_
          refine g_getM hX hM 14 (by decide) q2177 rfl (v := .int (nI P_6.2.2.2.1)) rfl dX2_readsSend_47 ?_
          refine g_isubN hx hb P_6.2.2.1 P_6.2.2.2.1 rfl rfl (by omega) dX2_readsSend_50 ?_
          refine g_cMV hX hl y_X2_begins v_X2_begins q2349 (k_X2_begins (nI (P_6.2.2.1 - P_6.2.2.2.1)) hM0 hMl) (hM.rc hX.2.2.2) hM rfl ⟨Nat.le_of_ble_eq_true rfl, Nat.le_of_ble_eq_true rfl⟩ ⟨Nat.le_refl _, Nat.le_refl _⟩ (rest := []) (st1 := [.int (nI (s_M X))]) rfl rfl (Nat.le_of_ble_eq_true rfl) dX2_readsSend_51 hS (fun _ h => h) (fun H locs hM hS _ => ?_)
          refine lv_istore_n (lv' := [(1, .int (nI (s_M X))), (0, .ref (ad 0))]) hx hb dX2_readsSend_54 rfl hl (by decide) rfl (fun ls hl => ?_)
          refine lv_iconst (v := 0) hx hb dX2_readsSend_55 rfl ?_
          refine lv_istore_n (lv' := [(2, .int 0), (1, .int (nI (s_M X))), (0, .ref (ad 0))]) hx hb dX2_readsSend_56 rfl hl (by decide) rfl (fun ls hl => ?_)
          have L57 : ∀ (nf : Nat) (H : Heap) (locs : List Loc) (j : Nat) (X1 : g_Wd), (j ≤ P_6.2.2.1 - P_6.2.2.2.1) → (X1 = x_fN (x_beg X (nI (P_6.2.2.1 - P_6.2.2.2.1))) (s_M X) (fun p => Z 8 (P_6.2.2.2.1 + p) - 48) j) → (P_6.2.2.1 - P_6.2.2.2.1 - j < nf) → (g_Mod G ad (p_F F P_6) X1 Y U V Z H) → va_S (md_A ad) s.heap H locs → ∀ ls : Array Slot, lv_has ls 3 [(2, .int (nI j)), (1, .int (nI (s_M X))), (0, .ref (ad 0))] → W p l e (g_rm 3 0 0) s m args below meth c H locs 0 0 Q (F0 m 57 ls []) := by
            intro n57
            induction n57 with
            | zero => intro H locs j X1 hj hX1 hn; exact absurd hn (Nat.not_lt_zero _)
            | succ n57 ih57 =>
              intro H locs j X1 hj hX1 hn57 hM hS ls hl
              refine lv_iload_n hx hb dX2_readsSend_57 rfl (lv_at hl 0 rfl) ?_
              refine lv_aload_n hx hb dX2_readsSend_58 rfl (lv_at hl 2 rfl) ?_
              refine g_getM hX hM 13 (by decide) q2176 rfl (v := .int (nI P_6.2.2.1)) rfl dX2_readsSend_59 ?_
              refine lv_aload_n hx hb dX2_readsSend_62 rfl (lv_at hl 2 rfl) ?_
              refine g_getM hX hM 14 (by decide) q2177 rfl (v := .int (nI P_6.2.2.2.1)) rfl dX2_readsSend_63 ?_
              refine g_isubN hx hb P_6.2.2.1 P_6.2.2.2.1 rfl rfl (by omega) dX2_readsSend_66 ?_
              refine g_icmp_geN (tgt := 96) hx hb j (P_6.2.2.1 - P_6.2.2.2.1) rfl rfl (by omega) (by omega) dX2_readsSend_67 (by decide) (fun c_67 => ?_) (fun c_67 => ?_)
              · skip
                refine lv_aload_n hx hb dX2_readsSend_96 rfl (lv_at hl 2 rfl) ?_
                refine lv_iconst (v := 0) hx hb dX2_readsSend_97 rfl ?_
                refine lv_iload_n hx hb dX2_readsSend_98 rfl (lv_at hl 1 rfl) ?_
                refine g_cMV hX hl y_X2_logs v_X2_logs q2361 (k_X2_logs 0 (s_M X) (by omega) (s_okG_of (X := X) (by rw [hX1, x_fN_0 (Or.inr (by omega))]; exact x_beg_04) hG9)) (hM.rc hX.2.2.2) hM rfl ⟨Nat.le_of_ble_eq_true rfl, Nat.le_of_ble_eq_true rfl⟩ ⟨Nat.le_refl _, Nat.le_refl _⟩ (rest := []) (st1 := []) rfl rfl (Nat.le_of_ble_eq_true rfl) dX2_readsSend_99 hS (fun _ h => h) (fun H locs hM hS _ => ?_)
                refine lv_aload_n hx hb dX2_readsSend_102 rfl (lv_at hl 2 rfl) ?_
                refine g_cMV hX hl y_X2_goes v_X2_goes q2276 (k_X2_goes P_6 n hn hn4 (p_ok.w hpP_6)) (hM.rc hX.2.2.2) hM rfl ⟨Nat.le_of_ble_eq_true rfl, Nat.le_of_ble_eq_true rfl⟩ ⟨Nat.le_refl _, Nat.le_refl _⟩ (rest := []) (st1 := []) rfl rfl (Nat.le_of_ble_eq_true rfl) dX2_readsSend_103 hS (fun _ h => h) (fun H locs hM hS _ => ?_)
                obtain ⟨P_7, hP_7⟩ : ∃ z, z = q_goes (Z 8) n P_6 := ⟨_, rfl⟩
                rw [← hP_7] at hM
                have hpP_7 : p_ok n P_7 := by rw [hP_7]; exact q_goes_ok hpP_6
                have hcP_7 : P_7.1 ≤ 3 := hpP_7.1
                have hsP_7 : P_7.2.2.2.1 ≤ P_7.2.2.1 := hpP_7.2.2.1
                have huP_7 : P_7.2.2.1 ≤ n := hpP_7.2.1
                have eP : r_eP (Z 8) n X P = P_7 := by unfold r_eP; rw [← hP_6]; first | (rw [if_neg (by omega)]; first | done | (subst hP_7 hP_6 hP_5 hP_2 hP_1; rfl)) | (rw [if_pos (by omega)]; first | done | (subst hP_7 hP_6 hP_5 hP_2 hP_1; rfl))
                have eX : r_seX (Z 8) n X P = x_log X1 0 (s_M X) := by unfold r_seX; (rw [← hP_6]; first | (rw [if_pos (by omega)]; done) | (rw [if_neg (by omega)]; unfold r_eX r_el; rw [hX1, show P_6.2.2.1 - P_6.2.2.2.1 = j by omega]; done)); first | done | (subst hP_7 hP_6 hP_5 hP_2 hP_1; rfl)
                exact hret H locs _ _ _ _ dX2_readsSend_106 hS (Nat.le_refl _) (Nat.le_refl _) ⟨rfl, by rw [eP, eX]; exact hM⟩
              · skip
                refine lv_aload_n hx hb dX2_readsSend_70 rfl (lv_at hl 2 rfl) ?_
                refine lv_iload_n hx hb dX2_readsSend_71 rfl (lv_at hl 1 rfl) ?_
                refine lv_iload_n hx hb dX2_readsSend_72 rfl (lv_at hl 0 rfl) ?_
                refine lv_aload_n hx hb dX2_readsSend_73 rfl (lv_at hl 2 rfl) ?_
                refine g_getM hX hM 8 (by decide) q2171 rfl (v := .ref (ad 8)) rfl dX2_readsSend_74 ?_
                refine lv_aload_n hx hb dX2_readsSend_77 rfl (lv_at hl 2 rfl) ?_
                refine g_getM hX hM 14 (by decide) q2177 rfl (v := .int (nI P_6.2.2.2.1)) rfl dX2_readsSend_78 ?_
                refine lv_iload_n hx hb dX2_readsSend_81 rfl (lv_at hl 0 rfl) ?_
                refine g_iaddN hx hb P_6.2.2.2.1 j rfl rfl dX2_readsSend_82 ?_
                refine g_bald hX hM.a8 (P_6.2.2.2.1 + j) rfl (by omega) (by decide) (v := (Z 8 (P_6.2.2.2.1 + j))) rfl dX2_readsSend_83 ?_
                refine lv_bipush (v := 48) hx hb dX2_readsSend_84 (by decide) ?_
                refine lv_isub hx hb dX2_readsSend_86 ?_
                refine g_cMV hX hl y_X2_putsDigit v_X2_putsDigit q2357 (k_X2_putsDigit (s_M X) j ((Z 8 (P_6.2.2.2.1 + j)) - 48) (by omega) (by omega)) (hM.rc hX.2.2.2) hM rfl ⟨Nat.le_of_ble_eq_true rfl, Nat.le_of_ble_eq_true rfl⟩ ⟨Nat.le_refl _, Nat.le_refl _⟩ (rest := []) (st1 := []) rfl rfl (Nat.le_of_ble_eq_true rfl) dX2_readsSend_87 hS (fun _ h => h) (fun H locs hM hS _ => ?_)
                refine lv_iinc (v := (nI (j + 1))) (lv' := [(2, .int (nI (j + 1))), (1, .int (nI (s_M X))), (0, .ref (ad 0))]) hx hb dX2_readsSend_90 hl (k := 0) rfl (nI_1 _) (by decide) rfl (fun ls hl => ?_)
                refine lv_goto (tgt := 57) hx hb dX2_readsSend_93 (by decide) ?_
                exact ih57 H locs (j + 1) (x_dig X1 (s_M X) j ((Z 8 (P_6.2.2.2.1 + j)) - 48)) (by omega) (by rw [hX1]; rfl) (by omega) hM hS ls (lv_sub hl [0, 1, 2] rfl)
          exact L57 (P_6.2.2.1 - P_6.2.2.2.1 - 0 + 1) H locs 0 (x_beg X (nI (P_6.2.2.1 - P_6.2.2.2.1))) (by omega) (rfl) (Nat.lt_succ_self _) hM hS ls (lv_sub hl [0, 1, 2] rfl)
        · skip
          have eP : r_eP (Z 8) n X P = P_6 := by unfold r_eP; rw [← hP_6]; first | (rw [if_neg (by omega)]; first | done | (subst hP_6 hP_5 hP_2 hP_1; rfl)) | (rw [if_pos (by omega)]; first | done | (subst hP_6 hP_5 hP_2 hP_1; rfl))
          have eX : r_seX (Z 8) n X P = X := by unfold r_seX; (rw [← hP_6]; first | (rw [if_pos (by omega)]; done) | (rw [if_neg (by omega)]; unfold r_eX r_el; rw [hX1, show P_6.2.2.1 - P_6.2.2.2.1 = j by omega]; done)); first | done | (subst hP_6 hP_5 hP_2 hP_1; rfl)
          exact hret H locs _ _ _ _ dX2_readsSend_40 hS (Nat.le_refl _) (Nat.le_refl _) ⟨rfl, by rw [eP, eX]; exact hM⟩
    · skip
      refine lv_aload_n hx hb dX2_readsSend_11 rfl (lv_at hl 0 rfl) ?_
      refine lv_iconst (v := 3) hx hb dX2_readsSend_12 rfl ?_
      refine g_cMV hX hl y_X2_faults v_X2_faults q2299 (k_X2_faults 3 P n hn hn4 hp (by omega)) (hM.rc hX.2.2.2) hM rfl ⟨Nat.le_of_ble_eq_true rfl, Nat.le_of_ble_eq_true rfl⟩ ⟨Nat.le_refl _, Nat.le_refl _⟩ (rest := []) (st1 := []) rfl rfl (Nat.le_of_ble_eq_true rfl) dX2_readsSend_13 hS (fun _ h => h) (fun H locs hM hS _ => ?_)
      obtain ⟨P_8, hP_8⟩ : ∃ z, z = q_f P 3 := ⟨_, rfl⟩
      rw [← hP_8] at hM
      have hpP_8 : p_ok n P_8 := by rw [hP_8]; exact q_f_ok hp (by decide)
      have hcP_8 : P_8.1 ≤ 3 := hpP_8.1
      have hsP_8 : P_8.2.2.2.1 ≤ P_8.2.2.1 := hpP_8.2.2.1
      have huP_8 : P_8.2.2.1 ≤ n := hpP_8.2.1
      have e16 : r_m0 X P = P_8 := by unfold r_m0; (first | rw [if_pos (by omega)] | rw [if_neg (by omega)]); first | done | (subst hP_8; rfl)
      rw [← e16] at hM
      obtain ⟨P_9, hP_9⟩ : ∃ z, z = r_m0 X P := ⟨_, rfl⟩
      rw [← hP_9] at hM
      have hpP_9 : p_ok n P_9 := by rw [hP_9]; exact r_m0_ok hp
      have hcP_9 : P_9.1 ≤ 3 := hpP_9.1
      have hsP_9 : P_9.2.2.2.1 ≤ P_9.2.2.1 := hpP_9.2.2.1
      have huP_9 : P_9.2.2.1 ≤ n := hpP_9.2.1
      have e16b : P_9 = P_8 := by rw [hP_9]; exact e16
      refine lv_aload_n hx hb dX2_readsSend_16 rfl (lv_at hl 0 rfl) ?_
      refine g_cMV hX hl y_X2_goes v_X2_goes q2276 (k_X2_goes P_9 n hn hn4 (p_ok.w hpP_9)) (hM.rc hX.2.2.2) hM rfl ⟨Nat.le_of_ble_eq_true rfl, Nat.le_of_ble_eq_true rfl⟩ ⟨Nat.le_refl _, Nat.le_refl _⟩ (rest := []) (st1 := []) rfl rfl (Nat.le_of_ble_eq_true rfl) dX2_readsSend_17 hS (fun _ h => h) (fun H locs hM hS _ => ?_)
      obtain ⟨P_10, hP_10⟩ : ∃ z, z = q_goes (Z 8) n P_9 := ⟨_, rfl⟩
      rw [← hP_10] at hM
      have hpP_10 : p_ok n P_10 := by rw [hP_10]; exact q_goes_ok hpP_9
      have hcP_10 : P_10.1 ≤ 3 := hpP_10.1
      have hsP_10 : P_10.2.2.2.1 ≤ P_10.2.2.1 := hpP_10.2.2.1
      have huP_10 : P_10.2.2.1 ≤ n := hpP_10.2.1
      refine lv_aload_n hx hb dX2_readsSend_20 rfl (lv_at hl 0 rfl) ?_
      refine lv_iconst (v := 3) hx hb dX2_readsSend_21 rfl ?_
      refine g_cRV hX hl y_X2_is v_X2_is q2293 (k_X2_is 3 P_10 n hn hn4 (by first | exact hp | assumption) (by omega)) (hM.rc hX.2.2.2) hM rfl ⟨Nat.le_of_ble_eq_true rfl, Nat.le_of_ble_eq_true rfl⟩ ⟨Nat.zero_le _, Nat.zero_le _⟩ (rest := []) (st1 := [.int (g_b (q_is P_10 3))]) rfl rfl (Nat.le_of_ble_eq_true rfl) dX2_readsSend_22 ?_
      refine g_if_neB (tgt := 33) hx hb (b := q_is P_10 3) rfl dX2_readsSend_25 (by decide) (fun c_25 => ?_) (fun c_25 => ?_)
      · skip
        have e33 : r_e2 (Z 8) n X P = P_10 := by unfold r_e2; (first | rw [if_pos (by subst hP_10 hP_9 hP_8; exact c_25)] | rw [if_neg (by subst hP_10 hP_9 hP_8; exact fun z => Bool.noConfusion (c_25.symm.trans z))]); first | done | (subst hP_10 hP_9 hP_8; rfl)
        rw [← e33] at hM
        obtain ⟨P_11, hP_11⟩ : ∃ z, z = r_e2 (Z 8) n X P := ⟨_, rfl⟩
        rw [← hP_11] at hM
        have hpP_11 : p_ok n P_11 := by rw [hP_11]; exact r_e2_ok hp
        have hcP_11 : P_11.1 ≤ 3 := hpP_11.1
        have hsP_11 : P_11.2.2.2.1 ≤ P_11.2.2.1 := hpP_11.2.2.1
        have huP_11 : P_11.2.2.1 ≤ n := hpP_11.2.1
        have e33b : P_11 = P_10 := by rw [hP_11]; exact e33
        refine lv_aload_n hx hb dX2_readsSend_33 rfl (lv_at hl 0 rfl) ?_
        refine g_getM hX hM 10 (by decide) q2173 rfl (v := .int (nI P_11.1)) rfl dX2_readsSend_34 ?_
        refine g_if_leN (tgt := 41) hx hb P_11.1 rfl (by omega) dX2_readsSend_37 (by decide) (fun c_37 => ?_) (fun c_37 => ?_)
        · skip
          have hz0 : P_11.1 = 0 := by omega
          have h9 := r_e2_0 (b := Z 8) (n := n) (X := X) (P := P) (by rw [← hP_11]; exact hz0)
          have hMl : s_M X < 6 := by omega
          have hlen := hpP_11.2.2.2.2 (by rw [hP_11]; exact h9.1)
          have hbl := x_beg_3 (X := X) (len := nI (P_11.2.2.1 - P_11.2.2.2.1)) hMl
          refine lv_aload_n hx hb dX2_readsSend_41 rfl (lv_at hl 0 rfl) ?_
          refine lv_aload_n hx hb dX2_readsSend_42 rfl (lv_at hl 0 rfl) ?_
          refine g_getM hX hM 13 (by decide) q2176 rfl (v := .int (nI P_11.2.2.1)) rfl dX2_readsSend_43 ?_
          refine lv_aload_n hx hb dX2_readsSend_46 rfl (lv_at hl 0 rfl) ?_
          refine g_getM hX hM 14 (by decide) q2177 rfl (v := .int (nI P_11.2.2.2.1)) rfl dX2_readsSend_47 ?_
          refine g_isubN hx hb P_11.2.2.1 P_11.2.2.2.1 rfl rfl (by omega) dX2_readsSend_50 ?_
          refine g_cMV hX hl y_X2_begins v_X2_begins q2349 (k_X2_begins (nI (P_11.2.2.1 - P_11.2.2.2.1)) hM0 hMl) (hM.rc hX.2.2.2) hM rfl ⟨Nat.le_of_ble_eq_true rfl, Nat.le_of_ble_eq_true rfl⟩ ⟨Nat.le_refl _, Nat.le_refl _⟩ (rest := []) (st1 := [.int (nI (s_M X))]) rfl rfl (Nat.le_of_ble_eq_true rfl) dX2_readsSend_51 hS (fun _ h => h) (fun H locs hM hS _ => ?_)
          refine lv_istore_n (lv' := [(1, .int (nI (s_M X))), (0, .ref (ad 0))]) hx hb dX2_readsSend_54 rfl hl (by decide) rfl (fun ls hl => ?_)
          refine lv_iconst (v := 0) hx hb dX2_readsSend_55 rfl ?_
          refine lv_istore_n (lv' := [(2, .int 0), (1, .int (nI (s_M X))), (0, .ref (ad 0))]) hx hb dX2_readsSend_56 rfl hl (by decide) rfl (fun ls hl => ?_)
          have L57 : ∀ (nf : Nat) (H : Heap) (locs : List Loc) (j : Nat) (X1 : g_Wd), (j ≤ P_11.2.2.1 - P_11.2.2.2.1) → (X1 = x_fN (x_beg X (nI (P_11.2.2.1 - P_11.2.2.2.1))) (s_M X) (fun p => Z 8 (P_11.2.2.2.1 + p) - 48) j) → (P_11.2.2.1 - P_11.2.2.2.1 - j < nf) → (g_Mod G ad (p_F F P_11) X1 Y U V Z H) → va_S (md_A ad) s.heap H locs → ∀ ls : Array Slot, lv_has ls 3 [(2, .int (nI j)), (1, .int (nI (s_M X))), (0, .ref (ad 0))] → W p l e (g_rm 3 0 0) s m args below meth c H locs 0 0 Q (F0 m 57 ls []) := by
            intro n57
            induction n57 with
            | zero => intro H locs j X1 hj hX1 hn; exact absurd hn (Nat.not_lt_zero _)
            | succ n57 ih57 =>
              intro H locs j X1 hj hX1 hn57 hM hS ls hl
              refine lv_iload_n hx hb dX2_readsSend_57 rfl (lv_at hl 0 rfl) ?_
              refine lv_aload_n hx hb dX2_readsSend_58 rfl (lv_at hl 2 rfl) ?_
              refine g_getM hX hM 13 (by decide) q2176 rfl (v := .int (nI P_11.2.2.1)) rfl dX2_readsSend_59 ?_
              refine lv_aload_n hx hb dX2_readsSend_62 rfl (lv_at hl 2 rfl) ?_
              refine g_getM hX hM 14 (by decide) q2177 rfl (v := .int (nI P_11.2.2.2.1)) rfl dX2_readsSend_63 ?_
              refine g_isubN hx hb P_11.2.2.1 P_11.2.2.2.1 rfl rfl (by omega) dX2_readsSend_66 ?_
              refine g_icmp_geN (tgt := 96) hx hb j (P_11.2.2.1 - P_11.2.2.2.1) rfl rfl (by omega) (by omega) dX2_readsSend_67 (by decide) (fun c_67 => ?_) (fun c_67 => ?_)
              · skip
                refine lv_aload_n hx hb dX2_readsSend_96 rfl (lv_at hl 2 rfl) ?_
                refine lv_iconst (v := 0) hx hb dX2_readsSend_97 rfl ?_
                refine lv_iload_n hx hb dX2_readsSend_98 rfl (lv_at hl 1 rfl) ?_
                refine g_cMV hX hl y_X2_logs v_X2_logs q2361 (k_X2_logs 0 (s_M X) (by omega) (s_okG_of (X := X) (by rw [hX1, x_fN_0 (Or.inr (by omega))]; exact x_beg_04) hG9)) (hM.rc hX.2.2.2) hM rfl ⟨Nat.le_of_ble_eq_true rfl, Nat.le_of_ble_eq_true rfl⟩ ⟨Nat.le_refl _, Nat.le_refl _⟩ (rest := []) (st1 := []) rfl rfl (Nat.le_of_ble_eq_true rfl) dX2_readsSend_99 hS (fun _ h => h) (fun H locs hM hS _ => ?_)
                refine lv_aload_n hx hb dX2_readsSend_102 rfl (lv_at hl 2 rfl) ?_
                refine g_cMV hX hl y_X2_goes v_X2_goes q2276 (k_X2_goes P_11 n hn hn4 (p_ok.w hpP_11)) (hM.rc hX.2.2.2) hM rfl ⟨Nat.le_of_ble_eq_true rfl, Nat.le_of_ble_eq_true rfl⟩ ⟨Nat.le_refl _, Nat.le_refl _⟩ (rest := []) (st1 := []) rfl rfl (Nat.le_of_ble_eq_true rfl) dX2_readsSend_103 hS (fun _ h => h) (fun H locs hM hS _ => ?_)
                obtain ⟨P_12, hP_12⟩ : ∃ z, z = q_goes (Z 8) n P_11 := ⟨_, rfl⟩
                rw [← hP_12] at hM
                have hpP_12 : p_ok n P_12 := by rw [hP_12]; exact q_goes_ok hpP_11
                have hcP_12 : P_12.1 ≤ 3 := hpP_12.1
                have hsP_12 : P_12.2.2.2.1 ≤ P_12.2.2.1 := hpP_12.2.2.1
                have huP_12 : P_12.2.2.1 ≤ n := hpP_12.2.1
                have eP : r_eP (Z 8) n X P = P_12 := by unfold r_eP; rw [← hP_11]; first | (rw [if_neg (by omega)]; first | done | (subst hP_12 hP_11 hP_10 hP_9 hP_8; rfl)) | (rw [if_pos (by omega)]; first | done | (subst hP_12 hP_11 hP_10 hP_9 hP_8; rfl))
                have eX : r_seX (Z 8) n X P = x_log X1 0 (s_M X) := by unfold r_seX; (rw [← hP_11]; first | (rw [if_pos (by omega)]; done) | (rw [if_neg (by omega)]; unfold r_eX r_el; rw [hX1, show P_11.2.2.1 - P_11.2.2.2.1 = j by omega]; done)); first | done | (subst hP_12 hP_11 hP_10 hP_9 hP_8; rfl)
                exact hret H locs _ _ _ _ dX2_readsSend_106 hS (Nat.le_refl _) (Nat.le_refl _) ⟨rfl, by rw [eP, eX]; exact hM⟩
              · skip
                refine lv_aload_n hx hb dX2_readsSend_70 rfl (lv_at hl 2 rfl) ?_
                refine lv_iload_n hx hb dX2_readsSend_71 rfl (lv_at hl 1 rfl) ?_
                refine lv_iload_n hx hb dX2_readsSend_72 rfl (lv_at hl 0 rfl) ?_
                refine lv_aload_n hx hb dX2_readsSend_73 rfl (lv_at hl 2 rfl) ?_
                refine g_getM hX hM 8 (by decide) q2171 rfl (v := .ref (ad 8)) rfl dX2_readsSend_74 ?_
                refine lv_aload_n hx hb dX2_readsSend_77 rfl (lv_at hl 2 rfl) ?_
                refine g_getM hX hM 14 (by decide) q2177 rfl (v := .int (nI P_11.2.2.2.1)) rfl dX2_readsSend_78 ?_
                refine lv_iload_n hx hb dX2_readsSend_81 rfl (lv_at hl 0 rfl) ?_
                refine g_iaddN hx hb P_11.2.2.2.1 j rfl rfl dX2_readsSend_82 ?_
                refine g_bald hX hM.a8 (P_11.2.2.2.1 + j) rfl (by omega) (by decide) (v := (Z 8 (P_11.2.2.2.1 + j))) rfl dX2_readsSend_83 ?_
                refine lv_bipush (v := 48) hx hb dX2_readsSend_84 (by decide) ?_
                refine lv_isub hx hb dX2_readsSend_86 ?_
                refine g_cMV hX hl y_X2_putsDigit v_X2_putsDigit q2357 (k_X2_putsDigit (s_M X) j ((Z 8 (P_11.2.2.2.1 + j)) - 48) (by omega) (by omega)) (hM.rc hX.2.2.2) hM rfl ⟨Nat.le_of_ble_eq_true rfl, Nat.le_of_ble_eq_true rfl⟩ ⟨Nat.le_refl _, Nat.le_refl _⟩ (rest := []) (st1 := []) rfl rfl (Nat.le_of_ble_eq_true rfl) dX2_readsSend_87 hS (fun _ h => h) (fun H locs hM hS _ => ?_)
                refine lv_iinc (v := (nI (j + 1))) (lv' := [(2, .int (nI (j + 1))), (1, .int (nI (s_M X))), (0, .ref (ad 0))]) hx hb dX2_readsSend_90 hl (k := 0) rfl (nI_1 _) (by decide) rfl (fun ls hl => ?_)
                refine lv_goto (tgt := 57) hx hb dX2_readsSend_93 (by decide) ?_
                exact ih57 H locs (j + 1) (x_dig X1 (s_M X) j ((Z 8 (P_11.2.2.2.1 + j)) - 48)) (by omega) (by rw [hX1]; rfl) (by omega) hM hS ls (lv_sub hl [0, 1, 2] rfl)
          exact L57 (P_11.2.2.1 - P_11.2.2.2.1 - 0 + 1) H locs 0 (x_beg X (nI (P_11.2.2.1 - P_11.2.2.2.1))) (by omega) (rfl) (Nat.lt_succ_self _) hM hS ls (lv_sub hl [0, 1, 2] rfl)
        · skip
          have eP : r_eP (Z 8) n X P = P_11 := by unfold r_eP; rw [← hP_11]; first | (rw [if_neg (by omega)]; first | done | (subst hP_11 hP_10 hP_9 hP_8; rfl)) | (rw [if_pos (by omega)]; first | done | (subst hP_11 hP_10 hP_9 hP_8; rfl))
          have eX : r_seX (Z 8) n X P = X := by unfold r_seX; (rw [← hP_11]; first | (rw [if_pos (by omega)]; done) | (rw [if_neg (by omega)]; unfold r_eX r_el; rw [hX1, show P_11.2.2.1 - P_11.2.2.2.1 = j by omega]; done)); first | done | (subst hP_11 hP_10 hP_9 hP_8; rfl)
          exact hret H locs _ _ _ _ dX2_readsSend_40 hS (Nat.le_refl _) (Nat.le_refl _) ⟨rfl, by rw [eP, eX]; exact hM⟩
      · skip
        refine lv_aload_n hx hb dX2_readsSend_28 rfl (lv_at hl 0 rfl) ?_
        refine lv_iconst (v := 1) hx hb dX2_readsSend_29 rfl ?_
        refine g_cMV hX hl y_X2_faults v_X2_faults q2299 (k_X2_faults 1 P_10 n hn hn4 hpP_10 (by omega)) (hM.rc hX.2.2.2) hM rfl ⟨Nat.le_of_ble_eq_true rfl, Nat.le_of_ble_eq_true rfl⟩ ⟨Nat.le_refl _, Nat.le_refl _⟩ (rest := []) (st1 := []) rfl rfl (Nat.le_of_ble_eq_true rfl) dX2_readsSend_30 hS (fun _ h => h) (fun H locs hM hS _ => ?_)
        obtain ⟨P_13, hP_13⟩ : ∃ z, z = q_f P_10 1 := ⟨_, rfl⟩
        rw [← hP_13] at hM
        have hpP_13 : p_ok n P_13 := by rw [hP_13]; exact q_f_ok hpP_10 (by decide)
        have hcP_13 : P_13.1 ≤ 3 := hpP_13.1
        have hsP_13 : P_13.2.2.2.1 ≤ P_13.2.2.1 := hpP_13.2.2.1
        have huP_13 : P_13.2.2.1 ≤ n := hpP_13.2.1
        have e33 : r_e2 (Z 8) n X P = P_13 := by unfold r_e2; (first | rw [if_pos (by subst hP_13 hP_10 hP_9 hP_8; exact c_25)] | rw [if_neg (by subst hP_13 hP_10 hP_9 hP_8; exact fun z => Bool.noConfusion (c_25.symm.trans z))]); first | done | (subst hP_13 hP_10 hP_9 hP_8; rfl)
        rw [← e33] at hM
        obtain ⟨P_14, hP_14⟩ : ∃ z, z = r_e2 (Z 8) n X P := ⟨_, rfl⟩
        rw [← hP_14] at hM
        have hpP_14 : p_ok n P_14 := by rw [hP_14]; exact r_e2_ok hp
        have hcP_14 : P_14.1 ≤ 3 := hpP_14.1
        have hsP_14 : P_14.2.2.2.1 ≤ P_14.2.2.1 := hpP_14.2.2.1
        have huP_14 : P_14.2.2.1 ≤ n := hpP_14.2.1
        have e33b : P_14 = P_13 := by rw [hP_14]; exact e33
        refine lv_aload_n hx hb dX2_readsSend_33 rfl (lv_at hl 0 rfl) ?_
        refine g_getM hX hM 10 (by decide) q2173 rfl (v := .int (nI P_14.1)) rfl dX2_readsSend_34 ?_
        refine g_if_leN (tgt := 41) hx hb P_14.1 rfl (by omega) dX2_readsSend_37 (by decide) (fun c_37 => ?_) (fun c_37 => ?_)
        · skip
          have hz0 : P_14.1 = 0 := by omega
          have h9 := r_e2_0 (b := Z 8) (n := n) (X := X) (P := P) (by rw [← hP_14]; exact hz0)
          have hMl : s_M X < 6 := by omega
          have hlen := hpP_14.2.2.2.2 (by rw [hP_14]; exact h9.1)
          have hbl := x_beg_3 (X := X) (len := nI (P_14.2.2.1 - P_14.2.2.2.1)) hMl
          refine lv_aload_n hx hb dX2_readsSend_41 rfl (lv_at hl 0 rfl) ?_
          refine lv_aload_n hx hb dX2_readsSend_42 rfl (lv_at hl 0 rfl) ?_
          refine g_getM hX hM 13 (by decide) q2176 rfl (v := .int (nI P_14.2.2.1)) rfl dX2_readsSend_43 ?_
          refine lv_aload_n hx hb dX2_readsSend_46 rfl (lv_at hl 0 rfl) ?_
          refine g_getM hX hM 14 (by decide) q2177 rfl (v := .int (nI P_14.2.2.2.1)) rfl dX2_readsSend_47 ?_
          refine g_isubN hx hb P_14.2.2.1 P_14.2.2.2.1 rfl rfl (by omega) dX2_readsSend_50 ?_
          refine g_cMV hX hl y_X2_begins v_X2_begins q2349 (k_X2_begins (nI (P_14.2.2.1 - P_14.2.2.2.1)) hM0 hMl) (hM.rc hX.2.2.2) hM rfl ⟨Nat.le_of_ble_eq_true rfl, Nat.le_of_ble_eq_true rfl⟩ ⟨Nat.le_refl _, Nat.le_refl _⟩ (rest := []) (st1 := [.int (nI (s_M X))]) rfl rfl (Nat.le_of_ble_eq_true rfl) dX2_readsSend_51 hS (fun _ h => h) (fun H locs hM hS _ => ?_)
          refine lv_istore_n (lv' := [(1, .int (nI (s_M X))), (0, .ref (ad 0))]) hx hb dX2_readsSend_54 rfl hl (by decide) rfl (fun ls hl => ?_)
          refine lv_iconst (v := 0) hx hb dX2_readsSend_55 rfl ?_
          refine lv_istore_n (lv' := [(2, .int 0), (1, .int (nI (s_M X))), (0, .ref (ad 0))]) hx hb dX2_readsSend_56 rfl hl (by decide) rfl (fun ls hl => ?_)
          have L57 : ∀ (nf : Nat) (H : Heap) (locs : List Loc) (j : Nat) (X1 : g_Wd), (j ≤ P_14.2.2.1 - P_14.2.2.2.1) → (X1 = x_fN (x_beg X (nI (P_14.2.2.1 - P_14.2.2.2.1))) (s_M X) (fun p => Z 8 (P_14.2.2.2.1 + p) - 48) j) → (P_14.2.2.1 - P_14.2.2.2.1 - j < nf) → (g_Mod G ad (p_F F P_14) X1 Y U V Z H) → va_S (md_A ad) s.heap H locs → ∀ ls : Array Slot, lv_has ls 3 [(2, .int (nI j)), (1, .int (nI (s_M X))), (0, .ref (ad 0))] → W p l e (g_rm 3 0 0) s m args below meth c H locs 0 0 Q (F0 m 57 ls []) := by
            intro n57
            induction n57 with
            | zero => intro H locs j X1 hj hX1 hn; exact absurd hn (Nat.not_lt_zero _)
            | succ n57 ih57 =>
              intro H locs j X1 hj hX1 hn57 hM hS ls hl
              refine lv_iload_n hx hb dX2_readsSend_57 rfl (lv_at hl 0 rfl) ?_
              refine lv_aload_n hx hb dX2_readsSend_58 rfl (lv_at hl 2 rfl) ?_
              refine g_getM hX hM 13 (by decide) q2176 rfl (v := .int (nI P_14.2.2.1)) rfl dX2_readsSend_59 ?_
              refine lv_aload_n hx hb dX2_readsSend_62 rfl (lv_at hl 2 rfl) ?_
              refine g_getM hX hM 14 (by decide) q2177 rfl (v := .int (nI P_14.2.2.2.1)) rfl dX2_readsSend_63 ?_
              refine g_isubN hx hb P_14.2.2.1 P_14.2.2.2.1 rfl rfl (by omega) dX2_readsSend_66 ?_
              refine g_icmp_geN (tgt := 96) hx hb j (P_14.2.2.1 - P_14.2.2.2.1) rfl rfl (by omega) (by omega) dX2_readsSend_67 (by decide) (fun c_67 => ?_) (fun c_67 => ?_)
              · skip
                refine lv_aload_n hx hb dX2_readsSend_96 rfl (lv_at hl 2 rfl) ?_
                refine lv_iconst (v := 0) hx hb dX2_readsSend_97 rfl ?_
                refine lv_iload_n hx hb dX2_readsSend_98 rfl (lv_at hl 1 rfl) ?_
                refine g_cMV hX hl y_X2_logs v_X2_logs q2361 (k_X2_logs 0 (s_M X) (by omega) (s_okG_of (X := X) (by rw [hX1, x_fN_0 (Or.inr (by omega))]; exact x_beg_04) hG9)) (hM.rc hX.2.2.2) hM rfl ⟨Nat.le_of_ble_eq_true rfl, Nat.le_of_ble_eq_true rfl⟩ ⟨Nat.le_refl _, Nat.le_refl _⟩ (rest := []) (st1 := []) rfl rfl (Nat.le_of_ble_eq_true rfl) dX2_readsSend_99 hS (fun _ h => h) (fun H locs hM hS _ => ?_)
                refine lv_aload_n hx hb dX2_readsSend_102 rfl (lv_at hl 2 rfl) ?_
                refine g_cMV hX hl y_X2_goes v_X2_goes q2276 (k_X2_goes P_14 n hn hn4 (p_ok.w hpP_14)) (hM.rc hX.2.2.2) hM rfl ⟨Nat.le_of_ble_eq_true rfl, Nat.le_of_ble_eq_true rfl⟩ ⟨Nat.le_refl _, Nat.le_refl _⟩ (rest := []) (st1 := []) rfl rfl (Nat.le_of_ble_eq_true rfl) dX2_readsSend_103 hS (fun _ h => h) (fun H locs hM hS _ => ?_)
                obtain ⟨P_15, hP_15⟩ : ∃ z, z = q_goes (Z 8) n P_14 := ⟨_, rfl⟩
                rw [← hP_15] at hM
                have hpP_15 : p_ok n P_15 := by rw [hP_15]; exact q_goes_ok hpP_14
                have hcP_15 : P_15.1 ≤ 3 := hpP_15.1
                have hsP_15 : P_15.2.2.2.1 ≤ P_15.2.2.1 := hpP_15.2.2.1
                have huP_15 : P_15.2.2.1 ≤ n := hpP_15.2.1
                have eP : r_eP (Z 8) n X P = P_15 := by unfold r_eP; rw [← hP_14]; first | (rw [if_neg (by omega)]; first | done | (subst hP_15 hP_14 hP_13 hP_10 hP_9 hP_8; rfl)) | (rw [if_pos (by omega)]; first | done | (subst hP_15 hP_14 hP_13 hP_10 hP_9 hP_8; rfl))
                have eX : r_seX (Z 8) n X P = x_log X1 0 (s_M X) := by unfold r_seX; (rw [← hP_14]; first | (rw [if_pos (by omega)]; done) | (rw [if_neg (by omega)]; unfold r_eX r_el; rw [hX1, show P_14.2.2.1 - P_14.2.2.2.1 = j by omega]; done)); first | done | (subst hP_15 hP_14 hP_13 hP_10 hP_9 hP_8; rfl)
                exact hret H locs _ _ _ _ dX2_readsSend_106 hS (Nat.le_refl _) (Nat.le_refl _) ⟨rfl, by rw [eP, eX]; exact hM⟩
              · skip
                refine lv_aload_n hx hb dX2_readsSend_70 rfl (lv_at hl 2 rfl) ?_
                refine lv_iload_n hx hb dX2_readsSend_71 rfl (lv_at hl 1 rfl) ?_
                refine lv_iload_n hx hb dX2_readsSend_72 rfl (lv_at hl 0 rfl) ?_
                refine lv_aload_n hx hb dX2_readsSend_73 rfl (lv_at hl 2 rfl) ?_
                refine g_getM hX hM 8 (by decide) q2171 rfl (v := .ref (ad 8)) rfl dX2_readsSend_74 ?_
                refine lv_aload_n hx hb dX2_readsSend_77 rfl (lv_at hl 2 rfl) ?_
                refine g_getM hX hM 14 (by decide) q2177 rfl (v := .int (nI P_14.2.2.2.1)) rfl dX2_readsSend_78 ?_
                refine lv_iload_n hx hb dX2_readsSend_81 rfl (lv_at hl 0 rfl) ?_
                refine g_iaddN hx hb P_14.2.2.2.1 j rfl rfl dX2_readsSend_82 ?_
                refine g_bald hX hM.a8 (P_14.2.2.2.1 + j) rfl (by omega) (by decide) (v := (Z 8 (P_14.2.2.2.1 + j))) rfl dX2_readsSend_83 ?_
                refine lv_bipush (v := 48) hx hb dX2_readsSend_84 (by decide) ?_
                refine lv_isub hx hb dX2_readsSend_86 ?_
                refine g_cMV hX hl y_X2_putsDigit v_X2_putsDigit q2357 (k_X2_putsDigit (s_M X) j ((Z 8 (P_14.2.2.2.1 + j)) - 48) (by omega) (by omega)) (hM.rc hX.2.2.2) hM rfl ⟨Nat.le_of_ble_eq_true rfl, Nat.le_of_ble_eq_true rfl⟩ ⟨Nat.le_refl _, Nat.le_refl _⟩ (rest := []) (st1 := []) rfl rfl (Nat.le_of_ble_eq_true rfl) dX2_readsSend_87 hS (fun _ h => h) (fun H locs hM hS _ => ?_)
                refine lv_iinc (v := (nI (j + 1))) (lv' := [(2, .int (nI (j + 1))), (1, .int (nI (s_M X))), (0, .ref (ad 0))]) hx hb dX2_readsSend_90 hl (k := 0) rfl (nI_1 _) (by decide) rfl (fun ls hl => ?_)
                refine lv_goto (tgt := 57) hx hb dX2_readsSend_93 (by decide) ?_
                exact ih57 H locs (j + 1) (x_dig X1 (s_M X) j ((Z 8 (P_14.2.2.2.1 + j)) - 48)) (by omega) (by rw [hX1]; rfl) (by omega) hM hS ls (lv_sub hl [0, 1, 2] rfl)
          exact L57 (P_14.2.2.1 - P_14.2.2.2.1 - 0 + 1) H locs 0 (x_beg X (nI (P_14.2.2.1 - P_14.2.2.2.1))) (by omega) (rfl) (Nat.lt_succ_self _) hM hS ls (lv_sub hl [0, 1, 2] rfl)
        · skip
          have eP : r_eP (Z 8) n X P = P_14 := by unfold r_eP; rw [← hP_14]; first | (rw [if_neg (by omega)]; first | done | (subst hP_14 hP_13 hP_10 hP_9 hP_8; rfl)) | (rw [if_pos (by omega)]; first | done | (subst hP_14 hP_13 hP_10 hP_9 hP_8; rfl))
          have eX : r_seX (Z 8) n X P = X := by unfold r_seX; (rw [← hP_14]; first | (rw [if_pos (by omega)]; done) | (rw [if_neg (by omega)]; unfold r_eX r_el; rw [hX1, show P_14.2.2.1 - P_14.2.2.2.1 = j by omega]; done)); first | done | (subst hP_14 hP_13 hP_10 hP_9 hP_8; rfl)
          exact hret H locs _ _ _ _ dX2_readsSend_40 hS (Nat.le_refl _) (Nat.le_refl _) ⟨rfl, by rw [eP, eX]; exact hM⟩
  exact key _ _ hM hS
