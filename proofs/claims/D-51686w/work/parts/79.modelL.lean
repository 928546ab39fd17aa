/-! THE MODEL: load -/
set_option maxRecDepth 100000
theorem y_X2_readsText : g_Y yX2_readsText cX2_readsText 1 none 0 := ⟨q2275, by decide +kernel⟩
theorem v_X2_readsText : g_YV yX2_readsText := ⟨q2274, qs42, q140⟩
set_option maxHeartbeats 4000000 in
theorem k_X2_readsText {G : g_G} {l : Launch} {ad : Nat → Nat} {F : Nat → Int32} {X Y : g_Wd} {U V : Nat → g_Wd} {Z : g_Wd}  (P : g_P) (n : Nat) (hn : F 12 = nI n) (hn4 : n ≤ 400) (hp0 : P.1 = 0 ∧ P.2.2.1 ≤ n) (h0 : ∀ k, k < 5 → X 0 k = 0) : g_Me G l yX2_readsText cX2_readsText 1 none 10 0 0 [.ref (ad 0)] (g_Mod G ad (p_F F P) X Y U V Z) (g_Qv none (g_Mod G ad (p_F F (r_txP (Z 8) n X P)) (r_txX (Z 8) n X P) Y U V Z)) (md_A ad) := by
  refine g_Me.ofV (by decide) ?_
  intro p e s m args below meth c ls Q hX hE hM hl hS hret
  have hx := hX.1.1
  have hb := hX.1.2.1
  have hl : lv_has ls 1 [(0, .ref (ad 0))] := hl
  have key : ∀ (H : Heap) (locs : List Loc), g_Mod G ad (p_F F P) X Y U V Z H → va_S (md_A ad) s.heap H locs → W p l e (g_rm 10 0 0) s m args below meth c H locs 0 0 Q (F0 m 0 ls []) := by
    intro H locs hM hS
    refine lv_aload_n hx hb dX2_readsText_0 rfl (lv_at hl 0 rfl) ?_
    refine g_cMV hX hl y_X2_goes v_X2_goes q2276 (k_X2_goes P n hn hn4 ⟨by have := hp0.1; omega, hp0.2⟩) (hM.rc hX.2.2.2) hM rfl ⟨Nat.le_of_ble_eq_true rfl, Nat.le_of_ble_eq_true rfl⟩ ⟨Nat.le_refl _, Nat.le_refl _⟩ (rest := []) (st1 := []) rfl rfl (Nat.le_of_ble_eq_true rfl) dX2_readsText_1 hS (fun _ h => h) (fun H locs hM hS _ => ?_)
    obtain ⟨P_1, hP_1⟩ : ∃ z, z = q_goes (Z 8) n P := ⟨_, rfl⟩
    rw [← hP_1] at hM
    have hpP_1 : p_ok n P_1 := by rw [hP_1]; exact q_goes_ok0 hp0.1 hp0.2
    have hcP_1 : P_1.1 ≤ 3 := hpP_1.1
    have hsP_1 : P_1.2.2.2.1 ≤ P_1.2.2.1 := hpP_1.2.2.1
    have huP_1 : P_1.2.2.1 ≤ n := hpP_1.2.1
    refine lv_aload_n hx hb dX2_readsText_4 rfl (lv_at hl 0 rfl) ?_
    refine g_ldS hX hE 9 rfl dX2_readsText_5 ?_
    have cz0 := ((hE.kept hS.2.1).2.1 10 _ rfl).1
    have cz1 := ((hE.kept hS.2.1).2.1 22 _ rfl).1
    refine g_eRV hX hE hS hl y_X2_isWord v_X2_isWord q2289 (k_X2_isWord P_1 n (G.2 210) (G.2 310) 4 (e_tx 10) 3214412 0 hn hn4 hpP_1 (by omega)) (hM.rc hX.2.2.2) ⟨hM, cz0, cz1⟩ rfl ⟨Nat.le_of_ble_eq_true rfl, Nat.le_of_ble_eq_true rfl⟩ ⟨Nat.le_refl _, Nat.le_refl _⟩ (rest := []) (st1 := [.int (g_b (q_w (Z 8) P_1 10 4))]) rfl rfl (Nat.le_of_ble_eq_true rfl) dX2_readsText_7 ?_
    clear cz0 cz1
    refine g_if_neB (tgt := 18) hx hb (b := q_w (Z 8) P_1 10 4) rfl dX2_readsText_10 (by decide) (fun c_10 => ?_) (fun c_10 => ?_)
    · skip
      have e18 : r_t2 (Z 8) n P = P_1 := by unfold r_t2; (first | (rw [if_pos (by subst hP_1; exact c_10)]; subst hP_1; rfl) | (rw [if_neg (by subst hP_1; exact fun z => Bool.noConfusion (c_10.symm.trans z))]; subst hP_1; rfl))
      rw [← e18] at hM
      obtain ⟨P_2, hP_2⟩ : ∃ z, z = r_t2 (Z 8) n P := ⟨_, rfl⟩
      rw [← hP_2] at hM
      have hpP_2 : p_ok n P_2 := by rw [hP_2]; exact r_t2_ok0 hp0.1 hp0.2
      have hcP_2 : P_2.1 ≤ 3 := hpP_2.1
      have hsP_2 : P_2.2.2.2.1 ≤ P_2.2.2.1 := hpP_2.2.2.1
      have huP_2 : P_2.2.2.1 ≤ n := hpP_2.2.1
      have e18b : P_2 = P_1 := by rw [hP_2]; exact e18
      refine lv_aload_n hx hb dX2_readsText_18 rfl (lv_at hl 0 rfl) ?_
      refine g_cMV hX hl y_X2_goes v_X2_goes q2276 (k_X2_goes P_2 n hn hn4 (p_ok.w hpP_2)) (hM.rc hX.2.2.2) hM rfl ⟨Nat.le_of_ble_eq_true rfl, Nat.le_of_ble_eq_true rfl⟩ ⟨Nat.le_refl _, Nat.le_refl _⟩ (rest := []) (st1 := []) rfl rfl (Nat.le_of_ble_eq_true rfl) dX2_readsText_19 hS (fun _ h => h) (fun H locs hM hS _ => ?_)
      obtain ⟨P_3, hP_3⟩ : ∃ z, z = q_goes (Z 8) n P_2 := ⟨_, rfl⟩
      rw [← hP_3] at hM
      have hpP_3 : p_ok n P_3 := by rw [hP_3]; exact q_goes_ok hpP_2
      have hcP_3 : P_3.1 ≤ 3 := hpP_3.1
      have hsP_3 : P_3.2.2.2.1 ≤ P_3.2.2.1 := hpP_3.2.2.1
      have huP_3 : P_3.2.2.1 ≤ n := hpP_3.2.1
      refine lv_aload_n hx hb dX2_readsText_22 rfl (lv_at hl 0 rfl) ?_
      refine g_getM hX hM 1 (by decide) q2164 rfl (v := .ref (ad 1)) rfl dX2_readsText_23 ?_
      refine lv_iconst (v := 0) hx hb dX2_readsText_26 rfl ?_
      refine lv_aload_n hx hb dX2_readsText_27 rfl (lv_at hl 0 rfl) ?_
      refine lv_iconst (v := 2) hx hb dX2_readsText_28 rfl ?_
      refine lv_bipush (v := 6) hx hb dX2_readsText_29 (by decide) ?_
      refine g_cMV hX hl y_X2_number v_X2_number q2303 (k_X2_number 2 6 P_3 n hn hn4 hpP_3) (hM.rc hX.2.2.2) hM rfl ⟨Nat.le_of_ble_eq_true rfl, Nat.le_of_ble_eq_true rfl⟩ ⟨Nat.le_refl _, Nat.le_refl _⟩ (rest := [.int 0, .ref (ad 1)]) (st1 := [.int (q_nV (Z 8) P_3 2 6), .int 0, .ref (ad 1)]) rfl rfl (Nat.le_of_ble_eq_true rfl) dX2_readsText_31 hS (fun _ h => h) (fun H locs hM hS _ => ?_)
      obtain ⟨v_4, hv_4⟩ : ∃ z, z = (q_nV (Z 8) P_3 2 6) := ⟨_, rfl⟩
      rw [← hv_4]
      obtain ⟨P_5, hP_5⟩ : ∃ z, z = q_num (Z 8) n P_3 2 6 := ⟨_, rfl⟩
      rw [← hP_5] at hM
      have hpP_5 : p_ok n P_5 := by rw [hP_5]; exact q_num_ok hpP_3
      have hcP_5 : P_5.1 ≤ 3 := hpP_5.1
      have hsP_5 : P_5.2.2.2.1 ≤ P_5.2.2.1 := hpP_5.2.2.1
      have huP_5 : P_5.2.2.1 ≤ n := hpP_5.2.1
      refine g_istX hX hM hS 0 rfl (by omega) (X' := g_up2 X 0 0 v_4) (g_flu0 _ (by omega) _) dX2_readsText_34 (fun H locs hM hS => ?_)
      refine lv_aload_n hx hb dX2_readsText_35 rfl (lv_at hl 0 rfl) ?_
      refine g_getM hX hM 1 (by decide) q2164 rfl (v := .ref (ad 1)) rfl dX2_readsText_36 ?_
      refine lv_iconst (v := 1) hx hb dX2_readsText_39 rfl ?_
      refine lv_aload_n hx hb dX2_readsText_40 rfl (lv_at hl 0 rfl) ?_
      refine lv_iconst (v := 0) hx hb dX2_readsText_41 rfl ?_
      refine lv_iconst (v := 5) hx hb dX2_readsText_42 rfl ?_
      refine g_cMV hX hl y_X2_number v_X2_number q2303 (k_X2_number 0 5 P_5 n hn hn4 hpP_5) (hM.rc hX.2.2.2) hM rfl ⟨Nat.le_of_ble_eq_true rfl, Nat.le_of_ble_eq_true rfl⟩ ⟨Nat.le_refl _, Nat.le_refl _⟩ (rest := [.int 1, .ref (ad 1)]) (st1 := [.int (q_nV (Z 8) P_5 0 5), .int 1, .ref (ad 1)]) rfl rfl (Nat.le_of_ble_eq_true rfl) dX2_readsText_43 hS (fun _ h => h) (fun H locs hM hS _ => ?_)
      obtain ⟨v_6, hv_6⟩ : ∃ z, z = (q_nV (Z 8) P_5 0 5) := ⟨_, rfl⟩
      rw [← hv_6]
      obtain ⟨P_7, hP_7⟩ : ∃ z, z = q_num (Z 8) n P_5 0 5 := ⟨_, rfl⟩
      rw [← hP_7] at hM
      have hpP_7 : p_ok n P_7 := by rw [hP_7]; exact q_num_ok hpP_5
      have hcP_7 : P_7.1 ≤ 3 := hpP_7.1
      have hsP_7 : P_7.2.2.2.1 ≤ P_7.2.2.1 := hpP_7.2.2.1
      have huP_7 : P_7.2.2.1 ≤ n := hpP_7.2.1
      refine g_istX hX hM hS 1 rfl (by omega) (X' := g_up2 (g_up2 X 0 0 v_4) 0 1 v_6) (g_flu0 _ (by omega) _) dX2_readsText_46 (fun H locs hM hS => ?_)
      have hX9 : g_up2 (g_up2 X 0 0 v_4) 0 1 v_6 = r_tX (Z 8) n X P := by unfold r_tX; subst hP_7 hv_6 hP_5 hv_4 hP_3 hP_2 hP_1; rfl
      have hP9 : P_7 = r_t5 (Z 8) n P := by subst hP_7 hv_6 hP_5 hv_4 hP_3 hP_2 hP_1; rfl
      have L47 : ∀ (nf : Nat) (H : Heap) (locs : List Loc) (w : Nat) (X1 : g_Wd) (P1 : g_P), (p_ok n P1) → (s_wm w X1) → (w + 50 * r_mz n P1 < 2 ^ 31) → (r_lp (Z 8) n X1 P1 = r_lp (Z 8) n (r_tX (Z 8) n X P) (r_t5 (Z 8) n P)) → (r_mz n P1 < nf) → (g_Mod G ad (p_F F P1) X1 Y U V Z H) → va_S (md_A ad) s.heap H locs → ∀ ls : Array Slot, lv_has ls 1 [(0, .ref (ad 0))] → W p l e (g_rm 10 0 0) s m args below meth c H locs 0 0 Q (F0 m 47 ls []) := by
        intro n47
        induction n47 with
        | zero => intro H locs w X1 P1 hpP1 hw1 hw2 hr hn; exact absurd hn (Nat.not_lt_zero _)
        | succ n47 ih47 =>
          intro H locs w X1 P1 hpP1 hw1 hw2 hr hn47 hM hS ls hl
          have hc1 : P1.1 ≤ 3 := hpP1.1
          refine lv_aload_n hx hb dX2_readsText_47 rfl (lv_at hl 0 rfl) ?_
          refine lv_iconst (v := 4) hx hb dX2_readsText_48 rfl ?_
          refine g_cRV hX hl y_X2_is v_X2_is q2293 (k_X2_is 4 P1 n hn hn4 hpP1 (by omega)) (hM.rc hX.2.2.2) hM rfl ⟨Nat.le_of_ble_eq_true rfl, Nat.le_of_ble_eq_true rfl⟩ ⟨Nat.zero_le _, Nat.zero_le _⟩ (rest := []) (st1 := [.int (g_b (q_is P1 4))]) rfl rfl (Nat.le_of_ble_eq_true rfl) dX2_readsText_49 ?_
          refine g_if_eqB (tgt := 66) hx hb (b := q_is P1 4) rfl dX2_readsText_52 (by decide) (fun c_52 => ?_) (fun c_52 => ?_)
          · skip
            refine lv_aload_n hx hb dX2_readsText_66 rfl (lv_at hl 0 rfl) ?_
            refine lv_iconst (v := 1) hx hb dX2_readsText_67 rfl ?_
            refine g_cRV hX hl y_X2_is v_X2_is q2293 (k_X2_is 1 P1 n hn hn4 hpP1 (by omega)) (hM.rc hX.2.2.2) hM rfl ⟨Nat.le_of_ble_eq_true rfl, Nat.le_of_ble_eq_true rfl⟩ ⟨Nat.zero_le _, Nat.zero_le _⟩ (rest := []) (st1 := [.int (g_b (q_is P1 1))]) rfl rfl (Nat.le_of_ble_eq_true rfl) dX2_readsText_68 ?_
            refine g_if_neB (tgt := 79) hx hb (b := q_is P1 1) rfl dX2_readsText_71 (by decide) (fun c_71 => ?_) (fun c_71 => ?_)
            · skip
              have hl9 : r_lp (Z 8) n (r_tX (Z 8) n X P) (r_t5 (Z 8) n P) = (X1, P1) := by rw [← hr]; exact r_lp_e c_52
              have eP : r_txP (Z 8) n X P = P1 := by unfold r_txP; rw [hl9]; first | (rw [if_pos (show q_is P1 1 = true from c_71)]; done) | (rw [if_neg (show ¬ q_is P1 1 = true from fun z => Bool.noConfusion (c_71.symm.trans z))]; first | done | (subst hP_7 hv_6 hP_5 hv_4 hP_3 hP_2 hP_1; rfl))
              have eX : r_txX (Z 8) n X P = X1 := by unfold r_txX; rw [hl9]
              exact hret H locs _ _ _ _ dX2_readsText_79 hS (Nat.le_refl _) (Nat.le_refl _) ⟨rfl, by rw [eP, eX]; exact hM⟩
            · skip
              refine lv_aload_n hx hb dX2_readsText_74 rfl (lv_at hl 0 rfl) ?_
              refine lv_iconst (v := 1) hx hb dX2_readsText_75 rfl ?_
              refine g_cMV hX hl y_X2_faults v_X2_faults q2299 (k_X2_faults 1 P1 n hn hn4 hpP1 (by omega)) (hM.rc hX.2.2.2) hM rfl ⟨Nat.le_of_ble_eq_true rfl, Nat.le_of_ble_eq_true rfl⟩ ⟨Nat.le_refl _, Nat.le_refl _⟩ (rest := []) (st1 := []) rfl rfl (Nat.le_of_ble_eq_true rfl) dX2_readsText_76 hS (fun _ h => h) (fun H locs hM hS _ => ?_)
              obtain ⟨P_8, hP_8⟩ : ∃ z, z = q_f P1 1 := ⟨_, rfl⟩
              rw [← hP_8] at hM
              have hpP_8 : p_ok n P_8 := by rw [hP_8]; exact q_f_ok hpP1 (by decide)
              have hcP_8 : P_8.1 ≤ 3 := hpP_8.1
              have hsP_8 : P_8.2.2.2.1 ≤ P_8.2.2.1 := hpP_8.2.2.1
              have huP_8 : P_8.2.2.1 ≤ n := hpP_8.2.1
              have hl9 : r_lp (Z 8) n (r_tX (Z 8) n X P) (r_t5 (Z 8) n P) = (X1, P1) := by rw [← hr]; exact r_lp_e c_52
              have eP : r_txP (Z 8) n X P = P_8 := by unfold r_txP; rw [hl9]; first | (rw [if_pos (show q_is P1 1 = true from c_71)]; done) | (rw [if_neg (show ¬ q_is P1 1 = true from fun z => Bool.noConfusion (c_71.symm.trans z))]; first | done | (subst hP_8 hP_7 hv_6 hP_5 hv_4 hP_3 hP_2 hP_1; rfl))
              have eX : r_txX (Z 8) n X P = X1 := by unfold r_txX; rw [hl9]
              exact hret H locs _ _ _ _ dX2_readsText_79 hS (Nat.le_refl _) (Nat.le_refl _) ⟨rfl, by rw [eP, eX]; exact hM⟩
          · skip
            refine lv_aload_n hx hb dX2_readsText_55 rfl (lv_at hl 0 rfl) ?_
            refine g_cMV hX hl y_X2_goes v_X2_goes q2276 (k_X2_goes P1 n hn hn4 (p_ok.w hpP1)) (hM.rc hX.2.2.2) hM rfl ⟨Nat.le_of_ble_eq_true rfl, Nat.le_of_ble_eq_true rfl⟩ ⟨Nat.le_refl _, Nat.le_refl _⟩ (rest := []) (st1 := []) rfl rfl (Nat.le_of_ble_eq_true rfl) dX2_readsText_56 hS (fun _ h => h) (fun H locs hM hS _ => ?_)
            obtain ⟨P_9, hP_9⟩ : ∃ z, z = q_goes (Z 8) n P1 := ⟨_, rfl⟩
            rw [← hP_9] at hM
            have hpP_9 : p_ok n P_9 := by rw [hP_9]; exact q_goes_ok hpP1
            have hcP_9 : P_9.1 ≤ 3 := hpP_9.1
            have hsP_9 : P_9.2.2.2.1 ≤ P_9.2.2.1 := hpP_9.2.2.1
            have huP_9 : P_9.2.2.1 ≤ n := hpP_9.2.1
            have hz := r_mz_lt (b := Z 8) (X := X1) hpP1 c_52
            rw [← hP_9] at hz
            refine lv_aload_n hx hb dX2_readsText_59 rfl (lv_at hl 0 rfl) ?_
            refine g_eMV hX hE hS hl y_X2_readsPart v_X2_readsPart q2315 (k_X2_readsPart P_9 n hn hn4 (by assumption) hw1.1) (hM.rc hX.2.2.2) hM rfl ⟨Nat.le_of_ble_eq_true rfl, Nat.le_of_ble_eq_true rfl⟩ ⟨Nat.le_refl _, Nat.le_refl _⟩ (rest := []) (st1 := []) rfl rfl (Nat.le_of_ble_eq_true rfl) dX2_readsText_60 (fun _ h => h) (fun H locs hM hS _ => ?_)
            refine lv_goto (tgt := 47) hx hb dX2_readsText_63 (by decide) ?_
            exact ih47 H locs (w + 50) (r_lnX (Z 8) n X1 P_9) (r_lnP (Z 8) n X1 P_9) (by subst hP_9 hP_7 hv_6 hP_5 hv_4 hP_3 hP_2 hP_1; exact r_lnP_ok (q_goes_ok hpP1)) (by subst hP_9 hP_7 hv_6 hP_5 hv_4 hP_3 hP_2 hP_1; exact r_lnX_wm hw1 (q_goes_ok hpP1) (by omega)) (by omega) (by subst hP_9 hP_7 hv_6 hP_5 hv_4 hP_3 hP_2 hP_1; rw [r_lp_s hpP1 c_52]; exact hr) (by omega) hM hS ls (lv_sub hl [0] rfl)
      exact L47 (r_mz n P_7 + 1) H locs 0 (g_up2 (g_up2 X 0 0 v_4) 0 1 v_6) P_7 (hpP_7) (by rw [hX9]; exact r_tX_wm h0) (by unfold r_mz; split <;> omega) (by rw [hX9, hP9]) (Nat.lt_succ_self _) hM hS ls (lv_sub hl [0] rfl)
    · skip
      refine lv_aload_n hx hb dX2_readsText_13 rfl (lv_at hl 0 rfl) ?_
      refine lv_iconst (v := 1) hx hb dX2_readsText_14 rfl ?_
      refine g_cMV hX hl y_X2_faults v_X2_faults q2299 (k_X2_faults 1 P_1 n hn hn4 hpP_1 (by omega)) (hM.rc hX.2.2.2) hM rfl ⟨Nat.le_of_ble_eq_true rfl, Nat.le_of_ble_eq_true rfl⟩ ⟨Nat.le_refl _, Nat.le_refl _⟩ (rest := []) (st1 := []) rfl rfl (Nat.le_of_ble_eq_true rfl) dX2_readsText_15 hS (fun _ h => h) (fun H locs hM hS _ => ?_)
      obtain ⟨P_10, hP_10⟩ : ∃ z, z = q_f P_1 1 := ⟨_, rfl⟩
      rw [← hP_10] at hM
      have hpP_10 : p_ok n P_10 := by rw [hP_10]; exact q_f_ok hpP_1 (by decide)
      have hcP_10 : P_10.1 ≤ 3 := hpP_10.1
      have hsP_10 : P_10.2.2.2.1 ≤ P_10.2.2.1 := hpP_10.2.2.1
      have huP_10 : P_10.2.2.1 ≤ n := hpP_10.2.1
      have e18 : r_t2 (Z 8) n P = P_10 := by unfold r_t2; (first | (rw [if_pos (by subst hP_10 hP_1; exact c_10)]; subst hP_10 hP_1; rfl) | (rw [if_neg (by subst hP_10 hP_1; exact fun z => Bool.noConfusion (c_10.symm.trans z))]; subst hP_10 hP_1; rfl))
      rw [← e18] at hM
      obtain ⟨P_11, hP_11⟩ : ∃ z, z = r_t2 (Z 8) n P := ⟨_, rfl⟩
      rw [← hP_11] at hM
      have hpP_11 : p_ok n P_11 := by rw [hP_11]; exact r_t2_ok0 hp0.1 hp0.2
      have hcP_11 : P_11.1 ≤ 3 := hpP_11.1
      have hsP_11 : P_11.2.2.2.1 ≤ P_11.2.2.1 := hpP_11.2.2.1
      have huP_11 : P_11.2.2.1 ≤ n := hpP_11.2.1
      have e18b : P_11 = P_10 := by rw [hP_11]; exact e18
      refine lv_aload_n hx hb dX2_readsText_18 rfl (lv_at hl 0 rfl) ?_
      refine g_cMV hX hl y_X2_goes v_X2_goes q2276 (k_X2_goes P_11 n hn hn4 (p_ok.w hpP_11)) (hM.rc hX.2.2.2) hM rfl ⟨Nat.le_of_ble_eq_true rfl, Nat.le_of_ble_eq_true rfl⟩ ⟨Nat.le_refl _, Nat.le_refl _⟩ (rest := []) (st1 := []) rfl rfl (Nat.le_of_ble_eq_true rfl) dX2_readsText_19 hS (fun _ h => h) (fun H locs hM hS _ => ?_)
      obtain ⟨P_12, hP_12⟩ : ∃ z, z = q_goes (Z 8) n P_11 := ⟨_, rfl⟩
      rw [← hP_12] at hM
      have hpP_12 : p_ok n P_12 := by rw [hP_12]; exact q_goes_ok hpP_11
      have hcP_12 : P_12.1 ≤ 3 := hpP_12.1
      have hsP_12 : P_12.2.2.2.1 ≤ P_12.2.2.1 := hpP_12.2.2.1
      have huP_12 : P_12.2.2.1 ≤ n := hpP_12.2.1
      refine lv_aload_n hx hb dX2_readsText_22 rfl (lv_at hl 0 rfl) ?_
      refine g_getM hX hM 1 (by decide) q2164 rfl (v := .ref (ad 1)) rfl dX2_readsText_23 ?_
      refine lv_iconst (v := 0) hx hb dX2_readsText_26 rfl ?_
      refine lv_aload_n hx hb dX2_readsText_27 rfl (lv_at hl 0 rfl) ?_
      refine lv_iconst (v := 2) hx hb dX2_readsText_28 rfl ?_
      refine lv_bipush (v := 6) hx hb dX2_readsText_29 (by decide) ?_
      refine g_cMV hX hl y_X2_number v_X2_number q2303 (k_X2_number 2 6 P_12 n hn hn4 hpP_12) (hM.rc hX.2.2.2) hM rfl ⟨Nat.le_of_ble_eq_true rfl, Nat.le_of_ble_eq_true rfl⟩ ⟨Nat.le_refl _, Nat.le_refl _⟩ (rest := [.int 0, .ref (ad 1)]) (st1 := [.int (q_nV (Z 8) P_12 2 6), .int 0, .ref (ad 1)]) rfl rfl (Nat.le_of_ble_eq_true rfl) dX2_readsText_31 hS (fun _ h => h) (fun H locs hM hS _ => ?_)
      obtain ⟨v_13, hv_13⟩ : ∃ z, z = (q_nV (Z 8) P_12 2 6) := ⟨_, rfl⟩
      rw [← hv_13]
      obtain ⟨P_14, hP_14⟩ : ∃ z, z = q_num (Z 8) n P_12 2 6 := ⟨_, rfl⟩
      rw [← hP_14] at hM
      have hpP_14 : p_ok n P_14 := by rw [hP_14]; exact q_num_ok hpP_12
      have hcP_14 : P_14.1 ≤ 3 := hpP_14.1
      have hsP_14 : P_14.2.2.2.1 ≤ P_14.2.2.1 := hpP_14.2.2.1
      have huP_14 : P_14.2.2.1 ≤ n := hpP_14.2.1
      refine g_istX hX hM hS 0 rfl (by omega) (X' := g_up2 X 0 0 v_13) (g_flu0 _ (by omega) _) dX2_readsText_34 (fun H locs hM hS => ?_)
      refine lv_aload_n hx hb dX2_readsText_35 rfl (lv_at hl 0 rfl) ?_
      refine g_getM hX hM 1 (by decide) q2164 rfl (v := .ref (ad 1)) rfl dX2_readsText_36 ?_
      refine lv_iconst (v := 1) hx hb dX2_readsText_39 rfl ?_
      refine lv_aload_n hx hb dX2_readsText_40 rfl (lv_at hl 0 rfl) ?_
      refine lv_iconst (v := 0) hx hb dX2_readsText_41 rfl ?_
      refine lv_iconst (v := 5) hx hb dX2_readsText_42 rfl ?_
      refine g_cMV hX hl y_X2_number v_X2_number q2303 (k_X2_number 0 5 P_14 n hn hn4 hpP_14) (hM.rc hX.2.2.2) hM rfl ⟨Nat.le_of_ble_eq_true rfl, Nat.le_of_ble_eq_true rfl⟩ ⟨Nat.le_refl _, Nat.le_refl _⟩ (rest := [.int 1, .ref (ad 1)]) (st1 := [.int (q_nV (Z 8) P_14 0 5), .int 1, .ref (ad 1)]) rfl rfl (Nat.le_of_ble_eq_true rfl) dX2_readsText_43 hS (fun _ h => h) (fun H locs hM hS _ => ?_)
      obtain ⟨v_15, hv_15⟩ : ∃ z, z = (q_nV (Z 8) P_14 0 5) := ⟨_, rfl⟩
      rw [← hv_15]
      obtain ⟨P_16, hP_16⟩ : ∃ z, z = q_num (Z 8) n P_14 0 5 := ⟨_, rfl⟩
      rw [← hP_16] at hM
      have hpP_16 : p_ok n P_16 := by rw [hP_16]; exact q_num_ok hpP_14
      have hcP_16 : P_16.1 ≤ 3 := hpP_16.1
      have hsP_16 : P_16.2.2.2.1 ≤ P_16.2.2.1 := hpP_16.2.2.1
      have huP_16 : P_16.2.2.1 ≤ n := hpP_16.2.1
      refine g_istX hX hM hS 1 rfl (by omega) (X' := g_up2 (g_up2 X 0 0 v_13) 0 1 v_15) (g_flu0 _ (by omega) _) dX2_readsText_46 (fun H locs hM hS => ?_)
      have hX9 : g_up2 (g_up2 X 0 0 v_13) 0 1 v_15 = r_tX (Z 8) n X P := by unfold r_tX; subst hP_16 hv_15 hP_14 hv_13 hP_12 hP_11 hP_10 hP_1; rfl
      have hP9 : P_16 = r_t5 (Z 8) n P := by subst hP_16 hv_15 hP_14 hv_13 hP_12 hP_11 hP_10 hP_1; rfl
      have L47 : ∀ (nf : Nat) (H : Heap) (locs : List Loc) (w : Nat) (X1 : g_Wd) (P1 : g_P), (p_ok n P1) → (s_wm w X1) → (w + 50 * r_mz n P1 < 2 ^ 31) → (r_lp (Z 8) n X1 P1 = r_lp (Z 8) n (r_tX (Z 8) n X P) (r_t5 (Z 8) n P)) → (r_mz n P1 < nf) → (g_Mod G ad (p_F F P1) X1 Y U V Z H) → va_S (md_A ad) s.heap H locs → ∀ ls : Array Slot, lv_has ls 1 [(0, .ref (ad 0))] → W p l e (g_rm 10 0 0) s m args below meth c H locs 0 0 Q (F0 m 47 ls []) := by
        intro n47
        induction n47 with
        | zero => intro H locs w X1 P1 hpP1 hw1 hw2 hr hn; exact absurd hn (Nat.not_lt_zero _)
        | succ n47 ih47 =>
          intro H locs w X1 P1 hpP1 hw1 hw2 hr hn47 hM hS ls hl
          have hc1 : P1.1 ≤ 3 := hpP1.1
          refine lv_aload_n hx hb dX2_readsText_47 rfl (lv_at hl 0 rfl) ?_
          refine lv_iconst (v := 4) hx hb dX2_readsText_48 rfl ?_
          refine g_cRV hX hl y_X2_is v_X2_is q2293 (k_X2_is 4 P1 n hn hn4 hpP1 (by omega)) (hM.rc hX.2.2.2) hM rfl ⟨Nat.le_of_ble_eq_true rfl, Nat.le_of_ble_eq_true rfl⟩ ⟨Nat.zero_le _, Nat.zero_le _⟩ (rest := []) (st1 := [.int (g_b (q_is P1 4))]) rfl rfl (Nat.le_of_ble_eq_true rfl) dX2_readsText_49 ?_
          refine g_if_eqB (tgt := 66) hx hb (b := q_is P1 4) rfl dX2_readsText_52 (by decide) (fun c_52 => ?_) (fun c_52 => ?_)
          · skip
            refine lv_aload_n hx hb dX2_readsText_66 rfl (lv_at hl 0 rfl) ?_
            refine lv_iconst (v := 1) hx hb dX2_readsText_67 rfl ?_
            refine g_cRV hX hl y_X2_is v_X2_is q2293 (k_X2_is 1 P1 n hn hn4 hpP1 (by omega)) (hM.rc hX.2.2.2) hM rfl ⟨Nat.le_of_ble_eq_true rfl, Nat.le_of_ble_eq_true rfl⟩ ⟨Nat.zero_le _, Nat.zero_le _⟩ (rest := []) (st1 := [.int (g_b (q_is P1 1))]) rfl rfl (Nat.le_of_ble_eq_true rfl) dX2_readsText_68 ?_
            refine g_if_neB (tgt := 79) hx hb (b := q_is P1 1) rfl dX2_readsText_71 (by decide) (fun c_71 => ?_) (fun c_71 => ?_)
            · skip
              have hl9 : r_lp (Z 8) n (r_tX (Z 8) n X P) (r_t5 (Z 8) n P) = (X1, P1) := by rw [← hr]; exact r_lp_e c_52
              have eP : r_txP (Z 8) n X P = P1 := by unfold r_txP; rw [hl9]; first | (rw [if_pos (show q_is P1 1 = true from c_71)]; done) | (rw [if_neg (show ¬ q_is P1 1 = true from fun z => Bool.noConfusion (c_71.symm.trans z))]; first | done | (subst hP_16 hv_15 hP_14 hv_13 hP_12 hP_11 hP_10 hP_1; rfl))
              have eX : r_txX (Z 8) n X P = X1 := by unfold r_txX; rw [hl9]
              exact hret H locs _ _ _ _ dX2_readsText_79 hS (Nat.le_refl _) (Nat.le_refl _) ⟨rfl, by rw [eP, eX]; exact hM⟩
            · skip
              refine lv_aload_n hx hb dX2_readsText_74 rfl (lv_at hl 0 rfl) ?_
              refine lv_iconst (v := 1) hx hb dX2_readsText_75 rfl ?_
              refine g_cMV hX hl y_X2_faults v_X2_faults q2299 (k_X2_faults 1 P1 n hn hn4 hpP1 (by omega)) (hM.rc hX.2.2.2) hM rfl ⟨Nat.le_of_ble_eq_true rfl, Nat.le_of_ble_eq_true rfl⟩ ⟨Nat.le_refl _, Nat.le_refl _⟩ (rest := []) (st1 := []) rfl rfl (Nat.le_of_ble_eq_true rfl) dX2_readsText_76 hS (fun _ h => h) (fun H locs hM hS _ => ?_)
              obtain ⟨P_17, hP_17⟩ : ∃ z, z = q_f P1 1 := ⟨_, rfl⟩
              rw [← hP_17] at hM
              have hpP_17 : p_ok n P_17 := by rw [hP_17]; exact q_f_ok hpP1 (by decide)
              have hcP_17 : P_17.1 ≤ 3 := hpP_17.1
              have hsP_17 : P_17.2.2.2.1 ≤ P_17.2.2.1 := hpP_17.2.2.1
              have huP_17 : P_17.2.2.1 ≤ n := hpP_17.2.1
              have hl9 : r_lp (Z 8) n (r_tX (Z 8) n X P) (r_t5 (Z 8) n P) = (X1, P1) := by rw [← hr]; exact r_lp_e c_52
              have eP : r_txP (Z 8) n X P = P_17 := by unfold r_txP; rw [hl9]; first | (rw [if_pos (show q_is P1 1 = true from c_71)]; done) | (rw [if_neg (show ¬ q_is P1 1 = true from fun z => Bool.noConfusion (c_71.symm.trans z))]; first | done | (subst hP_17 hP_16 hv_15 hP_14 hv_13 hP_12 hP_11 hP_10 hP_1; rfl))
              have eX : r_txX (Z 8) n X P = X1 := by unfold r_txX; rw [hl9]
              exact hret H locs _ _ _ _ dX2_readsText_79 hS (Nat.le_refl _) (Nat.le_refl _) ⟨rfl, by rw [eP, eX]; exact hM⟩
          · skip
            refine lv_aload_n hx hb dX2_readsText_55 rfl (lv_at hl 0 rfl) ?_
            refine g_cMV hX hl y_X2_goes v_X2_goes q2276 (k_X2_goes P1 n hn hn4 (p_ok.w hpP1)) (hM.rc hX.2.2.2) hM rfl ⟨Nat.le_of_ble_eq_true rfl, Nat.le_of_ble_eq_true rfl⟩ ⟨Nat.le_refl _, Nat.le_refl _⟩ (rest := []) (st1 := []) rfl rfl (Nat.le_of_ble_eq_true rfl) dX2_readsText_56 hS (fun _ h => h) (fun H locs hM hS _ => ?_)
            obtain ⟨P_18, hP_18⟩ : ∃ z, z = q_goes (Z 8) n P1 := ⟨_, rfl⟩
            rw [← hP_18] at hM
            have hpP_18 : p_ok n P_18 := by rw [hP_18]; exact q_goes_ok hpP1
            have hcP_18 : P_18.1 ≤ 3 := hpP_18.1
            have hsP_18 : P_18.2.2.2.1 ≤ P_18.2.2.1 := hpP_18.2.2.1
            have huP_18 : P_18.2.2.1 ≤ n := hpP_18.2.1
            have hz := r_mz_lt (b := Z 8) (X := X1) hpP1 c_52
            rw [← hP_18] at hz
            refine lv_aload_n hx hb dX2_readsText_59 rfl (lv_at hl 0 rfl) ?_
            refine g_eMV hX hE hS hl y_X2_readsPart v_X2_readsPart q2315 (k_X2_readsPart P_18 n hn hn4 (by assumption) hw1.1) (hM.rc hX.2.2.2) hM rfl ⟨Nat.le_of_ble_eq_true rfl, Nat.le_of_ble_eq_true rfl⟩ ⟨Nat.le_refl _, Nat.le_refl _⟩ (rest := []) (st1 := []) rfl rfl (Nat.le_of_ble_eq_true rfl) dX2_readsText_60 (fun _ h => h) (fun H locs hM hS _ => ?_)
            refine lv_goto (tgt := 47) hx hb dX2_readsText_63 (by decide) ?_
            exact ih47 H locs (w + 50) (r_lnX (Z 8) n X1 P_18) (r_lnP (Z 8) n X1 P_18) (by subst hP_18 hP_16 hv_15 hP_14 hv_13 hP_12 hP_11 hP_10 hP_1; exact r_lnP_ok (q_goes_ok hpP1)) (by subst hP_18 hP_16 hv_15 hP_14 hv_13 hP_12 hP_11 hP_10 hP_1; exact r_lnX_wm hw1 (q_goes_ok hpP1) (by omega)) (by omega) (by subst hP_18 hP_16 hv_15 hP_14 hv_13 hP_12 hP_11 hP_10 hP_1; rw [r_lp_s hpP1 c_52]; exact hr) (by omega) hM hS ls (lv_sub hl [0] rfl)
      exact L47 (r_mz n P_16 + 1) H locs 0 (g_up2 (g_up2 X 0 0 v_13) 0 1 v_15) P_16 (hpP_16) (by rw [hX9]; exact r_tX_wm h0) (by unfold r_mz; split <;> omega) (by rw [hX9, hP9]) (Nat.lt_succ_self _) hM hS ls (lv_sub hl [0] rfl)
  exact key _ _ hM hS

theorem y_X2_load : g_Y yX2_load cX2_load 3 (some .int) 1 := ⟨q2257, by decide +kernel⟩
theorem v_X2_load : g_YV yX2_load := ⟨q2255, q2256, q140⟩
set_option maxHeartbeats 4000000 in
theorem ok_X2_load {G : g_G} {l : Launch} {ad : Nat → Nat} {F : Nat → Int32} {X Y : g_Wd} {U V : Nat → g_Wd} {Z : g_Wd} (n : Nat) (sa : Nat) (tk : Nat) (m9 : Nat) (hm9 : F 9 = nI m9) (hm4 : m9 ≤ 400) (hnm : n ≤ m9) (hsa : F 14 = nI sa) (htk : F 15 = nI tk) (hz : (r_txP (Z 8) n (x_z X 1576) (p_new sa tk)).1 = 0) : g_Me G l yX2_load cX2_load 3 (some .int) 11 0 0 [.ref (ad 0), .int (nI n)] (g_Mod G ad F X Y U V Z) (g_Qv (some (.int (r_txX (Z 8) n (x_z X 1576) (p_new sa tk) 0 3))) (g_Mod G ad (upd (upd (p_F (upd (upd (upd (upd (upd (upd F 0 0) 12 (nI n)) 13 0) 9 0) 10 0) 11 (-1)) (r_txP (Z 8) n (x_z X 1576) (p_new sa tk))) 6 1) 7 0) (r_txX (Z 8) n (x_z X 1576) (p_new sa tk)) X U V (g_up2 (g_up2 Z 5 0 0) 5 1 0))) (md_A ad) := by
  refine g_Me.ofI (by decide) (fun _ _ _ => rfl) ?_
  intro p e s m args below meth c ls Q hX hE hM hl hS hret
  have hx := hX.1.1
  have hb := hX.1.2.1
  have hl : lv_has ls 3 [(0, .ref (ad 0)), (1, .int (nI n))] := hl
  have key : ∀ (H : Heap) (locs : List Loc), g_Mod G ad F X Y U V Z H → va_S (md_A ad) s.heap H locs → W p l e (g_rm 11 0 0) s m args below meth c H locs 0 0 Q (F0 m 0 ls []) := by
    intro H locs hM hS
    have hn4 : n ≤ 400 := by omega
    have hin : s_in (nI n) 0 (F 9) = true := by rw [hm9]; exact s_in_le hnm (by omega)
    have hok9 := r_txP_ok (b := Z 8) (n := n) (X := x_z X 1576) (P := p_new sa tk) rfl (Nat.zero_le _)
    have hc9 := hok9.1
    refine lv_aload_n hx hb dX2_load_0 rfl (lv_at hl 0 rfl) ?_
    refine lv_iload_n hx hb dX2_load_1 rfl (lv_at hl 1 rfl) ?_
    refine lv_iconst (v := 0) hx hb dX2_load_2 rfl ?_
    refine lv_aload_n hx hb dX2_load_3 rfl (lv_at hl 0 rfl) ?_
    refine g_getM hX hM 9 (by decide) q2172 rfl (v := .int (F 9)) rfl dX2_load_4 ?_
    refine g_cRS hX hl y_X2_in v_X2_in q2258 (k_X2_in (nI n) 0 (F 9)) trivial rfl ⟨Nat.le_of_ble_eq_true rfl, Nat.le_of_ble_eq_true rfl⟩ ⟨Nat.zero_le _, Nat.zero_le _⟩ (rest := [.ref (ad 0)]) (st1 := [.int (g_b (s_in (nI n) 0 (F 9))), .ref (ad 0)]) rfl rfl (Nat.le_of_ble_eq_true rfl) dX2_load_7 ?_
    refine lv_iconst (v := 1) hx hb dX2_load_10 rfl ?_
    refine lv_iconst (v := 1) hx hb dX2_load_11 rfl ?_
    refine g_cMV hX hl y_X2_may v_X2_may q2261 (k_X2_may (g_b (s_in (nI n) 0 (F 9))) 1 1) (hM.rc hX.2.2.2) hM rfl ⟨Nat.le_of_ble_eq_true rfl, Nat.le_of_ble_eq_true rfl⟩ ⟨Nat.le_refl _, Nat.le_refl _⟩ (rest := []) (st1 := [.int (g_b (decide (s_may (g_b (s_in (nI n) 0 (F 9))) 1 1 = 0)))]) rfl rfl (Nat.le_of_ble_eq_true rfl) dX2_load_12 hS (fun _ h => h) (fun H locs hM hS _ => ?_)
    have hmy : s_may (g_b (s_in (nI n) 0 (F 9))) 1 1 = 0 := s_may_ok (g_b_ne hin) (by decide) (by decide)
    rw [hmy] at hM ⊢
    refine g_if_neB (tgt := 20) hx hb (b := decide ((0 : Int32) = 0)) rfl dX2_load_15 (by decide) (fun c_15 => ?_) (fun c_15 => ?_)
    rotate_left
    · exact Bool.noConfusion ((rfl : decide ((0 : Int32) = 0) = true).symm.trans c_15)
    refine lv_aload_n hx hb dX2_load_20 rfl (lv_at hl 0 rfl) ?_
    refine lv_iload_n hx hb dX2_load_21 rfl (lv_at hl 1 rfl) ?_
    refine g_putM hX hM hS 12 (by decide) q2175 rfl rfl (x := (nI n)) rfl rfl (F' := upd (upd F 0 0) 12 (nI n)) rfl dX2_load_22 (fun H locs hM hS => ?_)
    refine lv_aload_n hx hb dX2_load_25 rfl (lv_at hl 0 rfl) ?_
    refine lv_iconst (v := 0) hx hb dX2_load_26 rfl ?_
    refine g_putM hX hM hS 13 (by decide) q2176 rfl rfl (x := 0) rfl rfl (F' := upd (upd (upd F 0 0) 12 (nI n)) 13 0) rfl dX2_load_27 (fun H locs hM hS => ?_)
    refine lv_aload_n hx hb dX2_load_30 rfl (lv_at hl 0 rfl) ?_
    refine lv_iconst (v := 0) hx hb dX2_load_31 rfl ?_
    refine g_putM hX hM hS 9 (by decide) q2172 rfl rfl (x := 0) rfl rfl (F' := upd (upd (upd (upd F 0 0) 12 (nI n)) 13 0) 9 0) rfl dX2_load_32 (fun H locs hM hS => ?_)
    refine lv_aload_n hx hb dX2_load_35 rfl (lv_at hl 0 rfl) ?_
    refine lv_iconst (v := 0) hx hb dX2_load_36 rfl ?_
    refine g_putM hX hM hS 10 (by decide) q2173 rfl rfl (x := 0) rfl rfl (F' := upd (upd (upd (upd (upd F 0 0) 12 (nI n)) 13 0) 9 0) 10 0) rfl dX2_load_37 (fun H locs hM hS => ?_)
    refine lv_aload_n hx hb dX2_load_40 rfl (lv_at hl 0 rfl) ?_
    refine lv_iconst (v := (-1)) hx hb dX2_load_41 rfl ?_
    refine g_putM hX hM hS 11 (by decide) q2174 rfl rfl (x := (-1)) rfl rfl (F' := upd (upd (upd (upd (upd (upd F 0 0) 12 (nI n)) 13 0) 9 0) 10 0) 11 (-1)) rfl dX2_load_42 (fun H locs hM hS => ?_)
    refine lv_aload_n hx hb dX2_load_45 rfl (lv_at hl 0 rfl) ?_
    refine g_cMV hX hl y_X2_thinks v_X2_thinks q2265 k_X2_thinks (hM.rc hX.2.2.2) hM rfl ⟨Nat.le_of_ble_eq_true rfl, Nat.le_of_ble_eq_true rfl⟩ ⟨Nat.le_refl _, Nat.le_refl _⟩ (rest := []) (st1 := []) rfl rfl (Nat.le_of_ble_eq_true rfl) dX2_load_46 hS (fun _ h => h) (fun H locs hM hS _ => ?_)
    refine lv_iconst (v := 0) hx hb dX2_load_49 rfl ?_
    refine lv_istore_n (lv' := [(2, .int 0), (0, .ref (ad 0)), (1, .int (nI n))]) hx hb dX2_load_50 rfl hl (by decide) rfl (fun ls hl => ?_)
    have L51 : ∀ (nf : Nat) (H : Heap) (locs : List Loc) (k : Nat) (X1 : g_Wd), (k ≤ 1576) → (X1 = x_z X k) → (1576 - k < nf) → (g_Mod G ad (upd (upd (upd (upd (upd (upd F 0 0) 12 (nI n)) 13 0) 9 0) 10 0) 11 (-1)) X1 X U V Z H) → va_S (md_A ad) s.heap H locs → ∀ ls : Array Slot, lv_has ls 3 [(2, .int (nI k)), (0, .ref (ad 0)), (1, .int (nI n))] → W p l e (g_rm 11 0 0) s m args below meth c H locs 0 0 Q (F0 m 51 ls []) := by
      intro n51
      induction n51 with
      | zero => intro H locs k X1 hk hX1 hn; exact absurd hn (Nat.not_lt_zero _)
      | succ n51 ih51 =>
        intro H locs k X1 hk hX1 hn51 hM hS ls hl
        refine lv_iload_n hx hb dX2_load_51 rfl (lv_at hl 0 rfl) ?_
        refine lv_sipush (v := 1576) hx hb dX2_load_52 (by decide) ?_
        refine g_icmp_geN (tgt := 71) hx hb k 1576 rfl rfl (by omega) (by omega) dX2_load_55 (by decide) (fun c_55 => ?_) (fun c_55 => ?_)
        · skip
          obtain rfl : k = 1576 := (by omega)
          subst hX1
          have eF : upd (upd (upd (upd (upd (upd F 0 0) 12 (nI n)) 13 0) 9 0) 10 0) 11 (-1) = p_F (upd (upd (upd (upd (upd (upd F 0 0) 12 (nI n)) 13 0) 9 0) 10 0) 11 (-1)) (p_new sa tk) := by funext q; unfold p_F; split <;> first | rfl | exact hsa | exact htk
          rw [eF] at hM
          refine lv_aload_n hx hb dX2_load_71 rfl (lv_at hl 1 rfl) ?_
          refine g_eMV hX hE hS hl y_X2_readsText v_X2_readsText q2272 (k_X2_readsText (p_new sa tk) n rfl hn4 ⟨rfl, Nat.zero_le _⟩ (fun k hk => x_z_num (by omega) (by omega))) (hM.rc hX.2.2.2) hM rfl ⟨Nat.le_of_ble_eq_true rfl, Nat.le_of_ble_eq_true rfl⟩ ⟨Nat.le_refl _, Nat.le_refl _⟩ (rest := []) (st1 := []) rfl rfl (Nat.le_of_ble_eq_true rfl) dX2_load_72 (fun _ h => h) (fun H locs hM hS _ => ?_)
          refine lv_aload_n hx hb dX2_load_75 rfl (lv_at hl 1 rfl) ?_
          refine g_getM hX hM 10 (by decide) q2173 rfl (v := .int (nI ((r_txP (Z 8) n (x_z X 1576) (p_new sa tk)).1))) rfl dX2_load_76 ?_
          refine g_if_leN (tgt := 93) hx hb ((r_txP (Z 8) n (x_z X 1576) (p_new sa tk)).1) rfl (by omega) dX2_load_79 (by decide) (fun c_79 => ?_) (fun c_79 => ?_)
          rotate_left
          · exact absurd c_79 (by omega)
          refine lv_aload_n hx hb dX2_load_93 rfl (lv_at hl 1 rfl) ?_
          refine lv_iconst (v := 1) hx hb dX2_load_94 rfl ?_
          refine g_putM hX hM hS 6 (by decide) q2169 rfl rfl (x := 1) rfl rfl (F' := upd (p_F (upd (upd (upd (upd (upd (upd F 0 0) 12 (nI n)) 13 0) 9 0) 10 0) 11 (-1)) (r_txP (Z 8) n (x_z X 1576) (p_new sa tk))) 6 1) rfl dX2_load_95 (fun H locs hM hS => ?_)
          refine lv_aload_n hx hb dX2_load_98 rfl (lv_at hl 1 rfl) ?_
          refine lv_iconst (v := 0) hx hb dX2_load_99 rfl ?_
          refine g_putM hX hM hS 7 (by decide) q2170 rfl rfl (x := 0) rfl rfl (F' := upd (upd (p_F (upd (upd (upd (upd (upd (upd F 0 0) 12 (nI n)) 13 0) 9 0) 10 0) 11 (-1)) (r_txP (Z 8) n (x_z X 1576) (p_new sa tk))) 6 1) 7 0) rfl dX2_load_100 (fun H locs hM hS => ?_)
          refine lv_aload_n hx hb dX2_load_103 rfl (lv_at hl 1 rfl) ?_
          refine g_getM hX hM 5 (by decide) q2168 rfl (v := .ref (ad 5)) rfl dX2_load_104 ?_
          refine lv_iconst (v := 0) hx hb dX2_load_107 rfl ?_
          refine lv_iconst (v := 0) hx hb dX2_load_108 rfl ?_
          refine g_stZ5 hX hM hS 0 rfl (by omega) (x' := 0) (rfl) dX2_load_109 (fun H locs hM hS => ?_)
          refine lv_aload_n hx hb dX2_load_110 rfl (lv_at hl 1 rfl) ?_
          refine g_getM hX hM 5 (by decide) q2168 rfl (v := .ref (ad 5)) rfl dX2_load_111 ?_
          refine lv_iconst (v := 1) hx hb dX2_load_114 rfl ?_
          refine lv_iconst (v := 0) hx hb dX2_load_115 rfl ?_
          refine g_stZ5 hX hM hS 1 rfl (by omega) (x' := 0) (rfl) dX2_load_116 (fun H locs hM hS => ?_)
          refine lv_aload_n hx hb dX2_load_117 rfl (lv_at hl 1 rfl) ?_
          refine g_getM hX hM 1 (by decide) q2164 rfl (v := .ref (ad 1)) rfl dX2_load_118 ?_
          refine lv_iconst (v := 3) hx hb dX2_load_121 rfl ?_
          refine g_iald hX hM.a1 3 rfl (by omega) (by decide) (v := ((r_txX (Z 8) n (x_z X 1576) (p_new sa tk)) 0 3)) rfl dX2_load_122 ?_
          exact hret H locs _ _ _ _ _ dX2_load_123 hS (Nat.le_refl _) (Nat.le_refl _) (⟨rfl, hM⟩)
        · skip
          refine lv_aload_n hx hb dX2_load_58 rfl (lv_at hl 1 rfl) ?_
          refine g_getM hX hM 1 (by decide) q2164 rfl (v := .ref (ad 1)) rfl dX2_load_59 ?_
          refine lv_iload_n hx hb dX2_load_62 rfl (lv_at hl 0 rfl) ?_
          refine lv_iconst (v := 0) hx hb dX2_load_63 rfl ?_
          refine g_istX hX hM hS k rfl (by omega) (X' := x_z X (k + 1)) (x_z_s hX1) dX2_load_64 (fun H locs hM hS => ?_)
          refine lv_iinc (v := (nI (k + 1))) (lv' := [(2, .int (nI (k + 1))), (0, .ref (ad 0)), (1, .int (nI n))]) hx hb dX2_load_65 hl (k := 0) rfl (nI_1 _) (by decide) rfl (fun ls hl => ?_)
          refine lv_goto (tgt := 51) hx hb dX2_load_68 (by decide) ?_
          exact ih51 H locs (k + 1) (x_z X (k + 1)) (by omega) (rfl) (by omega) hM hS ls (lv_sub hl [0, 1, 2] rfl)
    exact L51 (1576 - 0 + 1) H locs 0 X (by omega) (x_z_0) (Nat.lt_succ_self _) hM hS ls (lv_sub hl [0, 1, 2] rfl)
  exact key _ _ hM hS

set_option maxHeartbeats 4000000 in
theorem fl_X2_load {G : g_G} {l : Launch} {ad : Nat → Nat} {F : Nat → Int32} {X Y : g_Wd} {U V : Nat → g_Wd} {Z : g_Wd} (n : Nat) (sa : Nat) (tk : Nat) (m9 : Nat) (hm9 : F 9 = nI m9) (hm4 : m9 ≤ 400) (hnm : n ≤ m9) (hsa : F 14 = nI sa) (htk : F 15 = nI tk) (hz : 0 < (r_txP (Z 8) n (x_z X 1576) (p_new sa tk)).1) : g_Me G l yX2_load cX2_load 3 (some .int) 11 0 0 [.ref (ad 0), .int (nI n)] (g_Mod G ad F X Y U V Z) (g_Qv (some (.int 0)) (g_Mod G ad (upd (p_F (upd (upd (upd (upd (upd (upd F 0 0) 12 (nI n)) 13 0) 9 0) 10 0) 11 (-1)) (r_txP (Z 8) n (x_z X 1576) (p_new sa tk))) 0 2) X X U V Z)) (md_A ad) := by
  refine g_Me.ofI (by decide) (fun _ _ _ => rfl) ?_
  intro p e s m args below meth c ls Q hX hE hM hl hS hret
  have hx := hX.1.1
  have hb := hX.1.2.1
  have hl : lv_has ls 3 [(0, .ref (ad 0)), (1, .int (nI n))] := hl
  have key : ∀ (H : Heap) (locs : List Loc), g_Mod G ad F X Y U V Z H → va_S (md_A ad) s.heap H locs → W p l e (g_rm 11 0 0) s m args below meth c H locs 0 0 Q (F0 m 0 ls []) := by
    intro H locs hM hS
    have hn4 : n ≤ 400 := by omega
    have hin : s_in (nI n) 0 (F 9) = true := by rw [hm9]; exact s_in_le hnm (by omega)
    have hok9 := r_txP_ok (b := Z 8) (n := n) (X := x_z X 1576) (P := p_new sa tk) rfl (Nat.zero_le _)
    have hc9 := hok9.1
    refine lv_aload_n hx hb dX2_load_0 rfl (lv_at hl 0 rfl) ?_
    refine lv_iload_n hx hb dX2_load_1 rfl (lv_at hl 1 rfl) ?_
    refine lv_iconst (v := 0) hx hb dX2_load_2 rfl ?_
    refine lv_aload_n hx hb dX2_load_3 rfl (lv_at hl 0 rfl) ?_
    refine g_getM hX hM 9 (by decide) q2172 rfl (v := .int (F 9)) rfl dX2_load_4 ?_
    refine g_cRS hX hl y_X2_in v_X2_in q2258 (k_X2_in (nI n) 0 (F 9)) trivial rfl ⟨Nat.le_of_ble_eq_true rfl, Nat.le_of_ble_eq_true rfl⟩ ⟨Nat.zero_le _, Nat.zero_le _⟩ (rest := [.ref (ad 0)]) (st1 := [.int (g_b (s_in (nI n) 0 (F 9))), .ref (ad 0)]) rfl rfl (Nat.le_of_ble_eq_true rfl) dX2_load_7 ?_
    refine lv_iconst (v := 1) hx hb dX2_load_10 rfl ?_
    refine lv_iconst (v := 1) hx hb dX2_load_11 rfl ?_
    refine g_cMV hX hl y_X2_may v_X2_may q2261 (k_X2_may (g_b (s_in (nI n) 0 (F 9))) 1 1) (hM.rc hX.2.2.2) hM rfl ⟨Nat.le_of_ble_eq_true rfl, Nat.le_of_ble_eq_true rfl⟩ ⟨Nat.le_refl _, Nat.le_refl _⟩ (rest := []) (st1 := [.int (g_b (decide (s_may (g_b (s_in (nI n) 0 (F 9))) 1 1 = 0)))]) rfl rfl (Nat.le_of_ble_eq_true rfl) dX2_load_12 hS (fun _ h => h) (fun H locs hM hS _ => ?_)
    have hmy : s_may (g_b (s_in (nI n) 0 (F 9))) 1 1 = 0 := s_may_ok (g_b_ne hin) (by decide) (by decide)
    rw [hmy] at hM ⊢
    refine g_if_neB (tgt := 20) hx hb (b := decide ((0 : Int32) = 0)) rfl dX2_load_15 (by decide) (fun c_15 => ?_) (fun c_15 => ?_)
    rotate_left
    · exact Bool.noConfusion ((rfl : decide ((0 : Int32) = 0) = true).symm.trans c_15)
    refine lv_aload_n hx hb dX2_load_20 rfl (lv_at hl 0 rfl) ?_
    refine lv_iload_n hx hb dX2_load_21 rfl (lv_at hl 1 rfl) ?_
    refine g_putM hX hM hS 12 (by decide) q2175 rfl rfl (x := (nI n)) rfl rfl (F' := upd (upd F 0 0) 12 (nI n)) rfl dX2_load_22 (fun H locs hM hS => ?_)
    refine lv_aload_n hx hb dX2_load_25 rfl (lv_at hl 0 rfl) ?_
    refine lv_iconst (v := 0) hx hb dX2_load_26 rfl ?_
    refine g_putM hX hM hS 13 (by decide) q2176 rfl rfl (x := 0) rfl rfl (F' := upd (upd (upd F 0 0) 12 (nI n)) 13 0) rfl dX2_load_27 (fun H locs hM hS => ?_)
    refine lv_aload_n hx hb dX2_load_30 rfl (lv_at hl 0 rfl) ?_
    refine lv_iconst (v := 0) hx hb dX2_load_31 rfl ?_
    refine g_putM hX hM hS 9 (by decide) q2172 rfl rfl (x := 0) rfl rfl (F' := upd (upd (upd (upd F 0 0) 12 (nI n)) 13 0) 9 0) rfl dX2_load_32 (fun H locs hM hS => ?_)
    refine lv_aload_n hx hb dX2_load_35 rfl (lv_at hl 0 rfl) ?_
    refine lv_iconst (v := 0) hx hb dX2_load_36 rfl ?_
    refine g_putM hX hM hS 10 (by decide) q2173 rfl rfl (x := 0) rfl rfl (F' := upd (upd (upd (upd (upd F 0 0) 12 (nI n)) 13 0) 9 0) 10 0) rfl dX2_load_37 (fun H locs hM hS => ?_)
    refine lv_aload_n hx hb dX2_load_40 rfl (lv_at hl 0 rfl) ?_
    refine lv_iconst (v := (-1)) hx hb dX2_load_41 rfl ?_
    refine g_putM hX hM hS 11 (by decide) q2174 rfl rfl (x := (-1)) rfl rfl (F' := upd (upd (upd (upd (upd (upd F 0 0) 12 (nI n)) 13 0) 9 0) 10 0) 11 (-1)) rfl dX2_load_42 (fun H locs hM hS => ?_)
    refine lv_aload_n hx hb dX2_load_45 rfl (lv_at hl 0 rfl) ?_
    refine g_cMV hX hl y_X2_thinks v_X2_thinks q2265 k_X2_thinks (hM.rc hX.2.2.2) hM rfl ⟨Nat.le_of_ble_eq_true rfl, Nat.le_of_ble_eq_true rfl⟩ ⟨Nat.le_refl _, Nat.le_refl _⟩ (rest := []) (st1 := []) rfl rfl (Nat.le_of_ble_eq_true rfl) dX2_load_46 hS (fun _ h => h) (fun H locs hM hS _ => ?_)
    refine lv_iconst (v := 0) hx hb dX2_load_49 rfl ?_
    refine lv_istore_n (lv' := [(2, .int 0), (0, .ref (ad 0)), (1, .int (nI n))]) hx hb dX2_load_50 rfl hl (by decide) rfl (fun ls hl => ?_)
    have L51 : ∀ (nf : Nat) (H : Heap) (locs : List Loc) (k : Nat) (X1 : g_Wd), (k ≤ 1576) → (X1 = x_z X k) → (1576 - k < nf) → (g_Mod G ad (upd (upd (upd (upd (upd (upd F 0 0) 12 (nI n)) 13 0) 9 0) 10 0) 11 (-1)) X1 X U V Z H) → va_S (md_A ad) s.heap H locs → ∀ ls : Array Slot, lv_has ls 3 [(2, .int (nI k)), (0, .ref (ad 0)), (1, .int (nI n))] → W p l e (g_rm 11 0 0) s m args below meth c H locs 0 0 Q (F0 m 51 ls []) := by
      intro n51
      induction n51 with
      | zero => intro H locs k X1 hk hX1 hn; exact absurd hn (Nat.not_lt_zero _)
      | succ n51 ih51 =>
        intro H locs k X1 hk hX1 hn51 hM hS ls hl
        refine lv_iload_n hx hb dX2_load_51 rfl (lv_at hl 0 rfl) ?_
        refine lv_sipush (v := 1576) hx hb dX2_load_52 (by decide) ?_
        refine g_icmp_geN (tgt := 71) hx hb k 1576 rfl rfl (by omega) (by omega) dX2_load_55 (by decide) (fun c_55 => ?_) (fun c_55 => ?_)
        · skip
          obtain rfl : k = 1576 := (by omega)
          subst hX1
          have eF : upd (upd (upd (upd (upd (upd F 0 0) 12 (nI n)) 13 0) 9 0) 10 0) 11 (-1) = p_F (upd (upd (upd (upd (upd (upd F 0 0) 12 (nI n)) 13 0) 9 0) 10 0) 11 (-1)) (p_new sa tk) := by funext q; unfold p_F; split <;> first | rfl | exact hsa | exact htk
          rw [eF] at hM
          refine lv_aload_n hx hb dX2_load_71 rfl (lv_at hl 1 rfl) ?_
          refine g_eMV hX hE hS hl y_X2_readsText v_X2_readsText q2272 (k_X2_readsText (p_new sa tk) n rfl hn4 ⟨rfl, Nat.zero_le _⟩ (fun k hk => x_z_num (by omega) (by omega))) (hM.rc hX.2.2.2) hM rfl ⟨Nat.le_of_ble_eq_true rfl, Nat.le_of_ble_eq_true rfl⟩ ⟨Nat.le_refl _, Nat.le_refl _⟩ (rest := []) (st1 := []) rfl rfl (Nat.le_of_ble_eq_true rfl) dX2_load_72 (fun _ h => h) (fun H locs hM hS _ => ?_)
          refine lv_aload_n hx hb dX2_load_75 rfl (lv_at hl 1 rfl) ?_
          refine g_getM hX hM 10 (by decide) q2173 rfl (v := .int (nI ((r_txP (Z 8) n (x_z X 1576) (p_new sa tk)).1))) rfl dX2_load_76 ?_
          refine g_if_leN (tgt := 93) hx hb ((r_txP (Z 8) n (x_z X 1576) (p_new sa tk)).1) rfl (by omega) dX2_load_79 (by decide) (fun c_79 => ?_) (fun c_79 => ?_)
          · exact absurd c_79 (by omega)
          skip
          refine lv_aload_n hx hb dX2_load_82 rfl (lv_at hl 1 rfl) ?_
          refine lv_iconst (v := 2) hx hb dX2_load_83 rfl ?_
          refine g_putM hX hM hS 0 (by decide) q2163 rfl rfl (x := 2) rfl rfl (F' := upd (p_F (upd (upd (upd (upd (upd (upd F 0 0) 12 (nI n)) 13 0) 9 0) 10 0) 11 (-1)) (r_txP (Z 8) n (x_z X 1576) (p_new sa tk))) 0 2) rfl dX2_load_84 (fun H locs hM hS => ?_)
          refine lv_aload_n hx hb dX2_load_87 rfl (lv_at hl 1 rfl) ?_
          refine lv_iconst (v := 0) hx hb dX2_load_88 rfl ?_
          refine g_cMV hX hl y_X2_back v_X2_back q2493 (k_X2_back 0) (hM.rc hX.2.2.2) hM rfl ⟨Nat.le_of_ble_eq_true rfl, Nat.le_of_ble_eq_true rfl⟩ ⟨Nat.le_refl _, Nat.le_refl _⟩ (rest := []) (st1 := [.int 0]) rfl rfl (Nat.le_of_ble_eq_true rfl) dX2_load_89 hS (fun _ h => h) (fun H locs hM hS _ => ?_)
          exact hret H locs _ _ _ _ _ dX2_load_92 hS (Nat.le_refl _) (Nat.le_refl _) (⟨rfl, hM⟩)
        · skip
          refine lv_aload_n hx hb dX2_load_58 rfl (lv_at hl 1 rfl) ?_
          refine g_getM hX hM 1 (by decide) q2164 rfl (v := .ref (ad 1)) rfl dX2_load_59 ?_
          refine lv_iload_n hx hb dX2_load_62 rfl (lv_at hl 0 rfl) ?_
          refine lv_iconst (v := 0) hx hb dX2_load_63 rfl ?_
          refine g_istX hX hM hS k rfl (by omega) (X' := x_z X (k + 1)) (x_z_s hX1) dX2_load_64 (fun H locs hM hS => ?_)
          refine lv_iinc (v := (nI (k + 1))) (lv' := [(2, .int (nI (k + 1))), (0, .ref (ad 0)), (1, .int (nI n))]) hx hb dX2_load_65 hl (k := 0) rfl (nI_1 _) (by decide) rfl (fun ls hl => ?_)
          refine lv_goto (tgt := 51) hx hb dX2_load_68 (by decide) ?_
          exact ih51 H locs (k + 1) (x_z X (k + 1)) (by omega) (rfl) (by omega) hM hS ls (lv_sub hl [0, 1, 2] rfl)
    exact L51 (1576 - 0 + 1) H locs 0 X (by omega) (x_z_0) (Nat.lt_succ_self _) hM hS ls (lv_sub hl [0, 1, 2] rfl)
  exact key _ _ hM hS

set_option maxHeartbeats 4000000 in
theorem no_X2_load {G : g_G} {l : Launch} {ad : Nat → Nat} {F : Nat → Int32} {X Y : g_Wd} {U V : Nat → g_Wd} {Z : g_Wd} (t9 : Int32) (n : Int32) (ht9 : ¬ t9 = 0) (hbad : s_may (g_b (s_in n 0 (F 9))) 1 1 = t9) : g_Me G l yX2_load cX2_load 3 (some .int) 1 0 0 [.ref (ad 0), .int n] (g_Mod G ad F X Y U V Z) (g_Qv (some (.int 0)) (g_Mod G ad (upd F 0 t9) X Y U V Z)) (md_A ad) := by
  refine g_Me.ofI (by decide) (fun _ _ _ => rfl) ?_
  intro p e s m args below meth c ls Q hX hE hM hl hS hret
  have hx := hX.1.1
  have hb := hX.1.2.1
  have hl : lv_has ls 3 [(0, .ref (ad 0)), (1, .int n)] := hl
  have key : ∀ (H : Heap) (locs : List Loc), g_Mod G ad F X Y U V Z H → va_S (md_A ad) s.heap H locs → W p l e (g_rm 1 0 0) s m args below meth c H locs 0 0 Q (F0 m 0 ls []) := by
    intro H locs hM hS
    refine lv_aload_n hx hb dX2_load_0 rfl (lv_at hl 0 rfl) ?_
    refine lv_iload_n hx hb dX2_load_1 rfl (lv_at hl 1 rfl) ?_
    refine lv_iconst (v := 0) hx hb dX2_load_2 rfl ?_
    refine lv_aload_n hx hb dX2_load_3 rfl (lv_at hl 0 rfl) ?_
    refine g_getM hX hM 9 (by decide) q2172 rfl (v := .int (F 9)) rfl dX2_load_4 ?_
    refine g_cRS hX hl y_X2_in v_X2_in q2258 (k_X2_in n 0 (F 9)) trivial rfl ⟨Nat.le_of_ble_eq_true rfl, Nat.le_of_ble_eq_true rfl⟩ ⟨Nat.zero_le _, Nat.zero_le _⟩ (rest := [.ref (ad 0)]) (st1 := [.int (g_b (s_in n 0 (F 9))), .ref (ad 0)]) rfl rfl (Nat.le_of_ble_eq_true rfl) dX2_load_7 ?_
    refine lv_iconst (v := 1) hx hb dX2_load_10 rfl ?_
    refine lv_iconst (v := 1) hx hb dX2_load_11 rfl ?_
    refine g_cMV hX hl y_X2_may v_X2_may q2261 (k_X2_may (g_b (s_in n 0 (F 9))) 1 1) (hM.rc hX.2.2.2) hM rfl ⟨Nat.le_of_ble_eq_true rfl, Nat.le_of_ble_eq_true rfl⟩ ⟨Nat.le_refl _, Nat.le_refl _⟩ (rest := []) (st1 := [.int (g_b (decide (s_may (g_b (s_in n 0 (F 9))) 1 1 = 0)))]) rfl rfl (Nat.le_of_ble_eq_true rfl) dX2_load_12 hS (fun _ h => h) (fun H locs hM hS _ => ?_)
    have hmy : s_may (g_b (s_in n 0 (F 9))) 1 1 = t9 := by first | exact hbad | (rw [← hbad]; simp [g_b, g_b]; done) | (rw [← hbad]; simp only [g_b, g_b]; rfl) | (rw [← hbad]; grind [g_b])
    rw [hmy] at hM ⊢
    refine g_if_neB (tgt := 20) hx hb (b := decide (t9 = 0)) rfl dX2_load_15 (by decide) (fun c_15 => ?_) (fun c_15 => ?_)
    · exact Bool.noConfusion ((decide_eq_false ht9).symm.trans c_15)
    skip
    refine lv_iconst (v := 0) hx hb dX2_load_18 rfl ?_
    exact hret H locs _ _ _ _ _ dX2_load_19 hS (Nat.le_refl _) (Nat.le_refl _) (⟨rfl, hM⟩)
  exact key _ _ hM hS
