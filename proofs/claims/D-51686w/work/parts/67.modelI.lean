/-! THE MODEL: what reads a text -/
set_option maxRecDepth 100000
theorem y_X2_isLetter : g_Y yX2_isLetter cX2_isLetter 2 (some .boolean) 1 := ⟨q2283, by decide +kernel⟩
theorem v_X2_isLetter : g_YV yX2_isLetter := ⟨q2282, qs44, q140⟩
set_option maxHeartbeats 4000000 in
theorem k_X2_isLetter {G : g_G} {l : Launch} {ad : Nat → Nat} {F : Nat → Int32} {X Y : g_Wd} {U V : Nat → g_Wd} {Z : g_Wd} (k : Nat) (n : Nat) (hn : F 12 = nI n) (hn4 : n ≤ 400) (hk : k ≤ n) : g_Rd G l yX2_isLetter cX2_isLetter 2 (some .boolean) 1 [.ref (ad 0), .int (nI k)] (g_Mod G ad F X Y U V Z) (some (.int (g_b (decide (k < n) && q_let (Z 8) k)))) := by
  refine g_Rd.ofI (by decide) (by cases (decide (k < n) && q_let (Z 8) k) <;> rfl) ?_
  intro p e s m args below meth c ls Q hX hM hl hret
  have hx := hX.1.1
  have hb := hX.1.2.1
  have hl : lv_has ls 2 [(0, .ref (ad 0)), (1, .int (nI k))] := hl
  refine lv_iload_n hx hb dX2_isLetter_0 rfl (lv_at hl 1 rfl) ?_
  refine lv_aload_n hx hb dX2_isLetter_1 rfl (lv_at hl 0 rfl) ?_
  refine g_getM hX hM 12 (by decide) q2175 rfl (v := .int (F 12)) rfl dX2_isLetter_2 ?_
  refine g_icmp_geN (tgt := 28) hx hb k n rfl hn (by omega) (by omega) dX2_isLetter_5 (by decide) (fun c_5 => ?_) (fun c_5 => ?_)
  · skip
    refine lv_iconst (v := 0) hx hb dX2_isLetter_28 rfl ?_
    exact hret _ _ _ dX2_isLetter_29 (by grind [g_b, q_let])
  · skip
    refine lv_aload_n hx hb dX2_isLetter_8 rfl (lv_at hl 0 rfl) ?_
    refine g_getM hX hM 8 (by decide) q2171 rfl (v := .ref (ad 8)) rfl dX2_isLetter_9 ?_
    refine lv_iload_n hx hb dX2_isLetter_12 rfl (lv_at hl 1 rfl) ?_
    refine g_bald hX hM.a8 k rfl (by omega) (by decide) (v := (Z 8 k)) rfl dX2_isLetter_13 ?_
    refine lv_bipush (v := 97) hx hb dX2_isLetter_14 (by decide) ?_
    refine lv_bipush (v := 122) hx hb dX2_isLetter_16 (by decide) ?_
    refine g_cRS hX hl y_X2_in v_X2_in q2258 (k_X2_in (Z 8 k) 97 122) trivial rfl ⟨Nat.le_of_ble_eq_true rfl, Nat.le_of_ble_eq_true rfl⟩ ⟨Nat.zero_le _, Nat.zero_le _⟩ (rest := []) (st1 := [.int (g_b (s_in (Z 8 k) 97 122))]) rfl rfl (Nat.le_of_ble_eq_true rfl) dX2_isLetter_18 ?_
    refine g_if_eqB (tgt := 28) hx hb (b := s_in (Z 8 k) 97 122) rfl dX2_isLetter_21 (by decide) (fun c_21 => ?_) (fun c_21 => ?_)
    · skip
      refine lv_iconst (v := 0) hx hb dX2_isLetter_28 rfl ?_
      exact hret _ _ _ dX2_isLetter_29 (by grind [g_b, q_let])
    · skip
      refine lv_iconst (v := 1) hx hb dX2_isLetter_24 rfl ?_
      refine lv_goto (tgt := 29) hx hb dX2_isLetter_25 (by decide) ?_
      exact hret _ _ _ dX2_isLetter_29 (by grind [g_b, q_let])

theorem y_X2_isDigit : g_Y yX2_isDigit cX2_isDigit 2 (some .boolean) 1 := ⟨q2287, by decide +kernel⟩
theorem v_X2_isDigit : g_YV yX2_isDigit := ⟨q2286, qs45, q140⟩
set_option maxHeartbeats 4000000 in
theorem k_X2_isDigit {G : g_G} {l : Launch} {ad : Nat → Nat} {F : Nat → Int32} {X Y : g_Wd} {U V : Nat → g_Wd} {Z : g_Wd} (k : Nat) (n : Nat) (hn : F 12 = nI n) (hn4 : n ≤ 400) (hk : k ≤ n) : g_Rd G l yX2_isDigit cX2_isDigit 2 (some .boolean) 1 [.ref (ad 0), .int (nI k)] (g_Mod G ad F X Y U V Z) (some (.int (g_b (decide (k < n) && q_dgt (Z 8) k)))) := by
  refine g_Rd.ofI (by decide) (by cases (decide (k < n) && q_dgt (Z 8) k) <;> rfl) ?_
  intro p e s m args below meth c ls Q hX hM hl hret
  have hx := hX.1.1
  have hb := hX.1.2.1
  have hl : lv_has ls 2 [(0, .ref (ad 0)), (1, .int (nI k))] := hl
  refine lv_iload_n hx hb dX2_isDigit_0 rfl (lv_at hl 1 rfl) ?_
  refine lv_aload_n hx hb dX2_isDigit_1 rfl (lv_at hl 0 rfl) ?_
  refine g_getM hX hM 12 (by decide) q2175 rfl (v := .int (F 12)) rfl dX2_isDigit_2 ?_
  refine g_icmp_geN (tgt := 28) hx hb k n rfl hn (by omega) (by omega) dX2_isDigit_5 (by decide) (fun c_5 => ?_) (fun c_5 => ?_)
  · skip
    refine lv_iconst (v := 0) hx hb dX2_isDigit_28 rfl ?_
    exact hret _ _ _ dX2_isDigit_29 (by grind [g_b, q_dgt])
  · skip
    refine lv_aload_n hx hb dX2_isDigit_8 rfl (lv_at hl 0 rfl) ?_
    refine g_getM hX hM 8 (by decide) q2171 rfl (v := .ref (ad 8)) rfl dX2_isDigit_9 ?_
    refine lv_iload_n hx hb dX2_isDigit_12 rfl (lv_at hl 1 rfl) ?_
    refine g_bald hX hM.a8 k rfl (by omega) (by decide) (v := (Z 8 k)) rfl dX2_isDigit_13 ?_
    refine lv_bipush (v := 48) hx hb dX2_isDigit_14 (by decide) ?_
    refine lv_bipush (v := 57) hx hb dX2_isDigit_16 (by decide) ?_
    refine g_cRS hX hl y_X2_in v_X2_in q2258 (k_X2_in (Z 8 k) 48 57) trivial rfl ⟨Nat.le_of_ble_eq_true rfl, Nat.le_of_ble_eq_true rfl⟩ ⟨Nat.zero_le _, Nat.zero_le _⟩ (rest := []) (st1 := [.int (g_b (s_in (Z 8 k) 48 57))]) rfl rfl (Nat.le_of_ble_eq_true rfl) dX2_isDigit_18 ?_
    refine g_if_eqB (tgt := 28) hx hb (b := s_in (Z 8 k) 48 57) rfl dX2_isDigit_21 (by decide) (fun c_21 => ?_) (fun c_21 => ?_)
    · skip
      refine lv_iconst (v := 0) hx hb dX2_isDigit_28 rfl ?_
      exact hret _ _ _ dX2_isDigit_29 (by grind [g_b, q_dgt])
    · skip
      refine lv_iconst (v := 1) hx hb dX2_isDigit_24 rfl ?_
      refine lv_goto (tgt := 29) hx hb dX2_isDigit_25 (by decide) ?_
      exact hret _ _ _ dX2_isDigit_29 (by grind [g_b, q_dgt])

theorem y_X2_faults : g_Y yX2_faults cX2_faults 2 none 1 := ⟨q2302, by decide +kernel⟩
theorem v_X2_faults : g_YV yX2_faults := ⟨q2301, qs48, q140⟩
set_option maxHeartbeats 4000000 in
theorem k_X2_faults {G : g_G} {l : Launch} {ad : Nat → Nat} {F : Nat → Int32} {X Y : g_Wd} {U V : Nat → g_Wd} {Z : g_Wd} (c0 : Nat) (P : g_P) (n : Nat) (hn : F 12 = nI n) (hn4 : n ≤ 400) (hp : p_ok n P) (hc : c0 ≤ 3) : g_Md G l yX2_faults cX2_faults 2 none 0 0 0 [.ref (ad 0), .int (nI c0)] (g_Mod G ad (p_F F P) X Y U V Z) (g_Qv none (g_Mod G ad (p_F F (q_f P c0)) X Y U V Z)) (md_A ad) := by
  refine g_Md.ofV (by decide) ?_
  intro p e s m args below meth c ls Q hX hM hl hS hret
  have hx := hX.1.1
  have hb := hX.1.2.1
  have hl : lv_has ls 2 [(0, .ref (ad 0)), (1, .int (nI c0))] := hl
  have key : ∀ (H : Heap) (locs : List Loc), g_Mod G ad (p_F F P) X Y U V Z H → va_S (md_A ad) s.heap H locs → W p l e (g_rm 0 0 0) s m args below meth c H locs 0 0 Q (F0 m 0 ls []) := by
    intro H locs hM hS
    have hpc : P.1 ≤ 3 := hp.1
    have hpu : P.2.2.1 ≤ n := hp.2.1
    have hps : P.2.2.2.1 ≤ P.2.2.1 := hp.2.2.1
    have hpt : P.2.2.2.2 ≤ 4 := hp.2.2.2.1
    refine lv_aload_n hx hb dX2_faults_0 rfl (lv_at hl 0 rfl) ?_
    refine g_getM hX hM 10 (by decide) q2173 rfl (v := .int (nI P.1)) rfl dX2_faults_1 ?_
    refine g_if_leN (tgt := 8) hx hb P.1 rfl (by omega) dX2_faults_4 (by decide) (fun c_4 => ?_) (fun c_4 => ?_)
    · skip
      refine lv_aload_n hx hb dX2_faults_8 rfl (lv_at hl 0 rfl) ?_
      refine lv_iload_n hx hb dX2_faults_9 rfl (lv_at hl 1 rfl) ?_
      refine g_putM hX hM hS 10 (by decide) q2173 rfl rfl (x := (nI c0)) rfl rfl (F' := p_F F (c0, P.2.1, P.2.2.1, P.2.2.2.1, P.2.2.2.2)) rfl dX2_faults_10 (fun H locs hM hS => ?_)
      refine lv_aload_n hx hb dX2_faults_13 rfl (lv_at hl 0 rfl) ?_
      refine lv_aload_n hx hb dX2_faults_14 rfl (lv_at hl 0 rfl) ?_
      refine g_getM hX hM 14 (by decide) q2177 rfl (v := .int (nI P.2.2.2.1)) rfl dX2_faults_15 ?_
      refine g_putM hX hM hS 11 (by decide) q2174 rfl rfl (x := (nI P.2.2.2.1)) rfl rfl (F' := p_F F (c0, (nI P.2.2.2.1), P.2.2.1, P.2.2.2.1, P.2.2.2.2)) rfl dX2_faults_18 (fun H locs hM hS => ?_)
      have eP : q_f P c0 = (c0, (nI P.2.2.2.1), P.2.2.1, P.2.2.2.1, P.2.2.2.2) := by first | exact q_f_1 (by omega) | (unfold q_f; rw [if_neg (by omega)])
      rw [← eP] at hM
      exact hret H locs _ _ _ _ dX2_faults_21 hS (Nat.le_refl _) (Nat.le_refl _) (⟨rfl, hM⟩)
    · skip
      have eP : q_f P c0 = P := by first | exact q_f_1 (by omega) | (unfold q_f; rw [if_neg (by omega)])
      rw [← eP] at hM
      exact hret H locs _ _ _ _ dX2_faults_7 hS (Nat.le_refl _) (Nat.le_refl _) (⟨rfl, hM⟩)
  exact key _ _ hM hS

theorem y_X2_is : g_Y yX2_is cX2_is 2 (some .boolean) 1 := ⟨q2296, by decide +kernel⟩
theorem v_X2_is : g_YV yX2_is := ⟨q2295, qs47, q140⟩
set_option maxHeartbeats 4000000 in
theorem k_X2_is {G : g_G} {l : Launch} {ad : Nat → Nat} {F : Nat → Int32} {X Y : g_Wd} {U V : Nat → g_Wd} {Z : g_Wd} (t : Nat) (P : g_P) (n : Nat) (hn : F 12 = nI n) (hn4 : n ≤ 400) (hp : p_ok n P) (ht : t ≤ 4) : g_Rd G l yX2_is cX2_is 2 (some .boolean) 0 [.ref (ad 0), .int (nI t)] (g_Mod G ad (p_F F P) X Y U V Z) (some (.int (g_b (q_is P t)))) := by
  refine g_Rd.ofI (by decide) (by cases (q_is P t) <;> rfl) ?_
  intro p e s m args below meth c ls Q hX hM hl hret
  have hx := hX.1.1
  have hb := hX.1.2.1
  have hl : lv_has ls 2 [(0, .ref (ad 0)), (1, .int (nI t))] := hl
  have hpc : P.1 ≤ 3 := hp.1
  have hpu : P.2.2.1 ≤ n := hp.2.1
  have hps : P.2.2.2.1 ≤ P.2.2.1 := hp.2.2.1
  have hpt : P.2.2.2.2 ≤ 4 := hp.2.2.2.1
  refine lv_aload_n hx hb dX2_is_0 rfl (lv_at hl 0 rfl) ?_
  refine g_getM hX hM 10 (by decide) q2173 rfl (v := .int (nI P.1)) rfl dX2_is_1 ?_
  refine g_if_neN (tgt := 19) hx hb P.1 rfl (by omega) dX2_is_4 (by decide) (fun c_4 => ?_) (fun c_4 => ?_)
  · skip
    refine lv_iconst (v := 0) hx hb dX2_is_19 rfl ?_
    exact hret _ _ _ dX2_is_20 (by grind [g_b, q_is])
  · skip
    refine lv_aload_n hx hb dX2_is_7 rfl (lv_at hl 0 rfl) ?_
    refine g_getM hX hM 15 (by decide) q2178 rfl (v := .int (nI P.2.2.2.2)) rfl dX2_is_8 ?_
    refine lv_iload_n hx hb dX2_is_11 rfl (lv_at hl 1 rfl) ?_
    refine g_icmp_neN (tgt := 19) hx hb P.2.2.2.2 t rfl rfl (by omega) (by omega) dX2_is_12 (by decide) (fun c_12 => ?_) (fun c_12 => ?_)
    · skip
      refine lv_iconst (v := 0) hx hb dX2_is_19 rfl ?_
      exact hret _ _ _ dX2_is_20 (by grind [g_b, q_is])
    · skip
      refine lv_iconst (v := 1) hx hb dX2_is_15 rfl ?_
      refine lv_goto (tgt := 20) hx hb dX2_is_16 (by decide) ?_
      exact hret _ _ _ dX2_is_20 (by grind [g_b, q_is])

theorem y_X2_toldHere : g_Y yX2_toldHere cX2_toldHere 2 (some .int) 0 := ⟨q2314, by decide +kernel⟩
theorem v_X2_toldHere : g_YV yX2_toldHere := ⟨q2313, qs51, q140⟩
set_option maxHeartbeats 4000000 in
theorem k_X2_toldHere {G : g_G} {l : Launch} {ad : Nat → Nat} {F : Nat → Int32} {X Y : g_Wd} {U V : Nat → g_Wd} {Z : g_Wd}  (P : g_P) (n : Nat) (hn : F 12 = nI n) (hn4 : n ≤ 400) (hp : p_ok n P) (hlt : P.2.2.2.1 < P.2.2.1) : g_Rd G l yX2_toldHere cX2_toldHere 2 (some .int) 0 [.ref (ad 0)] (g_Mod G ad (p_F F P) X Y U V Z) (some (.int (q_told (Z 8) P))) := by
  refine g_Rd.ofI (by decide) rfl ?_
  intro p e s m args below meth c ls Q hX hM hl hret
  have hx := hX.1.1
  have hb := hX.1.2.1
  have hl : lv_has ls 2 [(0, .ref (ad 0))] := hl
  have hpc : P.1 ≤ 3 := hp.1
  have hpu : P.2.2.1 ≤ n := hp.2.1
  have hps : P.2.2.2.1 ≤ P.2.2.1 := hp.2.2.1
  have hpt : P.2.2.2.2 ≤ 4 := hp.2.2.2.1
  refine lv_aload_n hx hb dX2_toldHere_0 rfl (lv_at hl 0 rfl) ?_
  refine g_getM hX hM 8 (by decide) q2171 rfl (v := .ref (ad 8)) rfl dX2_toldHere_1 ?_
  refine lv_aload_n hx hb dX2_toldHere_4 rfl (lv_at hl 0 rfl) ?_
  refine g_getM hX hM 14 (by decide) q2177 rfl (v := .int (nI P.2.2.2.1)) rfl dX2_toldHere_5 ?_
  refine g_bald hX hM.a8 P.2.2.2.1 rfl (by omega) (by decide) (v := (Z 8 P.2.2.2.1)) rfl dX2_toldHere_8 ?_
  refine lv_bipush (v := 48) hx hb dX2_toldHere_9 (by decide) ?_
  refine lv_isub hx hb dX2_toldHere_11 ?_
  refine lv_istore_n (lv' := [(1, .int ((Z 8 P.2.2.2.1) - 48)), (0, .ref (ad 0))]) hx hb dX2_toldHere_12 rfl hl (by decide) rfl (fun ls hl => ?_)
  refine lv_aload_n hx hb dX2_toldHere_13 rfl (lv_at hl 1 rfl) ?_
  refine g_getM hX hM 13 (by decide) q2176 rfl (v := .int (nI P.2.2.1)) rfl dX2_toldHere_14 ?_
  refine lv_aload_n hx hb dX2_toldHere_17 rfl (lv_at hl 1 rfl) ?_
  refine g_getM hX hM 14 (by decide) q2177 rfl (v := .int (nI P.2.2.2.1)) rfl dX2_toldHere_18 ?_
  refine g_isubN hx hb P.2.2.1 P.2.2.2.1 rfl rfl (by omega) dX2_toldHere_21 ?_
  refine lv_iconst (v := 2) hx hb dX2_toldHere_22 rfl ?_
  refine g_icmp_neN (tgt := 48) hx hb (P.2.2.1 - P.2.2.2.1) 2 rfl rfl (by omega) (by omega) dX2_toldHere_23 (by decide) (fun c_23 => ?_) (fun c_23 => ?_)
  · skip
    refine lv_iload_n hx hb dX2_toldHere_48 rfl (lv_at hl 0 rfl) ?_
    exact hret _ _ _ dX2_toldHere_49 (by unfold q_told; simp only [*, if_true, if_false]; try rfl)
  · skip
    refine lv_bipush (v := 10) hx hb dX2_toldHere_26 (by decide) ?_
    refine lv_iload_n hx hb dX2_toldHere_28 rfl (lv_at hl 0 rfl) ?_
    refine lv_imul hx hb dX2_toldHere_29 ?_
    refine lv_aload_n hx hb dX2_toldHere_30 rfl (lv_at hl 1 rfl) ?_
    refine g_getM hX hM 8 (by decide) q2171 rfl (v := .ref (ad 8)) rfl dX2_toldHere_31 ?_
    refine lv_aload_n hx hb dX2_toldHere_34 rfl (lv_at hl 1 rfl) ?_
    refine g_getM hX hM 14 (by decide) q2177 rfl (v := .int (nI P.2.2.2.1)) rfl dX2_toldHere_35 ?_
    refine lv_iconst (v := 1) hx hb dX2_toldHere_38 rfl ?_
    refine g_iaddN hx hb P.2.2.2.1 1 rfl rfl dX2_toldHere_39 ?_
    refine g_bald hX hM.a8 (P.2.2.2.1 + 1) rfl (by omega) (by decide) (v := (Z 8 (P.2.2.2.1 + 1))) rfl dX2_toldHere_40 ?_
    refine lv_iadd hx hb dX2_toldHere_41 ?_
    refine lv_bipush (v := 48) hx hb dX2_toldHere_42 (by decide) ?_
    refine lv_isub hx hb dX2_toldHere_44 ?_
    refine lv_goto (tgt := 49) hx hb dX2_toldHere_45 (by decide) ?_
    exact hret _ _ _ dX2_toldHere_49 (by unfold q_told; simp only [*, if_true, if_false]; try rfl)

theorem y_X2_goes : g_Y yX2_goes cX2_goes 1 none 0 := ⟨q2279, by decide +kernel⟩
theorem v_X2_goes : g_YV yX2_goes := ⟨q2278, qs43, q140⟩
set_option maxHeartbeats 4000000 in
theorem k_X2_goes {G : g_G} {l : Launch} {ad : Nat → Nat} {F : Nat → Int32} {X Y : g_Wd} {U V : Nat → g_Wd} {Z : g_Wd}  (P : g_P) (n : Nat) (hn : F 12 = nI n) (hn4 : n ≤ 400) (hp : p_w n P) : g_Md G l yX2_goes cX2_goes 1 none 2 0 0 [.ref (ad 0)] (g_Mod G ad (p_F F P) X Y U V Z) (g_Qv none (g_Mod G ad (p_F F (q_goes (Z 8) n P)) X Y U V Z)) (md_A ad) := by
  refine g_Md.ofV (by decide) ?_
  intro p e s m args below meth c ls Q hX hM hl hS hret
  have hx := hX.1.1
  have hb := hX.1.2.1
  have hl : lv_has ls 1 [(0, .ref (ad 0))] := hl
  have key : ∀ (H : Heap) (locs : List Loc), g_Mod G ad (p_F F P) X Y U V Z H → va_S (md_A ad) s.heap H locs → W p l e (g_rm 2 0 0) s m args below meth c H locs 0 0 Q (F0 m 0 ls []) := by
    intro H locs hM hS
    have hpc : P.1 ≤ 3 := hp.1
    have hpu : P.2.2.1 ≤ n := hp.2
    refine lv_aload_n hx hb dX2_goes_0 rfl (lv_at hl 0 rfl) ?_
    refine g_getM hX hM 10 (by decide) q2173 rfl (v := .int (nI P.1)) rfl dX2_goes_1 ?_
    refine g_if_leN (tgt := 8) hx hb P.1 rfl (by omega) dX2_goes_4 (by decide) (fun c_4 => ?_) (fun c_4 => ?_)
    · skip
      have L8 : ∀ (nf : Nat) (H : Heap) (locs : List Loc) (u : Nat), (u ≤ n) → (P.2.2.1 ≤ u) → (q_sk (q_sp (Z 8)) n u = q_sk (q_sp (Z 8)) n P.2.2.1) → (n - u < nf) → (g_Mod G ad (p_F F (P.1, P.2.1, u, P.2.2.2.1, P.2.2.2.2)) X Y U V Z H) → va_S (md_A ad) s.heap H locs → ∀ ls : Array Slot, lv_has ls 1 [(0, .ref (ad 0))] → W p l e (g_rm 2 0 0) s m args below meth c H locs 0 0 Q (F0 m 8 ls []) := by
        intro n8
        induction n8 with
        | zero => intro H locs u hu hu1 hqu hn; exact absurd hn (Nat.not_lt_zero _)
        | succ n8 ih8 =>
          intro H locs u hu hu1 hqu hn8 hM hS ls hl
          refine lv_aload_n hx hb dX2_goes_8 rfl (lv_at hl 0 rfl) ?_
          refine g_getM hX hM 13 (by decide) q2176 rfl (v := .int (nI u)) rfl dX2_goes_9 ?_
          refine lv_aload_n hx hb dX2_goes_12 rfl (lv_at hl 0 rfl) ?_
          refine g_getM hX hM 12 (by decide) q2175 rfl (v := .int (F 12)) rfl dX2_goes_13 ?_
          refine g_icmp_geN (tgt := 46) hx hb u n rfl hn (by omega) (by omega) dX2_goes_16 (by decide) (fun c_16 => ?_) (fun c_16 => ?_)
          · skip
            have hs9 : u = q_sk (q_sp (Z 8)) n P.2.2.1 := by rw [← hqu]; exact (q_sk_e (by grind [q_sp])).symm
            clear hqu hu1
            refine lv_aload_n hx hb dX2_goes_46 rfl (lv_at hl 0 rfl) ?_
            refine lv_aload_n hx hb dX2_goes_47 rfl (lv_at hl 0 rfl) ?_
            refine g_getM hX hM 13 (by decide) q2176 rfl (v := .int (nI u)) rfl dX2_goes_48 ?_
            refine g_putM hX hM hS 14 (by decide) q2177 rfl rfl (x := (nI u)) rfl rfl (F' := p_F F (P.1, P.2.1, u, u, P.2.2.2.2)) rfl dX2_goes_51 (fun H locs hM hS => ?_)
            refine lv_aload_n hx hb dX2_goes_54 rfl (lv_at hl 0 rfl) ?_
            refine lv_aload_n hx hb dX2_goes_55 rfl (lv_at hl 0 rfl) ?_
            refine g_getM hX hM 13 (by decide) q2176 rfl (v := .int (nI u)) rfl dX2_goes_56 ?_
            refine lv_aload_n hx hb dX2_goes_59 rfl (lv_at hl 0 rfl) ?_
            refine g_getM hX hM 12 (by decide) q2175 rfl (v := .int (F 12)) rfl dX2_goes_60 ?_
            refine g_icmp_neN (tgt := 70) hx hb u n rfl hn (by omega) (by omega) dX2_goes_63 (by decide) (fun c_63 => ?_) (fun c_63 => ?_)
            · skip
              refine lv_iconst (v := 0) hx hb dX2_goes_70 rfl ?_
              refine g_putM hX hM hS 15 (by decide) q2178 rfl rfl (x := 0) rfl rfl (F' := p_F F (P.1, P.2.1, u, u, 0)) rfl dX2_goes_71 (fun H locs hM hS => ?_)
              refine lv_aload_n hx hb dX2_goes_74 rfl (lv_at hl 0 rfl) ?_
              refine g_getM hX hM 15 (by decide) q2178 rfl (v := .int (nI 0)) rfl dX2_goes_75 ?_
              refine lv_iconst (v := 1) hx hb dX2_goes_78 rfl ?_
              refine g_icmp_neN (tgt := 83) hx hb 0 1 rfl rfl (by omega) (by omega) dX2_goes_79 (by decide) (fun c_79 => ?_) (fun c_79 => ?_)
              rotate_left
              · exact absurd c_79 (by decide)
              refine lv_aload_n hx hb dX2_goes_83 rfl (lv_at hl 0 rfl) ?_
              refine lv_aload_n hx hb dX2_goes_84 rfl (lv_at hl 0 rfl) ?_
              refine g_getM hX hM 13 (by decide) q2176 rfl (v := .int (nI u)) rfl dX2_goes_85 ?_
              refine g_cRV hX hl y_X2_isLetter v_X2_isLetter q2280 (k_X2_isLetter u n (show (p_F F (P.1, P.2.1, u, u, 0)) 12 = nI n from hn) hn4 (by omega)) (hM.rc hX.2.2.2) hM rfl ⟨Nat.le_of_ble_eq_true rfl, Nat.le_of_ble_eq_true rfl⟩ ⟨Nat.zero_le _, Nat.zero_le _⟩ (rest := []) (st1 := [.int (g_b (decide (u < n) && q_let (Z 8) u))]) rfl rfl (Nat.le_of_ble_eq_true rfl) dX2_goes_88 ?_
              refine g_if_eqB (tgt := 142) hx hb (b := decide (u < n) && q_let (Z 8) u) rfl dX2_goes_91 (by decide) (fun c_91 => ?_) (fun c_91 => ?_)
              · skip
                refine lv_aload_n hx hb dX2_goes_142 rfl (lv_at hl 0 rfl) ?_
                refine lv_aload_n hx hb dX2_goes_143 rfl (lv_at hl 0 rfl) ?_
                refine g_getM hX hM 13 (by decide) q2176 rfl (v := .int (nI u)) rfl dX2_goes_144 ?_
                refine g_cRV hX hl y_X2_isDigit v_X2_isDigit q2284 (k_X2_isDigit u n (show (p_F F (P.1, P.2.1, u, u, 0)) 12 = nI n from hn) hn4 (by omega)) (hM.rc hX.2.2.2) hM rfl ⟨Nat.le_of_ble_eq_true rfl, Nat.le_of_ble_eq_true rfl⟩ ⟨Nat.zero_le _, Nat.zero_le _⟩ (rest := []) (st1 := [.int (g_b (decide (u < n) && q_dgt (Z 8) u))]) rfl rfl (Nat.le_of_ble_eq_true rfl) dX2_goes_147 ?_
                refine g_if_eqB (tgt := 201) hx hb (b := decide (u < n) && q_dgt (Z 8) u) rfl dX2_goes_150 (by decide) (fun c_150 => ?_) (fun c_150 => ?_)
                · skip
                  refine lv_aload_n hx hb dX2_goes_201 rfl (lv_at hl 0 rfl) ?_
                  refine lv_aload_n hx hb dX2_goes_202 rfl (lv_at hl 0 rfl) ?_
                  refine g_getM hX hM 8 (by decide) q2171 rfl (v := .ref (ad 8)) rfl dX2_goes_203 ?_
                  refine lv_aload_n hx hb dX2_goes_206 rfl (lv_at hl 0 rfl) ?_
                  refine g_getM hX hM 13 (by decide) q2176 rfl (v := .int (nI u)) rfl dX2_goes_207 ?_
                  refine g_bald hX hM.a8 u rfl (by omega) (by decide) (v := (Z 8 u)) rfl dX2_goes_210 ?_
                  refine lv_bipush (v := 59) hx hb dX2_goes_211 (by decide) ?_
                  refine lv_icmp_ne (tgt := 220) hx hb dX2_goes_213 (by decide) (fun c_213 => ?_) (fun c_213 => ?_)
                  · skip
                    refine lv_iconst (v := 0) hx hb dX2_goes_220 rfl ?_
                    refine g_putM hX hM hS 15 (by decide) q2178 rfl rfl (x := 0) rfl rfl (F' := p_F F (P.1, P.2.1, u, u, 0)) rfl dX2_goes_221 (fun H locs hM hS => ?_)
                    refine lv_aload_n hx hb dX2_goes_224 rfl (lv_at hl 0 rfl) ?_
                    refine lv_dup hx hb dX2_goes_225 rfl ?_
                    refine g_getM hX hM 13 (by decide) q2176 rfl (v := .int (nI u)) rfl dX2_goes_226 ?_
                    refine lv_iconst (v := 1) hx hb dX2_goes_229 rfl ?_
                    refine g_iaddN hx hb u 1 rfl rfl dX2_goes_230 ?_
                    refine g_putM hX hM hS 13 (by decide) q2176 rfl rfl (x := (nI (u + 1))) rfl rfl (F' := p_F F (P.1, P.2.1, u + 1, u, 0)) rfl dX2_goes_231 (fun H locs hM hS => ?_)
                    have eP : q_goes (Z 8) n P = (P.1, P.2.1, u + 1, u, 0) := by first | (exact q_goes_m (by omega)) | (unfold q_goes; rw [if_neg (by omega), ← hs9]; unfold q_tok; grind)
                    rw [← eP] at hM
                    exact hret H locs _ _ _ _ dX2_goes_234 hS (Nat.le_refl _) (Nat.le_refl _) (⟨rfl, hM⟩)
                  · skip
                    refine lv_iconst (v := 4) hx hb dX2_goes_216 rfl ?_
                    refine lv_goto (tgt := 221) hx hb dX2_goes_217 (by decide) ?_
                    refine g_putM hX hM hS 15 (by decide) q2178 rfl rfl (x := 4) rfl rfl (F' := p_F F (P.1, P.2.1, u, u, 4)) rfl dX2_goes_221 (fun H locs hM hS => ?_)
                    refine lv_aload_n hx hb dX2_goes_224 rfl (lv_at hl 0 rfl) ?_
                    refine lv_dup hx hb dX2_goes_225 rfl ?_
                    refine g_getM hX hM 13 (by decide) q2176 rfl (v := .int (nI u)) rfl dX2_goes_226 ?_
                    refine lv_iconst (v := 1) hx hb dX2_goes_229 rfl ?_
                    refine g_iaddN hx hb u 1 rfl rfl dX2_goes_230 ?_
                    refine g_putM hX hM hS 13 (by decide) q2176 rfl rfl (x := (nI (u + 1))) rfl rfl (F' := p_F F (P.1, P.2.1, u + 1, u, 4)) rfl dX2_goes_231 (fun H locs hM hS => ?_)
                    have eP : q_goes (Z 8) n P = (P.1, P.2.1, u + 1, u, 4) := by first | (exact q_goes_m (by omega)) | (unfold q_goes; rw [if_neg (by omega), ← hs9]; unfold q_tok; grind)
                    rw [← eP] at hM
                    exact hret H locs _ _ _ _ dX2_goes_234 hS (Nat.le_refl _) (Nat.le_refl _) (⟨rfl, hM⟩)
                · skip
                  have L153 : ∀ (nf : Nat) (H : Heap) (locs : List Loc) (v : Nat), (v ≤ n) → (u ≤ v) → (q_sk (q_dgt (Z 8)) n v = q_sk (q_dgt (Z 8)) n u) → (n - v < nf) → (g_Mod G ad (p_F F (P.1, P.2.1, v, u, 0)) X Y U V Z H) → va_S (md_A ad) s.heap H locs → ∀ ls : Array Slot, lv_has ls 1 [(0, .ref (ad 0))] → W p l e (g_rm 2 0 0) s m args below meth c H locs 0 0 Q (F0 m 153 ls []) := by
                    intro n153
                    induction n153 with
                    | zero => intro H locs v hv hv1 hqv hn; exact absurd hn (Nat.not_lt_zero _)
                    | succ n153 ih153 =>
                      intro H locs v hv hv1 hqv hn153 hM hS ls hl
                      refine lv_aload_n hx hb dX2_goes_153 rfl (lv_at hl 0 rfl) ?_
                      refine lv_aload_n hx hb dX2_goes_154 rfl (lv_at hl 0 rfl) ?_
                      refine g_getM hX hM 13 (by decide) q2176 rfl (v := .int (nI v)) rfl dX2_goes_155 ?_
                      refine g_cRV hX hl y_X2_isDigit v_X2_isDigit q2284 (k_X2_isDigit v n (show (p_F F (P.1, P.2.1, v, u, 0)) 12 = nI n from hn) hn4 (by omega)) (hM.rc hX.2.2.2) hM rfl ⟨Nat.le_of_ble_eq_true rfl, Nat.le_of_ble_eq_true rfl⟩ ⟨Nat.zero_le _, Nat.zero_le _⟩ (rest := []) (st1 := [.int (g_b (decide (v < n) && q_dgt (Z 8) v))]) rfl rfl (Nat.le_of_ble_eq_true rfl) dX2_goes_158 ?_
                      refine g_if_eqB (tgt := 177) hx hb (b := decide (v < n) && q_dgt (Z 8) v) rfl dX2_goes_161 (by decide) (fun c_161 => ?_) (fun c_161 => ?_)
                      · skip
                        have hv9 : v = q_sk (q_dgt (Z 8)) n u := by rw [← hqv]; exact (q_sk_e (by grind)).symm
                        refine lv_aload_n hx hb dX2_goes_177 rfl (lv_at hl 0 rfl) ?_
                        refine lv_aload_n hx hb dX2_goes_178 rfl (lv_at hl 0 rfl) ?_
                        refine g_getM hX hM 13 (by decide) q2176 rfl (v := .int (nI v)) rfl dX2_goes_179 ?_
                        refine lv_aload_n hx hb dX2_goes_182 rfl (lv_at hl 0 rfl) ?_
                        refine g_getM hX hM 14 (by decide) q2177 rfl (v := .int (nI u)) rfl dX2_goes_183 ?_
                        refine g_isubN hx hb v u rfl rfl (by omega) dX2_goes_186 ?_
                        refine lv_bipush (v := 12) hx hb dX2_goes_187 (by decide) ?_
                        refine g_icmp_gtN (tgt := 196) hx hb (v - u) 12 rfl rfl (by omega) (by omega) dX2_goes_189 (by decide) (fun c_189 => ?_) (fun c_189 => ?_)
                        · skip
                          refine lv_iconst (v := 0) hx hb dX2_goes_196 rfl ?_
                          refine g_putM hX hM hS 15 (by decide) q2178 rfl rfl (x := 0) rfl rfl (F' := p_F F (P.1, P.2.1, v, u, 0)) rfl dX2_goes_197 (fun H locs hM hS => ?_)
                          have eP : q_goes (Z 8) n P = (P.1, P.2.1, v, u, 0) := by first | (exact q_goes_m (by omega)) | (unfold q_goes; rw [if_neg (by omega), ← hs9]; unfold q_tok; grind)
                          rw [← eP] at hM
                          exact hret H locs _ _ _ _ dX2_goes_200 hS (Nat.le_refl _) (Nat.le_refl _) (⟨rfl, hM⟩)
                        · skip
                          refine lv_iconst (v := 3) hx hb dX2_goes_192 rfl ?_
                          refine lv_goto (tgt := 197) hx hb dX2_goes_193 (by decide) ?_
                          refine g_putM hX hM hS 15 (by decide) q2178 rfl rfl (x := 3) rfl rfl (F' := p_F F (P.1, P.2.1, v, u, 3)) rfl dX2_goes_197 (fun H locs hM hS => ?_)
                          have eP : q_goes (Z 8) n P = (P.1, P.2.1, v, u, 3) := by first | (exact q_goes_m (by omega)) | (unfold q_goes; rw [if_neg (by omega), ← hs9]; unfold q_tok; grind)
                          rw [← eP] at hM
                          exact hret H locs _ _ _ _ dX2_goes_200 hS (Nat.le_refl _) (Nat.le_refl _) (⟨rfl, hM⟩)
                      · skip
                        have hvn : v < n ∧ q_dgt (Z 8) v = true := by grind
                        obtain ⟨hvn, hvl⟩ := hvn
                        refine lv_aload_n hx hb dX2_goes_164 rfl (lv_at hl 0 rfl) ?_
                        refine lv_dup hx hb dX2_goes_165 rfl ?_
                        refine g_getM hX hM 13 (by decide) q2176 rfl (v := .int (nI v)) rfl dX2_goes_166 ?_
                        refine lv_iconst (v := 1) hx hb dX2_goes_169 rfl ?_
                        refine g_iaddN hx hb v 1 rfl rfl dX2_goes_170 ?_
                        refine g_putM hX hM hS 13 (by decide) q2176 rfl rfl (x := (nI (v + 1))) rfl rfl (F' := p_F F (P.1, P.2.1, v + 1, u, 0)) rfl dX2_goes_171 (fun H locs hM hS => ?_)
                        refine lv_goto (tgt := 153) hx hb dX2_goes_174 (by decide) ?_
                        exact ih153 H locs (v + 1) (by omega) (by omega) (by rw [← hqv]; exact q_sk_s (by omega) (by first | assumption | grind [q_sp])) (by omega) hM hS ls (lv_sub hl [0] rfl)
                  exact L153 (n - u + 1) H locs u (by omega) (by omega) (by first | rfl | assumption) (Nat.lt_succ_self _) hM hS ls (lv_sub hl [0] rfl)
              · skip
                have L94 : ∀ (nf : Nat) (H : Heap) (locs : List Loc) (v : Nat), (v ≤ n) → (u ≤ v) → (q_sk (q_let (Z 8)) n v = q_sk (q_let (Z 8)) n u) → (n - v < nf) → (g_Mod G ad (p_F F (P.1, P.2.1, v, u, 0)) X Y U V Z H) → va_S (md_A ad) s.heap H locs → ∀ ls : Array Slot, lv_has ls 1 [(0, .ref (ad 0))] → W p l e (g_rm 2 0 0) s m args below meth c H locs 0 0 Q (F0 m 94 ls []) := by
                  intro n94
                  induction n94 with
                  | zero => intro H locs v hv hv1 hqv hn; exact absurd hn (Nat.not_lt_zero _)
                  | succ n94 ih94 =>
                    intro H locs v hv hv1 hqv hn94 hM hS ls hl
                    refine lv_aload_n hx hb dX2_goes_94 rfl (lv_at hl 0 rfl) ?_
                    refine lv_aload_n hx hb dX2_goes_95 rfl (lv_at hl 0 rfl) ?_
                    refine g_getM hX hM 13 (by decide) q2176 rfl (v := .int (nI v)) rfl dX2_goes_96 ?_
                    refine g_cRV hX hl y_X2_isLetter v_X2_isLetter q2280 (k_X2_isLetter v n (show (p_F F (P.1, P.2.1, v, u, 0)) 12 = nI n from hn) hn4 (by omega)) (hM.rc hX.2.2.2) hM rfl ⟨Nat.le_of_ble_eq_true rfl, Nat.le_of_ble_eq_true rfl⟩ ⟨Nat.zero_le _, Nat.zero_le _⟩ (rest := []) (st1 := [.int (g_b (decide (v < n) && q_let (Z 8) v))]) rfl rfl (Nat.le_of_ble_eq_true rfl) dX2_goes_99 ?_
                    refine g_if_eqB (tgt := 118) hx hb (b := decide (v < n) && q_let (Z 8) v) rfl dX2_goes_102 (by decide) (fun c_102 => ?_) (fun c_102 => ?_)
                    · skip
                      have hv9 : v = q_sk (q_let (Z 8)) n u := by rw [← hqv]; exact (q_sk_e (by grind)).symm
                      refine lv_aload_n hx hb dX2_goes_118 rfl (lv_at hl 0 rfl) ?_
                      refine lv_aload_n hx hb dX2_goes_119 rfl (lv_at hl 0 rfl) ?_
                      refine g_getM hX hM 13 (by decide) q2176 rfl (v := .int (nI v)) rfl dX2_goes_120 ?_
                      refine lv_aload_n hx hb dX2_goes_123 rfl (lv_at hl 0 rfl) ?_
                      refine g_getM hX hM 14 (by decide) q2177 rfl (v := .int (nI u)) rfl dX2_goes_124 ?_
                      refine g_isubN hx hb v u rfl rfl (by omega) dX2_goes_127 ?_
                      refine lv_bipush (v := 6) hx hb dX2_goes_128 (by decide) ?_
                      refine g_icmp_gtN (tgt := 137) hx hb (v - u) 6 rfl rfl (by omega) (by omega) dX2_goes_130 (by decide) (fun c_130 => ?_) (fun c_130 => ?_)
                      · skip
                        refine lv_iconst (v := 0) hx hb dX2_goes_137 rfl ?_
                        refine g_putM hX hM hS 15 (by decide) q2178 rfl rfl (x := 0) rfl rfl (F' := p_F F (P.1, P.2.1, v, u, 0)) rfl dX2_goes_138 (fun H locs hM hS => ?_)
                        have eP : q_goes (Z 8) n P = (P.1, P.2.1, v, u, 0) := by first | (exact q_goes_m (by omega)) | (unfold q_goes; rw [if_neg (by omega), ← hs9]; unfold q_tok; grind)
                        rw [← eP] at hM
                        exact hret H locs _ _ _ _ dX2_goes_141 hS (Nat.le_refl _) (Nat.le_refl _) (⟨rfl, hM⟩)
                      · skip
                        refine lv_iconst (v := 2) hx hb dX2_goes_133 rfl ?_
                        refine lv_goto (tgt := 138) hx hb dX2_goes_134 (by decide) ?_
                        refine g_putM hX hM hS 15 (by decide) q2178 rfl rfl (x := 2) rfl rfl (F' := p_F F (P.1, P.2.1, v, u, 2)) rfl dX2_goes_138 (fun H locs hM hS => ?_)
                        have eP : q_goes (Z 8) n P = (P.1, P.2.1, v, u, 2) := by first | (exact q_goes_m (by omega)) | (unfold q_goes; rw [if_neg (by omega), ← hs9]; unfold q_tok; grind)
                        rw [← eP] at hM
                        exact hret H locs _ _ _ _ dX2_goes_141 hS (Nat.le_refl _) (Nat.le_refl _) (⟨rfl, hM⟩)
                    · skip
                      have hvn : v < n ∧ q_let (Z 8) v = true := by grind
                      obtain ⟨hvn, hvl⟩ := hvn
                      refine lv_aload_n hx hb dX2_goes_105 rfl (lv_at hl 0 rfl) ?_
                      refine lv_dup hx hb dX2_goes_106 rfl ?_
                      refine g_getM hX hM 13 (by decide) q2176 rfl (v := .int (nI v)) rfl dX2_goes_107 ?_
                      refine lv_iconst (v := 1) hx hb dX2_goes_110 rfl ?_
                      refine g_iaddN hx hb v 1 rfl rfl dX2_goes_111 ?_
                      refine g_putM hX hM hS 13 (by decide) q2176 rfl rfl (x := (nI (v + 1))) rfl rfl (F' := p_F F (P.1, P.2.1, v + 1, u, 0)) rfl dX2_goes_112 (fun H locs hM hS => ?_)
                      refine lv_goto (tgt := 94) hx hb dX2_goes_115 (by decide) ?_
                      exact ih94 H locs (v + 1) (by omega) (by omega) (by rw [← hqv]; exact q_sk_s (by omega) (by first | assumption | grind [q_sp])) (by omega) hM hS ls (lv_sub hl [0] rfl)
                exact L94 (n - u + 1) H locs u (by omega) (by omega) (by first | rfl | assumption) (Nat.lt_succ_self _) hM hS ls (lv_sub hl [0] rfl)
            · skip
              refine lv_iconst (v := 1) hx hb dX2_goes_66 rfl ?_
              refine lv_goto (tgt := 71) hx hb dX2_goes_67 (by decide) ?_
              refine g_putM hX hM hS 15 (by decide) q2178 rfl rfl (x := 1) rfl rfl (F' := p_F F (P.1, P.2.1, u, u, 1)) rfl dX2_goes_71 (fun H locs hM hS => ?_)
              refine lv_aload_n hx hb dX2_goes_74 rfl (lv_at hl 0 rfl) ?_
              refine g_getM hX hM 15 (by decide) q2178 rfl (v := .int (nI 1)) rfl dX2_goes_75 ?_
              refine lv_iconst (v := 1) hx hb dX2_goes_78 rfl ?_
              refine g_icmp_neN (tgt := 83) hx hb 1 1 rfl rfl (by omega) (by omega) dX2_goes_79 (by decide) (fun c_79 => ?_) (fun c_79 => ?_)
              · exact absurd c_79 (by decide)
              skip
              have eP : q_goes (Z 8) n P = (P.1, P.2.1, u, u, 1) := by first | (exact q_goes_m (by omega)) | (unfold q_goes; rw [if_neg (by omega), ← hs9]; unfold q_tok; grind)
              rw [← eP] at hM
              exact hret H locs _ _ _ _ dX2_goes_82 hS (Nat.le_refl _) (Nat.le_refl _) (⟨rfl, hM⟩)
          · skip
            refine lv_aload_n hx hb dX2_goes_19 rfl (lv_at hl 0 rfl) ?_
            refine g_getM hX hM 8 (by decide) q2171 rfl (v := .ref (ad 8)) rfl dX2_goes_20 ?_
            refine lv_aload_n hx hb dX2_goes_23 rfl (lv_at hl 0 rfl) ?_
            refine g_getM hX hM 13 (by decide) q2176 rfl (v := .int (nI u)) rfl dX2_goes_24 ?_
            refine g_bald hX hM.a8 u rfl (by omega) (by decide) (v := (Z 8 u)) rfl dX2_goes_27 ?_
            refine lv_bipush (v := 32) hx hb dX2_goes_28 (by decide) ?_
            refine lv_icmp_ne (tgt := 46) hx hb dX2_goes_30 (by decide) (fun c_30 => ?_) (fun c_30 => ?_)
            · skip
              have hs9 : u = q_sk (q_sp (Z 8)) n P.2.2.1 := by rw [← hqu]; exact (q_sk_e (by grind [q_sp])).symm
              clear hqu hu1
              refine lv_aload_n hx hb dX2_goes_46 rfl (lv_at hl 0 rfl) ?_
              refine lv_aload_n hx hb dX2_goes_47 rfl (lv_at hl 0 rfl) ?_
              refine g_getM hX hM 13 (by decide) q2176 rfl (v := .int (nI u)) rfl dX2_goes_48 ?_
              refine g_putM hX hM hS 14 (by decide) q2177 rfl rfl (x := (nI u)) rfl rfl (F' := p_F F (P.1, P.2.1, u, u, P.2.2.2.2)) rfl dX2_goes_51 (fun H locs hM hS => ?_)
              refine lv_aload_n hx hb dX2_goes_54 rfl (lv_at hl 0 rfl) ?_
              refine lv_aload_n hx hb dX2_goes_55 rfl (lv_at hl 0 rfl) ?_
              refine g_getM hX hM 13 (by decide) q2176 rfl (v := .int (nI u)) rfl dX2_goes_56 ?_
              refine lv_aload_n hx hb dX2_goes_59 rfl (lv_at hl 0 rfl) ?_
              refine g_getM hX hM 12 (by decide) q2175 rfl (v := .int (F 12)) rfl dX2_goes_60 ?_
              refine g_icmp_neN (tgt := 70) hx hb u n rfl hn (by omega) (by omega) dX2_goes_63 (by decide) (fun c_63 => ?_) (fun c_63 => ?_)
              · skip
                refine lv_iconst (v := 0) hx hb dX2_goes_70 rfl ?_
                refine g_putM hX hM hS 15 (by decide) q2178 rfl rfl (x := 0) rfl rfl (F' := p_F F (P.1, P.2.1, u, u, 0)) rfl dX2_goes_71 (fun H locs hM hS => ?_)
                refine lv_aload_n hx hb dX2_goes_74 rfl (lv_at hl 0 rfl) ?_
                refine g_getM hX hM 15 (by decide) q2178 rfl (v := .int (nI 0)) rfl dX2_goes_75 ?_
                refine lv_iconst (v := 1) hx hb dX2_goes_78 rfl ?_
                refine g_icmp_neN (tgt := 83) hx hb 0 1 rfl rfl (by omega) (by omega) dX2_goes_79 (by decide) (fun c_79 => ?_) (fun c_79 => ?_)
                rotate_left
                · exact absurd c_79 (by decide)
                refine lv_aload_n hx hb dX2_goes_83 rfl (lv_at hl 0 rfl) ?_
                refine lv_aload_n hx hb dX2_goes_84 rfl (lv_at hl 0 rfl) ?_
                refine g_getM hX hM 13 (by decide) q2176 rfl (v := .int (nI u)) rfl dX2_goes_85 ?_
                refine g_cRV hX hl y_X2_isLetter v_X2_isLetter q2280 (k_X2_isLetter u n (show (p_F F (P.1, P.2.1, u, u, 0)) 12 = nI n from hn) hn4 (by omega)) (hM.rc hX.2.2.2) hM rfl ⟨Nat.le_of_ble_eq_true rfl, Nat.le_of_ble_eq_true rfl⟩ ⟨Nat.zero_le _, Nat.zero_le _⟩ (rest := []) (st1 := [.int (g_b (decide (u < n) && q_let (Z 8) u))]) rfl rfl (Nat.le_of_ble_eq_true rfl) dX2_goes_88 ?_
                refine g_if_eqB (tgt := 142) hx hb (b := decide (u < n) && q_let (Z 8) u) rfl dX2_goes_91 (by decide) (fun c_91 => ?_) (fun c_91 => ?_)
                · skip
                  refine lv_aload_n hx hb dX2_goes_142 rfl (lv_at hl 0 rfl) ?_
                  refine lv_aload_n hx hb dX2_goes_143 rfl (lv_at hl 0 rfl) ?_
                  refine g_getM hX hM 13 (by decide) q2176 rfl (v := .int (nI u)) rfl dX2_goes_144 ?_
                  refine g_cRV hX hl y_X2_isDigit v_X2_isDigit q2284 (k_X2_isDigit u n (show (p_F F (P.1, P.2.1, u, u, 0)) 12 = nI n from hn) hn4 (by omega)) (hM.rc hX.2.2.2) hM rfl ⟨Nat.le_of_ble_eq_true rfl, Nat.le_of_ble_eq_true rfl⟩ ⟨Nat.zero_le _, Nat.zero_le _⟩ (rest := []) (st1 := [.int (g_b (decide (u < n) && q_dgt (Z 8) u))]) rfl rfl (Nat.le_of_ble_eq_true rfl) dX2_goes_147 ?_
                  refine g_if_eqB (tgt := 201) hx hb (b := decide (u < n) && q_dgt (Z 8) u) rfl dX2_goes_150 (by decide) (fun c_150 => ?_) (fun c_150 => ?_)
                  · skip
                    refine lv_aload_n hx hb dX2_goes_201 rfl (lv_at hl 0 rfl) ?_
                    refine lv_aload_n hx hb dX2_goes_202 rfl (lv_at hl 0 rfl) ?_
                    refine g_getM hX hM 8 (by decide) q2171 rfl (v := .ref (ad 8)) rfl dX2_goes_203 ?_
                    refine lv_aload_n hx hb dX2_goes_206 rfl (lv_at hl 0 rfl) ?_
                    refine g_getM hX hM 13 (by decide) q2176 rfl (v := .int (nI u)) rfl dX2_goes_207 ?_
                    refine g_bald hX hM.a8 u rfl (by omega) (by decide) (v := (Z 8 u)) rfl dX2_goes_210 ?_
                    refine lv_bipush (v := 59) hx hb dX2_goes_211 (by decide) ?_
                    refine lv_icmp_ne (tgt := 220) hx hb dX2_goes_213 (by decide) (fun c_213 => ?_) (fun c_213 => ?_)
                    · skip
                      refine lv_iconst (v := 0) hx hb dX2_goes_220 rfl ?_
                      refine g_putM hX hM hS 15 (by decide) q2178 rfl rfl (x := 0) rfl rfl (F' := p_F F (P.1, P.2.1, u, u, 0)) rfl dX2_goes_221 (fun H locs hM hS => ?_)
                      refine lv_aload_n hx hb dX2_goes_224 rfl (lv_at hl 0 rfl) ?_
                      refine lv_dup hx hb dX2_goes_225 rfl ?_
                      refine g_getM hX hM 13 (by decide) q2176 rfl (v := .int (nI u)) rfl dX2_goes_226 ?_
                      refine lv_iconst (v := 1) hx hb dX2_goes_229 rfl ?_
                      refine g_iaddN hx hb u 1 rfl rfl dX2_goes_230 ?_
                      refine g_putM hX hM hS 13 (by decide) q2176 rfl rfl (x := (nI (u + 1))) rfl rfl (F' := p_F F (P.1, P.2.1, u + 1, u, 0)) rfl dX2_goes_231 (fun H locs hM hS => ?_)
                      have eP : q_goes (Z 8) n P = (P.1, P.2.1, u + 1, u, 0) := by first | (exact q_goes_m (by omega)) | (unfold q_goes; rw [if_neg (by omega), ← hs9]; unfold q_tok; grind)
                      rw [← eP] at hM
                      exact hret H locs _ _ _ _ dX2_goes_234 hS (Nat.le_refl _) (Nat.le_refl _) (⟨rfl, hM⟩)
                    · skip
                      refine lv_iconst (v := 4) hx hb dX2_goes_216 rfl ?_
                      refine lv_goto (tgt := 221) hx hb dX2_goes_217 (by decide) ?_
                      refine g_putM hX hM hS 15 (by decide) q2178 rfl rfl (x := 4) rfl rfl (F' := p_F F (P.1, P.2.1, u, u, 4)) rfl dX2_goes_221 (fun H locs hM hS => ?_)
                      refine lv_aload_n hx hb dX2_goes_224 rfl (lv_at hl 0 rfl) ?_
                      refine lv_dup hx hb dX2_goes_225 rfl ?_
                      refine g_getM hX hM 13 (by decide) q2176 rfl (v := .int (nI u)) rfl dX2_goes_226 ?_
                      refine lv_iconst (v := 1) hx hb dX2_goes_229 rfl ?_
                      refine g_iaddN hx hb u 1 rfl rfl dX2_goes_230 ?_
                      refine g_putM hX hM hS 13 (by decide) q2176 rfl rfl (x := (nI (u + 1))) rfl rfl (F' := p_F F (P.1, P.2.1, u + 1, u, 4)) rfl dX2_goes_231 (fun H locs hM hS => ?_)
                      have eP : q_goes (Z 8) n P = (P.1, P.2.1, u + 1, u, 4) := by first | (exact q_goes_m (by omega)) | (unfold q_goes; rw [if_neg (by omega), ← hs9]; unfold q_tok; grind)
                      rw [← eP] at hM
                      exact hret H locs _ _ _ _ dX2_goes_234 hS (Nat.le_refl _) (Nat.le_refl _) (⟨rfl, hM⟩)
                  · skip
                    have L153 : ∀ (nf : Nat) (H : Heap) (locs : List Loc) (v : Nat), (v ≤ n) → (u ≤ v) → (q_sk (q_dgt (Z 8)) n v = q_sk (q_dgt (Z 8)) n u) → (n - v < nf) → (g_Mod G ad (p_F F (P.1, P.2.1, v, u, 0)) X Y U V Z H) → va_S (md_A ad) s.heap H locs → ∀ ls : Array Slot, lv_has ls 1 [(0, .ref (ad 0))] → W p l e (g_rm 2 0 0) s m args below meth c H locs 0 0 Q (F0 m 153 ls []) := by
                      intro n153
                      induction n153 with
                      | zero => intro H locs v hv hv1 hqv hn; exact absurd hn (Nat.not_lt_zero _)
                      | succ n153 ih153 =>
                        intro H locs v hv hv1 hqv hn153 hM hS ls hl
                        refine lv_aload_n hx hb dX2_goes_153 rfl (lv_at hl 0 rfl) ?_
                        refine lv_aload_n hx hb dX2_goes_154 rfl (lv_at hl 0 rfl) ?_
                        refine g_getM hX hM 13 (by decide) q2176 rfl (v := .int (nI v)) rfl dX2_goes_155 ?_
                        refine g_cRV hX hl y_X2_isDigit v_X2_isDigit q2284 (k_X2_isDigit v n (show (p_F F (P.1, P.2.1, v, u, 0)) 12 = nI n from hn) hn4 (by omega)) (hM.rc hX.2.2.2) hM rfl ⟨Nat.le_of_ble_eq_true rfl, Nat.le_of_ble_eq_true rfl⟩ ⟨Nat.zero_le _, Nat.zero_le _⟩ (rest := []) (st1 := [.int (g_b (decide (v < n) && q_dgt (Z 8) v))]) rfl rfl (Nat.le_of_ble_eq_true rfl) dX2_goes_158 ?_
                        refine g_if_eqB (tgt := 177) hx hb (b := decide (v < n) && q_dgt (Z 8) v) rfl dX2_goes_161 (by decide) (fun c_161 => ?_) (fun c_161 => ?_)
                        · skip
                          have hv9 : v = q_sk (q_dgt (Z 8)) n u := by rw [← hqv]; exact (q_sk_e (by grind)).symm
                          refine lv_aload_n hx hb dX2_goes_177 rfl (lv_at hl 0 rfl) ?_
                          refine lv_aload_n hx hb dX2_goes_178 rfl (lv_at hl 0 rfl) ?_
                          refine g_getM hX hM 13 (by decide) q2176 rfl (v := .int (nI v)) rfl dX2_goes_179 ?_
                          refine lv_aload_n hx hb dX2_goes_182 rfl (lv_at hl 0 rfl) ?_
                          refine g_getM hX hM 14 (by decide) q2177 rfl (v := .int (nI u)) rfl dX2_goes_183 ?_
                          refine g_isubN hx hb v u rfl rfl (by omega) dX2_goes_186 ?_
                          refine lv_bipush (v := 12) hx hb dX2_goes_187 (by decide) ?_
                          refine g_icmp_gtN (tgt := 196) hx hb (v - u) 12 rfl rfl (by omega) (by omega) dX2_goes_189 (by decide) (fun c_189 => ?_) (fun c_189 => ?_)
                          · skip
                            refine lv_iconst (v := 0) hx hb dX2_goes_196 rfl ?_
                            refine g_putM hX hM hS 15 (by decide) q2178 rfl rfl (x := 0) rfl rfl (F' := p_F F (P.1, P.2.1, v, u, 0)) rfl dX2_goes_197 (fun H locs hM hS => ?_)
                            have eP : q_goes (Z 8) n P = (P.1, P.2.1, v, u, 0) := by first | (exact q_goes_m (by omega)) | (unfold q_goes; rw [if_neg (by omega), ← hs9]; unfold q_tok; grind)
                            rw [← eP] at hM
                            exact hret H locs _ _ _ _ dX2_goes_200 hS (Nat.le_refl _) (Nat.le_refl _) (⟨rfl, hM⟩)
                          · skip
                            refine lv_iconst (v := 3) hx hb dX2_goes_192 rfl ?_
                            refine lv_goto (tgt := 197) hx hb dX2_goes_193 (by decide) ?_
                            refine g_putM hX hM hS 15 (by decide) q2178 rfl rfl (x := 3) rfl rfl (F' := p_F F (P.1, P.2.1, v, u, 3)) rfl dX2_goes_197 (fun H locs hM hS => ?_)
                            have eP : q_goes (Z 8) n P = (P.1, P.2.1, v, u, 3) := by first | (exact q_goes_m (by omega)) | (unfold q_goes; rw [if_neg (by omega), ← hs9]; unfold q_tok; grind)
                            rw [← eP] at hM
                            exact hret H locs _ _ _ _ dX2_goes_200 hS (Nat.le_refl _) (Nat.le_refl _) (⟨rfl, hM⟩)
                        · skip
                          have hvn : v < n ∧ q_dgt (Z 8) v = true := by grind
                          obtain ⟨hvn, hvl⟩ := hvn
                          refine lv_aload_n hx hb dX2_goes_164 rfl (lv_at hl 0 rfl) ?_
                          refine lv_dup hx hb dX2_goes_165 rfl ?_
                          refine g_getM hX hM 13 (by decide) q2176 rfl (v := .int (nI v)) rfl dX2_goes_166 ?_
                          refine lv_iconst (v := 1) hx hb dX2_goes_169 rfl ?_
                          refine g_iaddN hx hb v 1 rfl rfl dX2_goes_170 ?_
                          refine g_putM hX hM hS 13 (by decide) q2176 rfl rfl (x := (nI (v + 1))) rfl rfl (F' := p_F F (P.1, P.2.1, v + 1, u, 0)) rfl dX2_goes_171 (fun H locs hM hS => ?_)
                          refine lv_goto (tgt := 153) hx hb dX2_goes_174 (by decide) ?_
                          exact ih153 H locs (v + 1) (by omega) (by omega) (by rw [← hqv]; exact q_sk_s (by omega) (by first | assumption | grind [q_sp])) (by omega) hM hS ls (lv_sub hl [0] rfl)
                    exact L153 (n - u + 1) H locs u (by omega) (by omega) (by first | rfl | assumption) (Nat.lt_succ_self _) hM hS ls (lv_sub hl [0] rfl)
                · skip
                  have L94 : ∀ (nf : Nat) (H : Heap) (locs : List Loc) (v : Nat), (v ≤ n) → (u ≤ v) → (q_sk (q_let (Z 8)) n v = q_sk (q_let (Z 8)) n u) → (n - v < nf) → (g_Mod G ad (p_F F (P.1, P.2.1, v, u, 0)) X Y U V Z H) → va_S (md_A ad) s.heap H locs → ∀ ls : Array Slot, lv_has ls 1 [(0, .ref (ad 0))] → W p l e (g_rm 2 0 0) s m args below meth c H locs 0 0 Q (F0 m 94 ls []) := by
                    intro n94
                    induction n94 with
                    | zero => intro H locs v hv hv1 hqv hn; exact absurd hn (Nat.not_lt_zero _)
                    | succ n94 ih94 =>
                      intro H locs v hv hv1 hqv hn94 hM hS ls hl
                      refine lv_aload_n hx hb dX2_goes_94 rfl (lv_at hl 0 rfl) ?_
                      refine lv_aload_n hx hb dX2_goes_95 rfl (lv_at hl 0 rfl) ?_
                      refine g_getM hX hM 13 (by decide) q2176 rfl (v := .int (nI v)) rfl dX2_goes_96 ?_
                      refine g_cRV hX hl y_X2_isLetter v_X2_isLetter q2280 (k_X2_isLetter v n (show (p_F F (P.1, P.2.1, v, u, 0)) 12 = nI n from hn) hn4 (by omega)) (hM.rc hX.2.2.2) hM rfl ⟨Nat.le_of_ble_eq_true rfl, Nat.le_of_ble_eq_true rfl⟩ ⟨Nat.zero_le _, Nat.zero_le _⟩ (rest := []) (st1 := [.int (g_b (decide (v < n) && q_let (Z 8) v))]) rfl rfl (Nat.le_of_ble_eq_true rfl) dX2_goes_99 ?_
                      refine g_if_eqB (tgt := 118) hx hb (b := decide (v < n) && q_let (Z 8) v) rfl dX2_goes_102 (by decide) (fun c_102 => ?_) (fun c_102 => ?_)
                      · skip
                        have hv9 : v = q_sk (q_let (Z 8)) n u := by rw [← hqv]; exact (q_sk_e (by grind)).symm
                        refine lv_aload_n hx hb dX2_goes_118 rfl (lv_at hl 0 rfl) ?_
                        refine lv_aload_n hx hb dX2_goes_119 rfl (lv_at hl 0 rfl) ?_
                        refine g_getM hX hM 13 (by decide) q2176 rfl (v := .int (nI v)) rfl dX2_goes_120 ?_
                        refine lv_aload_n hx hb dX2_goes_123 rfl (lv_at hl 0 rfl) ?_
                        refine g_getM hX hM 14 (by decide) q2177 rfl (v := .int (nI u)) rfl dX2_goes_124 ?_
                        refine g_isubN hx hb v u rfl rfl (by omega) dX2_goes_127 ?_
                        refine lv_bipush (v := 6) hx hb dX2_goes_128 (by decide) ?_
                        refine g_icmp_gtN (tgt := 137) hx hb (v - u) 6 rfl rfl (by omega) (by omega) dX2_goes_130 (by decide) (fun c_130 => ?_) (fun c_130 => ?_)
                        · skip
                          refine lv_iconst (v := 0) hx hb dX2_goes_137 rfl ?_
                          refine g_putM hX hM hS 15 (by decide) q2178 rfl rfl (x := 0) rfl rfl (F' := p_F F (P.1, P.2.1, v, u, 0)) rfl dX2_goes_138 (fun H locs hM hS => ?_)
                          have eP : q_goes (Z 8) n P = (P.1, P.2.1, v, u, 0) := by first | (exact q_goes_m (by omega)) | (unfold q_goes; rw [if_neg (by omega), ← hs9]; unfold q_tok; grind)
                          rw [← eP] at hM
                          exact hret H locs _ _ _ _ dX2_goes_141 hS (Nat.le_refl _) (Nat.le_refl _) (⟨rfl, hM⟩)
                        · skip
                          refine lv_iconst (v := 2) hx hb dX2_goes_133 rfl ?_
                          refine lv_goto (tgt := 138) hx hb dX2_goes_134 (by decide) ?_
                          refine g_putM hX hM hS 15 (by decide) q2178 rfl rfl (x := 2) rfl rfl (F' := p_F F (P.1, P.2.1, v, u, 2)) rfl dX2_goes_138 (fun H locs hM hS => ?_)
                          have eP : q_goes (Z 8) n P = (P.1, P.2.1, v, u, 2) := by first | (exact q_goes_m (by omega)) | (unfold q_goes; rw [if_neg (by omega), ← hs9]; unfold q_tok; grind)
                          rw [← eP] at hM
                          exact hret H locs _ _ _ _ dX2_goes_141 hS (Nat.le_refl _) (Nat.le_refl _) (⟨rfl, hM⟩)
                      · skip
                        have hvn : v < n ∧ q_let (Z 8) v = true := by grind
                        obtain ⟨hvn, hvl⟩ := hvn
                        refine lv_aload_n hx hb dX2_goes_105 rfl (lv_at hl 0 rfl) ?_
                        refine lv_dup hx hb dX2_goes_106 rfl ?_
                        refine g_getM hX hM 13 (by decide) q2176 rfl (v := .int (nI v)) rfl dX2_goes_107 ?_
                        refine lv_iconst (v := 1) hx hb dX2_goes_110 rfl ?_
                        refine g_iaddN hx hb v 1 rfl rfl dX2_goes_111 ?_
                        refine g_putM hX hM hS 13 (by decide) q2176 rfl rfl (x := (nI (v + 1))) rfl rfl (F' := p_F F (P.1, P.2.1, v + 1, u, 0)) rfl dX2_goes_112 (fun H locs hM hS => ?_)
                        refine lv_goto (tgt := 94) hx hb dX2_goes_115 (by decide) ?_
                        exact ih94 H locs (v + 1) (by omega) (by omega) (by rw [← hqv]; exact q_sk_s (by omega) (by first | assumption | grind [q_sp])) (by omega) hM hS ls (lv_sub hl [0] rfl)
                  exact L94 (n - u + 1) H locs u (by omega) (by omega) (by first | rfl | assumption) (Nat.lt_succ_self _) hM hS ls (lv_sub hl [0] rfl)
              · skip
                refine lv_iconst (v := 1) hx hb dX2_goes_66 rfl ?_
                refine lv_goto (tgt := 71) hx hb dX2_goes_67 (by decide) ?_
                refine g_putM hX hM hS 15 (by decide) q2178 rfl rfl (x := 1) rfl rfl (F' := p_F F (P.1, P.2.1, u, u, 1)) rfl dX2_goes_71 (fun H locs hM hS => ?_)
                refine lv_aload_n hx hb dX2_goes_74 rfl (lv_at hl 0 rfl) ?_
                refine g_getM hX hM 15 (by decide) q2178 rfl (v := .int (nI 1)) rfl dX2_goes_75 ?_
                refine lv_iconst (v := 1) hx hb dX2_goes_78 rfl ?_
                refine g_icmp_neN (tgt := 83) hx hb 1 1 rfl rfl (by omega) (by omega) dX2_goes_79 (by decide) (fun c_79 => ?_) (fun c_79 => ?_)
                · exact absurd c_79 (by decide)
                skip
                have eP : q_goes (Z 8) n P = (P.1, P.2.1, u, u, 1) := by first | (exact q_goes_m (by omega)) | (unfold q_goes; rw [if_neg (by omega), ← hs9]; unfold q_tok; grind)
                rw [← eP] at hM
                exact hret H locs _ _ _ _ dX2_goes_82 hS (Nat.le_refl _) (Nat.le_refl _) (⟨rfl, hM⟩)
            · skip
              refine lv_aload_n hx hb dX2_goes_33 rfl (lv_at hl 0 rfl) ?_
              refine lv_dup hx hb dX2_goes_34 rfl ?_
              refine g_getM hX hM 13 (by decide) q2176 rfl (v := .int (nI u)) rfl dX2_goes_35 ?_
              refine lv_iconst (v := 1) hx hb dX2_goes_38 rfl ?_
              refine g_iaddN hx hb u 1 rfl rfl dX2_goes_39 ?_
              refine g_putM hX hM hS 13 (by decide) q2176 rfl rfl (x := (nI (u + 1))) rfl rfl (F' := p_F F (P.1, P.2.1, u + 1, P.2.2.2.1, P.2.2.2.2)) rfl dX2_goes_40 (fun H locs hM hS => ?_)
              refine lv_goto (tgt := 8) hx hb dX2_goes_43 (by decide) ?_
              exact ih8 H locs (u + 1) (by omega) (by omega) (by rw [← hqu]; exact q_sk_s (by omega) (by first | assumption | grind [q_sp])) (by omega) hM hS ls (lv_sub hl [0] rfl)
      exact L8 (n - P.2.2.1 + 1) H locs P.2.2.1 (by omega) (by omega) (by first | rfl | assumption) (Nat.lt_succ_self _) hM hS ls (lv_sub hl [0] rfl)
    · skip
      have eP : q_goes (Z 8) n P = P := by first | (exact q_goes_m (by omega)) | (unfold q_goes; rw [if_neg (by omega), ← hs9]; unfold q_tok; grind)
      rw [← eP] at hM
      exact hret H locs _ _ _ _ dX2_goes_7 hS (Nat.le_refl _) (Nat.le_refl _) (⟨rfl, hM⟩)
  exact key _ _ hM hS

theorem y_X2_numberHere : g_Y yX2_numberHere cX2_numberHere 3 (some .int) 2 := ⟨q2310, by decide +kernel⟩
theorem v_X2_numberHere : g_YV yX2_numberHere := ⟨q2309, qs50, q140⟩
set_option maxHeartbeats 4000000 in
theorem k_X2_numberHere {G : g_G} {l : Launch} {ad : Nat → Nat} {F : Nat → Int32} {X Y : g_Wd} {U V : Nat → g_Wd} {Z : g_Wd} (lo : Int32) (hi : Int32) (P : g_P) (n : Nat) (hn : F 12 = nI n) (hn4 : n ≤ 400) (hp : p_ok n P) : g_Md G l yX2_numberHere cX2_numberHere 3 (some .int) 1 0 0 [.ref (ad 0), .int lo, .int hi] (g_Mod G ad (p_F F P) X Y U V Z) (g_Qv (some (.int (q_nV (Z 8) P lo hi))) (g_Mod G ad (p_F F (q_nH (Z 8) P lo hi)) X Y U V Z)) (md_A ad) := by
  refine g_Md.ofI (by decide) (fun _ _ _ => rfl) ?_
  intro p e s m args below meth c ls Q hX hM hl hS hret
  have hx := hX.1.1
  have hb := hX.1.2.1
  have hl : lv_has ls 3 [(0, .ref (ad 0)), (1, .int lo), (2, .int hi)] := hl
  have key : ∀ (H : Heap) (locs : List Loc), g_Mod G ad (p_F F P) X Y U V Z H → va_S (md_A ad) s.heap H locs → W p l e (g_rm 1 0 0) s m args below meth c H locs 0 0 Q (F0 m 0 ls []) := by
    intro H locs hM hS
    have hpc : P.1 ≤ 3 := hp.1
    have hpu : P.2.2.1 ≤ n := hp.2.1
    have hps : P.2.2.2.1 ≤ P.2.2.1 := hp.2.2.1
    have hpt : P.2.2.2.2 ≤ 4 := hp.2.2.2.1
    refine lv_aload_n hx hb dX2_numberHere_0 rfl (lv_at hl 0 rfl) ?_
    refine lv_iconst (v := 3) hx hb dX2_numberHere_1 rfl ?_
    refine g_cRV hX hl y_X2_is v_X2_is q2293 (k_X2_is 3 P n hn hn4 (by first | exact hp | assumption) (by omega)) (hM.rc hX.2.2.2) hM rfl ⟨Nat.le_of_ble_eq_true rfl, Nat.le_of_ble_eq_true rfl⟩ ⟨Nat.zero_le _, Nat.zero_le _⟩ (rest := []) (st1 := [.int (g_b (q_is P 3))]) rfl rfl (Nat.le_of_ble_eq_true rfl) dX2_numberHere_2 ?_
    refine g_if_eqB (tgt := 21) hx hb (b := q_is P 3) rfl dX2_numberHere_5 (by decide) (fun c_5 => ?_) (fun c_5 => ?_)
    · skip
      refine lv_aload_n hx hb dX2_numberHere_21 rfl (lv_at hl 0 rfl) ?_
      refine lv_iconst (v := 1) hx hb dX2_numberHere_22 rfl ?_
      refine g_cMV hX hl y_X2_faults v_X2_faults q2299 (k_X2_faults 1 P n hn hn4 (by first | exact hp | assumption) (by omega)) (hM.rc hX.2.2.2) hM rfl ⟨Nat.le_of_ble_eq_true rfl, Nat.le_of_ble_eq_true rfl⟩ ⟨Nat.le_refl _, Nat.le_refl _⟩ (rest := []) (st1 := []) rfl rfl (Nat.le_of_ble_eq_true rfl) dX2_numberHere_23 hS (fun _ h => h) (fun H locs hM hS _ => ?_)
      refine lv_goto (tgt := 46) hx hb dX2_numberHere_26 (by decide) ?_
      have eH46 : q_nH (Z 8) P lo hi = (q_f P 1) := by unfold q_nH; grind
      rw [← eH46] at hM
      have hH := q_nH_ok (b := Z 8) (lo := lo) (hi := hi) hp
      have hH1 : (q_nH (Z 8) P lo hi).1 ≤ 3 := hH.1
      refine lv_aload_n hx hb dX2_numberHere_46 rfl (lv_at hl 0 rfl) ?_
      refine g_getM hX hM 10 (by decide) q2173 rfl (v := .int (nI ((q_nH (Z 8) P lo hi).1))) rfl dX2_numberHere_47 ?_
      refine g_if_leN (tgt := 57) hx hb ((q_nH (Z 8) P lo hi).1) rfl (by omega) dX2_numberHere_50 (by decide) (fun c_50 => ?_) (fun c_50 => ?_)
      · skip
        have h09 := q_nH_0 (b := Z 8) (P := P) (lo := lo) (hi := hi) (by omega)
        refine lv_aload_n hx hb dX2_numberHere_57 rfl (lv_at hl 0 rfl) ?_
        refine g_cRV hX hl y_X2_toldHere v_X2_toldHere q2311 (k_X2_toldHere (q_nH (Z 8) P lo hi) n hn hn4 hH (by rw [h09.1]; exact (hp.2.2.2.2 h09.2.2.1).1)) (hM.rc hX.2.2.2) hM rfl ⟨Nat.le_of_ble_eq_true rfl, Nat.le_of_ble_eq_true rfl⟩ ⟨Nat.zero_le _, Nat.zero_le _⟩ (rest := []) (st1 := [.int (q_told (Z 8) (q_nH (Z 8) P lo hi))]) rfl rfl (Nat.le_of_ble_eq_true rfl) dX2_numberHere_58 ?_
        exact hret H locs _ _ _ _ _ dX2_numberHere_61 hS (Nat.le_refl _) (Nat.le_refl _) (⟨by unfold q_nV; split <;> first | rfl | (exfalso; omega), hM⟩)
      · skip
        refine lv_iload_n hx hb dX2_numberHere_53 rfl (lv_at hl 1 rfl) ?_
        refine lv_goto (tgt := 61) hx hb dX2_numberHere_54 (by decide) ?_
        exact hret H locs _ _ _ _ _ dX2_numberHere_61 hS (Nat.le_refl _) (Nat.le_refl _) (⟨by unfold q_nV; split <;> first | rfl | (exfalso; omega), hM⟩)
    · skip
      have his := q_is_0 (by grind : q_is P 3 = true)
      have hlt9 := hp.2.2.2.2 his.2
      refine lv_aload_n hx hb dX2_numberHere_8 rfl (lv_at hl 0 rfl) ?_
      refine g_getM hX hM 13 (by decide) q2176 rfl (v := .int (nI P.2.2.1)) rfl dX2_numberHere_9 ?_
      refine lv_aload_n hx hb dX2_numberHere_12 rfl (lv_at hl 0 rfl) ?_
      refine g_getM hX hM 14 (by decide) q2177 rfl (v := .int (nI P.2.2.2.1)) rfl dX2_numberHere_13 ?_
      refine g_isubN hx hb P.2.2.1 P.2.2.2.1 rfl rfl (by omega) dX2_numberHere_16 ?_
      refine lv_iconst (v := 2) hx hb dX2_numberHere_17 rfl ?_
      refine g_icmp_leN (tgt := 29) hx hb (P.2.2.1 - P.2.2.2.1) 2 rfl rfl (by omega) (by omega) dX2_numberHere_18 (by decide) (fun c_18 => ?_) (fun c_18 => ?_)
      · skip
        refine lv_aload_n hx hb dX2_numberHere_29 rfl (lv_at hl 0 rfl) ?_
        refine g_cRV hX hl y_X2_toldHere v_X2_toldHere q2311 (k_X2_toldHere P n hn hn4 (by first | exact hp | assumption) hlt9.1) (hM.rc hX.2.2.2) hM rfl ⟨Nat.le_of_ble_eq_true rfl, Nat.le_of_ble_eq_true rfl⟩ ⟨Nat.zero_le _, Nat.zero_le _⟩ (rest := []) (st1 := [.int (q_told (Z 8) P)]) rfl rfl (Nat.le_of_ble_eq_true rfl) dX2_numberHere_30 ?_
        refine lv_iload_n hx hb dX2_numberHere_33 rfl (lv_at hl 1 rfl) ?_
        refine lv_iload_n hx hb dX2_numberHere_34 rfl (lv_at hl 2 rfl) ?_
        refine g_cRS hX hl y_X2_in v_X2_in q2258 (k_X2_in (q_told (Z 8) P) lo hi) trivial rfl ⟨Nat.le_of_ble_eq_true rfl, Nat.le_of_ble_eq_true rfl⟩ ⟨Nat.zero_le _, Nat.zero_le _⟩ (rest := []) (st1 := [.int (g_b (s_in (q_told (Z 8) P) lo hi))]) rfl rfl (Nat.le_of_ble_eq_true rfl) dX2_numberHere_35 ?_
        refine g_if_neB (tgt := 46) hx hb (b := s_in (q_told (Z 8) P) lo hi) rfl dX2_numberHere_38 (by decide) (fun c_38 => ?_) (fun c_38 => ?_)
        · skip
          have eH46 : q_nH (Z 8) P lo hi = P := by unfold q_nH; grind
          rw [← eH46] at hM
          have hH := q_nH_ok (b := Z 8) (lo := lo) (hi := hi) hp
          have hH1 : (q_nH (Z 8) P lo hi).1 ≤ 3 := hH.1
          refine lv_aload_n hx hb dX2_numberHere_46 rfl (lv_at hl 0 rfl) ?_
          refine g_getM hX hM 10 (by decide) q2173 rfl (v := .int (nI ((q_nH (Z 8) P lo hi).1))) rfl dX2_numberHere_47 ?_
          refine g_if_leN (tgt := 57) hx hb ((q_nH (Z 8) P lo hi).1) rfl (by omega) dX2_numberHere_50 (by decide) (fun c_50 => ?_) (fun c_50 => ?_)
          · skip
            have h09 := q_nH_0 (b := Z 8) (P := P) (lo := lo) (hi := hi) (by omega)
            refine lv_aload_n hx hb dX2_numberHere_57 rfl (lv_at hl 0 rfl) ?_
            refine g_cRV hX hl y_X2_toldHere v_X2_toldHere q2311 (k_X2_toldHere (q_nH (Z 8) P lo hi) n hn hn4 hH (by rw [h09.1]; exact (hp.2.2.2.2 h09.2.2.1).1)) (hM.rc hX.2.2.2) hM rfl ⟨Nat.le_of_ble_eq_true rfl, Nat.le_of_ble_eq_true rfl⟩ ⟨Nat.zero_le _, Nat.zero_le _⟩ (rest := []) (st1 := [.int (q_told (Z 8) (q_nH (Z 8) P lo hi))]) rfl rfl (Nat.le_of_ble_eq_true rfl) dX2_numberHere_58 ?_
            exact hret H locs _ _ _ _ _ dX2_numberHere_61 hS (Nat.le_refl _) (Nat.le_refl _) (⟨by unfold q_nV; split <;> first | rfl | (exfalso; omega), hM⟩)
          · skip
            refine lv_iload_n hx hb dX2_numberHere_53 rfl (lv_at hl 1 rfl) ?_
            refine lv_goto (tgt := 61) hx hb dX2_numberHere_54 (by decide) ?_
            exact hret H locs _ _ _ _ _ dX2_numberHere_61 hS (Nat.le_refl _) (Nat.le_refl _) (⟨by unfold q_nV; split <;> first | rfl | (exfalso; omega), hM⟩)
        · skip
          refine lv_aload_n hx hb dX2_numberHere_41 rfl (lv_at hl 0 rfl) ?_
          refine lv_iconst (v := 2) hx hb dX2_numberHere_42 rfl ?_
          refine g_cMV hX hl y_X2_faults v_X2_faults q2299 (k_X2_faults 2 P n hn hn4 (by first | exact hp | assumption) (by omega)) (hM.rc hX.2.2.2) hM rfl ⟨Nat.le_of_ble_eq_true rfl, Nat.le_of_ble_eq_true rfl⟩ ⟨Nat.le_refl _, Nat.le_refl _⟩ (rest := []) (st1 := []) rfl rfl (Nat.le_of_ble_eq_true rfl) dX2_numberHere_43 hS (fun _ h => h) (fun H locs hM hS _ => ?_)
          have eH46 : q_nH (Z 8) P lo hi = (q_f P 2) := by unfold q_nH; grind
          rw [← eH46] at hM
          have hH := q_nH_ok (b := Z 8) (lo := lo) (hi := hi) hp
          have hH1 : (q_nH (Z 8) P lo hi).1 ≤ 3 := hH.1
          refine lv_aload_n hx hb dX2_numberHere_46 rfl (lv_at hl 0 rfl) ?_
          refine g_getM hX hM 10 (by decide) q2173 rfl (v := .int (nI ((q_nH (Z 8) P lo hi).1))) rfl dX2_numberHere_47 ?_
          refine g_if_leN (tgt := 57) hx hb ((q_nH (Z 8) P lo hi).1) rfl (by omega) dX2_numberHere_50 (by decide) (fun c_50 => ?_) (fun c_50 => ?_)
          · skip
            have h09 := q_nH_0 (b := Z 8) (P := P) (lo := lo) (hi := hi) (by omega)
            refine lv_aload_n hx hb dX2_numberHere_57 rfl (lv_at hl 0 rfl) ?_
            refine g_cRV hX hl y_X2_toldHere v_X2_toldHere q2311 (k_X2_toldHere (q_nH (Z 8) P lo hi) n hn hn4 hH (by rw [h09.1]; exact (hp.2.2.2.2 h09.2.2.1).1)) (hM.rc hX.2.2.2) hM rfl ⟨Nat.le_of_ble_eq_true rfl, Nat.le_of_ble_eq_true rfl⟩ ⟨Nat.zero_le _, Nat.zero_le _⟩ (rest := []) (st1 := [.int (q_told (Z 8) (q_nH (Z 8) P lo hi))]) rfl rfl (Nat.le_of_ble_eq_true rfl) dX2_numberHere_58 ?_
            exact hret H locs _ _ _ _ _ dX2_numberHere_61 hS (Nat.le_refl _) (Nat.le_refl _) (⟨by unfold q_nV; split <;> first | rfl | (exfalso; omega), hM⟩)
          · skip
            refine lv_iload_n hx hb dX2_numberHere_53 rfl (lv_at hl 1 rfl) ?_
            refine lv_goto (tgt := 61) hx hb dX2_numberHere_54 (by decide) ?_
            exact hret H locs _ _ _ _ _ dX2_numberHere_61 hS (Nat.le_refl _) (Nat.le_refl _) (⟨by unfold q_nV; split <;> first | rfl | (exfalso; omega), hM⟩)
      · skip
        refine lv_aload_n hx hb dX2_numberHere_21 rfl (lv_at hl 0 rfl) ?_
        refine lv_iconst (v := 1) hx hb dX2_numberHere_22 rfl ?_
        refine g_cMV hX hl y_X2_faults v_X2_faults q2299 (k_X2_faults 1 P n hn hn4 (by first | exact hp | assumption) (by omega)) (hM.rc hX.2.2.2) hM rfl ⟨Nat.le_of_ble_eq_true rfl, Nat.le_of_ble_eq_true rfl⟩ ⟨Nat.le_refl _, Nat.le_refl _⟩ (rest := []) (st1 := []) rfl rfl (Nat.le_of_ble_eq_true rfl) dX2_numberHere_23 hS (fun _ h => h) (fun H locs hM hS _ => ?_)
        refine lv_goto (tgt := 46) hx hb dX2_numberHere_26 (by decide) ?_
        have eH46 : q_nH (Z 8) P lo hi = (q_f P 1) := by unfold q_nH; grind
        rw [← eH46] at hM
        have hH := q_nH_ok (b := Z 8) (lo := lo) (hi := hi) hp
        have hH1 : (q_nH (Z 8) P lo hi).1 ≤ 3 := hH.1
        refine lv_aload_n hx hb dX2_numberHere_46 rfl (lv_at hl 0 rfl) ?_
        refine g_getM hX hM 10 (by decide) q2173 rfl (v := .int (nI ((q_nH (Z 8) P lo hi).1))) rfl dX2_numberHere_47 ?_
        refine g_if_leN (tgt := 57) hx hb ((q_nH (Z 8) P lo hi).1) rfl (by omega) dX2_numberHere_50 (by decide) (fun c_50 => ?_) (fun c_50 => ?_)
        · skip
          have h09 := q_nH_0 (b := Z 8) (P := P) (lo := lo) (hi := hi) (by omega)
          refine lv_aload_n hx hb dX2_numberHere_57 rfl (lv_at hl 0 rfl) ?_
          refine g_cRV hX hl y_X2_toldHere v_X2_toldHere q2311 (k_X2_toldHere (q_nH (Z 8) P lo hi) n hn hn4 hH (by rw [h09.1]; exact (hp.2.2.2.2 h09.2.2.1).1)) (hM.rc hX.2.2.2) hM rfl ⟨Nat.le_of_ble_eq_true rfl, Nat.le_of_ble_eq_true rfl⟩ ⟨Nat.zero_le _, Nat.zero_le _⟩ (rest := []) (st1 := [.int (q_told (Z 8) (q_nH (Z 8) P lo hi))]) rfl rfl (Nat.le_of_ble_eq_true rfl) dX2_numberHere_58 ?_
          exact hret H locs _ _ _ _ _ dX2_numberHere_61 hS (Nat.le_refl _) (Nat.le_refl _) (⟨by unfold q_nV; split <;> first | rfl | (exfalso; omega), hM⟩)
        · skip
          refine lv_iload_n hx hb dX2_numberHere_53 rfl (lv_at hl 1 rfl) ?_
          refine lv_goto (tgt := 61) hx hb dX2_numberHere_54 (by decide) ?_
          exact hret H locs _ _ _ _ _ dX2_numberHere_61 hS (Nat.le_refl _) (Nat.le_refl _) (⟨by unfold q_nV; split <;> first | rfl | (exfalso; omega), hM⟩)
  exact key _ _ hM hS

theorem y_X2_number : g_Y yX2_number cX2_number 4 (some .int) 2 := ⟨q2306, by decide +kernel⟩
theorem v_X2_number : g_YV yX2_number := ⟨q2305, qs49, q140⟩
set_option maxHeartbeats 4000000 in
theorem k_X2_number {G : g_G} {l : Launch} {ad : Nat → Nat} {F : Nat → Int32} {X Y : g_Wd} {U V : Nat → g_Wd} {Z : g_Wd} (lo : Int32) (hi : Int32) (P : g_P) (n : Nat) (hn : F 12 = nI n) (hn4 : n ≤ 400) (hp : p_ok n P) : g_Md G l yX2_number cX2_number 4 (some .int) 3 0 0 [.ref (ad 0), .int lo, .int hi] (g_Mod G ad (p_F F P) X Y U V Z) (g_Qv (some (.int (q_nV (Z 8) P lo hi))) (g_Mod G ad (p_F F (q_num (Z 8) n P lo hi)) X Y U V Z)) (md_A ad) := by
  refine g_Md.ofI (by decide) (fun _ _ _ => rfl) ?_
  intro p e s m args below meth c ls Q hX hM hl hS hret
  have hx := hX.1.1
  have hb := hX.1.2.1
  have hl : lv_has ls 4 [(0, .ref (ad 0)), (1, .int lo), (2, .int hi)] := hl
  have key : ∀ (H : Heap) (locs : List Loc), g_Mod G ad (p_F F P) X Y U V Z H → va_S (md_A ad) s.heap H locs → W p l e (g_rm 3 0 0) s m args below meth c H locs 0 0 Q (F0 m 0 ls []) := by
    intro H locs hM hS
    have hpc : P.1 ≤ 3 := hp.1
    have hpu : P.2.2.1 ≤ n := hp.2.1
    have hps : P.2.2.2.1 ≤ P.2.2.1 := hp.2.2.1
    have hpt : P.2.2.2.2 ≤ 4 := hp.2.2.2.1
    refine lv_aload_n hx hb dX2_number_0 rfl (lv_at hl 0 rfl) ?_
    refine lv_iload_n hx hb dX2_number_1 rfl (lv_at hl 1 rfl) ?_
    refine lv_iload_n hx hb dX2_number_2 rfl (lv_at hl 2 rfl) ?_
    refine g_cMV hX hl y_X2_numberHere v_X2_numberHere q2307 (k_X2_numberHere lo hi P n hn hn4 (by first | exact hp | assumption)) (hM.rc hX.2.2.2) hM rfl ⟨Nat.le_of_ble_eq_true rfl, Nat.le_of_ble_eq_true rfl⟩ ⟨Nat.le_refl _, Nat.le_refl _⟩ (rest := []) (st1 := [.int (q_nV (Z 8) P lo hi)]) rfl rfl (Nat.le_of_ble_eq_true rfl) dX2_number_3 hS (fun _ h => h) (fun H locs hM hS _ => ?_)
    refine lv_istore_n (lv' := [(3, .int (q_nV (Z 8) P lo hi)), (0, .ref (ad 0)), (1, .int lo), (2, .int hi)]) hx hb dX2_number_6 rfl hl (by decide) rfl (fun ls hl => ?_)
    refine lv_aload_n hx hb dX2_number_7 rfl (lv_at hl 1 rfl) ?_
    refine g_cMV hX hl y_X2_goes v_X2_goes q2276 (k_X2_goes (q_nH (Z 8) P lo hi) n hn hn4 (p_ok.w (q_nH_ok hp))) (hM.rc hX.2.2.2) hM rfl ⟨Nat.le_of_ble_eq_true rfl, Nat.le_of_ble_eq_true rfl⟩ ⟨Nat.le_refl _, Nat.le_refl _⟩ (rest := []) (st1 := []) rfl rfl (Nat.le_of_ble_eq_true rfl) dX2_number_8 hS (fun _ h => h) (fun H locs hM hS _ => ?_)
    refine lv_iload_n hx hb dX2_number_11 rfl (lv_at hl 0 rfl) ?_
    have eP : q_num (Z 8) n P lo hi = (q_goes (Z 8) n (q_nH (Z 8) P lo hi)) := by rfl
    rw [← eP] at hM
    exact hret H locs _ _ _ _ _ dX2_number_12 hS (Nat.le_refl _) (Nat.le_refl _) (⟨rfl, hM⟩)
  exact key _ _ hM hS
