/-! THE MODEL: what only reads, first half -/
set_option maxRecDepth 100000
theorem y_X2_in : g_Y yX2_in cX2_in 3 (some .boolean) 3 := ⟨q2260, by decide +kernel⟩
theorem v_X2_in : g_YS yX2_in := ⟨q2259, q140⟩
set_option maxHeartbeats 4000000 in
theorem k_X2_in {G : g_G} {l : Launch} (v : Int32) (lo : Int32) (hi : Int32)  : g_Rd G l yX2_in cX2_in 3 (some .boolean) 0 [.int v, .int lo, .int hi] (fun _ => True) (some (.int (g_b (s_in v lo hi)))) := by
  refine g_Rd.ofI (by decide) (by cases (s_in v lo hi) <;> rfl) ?_
  intro p e s m args below meth c ls Q hX hM hl hret
  have hx := hX.1.1
  have hb := hX.1.2.1
  have hl : lv_has ls 3 [(0, .int v), (1, .int lo), (2, .int hi)] := hl
  refine lv_iload_n hx hb dX2_in_0 rfl (lv_at hl 1 rfl) ?_
  refine lv_iload_n hx hb dX2_in_1 rfl (lv_at hl 0 rfl) ?_
  refine lv_icmp_gt (tgt := 14) hx hb dX2_in_2 (by decide) (fun c_2 => ?_) (fun c_2 => ?_)
  · skip
    refine lv_iconst (v := 0) hx hb dX2_in_14 rfl ?_
    exact hret _ _ _ dX2_in_15 (by grind [s_in, g_b])
  · skip
    refine lv_iload_n hx hb dX2_in_5 rfl (lv_at hl 0 rfl) ?_
    refine lv_iload_n hx hb dX2_in_6 rfl (lv_at hl 2 rfl) ?_
    refine lv_icmp_gt (tgt := 14) hx hb dX2_in_7 (by decide) (fun c_7 => ?_) (fun c_7 => ?_)
    · skip
      refine lv_iconst (v := 0) hx hb dX2_in_14 rfl ?_
      exact hret _ _ _ dX2_in_15 (by grind [s_in, g_b])
    · skip
      refine lv_iconst (v := 1) hx hb dX2_in_10 rfl ?_
      refine lv_goto (tgt := 15) hx hb dX2_in_11 (by decide) ?_
      exact hret _ _ _ dX2_in_15 (by grind [s_in, g_b])

theorem y_X2_one : g_Y yX2_one cX2_one 1 (some .int) 1 := ⟨q2388, by decide +kernel⟩
theorem v_X2_one : g_YS yX2_one := ⟨q2387, q140⟩
set_option maxHeartbeats 4000000 in
theorem k_X2_one {G : g_G} {l : Launch} (b : Bool)  : g_Rd G l yX2_one cX2_one 1 (some .int) 0 [.int (g_b b)] (fun _ => True) (some (.int (nI (s_n b)))) := by
  refine g_Rd.ofI (by decide) rfl ?_
  intro p e s m args below meth c ls Q hX hM hl hret
  have hx := hX.1.1
  have hb := hX.1.2.1
  have hl : lv_has ls 1 [(0, .int (g_b b))] := hl
  refine lv_iload_n hx hb dX2_one_0 rfl (lv_at hl 0 rfl) ?_
  refine g_if_eqB (tgt := 8) hx hb (b := b) rfl dX2_one_1 (by decide) (fun c_1 => ?_) (fun c_1 => ?_)
  · skip
    refine lv_iconst (v := 0) hx hb dX2_one_8 rfl ?_
    exact hret _ _ _ dX2_one_9 (by subst_vars; rfl)
  · skip
    refine lv_iconst (v := 1) hx hb dX2_one_4 rfl ?_
    refine lv_goto (tgt := 9) hx hb dX2_one_5 (by decide) ?_
    exact hret _ _ _ dX2_one_9 (by subst_vars; rfl)

theorem y_X2_wireOf : g_Y yX2_wireOf cX2_wireOf 3 (some .int) 3 := ⟨q2326, by decide +kernel⟩
theorem v_X2_wireOf : g_YS yX2_wireOf := ⟨q2325, q140⟩
set_option maxHeartbeats 4000000 in
theorem k_X2_wireOf {G : g_G} {l : Launch} (k : Nat) (a : Nat) (b : Nat)  : g_Rd G l yX2_wireOf cX2_wireOf 3 (some .int) 0 [.int (nI k), .int (nI a), .int (nI b)] (fun _ => True) (some (.int (nI (9 * k + 3 * a + b)))) := by
  refine g_Rd.ofI (by decide) rfl ?_
  intro p e s m args below meth c ls Q hX hM hl hret
  have hx := hX.1.1
  have hb := hX.1.2.1
  have hl : lv_has ls 3 [(0, .int (nI k)), (1, .int (nI a)), (2, .int (nI b))] := hl
  refine lv_bipush (v := 9) hx hb dX2_wireOf_0 (by decide) ?_
  refine lv_iload_n hx hb dX2_wireOf_2 rfl (lv_at hl 0 rfl) ?_
  refine g_imulN hx hb 9 k rfl rfl dX2_wireOf_3 ?_
  refine lv_iconst (v := 3) hx hb dX2_wireOf_4 rfl ?_
  refine lv_iload_n hx hb dX2_wireOf_5 rfl (lv_at hl 1 rfl) ?_
  refine g_imulN hx hb 3 a rfl rfl dX2_wireOf_6 ?_
  refine g_iaddN hx hb (9 * k) (3 * a) rfl rfl dX2_wireOf_7 ?_
  refine lv_iload_n hx hb dX2_wireOf_8 rfl (lv_at hl 2 rfl) ?_
  refine g_iaddN hx hb (9 * k + 3 * a) b rfl rfl dX2_wireOf_9 ?_
  exact hret _ _ _ dX2_wireOf_10 (rfl)

theorem y_X2_isTen : g_Y yX2_isTen cX2_isTen 1 (some .boolean) 1 := ⟨q2531, by decide +kernel⟩
theorem v_X2_isTen : g_YS yX2_isTen := ⟨q2530, q140⟩
set_option maxHeartbeats 4000000 in
theorem k_X2_isTen {G : g_G} {l : Launch} (v : Int32)  : g_Rd G l yX2_isTen cX2_isTen 1 (some .boolean) 1 [.int v] (fun _ => True) (some (.int (g_b (s_in v 0 9)))) := by
  refine g_Rd.ofI (by decide) (by cases (s_in v 0 9) <;> rfl) ?_
  intro p e s m args below meth c ls Q hX hM hl hret
  have hx := hX.1.1
  have hb := hX.1.2.1
  have hl : lv_has ls 1 [(0, .int v)] := hl
  refine lv_iload_n hx hb dX2_isTen_0 rfl (lv_at hl 0 rfl) ?_
  refine lv_iconst (v := 0) hx hb dX2_isTen_1 rfl ?_
  refine lv_bipush (v := 9) hx hb dX2_isTen_2 (by decide) ?_
  refine g_cRS hX hl y_X2_in v_X2_in q2258 (k_X2_in v 0 9) trivial rfl ⟨Nat.le_of_ble_eq_true rfl, Nat.le_of_ble_eq_true rfl⟩ ⟨Nat.zero_le _, Nat.zero_le _⟩ (rest := []) (st1 := [.int (g_b (s_in v 0 9))]) rfl rfl (Nat.le_of_ble_eq_true rfl) dX2_isTen_4 ?_
  exact hret _ _ _ dX2_isTen_7 (rfl)

theorem y_X2_isSlot : g_Y yX2_isSlot cX2_isSlot 1 (some .boolean) 1 := ⟨q2897, by decide +kernel⟩
theorem v_X2_isSlot : g_YS yX2_isSlot := ⟨q2896, q140⟩
set_option maxHeartbeats 4000000 in
theorem k_X2_isSlot {G : g_G} {l : Launch} (v : Int32)  : g_Rd G l yX2_isSlot cX2_isSlot 1 (some .boolean) 1 [.int v] (fun _ => True) (some (.int (g_b (s_in v 0 1)))) := by
  refine g_Rd.ofI (by decide) (by cases (s_in v 0 1) <;> rfl) ?_
  intro p e s m args below meth c ls Q hX hM hl hret
  have hx := hX.1.1
  have hb := hX.1.2.1
  have hl : lv_has ls 1 [(0, .int v)] := hl
  refine lv_iload_n hx hb dX2_isSlot_0 rfl (lv_at hl 0 rfl) ?_
  refine lv_iconst (v := 0) hx hb dX2_isSlot_1 rfl ?_
  refine lv_iconst (v := 1) hx hb dX2_isSlot_2 rfl ?_
  refine g_cRS hX hl y_X2_in v_X2_in q2258 (k_X2_in v 0 1) trivial rfl ⟨Nat.le_of_ble_eq_true rfl, Nat.le_of_ble_eq_true rfl⟩ ⟨Nat.zero_le _, Nat.zero_le _⟩ (rest := []) (st1 := [.int (g_b (s_in v 0 1))]) rfl rfl (Nat.le_of_ble_eq_true rfl) dX2_isSlot_3 ?_
  exact hret _ _ _ dX2_isSlot_6 (rfl)

theorem y_X2_voted : g_Y yX2_voted cX2_voted 3 (some .int) 3 := ⟨q2439, by decide +kernel⟩
theorem v_X2_voted : g_YS yX2_voted := ⟨q2438, q140⟩
set_option maxHeartbeats 4000000 in
theorem k_X2_voted {G : g_G} {l : Launch} (a : Int32) (b : Int32) (c0 : Int32)  : g_Rd G l yX2_voted cX2_voted 3 (some .int) 0 [.int a, .int b, .int c0] (fun _ => True) (some (.int (s_vote a b c0))) := by
  refine g_Rd.ofI (by decide) rfl ?_
  intro p e s m args below meth c ls Q hX hM hl hret
  have hx := hX.1.1
  have hb := hX.1.2.1
  have hl : lv_has ls 3 [(0, .int a), (1, .int b), (2, .int c0)] := hl
  refine lv_iload_n hx hb dX2_voted_0 rfl (lv_at hl 0 rfl) ?_
  refine lv_iconst (v := (-1)) hx hb dX2_voted_1 rfl ?_
  refine lv_icmp_eq (tgt := 17) hx hb dX2_voted_2 (by decide) (fun c_2 => ?_) (fun c_2 => ?_)
  · skip
    refine lv_iload_n hx hb dX2_voted_17 rfl (lv_at hl 1 rfl) ?_
    refine lv_iconst (v := (-1)) hx hb dX2_voted_18 rfl ?_
    refine lv_icmp_eq (tgt := 31) hx hb dX2_voted_19 (by decide) (fun c_19 => ?_) (fun c_19 => ?_)
    · skip
      refine lv_iconst (v := (-1)) hx hb dX2_voted_31 rfl ?_
      exact hret _ _ _ dX2_voted_32 (by grind [s_vote])
    · skip
      refine lv_iload_n hx hb dX2_voted_22 rfl (lv_at hl 1 rfl) ?_
      refine lv_iload_n hx hb dX2_voted_23 rfl (lv_at hl 2 rfl) ?_
      refine lv_icmp_ne (tgt := 31) hx hb dX2_voted_24 (by decide) (fun c_24 => ?_) (fun c_24 => ?_)
      · skip
        refine lv_iconst (v := (-1)) hx hb dX2_voted_31 rfl ?_
        exact hret _ _ _ dX2_voted_32 (by grind [s_vote])
      · skip
        refine lv_iload_n hx hb dX2_voted_27 rfl (lv_at hl 1 rfl) ?_
        refine lv_goto (tgt := 32) hx hb dX2_voted_28 (by decide) ?_
        exact hret _ _ _ dX2_voted_32 (by grind [s_vote])
  · skip
    refine lv_iload_n hx hb dX2_voted_5 rfl (lv_at hl 0 rfl) ?_
    refine lv_iload_n hx hb dX2_voted_6 rfl (lv_at hl 1 rfl) ?_
    refine lv_icmp_eq (tgt := 15) hx hb dX2_voted_7 (by decide) (fun c_7 => ?_) (fun c_7 => ?_)
    · skip
      refine lv_iload_n hx hb dX2_voted_15 rfl (lv_at hl 0 rfl) ?_
      exact hret _ _ _ dX2_voted_16 (by grind [s_vote])
    · skip
      refine lv_iload_n hx hb dX2_voted_10 rfl (lv_at hl 0 rfl) ?_
      refine lv_iload_n hx hb dX2_voted_11 rfl (lv_at hl 2 rfl) ?_
      refine lv_icmp_ne (tgt := 17) hx hb dX2_voted_12 (by decide) (fun c_12 => ?_) (fun c_12 => ?_)
      · skip
        refine lv_iload_n hx hb dX2_voted_17 rfl (lv_at hl 1 rfl) ?_
        refine lv_iconst (v := (-1)) hx hb dX2_voted_18 rfl ?_
        refine lv_icmp_eq (tgt := 31) hx hb dX2_voted_19 (by decide) (fun c_19 => ?_) (fun c_19 => ?_)
        · skip
          refine lv_iconst (v := (-1)) hx hb dX2_voted_31 rfl ?_
          exact hret _ _ _ dX2_voted_32 (by grind [s_vote])
        · skip
          refine lv_iload_n hx hb dX2_voted_22 rfl (lv_at hl 1 rfl) ?_
          refine lv_iload_n hx hb dX2_voted_23 rfl (lv_at hl 2 rfl) ?_
          refine lv_icmp_ne (tgt := 31) hx hb dX2_voted_24 (by decide) (fun c_24 => ?_) (fun c_24 => ?_)
          · skip
            refine lv_iconst (v := (-1)) hx hb dX2_voted_31 rfl ?_
            exact hret _ _ _ dX2_voted_32 (by grind [s_vote])
          · skip
            refine lv_iload_n hx hb dX2_voted_27 rfl (lv_at hl 1 rfl) ?_
            refine lv_goto (tgt := 32) hx hb dX2_voted_28 (by decide) ?_
            exact hret _ _ _ dX2_voted_32 (by grind [s_vote])
      · skip
        refine lv_iload_n hx hb dX2_voted_15 rfl (lv_at hl 0 rfl) ?_
        exact hret _ _ _ dX2_voted_16 (by grind [s_vote])

theorem y_X2_of : g_Y yX2_of cX2_of 3 (some .int) 2 := ⟨q2368, by decide +kernel⟩
theorem v_X2_of : g_YV yX2_of := ⟨q2367, qs63, q140⟩
set_option maxHeartbeats 4000000 in
theorem k_X2_of {G : g_G} {l : Launch} {ad : Nat → Nat} {F : Nat → Int32} {X Y : g_Wd} {U V : Nat → g_Wd} {Z : g_Wd} (m0 : Nat) (k : Nat) (hm0 : m0 < 6) (hk : k < 197) : g_Rd G l yX2_of cX2_of 3 (some .int) 0 [.ref (ad 0), .int (nI m0), .int (nI k)] (g_Mod G ad F X Y U V Z) (some (.int (X (3 + m0) k))) := by
  refine g_Rd.ofI (by decide) rfl ?_
  intro p e s m args below meth c ls Q hX hM hl hret
  have hx := hX.1.1
  have hb := hX.1.2.1
  have hl : lv_has ls 3 [(0, .ref (ad 0)), (1, .int (nI m0)), (2, .int (nI k))] := hl
  refine lv_aload_n hx hb dX2_of_0 rfl (lv_at hl 0 rfl) ?_
  refine g_getM hX hM 1 (by decide) q2164 rfl (v := .ref (ad 1)) rfl dX2_of_1 ?_
  refine lv_sipush (v := 234) hx hb dX2_of_4 (by decide) ?_
  refine lv_sipush (v := 197) hx hb dX2_of_7 (by decide) ?_
  refine lv_iload_n hx hb dX2_of_10 rfl (lv_at hl 1 rfl) ?_
  refine g_imulN hx hb 197 m0 rfl rfl dX2_of_11 ?_
  refine g_iaddN hx hb 234 (197 * m0) rfl rfl dX2_of_12 ?_
  refine lv_iload_n hx hb dX2_of_13 rfl (lv_at hl 2 rfl) ?_
  refine g_iaddN hx hb (234 + 197 * m0) k rfl rfl dX2_of_14 ?_
  refine g_iald hX hM.a1 (234 + 197 * m0 + k) rfl (by omega) (by decide) (v := (X (3 + m0) k)) (g_fl3 _ (by omega) (by omega)) dX2_of_15 ?_
  exact hret _ _ _ dX2_of_16 (rfl)

theorem y_X2_ofWire : g_Y yX2_ofWire cX2_ofWire 3 (some .int) 2 := ⟨q2343, by decide +kernel⟩
theorem v_X2_ofWire : g_YV yX2_ofWire := ⟨q2342, qs57, q140⟩
set_option maxHeartbeats 4000000 in
theorem k_X2_ofWire {G : g_G} {l : Launch} {ad : Nat → Nat} {F : Nat → Int32} {X Y : g_Wd} {U V : Nat → g_Wd} {Z : g_Wd} (w : Nat) (k : Nat) (hw : w < 45) (hk : k < 5) : g_Rd G l yX2_ofWire cX2_ofWire 3 (some .int) 0 [.ref (ad 0), .int (nI w), .int (nI k)] (g_Mod G ad F X Y U V Z) (some (.int (X 1 (5 * w + k)))) := by
  refine g_Rd.ofI (by decide) rfl ?_
  intro p e s m args below meth c ls Q hX hM hl hret
  have hx := hX.1.1
  have hb := hX.1.2.1
  have hl : lv_has ls 3 [(0, .ref (ad 0)), (1, .int (nI w)), (2, .int (nI k))] := hl
  refine lv_aload_n hx hb dX2_ofWire_0 rfl (lv_at hl 0 rfl) ?_
  refine g_getM hX hM 1 (by decide) q2164 rfl (v := .ref (ad 1)) rfl dX2_ofWire_1 ?_
  refine lv_bipush (v := 9) hx hb dX2_ofWire_4 (by decide) ?_
  refine lv_iconst (v := 5) hx hb dX2_ofWire_6 rfl ?_
  refine lv_iload_n hx hb dX2_ofWire_7 rfl (lv_at hl 1 rfl) ?_
  refine g_imulN hx hb 5 w rfl rfl dX2_ofWire_8 ?_
  refine g_iaddN hx hb 9 (5 * w) rfl rfl dX2_ofWire_9 ?_
  refine lv_iload_n hx hb dX2_ofWire_10 rfl (lv_at hl 2 rfl) ?_
  refine g_iaddN hx hb (9 + 5 * w) k rfl rfl dX2_ofWire_11 ?_
  refine g_iald hX hM.a1 (9 + 5 * w + k) rfl (by omega) (by decide) (v := (X 1 (5 * w + k))) (g_flw _ (by omega)) dX2_ofWire_12 ?_
  exact hret _ _ _ dX2_ofWire_13 (rfl)

theorem y_X2_hasAt : g_Y yX2_hasAt cX2_hasAt 4 (some .int) 3 := ⟨q2408, by decide +kernel⟩
theorem v_X2_hasAt : g_YV yX2_hasAt := ⟨q2407, qs72, q140⟩
set_option maxHeartbeats 4000000 in
theorem k_X2_hasAt {G : g_G} {l : Launch} {ad : Nat → Nat} {F : Nat → Int32} {X Y : g_Wd} {U V : Nat → g_Wd} {Z : g_Wd} (m0 : Nat) (i : Nat) (p0 : Nat) (hm0 : m0 < 6) (hi : i < 3) (hp0 : p0 < 12) : g_Rd G l yX2_hasAt cX2_hasAt 4 (some .int) 1 [.ref (ad 0), .int (nI m0), .int (nI i), .int (nI p0)] (g_Mod G ad F X Y U V Z) (some (.int (s_has (X (3 + m0)) i p0))) := by
  refine g_Rd.ofI (by decide) rfl ?_
  intro p e s m args below meth c ls Q hX hM hl hret
  have hx := hX.1.1
  have hb := hX.1.2.1
  have hl : lv_has ls 4 [(0, .ref (ad 0)), (1, .int (nI m0)), (2, .int (nI i)), (3, .int (nI p0))] := hl
  refine lv_aload_n hx hb dX2_hasAt_0 rfl (lv_at hl 0 rfl) ?_
  refine lv_iload_n hx hb dX2_hasAt_1 rfl (lv_at hl 1 rfl) ?_
  refine lv_bipush (v := 17) hx hb dX2_hasAt_2 (by decide) ?_
  refine lv_bipush (v := 12) hx hb dX2_hasAt_4 (by decide) ?_
  refine lv_iload_n hx hb dX2_hasAt_6 rfl (lv_at hl 2 rfl) ?_
  refine g_imulN hx hb 12 i rfl rfl dX2_hasAt_7 ?_
  refine g_iaddN hx hb 17 (12 * i) rfl rfl dX2_hasAt_8 ?_
  refine lv_iload_n hx hb dX2_hasAt_9 rfl (lv_at hl 3 rfl) ?_
  refine g_iaddN hx hb (17 + 12 * i) p0 rfl rfl dX2_hasAt_10 ?_
  refine g_cRV hX hl y_X2_of v_X2_of q2365 (k_X2_of m0 (17 + 12 * i + p0) (by omega) (by omega)) (hM.rc hX.2.2.2) hM rfl ⟨Nat.le_of_ble_eq_true rfl, Nat.le_of_ble_eq_true rfl⟩ ⟨Nat.zero_le _, Nat.zero_le _⟩ (rest := []) (st1 := [.int (X (3 + m0) (17 + 12 * i + p0))]) rfl rfl (Nat.le_of_ble_eq_true rfl) dX2_hasAt_11 ?_
  exact hret _ _ _ dX2_hasAt_14 (rfl)

theorem y_X2_copyAt : g_Y yX2_copyAt cX2_copyAt 5 (some .int) 4 := ⟨q2436, by decide +kernel⟩
theorem v_X2_copyAt : g_YV yX2_copyAt := ⟨q2435, qs79, q140⟩
set_option maxHeartbeats 4000000 in
theorem k_X2_copyAt {G : g_G} {l : Launch} {ad : Nat → Nat} {F : Nat → Int32} {X Y : g_Wd} {U V : Nat → g_Wd} {Z : g_Wd} (m0 : Nat) (i : Nat) (p0 : Nat) (f : Nat) (hm0 : m0 < 6) (hi : i < 3) (hp0 : p0 < 12) (hf : f < 3) : g_Rd G l yX2_copyAt cX2_copyAt 5 (some .int) 1 [.ref (ad 0), .int (nI m0), .int (nI i), .int (nI p0), .int (nI f)] (g_Mod G ad F X Y U V Z) (some (.int (s_cpy (X (3 + m0)) i p0 f))) := by
  refine g_Rd.ofI (by decide) rfl ?_
  intro p e s m args below meth c ls Q hX hM hl hret
  have hx := hX.1.1
  have hb := hX.1.2.1
  have hl : lv_has ls 5 [(0, .ref (ad 0)), (1, .int (nI m0)), (2, .int (nI i)), (3, .int (nI p0)), (4, .int (nI f))] := hl
  refine lv_aload_n hx hb dX2_copyAt_0 rfl (lv_at hl 0 rfl) ?_
  refine lv_iload_n hx hb dX2_copyAt_1 rfl (lv_at hl 1 rfl) ?_
  refine lv_bipush (v := 89) hx hb dX2_copyAt_2 (by decide) ?_
  refine lv_iconst (v := 3) hx hb dX2_copyAt_4 rfl ?_
  refine lv_bipush (v := 12) hx hb dX2_copyAt_5 (by decide) ?_
  refine lv_iload_n hx hb dX2_copyAt_7 rfl (lv_at hl 2 rfl) ?_
  refine g_imulN hx hb 12 i rfl rfl dX2_copyAt_8 ?_
  refine lv_iload_n hx hb dX2_copyAt_9 rfl (lv_at hl 3 rfl) ?_
  refine g_iaddN hx hb (12 * i) p0 rfl rfl dX2_copyAt_10 ?_
  refine g_imulN hx hb 3 (12 * i + p0) rfl rfl dX2_copyAt_11 ?_
  refine g_iaddN hx hb 89 (3 * (12 * i + p0)) rfl rfl dX2_copyAt_12 ?_
  refine lv_iload hx hb dX2_copyAt_13 (lv_at hl 4 rfl) ?_
  refine g_iaddN hx hb (89 + 3 * (12 * i + p0)) f rfl rfl dX2_copyAt_15 ?_
  refine g_cRV hX hl y_X2_of v_X2_of q2365 (k_X2_of m0 (89 + 3 * (12 * i + p0) + f) (by omega) (by omega)) (hM.rc hX.2.2.2) hM rfl ⟨Nat.le_of_ble_eq_true rfl, Nat.le_of_ble_eq_true rfl⟩ ⟨Nat.zero_le _, Nat.zero_le _⟩ (rest := []) (st1 := [.int (X (3 + m0) (89 + 3 * (12 * i + p0) + f))]) rfl rfl (Nat.le_of_ble_eq_true rfl) dX2_copyAt_16 ?_
  exact hret _ _ _ dX2_copyAt_19 (rfl)

theorem y_X2_digitAt : g_Y yX2_digitAt cX2_digitAt 3 (some .int) 2 := ⟨q2579, by decide +kernel⟩
theorem v_X2_digitAt : g_YV yX2_digitAt := ⟨q2578, qs103, q140⟩
set_option maxHeartbeats 4000000 in
theorem k_X2_digitAt {G : g_G} {l : Launch} {ad : Nat → Nat} {F : Nat → Int32} {X Y : g_Wd} {U V : Nat → g_Wd} {Z : g_Wd} (m0 : Nat) (p0 : Nat) (hm0 : m0 < 6) (hp0 : p0 < 12) : g_Rd G l yX2_digitAt cX2_digitAt 3 (some .int) 1 [.ref (ad 0), .int (nI m0), .int (nI p0)] (g_Mod G ad F X Y U V Z) (some (.int (s_dig (X (3 + m0)) p0))) := by
  refine g_Rd.ofI (by decide) rfl ?_
  intro p e s m args below meth c ls Q hX hM hl hret
  have hx := hX.1.1
  have hb := hX.1.2.1
  have hl : lv_has ls 3 [(0, .ref (ad 0)), (1, .int (nI m0)), (2, .int (nI p0))] := hl
  refine lv_aload_n hx hb dX2_digitAt_0 rfl (lv_at hl 0 rfl) ?_
  refine lv_iload_n hx hb dX2_digitAt_1 rfl (lv_at hl 1 rfl) ?_
  refine lv_iconst (v := 5) hx hb dX2_digitAt_2 rfl ?_
  refine lv_iload_n hx hb dX2_digitAt_3 rfl (lv_at hl 2 rfl) ?_
  refine g_iaddN hx hb 5 p0 rfl rfl dX2_digitAt_4 ?_
  refine g_cRV hX hl y_X2_of v_X2_of q2365 (k_X2_of m0 (5 + p0) (by omega) (by omega)) (hM.rc hX.2.2.2) hM rfl ⟨Nat.le_of_ble_eq_true rfl, Nat.le_of_ble_eq_true rfl⟩ ⟨Nat.zero_le _, Nat.zero_le _⟩ (rest := []) (st1 := [.int (X (3 + m0) (5 + p0))]) rfl rfl (Nat.le_of_ble_eq_true rfl) dX2_digitAt_5 ?_
  exact hret _ _ _ dX2_digitAt_8 (rfl)

theorem y_X2_votedAt : g_Y yX2_votedAt cX2_votedAt 4 (some .int) 3 := ⟨q2432, by decide +kernel⟩
theorem v_X2_votedAt : g_YV yX2_votedAt := ⟨q2431, qs78, q140⟩
set_option maxHeartbeats 4000000 in
theorem k_X2_votedAt {G : g_G} {l : Launch} {ad : Nat → Nat} {F : Nat → Int32} {X Y : g_Wd} {U V : Nat → g_Wd} {Z : g_Wd} (m0 : Nat) (i : Nat) (p0 : Nat) (hm0 : m0 < 6) (hi : i < 3) (hp0 : p0 < 12) : g_Rd G l yX2_votedAt cX2_votedAt 4 (some .int) 2 [.ref (ad 0), .int (nI m0), .int (nI i), .int (nI p0)] (g_Mod G ad F X Y U V Z) (some (.int (s_votedAt (X (3 + m0)) i p0))) := by
  refine g_Rd.ofI (by decide) rfl ?_
  intro p e s m args below meth c ls Q hX hM hl hret
  have hx := hX.1.1
  have hb := hX.1.2.1
  have hl : lv_has ls 4 [(0, .ref (ad 0)), (1, .int (nI m0)), (2, .int (nI i)), (3, .int (nI p0))] := hl
  refine lv_aload_n hx hb dX2_votedAt_0 rfl (lv_at hl 0 rfl) ?_
  refine lv_iload_n hx hb dX2_votedAt_1 rfl (lv_at hl 1 rfl) ?_
  refine lv_iload_n hx hb dX2_votedAt_2 rfl (lv_at hl 2 rfl) ?_
  refine lv_iload_n hx hb dX2_votedAt_3 rfl (lv_at hl 3 rfl) ?_
  refine lv_iconst (v := 0) hx hb dX2_votedAt_4 rfl ?_
  refine g_cRV hX hl y_X2_copyAt v_X2_copyAt q2433 (k_X2_copyAt m0 i p0 0 (by omega) (by omega) (by omega) (by omega)) (hM.rc hX.2.2.2) hM rfl ⟨Nat.le_of_ble_eq_true rfl, Nat.le_of_ble_eq_true rfl⟩ ⟨Nat.zero_le _, Nat.zero_le _⟩ (rest := []) (st1 := [.int (s_cpy (X (3 + m0)) i p0 0)]) rfl rfl (Nat.le_of_ble_eq_true rfl) dX2_votedAt_5 ?_
  refine lv_aload_n hx hb dX2_votedAt_8 rfl (lv_at hl 0 rfl) ?_
  refine lv_iload_n hx hb dX2_votedAt_9 rfl (lv_at hl 1 rfl) ?_
  refine lv_iload_n hx hb dX2_votedAt_10 rfl (lv_at hl 2 rfl) ?_
  refine lv_iload_n hx hb dX2_votedAt_11 rfl (lv_at hl 3 rfl) ?_
  refine lv_iconst (v := 1) hx hb dX2_votedAt_12 rfl ?_
  refine g_cRV hX hl y_X2_copyAt v_X2_copyAt q2433 (k_X2_copyAt m0 i p0 1 (by omega) (by omega) (by omega) (by omega)) (hM.rc hX.2.2.2) hM rfl ⟨Nat.le_of_ble_eq_true rfl, Nat.le_of_ble_eq_true rfl⟩ ⟨Nat.zero_le _, Nat.zero_le _⟩ (rest := [.int (s_cpy (X (3 + m0)) i p0 0)]) (st1 := [.int (s_cpy (X (3 + m0)) i p0 1), .int (s_cpy (X (3 + m0)) i p0 0)]) rfl rfl (Nat.le_of_ble_eq_true rfl) dX2_votedAt_13 ?_
  refine lv_aload_n hx hb dX2_votedAt_16 rfl (lv_at hl 0 rfl) ?_
  refine lv_iload_n hx hb dX2_votedAt_17 rfl (lv_at hl 1 rfl) ?_
  refine lv_iload_n hx hb dX2_votedAt_18 rfl (lv_at hl 2 rfl) ?_
  refine lv_iload_n hx hb dX2_votedAt_19 rfl (lv_at hl 3 rfl) ?_
  refine lv_iconst (v := 2) hx hb dX2_votedAt_20 rfl ?_
  refine g_cRV hX hl y_X2_copyAt v_X2_copyAt q2433 (k_X2_copyAt m0 i p0 2 (by omega) (by omega) (by omega) (by omega)) (hM.rc hX.2.2.2) hM rfl ⟨Nat.le_of_ble_eq_true rfl, Nat.le_of_ble_eq_true rfl⟩ ⟨Nat.zero_le _, Nat.zero_le _⟩ (rest := [.int (s_cpy (X (3 + m0)) i p0 1), .int (s_cpy (X (3 + m0)) i p0 0)]) (st1 := [.int (s_cpy (X (3 + m0)) i p0 2), .int (s_cpy (X (3 + m0)) i p0 1), .int (s_cpy (X (3 + m0)) i p0 0)]) rfl rfl (Nat.le_of_ble_eq_true rfl) dX2_votedAt_21 ?_
  refine g_cRS hX hl y_X2_voted v_X2_voted q2437 (k_X2_voted (s_cpy (X (3 + m0)) i p0 0) (s_cpy (X (3 + m0)) i p0 1) (s_cpy (X (3 + m0)) i p0 2)) trivial rfl ⟨Nat.le_of_ble_eq_true rfl, Nat.le_of_ble_eq_true rfl⟩ ⟨Nat.zero_le _, Nat.zero_le _⟩ (rest := []) (st1 := [.int (s_vote (s_cpy (X (3 + m0)) i p0 0) (s_cpy (X (3 + m0)) i p0 1) (s_cpy (X (3 + m0)) i p0 2))]) rfl rfl (Nat.le_of_ble_eq_true rfl) dX2_votedAt_24 ?_
  exact hret _ _ _ dX2_votedAt_27 (rfl)

theorem y_X2_believedAt : g_Y yX2_believedAt cX2_believedAt 3 (some .int) 2 := ⟨q2631, by decide +kernel⟩
theorem v_X2_believedAt : g_YV yX2_believedAt := ⟨q2630, qs109, q140⟩
set_option maxHeartbeats 4000000 in
theorem k_X2_believedAt {G : g_G} {l : Launch} {ad : Nat → Nat} {F : Nat → Int32} {X Y : g_Wd} {U V : Nat → g_Wd} {Z : g_Wd} (m0 : Nat) (p0 : Nat) (hm0 : m0 < 6) (hp0 : p0 < 12) : g_Rd G l yX2_believedAt cX2_believedAt 3 (some .int) 2 [.ref (ad 0), .int (nI m0), .int (nI p0)] (g_Mod G ad F X Y U V Z) (some (.int (s_bel (X (3 + m0)) p0))) := by
  refine g_Rd.ofI (by decide) rfl ?_
  intro p e s m args below meth c ls Q hX hM hl hret
  have hx := hX.1.1
  have hb := hX.1.2.1
  have hl : lv_has ls 3 [(0, .ref (ad 0)), (1, .int (nI m0)), (2, .int (nI p0))] := hl
  refine lv_aload_n hx hb dX2_believedAt_0 rfl (lv_at hl 0 rfl) ?_
  refine lv_iload_n hx hb dX2_believedAt_1 rfl (lv_at hl 1 rfl) ?_
  refine lv_iconst (v := 0) hx hb dX2_believedAt_2 rfl ?_
  refine lv_iload_n hx hb dX2_believedAt_3 rfl (lv_at hl 2 rfl) ?_
  refine g_cRV hX hl y_X2_hasAt v_X2_hasAt q2405 (k_X2_hasAt m0 0 p0 (by omega) (by omega) (by omega)) (hM.rc hX.2.2.2) hM rfl ⟨Nat.le_of_ble_eq_true rfl, Nat.le_of_ble_eq_true rfl⟩ ⟨Nat.zero_le _, Nat.zero_le _⟩ (rest := []) (st1 := [.int (s_has (X (3 + m0)) 0 p0)]) rfl rfl (Nat.le_of_ble_eq_true rfl) dX2_believedAt_4 ?_
  refine lv_aload_n hx hb dX2_believedAt_7 rfl (lv_at hl 0 rfl) ?_
  refine lv_iload_n hx hb dX2_believedAt_8 rfl (lv_at hl 1 rfl) ?_
  refine lv_iconst (v := 1) hx hb dX2_believedAt_9 rfl ?_
  refine lv_iload_n hx hb dX2_believedAt_10 rfl (lv_at hl 2 rfl) ?_
  refine g_cRV hX hl y_X2_hasAt v_X2_hasAt q2405 (k_X2_hasAt m0 1 p0 (by omega) (by omega) (by omega)) (hM.rc hX.2.2.2) hM rfl ⟨Nat.le_of_ble_eq_true rfl, Nat.le_of_ble_eq_true rfl⟩ ⟨Nat.zero_le _, Nat.zero_le _⟩ (rest := [.int (s_has (X (3 + m0)) 0 p0)]) (st1 := [.int (s_has (X (3 + m0)) 1 p0), .int (s_has (X (3 + m0)) 0 p0)]) rfl rfl (Nat.le_of_ble_eq_true rfl) dX2_believedAt_11 ?_
  refine lv_aload_n hx hb dX2_believedAt_14 rfl (lv_at hl 0 rfl) ?_
  refine lv_iload_n hx hb dX2_believedAt_15 rfl (lv_at hl 1 rfl) ?_
  refine lv_iconst (v := 2) hx hb dX2_believedAt_16 rfl ?_
  refine lv_iload_n hx hb dX2_believedAt_17 rfl (lv_at hl 2 rfl) ?_
  refine g_cRV hX hl y_X2_hasAt v_X2_hasAt q2405 (k_X2_hasAt m0 2 p0 (by omega) (by omega) (by omega)) (hM.rc hX.2.2.2) hM rfl ⟨Nat.le_of_ble_eq_true rfl, Nat.le_of_ble_eq_true rfl⟩ ⟨Nat.zero_le _, Nat.zero_le _⟩ (rest := [.int (s_has (X (3 + m0)) 1 p0), .int (s_has (X (3 + m0)) 0 p0)]) (st1 := [.int (s_has (X (3 + m0)) 2 p0), .int (s_has (X (3 + m0)) 1 p0), .int (s_has (X (3 + m0)) 0 p0)]) rfl rfl (Nat.le_of_ble_eq_true rfl) dX2_believedAt_18 ?_
  refine g_cRS hX hl y_X2_voted v_X2_voted q2437 (k_X2_voted (s_has (X (3 + m0)) 0 p0) (s_has (X (3 + m0)) 1 p0) (s_has (X (3 + m0)) 2 p0)) trivial rfl ⟨Nat.le_of_ble_eq_true rfl, Nat.le_of_ble_eq_true rfl⟩ ⟨Nat.zero_le _, Nat.zero_le _⟩ (rest := []) (st1 := [.int (s_vote (s_has (X (3 + m0)) 0 p0) (s_has (X (3 + m0)) 1 p0) (s_has (X (3 + m0)) 2 p0))]) rfl rfl (Nat.le_of_ble_eq_true rfl) dX2_believedAt_21 ?_
  exact hret _ _ _ dX2_believedAt_24 (rfl)

theorem y_X2_lastLevel : g_Y yX2_lastLevel cX2_lastLevel 1 (some .int) 0 := ⟨q2443, by decide +kernel⟩
theorem v_X2_lastLevel : g_YV yX2_lastLevel := ⟨q2442, qs80, q140⟩
set_option maxHeartbeats 4000000 in
theorem k_X2_lastLevel {G : g_G} {l : Launch} {ad : Nat → Nat} {F : Nat → Int32} {X Y : g_Wd} {U V : Nat → g_Wd} {Z : g_Wd}  (hW : s_ok X) : g_Rd G l yX2_lastLevel cX2_lastLevel 1 (some .int) 0 [.ref (ad 0)] (g_Mod G ad F X Y U V Z) (some (.int (nI (s_L X - 1)))) := by
  refine g_Rd.ofI (by decide) rfl ?_
  intro p e s m args below meth c ls Q hX hM hl hret
  have hx := hX.1.1
  have hb := hX.1.2.1
  have hl : lv_has ls 1 [(0, .ref (ad 0))] := hl
  have hW9 := hW
  obtain ⟨⟨hL0, hL2, hL6⟩, ⟨hM0, hM6⟩, ⟨hG0, hG40⟩, hok⟩ := hW9
  refine lv_aload_n hx hb dX2_lastLevel_0 rfl (lv_at hl 0 rfl) ?_
  refine g_getM hX hM 1 (by decide) q2164 rfl (v := .ref (ad 1)) rfl dX2_lastLevel_1 ?_
  refine lv_iconst (v := 0) hx hb dX2_lastLevel_4 rfl ?_
  refine g_iald hX hM.a1 0 rfl (by omega) (by decide) (v := (X 0 0)) rfl dX2_lastLevel_5 ?_
  refine lv_iconst (v := 1) hx hb dX2_lastLevel_6 rfl ?_
  refine g_isubN hx hb (s_L X) 1 hL0 rfl (by omega) dX2_lastLevel_7 ?_
  exact hret _ _ _ dX2_lastLevel_8 (rfl)

theorem y_X2_isUnderWay : g_Y yX2_isUnderWay cX2_isUnderWay 2 (some .boolean) 1 := ⟨q2385, by decide +kernel⟩
theorem v_X2_isUnderWay : g_YV yX2_isUnderWay := ⟨q2384, qs67, q140⟩
set_option maxHeartbeats 4000000 in
theorem k_X2_isUnderWay {G : g_G} {l : Launch} {ad : Nat → Nat} {F : Nat → Int32} {X Y : g_Wd} {U V : Nat → g_Wd} {Z : g_Wd} (m0 : Nat) (hm0 : m0 < 6) : g_Rd G l yX2_isUnderWay cX2_isUnderWay 2 (some .boolean) 1 [.ref (ad 0), .int (nI m0)] (g_Mod G ad F X Y U V Z) (some (.int (g_b (decide (X (3 + m0) 4 = -1))))) := by
  refine g_Rd.ofI (by decide) (by cases (decide (X (3 + m0) 4 = -1)) <;> rfl) ?_
  intro p e s m args below meth c ls Q hX hM hl hret
  have hx := hX.1.1
  have hb := hX.1.2.1
  have hl : lv_has ls 2 [(0, .ref (ad 0)), (1, .int (nI m0))] := hl
  refine lv_aload_n hx hb dX2_isUnderWay_0 rfl (lv_at hl 0 rfl) ?_
  refine lv_iload_n hx hb dX2_isUnderWay_1 rfl (lv_at hl 1 rfl) ?_
  refine lv_iconst (v := 4) hx hb dX2_isUnderWay_2 rfl ?_
  refine g_cRV hX hl y_X2_of v_X2_of q2365 (k_X2_of m0 4 (by omega) (by omega)) (hM.rc hX.2.2.2) hM rfl ⟨Nat.le_of_ble_eq_true rfl, Nat.le_of_ble_eq_true rfl⟩ ⟨Nat.zero_le _, Nat.zero_le _⟩ (rest := []) (st1 := [.int (X (3 + m0) 4)]) rfl rfl (Nat.le_of_ble_eq_true rfl) dX2_isUnderWay_3 ?_
  refine lv_iconst (v := (-1)) hx hb dX2_isUnderWay_6 rfl ?_
  refine lv_icmp_ne (tgt := 14) hx hb dX2_isUnderWay_7 (by decide) (fun c_7 => ?_) (fun c_7 => ?_)
  · skip
    refine lv_iconst (v := 0) hx hb dX2_isUnderWay_14 rfl ?_
    exact hret _ _ _ dX2_isUnderWay_15 (by simp [g_b, *])
  · skip
    refine lv_iconst (v := 1) hx hb dX2_isUnderWay_10 rfl ?_
    refine lv_goto (tgt := 15) hx hb dX2_isUnderWay_11 (by decide) ?_
    exact hret _ _ _ dX2_isUnderWay_15 (by simp [g_b, *])

theorem y_X2_unsureOf : g_Y yX2_unsureOf cX2_unsureOf 5 (some .int) 2 := ⟨q2404, by decide +kernel⟩
theorem v_X2_unsureOf : g_YV yX2_unsureOf := ⟨q2403, qs71, q140⟩
set_option maxHeartbeats 4000000 in
theorem k_X2_unsureOf {G : g_G} {l : Launch} {ad : Nat → Nat} {F : Nat → Int32} {X Y : g_Wd} {U V : Nat → g_Wd} {Z : g_Wd} (m0 : Nat) (i : Nat) (hm0 : m0 < 6) (ho : s_okL (X (3 + m0))) (hi : i < 3) : g_Rd G l yX2_unsureOf cX2_unsureOf 5 (some .int) 2 [.ref (ad 0), .int (nI m0), .int (nI i)] (g_Mod G ad F X Y U V Z) (some (.int (nI (s_uns (X (3 + m0)) i)))) := by
  refine g_Rd.ofI (by decide) rfl ?_
  intro p e s m args below meth c ls Q hX hM hl hret
  have hx := hX.1.1
  have hb := hX.1.2.1
  have hl : lv_has ls 5 [(0, .ref (ad 0)), (1, .int (nI m0)), (2, .int (nI i))] := hl
  have hL := ho.2
  refine lv_iconst (v := 0) hx hb dX2_unsureOf_0 rfl ?_
  refine lv_istore_n (lv' := [(3, .int 0), (0, .ref (ad 0)), (1, .int (nI m0)), (2, .int (nI i))]) hx hb dX2_unsureOf_1 rfl hl (by decide) rfl (fun ls hl => ?_)
  refine lv_iconst (v := 0) hx hb dX2_unsureOf_2 rfl ?_
  refine lv_istore (lv' := [(4, .int 0), (3, .int 0), (0, .ref (ad 0)), (1, .int (nI m0)), (2, .int (nI i))]) hx hb dX2_unsureOf_3 hl (by decide) rfl (fun ls hl => ?_)
  have L5 : ∀ (nf : Nat) (j : Nat), (j ≤ s_len (X (3 + m0))) → (s_len (X (3 + m0)) - j < nf) → ∀ ls : Array Slot, lv_has ls 5 [(3, .int (nI (s_cnt (fun p => decide (s_has (X (3 + m0)) i p = -1)) j))), (4, .int (nI j)), (0, .ref (ad 0)), (1, .int (nI m0)), (2, .int (nI i))] → W p l e (g_rm 2 0 0) s m args below meth c s.heap [] 0 0 Q (F0 m 5 ls []) := by
    intro n5
    induction n5 with
    | zero => intro j hj hn; exact absurd hn (Nat.not_lt_zero _)
    | succ n5 ih5 =>
      intro j hj hn5 ls hl
      refine lv_iload hx hb dX2_unsureOf_5 (lv_at hl 1 rfl) ?_
      refine lv_aload_n hx hb dX2_unsureOf_7 rfl (lv_at hl 2 rfl) ?_
      refine lv_iload_n hx hb dX2_unsureOf_8 rfl (lv_at hl 3 rfl) ?_
      refine lv_iconst (v := 0) hx hb dX2_unsureOf_9 rfl ?_
      refine g_cRV hX hl y_X2_of v_X2_of q2365 (k_X2_of m0 0 (by omega) (by omega)) (hM.rc hX.2.2.2) hM rfl ⟨Nat.le_of_ble_eq_true rfl, Nat.le_of_ble_eq_true rfl⟩ ⟨Nat.zero_le _, Nat.zero_le _⟩ (rest := [.int (nI j)]) (st1 := [.int (X (3 + m0) 0), .int (nI j)]) rfl rfl (Nat.le_of_ble_eq_true rfl) dX2_unsureOf_10 ?_
      refine g_icmp_geN (tgt := 45) hx hb j (s_len (X (3 + m0))) rfl ho.1 (by omega) (by omega) dX2_unsureOf_13 (by decide) (fun c_13 => ?_) (fun c_13 => ?_)
      · skip
        refine lv_iload_n hx hb dX2_unsureOf_45 rfl (lv_at hl 0 rfl) ?_
        exact hret _ _ _ dX2_unsureOf_46 (by rw [show j = s_len (X (3 + m0)) by omega]; rfl)
      · skip
        refine lv_iload_n hx hb dX2_unsureOf_16 rfl (lv_at hl 0 rfl) ?_
        refine lv_aload_n hx hb dX2_unsureOf_17 rfl (lv_at hl 2 rfl) ?_
        refine lv_iload_n hx hb dX2_unsureOf_18 rfl (lv_at hl 3 rfl) ?_
        refine lv_iload_n hx hb dX2_unsureOf_19 rfl (lv_at hl 4 rfl) ?_
        refine lv_iload hx hb dX2_unsureOf_20 (lv_at hl 1 rfl) ?_
        refine g_cRV hX hl y_X2_hasAt v_X2_hasAt q2405 (k_X2_hasAt m0 i j (by omega) (by omega) (by omega)) (hM.rc hX.2.2.2) hM rfl ⟨Nat.le_of_ble_eq_true rfl, Nat.le_of_ble_eq_true rfl⟩ ⟨Nat.zero_le _, Nat.zero_le _⟩ (rest := [.int (nI (s_cnt (fun p => decide (s_has (X (3 + m0)) i p = -1)) j))]) (st1 := [.int (s_has (X (3 + m0)) i j), .int (nI (s_cnt (fun p => decide (s_has (X (3 + m0)) i p = -1)) j))]) rfl rfl (Nat.le_of_ble_eq_true rfl) dX2_unsureOf_22 ?_
        refine lv_iconst (v := (-1)) hx hb dX2_unsureOf_25 rfl ?_
        refine lv_icmp_ne (tgt := 33) hx hb dX2_unsureOf_26 (by decide) (fun c_26 => ?_) (fun c_26 => ?_)
        · skip
          refine lv_iconst (v := 0) hx hb dX2_unsureOf_33 rfl ?_
          refine g_cRS hX hl y_X2_one v_X2_one q2386 (k_X2_one false) trivial rfl ⟨Nat.le_of_ble_eq_true rfl, Nat.le_of_ble_eq_true rfl⟩ ⟨Nat.zero_le _, Nat.zero_le _⟩ (rest := [.int (nI (s_cnt (fun p => decide (s_has (X (3 + m0)) i p = -1)) j))]) (st1 := [.int (nI (s_n false)), .int (nI (s_cnt (fun p => decide (s_has (X (3 + m0)) i p = -1)) j))]) rfl rfl (Nat.le_of_ble_eq_true rfl) dX2_unsureOf_34 ?_
          refine g_iaddN hx hb (s_cnt (fun p => decide (s_has (X (3 + m0)) i p = -1)) j) (s_n false) rfl rfl dX2_unsureOf_37 ?_
          refine lv_istore_n (lv' := [(3, .int (nI (s_cnt (fun p => decide (s_has (X (3 + m0)) i p = -1)) j + s_n false))), (4, .int (nI j)), (0, .ref (ad 0)), (1, .int (nI m0)), (2, .int (nI i))]) hx hb dX2_unsureOf_38 rfl hl (by decide) rfl (fun ls hl => ?_)
          refine lv_iinc (v := (nI (j + 1))) (lv' := [(4, .int (nI (j + 1))), (3, .int (nI (s_cnt (fun p => decide (s_has (X (3 + m0)) i p = -1)) j + s_n false))), (0, .ref (ad 0)), (1, .int (nI m0)), (2, .int (nI i))]) hx hb dX2_unsureOf_39 hl (k := 1) rfl (nI_1 _) (by decide) rfl (fun ls hl => ?_)
          refine lv_goto (tgt := 5) hx hb dX2_unsureOf_42 (by decide) ?_
          have e_3 : (nI (s_cnt (fun p => decide (s_has (X (3 + m0)) i p = -1)) j + s_n false)) = (nI (s_cnt (fun p => decide (s_has (X (3 + m0)) i p = -1)) (j + 1))) := by first | (simp [s_cnt, s_n, c_13, c_26]; done) | grind [s_cnt, s_n]
          rw [e_3] at hl
          exact ih5 (j + 1) (by omega) (by omega) ls (lv_sub hl [1, 0, 2, 3, 4] rfl)
        · skip
          refine lv_iconst (v := 1) hx hb dX2_unsureOf_29 rfl ?_
          refine lv_goto (tgt := 34) hx hb dX2_unsureOf_30 (by decide) ?_
          refine g_cRS hX hl y_X2_one v_X2_one q2386 (k_X2_one true) trivial rfl ⟨Nat.le_of_ble_eq_true rfl, Nat.le_of_ble_eq_true rfl⟩ ⟨Nat.zero_le _, Nat.zero_le _⟩ (rest := [.int (nI (s_cnt (fun p => decide (s_has (X (3 + m0)) i p = -1)) j))]) (st1 := [.int (nI (s_n true)), .int (nI (s_cnt (fun p => decide (s_has (X (3 + m0)) i p = -1)) j))]) rfl rfl (Nat.le_of_ble_eq_true rfl) dX2_unsureOf_34 ?_
          refine g_iaddN hx hb (s_cnt (fun p => decide (s_has (X (3 + m0)) i p = -1)) j) (s_n true) rfl rfl dX2_unsureOf_37 ?_
          refine lv_istore_n (lv' := [(3, .int (nI (s_cnt (fun p => decide (s_has (X (3 + m0)) i p = -1)) j + s_n true))), (4, .int (nI j)), (0, .ref (ad 0)), (1, .int (nI m0)), (2, .int (nI i))]) hx hb dX2_unsureOf_38 rfl hl (by decide) rfl (fun ls hl => ?_)
          refine lv_iinc (v := (nI (j + 1))) (lv' := [(4, .int (nI (j + 1))), (3, .int (nI (s_cnt (fun p => decide (s_has (X (3 + m0)) i p = -1)) j + s_n true))), (0, .ref (ad 0)), (1, .int (nI m0)), (2, .int (nI i))]) hx hb dX2_unsureOf_39 hl (k := 1) rfl (nI_1 _) (by decide) rfl (fun ls hl => ?_)
          refine lv_goto (tgt := 5) hx hb dX2_unsureOf_42 (by decide) ?_
          have e_3 : (nI (s_cnt (fun p => decide (s_has (X (3 + m0)) i p = -1)) j + s_n true)) = (nI (s_cnt (fun p => decide (s_has (X (3 + m0)) i p = -1)) (j + 1))) := by first | (simp [s_cnt, s_n, c_13, c_26]; done) | grind [s_cnt, s_n]
          rw [e_3] at hl
          exact ih5 (j + 1) (by omega) (by omega) ls (lv_sub hl [1, 0, 2, 3, 4] rfl)
  exact L5 (s_len (X (3 + m0)) - 0 + 1) 0 (Nat.zero_le _) (Nat.lt_succ_self _) ls (lv_sub hl [1, 0, 2, 3, 4] rfl)

theorem y_X2_unsureAll : g_Y yX2_unsureAll cX2_unsureAll 2 (some .int) 1 := ⟨q2400, by decide +kernel⟩
theorem v_X2_unsureAll : g_YV yX2_unsureAll := ⟨q2399, qs70, q140⟩
set_option maxHeartbeats 4000000 in
theorem k_X2_unsureAll {G : g_G} {l : Launch} {ad : Nat → Nat} {F : Nat → Int32} {X Y : g_Wd} {U V : Nat → g_Wd} {Z : g_Wd} (m0 : Nat) (hm0 : m0 < 6) (ho : s_okL (X (3 + m0))) : g_Rd G l yX2_unsureAll cX2_unsureAll 2 (some .int) 3 [.ref (ad 0), .int (nI m0)] (g_Mod G ad F X Y U V Z) (some (.int (nI (s_unsAll (X (3 + m0)))))) := by
  refine g_Rd.ofI (by decide) rfl ?_
  intro p e s m args below meth c ls Q hX hM hl hret
  have hx := hX.1.1
  have hb := hX.1.2.1
  have hl : lv_has ls 2 [(0, .ref (ad 0)), (1, .int (nI m0))] := hl
  have hL := ho.2
  refine lv_aload_n hx hb dX2_unsureAll_0 rfl (lv_at hl 0 rfl) ?_
  refine lv_iload_n hx hb dX2_unsureAll_1 rfl (lv_at hl 1 rfl) ?_
  refine lv_iconst (v := 0) hx hb dX2_unsureAll_2 rfl ?_
  refine g_cRV hX hl y_X2_unsureOf v_X2_unsureOf q2401 (k_X2_unsureOf m0 0 (by omega) ho (by omega)) (hM.rc hX.2.2.2) hM rfl ⟨Nat.le_of_ble_eq_true rfl, Nat.le_of_ble_eq_true rfl⟩ ⟨Nat.zero_le _, Nat.zero_le _⟩ (rest := []) (st1 := [.int (nI (s_uns (X (3 + m0)) 0))]) rfl rfl (Nat.le_of_ble_eq_true rfl) dX2_unsureAll_3 ?_
  refine lv_aload_n hx hb dX2_unsureAll_6 rfl (lv_at hl 0 rfl) ?_
  refine lv_iload_n hx hb dX2_unsureAll_7 rfl (lv_at hl 1 rfl) ?_
  refine lv_iconst (v := 1) hx hb dX2_unsureAll_8 rfl ?_
  refine g_cRV hX hl y_X2_unsureOf v_X2_unsureOf q2401 (k_X2_unsureOf m0 1 (by omega) ho (by omega)) (hM.rc hX.2.2.2) hM rfl ⟨Nat.le_of_ble_eq_true rfl, Nat.le_of_ble_eq_true rfl⟩ ⟨Nat.zero_le _, Nat.zero_le _⟩ (rest := [.int (nI (s_uns (X (3 + m0)) 0))]) (st1 := [.int (nI (s_uns (X (3 + m0)) 1)), .int (nI (s_uns (X (3 + m0)) 0))]) rfl rfl (Nat.le_of_ble_eq_true rfl) dX2_unsureAll_9 ?_
  refine g_iaddN hx hb (s_uns (X (3 + m0)) 0) (s_uns (X (3 + m0)) 1) rfl rfl dX2_unsureAll_12 ?_
  refine lv_aload_n hx hb dX2_unsureAll_13 rfl (lv_at hl 0 rfl) ?_
  refine lv_iload_n hx hb dX2_unsureAll_14 rfl (lv_at hl 1 rfl) ?_
  refine lv_iconst (v := 2) hx hb dX2_unsureAll_15 rfl ?_
  refine g_cRV hX hl y_X2_unsureOf v_X2_unsureOf q2401 (k_X2_unsureOf m0 2 (by omega) ho (by omega)) (hM.rc hX.2.2.2) hM rfl ⟨Nat.le_of_ble_eq_true rfl, Nat.le_of_ble_eq_true rfl⟩ ⟨Nat.zero_le _, Nat.zero_le _⟩ (rest := [.int (nI (s_uns (X (3 + m0)) 0 + s_uns (X (3 + m0)) 1))]) (st1 := [.int (nI (s_uns (X (3 + m0)) 2)), .int (nI (s_uns (X (3 + m0)) 0 + s_uns (X (3 + m0)) 1))]) rfl rfl (Nat.le_of_ble_eq_true rfl) dX2_unsureAll_16 ?_
  refine g_iaddN hx hb (s_uns (X (3 + m0)) 0 + s_uns (X (3 + m0)) 1) (s_uns (X (3 + m0)) 2) rfl rfl dX2_unsureAll_19 ?_
  exact hret _ _ _ dX2_unsureAll_20 (rfl)

theorem y_X2_rightOf : g_Y yX2_rightOf cX2_rightOf 5 (some .int) 2 := ⟨q2575, by decide +kernel⟩
theorem v_X2_rightOf : g_YV yX2_rightOf := ⟨q2574, qs102, q140⟩
set_option maxHeartbeats 4000000 in
theorem k_X2_rightOf {G : g_G} {l : Launch} {ad : Nat → Nat} {F : Nat → Int32} {X Y : g_Wd} {U V : Nat → g_Wd} {Z : g_Wd} (m0 : Nat) (i : Nat) (hm0 : m0 < 6) (ho : s_okL (X (3 + m0))) (hi : i < 3) : g_Rd G l yX2_rightOf cX2_rightOf 5 (some .int) 2 [.ref (ad 0), .int (nI m0), .int (nI i)] (g_Mod G ad F X Y U V Z) (some (.int (nI (s_rig (X (3 + m0)) i)))) := by
  refine g_Rd.ofI (by decide) rfl ?_
  intro p e s m args below meth c ls Q hX hM hl hret
  have hx := hX.1.1
  have hb := hX.1.2.1
  have hl : lv_has ls 5 [(0, .ref (ad 0)), (1, .int (nI m0)), (2, .int (nI i))] := hl
  have hL := ho.2
  refine lv_iconst (v := 0) hx hb dX2_rightOf_0 rfl ?_
  refine lv_istore_n (lv' := [(3, .int 0), (0, .ref (ad 0)), (1, .int (nI m0)), (2, .int (nI i))]) hx hb dX2_rightOf_1 rfl hl (by decide) rfl (fun ls hl => ?_)
  refine lv_iconst (v := 0) hx hb dX2_rightOf_2 rfl ?_
  refine lv_istore (lv' := [(4, .int 0), (3, .int 0), (0, .ref (ad 0)), (1, .int (nI m0)), (2, .int (nI i))]) hx hb dX2_rightOf_3 hl (by decide) rfl (fun ls hl => ?_)
  have L5 : ∀ (nf : Nat) (j : Nat), (j ≤ s_len (X (3 + m0))) → (s_len (X (3 + m0)) - j < nf) → ∀ ls : Array Slot, lv_has ls 5 [(3, .int (nI (s_cnt (fun p => decide (s_has (X (3 + m0)) i p = s_dig (X (3 + m0)) p)) j))), (4, .int (nI j)), (0, .ref (ad 0)), (1, .int (nI m0)), (2, .int (nI i))] → W p l e (g_rm 2 0 0) s m args below meth c s.heap [] 0 0 Q (F0 m 5 ls []) := by
    intro n5
    induction n5 with
    | zero => intro j hj hn; exact absurd hn (Nat.not_lt_zero _)
    | succ n5 ih5 =>
      intro j hj hn5 ls hl
      refine lv_iload hx hb dX2_rightOf_5 (lv_at hl 1 rfl) ?_
      refine lv_aload_n hx hb dX2_rightOf_7 rfl (lv_at hl 2 rfl) ?_
      refine lv_iload_n hx hb dX2_rightOf_8 rfl (lv_at hl 3 rfl) ?_
      refine lv_iconst (v := 0) hx hb dX2_rightOf_9 rfl ?_
      refine g_cRV hX hl y_X2_of v_X2_of q2365 (k_X2_of m0 0 (by omega) (by omega)) (hM.rc hX.2.2.2) hM rfl ⟨Nat.le_of_ble_eq_true rfl, Nat.le_of_ble_eq_true rfl⟩ ⟨Nat.zero_le _, Nat.zero_le _⟩ (rest := [.int (nI j)]) (st1 := [.int (X (3 + m0) 0), .int (nI j)]) rfl rfl (Nat.le_of_ble_eq_true rfl) dX2_rightOf_10 ?_
      refine g_icmp_geN (tgt := 51) hx hb j (s_len (X (3 + m0))) rfl ho.1 (by omega) (by omega) dX2_rightOf_13 (by decide) (fun c_13 => ?_) (fun c_13 => ?_)
      · skip
        refine lv_iload_n hx hb dX2_rightOf_51 rfl (lv_at hl 0 rfl) ?_
        exact hret _ _ _ dX2_rightOf_52 (by rw [show j = s_len (X (3 + m0)) by omega]; rfl)
      · skip
        refine lv_iload_n hx hb dX2_rightOf_16 rfl (lv_at hl 0 rfl) ?_
        refine lv_aload_n hx hb dX2_rightOf_17 rfl (lv_at hl 2 rfl) ?_
        refine lv_iload_n hx hb dX2_rightOf_18 rfl (lv_at hl 3 rfl) ?_
        refine lv_iload_n hx hb dX2_rightOf_19 rfl (lv_at hl 4 rfl) ?_
        refine lv_iload hx hb dX2_rightOf_20 (lv_at hl 1 rfl) ?_
        refine g_cRV hX hl y_X2_hasAt v_X2_hasAt q2405 (k_X2_hasAt m0 i j (by omega) (by omega) (by omega)) (hM.rc hX.2.2.2) hM rfl ⟨Nat.le_of_ble_eq_true rfl, Nat.le_of_ble_eq_true rfl⟩ ⟨Nat.zero_le _, Nat.zero_le _⟩ (rest := [.int (nI (s_cnt (fun p => decide (s_has (X (3 + m0)) i p = s_dig (X (3 + m0)) p)) j))]) (st1 := [.int (s_has (X (3 + m0)) i j), .int (nI (s_cnt (fun p => decide (s_has (X (3 + m0)) i p = s_dig (X (3 + m0)) p)) j))]) rfl rfl (Nat.le_of_ble_eq_true rfl) dX2_rightOf_22 ?_
        refine lv_aload_n hx hb dX2_rightOf_25 rfl (lv_at hl 2 rfl) ?_
        refine lv_iload_n hx hb dX2_rightOf_26 rfl (lv_at hl 3 rfl) ?_
        refine lv_iload hx hb dX2_rightOf_27 (lv_at hl 1 rfl) ?_
        refine g_cRV hX hl y_X2_digitAt v_X2_digitAt q2576 (k_X2_digitAt m0 j (by omega) (by omega)) (hM.rc hX.2.2.2) hM rfl ⟨Nat.le_of_ble_eq_true rfl, Nat.le_of_ble_eq_true rfl⟩ ⟨Nat.zero_le _, Nat.zero_le _⟩ (rest := [.int (s_has (X (3 + m0)) i j), .int (nI (s_cnt (fun p => decide (s_has (X (3 + m0)) i p = s_dig (X (3 + m0)) p)) j))]) (st1 := [.int (s_dig (X (3 + m0)) j), .int (s_has (X (3 + m0)) i j), .int (nI (s_cnt (fun p => decide (s_has (X (3 + m0)) i p = s_dig (X (3 + m0)) p)) j))]) rfl rfl (Nat.le_of_ble_eq_true rfl) dX2_rightOf_29 ?_
        refine lv_icmp_ne (tgt := 39) hx hb dX2_rightOf_32 (by decide) (fun c_32 => ?_) (fun c_32 => ?_)
        · skip
          refine lv_iconst (v := 0) hx hb dX2_rightOf_39 rfl ?_
          refine g_cRS hX hl y_X2_one v_X2_one q2386 (k_X2_one false) trivial rfl ⟨Nat.le_of_ble_eq_true rfl, Nat.le_of_ble_eq_true rfl⟩ ⟨Nat.zero_le _, Nat.zero_le _⟩ (rest := [.int (nI (s_cnt (fun p => decide (s_has (X (3 + m0)) i p = s_dig (X (3 + m0)) p)) j))]) (st1 := [.int (nI (s_n false)), .int (nI (s_cnt (fun p => decide (s_has (X (3 + m0)) i p = s_dig (X (3 + m0)) p)) j))]) rfl rfl (Nat.le_of_ble_eq_true rfl) dX2_rightOf_40 ?_
          refine g_iaddN hx hb (s_cnt (fun p => decide (s_has (X (3 + m0)) i p = s_dig (X (3 + m0)) p)) j) (s_n false) rfl rfl dX2_rightOf_43 ?_
          refine lv_istore_n (lv' := [(3, .int (nI (s_cnt (fun p => decide (s_has (X (3 + m0)) i p = s_dig (X (3 + m0)) p)) j + s_n false))), (4, .int (nI j)), (0, .ref (ad 0)), (1, .int (nI m0)), (2, .int (nI i))]) hx hb dX2_rightOf_44 rfl hl (by decide) rfl (fun ls hl => ?_)
          refine lv_iinc (v := (nI (j + 1))) (lv' := [(4, .int (nI (j + 1))), (3, .int (nI (s_cnt (fun p => decide (s_has (X (3 + m0)) i p = s_dig (X (3 + m0)) p)) j + s_n false))), (0, .ref (ad 0)), (1, .int (nI m0)), (2, .int (nI i))]) hx hb dX2_rightOf_45 hl (k := 1) rfl (nI_1 _) (by decide) rfl (fun ls hl => ?_)
          refine lv_goto (tgt := 5) hx hb dX2_rightOf_48 (by decide) ?_
          have e_3 : (nI (s_cnt (fun p => decide (s_has (X (3 + m0)) i p = s_dig (X (3 + m0)) p)) j + s_n false)) = (nI (s_cnt (fun p => decide (s_has (X (3 + m0)) i p = s_dig (X (3 + m0)) p)) (j + 1))) := by first | (simp [s_cnt, s_n, c_13, c_32]; done) | grind [s_cnt, s_n]
          rw [e_3] at hl
          exact ih5 (j + 1) (by omega) (by omega) ls (lv_sub hl [1, 0, 2, 3, 4] rfl)
        · skip
          refine lv_iconst (v := 1) hx hb dX2_rightOf_35 rfl ?_
          refine lv_goto (tgt := 40) hx hb dX2_rightOf_36 (by decide) ?_
          refine g_cRS hX hl y_X2_one v_X2_one q2386 (k_X2_one true) trivial rfl ⟨Nat.le_of_ble_eq_true rfl, Nat.le_of_ble_eq_true rfl⟩ ⟨Nat.zero_le _, Nat.zero_le _⟩ (rest := [.int (nI (s_cnt (fun p => decide (s_has (X (3 + m0)) i p = s_dig (X (3 + m0)) p)) j))]) (st1 := [.int (nI (s_n true)), .int (nI (s_cnt (fun p => decide (s_has (X (3 + m0)) i p = s_dig (X (3 + m0)) p)) j))]) rfl rfl (Nat.le_of_ble_eq_true rfl) dX2_rightOf_40 ?_
          refine g_iaddN hx hb (s_cnt (fun p => decide (s_has (X (3 + m0)) i p = s_dig (X (3 + m0)) p)) j) (s_n true) rfl rfl dX2_rightOf_43 ?_
          refine lv_istore_n (lv' := [(3, .int (nI (s_cnt (fun p => decide (s_has (X (3 + m0)) i p = s_dig (X (3 + m0)) p)) j + s_n true))), (4, .int (nI j)), (0, .ref (ad 0)), (1, .int (nI m0)), (2, .int (nI i))]) hx hb dX2_rightOf_44 rfl hl (by decide) rfl (fun ls hl => ?_)
          refine lv_iinc (v := (nI (j + 1))) (lv' := [(4, .int (nI (j + 1))), (3, .int (nI (s_cnt (fun p => decide (s_has (X (3 + m0)) i p = s_dig (X (3 + m0)) p)) j + s_n true))), (0, .ref (ad 0)), (1, .int (nI m0)), (2, .int (nI i))]) hx hb dX2_rightOf_45 hl (k := 1) rfl (nI_1 _) (by decide) rfl (fun ls hl => ?_)
          refine lv_goto (tgt := 5) hx hb dX2_rightOf_48 (by decide) ?_
          have e_3 : (nI (s_cnt (fun p => decide (s_has (X (3 + m0)) i p = s_dig (X (3 + m0)) p)) j + s_n true)) = (nI (s_cnt (fun p => decide (s_has (X (3 + m0)) i p = s_dig (X (3 + m0)) p)) (j + 1))) := by first | (simp [s_cnt, s_n, c_13, c_32]; done) | grind [s_cnt, s_n]
          rw [e_3] at hl
          exact ih5 (j + 1) (by omega) (by omega) ls (lv_sub hl [1, 0, 2, 3, 4] rfl)
  exact L5 (s_len (X (3 + m0)) - 0 + 1) 0 (Nat.zero_le _) (Nat.lt_succ_self _) ls (lv_sub hl [1, 0, 2, 3, 4] rfl)

theorem y_X2_rightAll : g_Y yX2_rightAll cX2_rightAll 2 (some .int) 1 := ⟨q2571, by decide +kernel⟩
theorem v_X2_rightAll : g_YV yX2_rightAll := ⟨q2570, qs101, q140⟩
set_option maxHeartbeats 4000000 in
theorem k_X2_rightAll {G : g_G} {l : Launch} {ad : Nat → Nat} {F : Nat → Int32} {X Y : g_Wd} {U V : Nat → g_Wd} {Z : g_Wd} (m0 : Nat) (hm0 : m0 < 6) (ho : s_okL (X (3 + m0))) : g_Rd G l yX2_rightAll cX2_rightAll 2 (some .int) 3 [.ref (ad 0), .int (nI m0)] (g_Mod G ad F X Y U V Z) (some (.int (nI (s_rig (X (3 + m0)) 0 + s_rig (X (3 + m0)) 1 + s_rig (X (3 + m0)) 2)))) := by
  refine g_Rd.ofI (by decide) rfl ?_
  intro p e s m args below meth c ls Q hX hM hl hret
  have hx := hX.1.1
  have hb := hX.1.2.1
  have hl : lv_has ls 2 [(0, .ref (ad 0)), (1, .int (nI m0))] := hl
  have hL := ho.2
  refine lv_aload_n hx hb dX2_rightAll_0 rfl (lv_at hl 0 rfl) ?_
  refine lv_iload_n hx hb dX2_rightAll_1 rfl (lv_at hl 1 rfl) ?_
  refine lv_iconst (v := 0) hx hb dX2_rightAll_2 rfl ?_
  refine g_cRV hX hl y_X2_rightOf v_X2_rightOf q2572 (k_X2_rightOf m0 0 (by omega) ho (by omega)) (hM.rc hX.2.2.2) hM rfl ⟨Nat.le_of_ble_eq_true rfl, Nat.le_of_ble_eq_true rfl⟩ ⟨Nat.zero_le _, Nat.zero_le _⟩ (rest := []) (st1 := [.int (nI (s_rig (X (3 + m0)) 0))]) rfl rfl (Nat.le_of_ble_eq_true rfl) dX2_rightAll_3 ?_
  refine lv_aload_n hx hb dX2_rightAll_6 rfl (lv_at hl 0 rfl) ?_
  refine lv_iload_n hx hb dX2_rightAll_7 rfl (lv_at hl 1 rfl) ?_
  refine lv_iconst (v := 1) hx hb dX2_rightAll_8 rfl ?_
  refine g_cRV hX hl y_X2_rightOf v_X2_rightOf q2572 (k_X2_rightOf m0 1 (by omega) ho (by omega)) (hM.rc hX.2.2.2) hM rfl ⟨Nat.le_of_ble_eq_true rfl, Nat.le_of_ble_eq_true rfl⟩ ⟨Nat.zero_le _, Nat.zero_le _⟩ (rest := [.int (nI (s_rig (X (3 + m0)) 0))]) (st1 := [.int (nI (s_rig (X (3 + m0)) 1)), .int (nI (s_rig (X (3 + m0)) 0))]) rfl rfl (Nat.le_of_ble_eq_true rfl) dX2_rightAll_9 ?_
  refine g_iaddN hx hb (s_rig (X (3 + m0)) 0) (s_rig (X (3 + m0)) 1) rfl rfl dX2_rightAll_12 ?_
  refine lv_aload_n hx hb dX2_rightAll_13 rfl (lv_at hl 0 rfl) ?_
  refine lv_iload_n hx hb dX2_rightAll_14 rfl (lv_at hl 1 rfl) ?_
  refine lv_iconst (v := 2) hx hb dX2_rightAll_15 rfl ?_
  refine g_cRV hX hl y_X2_rightOf v_X2_rightOf q2572 (k_X2_rightOf m0 2 (by omega) ho (by omega)) (hM.rc hX.2.2.2) hM rfl ⟨Nat.le_of_ble_eq_true rfl, Nat.le_of_ble_eq_true rfl⟩ ⟨Nat.zero_le _, Nat.zero_le _⟩ (rest := [.int (nI (s_rig (X (3 + m0)) 0 + s_rig (X (3 + m0)) 1))]) (st1 := [.int (nI (s_rig (X (3 + m0)) 2)), .int (nI (s_rig (X (3 + m0)) 0 + s_rig (X (3 + m0)) 1))]) rfl rfl (Nat.le_of_ble_eq_true rfl) dX2_rightAll_16 ?_
  refine g_iaddN hx hb (s_rig (X (3 + m0)) 0 + s_rig (X (3 + m0)) 1) (s_rig (X (3 + m0)) 2) rfl rfl dX2_rightAll_19 ?_
  exact hret _ _ _ dX2_rightAll_20 (rfl)

theorem y_X2_willAsk : g_Y yX2_willAsk cX2_willAsk 2 (some .boolean) 1 := ⟨q2396, by decide +kernel⟩
theorem v_X2_willAsk : g_YV yX2_willAsk := ⟨q2395, qs69, q140⟩
set_option maxHeartbeats 4000000 in
theorem k_X2_willAsk {G : g_G} {l : Launch} {ad : Nat → Nat} {F : Nat → Int32} {X Y : g_Wd} {U V : Nat → g_Wd} {Z : g_Wd} (m0 : Nat) (hm0 : m0 < 6) (ho : s_okL (X (3 + m0))) : g_Rd G l yX2_willAsk cX2_willAsk 2 (some .boolean) 4 [.ref (ad 0), .int (nI m0)] (g_Mod G ad F X Y U V Z) (some (.int (g_b (s_will X m0)))) := by
  refine g_Rd.ofI (by decide) (by cases (s_will X m0) <;> rfl) ?_
  intro p e s m args below meth c ls Q hX hM hl hret
  have hx := hX.1.1
  have hb := hX.1.2.1
  have hl : lv_has ls 2 [(0, .ref (ad 0)), (1, .int (nI m0))] := hl
  have hL := ho.2
  refine lv_aload_n hx hb dX2_willAsk_0 rfl (lv_at hl 0 rfl) ?_
  refine lv_iload_n hx hb dX2_willAsk_1 rfl (lv_at hl 1 rfl) ?_
  refine lv_iconst (v := 1) hx hb dX2_willAsk_2 rfl ?_
  refine g_cRV hX hl y_X2_of v_X2_of q2365 (k_X2_of m0 1 (by omega) (by omega)) (hM.rc hX.2.2.2) hM rfl ⟨Nat.le_of_ble_eq_true rfl, Nat.le_of_ble_eq_true rfl⟩ ⟨Nat.zero_le _, Nat.zero_le _⟩ (rest := []) (st1 := [.int (X (3 + m0) 1)]) rfl rfl (Nat.le_of_ble_eq_true rfl) dX2_willAsk_3 ?_
  refine lv_if_le (tgt := 36) hx hb dX2_willAsk_6 (by decide) (fun c_6 => ?_) (fun c_6 => ?_)
  · skip
    refine lv_iconst (v := 0) hx hb dX2_willAsk_36 rfl ?_
    exact hret _ _ _ dX2_willAsk_37 (by grind [g_b, s_will])
  · skip
    refine lv_aload_n hx hb dX2_willAsk_9 rfl (lv_at hl 0 rfl) ?_
    refine lv_iload_n hx hb dX2_willAsk_10 rfl (lv_at hl 1 rfl) ?_
    refine lv_iconst (v := 2) hx hb dX2_willAsk_11 rfl ?_
    refine g_cRV hX hl y_X2_of v_X2_of q2365 (k_X2_of m0 2 (by omega) (by omega)) (hM.rc hX.2.2.2) hM rfl ⟨Nat.le_of_ble_eq_true rfl, Nat.le_of_ble_eq_true rfl⟩ ⟨Nat.zero_le _, Nat.zero_le _⟩ (rest := []) (st1 := [.int (X (3 + m0) 2)]) rfl rfl (Nat.le_of_ble_eq_true rfl) dX2_willAsk_12 ?_
    refine lv_aload_n hx hb dX2_willAsk_15 rfl (lv_at hl 0 rfl) ?_
    refine g_getM hX hM 1 (by decide) q2164 rfl (v := .ref (ad 1)) rfl dX2_willAsk_16 ?_
    refine lv_iconst (v := 1) hx hb dX2_willAsk_19 rfl ?_
    refine g_iald hX hM.a1 1 rfl (by omega) (by decide) (v := (X 0 1)) rfl dX2_willAsk_20 ?_
    refine lv_icmp_ge (tgt := 36) hx hb dX2_willAsk_21 (by decide) (fun c_21 => ?_) (fun c_21 => ?_)
    · skip
      refine lv_iconst (v := 0) hx hb dX2_willAsk_36 rfl ?_
      exact hret _ _ _ dX2_willAsk_37 (by grind [g_b, s_will])
    · skip
      refine lv_aload_n hx hb dX2_willAsk_24 rfl (lv_at hl 0 rfl) ?_
      refine lv_iload_n hx hb dX2_willAsk_25 rfl (lv_at hl 1 rfl) ?_
      refine g_cRV hX hl y_X2_unsureAll v_X2_unsureAll q2397 (k_X2_unsureAll m0 (by omega) ho) (hM.rc hX.2.2.2) hM rfl ⟨Nat.le_of_ble_eq_true rfl, Nat.le_of_ble_eq_true rfl⟩ ⟨Nat.zero_le _, Nat.zero_le _⟩ (rest := []) (st1 := [.int (nI (s_unsAll (X (3 + m0))))]) rfl rfl (Nat.le_of_ble_eq_true rfl) dX2_willAsk_26 ?_
      refine g_if_leN (tgt := 36) hx hb (s_unsAll (X (3 + m0))) rfl (by have := s_unsAll_le hL; omega) dX2_willAsk_29 (by decide) (fun c_29 => ?_) (fun c_29 => ?_)
      · skip
        refine lv_iconst (v := 0) hx hb dX2_willAsk_36 rfl ?_
        exact hret _ _ _ dX2_willAsk_37 (by grind [g_b, s_will])
      · skip
        refine lv_iconst (v := 1) hx hb dX2_willAsk_32 rfl ?_
        refine lv_goto (tgt := 37) hx hb dX2_willAsk_33 (by decide) ?_
        exact hret _ _ _ dX2_willAsk_37 (by grind [g_b, s_will])

theorem y_X2_mayArrive : g_Y yX2_mayArrive cX2_mayArrive 2 (some .boolean) 1 := ⟨q2451, by decide +kernel⟩
theorem v_X2_mayArrive : g_YV yX2_mayArrive := ⟨q2450, qs82, q140⟩
set_option maxHeartbeats 4000000 in
theorem k_X2_mayArrive {G : g_G} {l : Launch} {ad : Nat → Nat} {F : Nat → Int32} {X Y : g_Wd} {U V : Nat → g_Wd} {Z : g_Wd} (m0 : Nat) (hm0 : m0 < 6) (ho : s_okL (X (3 + m0))) (hW : s_ok X) : g_Rd G l yX2_mayArrive cX2_mayArrive 2 (some .boolean) 4 [.ref (ad 0), .int (nI m0)] (g_Mod G ad F X Y U V Z) (some (.int (g_b (s_mayA X m0)))) := by
  refine g_Rd.ofI (by decide) (by cases (s_mayA X m0) <;> rfl) ?_
  intro p e s m args below meth c ls Q hX hM hl hret
  have hx := hX.1.1
  have hb := hX.1.2.1
  have hl : lv_has ls 2 [(0, .ref (ad 0)), (1, .int (nI m0))] := hl
  have hL := ho.2
  have hW9 := hW
  obtain ⟨⟨hL0, hL2, hL6⟩, ⟨hM0, hM6⟩, ⟨hG0, hG40⟩, hok⟩ := hW9
  refine lv_aload_n hx hb dX2_mayArrive_0 rfl (lv_at hl 0 rfl) ?_
  refine lv_iload_n hx hb dX2_mayArrive_1 rfl (lv_at hl 1 rfl) ?_
  refine lv_iconst (v := 1) hx hb dX2_mayArrive_2 rfl ?_
  refine g_cRV hX hl y_X2_of v_X2_of q2365 (k_X2_of m0 1 (by omega) (by omega)) (hM.rc hX.2.2.2) hM rfl ⟨Nat.le_of_ble_eq_true rfl, Nat.le_of_ble_eq_true rfl⟩ ⟨Nat.zero_le _, Nat.zero_le _⟩ (rest := []) (st1 := [.int (X (3 + m0) 1)]) rfl rfl (Nat.le_of_ble_eq_true rfl) dX2_mayArrive_3 ?_
  refine lv_aload_n hx hb dX2_mayArrive_6 rfl (lv_at hl 0 rfl) ?_
  refine g_cRV hX hl y_X2_lastLevel v_X2_lastLevel q2440 (k_X2_lastLevel hW) (hM.rc hX.2.2.2) hM rfl ⟨Nat.le_of_ble_eq_true rfl, Nat.le_of_ble_eq_true rfl⟩ ⟨Nat.zero_le _, Nat.zero_le _⟩ (rest := [.int (X (3 + m0) 1)]) (st1 := [.int (nI (s_L X - 1)), .int (X (3 + m0) 1)]) rfl rfl (Nat.le_of_ble_eq_true rfl) dX2_mayArrive_7 ?_
  refine lv_icmp_ne (tgt := 40) hx hb dX2_mayArrive_10 (by decide) (fun c_10 => ?_) (fun c_10 => ?_)
  · skip
    refine lv_iconst (v := 0) hx hb dX2_mayArrive_40 rfl ?_
    exact hret _ _ _ dX2_mayArrive_41 (by grind [g_b, s_mayA])
  · skip
    refine lv_aload_n hx hb dX2_mayArrive_13 rfl (lv_at hl 0 rfl) ?_
    refine lv_iload_n hx hb dX2_mayArrive_14 rfl (lv_at hl 1 rfl) ?_
    refine g_cRV hX hl y_X2_unsureAll v_X2_unsureAll q2397 (k_X2_unsureAll m0 (by omega) ho) (hM.rc hX.2.2.2) hM rfl ⟨Nat.le_of_ble_eq_true rfl, Nat.le_of_ble_eq_true rfl⟩ ⟨Nat.zero_le _, Nat.zero_le _⟩ (rest := []) (st1 := [.int (nI (s_unsAll (X (3 + m0))))]) rfl rfl (Nat.le_of_ble_eq_true rfl) dX2_mayArrive_15 ?_
    refine g_if_eqN (tgt := 36) hx hb (s_unsAll (X (3 + m0))) rfl (by have := s_unsAll_le hL; omega) dX2_mayArrive_18 (by decide) (fun c_18 => ?_) (fun c_18 => ?_)
    · skip
      refine lv_iconst (v := 1) hx hb dX2_mayArrive_36 rfl ?_
      refine lv_goto (tgt := 41) hx hb dX2_mayArrive_37 (by decide) ?_
      exact hret _ _ _ dX2_mayArrive_41 (by grind [g_b, s_mayA])
    · skip
      refine lv_aload_n hx hb dX2_mayArrive_21 rfl (lv_at hl 0 rfl) ?_
      refine lv_iload_n hx hb dX2_mayArrive_22 rfl (lv_at hl 1 rfl) ?_
      refine lv_iconst (v := 2) hx hb dX2_mayArrive_23 rfl ?_
      refine g_cRV hX hl y_X2_of v_X2_of q2365 (k_X2_of m0 2 (by omega) (by omega)) (hM.rc hX.2.2.2) hM rfl ⟨Nat.le_of_ble_eq_true rfl, Nat.le_of_ble_eq_true rfl⟩ ⟨Nat.zero_le _, Nat.zero_le _⟩ (rest := []) (st1 := [.int (X (3 + m0) 2)]) rfl rfl (Nat.le_of_ble_eq_true rfl) dX2_mayArrive_24 ?_
      refine lv_aload_n hx hb dX2_mayArrive_27 rfl (lv_at hl 0 rfl) ?_
      refine g_getM hX hM 1 (by decide) q2164 rfl (v := .ref (ad 1)) rfl dX2_mayArrive_28 ?_
      refine lv_iconst (v := 1) hx hb dX2_mayArrive_31 rfl ?_
      refine g_iald hX hM.a1 1 rfl (by omega) (by decide) (v := (X 0 1)) rfl dX2_mayArrive_32 ?_
      refine lv_icmp_lt (tgt := 40) hx hb dX2_mayArrive_33 (by decide) (fun c_33 => ?_) (fun c_33 => ?_)
      · skip
        refine lv_iconst (v := 0) hx hb dX2_mayArrive_40 rfl ?_
        exact hret _ _ _ dX2_mayArrive_41 (by grind [g_b, s_mayA])
      · skip
        refine lv_iconst (v := 1) hx hb dX2_mayArrive_36 rfl ?_
        refine lv_goto (tgt := 41) hx hb dX2_mayArrive_37 (by decide) ?_
        exact hret _ _ _ dX2_mayArrive_41 (by grind [g_b, s_mayA])

theorem y_X2_arrivedMany : g_Y yX2_arrivedMany cX2_arrivedMany 3 (some .int) 0 := ⟨q2381, by decide +kernel⟩
theorem v_X2_arrivedMany : g_YV yX2_arrivedMany := ⟨q2380, qs66, q140⟩
set_option maxHeartbeats 4000000 in
theorem k_X2_arrivedMany {G : g_G} {l : Launch} {ad : Nat → Nat} {F : Nat → Int32} {X Y : g_Wd} {U V : Nat → g_Wd} {Z : g_Wd}  (hW : s_ok X) : g_Rd G l yX2_arrivedMany cX2_arrivedMany 3 (some .int) 2 [.ref (ad 0)] (g_Mod G ad F X Y U V Z) (some (.int (nI (s_arrd X)))) := by
  refine g_Rd.ofI (by decide) rfl ?_
  intro p e s m args below meth c ls Q hX hM hl hret
  have hx := hX.1.1
  have hb := hX.1.2.1
  have hl : lv_has ls 3 [(0, .ref (ad 0))] := hl
  have hW9 := hW
  obtain ⟨⟨hL0, hL2, hL6⟩, ⟨hM0, hM6⟩, ⟨hG0, hG40⟩, hok⟩ := hW9
  have hw9 : s_W X ≤ 45 := by unfold s_W; omega
  refine lv_iconst (v := 0) hx hb dX2_arrivedMany_0 rfl ?_
  refine lv_istore_n (lv' := [(1, .int 0), (0, .ref (ad 0))]) hx hb dX2_arrivedMany_1 rfl hl (by decide) rfl (fun ls hl => ?_)
  refine lv_iconst (v := 0) hx hb dX2_arrivedMany_2 rfl ?_
  refine lv_istore_n (lv' := [(2, .int 0), (1, .int 0), (0, .ref (ad 0))]) hx hb dX2_arrivedMany_3 rfl hl (by decide) rfl (fun ls hl => ?_)
  have L4 : ∀ (nf : Nat) (j : Nat), (j ≤ s_M X) → (s_M X - j < nf) → ∀ ls : Array Slot, lv_has ls 3 [(1, .int (nI (s_cnt (fun m => !decide (X (3 + m) 4 = -1)) j))), (2, .int (nI j)), (0, .ref (ad 0))] → W p l e (g_rm 2 0 0) s m args below meth c s.heap [] 0 0 Q (F0 m 4 ls []) := by
    intro n4
    induction n4 with
    | zero => intro j hj hn; exact absurd hn (Nat.not_lt_zero _)
    | succ n4 ih4 =>
      intro j hj hn4 ls hl
      refine lv_iload_n hx hb dX2_arrivedMany_4 rfl (lv_at hl 1 rfl) ?_
      refine lv_aload_n hx hb dX2_arrivedMany_5 rfl (lv_at hl 2 rfl) ?_
      refine g_getM hX hM 1 (by decide) q2164 rfl (v := .ref (ad 1)) rfl dX2_arrivedMany_6 ?_
      refine lv_iconst (v := 3) hx hb dX2_arrivedMany_9 rfl ?_
      refine g_iald hX hM.a1 3 rfl (by omega) (by decide) (v := (X 0 3)) rfl dX2_arrivedMany_10 ?_
      refine g_icmp_geN (tgt := 39) hx hb j (s_M X) rfl hM0 (by omega) (by omega) dX2_arrivedMany_11 (by decide) (fun c_11 => ?_) (fun c_11 => ?_)
      · skip
        refine lv_iload_n hx hb dX2_arrivedMany_39 rfl (lv_at hl 0 rfl) ?_
        exact hret _ _ _ dX2_arrivedMany_40 (by rw [show j = s_M X by omega]; rfl)
      · skip
        refine lv_iload_n hx hb dX2_arrivedMany_14 rfl (lv_at hl 0 rfl) ?_
        refine lv_aload_n hx hb dX2_arrivedMany_15 rfl (lv_at hl 2 rfl) ?_
        refine lv_iload_n hx hb dX2_arrivedMany_16 rfl (lv_at hl 1 rfl) ?_
        refine g_cRV hX hl y_X2_isUnderWay v_X2_isUnderWay q2382 (k_X2_isUnderWay j (by omega)) (hM.rc hX.2.2.2) hM rfl ⟨Nat.le_of_ble_eq_true rfl, Nat.le_of_ble_eq_true rfl⟩ ⟨Nat.zero_le _, Nat.zero_le _⟩ (rest := [.int (nI (s_cnt (fun m => !decide (X (3 + m) 4 = -1)) j))]) (st1 := [.int (g_b (decide (X (3 + j) 4 = -1))), .int (nI (s_cnt (fun m => !decide (X (3 + m) 4 = -1)) j))]) rfl rfl (Nat.le_of_ble_eq_true rfl) dX2_arrivedMany_17 ?_
        refine g_if_neB (tgt := 27) hx hb (b := decide (X (3 + j) 4 = -1)) rfl dX2_arrivedMany_20 (by decide) (fun c_20 => ?_) (fun c_20 => ?_)
        · skip
          refine lv_iconst (v := 0) hx hb dX2_arrivedMany_27 rfl ?_
          refine g_cRS hX hl y_X2_one v_X2_one q2386 (k_X2_one false) trivial rfl ⟨Nat.le_of_ble_eq_true rfl, Nat.le_of_ble_eq_true rfl⟩ ⟨Nat.zero_le _, Nat.zero_le _⟩ (rest := [.int (nI (s_cnt (fun m => !decide (X (3 + m) 4 = -1)) j))]) (st1 := [.int (nI (s_n false)), .int (nI (s_cnt (fun m => !decide (X (3 + m) 4 = -1)) j))]) rfl rfl (Nat.le_of_ble_eq_true rfl) dX2_arrivedMany_28 ?_
          refine g_iaddN hx hb (s_cnt (fun m => !decide (X (3 + m) 4 = -1)) j) (s_n false) rfl rfl dX2_arrivedMany_31 ?_
          refine lv_istore_n (lv' := [(1, .int (nI (s_cnt (fun m => !decide (X (3 + m) 4 = -1)) j + s_n false))), (2, .int (nI j)), (0, .ref (ad 0))]) hx hb dX2_arrivedMany_32 rfl hl (by decide) rfl (fun ls hl => ?_)
          refine lv_iinc (v := (nI (j + 1))) (lv' := [(2, .int (nI (j + 1))), (1, .int (nI (s_cnt (fun m => !decide (X (3 + m) 4 = -1)) j + s_n false))), (0, .ref (ad 0))]) hx hb dX2_arrivedMany_33 hl (k := 1) rfl (nI_1 _) (by decide) rfl (fun ls hl => ?_)
          refine lv_goto (tgt := 4) hx hb dX2_arrivedMany_36 (by decide) ?_
          have e_1 : (nI (s_cnt (fun m => !decide (X (3 + m) 4 = -1)) j + s_n false)) = (nI (s_cnt (fun m => !decide (X (3 + m) 4 = -1)) (j + 1))) := by first | (simp [s_cnt, s_n, c_11, c_20]; done) | grind [s_cnt, s_n]
          rw [e_1] at hl
          exact ih4 (j + 1) (by omega) (by omega) ls (lv_sub hl [1, 0, 2] rfl)
        · skip
          refine lv_iconst (v := 1) hx hb dX2_arrivedMany_23 rfl ?_
          refine lv_goto (tgt := 28) hx hb dX2_arrivedMany_24 (by decide) ?_
          refine g_cRS hX hl y_X2_one v_X2_one q2386 (k_X2_one true) trivial rfl ⟨Nat.le_of_ble_eq_true rfl, Nat.le_of_ble_eq_true rfl⟩ ⟨Nat.zero_le _, Nat.zero_le _⟩ (rest := [.int (nI (s_cnt (fun m => !decide (X (3 + m) 4 = -1)) j))]) (st1 := [.int (nI (s_n true)), .int (nI (s_cnt (fun m => !decide (X (3 + m) 4 = -1)) j))]) rfl rfl (Nat.le_of_ble_eq_true rfl) dX2_arrivedMany_28 ?_
          refine g_iaddN hx hb (s_cnt (fun m => !decide (X (3 + m) 4 = -1)) j) (s_n true) rfl rfl dX2_arrivedMany_31 ?_
          refine lv_istore_n (lv' := [(1, .int (nI (s_cnt (fun m => !decide (X (3 + m) 4 = -1)) j + s_n true))), (2, .int (nI j)), (0, .ref (ad 0))]) hx hb dX2_arrivedMany_32 rfl hl (by decide) rfl (fun ls hl => ?_)
          refine lv_iinc (v := (nI (j + 1))) (lv' := [(2, .int (nI (j + 1))), (1, .int (nI (s_cnt (fun m => !decide (X (3 + m) 4 = -1)) j + s_n true))), (0, .ref (ad 0))]) hx hb dX2_arrivedMany_33 hl (k := 1) rfl (nI_1 _) (by decide) rfl (fun ls hl => ?_)
          refine lv_goto (tgt := 4) hx hb dX2_arrivedMany_36 (by decide) ?_
          have e_1 : (nI (s_cnt (fun m => !decide (X (3 + m) 4 = -1)) j + s_n true)) = (nI (s_cnt (fun m => !decide (X (3 + m) 4 = -1)) (j + 1))) := by first | (simp [s_cnt, s_n, c_11, c_20]; done) | grind [s_cnt, s_n]
          rw [e_1] at hl
          exact ih4 (j + 1) (by omega) (by omega) ls (lv_sub hl [1, 0, 2] rfl)
  exact L4 (s_M X - 0 + 1) 0 (Nat.zero_le _) (Nat.lt_succ_self _) ls (lv_sub hl [1, 0, 2] rfl)

theorem y_X2_wiresWith : g_Y yX2_wiresWith cX2_wiresWith 4 (some .int) 1 := ⟨q2508, by decide +kernel⟩
theorem v_X2_wiresWith : g_YV yX2_wiresWith := ⟨q2507, qs94, q140⟩
set_option maxHeartbeats 4000000 in
theorem k_X2_wiresWith {G : g_G} {l : Launch} {ad : Nat → Nat} {F : Nat → Int32} {X Y : g_Wd} {U V : Nat → g_Wd} {Z : g_Wd} (k : Nat) (hW : s_ok X) (hk : k < 5) : g_Rd G l yX2_wiresWith cX2_wiresWith 4 (some .int) 1 [.ref (ad 0), .int (nI k)] (g_Mod G ad F X Y U V Z) (some (.int (nI (s_wwith X k)))) := by
  refine g_Rd.ofI (by decide) rfl ?_
  intro p e s m args below meth c ls Q hX hM hl hret
  have hx := hX.1.1
  have hb := hX.1.2.1
  have hl : lv_has ls 4 [(0, .ref (ad 0)), (1, .int (nI k))] := hl
  have hW9 := hW
  obtain ⟨⟨hL0, hL2, hL6⟩, ⟨hM0, hM6⟩, ⟨hG0, hG40⟩, hok⟩ := hW9
  have hw9 : s_W X ≤ 45 := by unfold s_W; omega
  refine lv_iconst (v := 0) hx hb dX2_wiresWith_0 rfl ?_
  refine lv_istore_n (lv' := [(2, .int 0), (0, .ref (ad 0)), (1, .int (nI k))]) hx hb dX2_wiresWith_1 rfl hl (by decide) rfl (fun ls hl => ?_)
  refine lv_iconst (v := 0) hx hb dX2_wiresWith_2 rfl ?_
  refine lv_istore_n (lv' := [(3, .int 0), (2, .int 0), (0, .ref (ad 0)), (1, .int (nI k))]) hx hb dX2_wiresWith_3 rfl hl (by decide) rfl (fun ls hl => ?_)
  have L4 : ∀ (nf : Nat) (j : Nat), (j ≤ 9 * (s_L X - 1)) → (9 * (s_L X - 1) - j < nf) → ∀ ls : Array Slot, lv_has ls 4 [(2, .int (nI (s_cnt (fun w => decide (0 < X 1 (5 * w + k))) j))), (3, .int (nI j)), (0, .ref (ad 0)), (1, .int (nI k))] → W p l e (g_rm 1 0 0) s m args below meth c s.heap [] 0 0 Q (F0 m 4 ls []) := by
    intro n4
    induction n4 with
    | zero => intro j hj hn; exact absurd hn (Nat.not_lt_zero _)
    | succ n4 ih4 =>
      intro j hj hn4 ls hl
      refine lv_iload_n hx hb dX2_wiresWith_4 rfl (lv_at hl 1 rfl) ?_
      refine lv_bipush (v := 9) hx hb dX2_wiresWith_5 (by decide) ?_
      refine lv_aload_n hx hb dX2_wiresWith_7 rfl (lv_at hl 2 rfl) ?_
      refine g_cRV hX hl y_X2_lastLevel v_X2_lastLevel q2440 (k_X2_lastLevel hW) (hM.rc hX.2.2.2) hM rfl ⟨Nat.le_of_ble_eq_true rfl, Nat.le_of_ble_eq_true rfl⟩ ⟨Nat.zero_le _, Nat.zero_le _⟩ (rest := [.int 9, .int (nI j)]) (st1 := [.int (nI (s_L X - 1)), .int 9, .int (nI j)]) rfl rfl (Nat.le_of_ble_eq_true rfl) dX2_wiresWith_8 ?_
      refine g_imulN hx hb 9 (s_L X - 1) rfl rfl dX2_wiresWith_11 ?_
      refine g_icmp_geN (tgt := 41) hx hb j (9 * (s_L X - 1)) rfl rfl (by omega) (by omega) dX2_wiresWith_12 (by decide) (fun c_12 => ?_) (fun c_12 => ?_)
      · skip
        refine lv_iload_n hx hb dX2_wiresWith_41 rfl (lv_at hl 0 rfl) ?_
        exact hret _ _ _ dX2_wiresWith_42 (by rw [show j = 9 * (s_L X - 1) by omega]; rfl)
      · skip
        refine lv_iload_n hx hb dX2_wiresWith_15 rfl (lv_at hl 0 rfl) ?_
        refine lv_aload_n hx hb dX2_wiresWith_16 rfl (lv_at hl 2 rfl) ?_
        refine lv_iload_n hx hb dX2_wiresWith_17 rfl (lv_at hl 1 rfl) ?_
        refine lv_iload_n hx hb dX2_wiresWith_18 rfl (lv_at hl 3 rfl) ?_
        refine g_cRV hX hl y_X2_ofWire v_X2_ofWire q2340 (k_X2_ofWire j k (by omega) (by omega)) (hM.rc hX.2.2.2) hM rfl ⟨Nat.le_of_ble_eq_true rfl, Nat.le_of_ble_eq_true rfl⟩ ⟨Nat.zero_le _, Nat.zero_le _⟩ (rest := [.int (nI (s_cnt (fun w => decide (0 < X 1 (5 * w + k))) j))]) (st1 := [.int (X 1 (5 * j + k)), .int (nI (s_cnt (fun w => decide (0 < X 1 (5 * w + k))) j))]) rfl rfl (Nat.le_of_ble_eq_true rfl) dX2_wiresWith_19 ?_
        refine lv_if_le (tgt := 29) hx hb dX2_wiresWith_22 (by decide) (fun c_22 => ?_) (fun c_22 => ?_)
        · skip
          refine lv_iconst (v := 0) hx hb dX2_wiresWith_29 rfl ?_
          refine g_cRS hX hl y_X2_one v_X2_one q2386 (k_X2_one false) trivial rfl ⟨Nat.le_of_ble_eq_true rfl, Nat.le_of_ble_eq_true rfl⟩ ⟨Nat.zero_le _, Nat.zero_le _⟩ (rest := [.int (nI (s_cnt (fun w => decide (0 < X 1 (5 * w + k))) j))]) (st1 := [.int (nI (s_n false)), .int (nI (s_cnt (fun w => decide (0 < X 1 (5 * w + k))) j))]) rfl rfl (Nat.le_of_ble_eq_true rfl) dX2_wiresWith_30 ?_
          refine g_iaddN hx hb (s_cnt (fun w => decide (0 < X 1 (5 * w + k))) j) (s_n false) rfl rfl dX2_wiresWith_33 ?_
          refine lv_istore_n (lv' := [(2, .int (nI (s_cnt (fun w => decide (0 < X 1 (5 * w + k))) j + s_n false))), (3, .int (nI j)), (0, .ref (ad 0)), (1, .int (nI k))]) hx hb dX2_wiresWith_34 rfl hl (by decide) rfl (fun ls hl => ?_)
          refine lv_iinc (v := (nI (j + 1))) (lv' := [(3, .int (nI (j + 1))), (2, .int (nI (s_cnt (fun w => decide (0 < X 1 (5 * w + k))) j + s_n false))), (0, .ref (ad 0)), (1, .int (nI k))]) hx hb dX2_wiresWith_35 hl (k := 1) rfl (nI_1 _) (by decide) rfl (fun ls hl => ?_)
          refine lv_goto (tgt := 4) hx hb dX2_wiresWith_38 (by decide) ?_
          have e_2 : (nI (s_cnt (fun w => decide (0 < X 1 (5 * w + k))) j + s_n false)) = (nI (s_cnt (fun w => decide (0 < X 1 (5 * w + k))) (j + 1))) := by first | (simp [s_cnt, s_n, c_12, c_22]; done) | grind [s_cnt, s_n]
          rw [e_2] at hl
          exact ih4 (j + 1) (by omega) (by omega) ls (lv_sub hl [1, 0, 2, 3] rfl)
        · skip
          refine lv_iconst (v := 1) hx hb dX2_wiresWith_25 rfl ?_
          refine lv_goto (tgt := 30) hx hb dX2_wiresWith_26 (by decide) ?_
          refine g_cRS hX hl y_X2_one v_X2_one q2386 (k_X2_one true) trivial rfl ⟨Nat.le_of_ble_eq_true rfl, Nat.le_of_ble_eq_true rfl⟩ ⟨Nat.zero_le _, Nat.zero_le _⟩ (rest := [.int (nI (s_cnt (fun w => decide (0 < X 1 (5 * w + k))) j))]) (st1 := [.int (nI (s_n true)), .int (nI (s_cnt (fun w => decide (0 < X 1 (5 * w + k))) j))]) rfl rfl (Nat.le_of_ble_eq_true rfl) dX2_wiresWith_30 ?_
          refine g_iaddN hx hb (s_cnt (fun w => decide (0 < X 1 (5 * w + k))) j) (s_n true) rfl rfl dX2_wiresWith_33 ?_
          refine lv_istore_n (lv' := [(2, .int (nI (s_cnt (fun w => decide (0 < X 1 (5 * w + k))) j + s_n true))), (3, .int (nI j)), (0, .ref (ad 0)), (1, .int (nI k))]) hx hb dX2_wiresWith_34 rfl hl (by decide) rfl (fun ls hl => ?_)
          refine lv_iinc (v := (nI (j + 1))) (lv' := [(3, .int (nI (j + 1))), (2, .int (nI (s_cnt (fun w => decide (0 < X 1 (5 * w + k))) j + s_n true))), (0, .ref (ad 0)), (1, .int (nI k))]) hx hb dX2_wiresWith_35 hl (k := 1) rfl (nI_1 _) (by decide) rfl (fun ls hl => ?_)
          refine lv_goto (tgt := 4) hx hb dX2_wiresWith_38 (by decide) ?_
          have e_2 : (nI (s_cnt (fun w => decide (0 < X 1 (5 * w + k))) j + s_n true)) = (nI (s_cnt (fun w => decide (0 < X 1 (5 * w + k))) (j + 1))) := by first | (simp [s_cnt, s_n, c_12, c_22]; done) | grind [s_cnt, s_n]
          rw [e_2] at hl
          exact ih4 (j + 1) (by omega) (by omega) ls (lv_sub hl [1, 0, 2, 3] rfl)
  exact L4 (9 * (s_L X - 1) - 0 + 1) 0 (Nat.zero_le _) (Nat.lt_succ_self _) ls (lv_sub hl [1, 0, 2, 3] rfl)

theorem y_X2_isHut : g_Y yX2_isHut cX2_isHut 2 (some .boolean) 1 := ⟨q2520, by decide +kernel⟩
theorem v_X2_isHut : g_YV yX2_isHut := ⟨q2519, qs96, q140⟩
set_option maxHeartbeats 4000000 in
theorem k_X2_isHut {G : g_G} {l : Launch} {ad : Nat → Nat} {F : Nat → Int32} {X Y : g_Wd} {U V : Nat → g_Wd} {Z : g_Wd} (v : Int32)  : g_Rd G l yX2_isHut cX2_isHut 2 (some .boolean) 1 [.ref (ad 0), .int v] (g_Mod G ad F X Y U V Z) (some (.int (g_b (s_in v 0 2)))) := by
  refine g_Rd.ofI (by decide) (by cases (s_in v 0 2) <;> rfl) ?_
  intro p e s m args below meth c ls Q hX hM hl hret
  have hx := hX.1.1
  have hb := hX.1.2.1
  have hl : lv_has ls 2 [(0, .ref (ad 0)), (1, .int v)] := hl
  refine lv_iload_n hx hb dX2_isHut_0 rfl (lv_at hl 1 rfl) ?_
  refine lv_iconst (v := 0) hx hb dX2_isHut_1 rfl ?_
  refine lv_iconst (v := 2) hx hb dX2_isHut_2 rfl ?_
  refine g_cRS hX hl y_X2_in v_X2_in q2258 (k_X2_in v 0 2) trivial rfl ⟨Nat.le_of_ble_eq_true rfl, Nat.le_of_ble_eq_true rfl⟩ ⟨Nat.zero_le _, Nat.zero_le _⟩ (rest := []) (st1 := [.int (g_b (s_in v 0 2))]) rfl rfl (Nat.le_of_ble_eq_true rfl) dX2_isHut_3 ?_
  exact hret _ _ _ dX2_isHut_6 (by grind [g_b, s_in])

theorem y_X2_isWire : g_Y yX2_isWire cX2_isWire 4 (some .boolean) 3 := ⟨q2516, by decide +kernel⟩
theorem v_X2_isWire : g_YV yX2_isWire := ⟨q2515, qs95, q140⟩
set_option maxHeartbeats 4000000 in
theorem k_X2_isWire {G : g_G} {l : Launch} {ad : Nat → Nat} {F : Nat → Int32} {X Y : g_Wd} {U V : Nat → g_Wd} {Z : g_Wd} (k : Int32) (a : Int32) (b : Int32)  : g_Rd G l yX2_isWire cX2_isWire 4 (some .boolean) 2 [.ref (ad 0), .int k, .int a, .int b] (g_Mod G ad F X Y U V Z) (some (.int (g_b (s_isWire F X k a b)))) := by
  refine g_Rd.ofI (by decide) (by cases (s_isWire F X k a b) <;> rfl) ?_
  intro p e s m args below meth c ls Q hX hM hl hret
  have hx := hX.1.1
  have hb := hX.1.2.1
  have hl : lv_has ls 4 [(0, .ref (ad 0)), (1, .int k), (2, .int a), (3, .int b)] := hl
  refine lv_aload_n hx hb dX2_isWire_0 rfl (lv_at hl 0 rfl) ?_
  refine g_getM hX hM 6 (by decide) q2169 rfl (v := .int (F 6)) rfl dX2_isWire_1 ?_
  refine lv_if_eq (tgt := 43) hx hb dX2_isWire_4 (by decide) (fun c_4 => ?_) (fun c_4 => ?_)
  · skip
    refine lv_iconst (v := 0) hx hb dX2_isWire_43 rfl ?_
    exact hret _ _ _ dX2_isWire_44 (by grind [g_b, s_isWire])
  · skip
    refine lv_iload_n hx hb dX2_isWire_7 rfl (lv_at hl 1 rfl) ?_
    refine lv_iconst (v := 0) hx hb dX2_isWire_8 rfl ?_
    refine lv_aload_n hx hb dX2_isWire_9 rfl (lv_at hl 0 rfl) ?_
    refine g_getM hX hM 1 (by decide) q2164 rfl (v := .ref (ad 1)) rfl dX2_isWire_10 ?_
    refine lv_iconst (v := 0) hx hb dX2_isWire_13 rfl ?_
    refine g_iald hX hM.a1 0 rfl (by omega) (by decide) (v := (X 0 0)) rfl dX2_isWire_14 ?_
    refine lv_iconst (v := 2) hx hb dX2_isWire_15 rfl ?_
    refine lv_isub hx hb dX2_isWire_16 ?_
    refine g_cRS hX hl y_X2_in v_X2_in q2258 (k_X2_in k 0 ((X 0 0) - 2)) trivial rfl ⟨Nat.le_of_ble_eq_true rfl, Nat.le_of_ble_eq_true rfl⟩ ⟨Nat.zero_le _, Nat.zero_le _⟩ (rest := []) (st1 := [.int (g_b (s_in k 0 ((X 0 0) - 2)))]) rfl rfl (Nat.le_of_ble_eq_true rfl) dX2_isWire_17 ?_
    refine g_if_eqB (tgt := 43) hx hb (b := s_in k 0 ((X 0 0) - 2)) rfl dX2_isWire_20 (by decide) (fun c_20 => ?_) (fun c_20 => ?_)
    · skip
      refine lv_iconst (v := 0) hx hb dX2_isWire_43 rfl ?_
      exact hret _ _ _ dX2_isWire_44 (by grind [g_b, s_isWire])
    · skip
      refine lv_aload_n hx hb dX2_isWire_23 rfl (lv_at hl 0 rfl) ?_
      refine lv_iload_n hx hb dX2_isWire_24 rfl (lv_at hl 2 rfl) ?_
      refine g_cRV hX hl y_X2_isHut v_X2_isHut q2517 (k_X2_isHut a) (hM.rc hX.2.2.2) hM rfl ⟨Nat.le_of_ble_eq_true rfl, Nat.le_of_ble_eq_true rfl⟩ ⟨Nat.zero_le _, Nat.zero_le _⟩ (rest := []) (st1 := [.int (g_b (s_in a 0 2))]) rfl rfl (Nat.le_of_ble_eq_true rfl) dX2_isWire_25 ?_
      refine g_if_eqB (tgt := 43) hx hb (b := s_in a 0 2) rfl dX2_isWire_28 (by decide) (fun c_28 => ?_) (fun c_28 => ?_)
      · skip
        refine lv_iconst (v := 0) hx hb dX2_isWire_43 rfl ?_
        exact hret _ _ _ dX2_isWire_44 (by grind [g_b, s_isWire])
      · skip
        refine lv_aload_n hx hb dX2_isWire_31 rfl (lv_at hl 0 rfl) ?_
        refine lv_iload_n hx hb dX2_isWire_32 rfl (lv_at hl 3 rfl) ?_
        refine g_cRV hX hl y_X2_isHut v_X2_isHut q2517 (k_X2_isHut b) (hM.rc hX.2.2.2) hM rfl ⟨Nat.le_of_ble_eq_true rfl, Nat.le_of_ble_eq_true rfl⟩ ⟨Nat.zero_le _, Nat.zero_le _⟩ (rest := []) (st1 := [.int (g_b (s_in b 0 2))]) rfl rfl (Nat.le_of_ble_eq_true rfl) dX2_isWire_33 ?_
        refine g_if_eqB (tgt := 43) hx hb (b := s_in b 0 2) rfl dX2_isWire_36 (by decide) (fun c_36 => ?_) (fun c_36 => ?_)
        · skip
          refine lv_iconst (v := 0) hx hb dX2_isWire_43 rfl ?_
          exact hret _ _ _ dX2_isWire_44 (by grind [g_b, s_isWire])
        · skip
          refine lv_iconst (v := 1) hx hb dX2_isWire_39 rfl ?_
          refine lv_goto (tgt := 44) hx hb dX2_isWire_40 (by decide) ?_
          exact hret _ _ _ dX2_isWire_44 (by grind [g_b, s_isWire])

theorem y_X2_isWireNumber : g_Y yX2_isWireNumber cX2_isWireNumber 2 (some .boolean) 1 := ⟨q2736, by decide +kernel⟩
theorem v_X2_isWireNumber : g_YV yX2_isWireNumber := ⟨q2735, qs121, q140⟩
set_option maxHeartbeats 4000000 in
theorem k_X2_isWireNumber {G : g_G} {l : Launch} {ad : Nat → Nat} {F : Nat → Int32} {X Y : g_Wd} {U V : Nat → g_Wd} {Z : g_Wd} (w : Int32) (hWc : ¬ F 6 = 0 → s_ok X) : g_Rd G l yX2_isWireNumber cX2_isWireNumber 2 (some .boolean) 1 [.ref (ad 0), .int w] (g_Mod G ad F X Y U V Z) (some (.int (g_b (s_isWN F X w)))) := by
  refine g_Rd.ofI (by decide) (by cases (s_isWN F X w) <;> rfl) ?_
  intro p e s m args below meth c ls Q hX hM hl hret
  have hx := hX.1.1
  have hb := hX.1.2.1
  have hl : lv_has ls 2 [(0, .ref (ad 0)), (1, .int w)] := hl
  refine lv_aload_n hx hb dX2_isWireNumber_0 rfl (lv_at hl 0 rfl) ?_
  refine g_getM hX hM 6 (by decide) q2169 rfl (v := .int (F 6)) rfl dX2_isWireNumber_1 ?_
  refine lv_if_eq (tgt := 28) hx hb dX2_isWireNumber_4 (by decide) (fun c_4 => ?_) (fun c_4 => ?_)
  · skip
    refine lv_iconst (v := 0) hx hb dX2_isWireNumber_28 rfl ?_
    exact hret _ _ _ dX2_isWireNumber_29 (by grind [g_b, s_isWN, s_W])
  · skip
    have hW := hWc (by assumption)
    have hW9 := hW
    obtain ⟨⟨hL0, hL2, hL6⟩, ⟨hM0, hM6⟩, ⟨hG0, hG40⟩, hok⟩ := hW9
    have hw9 : s_W X ≤ 45 := by unfold s_W; omega
    refine lv_iload_n hx hb dX2_isWireNumber_7 rfl (lv_at hl 1 rfl) ?_
    refine lv_iconst (v := 0) hx hb dX2_isWireNumber_8 rfl ?_
    refine lv_bipush (v := 9) hx hb dX2_isWireNumber_9 (by decide) ?_
    refine lv_aload_n hx hb dX2_isWireNumber_11 rfl (lv_at hl 0 rfl) ?_
    refine g_cRV hX hl y_X2_lastLevel v_X2_lastLevel q2440 (k_X2_lastLevel hW) (hM.rc hX.2.2.2) hM rfl ⟨Nat.le_of_ble_eq_true rfl, Nat.le_of_ble_eq_true rfl⟩ ⟨Nat.zero_le _, Nat.zero_le _⟩ (rest := [.int 9, .int 0, .int w]) (st1 := [.int (nI (s_L X - 1)), .int 9, .int 0, .int w]) rfl rfl (Nat.le_of_ble_eq_true rfl) dX2_isWireNumber_12 ?_
    refine g_imulN hx hb 9 (s_L X - 1) rfl rfl dX2_isWireNumber_15 ?_
    refine lv_iconst (v := 1) hx hb dX2_isWireNumber_16 rfl ?_
    refine lv_isub hx hb dX2_isWireNumber_17 ?_
    refine g_cRS hX hl y_X2_in v_X2_in q2258 (k_X2_in w 0 ((nI (9 * (s_L X - 1))) - 1)) trivial rfl ⟨Nat.le_of_ble_eq_true rfl, Nat.le_of_ble_eq_true rfl⟩ ⟨Nat.zero_le _, Nat.zero_le _⟩ (rest := []) (st1 := [.int (g_b (s_in w 0 ((nI (9 * (s_L X - 1))) - 1)))]) rfl rfl (Nat.le_of_ble_eq_true rfl) dX2_isWireNumber_18 ?_
    refine g_if_eqB (tgt := 28) hx hb (b := s_in w 0 ((nI (9 * (s_L X - 1))) - 1)) rfl dX2_isWireNumber_21 (by decide) (fun c_21 => ?_) (fun c_21 => ?_)
    · skip
      refine lv_iconst (v := 0) hx hb dX2_isWireNumber_28 rfl ?_
      exact hret _ _ _ dX2_isWireNumber_29 (by grind [g_b, s_isWN, s_W])
    · skip
      refine lv_iconst (v := 1) hx hb dX2_isWireNumber_24 rfl ?_
      refine lv_goto (tgt := 29) hx hb dX2_isWireNumber_25 (by decide) ?_
      exact hret _ _ _ dX2_isWireNumber_29 (by grind [g_b, s_isWN, s_W])

theorem y_X2_isMessage : g_Y yX2_isMessage cX2_isMessage 2 (some .boolean) 1 := ⟨q2567, by decide +kernel⟩
theorem v_X2_isMessage : g_YV yX2_isMessage := ⟨q2566, qs100, q140⟩
set_option maxHeartbeats 4000000 in
theorem k_X2_isMessage {G : g_G} {l : Launch} {ad : Nat → Nat} {F : Nat → Int32} {X Y : g_Wd} {U V : Nat → g_Wd} {Z : g_Wd} (v : Int32)  : g_Rd G l yX2_isMessage cX2_isMessage 2 (some .boolean) 1 [.ref (ad 0), .int v] (g_Mod G ad F X Y U V Z) (some (.int (g_b (s_isMsg F X v)))) := by
  refine g_Rd.ofI (by decide) (by cases (s_isMsg F X v) <;> rfl) ?_
  intro p e s m args below meth c ls Q hX hM hl hret
  have hx := hX.1.1
  have hb := hX.1.2.1
  have hl : lv_has ls 2 [(0, .ref (ad 0)), (1, .int v)] := hl
  refine lv_aload_n hx hb dX2_isMessage_0 rfl (lv_at hl 0 rfl) ?_
  refine g_getM hX hM 6 (by decide) q2169 rfl (v := .int (F 6)) rfl dX2_isMessage_1 ?_
  refine lv_if_eq (tgt := 27) hx hb dX2_isMessage_4 (by decide) (fun c_4 => ?_) (fun c_4 => ?_)
  · skip
    refine lv_iconst (v := 0) hx hb dX2_isMessage_27 rfl ?_
    exact hret _ _ _ dX2_isMessage_28 (by grind [g_b, s_isMsg])
  · skip
    refine lv_iload_n hx hb dX2_isMessage_7 rfl (lv_at hl 1 rfl) ?_
    refine lv_iconst (v := 0) hx hb dX2_isMessage_8 rfl ?_
    refine lv_aload_n hx hb dX2_isMessage_9 rfl (lv_at hl 0 rfl) ?_
    refine g_getM hX hM 1 (by decide) q2164 rfl (v := .ref (ad 1)) rfl dX2_isMessage_10 ?_
    refine lv_iconst (v := 3) hx hb dX2_isMessage_13 rfl ?_
    refine g_iald hX hM.a1 3 rfl (by omega) (by decide) (v := (X 0 3)) rfl dX2_isMessage_14 ?_
    refine lv_iconst (v := 1) hx hb dX2_isMessage_15 rfl ?_
    refine lv_isub hx hb dX2_isMessage_16 ?_
    refine g_cRS hX hl y_X2_in v_X2_in q2258 (k_X2_in v 0 ((X 0 3) - 1)) trivial rfl ⟨Nat.le_of_ble_eq_true rfl, Nat.le_of_ble_eq_true rfl⟩ ⟨Nat.zero_le _, Nat.zero_le _⟩ (rest := []) (st1 := [.int (g_b (s_in v 0 ((X 0 3) - 1)))]) rfl rfl (Nat.le_of_ble_eq_true rfl) dX2_isMessage_17 ?_
    refine g_if_eqB (tgt := 27) hx hb (b := s_in v 0 ((X 0 3) - 1)) rfl dX2_isMessage_20 (by decide) (fun c_20 => ?_) (fun c_20 => ?_)
    · skip
      refine lv_iconst (v := 0) hx hb dX2_isMessage_27 rfl ?_
      exact hret _ _ _ dX2_isMessage_28 (by grind [g_b, s_isMsg])
    · skip
      refine lv_iconst (v := 1) hx hb dX2_isMessage_23 rfl ?_
      refine lv_goto (tgt := 28) hx hb dX2_isMessage_24 (by decide) ?_
      exact hret _ _ _ dX2_isMessage_28 (by grind [g_b, s_isMsg])

theorem y_X2_isPlace : g_Y yX2_isPlace cX2_isPlace 3 (some .boolean) 2 := ⟨q2587, by decide +kernel⟩
theorem v_X2_isPlace : g_YV yX2_isPlace := ⟨q2586, qs104, q140⟩
set_option maxHeartbeats 4000000 in
theorem k_X2_isPlace {G : g_G} {l : Launch} {ad : Nat → Nat} {F : Nat → Int32} {X Y : g_Wd} {U V : Nat → g_Wd} {Z : g_Wd} (v : Int32) (q : Int32) (hWc : ¬ F 6 = 0 → s_ok X) : g_Rd G l yX2_isPlace cX2_isPlace 3 (some .boolean) 2 [.ref (ad 0), .int v, .int q] (g_Mod G ad F X Y U V Z) (some (.int (g_b (s_isPl F X v q)))) := by
  refine g_Rd.ofI (by decide) (by cases (s_isPl F X v q) <;> rfl) ?_
  intro p e s m args below meth c ls Q hX hM hl hret
  have hx := hX.1.1
  have hb := hX.1.2.1
  have hl : lv_has ls 3 [(0, .ref (ad 0)), (1, .int v), (2, .int q)] := hl
  refine lv_aload_n hx hb dX2_isPlace_0 rfl (lv_at hl 0 rfl) ?_
  refine lv_iload_n hx hb dX2_isPlace_1 rfl (lv_at hl 1 rfl) ?_
  refine g_cRV hX hl y_X2_isMessage v_X2_isMessage q2564 (k_X2_isMessage v) (hM.rc hX.2.2.2) hM rfl ⟨Nat.le_of_ble_eq_true rfl, Nat.le_of_ble_eq_true rfl⟩ ⟨Nat.zero_le _, Nat.zero_le _⟩ (rest := []) (st1 := [.int (g_b (s_isMsg F X v))]) rfl rfl (Nat.le_of_ble_eq_true rfl) dX2_isPlace_2 ?_
  refine g_if_eqB (tgt := 28) hx hb (b := s_isMsg F X v) rfl dX2_isPlace_5 (by decide) (fun c_5 => ?_) (fun c_5 => ?_)
  · skip
    refine lv_iconst (v := 0) hx hb dX2_isPlace_28 rfl ?_
    exact hret _ _ _ dX2_isPlace_29 (by grind [g_b, s_isPl])
  · skip
    obtain ⟨j, hj, rfl, hF⟩ := s_isMsg_nat c_5 hWc
    have hW := hWc hF
    have hW9 := hW
    obtain ⟨⟨hL0, hL2, hL6⟩, ⟨hM0, hM6⟩, ⟨hG0, hG40⟩, hok⟩ := hW9
    have hw9 : s_W X ≤ 45 := by unfold s_W; omega
    have hcl : (nI j).toNatClampNeg = j := nI_clamp (by omega)
    refine lv_iload_n hx hb dX2_isPlace_8 rfl (lv_at hl 2 rfl) ?_
    refine lv_iconst (v := 0) hx hb dX2_isPlace_9 rfl ?_
    refine lv_aload_n hx hb dX2_isPlace_10 rfl (lv_at hl 0 rfl) ?_
    refine lv_iload_n hx hb dX2_isPlace_11 rfl (lv_at hl 1 rfl) ?_
    refine lv_iconst (v := 0) hx hb dX2_isPlace_12 rfl ?_
    refine g_cRV hX hl y_X2_of v_X2_of q2365 (k_X2_of j 0 (by omega) (by omega)) (hM.rc hX.2.2.2) hM rfl ⟨Nat.le_of_ble_eq_true rfl, Nat.le_of_ble_eq_true rfl⟩ ⟨Nat.zero_le _, Nat.zero_le _⟩ (rest := [.int 0, .int q]) (st1 := [.int (X (3 + j) 0), .int 0, .int q]) rfl rfl (Nat.le_of_ble_eq_true rfl) dX2_isPlace_13 ?_
    refine lv_iconst (v := 1) hx hb dX2_isPlace_16 rfl ?_
    refine lv_isub hx hb dX2_isPlace_17 ?_
    refine g_cRS hX hl y_X2_in v_X2_in q2258 (k_X2_in q 0 ((X (3 + j) 0) - 1)) trivial rfl ⟨Nat.le_of_ble_eq_true rfl, Nat.le_of_ble_eq_true rfl⟩ ⟨Nat.zero_le _, Nat.zero_le _⟩ (rest := []) (st1 := [.int (g_b (s_in q 0 ((X (3 + j) 0) - 1)))]) rfl rfl (Nat.le_of_ble_eq_true rfl) dX2_isPlace_18 ?_
    refine g_if_eqB (tgt := 28) hx hb (b := s_in q 0 ((X (3 + j) 0) - 1)) rfl dX2_isPlace_21 (by decide) (fun c_21 => ?_) (fun c_21 => ?_)
    · skip
      refine lv_iconst (v := 0) hx hb dX2_isPlace_28 rfl ?_
      exact hret _ _ _ dX2_isPlace_29 (by grind [g_b, s_isPl])
    · skip
      refine lv_iconst (v := 1) hx hb dX2_isPlace_24 rfl ?_
      refine lv_goto (tgt := 29) hx hb dX2_isPlace_25 (by decide) ?_
      exact hret _ _ _ dX2_isPlace_29 (by grind [g_b, s_isPl])

theorem y_X2_isGarbled : g_Y yX2_isGarbled cX2_isGarbled 4 (some .boolean) 3 := ⟨q2424, by decide +kernel⟩
theorem v_X2_isGarbled : g_YV yX2_isGarbled := ⟨q2423, qs76, q140⟩
set_option maxHeartbeats 4000000 in
theorem k_X2_isGarbled {G : g_G} {l : Launch} {ad : Nat → Nat} {F : Nat → Int32} {X Y : g_Wd} {U V : Nat → g_Wd} {Z : g_Wd} (w : Nat) (hour : Int32) (q : Int32) (hw : w < 45) : g_Rd G l yX2_isGarbled cX2_isGarbled 4 (some .boolean) 1 [.ref (ad 0), .int (nI w), .int hour, .int q] (g_Mod G ad F X Y U V Z) (some (.int (g_b (s_garb (X 1) w hour q)))) := by
  refine g_Rd.ofI (by decide) (by cases (s_garb (X 1) w hour q) <;> rfl) ?_
  intro p e s m args below meth c ls Q hX hM hl hret
  have hx := hX.1.1
  have hb := hX.1.2.1
  have hl : lv_has ls 4 [(0, .ref (ad 0)), (1, .int (nI w)), (2, .int hour), (3, .int q)] := hl
  refine lv_bipush (v := 7) hx hb dX2_isGarbled_0 (by decide) ?_
  refine lv_iload_n hx hb dX2_isGarbled_2 rfl (lv_at hl 2 rfl) ?_
  refine lv_imul hx hb dX2_isGarbled_3 ?_
  refine lv_iconst (v := 3) hx hb dX2_isGarbled_4 rfl ?_
  refine lv_iload_n hx hb dX2_isGarbled_5 rfl (lv_at hl 3 rfl) ?_
  refine lv_imul hx hb dX2_isGarbled_6 ?_
  refine lv_iadd hx hb dX2_isGarbled_7 ?_
  refine lv_aload_n hx hb dX2_isGarbled_8 rfl (lv_at hl 0 rfl) ?_
  refine lv_iload_n hx hb dX2_isGarbled_9 rfl (lv_at hl 1 rfl) ?_
  refine lv_iconst (v := 1) hx hb dX2_isGarbled_10 rfl ?_
  refine g_cRV hX hl y_X2_ofWire v_X2_ofWire q2340 (k_X2_ofWire w 1 (by omega) (by omega)) (hM.rc hX.2.2.2) hM rfl ⟨Nat.le_of_ble_eq_true rfl, Nat.le_of_ble_eq_true rfl⟩ ⟨Nat.zero_le _, Nat.zero_le _⟩ (rest := [.int ((7 * hour) + (3 * q))]) (st1 := [.int (X 1 (5 * w + 1)), .int ((7 * hour) + (3 * q))]) rfl rfl (Nat.le_of_ble_eq_true rfl) dX2_isGarbled_11 ?_
  refine lv_iadd hx hb dX2_isGarbled_14 ?_
  refine lv_bipush (v := 10) hx hb dX2_isGarbled_15 (by decide) ?_
  refine lv_irem hx hb dX2_isGarbled_17 (by decide) ?_
  refine lv_aload_n hx hb dX2_isGarbled_18 rfl (lv_at hl 0 rfl) ?_
  refine lv_iload_n hx hb dX2_isGarbled_19 rfl (lv_at hl 1 rfl) ?_
  refine lv_iconst (v := 0) hx hb dX2_isGarbled_20 rfl ?_
  refine g_cRV hX hl y_X2_ofWire v_X2_ofWire q2340 (k_X2_ofWire w 0 (by omega) (by omega)) (hM.rc hX.2.2.2) hM rfl ⟨Nat.le_of_ble_eq_true rfl, Nat.le_of_ble_eq_true rfl⟩ ⟨Nat.zero_le _, Nat.zero_le _⟩ (rest := [.int (g_rem (((7 * hour) + (3 * q)) + (X 1 (5 * w + 1))) 10)]) (st1 := [.int (X 1 (5 * w + 0)), .int (g_rem (((7 * hour) + (3 * q)) + (X 1 (5 * w + 1))) 10)]) rfl rfl (Nat.le_of_ble_eq_true rfl) dX2_isGarbled_21 ?_
  refine lv_icmp_ge (tgt := 31) hx hb dX2_isGarbled_24 (by decide) (fun c_24 => ?_) (fun c_24 => ?_)
  · skip
    refine lv_iconst (v := 0) hx hb dX2_isGarbled_31 rfl ?_
    exact hret _ _ _ dX2_isGarbled_32 (by grind [g_b, s_garb])
  · skip
    refine lv_iconst (v := 1) hx hb dX2_isGarbled_27 rfl ?_
    refine lv_goto (tgt := 32) hx hb dX2_isGarbled_28 (by decide) ?_
    exact hret _ _ _ dX2_isGarbled_32 (by grind [g_b, s_garb])

theorem y_X2_arriving : g_Y yX2_arriving cX2_arriving 4 (some .int) 3 := ⟨q2428, by decide +kernel⟩
theorem v_X2_arriving : g_YV yX2_arriving := ⟨q2427, qs77, q140⟩
set_option maxHeartbeats 4000000 in
theorem k_X2_arriving {G : g_G} {l : Launch} {ad : Nat → Nat} {F : Nat → Int32} {X Y : g_Wd} {U V : Nat → g_Wd} {Z : g_Wd} (w : Nat) (q : Int32) (dg : Int32) (hw : w < 45) : g_Rd G l yX2_arriving cX2_arriving 4 (some .int) 2 [.ref (ad 0), .int (nI w), .int q, .int dg] (g_Mod G ad F X Y U V Z) (some (.int (s_arr (X 1) w (X 0 2) q dg))) := by
  refine g_Rd.ofI (by decide) rfl ?_
  intro p e s m args below meth c ls Q hX hM hl hret
  have hx := hX.1.1
  have hb := hX.1.2.1
  have hl : lv_has ls 4 [(0, .ref (ad 0)), (1, .int (nI w)), (2, .int q), (3, .int dg)] := hl
  refine lv_aload_n hx hb dX2_arriving_0 rfl (lv_at hl 0 rfl) ?_
  refine lv_iload_n hx hb dX2_arriving_1 rfl (lv_at hl 1 rfl) ?_
  refine lv_aload_n hx hb dX2_arriving_2 rfl (lv_at hl 0 rfl) ?_
  refine g_getM hX hM 1 (by decide) q2164 rfl (v := .ref (ad 1)) rfl dX2_arriving_3 ?_
  refine lv_iconst (v := 2) hx hb dX2_arriving_6 rfl ?_
  refine g_iald hX hM.a1 2 rfl (by omega) (by decide) (v := (X 0 2)) rfl dX2_arriving_7 ?_
  refine lv_iload_n hx hb dX2_arriving_8 rfl (lv_at hl 2 rfl) ?_
  refine g_cRV hX hl y_X2_isGarbled v_X2_isGarbled q2421 (k_X2_isGarbled w (X 0 2) q (by omega)) (hM.rc hX.2.2.2) hM rfl ⟨Nat.le_of_ble_eq_true rfl, Nat.le_of_ble_eq_true rfl⟩ ⟨Nat.zero_le _, Nat.zero_le _⟩ (rest := []) (st1 := [.int (g_b (s_garb (X 1) w (X 0 2) q))]) rfl rfl (Nat.le_of_ble_eq_true rfl) dX2_arriving_9 ?_
  refine g_if_eqB (tgt := 36) hx hb (b := s_garb (X 1) w (X 0 2) q) rfl dX2_arriving_12 (by decide) (fun c_12 => ?_) (fun c_12 => ?_)
  · skip
    refine lv_iload_n hx hb dX2_arriving_36 rfl (lv_at hl 3 rfl) ?_
    exact hret _ _ _ dX2_arriving_37 (by simp [s_arr, *])
  · skip
    refine lv_iload_n hx hb dX2_arriving_15 rfl (lv_at hl 3 rfl) ?_
    refine lv_iconst (v := 1) hx hb dX2_arriving_16 rfl ?_
    refine lv_iadd hx hb dX2_arriving_17 ?_
    refine lv_aload_n hx hb dX2_arriving_18 rfl (lv_at hl 0 rfl) ?_
    refine g_getM hX hM 1 (by decide) q2164 rfl (v := .ref (ad 1)) rfl dX2_arriving_19 ?_
    refine lv_iconst (v := 2) hx hb dX2_arriving_22 rfl ?_
    refine g_iald hX hM.a1 2 rfl (by omega) (by decide) (v := (X 0 2)) rfl dX2_arriving_23 ?_
    refine lv_iload_n hx hb dX2_arriving_24 rfl (lv_at hl 2 rfl) ?_
    refine lv_iadd hx hb dX2_arriving_25 ?_
    refine lv_bipush (v := 9) hx hb dX2_arriving_26 (by decide) ?_
    refine lv_irem hx hb dX2_arriving_28 (by decide) ?_
    refine lv_iadd hx hb dX2_arriving_29 ?_
    refine lv_bipush (v := 10) hx hb dX2_arriving_30 (by decide) ?_
    refine lv_irem hx hb dX2_arriving_32 (by decide) ?_
    refine lv_goto (tgt := 37) hx hb dX2_arriving_33 (by decide) ?_
    exact hret _ _ _ dX2_arriving_37 (by simp [s_arr, *])

theorem y_X2_isStormy : g_Y yX2_isStormy cX2_isStormy 4 (some .boolean) 2 := ⟨q2547, by decide +kernel⟩
theorem v_X2_isStormy : g_YV yX2_isStormy := ⟨q2546, qs98, q140⟩
set_option maxHeartbeats 4000000 in
theorem k_X2_isStormy {G : g_G} {l : Launch} {ad : Nat → Nat} {F : Nat → Int32} {X Y : g_Wd} {U V : Nat → g_Wd} {Z : g_Wd} (w : Nat) (hour : Int32) (hw : w < 45) : g_Rd G l yX2_isStormy cX2_isStormy 4 (some .boolean) 2 [.ref (ad 0), .int (nI w), .int hour] (g_Mod G ad F X Y U V Z) (some (.int (g_b (s_storm (X 1) w hour)))) := by
  refine g_Rd.ofI (by decide) (by cases (s_storm (X 1) w hour) <;> rfl) ?_
  intro p e s m args below meth c ls Q hX hM hl hret
  have hx := hX.1.1
  have hb := hX.1.2.1
  have hl : lv_has ls 4 [(0, .ref (ad 0)), (1, .int (nI w)), (2, .int hour)] := hl
  refine lv_iconst (v := 0) hx hb dX2_isStormy_0 rfl ?_
  refine lv_istore_n (lv' := [(3, .int 0), (0, .ref (ad 0)), (1, .int (nI w)), (2, .int hour)]) hx hb dX2_isStormy_1 rfl hl (by decide) rfl (fun ls hl => ?_)
  have L2 : ∀ (nf : Nat) (j : Nat), (j ≤ 12) → (s_any (fun p => s_garb (X 1) w hour (nI p)) j = false) → (12 - j < nf) → ∀ ls : Array Slot, lv_has ls 4 [(3, .int (nI j)), (0, .ref (ad 0)), (1, .int (nI w)), (2, .int hour)] → W p l e (g_rm 2 0 0) s m args below meth c s.heap [] 0 0 Q (F0 m 2 ls []) := by
    intro n2
    induction n2 with
    | zero => intro j hj ha hn; exact absurd hn (Nat.not_lt_zero _)
    | succ n2 ih2 =>
      intro j hj ha hn2 ls hl
      refine lv_iload_n hx hb dX2_isStormy_2 rfl (lv_at hl 0 rfl) ?_
      refine lv_bipush (v := 12) hx hb dX2_isStormy_3 (by decide) ?_
      refine g_icmp_geN (tgt := 26) hx hb j 12 rfl rfl (by omega) (by omega) dX2_isStormy_5 (by decide) (fun c_5 => ?_) (fun c_5 => ?_)
      · skip
        refine lv_iconst (v := 0) hx hb dX2_isStormy_26 rfl ?_
        exact hret _ _ _ dX2_isStormy_27 (by rw [s_storm, show 12 = j by omega, ha]; rfl)
      · skip
        refine lv_aload_n hx hb dX2_isStormy_8 rfl (lv_at hl 1 rfl) ?_
        refine lv_iload_n hx hb dX2_isStormy_9 rfl (lv_at hl 2 rfl) ?_
        refine lv_iload_n hx hb dX2_isStormy_10 rfl (lv_at hl 3 rfl) ?_
        refine lv_iload_n hx hb dX2_isStormy_11 rfl (lv_at hl 0 rfl) ?_
        refine g_cRV hX hl y_X2_isGarbled v_X2_isGarbled q2421 (k_X2_isGarbled w hour (nI j) (by omega)) (hM.rc hX.2.2.2) hM rfl ⟨Nat.le_of_ble_eq_true rfl, Nat.le_of_ble_eq_true rfl⟩ ⟨Nat.zero_le _, Nat.zero_le _⟩ (rest := []) (st1 := [.int (g_b (s_garb (X 1) w hour (nI j)))]) rfl rfl (Nat.le_of_ble_eq_true rfl) dX2_isStormy_12 ?_
        refine g_if_eqB (tgt := 20) hx hb (b := s_garb (X 1) w hour (nI j)) rfl dX2_isStormy_15 (by decide) (fun c_15 => ?_) (fun c_15 => ?_)
        · skip
          refine lv_iinc (v := (nI (j + 1))) (lv' := [(3, .int (nI (j + 1))), (0, .ref (ad 0)), (1, .int (nI w)), (2, .int hour)]) hx hb dX2_isStormy_20 hl (k := 0) rfl (nI_1 _) (by decide) rfl (fun ls hl => ?_)
          refine lv_goto (tgt := 2) hx hb dX2_isStormy_23 (by decide) ?_
          exact ih2 (j + 1) (by omega) (by simp [s_any, ha, c_5, c_15]) (by omega) ls (lv_sub hl [0, 1, 2, 3] rfl)
        · skip
          refine lv_iconst (v := 1) hx hb dX2_isStormy_18 rfl ?_
          exact hret _ _ _ dX2_isStormy_19 (by rw [s_storm, s_any_t c_15 (show j < 12 by omega)]; rfl)
  exact L2 (12 - 0 + 1) 0 (Nat.zero_le _) (rfl) (Nat.lt_succ_self _) ls (lv_sub hl [0, 1, 2, 3] rfl)

theorem y_X2_garbledIn : g_Y yX2_garbledIn cX2_garbledIn 5 (some .int) 1 := ⟨q2559, by decide +kernel⟩
theorem v_X2_garbledIn : g_YV yX2_garbledIn := ⟨q2558, qs99, q140⟩
set_option maxHeartbeats 4000000 in
theorem k_X2_garbledIn {G : g_G} {l : Launch} {ad : Nat → Nat} {F : Nat → Int32} {X Y : g_Wd} {U V : Nat → g_Wd} {Z : g_Wd} (hour : Int32) (hW : s_ok X) : g_Rd G l yX2_garbledIn cX2_garbledIn 5 (some .int) 2 [.ref (ad 0), .int hour] (g_Mod G ad F X Y U V Z) (some (.int (nI (s_gIn X hour)))) := by
  refine g_Rd.ofI (by decide) rfl ?_
  intro p e s m args below meth c ls Q hX hM hl hret
  have hx := hX.1.1
  have hb := hX.1.2.1
  have hl : lv_has ls 5 [(0, .ref (ad 0)), (1, .int hour)] := hl
  have hW9 := hW
  obtain ⟨⟨hL0, hL2, hL6⟩, ⟨hM0, hM6⟩, ⟨hG0, hG40⟩, hok⟩ := hW9
  have hw9 : s_W X ≤ 45 := by unfold s_W; omega
  refine lv_iconst (v := 0) hx hb dX2_garbledIn_0 rfl ?_
  refine lv_istore_n (lv' := [(2, .int 0), (0, .ref (ad 0)), (1, .int hour)]) hx hb dX2_garbledIn_1 rfl hl (by decide) rfl (fun ls hl => ?_)
  refine lv_iconst (v := 0) hx hb dX2_garbledIn_2 rfl ?_
  refine lv_istore_n (lv' := [(3, .int 0), (2, .int 0), (0, .ref (ad 0)), (1, .int hour)]) hx hb dX2_garbledIn_3 rfl hl (by decide) rfl (fun ls hl => ?_)
  have L4 : ∀ (nf : Nat) (j : Nat), (j ≤ 9 * (s_L X - 1)) → (9 * (s_L X - 1) - j < nf) → ∀ ls : Array Slot, lv_has ls 5 [(2, .int (nI (s_sum (fun w => s_cnt (fun p => s_garb (X 1) w hour (nI p)) 12) j))), (3, .int (nI j)), (0, .ref (ad 0)), (1, .int hour)] → W p l e (g_rm 2 0 0) s m args below meth c s.heap [] 0 0 Q (F0 m 4 ls []) := by
    intro n4
    induction n4 with
    | zero => intro j hj hn; exact absurd hn (Nat.not_lt_zero _)
    | succ n4 ih4 =>
      intro j hj hn4 ls hl
      refine lv_iload_n hx hb dX2_garbledIn_4 rfl (lv_at hl 1 rfl) ?_
      refine lv_bipush (v := 9) hx hb dX2_garbledIn_5 (by decide) ?_
      refine lv_aload_n hx hb dX2_garbledIn_7 rfl (lv_at hl 2 rfl) ?_
      refine g_cRV hX hl y_X2_lastLevel v_X2_lastLevel q2440 (k_X2_lastLevel hW) (hM.rc hX.2.2.2) hM rfl ⟨Nat.le_of_ble_eq_true rfl, Nat.le_of_ble_eq_true rfl⟩ ⟨Nat.zero_le _, Nat.zero_le _⟩ (rest := [.int 9, .int (nI j)]) (st1 := [.int (nI (s_L X - 1)), .int 9, .int (nI j)]) rfl rfl (Nat.le_of_ble_eq_true rfl) dX2_garbledIn_8 ?_
      refine g_imulN hx hb 9 (s_L X - 1) rfl rfl dX2_garbledIn_11 ?_
      refine g_icmp_geN (tgt := 51) hx hb j (9 * (s_L X - 1)) rfl rfl (by omega) (by omega) dX2_garbledIn_12 (by decide) (fun c_12 => ?_) (fun c_12 => ?_)
      · skip
        refine lv_iload_n hx hb dX2_garbledIn_51 rfl (lv_at hl 0 rfl) ?_
        exact hret _ _ _ dX2_garbledIn_52 (by rw [show j = 9 * (s_L X - 1) by omega]; rfl)
      · skip
        refine lv_iconst (v := 0) hx hb dX2_garbledIn_15 rfl ?_
        refine lv_istore (lv' := [(4, .int 0), (2, .int (nI (s_sum (fun w => s_cnt (fun p => s_garb (X 1) w hour (nI p)) 12) j))), (3, .int (nI j)), (0, .ref (ad 0)), (1, .int hour)]) hx hb dX2_garbledIn_16 hl (by decide) rfl (fun ls hl => ?_)
        have L18 : ∀ (nf : Nat) (q : Nat), (q ≤ 12) → (12 - q < nf) → ∀ ls : Array Slot, lv_has ls 5 [(2, .int (nI (s_sum (fun w => s_cnt (fun p => s_garb (X 1) w hour (nI p)) 12) j + s_cnt (fun p => s_garb (X 1) j hour (nI p)) q))), (4, .int (nI q)), (3, .int (nI j)), (0, .ref (ad 0)), (1, .int hour)] → W p l e (g_rm 2 0 0) s m args below meth c s.heap [] 0 0 Q (F0 m 18 ls []) := by
          intro n18
          induction n18 with
          | zero => intro q hq hn; exact absurd hn (Nat.not_lt_zero _)
          | succ n18 ih18 =>
            intro q hq hn18 ls hl
            refine lv_iload hx hb dX2_garbledIn_18 (lv_at hl 1 rfl) ?_
            refine lv_bipush (v := 12) hx hb dX2_garbledIn_20 (by decide) ?_
            refine g_icmp_geN (tgt := 45) hx hb q 12 rfl rfl (by omega) (by omega) dX2_garbledIn_22 (by decide) (fun c_22 => ?_) (fun c_22 => ?_)
            · skip
              refine lv_iinc (v := (nI (j + 1))) (lv' := [(3, .int (nI (j + 1))), (2, .int (nI (s_sum (fun w => s_cnt (fun p => s_garb (X 1) w hour (nI p)) 12) j + s_cnt (fun p => s_garb (X 1) j hour (nI p)) q))), (4, .int (nI q)), (0, .ref (ad 0)), (1, .int hour)]) hx hb dX2_garbledIn_45 hl (k := 2) rfl (nI_1 _) (by decide) rfl (fun ls hl => ?_)
              refine lv_goto (tgt := 4) hx hb dX2_garbledIn_48 (by decide) ?_
              have e_2 : (nI (s_sum (fun w => s_cnt (fun p => s_garb (X 1) w hour (nI p)) 12) j + s_cnt (fun p => s_garb (X 1) j hour (nI p)) q)) = (nI (s_sum (fun w => s_cnt (fun p => s_garb (X 1) w hour (nI p)) 12) (j + 1))) := by rw [show q = 12 by omega]; rfl
              rw [e_2] at hl
              exact ih4 (j + 1) (by omega) (by omega) ls (lv_sub hl [1, 0, 3, 4] rfl)
            · skip
              refine lv_iload_n hx hb dX2_garbledIn_25 rfl (lv_at hl 0 rfl) ?_
              refine lv_aload_n hx hb dX2_garbledIn_26 rfl (lv_at hl 3 rfl) ?_
              refine lv_iload_n hx hb dX2_garbledIn_27 rfl (lv_at hl 2 rfl) ?_
              refine lv_iload_n hx hb dX2_garbledIn_28 rfl (lv_at hl 4 rfl) ?_
              refine lv_iload hx hb dX2_garbledIn_29 (lv_at hl 1 rfl) ?_
              refine g_cRV hX hl y_X2_isGarbled v_X2_isGarbled q2421 (k_X2_isGarbled j hour (nI q) (by omega)) (hM.rc hX.2.2.2) hM rfl ⟨Nat.le_of_ble_eq_true rfl, Nat.le_of_ble_eq_true rfl⟩ ⟨Nat.zero_le _, Nat.zero_le _⟩ (rest := [.int (nI (s_sum (fun w => s_cnt (fun p => s_garb (X 1) w hour (nI p)) 12) j + s_cnt (fun p => s_garb (X 1) j hour (nI p)) q))]) (st1 := [.int (g_b (s_garb (X 1) j hour (nI q))), .int (nI (s_sum (fun w => s_cnt (fun p => s_garb (X 1) w hour (nI p)) 12) j + s_cnt (fun p => s_garb (X 1) j hour (nI p)) q))]) rfl rfl (Nat.le_of_ble_eq_true rfl) dX2_garbledIn_31 ?_
              refine g_cRS hX hl y_X2_one v_X2_one q2386 (k_X2_one (s_garb (X 1) j hour (nI q))) trivial rfl ⟨Nat.le_of_ble_eq_true rfl, Nat.le_of_ble_eq_true rfl⟩ ⟨Nat.zero_le _, Nat.zero_le _⟩ (rest := [.int (nI (s_sum (fun w => s_cnt (fun p => s_garb (X 1) w hour (nI p)) 12) j + s_cnt (fun p => s_garb (X 1) j hour (nI p)) q))]) (st1 := [.int (nI (s_n (s_garb (X 1) j hour (nI q)))), .int (nI (s_sum (fun w => s_cnt (fun p => s_garb (X 1) w hour (nI p)) 12) j + s_cnt (fun p => s_garb (X 1) j hour (nI p)) q))]) rfl rfl (Nat.le_of_ble_eq_true rfl) dX2_garbledIn_34 ?_
              refine g_iaddN hx hb (s_sum (fun w => s_cnt (fun p => s_garb (X 1) w hour (nI p)) 12) j + s_cnt (fun p => s_garb (X 1) j hour (nI p)) q) (s_n (s_garb (X 1) j hour (nI q))) rfl rfl dX2_garbledIn_37 ?_
              refine lv_istore_n (lv' := [(2, .int (nI (s_sum (fun w => s_cnt (fun p => s_garb (X 1) w hour (nI p)) 12) j + s_cnt (fun p => s_garb (X 1) j hour (nI p)) q + s_n (s_garb (X 1) j hour (nI q))))), (4, .int (nI q)), (3, .int (nI j)), (0, .ref (ad 0)), (1, .int hour)]) hx hb dX2_garbledIn_38 rfl hl (by decide) rfl (fun ls hl => ?_)
              refine lv_iinc (v := (nI (q + 1))) (lv' := [(4, .int (nI (q + 1))), (2, .int (nI (s_sum (fun w => s_cnt (fun p => s_garb (X 1) w hour (nI p)) 12) j + s_cnt (fun p => s_garb (X 1) j hour (nI p)) q + s_n (s_garb (X 1) j hour (nI q))))), (3, .int (nI j)), (0, .ref (ad 0)), (1, .int hour)]) hx hb dX2_garbledIn_39 hl (k := 1) rfl (nI_1 _) (by decide) rfl (fun ls hl => ?_)
              refine lv_goto (tgt := 18) hx hb dX2_garbledIn_42 (by decide) ?_
              have e_2 : (nI (s_sum (fun w => s_cnt (fun p => s_garb (X 1) w hour (nI p)) 12) j + s_cnt (fun p => s_garb (X 1) j hour (nI p)) q + s_n (s_garb (X 1) j hour (nI q)))) = (nI (s_sum (fun w => s_cnt (fun p => s_garb (X 1) w hour (nI p)) 12) j + s_cnt (fun p => s_garb (X 1) j hour (nI p)) (q + 1))) := by rw [Nat.add_assoc]; rfl
              rw [e_2] at hl
              exact ih18 (q + 1) (by omega) (by omega) ls (lv_sub hl [1, 0, 2, 3, 4] rfl)
        exact L18 (12 - 0 + 1) 0 (by omega) (Nat.lt_succ_self _) ls (lv_sub hl [1, 0, 2, 3, 4] rfl)
  exact L4 (9 * (s_L X - 1) - 0 + 1) 0 (by omega) (Nat.lt_succ_self _) ls (lv_sub hl [1, 0, 2, 3] rfl)

theorem y_X2_cameMany : g_Y yX2_cameMany cX2_cameMany 6 (some .int) 3 := ⟨q2611, by decide +kernel⟩
theorem v_X2_cameMany : g_YV yX2_cameMany := ⟨q2610, qs107, q140⟩
set_option maxHeartbeats 4000000 in
theorem k_X2_cameMany {G : g_G} {l : Launch} {ad : Nat → Nat} {F : Nat → Int32} {X Y : g_Wd} {U V : Nat → g_Wd} {Z : g_Wd} (m0 : Nat) (i : Nat) (p0 : Nat) (hm0 : m0 < 6) (hi : i < 3) (hp0 : p0 < 12) : g_Rd G l yX2_cameMany cX2_cameMany 6 (some .int) 2 [.ref (ad 0), .int (nI m0), .int (nI i), .int (nI p0)] (g_Mod G ad F X Y U V Z) (some (.int (nI (s_came (X (3 + m0)) i p0)))) := by
  refine g_Rd.ofI (by decide) rfl ?_
  intro p e s m args below meth c ls Q hX hM hl hret
  have hx := hX.1.1
  have hb := hX.1.2.1
  have hl : lv_has ls 6 [(0, .ref (ad 0)), (1, .int (nI m0)), (2, .int (nI i)), (3, .int (nI p0))] := hl
  refine lv_iconst (v := 0) hx hb dX2_cameMany_0 rfl ?_
  refine lv_istore (lv' := [(4, .int 0), (0, .ref (ad 0)), (1, .int (nI m0)), (2, .int (nI i)), (3, .int (nI p0))]) hx hb dX2_cameMany_1 hl (by decide) rfl (fun ls hl => ?_)
  refine lv_iconst (v := 0) hx hb dX2_cameMany_3 rfl ?_
  refine lv_istore (lv' := [(5, .int 0), (4, .int 0), (0, .ref (ad 0)), (1, .int (nI m0)), (2, .int (nI i)), (3, .int (nI p0))]) hx hb dX2_cameMany_4 hl (by decide) rfl (fun ls hl => ?_)
  have L6 : ∀ (nf : Nat) (j : Nat), (j ≤ 3) → (3 - j < nf) → ∀ ls : Array Slot, lv_has ls 6 [(4, .int (nI (s_cnt (fun f => !decide (s_cpy (X (3 + m0)) i p0 f = -1)) j))), (5, .int (nI j)), (0, .ref (ad 0)), (1, .int (nI m0)), (2, .int (nI i)), (3, .int (nI p0))] → W p l e (g_rm 2 0 0) s m args below meth c s.heap [] 0 0 Q (F0 m 6 ls []) := by
    intro n6
    induction n6 with
    | zero => intro j hj hn; exact absurd hn (Nat.not_lt_zero _)
    | succ n6 ih6 =>
      intro j hj hn6 ls hl
      refine lv_iload hx hb dX2_cameMany_6 (lv_at hl 1 rfl) ?_
      refine lv_iconst (v := 3) hx hb dX2_cameMany_8 rfl ?_
      refine g_icmp_geN (tgt := 44) hx hb j 3 rfl rfl (by omega) (by omega) dX2_cameMany_9 (by decide) (fun c_9 => ?_) (fun c_9 => ?_)
      · skip
        refine lv_iload hx hb dX2_cameMany_44 (lv_at hl 0 rfl) ?_
        exact hret _ _ _ dX2_cameMany_46 (by rw [show j = 3 by omega]; rfl)
      · skip
        refine lv_iload hx hb dX2_cameMany_12 (lv_at hl 0 rfl) ?_
        refine lv_aload_n hx hb dX2_cameMany_14 rfl (lv_at hl 2 rfl) ?_
        refine lv_iload_n hx hb dX2_cameMany_15 rfl (lv_at hl 3 rfl) ?_
        refine lv_iload_n hx hb dX2_cameMany_16 rfl (lv_at hl 4 rfl) ?_
        refine lv_iload_n hx hb dX2_cameMany_17 rfl (lv_at hl 5 rfl) ?_
        refine lv_iload hx hb dX2_cameMany_18 (lv_at hl 1 rfl) ?_
        refine g_cRV hX hl y_X2_copyAt v_X2_copyAt q2433 (k_X2_copyAt m0 i p0 j (by omega) (by omega) (by omega) (by omega)) (hM.rc hX.2.2.2) hM rfl ⟨Nat.le_of_ble_eq_true rfl, Nat.le_of_ble_eq_true rfl⟩ ⟨Nat.zero_le _, Nat.zero_le _⟩ (rest := [.int (nI (s_cnt (fun f => !decide (s_cpy (X (3 + m0)) i p0 f = -1)) j))]) (st1 := [.int (s_cpy (X (3 + m0)) i p0 j), .int (nI (s_cnt (fun f => !decide (s_cpy (X (3 + m0)) i p0 f = -1)) j))]) rfl rfl (Nat.le_of_ble_eq_true rfl) dX2_cameMany_20 ?_
        refine lv_iconst (v := (-1)) hx hb dX2_cameMany_23 rfl ?_
        refine lv_icmp_eq (tgt := 31) hx hb dX2_cameMany_24 (by decide) (fun c_24 => ?_) (fun c_24 => ?_)
        · skip
          refine lv_iconst (v := 0) hx hb dX2_cameMany_31 rfl ?_
          refine g_cRS hX hl y_X2_one v_X2_one q2386 (k_X2_one false) trivial rfl ⟨Nat.le_of_ble_eq_true rfl, Nat.le_of_ble_eq_true rfl⟩ ⟨Nat.zero_le _, Nat.zero_le _⟩ (rest := [.int (nI (s_cnt (fun f => !decide (s_cpy (X (3 + m0)) i p0 f = -1)) j))]) (st1 := [.int (nI (s_n false)), .int (nI (s_cnt (fun f => !decide (s_cpy (X (3 + m0)) i p0 f = -1)) j))]) rfl rfl (Nat.le_of_ble_eq_true rfl) dX2_cameMany_32 ?_
          refine g_iaddN hx hb (s_cnt (fun f => !decide (s_cpy (X (3 + m0)) i p0 f = -1)) j) (s_n false) rfl rfl dX2_cameMany_35 ?_
          refine lv_istore (lv' := [(4, .int (nI (s_cnt (fun f => !decide (s_cpy (X (3 + m0)) i p0 f = -1)) j + s_n false))), (5, .int (nI j)), (0, .ref (ad 0)), (1, .int (nI m0)), (2, .int (nI i)), (3, .int (nI p0))]) hx hb dX2_cameMany_36 hl (by decide) rfl (fun ls hl => ?_)
          refine lv_iinc (v := (nI (j + 1))) (lv' := [(5, .int (nI (j + 1))), (4, .int (nI (s_cnt (fun f => !decide (s_cpy (X (3 + m0)) i p0 f = -1)) j + s_n false))), (0, .ref (ad 0)), (1, .int (nI m0)), (2, .int (nI i)), (3, .int (nI p0))]) hx hb dX2_cameMany_38 hl (k := 1) rfl (nI_1 _) (by decide) rfl (fun ls hl => ?_)
          refine lv_goto (tgt := 6) hx hb dX2_cameMany_41 (by decide) ?_
          have e_4 : (nI (s_cnt (fun f => !decide (s_cpy (X (3 + m0)) i p0 f = -1)) j + s_n false)) = (nI (s_cnt (fun f => !decide (s_cpy (X (3 + m0)) i p0 f = -1)) (j + 1))) := by first | (simp [s_cnt, s_n, c_9, c_24]; done) | grind [s_cnt, s_n]
          rw [e_4] at hl
          exact ih6 (j + 1) (by omega) (by omega) ls (lv_sub hl [1, 0, 2, 3, 4, 5] rfl)
        · skip
          refine lv_iconst (v := 1) hx hb dX2_cameMany_27 rfl ?_
          refine lv_goto (tgt := 32) hx hb dX2_cameMany_28 (by decide) ?_
          refine g_cRS hX hl y_X2_one v_X2_one q2386 (k_X2_one true) trivial rfl ⟨Nat.le_of_ble_eq_true rfl, Nat.le_of_ble_eq_true rfl⟩ ⟨Nat.zero_le _, Nat.zero_le _⟩ (rest := [.int (nI (s_cnt (fun f => !decide (s_cpy (X (3 + m0)) i p0 f = -1)) j))]) (st1 := [.int (nI (s_n true)), .int (nI (s_cnt (fun f => !decide (s_cpy (X (3 + m0)) i p0 f = -1)) j))]) rfl rfl (Nat.le_of_ble_eq_true rfl) dX2_cameMany_32 ?_
          refine g_iaddN hx hb (s_cnt (fun f => !decide (s_cpy (X (3 + m0)) i p0 f = -1)) j) (s_n true) rfl rfl dX2_cameMany_35 ?_
          refine lv_istore (lv' := [(4, .int (nI (s_cnt (fun f => !decide (s_cpy (X (3 + m0)) i p0 f = -1)) j + s_n true))), (5, .int (nI j)), (0, .ref (ad 0)), (1, .int (nI m0)), (2, .int (nI i)), (3, .int (nI p0))]) hx hb dX2_cameMany_36 hl (by decide) rfl (fun ls hl => ?_)
          refine lv_iinc (v := (nI (j + 1))) (lv' := [(5, .int (nI (j + 1))), (4, .int (nI (s_cnt (fun f => !decide (s_cpy (X (3 + m0)) i p0 f = -1)) j + s_n true))), (0, .ref (ad 0)), (1, .int (nI m0)), (2, .int (nI i)), (3, .int (nI p0))]) hx hb dX2_cameMany_38 hl (k := 1) rfl (nI_1 _) (by decide) rfl (fun ls hl => ?_)
          refine lv_goto (tgt := 6) hx hb dX2_cameMany_41 (by decide) ?_
          have e_4 : (nI (s_cnt (fun f => !decide (s_cpy (X (3 + m0)) i p0 f = -1)) j + s_n true)) = (nI (s_cnt (fun f => !decide (s_cpy (X (3 + m0)) i p0 f = -1)) (j + 1))) := by first | (simp [s_cnt, s_n, c_9, c_24]; done) | grind [s_cnt, s_n]
          rw [e_4] at hl
          exact ih6 (j + 1) (by omega) (by omega) ls (lv_sub hl [1, 0, 2, 3, 4, 5] rfl)
  exact L6 (3 - 0 + 1) 0 (Nat.zero_le _) (Nat.lt_succ_self _) ls (lv_sub hl [1, 0, 2, 3, 4, 5] rfl)

theorem y_X2_allAgree : g_Y yX2_allAgree cX2_allAgree 4 (some .boolean) 3 := ⟨q2615, by decide +kernel⟩
theorem v_X2_allAgree : g_YV yX2_allAgree := ⟨q2614, qs108, q140⟩
set_option maxHeartbeats 4000000 in
theorem k_X2_allAgree {G : g_G} {l : Launch} {ad : Nat → Nat} {F : Nat → Int32} {X Y : g_Wd} {U V : Nat → g_Wd} {Z : g_Wd} (m0 : Nat) (i : Nat) (p0 : Nat) (hm0 : m0 < 6) (hi : i < 3) (hp0 : p0 < 12) : g_Rd G l yX2_allAgree cX2_allAgree 4 (some .boolean) 2 [.ref (ad 0), .int (nI m0), .int (nI i), .int (nI p0)] (g_Mod G ad F X Y U V Z) (some (.int (g_b (s_agr (X (3 + m0)) i p0)))) := by
  refine g_Rd.ofI (by decide) (by cases (s_agr (X (3 + m0)) i p0) <;> rfl) ?_
  intro p e s m args below meth c ls Q hX hM hl hret
  have hx := hX.1.1
  have hb := hX.1.2.1
  have hl : lv_has ls 4 [(0, .ref (ad 0)), (1, .int (nI m0)), (2, .int (nI i)), (3, .int (nI p0))] := hl
  refine lv_aload_n hx hb dX2_allAgree_0 rfl (lv_at hl 0 rfl) ?_
  refine lv_iload_n hx hb dX2_allAgree_1 rfl (lv_at hl 1 rfl) ?_
  refine lv_iload_n hx hb dX2_allAgree_2 rfl (lv_at hl 2 rfl) ?_
  refine lv_iload_n hx hb dX2_allAgree_3 rfl (lv_at hl 3 rfl) ?_
  refine lv_iconst (v := 0) hx hb dX2_allAgree_4 rfl ?_
  refine g_cRV hX hl y_X2_copyAt v_X2_copyAt q2433 (k_X2_copyAt m0 i p0 0 (by omega) (by omega) (by omega) (by omega)) (hM.rc hX.2.2.2) hM rfl ⟨Nat.le_of_ble_eq_true rfl, Nat.le_of_ble_eq_true rfl⟩ ⟨Nat.zero_le _, Nat.zero_le _⟩ (rest := []) (st1 := [.int (s_cpy (X (3 + m0)) i p0 0)]) rfl rfl (Nat.le_of_ble_eq_true rfl) dX2_allAgree_5 ?_
  refine lv_aload_n hx hb dX2_allAgree_8 rfl (lv_at hl 0 rfl) ?_
  refine lv_iload_n hx hb dX2_allAgree_9 rfl (lv_at hl 1 rfl) ?_
  refine lv_iload_n hx hb dX2_allAgree_10 rfl (lv_at hl 2 rfl) ?_
  refine lv_iload_n hx hb dX2_allAgree_11 rfl (lv_at hl 3 rfl) ?_
  refine lv_iconst (v := 1) hx hb dX2_allAgree_12 rfl ?_
  refine g_cRV hX hl y_X2_copyAt v_X2_copyAt q2433 (k_X2_copyAt m0 i p0 1 (by omega) (by omega) (by omega) (by omega)) (hM.rc hX.2.2.2) hM rfl ⟨Nat.le_of_ble_eq_true rfl, Nat.le_of_ble_eq_true rfl⟩ ⟨Nat.zero_le _, Nat.zero_le _⟩ (rest := [.int (s_cpy (X (3 + m0)) i p0 0)]) (st1 := [.int (s_cpy (X (3 + m0)) i p0 1), .int (s_cpy (X (3 + m0)) i p0 0)]) rfl rfl (Nat.le_of_ble_eq_true rfl) dX2_allAgree_13 ?_
  refine lv_icmp_ne (tgt := 42) hx hb dX2_allAgree_16 (by decide) (fun c_16 => ?_) (fun c_16 => ?_)
  · skip
    refine lv_iconst (v := 0) hx hb dX2_allAgree_42 rfl ?_
    exact hret _ _ _ dX2_allAgree_43 (by grind [g_b, s_agr])
  · skip
    refine lv_aload_n hx hb dX2_allAgree_19 rfl (lv_at hl 0 rfl) ?_
    refine lv_iload_n hx hb dX2_allAgree_20 rfl (lv_at hl 1 rfl) ?_
    refine lv_iload_n hx hb dX2_allAgree_21 rfl (lv_at hl 2 rfl) ?_
    refine lv_iload_n hx hb dX2_allAgree_22 rfl (lv_at hl 3 rfl) ?_
    refine lv_iconst (v := 1) hx hb dX2_allAgree_23 rfl ?_
    refine g_cRV hX hl y_X2_copyAt v_X2_copyAt q2433 (k_X2_copyAt m0 i p0 1 (by omega) (by omega) (by omega) (by omega)) (hM.rc hX.2.2.2) hM rfl ⟨Nat.le_of_ble_eq_true rfl, Nat.le_of_ble_eq_true rfl⟩ ⟨Nat.zero_le _, Nat.zero_le _⟩ (rest := []) (st1 := [.int (s_cpy (X (3 + m0)) i p0 1)]) rfl rfl (Nat.le_of_ble_eq_true rfl) dX2_allAgree_24 ?_
    refine lv_aload_n hx hb dX2_allAgree_27 rfl (lv_at hl 0 rfl) ?_
    refine lv_iload_n hx hb dX2_allAgree_28 rfl (lv_at hl 1 rfl) ?_
    refine lv_iload_n hx hb dX2_allAgree_29 rfl (lv_at hl 2 rfl) ?_
    refine lv_iload_n hx hb dX2_allAgree_30 rfl (lv_at hl 3 rfl) ?_
    refine lv_iconst (v := 2) hx hb dX2_allAgree_31 rfl ?_
    refine g_cRV hX hl y_X2_copyAt v_X2_copyAt q2433 (k_X2_copyAt m0 i p0 2 (by omega) (by omega) (by omega) (by omega)) (hM.rc hX.2.2.2) hM rfl ⟨Nat.le_of_ble_eq_true rfl, Nat.le_of_ble_eq_true rfl⟩ ⟨Nat.zero_le _, Nat.zero_le _⟩ (rest := [.int (s_cpy (X (3 + m0)) i p0 1)]) (st1 := [.int (s_cpy (X (3 + m0)) i p0 2), .int (s_cpy (X (3 + m0)) i p0 1)]) rfl rfl (Nat.le_of_ble_eq_true rfl) dX2_allAgree_32 ?_
    refine lv_icmp_ne (tgt := 42) hx hb dX2_allAgree_35 (by decide) (fun c_35 => ?_) (fun c_35 => ?_)
    · skip
      refine lv_iconst (v := 0) hx hb dX2_allAgree_42 rfl ?_
      exact hret _ _ _ dX2_allAgree_43 (by grind [g_b, s_agr])
    · skip
      refine lv_iconst (v := 1) hx hb dX2_allAgree_38 rfl ?_
      refine lv_goto (tgt := 43) hx hb dX2_allAgree_39 (by decide) ?_
      exact hret _ _ _ dX2_allAgree_43 (by grind [g_b, s_agr])

theorem y_X2_voteAt : g_Y yX2_voteAt cX2_voteAt 5 (some .int) 3 := ⟨q2607, by decide +kernel⟩
theorem v_X2_voteAt : g_YV yX2_voteAt := ⟨q2606, qs106, q140⟩
set_option maxHeartbeats 4000000 in
theorem k_X2_voteAt {G : g_G} {l : Launch} {ad : Nat → Nat} {F : Nat → Int32} {X Y : g_Wd} {U V : Nat → g_Wd} {Z : g_Wd} (m0 : Nat) (i : Nat) (p0 : Nat) (hm0 : m0 < 6) (hi : i < 3) (hp0 : p0 < 12) : g_Rd G l yX2_voteAt cX2_voteAt 5 (some .int) 3 [.ref (ad 0), .int (nI m0), .int (nI i), .int (nI p0)] (g_Mod G ad F X Y U V Z) (some (.int (s_voteAt (X (3 + m0)) i p0))) := by
  refine g_Rd.ofI (by decide) rfl ?_
  intro p e s m args below meth c ls Q hX hM hl hret
  have hx := hX.1.1
  have hb := hX.1.2.1
  have hl : lv_has ls 5 [(0, .ref (ad 0)), (1, .int (nI m0)), (2, .int (nI i)), (3, .int (nI p0))] := hl
  have hcm : s_came (X (3 + m0)) i p0 ≤ 3 := s_cnt_le _ _
  refine lv_aload_n hx hb dX2_voteAt_0 rfl (lv_at hl 0 rfl) ?_
  refine lv_iload_n hx hb dX2_voteAt_1 rfl (lv_at hl 1 rfl) ?_
  refine lv_iconst (v := 1) hx hb dX2_voteAt_2 rfl ?_
  refine g_cRV hX hl y_X2_of v_X2_of q2365 (k_X2_of m0 1 (by omega) (by omega)) (hM.rc hX.2.2.2) hM rfl ⟨Nat.le_of_ble_eq_true rfl, Nat.le_of_ble_eq_true rfl⟩ ⟨Nat.zero_le _, Nat.zero_le _⟩ (rest := []) (st1 := [.int (X (3 + m0) 1)]) rfl rfl (Nat.le_of_ble_eq_true rfl) dX2_voteAt_3 ?_
  refine lv_if_ne (tgt := 11) hx hb dX2_voteAt_6 (by decide) (fun c_6 => ?_) (fun c_6 => ?_)
  · skip
    refine lv_aload_n hx hb dX2_voteAt_11 rfl (lv_at hl 0 rfl) ?_
    refine lv_iload_n hx hb dX2_voteAt_12 rfl (lv_at hl 1 rfl) ?_
    refine lv_iload_n hx hb dX2_voteAt_13 rfl (lv_at hl 2 rfl) ?_
    refine lv_iload_n hx hb dX2_voteAt_14 rfl (lv_at hl 3 rfl) ?_
    refine g_cRV hX hl y_X2_cameMany v_X2_cameMany q2608 (k_X2_cameMany m0 i p0 (by omega) (by omega) (by omega)) (hM.rc hX.2.2.2) hM rfl ⟨Nat.le_of_ble_eq_true rfl, Nat.le_of_ble_eq_true rfl⟩ ⟨Nat.zero_le _, Nat.zero_le _⟩ (rest := []) (st1 := [.int (nI (s_came (X (3 + m0)) i p0))]) rfl rfl (Nat.le_of_ble_eq_true rfl) dX2_voteAt_15 ?_
    refine lv_istore (lv' := [(4, .int (nI (s_came (X (3 + m0)) i p0))), (0, .ref (ad 0)), (1, .int (nI m0)), (2, .int (nI i)), (3, .int (nI p0))]) hx hb dX2_voteAt_18 hl (by decide) rfl (fun ls hl => ?_)
    refine lv_iload hx hb dX2_voteAt_20 (lv_at hl 0 rfl) ?_
    refine lv_iconst (v := 2) hx hb dX2_voteAt_22 rfl ?_
    refine g_icmp_geN (tgt := 28) hx hb (s_came (X (3 + m0)) i p0) 2 rfl rfl (by omega) (by omega) dX2_voteAt_23 (by decide) (fun c_23 => ?_) (fun c_23 => ?_)
    · skip
      refine lv_aload_n hx hb dX2_voteAt_28 rfl (lv_at hl 1 rfl) ?_
      refine lv_iload_n hx hb dX2_voteAt_29 rfl (lv_at hl 2 rfl) ?_
      refine lv_iload_n hx hb dX2_voteAt_30 rfl (lv_at hl 3 rfl) ?_
      refine lv_iload_n hx hb dX2_voteAt_31 rfl (lv_at hl 4 rfl) ?_
      refine g_cRV hX hl y_X2_votedAt v_X2_votedAt q2429 (k_X2_votedAt m0 i p0 (by omega) (by omega) (by omega)) (hM.rc hX.2.2.2) hM rfl ⟨Nat.le_of_ble_eq_true rfl, Nat.le_of_ble_eq_true rfl⟩ ⟨Nat.zero_le _, Nat.zero_le _⟩ (rest := []) (st1 := [.int (s_votedAt (X (3 + m0)) i p0)]) rfl rfl (Nat.le_of_ble_eq_true rfl) dX2_voteAt_32 ?_
      refine lv_iconst (v := (-1)) hx hb dX2_voteAt_35 rfl ?_
      refine lv_icmp_ne (tgt := 51) hx hb dX2_voteAt_36 (by decide) (fun c_36 => ?_) (fun c_36 => ?_)
      · skip
        refine lv_aload_n hx hb dX2_voteAt_51 rfl (lv_at hl 1 rfl) ?_
        refine lv_iload_n hx hb dX2_voteAt_52 rfl (lv_at hl 2 rfl) ?_
        refine lv_iload_n hx hb dX2_voteAt_53 rfl (lv_at hl 3 rfl) ?_
        refine lv_iload_n hx hb dX2_voteAt_54 rfl (lv_at hl 4 rfl) ?_
        refine g_cRV hX hl y_X2_allAgree v_X2_allAgree q2612 (k_X2_allAgree m0 i p0 (by omega) (by omega) (by omega)) (hM.rc hX.2.2.2) hM rfl ⟨Nat.le_of_ble_eq_true rfl, Nat.le_of_ble_eq_true rfl⟩ ⟨Nat.zero_le _, Nat.zero_le _⟩ (rest := []) (st1 := [.int (g_b (s_agr (X (3 + m0)) i p0))]) rfl rfl (Nat.le_of_ble_eq_true rfl) dX2_voteAt_55 ?_
        refine g_if_eqB (tgt := 65) hx hb (b := s_agr (X (3 + m0)) i p0) rfl dX2_voteAt_58 (by decide) (fun c_58 => ?_) (fun c_58 => ?_)
        · skip
          refine lv_iconst (v := 2) hx hb dX2_voteAt_65 rfl ?_
          exact hret _ _ _ dX2_voteAt_66 (by grind [s_voteAt])
        · skip
          refine lv_iconst (v := 1) hx hb dX2_voteAt_61 rfl ?_
          refine lv_goto (tgt := 66) hx hb dX2_voteAt_62 (by decide) ?_
          exact hret _ _ _ dX2_voteAt_66 (by grind [s_voteAt])
      · skip
        refine lv_iload hx hb dX2_voteAt_39 (lv_at hl 0 rfl) ?_
        refine lv_iconst (v := 3) hx hb dX2_voteAt_41 rfl ?_
        refine g_icmp_neN (tgt := 49) hx hb (s_came (X (3 + m0)) i p0) 3 rfl rfl (by omega) (by omega) dX2_voteAt_42 (by decide) (fun c_42 => ?_) (fun c_42 => ?_)
        · skip
          refine lv_iconst (v := 4) hx hb dX2_voteAt_49 rfl ?_
          exact hret _ _ _ dX2_voteAt_50 (by grind [s_voteAt])
        · skip
          refine lv_iconst (v := 3) hx hb dX2_voteAt_45 rfl ?_
          refine lv_goto (tgt := 50) hx hb dX2_voteAt_46 (by decide) ?_
          exact hret _ _ _ dX2_voteAt_50 (by grind [s_voteAt])
    · skip
      refine lv_iconst (v := 5) hx hb dX2_voteAt_26 rfl ?_
      exact hret _ _ _ dX2_voteAt_27 (by grind [s_voteAt])
  · skip
    refine lv_iconst (v := 0) hx hb dX2_voteAt_9 rfl ?_
    exact hret _ _ _ dX2_voteAt_10 (by grind [s_voteAt])

theorem y_X2_rightPlaces : g_Y yX2_rightPlaces cX2_rightPlaces 4 (some .int) 1 := ⟨q2643, by decide +kernel⟩
theorem v_X2_rightPlaces : g_YV yX2_rightPlaces := ⟨q2642, qs111, q140⟩
set_option maxHeartbeats 4000000 in
theorem k_X2_rightPlaces {G : g_G} {l : Launch} {ad : Nat → Nat} {F : Nat → Int32} {X Y : g_Wd} {U V : Nat → g_Wd} {Z : g_Wd} (m0 : Nat) (hm0 : m0 < 6) (ho : s_okL (X (3 + m0))) : g_Rd G l yX2_rightPlaces cX2_rightPlaces 4 (some .int) 3 [.ref (ad 0), .int (nI m0)] (g_Mod G ad F X Y U V Z) (some (.int (nI (s_rigP (X (3 + m0)))))) := by
  refine g_Rd.ofI (by decide) rfl ?_
  intro p e s m args below meth c ls Q hX hM hl hret
  have hx := hX.1.1
  have hb := hX.1.2.1
  have hl : lv_has ls 4 [(0, .ref (ad 0)), (1, .int (nI m0))] := hl
  have hL := ho.2
  refine lv_iconst (v := 0) hx hb dX2_rightPlaces_0 rfl ?_
  refine lv_istore_n (lv' := [(2, .int 0), (0, .ref (ad 0)), (1, .int (nI m0))]) hx hb dX2_rightPlaces_1 rfl hl (by decide) rfl (fun ls hl => ?_)
  refine lv_iconst (v := 0) hx hb dX2_rightPlaces_2 rfl ?_
  refine lv_istore_n (lv' := [(3, .int 0), (2, .int 0), (0, .ref (ad 0)), (1, .int (nI m0))]) hx hb dX2_rightPlaces_3 rfl hl (by decide) rfl (fun ls hl => ?_)
  have L4 : ∀ (nf : Nat) (j : Nat), (j ≤ s_len (X (3 + m0))) → (s_len (X (3 + m0)) - j < nf) → ∀ ls : Array Slot, lv_has ls 4 [(2, .int (nI (s_cnt (fun p => decide (s_bel (X (3 + m0)) p = s_dig (X (3 + m0)) p)) j))), (3, .int (nI j)), (0, .ref (ad 0)), (1, .int (nI m0))] → W p l e (g_rm 3 0 0) s m args below meth c s.heap [] 0 0 Q (F0 m 4 ls []) := by
    intro n4
    induction n4 with
    | zero => intro j hj hn; exact absurd hn (Nat.not_lt_zero _)
    | succ n4 ih4 =>
      intro j hj hn4 ls hl
      refine lv_iload_n hx hb dX2_rightPlaces_4 rfl (lv_at hl 1 rfl) ?_
      refine lv_aload_n hx hb dX2_rightPlaces_5 rfl (lv_at hl 2 rfl) ?_
      refine lv_iload_n hx hb dX2_rightPlaces_6 rfl (lv_at hl 3 rfl) ?_
      refine lv_iconst (v := 0) hx hb dX2_rightPlaces_7 rfl ?_
      refine g_cRV hX hl y_X2_of v_X2_of q2365 (k_X2_of m0 0 (by omega) (by omega)) (hM.rc hX.2.2.2) hM rfl ⟨Nat.le_of_ble_eq_true rfl, Nat.le_of_ble_eq_true rfl⟩ ⟨Nat.zero_le _, Nat.zero_le _⟩ (rest := [.int (nI j)]) (st1 := [.int (X (3 + m0) 0), .int (nI j)]) rfl rfl (Nat.le_of_ble_eq_true rfl) dX2_rightPlaces_8 ?_
      refine g_icmp_geN (tgt := 46) hx hb j (s_len (X (3 + m0))) rfl ho.1 (by omega) (by omega) dX2_rightPlaces_11 (by decide) (fun c_11 => ?_) (fun c_11 => ?_)
      · skip
        refine lv_iload_n hx hb dX2_rightPlaces_46 rfl (lv_at hl 0 rfl) ?_
        exact hret _ _ _ dX2_rightPlaces_47 (by rw [show j = s_len (X (3 + m0)) by omega]; rfl)
      · skip
        refine lv_iload_n hx hb dX2_rightPlaces_14 rfl (lv_at hl 0 rfl) ?_
        refine lv_aload_n hx hb dX2_rightPlaces_15 rfl (lv_at hl 2 rfl) ?_
        refine lv_iload_n hx hb dX2_rightPlaces_16 rfl (lv_at hl 3 rfl) ?_
        refine lv_iload_n hx hb dX2_rightPlaces_17 rfl (lv_at hl 1 rfl) ?_
        refine g_cRV hX hl y_X2_believedAt v_X2_believedAt q2628 (k_X2_believedAt m0 j (by omega) (by omega)) (hM.rc hX.2.2.2) hM rfl ⟨Nat.le_of_ble_eq_true rfl, Nat.le_of_ble_eq_true rfl⟩ ⟨Nat.zero_le _, Nat.zero_le _⟩ (rest := [.int (nI (s_cnt (fun p => decide (s_bel (X (3 + m0)) p = s_dig (X (3 + m0)) p)) j))]) (st1 := [.int (s_bel (X (3 + m0)) j), .int (nI (s_cnt (fun p => decide (s_bel (X (3 + m0)) p = s_dig (X (3 + m0)) p)) j))]) rfl rfl (Nat.le_of_ble_eq_true rfl) dX2_rightPlaces_18 ?_
        refine lv_aload_n hx hb dX2_rightPlaces_21 rfl (lv_at hl 2 rfl) ?_
        refine lv_iload_n hx hb dX2_rightPlaces_22 rfl (lv_at hl 3 rfl) ?_
        refine lv_iload_n hx hb dX2_rightPlaces_23 rfl (lv_at hl 1 rfl) ?_
        refine g_cRV hX hl y_X2_digitAt v_X2_digitAt q2576 (k_X2_digitAt m0 j (by omega) (by omega)) (hM.rc hX.2.2.2) hM rfl ⟨Nat.le_of_ble_eq_true rfl, Nat.le_of_ble_eq_true rfl⟩ ⟨Nat.zero_le _, Nat.zero_le _⟩ (rest := [.int (s_bel (X (3 + m0)) j), .int (nI (s_cnt (fun p => decide (s_bel (X (3 + m0)) p = s_dig (X (3 + m0)) p)) j))]) (st1 := [.int (s_dig (X (3 + m0)) j), .int (s_bel (X (3 + m0)) j), .int (nI (s_cnt (fun p => decide (s_bel (X (3 + m0)) p = s_dig (X (3 + m0)) p)) j))]) rfl rfl (Nat.le_of_ble_eq_true rfl) dX2_rightPlaces_24 ?_
        refine lv_icmp_ne (tgt := 34) hx hb dX2_rightPlaces_27 (by decide) (fun c_27 => ?_) (fun c_27 => ?_)
        · skip
          refine lv_iconst (v := 0) hx hb dX2_rightPlaces_34 rfl ?_
          refine g_cRS hX hl y_X2_one v_X2_one q2386 (k_X2_one false) trivial rfl ⟨Nat.le_of_ble_eq_true rfl, Nat.le_of_ble_eq_true rfl⟩ ⟨Nat.zero_le _, Nat.zero_le _⟩ (rest := [.int (nI (s_cnt (fun p => decide (s_bel (X (3 + m0)) p = s_dig (X (3 + m0)) p)) j))]) (st1 := [.int (nI (s_n false)), .int (nI (s_cnt (fun p => decide (s_bel (X (3 + m0)) p = s_dig (X (3 + m0)) p)) j))]) rfl rfl (Nat.le_of_ble_eq_true rfl) dX2_rightPlaces_35 ?_
          refine g_iaddN hx hb (s_cnt (fun p => decide (s_bel (X (3 + m0)) p = s_dig (X (3 + m0)) p)) j) (s_n false) rfl rfl dX2_rightPlaces_38 ?_
          refine lv_istore_n (lv' := [(2, .int (nI (s_cnt (fun p => decide (s_bel (X (3 + m0)) p = s_dig (X (3 + m0)) p)) j + s_n false))), (3, .int (nI j)), (0, .ref (ad 0)), (1, .int (nI m0))]) hx hb dX2_rightPlaces_39 rfl hl (by decide) rfl (fun ls hl => ?_)
          refine lv_iinc (v := (nI (j + 1))) (lv' := [(3, .int (nI (j + 1))), (2, .int (nI (s_cnt (fun p => decide (s_bel (X (3 + m0)) p = s_dig (X (3 + m0)) p)) j + s_n false))), (0, .ref (ad 0)), (1, .int (nI m0))]) hx hb dX2_rightPlaces_40 hl (k := 1) rfl (nI_1 _) (by decide) rfl (fun ls hl => ?_)
          refine lv_goto (tgt := 4) hx hb dX2_rightPlaces_43 (by decide) ?_
          have e_2 : (nI (s_cnt (fun p => decide (s_bel (X (3 + m0)) p = s_dig (X (3 + m0)) p)) j + s_n false)) = (nI (s_cnt (fun p => decide (s_bel (X (3 + m0)) p = s_dig (X (3 + m0)) p)) (j + 1))) := by first | (simp [s_cnt, s_n, c_11, c_27]; done) | grind [s_cnt, s_n]
          rw [e_2] at hl
          exact ih4 (j + 1) (by omega) (by omega) ls (lv_sub hl [1, 0, 2, 3] rfl)
        · skip
          refine lv_iconst (v := 1) hx hb dX2_rightPlaces_30 rfl ?_
          refine lv_goto (tgt := 35) hx hb dX2_rightPlaces_31 (by decide) ?_
          refine g_cRS hX hl y_X2_one v_X2_one q2386 (k_X2_one true) trivial rfl ⟨Nat.le_of_ble_eq_true rfl, Nat.le_of_ble_eq_true rfl⟩ ⟨Nat.zero_le _, Nat.zero_le _⟩ (rest := [.int (nI (s_cnt (fun p => decide (s_bel (X (3 + m0)) p = s_dig (X (3 + m0)) p)) j))]) (st1 := [.int (nI (s_n true)), .int (nI (s_cnt (fun p => decide (s_bel (X (3 + m0)) p = s_dig (X (3 + m0)) p)) j))]) rfl rfl (Nat.le_of_ble_eq_true rfl) dX2_rightPlaces_35 ?_
          refine g_iaddN hx hb (s_cnt (fun p => decide (s_bel (X (3 + m0)) p = s_dig (X (3 + m0)) p)) j) (s_n true) rfl rfl dX2_rightPlaces_38 ?_
          refine lv_istore_n (lv' := [(2, .int (nI (s_cnt (fun p => decide (s_bel (X (3 + m0)) p = s_dig (X (3 + m0)) p)) j + s_n true))), (3, .int (nI j)), (0, .ref (ad 0)), (1, .int (nI m0))]) hx hb dX2_rightPlaces_39 rfl hl (by decide) rfl (fun ls hl => ?_)
          refine lv_iinc (v := (nI (j + 1))) (lv' := [(3, .int (nI (j + 1))), (2, .int (nI (s_cnt (fun p => decide (s_bel (X (3 + m0)) p = s_dig (X (3 + m0)) p)) j + s_n true))), (0, .ref (ad 0)), (1, .int (nI m0))]) hx hb dX2_rightPlaces_40 hl (k := 1) rfl (nI_1 _) (by decide) rfl (fun ls hl => ?_)
          refine lv_goto (tgt := 4) hx hb dX2_rightPlaces_43 (by decide) ?_
          have e_2 : (nI (s_cnt (fun p => decide (s_bel (X (3 + m0)) p = s_dig (X (3 + m0)) p)) j + s_n true)) = (nI (s_cnt (fun p => decide (s_bel (X (3 + m0)) p = s_dig (X (3 + m0)) p)) (j + 1))) := by first | (simp [s_cnt, s_n, c_11, c_27]; done) | grind [s_cnt, s_n]
          rw [e_2] at hl
          exact ih4 (j + 1) (by omega) (by omega) ls (lv_sub hl [1, 0, 2, 3] rfl)
  exact L4 (s_len (X (3 + m0)) - 0 + 1) 0 (Nat.zero_le _) (Nat.lt_succ_self _) ls (lv_sub hl [1, 0, 2, 3] rfl)

theorem y_X2_liesOf : g_Y yX2_liesOf cX2_liesOf 5 (some .int) 2 := ⟨q2651, by decide +kernel⟩
theorem v_X2_liesOf : g_YV yX2_liesOf := ⟨q2650, qs112, q140⟩
set_option maxHeartbeats 4000000 in
theorem k_X2_liesOf {G : g_G} {l : Launch} {ad : Nat → Nat} {F : Nat → Int32} {X Y : g_Wd} {U V : Nat → g_Wd} {Z : g_Wd} (m0 : Nat) (i : Nat) (hm0 : m0 < 6) (ho : s_okL (X (3 + m0))) (hi : i < 3) : g_Rd G l yX2_liesOf cX2_liesOf 5 (some .int) 3 [.ref (ad 0), .int (nI m0), .int (nI i)] (g_Mod G ad F X Y U V Z) (some (.int (nI (s_lies (X (3 + m0)) i)))) := by
  refine g_Rd.ofI (by decide) rfl ?_
  intro p e s m args below meth c ls Q hX hM hl hret
  have hx := hX.1.1
  have hb := hX.1.2.1
  have hl : lv_has ls 5 [(0, .ref (ad 0)), (1, .int (nI m0)), (2, .int (nI i))] := hl
  have hL := ho.2
  refine lv_iconst (v := 0) hx hb dX2_liesOf_0 rfl ?_
  refine lv_istore_n (lv' := [(3, .int 0), (0, .ref (ad 0)), (1, .int (nI m0)), (2, .int (nI i))]) hx hb dX2_liesOf_1 rfl hl (by decide) rfl (fun ls hl => ?_)
  refine lv_iconst (v := 0) hx hb dX2_liesOf_2 rfl ?_
  refine lv_istore (lv' := [(4, .int 0), (3, .int 0), (0, .ref (ad 0)), (1, .int (nI m0)), (2, .int (nI i))]) hx hb dX2_liesOf_3 hl (by decide) rfl (fun ls hl => ?_)
  have L5 : ∀ (nf : Nat) (j : Nat), (j ≤ s_len (X (3 + m0))) → (s_len (X (3 + m0)) - j < nf) → ∀ ls : Array Slot, lv_has ls 5 [(3, .int (nI (s_cnt (fun p => !decide (s_bel (X (3 + m0)) p = -1) && !decide (s_has (X (3 + m0)) i p = s_bel (X (3 + m0)) p)) j))), (4, .int (nI j)), (0, .ref (ad 0)), (1, .int (nI m0)), (2, .int (nI i))] → W p l e (g_rm 3 0 0) s m args below meth c s.heap [] 0 0 Q (F0 m 5 ls []) := by
    intro n5
    induction n5 with
    | zero => intro j hj hn; exact absurd hn (Nat.not_lt_zero _)
    | succ n5 ih5 =>
      intro j hj hn5 ls hl
      refine lv_iload hx hb dX2_liesOf_5 (lv_at hl 1 rfl) ?_
      refine lv_aload_n hx hb dX2_liesOf_7 rfl (lv_at hl 2 rfl) ?_
      refine lv_iload_n hx hb dX2_liesOf_8 rfl (lv_at hl 3 rfl) ?_
      refine lv_iconst (v := 0) hx hb dX2_liesOf_9 rfl ?_
      refine g_cRV hX hl y_X2_of v_X2_of q2365 (k_X2_of m0 0 (by omega) (by omega)) (hM.rc hX.2.2.2) hM rfl ⟨Nat.le_of_ble_eq_true rfl, Nat.le_of_ble_eq_true rfl⟩ ⟨Nat.zero_le _, Nat.zero_le _⟩ (rest := [.int (nI j)]) (st1 := [.int (X (3 + m0) 0), .int (nI j)]) rfl rfl (Nat.le_of_ble_eq_true rfl) dX2_liesOf_10 ?_
      refine g_icmp_geN (tgt := 62) hx hb j (s_len (X (3 + m0))) rfl ho.1 (by omega) (by omega) dX2_liesOf_13 (by decide) (fun c_13 => ?_) (fun c_13 => ?_)
      · skip
        refine lv_iload_n hx hb dX2_liesOf_62 rfl (lv_at hl 0 rfl) ?_
        exact hret _ _ _ dX2_liesOf_63 (by rw [show j = s_len (X (3 + m0)) by omega]; rfl)
      · skip
        refine lv_iload_n hx hb dX2_liesOf_16 rfl (lv_at hl 0 rfl) ?_
        refine lv_aload_n hx hb dX2_liesOf_17 rfl (lv_at hl 2 rfl) ?_
        refine lv_iload_n hx hb dX2_liesOf_18 rfl (lv_at hl 3 rfl) ?_
        refine lv_iload hx hb dX2_liesOf_19 (lv_at hl 1 rfl) ?_
        refine g_cRV hX hl y_X2_believedAt v_X2_believedAt q2628 (k_X2_believedAt m0 j (by omega) (by omega)) (hM.rc hX.2.2.2) hM rfl ⟨Nat.le_of_ble_eq_true rfl, Nat.le_of_ble_eq_true rfl⟩ ⟨Nat.zero_le _, Nat.zero_le _⟩ (rest := [.int (nI (s_cnt (fun p => !decide (s_bel (X (3 + m0)) p = -1) && !decide (s_has (X (3 + m0)) i p = s_bel (X (3 + m0)) p)) j))]) (st1 := [.int (s_bel (X (3 + m0)) j), .int (nI (s_cnt (fun p => !decide (s_bel (X (3 + m0)) p = -1) && !decide (s_has (X (3 + m0)) i p = s_bel (X (3 + m0)) p)) j))]) rfl rfl (Nat.le_of_ble_eq_true rfl) dX2_liesOf_21 ?_
        refine lv_iconst (v := (-1)) hx hb dX2_liesOf_24 rfl ?_
        refine lv_icmp_eq (tgt := 50) hx hb dX2_liesOf_25 (by decide) (fun c_25 => ?_) (fun c_25 => ?_)
        · skip
          refine lv_iconst (v := 0) hx hb dX2_liesOf_50 rfl ?_
          refine g_cRS hX hl y_X2_one v_X2_one q2386 (k_X2_one false) trivial rfl ⟨Nat.le_of_ble_eq_true rfl, Nat.le_of_ble_eq_true rfl⟩ ⟨Nat.zero_le _, Nat.zero_le _⟩ (rest := [.int (nI (s_cnt (fun p => !decide (s_bel (X (3 + m0)) p = -1) && !decide (s_has (X (3 + m0)) i p = s_bel (X (3 + m0)) p)) j))]) (st1 := [.int (nI (s_n false)), .int (nI (s_cnt (fun p => !decide (s_bel (X (3 + m0)) p = -1) && !decide (s_has (X (3 + m0)) i p = s_bel (X (3 + m0)) p)) j))]) rfl rfl (Nat.le_of_ble_eq_true rfl) dX2_liesOf_51 ?_
          refine g_iaddN hx hb (s_cnt (fun p => !decide (s_bel (X (3 + m0)) p = -1) && !decide (s_has (X (3 + m0)) i p = s_bel (X (3 + m0)) p)) j) (s_n false) rfl rfl dX2_liesOf_54 ?_
          refine lv_istore_n (lv' := [(3, .int (nI (s_cnt (fun p => !decide (s_bel (X (3 + m0)) p = -1) && !decide (s_has (X (3 + m0)) i p = s_bel (X (3 + m0)) p)) j + s_n false))), (4, .int (nI j)), (0, .ref (ad 0)), (1, .int (nI m0)), (2, .int (nI i))]) hx hb dX2_liesOf_55 rfl hl (by decide) rfl (fun ls hl => ?_)
          refine lv_iinc (v := (nI (j + 1))) (lv' := [(4, .int (nI (j + 1))), (3, .int (nI (s_cnt (fun p => !decide (s_bel (X (3 + m0)) p = -1) && !decide (s_has (X (3 + m0)) i p = s_bel (X (3 + m0)) p)) j + s_n false))), (0, .ref (ad 0)), (1, .int (nI m0)), (2, .int (nI i))]) hx hb dX2_liesOf_56 hl (k := 1) rfl (nI_1 _) (by decide) rfl (fun ls hl => ?_)
          refine lv_goto (tgt := 5) hx hb dX2_liesOf_59 (by decide) ?_
          have e_3 : (nI (s_cnt (fun p => !decide (s_bel (X (3 + m0)) p = -1) && !decide (s_has (X (3 + m0)) i p = s_bel (X (3 + m0)) p)) j + s_n false)) = (nI (s_cnt (fun p => !decide (s_bel (X (3 + m0)) p = -1) && !decide (s_has (X (3 + m0)) i p = s_bel (X (3 + m0)) p)) (j + 1))) := by first | (simp [s_cnt, s_n, c_13, c_25]; done) | grind [s_cnt, s_n]
          rw [e_3] at hl
          exact ih5 (j + 1) (by omega) (by omega) ls (lv_sub hl [1, 0, 2, 3, 4] rfl)
        · skip
          refine lv_aload_n hx hb dX2_liesOf_28 rfl (lv_at hl 2 rfl) ?_
          refine lv_iload_n hx hb dX2_liesOf_29 rfl (lv_at hl 3 rfl) ?_
          refine lv_iload_n hx hb dX2_liesOf_30 rfl (lv_at hl 4 rfl) ?_
          refine lv_iload hx hb dX2_liesOf_31 (lv_at hl 1 rfl) ?_
          refine g_cRV hX hl y_X2_hasAt v_X2_hasAt q2405 (k_X2_hasAt m0 i j (by omega) (by omega) (by omega)) (hM.rc hX.2.2.2) hM rfl ⟨Nat.le_of_ble_eq_true rfl, Nat.le_of_ble_eq_true rfl⟩ ⟨Nat.zero_le _, Nat.zero_le _⟩ (rest := [.int (nI (s_cnt (fun p => !decide (s_bel (X (3 + m0)) p = -1) && !decide (s_has (X (3 + m0)) i p = s_bel (X (3 + m0)) p)) j))]) (st1 := [.int (s_has (X (3 + m0)) i j), .int (nI (s_cnt (fun p => !decide (s_bel (X (3 + m0)) p = -1) && !decide (s_has (X (3 + m0)) i p = s_bel (X (3 + m0)) p)) j))]) rfl rfl (Nat.le_of_ble_eq_true rfl) dX2_liesOf_33 ?_
          refine lv_aload_n hx hb dX2_liesOf_36 rfl (lv_at hl 2 rfl) ?_
          refine lv_iload_n hx hb dX2_liesOf_37 rfl (lv_at hl 3 rfl) ?_
          refine lv_iload hx hb dX2_liesOf_38 (lv_at hl 1 rfl) ?_
          refine g_cRV hX hl y_X2_believedAt v_X2_believedAt q2628 (k_X2_believedAt m0 j (by omega) (by omega)) (hM.rc hX.2.2.2) hM rfl ⟨Nat.le_of_ble_eq_true rfl, Nat.le_of_ble_eq_true rfl⟩ ⟨Nat.zero_le _, Nat.zero_le _⟩ (rest := [.int (s_has (X (3 + m0)) i j), .int (nI (s_cnt (fun p => !decide (s_bel (X (3 + m0)) p = -1) && !decide (s_has (X (3 + m0)) i p = s_bel (X (3 + m0)) p)) j))]) (st1 := [.int (s_bel (X (3 + m0)) j), .int (s_has (X (3 + m0)) i j), .int (nI (s_cnt (fun p => !decide (s_bel (X (3 + m0)) p = -1) && !decide (s_has (X (3 + m0)) i p = s_bel (X (3 + m0)) p)) j))]) rfl rfl (Nat.le_of_ble_eq_true rfl) dX2_liesOf_40 ?_
          refine lv_icmp_eq (tgt := 50) hx hb dX2_liesOf_43 (by decide) (fun c_43 => ?_) (fun c_43 => ?_)
          · skip
            refine lv_iconst (v := 0) hx hb dX2_liesOf_50 rfl ?_
            refine g_cRS hX hl y_X2_one v_X2_one q2386 (k_X2_one false) trivial rfl ⟨Nat.le_of_ble_eq_true rfl, Nat.le_of_ble_eq_true rfl⟩ ⟨Nat.zero_le _, Nat.zero_le _⟩ (rest := [.int (nI (s_cnt (fun p => !decide (s_bel (X (3 + m0)) p = -1) && !decide (s_has (X (3 + m0)) i p = s_bel (X (3 + m0)) p)) j))]) (st1 := [.int (nI (s_n false)), .int (nI (s_cnt (fun p => !decide (s_bel (X (3 + m0)) p = -1) && !decide (s_has (X (3 + m0)) i p = s_bel (X (3 + m0)) p)) j))]) rfl rfl (Nat.le_of_ble_eq_true rfl) dX2_liesOf_51 ?_
            refine g_iaddN hx hb (s_cnt (fun p => !decide (s_bel (X (3 + m0)) p = -1) && !decide (s_has (X (3 + m0)) i p = s_bel (X (3 + m0)) p)) j) (s_n false) rfl rfl dX2_liesOf_54 ?_
            refine lv_istore_n (lv' := [(3, .int (nI (s_cnt (fun p => !decide (s_bel (X (3 + m0)) p = -1) && !decide (s_has (X (3 + m0)) i p = s_bel (X (3 + m0)) p)) j + s_n false))), (4, .int (nI j)), (0, .ref (ad 0)), (1, .int (nI m0)), (2, .int (nI i))]) hx hb dX2_liesOf_55 rfl hl (by decide) rfl (fun ls hl => ?_)
            refine lv_iinc (v := (nI (j + 1))) (lv' := [(4, .int (nI (j + 1))), (3, .int (nI (s_cnt (fun p => !decide (s_bel (X (3 + m0)) p = -1) && !decide (s_has (X (3 + m0)) i p = s_bel (X (3 + m0)) p)) j + s_n false))), (0, .ref (ad 0)), (1, .int (nI m0)), (2, .int (nI i))]) hx hb dX2_liesOf_56 hl (k := 1) rfl (nI_1 _) (by decide) rfl (fun ls hl => ?_)
            refine lv_goto (tgt := 5) hx hb dX2_liesOf_59 (by decide) ?_
            have e_3 : (nI (s_cnt (fun p => !decide (s_bel (X (3 + m0)) p = -1) && !decide (s_has (X (3 + m0)) i p = s_bel (X (3 + m0)) p)) j + s_n false)) = (nI (s_cnt (fun p => !decide (s_bel (X (3 + m0)) p = -1) && !decide (s_has (X (3 + m0)) i p = s_bel (X (3 + m0)) p)) (j + 1))) := by first | (simp [s_cnt, s_n, c_13, c_25, c_43]; done) | grind [s_cnt, s_n]
            rw [e_3] at hl
            exact ih5 (j + 1) (by omega) (by omega) ls (lv_sub hl [1, 0, 2, 3, 4] rfl)
          · skip
            refine lv_iconst (v := 1) hx hb dX2_liesOf_46 rfl ?_
            refine lv_goto (tgt := 51) hx hb dX2_liesOf_47 (by decide) ?_
            refine g_cRS hX hl y_X2_one v_X2_one q2386 (k_X2_one true) trivial rfl ⟨Nat.le_of_ble_eq_true rfl, Nat.le_of_ble_eq_true rfl⟩ ⟨Nat.zero_le _, Nat.zero_le _⟩ (rest := [.int (nI (s_cnt (fun p => !decide (s_bel (X (3 + m0)) p = -1) && !decide (s_has (X (3 + m0)) i p = s_bel (X (3 + m0)) p)) j))]) (st1 := [.int (nI (s_n true)), .int (nI (s_cnt (fun p => !decide (s_bel (X (3 + m0)) p = -1) && !decide (s_has (X (3 + m0)) i p = s_bel (X (3 + m0)) p)) j))]) rfl rfl (Nat.le_of_ble_eq_true rfl) dX2_liesOf_51 ?_
            refine g_iaddN hx hb (s_cnt (fun p => !decide (s_bel (X (3 + m0)) p = -1) && !decide (s_has (X (3 + m0)) i p = s_bel (X (3 + m0)) p)) j) (s_n true) rfl rfl dX2_liesOf_54 ?_
            refine lv_istore_n (lv' := [(3, .int (nI (s_cnt (fun p => !decide (s_bel (X (3 + m0)) p = -1) && !decide (s_has (X (3 + m0)) i p = s_bel (X (3 + m0)) p)) j + s_n true))), (4, .int (nI j)), (0, .ref (ad 0)), (1, .int (nI m0)), (2, .int (nI i))]) hx hb dX2_liesOf_55 rfl hl (by decide) rfl (fun ls hl => ?_)
            refine lv_iinc (v := (nI (j + 1))) (lv' := [(4, .int (nI (j + 1))), (3, .int (nI (s_cnt (fun p => !decide (s_bel (X (3 + m0)) p = -1) && !decide (s_has (X (3 + m0)) i p = s_bel (X (3 + m0)) p)) j + s_n true))), (0, .ref (ad 0)), (1, .int (nI m0)), (2, .int (nI i))]) hx hb dX2_liesOf_56 hl (k := 1) rfl (nI_1 _) (by decide) rfl (fun ls hl => ?_)
            refine lv_goto (tgt := 5) hx hb dX2_liesOf_59 (by decide) ?_
            have e_3 : (nI (s_cnt (fun p => !decide (s_bel (X (3 + m0)) p = -1) && !decide (s_has (X (3 + m0)) i p = s_bel (X (3 + m0)) p)) j + s_n true)) = (nI (s_cnt (fun p => !decide (s_bel (X (3 + m0)) p = -1) && !decide (s_has (X (3 + m0)) i p = s_bel (X (3 + m0)) p)) (j + 1))) := by first | (simp [s_cnt, s_n, c_13, c_25, c_43]; done) | grind [s_cnt, s_n]
            rw [e_3] at hl
            exact ih5 (j + 1) (by omega) (by omega) ls (lv_sub hl [1, 0, 2, 3, 4] rfl)
  exact L5 (s_len (X (3 + m0)) - 0 + 1) 0 (Nat.zero_le _) (Nat.lt_succ_self _) ls (lv_sub hl [1, 0, 2, 3, 4] rfl)

theorem y_X2_isDoubtful : g_Y yX2_isDoubtful cX2_isDoubtful 4 (some .boolean) 2 := ⟨q2663, by decide +kernel⟩
theorem v_X2_isDoubtful : g_YV yX2_isDoubtful := ⟨q2662, qs113, q140⟩
set_option maxHeartbeats 4000000 in
theorem k_X2_isDoubtful {G : g_G} {l : Launch} {ad : Nat → Nat} {F : Nat → Int32} {X Y : g_Wd} {U V : Nat → g_Wd} {Z : g_Wd} (m0 : Nat) (p0 : Nat) (hm0 : m0 < 6) (hp0 : p0 < 12) : g_Rd G l yX2_isDoubtful cX2_isDoubtful 4 (some .boolean) 2 [.ref (ad 0), .int (nI m0), .int (nI p0)] (g_Mod G ad F X Y U V Z) (some (.int (g_b (s_doub (X (3 + m0)) p0)))) := by
  refine g_Rd.ofI (by decide) (by cases (s_doub (X (3 + m0)) p0) <;> rfl) ?_
  intro p e s m args below meth c ls Q hX hM hl hret
  have hx := hX.1.1
  have hb := hX.1.2.1
  have hl : lv_has ls 4 [(0, .ref (ad 0)), (1, .int (nI m0)), (2, .int (nI p0))] := hl
  refine lv_aload_n hx hb dX2_isDoubtful_0 rfl (lv_at hl 0 rfl) ?_
  refine lv_iload_n hx hb dX2_isDoubtful_1 rfl (lv_at hl 1 rfl) ?_
  refine lv_iconst (v := 0) hx hb dX2_isDoubtful_2 rfl ?_
  refine lv_iload_n hx hb dX2_isDoubtful_3 rfl (lv_at hl 2 rfl) ?_
  refine g_cRV hX hl y_X2_hasAt v_X2_hasAt q2405 (k_X2_hasAt m0 0 p0 (by omega) (by omega) (by omega)) (hM.rc hX.2.2.2) hM rfl ⟨Nat.le_of_ble_eq_true rfl, Nat.le_of_ble_eq_true rfl⟩ ⟨Nat.zero_le _, Nat.zero_le _⟩ (rest := []) (st1 := [.int (s_has (X (3 + m0)) 0 p0)]) rfl rfl (Nat.le_of_ble_eq_true rfl) dX2_isDoubtful_4 ?_
  refine lv_istore_n (lv' := [(3, .int (s_has (X (3 + m0)) 0 p0)), (0, .ref (ad 0)), (1, .int (nI m0)), (2, .int (nI p0))]) hx hb dX2_isDoubtful_7 rfl hl (by decide) rfl (fun ls hl => ?_)
  refine lv_iload_n hx hb dX2_isDoubtful_8 rfl (lv_at hl 0 rfl) ?_
  refine lv_iconst (v := (-1)) hx hb dX2_isDoubtful_9 rfl ?_
  refine lv_icmp_eq (tgt := 35) hx hb dX2_isDoubtful_10 (by decide) (fun c_10 => ?_) (fun c_10 => ?_)
  · skip
    refine lv_iconst (v := 1) hx hb dX2_isDoubtful_35 rfl ?_
    refine lv_goto (tgt := 40) hx hb dX2_isDoubtful_36 (by decide) ?_
    exact hret _ _ _ dX2_isDoubtful_40 (by grind [g_b, s_doub])
  · skip
    refine lv_iload_n hx hb dX2_isDoubtful_13 rfl (lv_at hl 0 rfl) ?_
    refine lv_aload_n hx hb dX2_isDoubtful_14 rfl (lv_at hl 1 rfl) ?_
    refine lv_iload_n hx hb dX2_isDoubtful_15 rfl (lv_at hl 2 rfl) ?_
    refine lv_iconst (v := 1) hx hb dX2_isDoubtful_16 rfl ?_
    refine lv_iload_n hx hb dX2_isDoubtful_17 rfl (lv_at hl 3 rfl) ?_
    refine g_cRV hX hl y_X2_hasAt v_X2_hasAt q2405 (k_X2_hasAt m0 1 p0 (by omega) (by omega) (by omega)) (hM.rc hX.2.2.2) hM rfl ⟨Nat.le_of_ble_eq_true rfl, Nat.le_of_ble_eq_true rfl⟩ ⟨Nat.zero_le _, Nat.zero_le _⟩ (rest := [.int (s_has (X (3 + m0)) 0 p0)]) (st1 := [.int (s_has (X (3 + m0)) 1 p0), .int (s_has (X (3 + m0)) 0 p0)]) rfl rfl (Nat.le_of_ble_eq_true rfl) dX2_isDoubtful_18 ?_
    refine lv_icmp_ne (tgt := 35) hx hb dX2_isDoubtful_21 (by decide) (fun c_21 => ?_) (fun c_21 => ?_)
    · skip
      refine lv_iconst (v := 1) hx hb dX2_isDoubtful_35 rfl ?_
      refine lv_goto (tgt := 40) hx hb dX2_isDoubtful_36 (by decide) ?_
      exact hret _ _ _ dX2_isDoubtful_40 (by grind [g_b, s_doub])
    · skip
      refine lv_iload_n hx hb dX2_isDoubtful_24 rfl (lv_at hl 0 rfl) ?_
      refine lv_aload_n hx hb dX2_isDoubtful_25 rfl (lv_at hl 1 rfl) ?_
      refine lv_iload_n hx hb dX2_isDoubtful_26 rfl (lv_at hl 2 rfl) ?_
      refine lv_iconst (v := 2) hx hb dX2_isDoubtful_27 rfl ?_
      refine lv_iload_n hx hb dX2_isDoubtful_28 rfl (lv_at hl 3 rfl) ?_
      refine g_cRV hX hl y_X2_hasAt v_X2_hasAt q2405 (k_X2_hasAt m0 2 p0 (by omega) (by omega) (by omega)) (hM.rc hX.2.2.2) hM rfl ⟨Nat.le_of_ble_eq_true rfl, Nat.le_of_ble_eq_true rfl⟩ ⟨Nat.zero_le _, Nat.zero_le _⟩ (rest := [.int (s_has (X (3 + m0)) 0 p0)]) (st1 := [.int (s_has (X (3 + m0)) 2 p0), .int (s_has (X (3 + m0)) 0 p0)]) rfl rfl (Nat.le_of_ble_eq_true rfl) dX2_isDoubtful_29 ?_
      refine lv_icmp_eq (tgt := 39) hx hb dX2_isDoubtful_32 (by decide) (fun c_32 => ?_) (fun c_32 => ?_)
      · skip
        refine lv_iconst (v := 0) hx hb dX2_isDoubtful_39 rfl ?_
        exact hret _ _ _ dX2_isDoubtful_40 (by grind [g_b, s_doub])
      · skip
        refine lv_iconst (v := 1) hx hb dX2_isDoubtful_35 rfl ?_
        refine lv_goto (tgt := 40) hx hb dX2_isDoubtful_36 (by decide) ?_
        exact hret _ _ _ dX2_isDoubtful_40 (by grind [g_b, s_doub])

theorem y_X2_sameMany : g_Y yX2_sameMany cX2_sameMany 6 (some .int) 3 := ⟨q2671, by decide +kernel⟩
theorem v_X2_sameMany : g_YV yX2_sameMany := ⟨q2670, qs114, q140⟩
set_option maxHeartbeats 4000000 in
theorem k_X2_sameMany {G : g_G} {l : Launch} {ad : Nat → Nat} {F : Nat → Int32} {X Y : g_Wd} {U V : Nat → g_Wd} {Z : g_Wd} (m0 : Nat) (i : Nat) (i2 : Nat) (hm0 : m0 < 6) (ho : s_okL (X (3 + m0))) (hi : i < 3) (hi2 : i2 < 3) : g_Rd G l yX2_sameMany cX2_sameMany 6 (some .int) 2 [.ref (ad 0), .int (nI m0), .int (nI i), .int (nI i2)] (g_Mod G ad F X Y U V Z) (some (.int (nI (s_same (X (3 + m0)) i i2)))) := by
  refine g_Rd.ofI (by decide) rfl ?_
  intro p e s m args below meth c ls Q hX hM hl hret
  have hx := hX.1.1
  have hb := hX.1.2.1
  have hl : lv_has ls 6 [(0, .ref (ad 0)), (1, .int (nI m0)), (2, .int (nI i)), (3, .int (nI i2))] := hl
  have hL := ho.2
  refine lv_iconst (v := 0) hx hb dX2_sameMany_0 rfl ?_
  refine lv_istore (lv' := [(4, .int 0), (0, .ref (ad 0)), (1, .int (nI m0)), (2, .int (nI i)), (3, .int (nI i2))]) hx hb dX2_sameMany_1 hl (by decide) rfl (fun ls hl => ?_)
  refine lv_iconst (v := 0) hx hb dX2_sameMany_3 rfl ?_
  refine lv_istore (lv' := [(5, .int 0), (4, .int 0), (0, .ref (ad 0)), (1, .int (nI m0)), (2, .int (nI i)), (3, .int (nI i2))]) hx hb dX2_sameMany_4 hl (by decide) rfl (fun ls hl => ?_)
  have L6 : ∀ (nf : Nat) (j : Nat), (j ≤ s_len (X (3 + m0))) → (s_len (X (3 + m0)) - j < nf) → ∀ ls : Array Slot, lv_has ls 6 [(4, .int (nI (s_cnt (fun p => !decide (s_has (X (3 + m0)) i p = -1) && decide (s_has (X (3 + m0)) i p = s_has (X (3 + m0)) i2 p)) j))), (5, .int (nI j)), (0, .ref (ad 0)), (1, .int (nI m0)), (2, .int (nI i)), (3, .int (nI i2))] → W p l e (g_rm 2 0 0) s m args below meth c s.heap [] 0 0 Q (F0 m 6 ls []) := by
    intro n6
    induction n6 with
    | zero => intro j hj hn; exact absurd hn (Nat.not_lt_zero _)
    | succ n6 ih6 =>
      intro j hj hn6 ls hl
      refine lv_iload hx hb dX2_sameMany_6 (lv_at hl 1 rfl) ?_
      refine lv_aload_n hx hb dX2_sameMany_8 rfl (lv_at hl 2 rfl) ?_
      refine lv_iload_n hx hb dX2_sameMany_9 rfl (lv_at hl 3 rfl) ?_
      refine lv_iconst (v := 0) hx hb dX2_sameMany_10 rfl ?_
      refine g_cRV hX hl y_X2_of v_X2_of q2365 (k_X2_of m0 0 (by omega) (by omega)) (hM.rc hX.2.2.2) hM rfl ⟨Nat.le_of_ble_eq_true rfl, Nat.le_of_ble_eq_true rfl⟩ ⟨Nat.zero_le _, Nat.zero_le _⟩ (rest := [.int (nI j)]) (st1 := [.int (X (3 + m0) 0), .int (nI j)]) rfl rfl (Nat.le_of_ble_eq_true rfl) dX2_sameMany_11 ?_
      refine g_icmp_geN (tgt := 67) hx hb j (s_len (X (3 + m0))) rfl ho.1 (by omega) (by omega) dX2_sameMany_14 (by decide) (fun c_14 => ?_) (fun c_14 => ?_)
      · skip
        refine lv_iload hx hb dX2_sameMany_67 (lv_at hl 0 rfl) ?_
        exact hret _ _ _ dX2_sameMany_69 (by rw [show j = s_len (X (3 + m0)) by omega]; rfl)
      · skip
        refine lv_iload hx hb dX2_sameMany_17 (lv_at hl 0 rfl) ?_
        refine lv_aload_n hx hb dX2_sameMany_19 rfl (lv_at hl 2 rfl) ?_
        refine lv_iload_n hx hb dX2_sameMany_20 rfl (lv_at hl 3 rfl) ?_
        refine lv_iload_n hx hb dX2_sameMany_21 rfl (lv_at hl 4 rfl) ?_
        refine lv_iload hx hb dX2_sameMany_22 (lv_at hl 1 rfl) ?_
        refine g_cRV hX hl y_X2_hasAt v_X2_hasAt q2405 (k_X2_hasAt m0 i j (by omega) (by omega) (by omega)) (hM.rc hX.2.2.2) hM rfl ⟨Nat.le_of_ble_eq_true rfl, Nat.le_of_ble_eq_true rfl⟩ ⟨Nat.zero_le _, Nat.zero_le _⟩ (rest := [.int (nI (s_cnt (fun p => !decide (s_has (X (3 + m0)) i p = -1) && decide (s_has (X (3 + m0)) i p = s_has (X (3 + m0)) i2 p)) j))]) (st1 := [.int (s_has (X (3 + m0)) i j), .int (nI (s_cnt (fun p => !decide (s_has (X (3 + m0)) i p = -1) && decide (s_has (X (3 + m0)) i p = s_has (X (3 + m0)) i2 p)) j))]) rfl rfl (Nat.le_of_ble_eq_true rfl) dX2_sameMany_24 ?_
        refine lv_iconst (v := (-1)) hx hb dX2_sameMany_27 rfl ?_
        refine lv_icmp_eq (tgt := 54) hx hb dX2_sameMany_28 (by decide) (fun c_28 => ?_) (fun c_28 => ?_)
        · skip
          refine lv_iconst (v := 0) hx hb dX2_sameMany_54 rfl ?_
          refine g_cRS hX hl y_X2_one v_X2_one q2386 (k_X2_one false) trivial rfl ⟨Nat.le_of_ble_eq_true rfl, Nat.le_of_ble_eq_true rfl⟩ ⟨Nat.zero_le _, Nat.zero_le _⟩ (rest := [.int (nI (s_cnt (fun p => !decide (s_has (X (3 + m0)) i p = -1) && decide (s_has (X (3 + m0)) i p = s_has (X (3 + m0)) i2 p)) j))]) (st1 := [.int (nI (s_n false)), .int (nI (s_cnt (fun p => !decide (s_has (X (3 + m0)) i p = -1) && decide (s_has (X (3 + m0)) i p = s_has (X (3 + m0)) i2 p)) j))]) rfl rfl (Nat.le_of_ble_eq_true rfl) dX2_sameMany_55 ?_
          refine g_iaddN hx hb (s_cnt (fun p => !decide (s_has (X (3 + m0)) i p = -1) && decide (s_has (X (3 + m0)) i p = s_has (X (3 + m0)) i2 p)) j) (s_n false) rfl rfl dX2_sameMany_58 ?_
          refine lv_istore (lv' := [(4, .int (nI (s_cnt (fun p => !decide (s_has (X (3 + m0)) i p = -1) && decide (s_has (X (3 + m0)) i p = s_has (X (3 + m0)) i2 p)) j + s_n false))), (5, .int (nI j)), (0, .ref (ad 0)), (1, .int (nI m0)), (2, .int (nI i)), (3, .int (nI i2))]) hx hb dX2_sameMany_59 hl (by decide) rfl (fun ls hl => ?_)
          refine lv_iinc (v := (nI (j + 1))) (lv' := [(5, .int (nI (j + 1))), (4, .int (nI (s_cnt (fun p => !decide (s_has (X (3 + m0)) i p = -1) && decide (s_has (X (3 + m0)) i p = s_has (X (3 + m0)) i2 p)) j + s_n false))), (0, .ref (ad 0)), (1, .int (nI m0)), (2, .int (nI i)), (3, .int (nI i2))]) hx hb dX2_sameMany_61 hl (k := 1) rfl (nI_1 _) (by decide) rfl (fun ls hl => ?_)
          refine lv_goto (tgt := 6) hx hb dX2_sameMany_64 (by decide) ?_
          have e_4 : (nI (s_cnt (fun p => !decide (s_has (X (3 + m0)) i p = -1) && decide (s_has (X (3 + m0)) i p = s_has (X (3 + m0)) i2 p)) j + s_n false)) = (nI (s_cnt (fun p => !decide (s_has (X (3 + m0)) i p = -1) && decide (s_has (X (3 + m0)) i p = s_has (X (3 + m0)) i2 p)) (j + 1))) := by first | (simp [s_cnt, s_n, c_14, c_28]; done) | grind [s_cnt, s_n]
          rw [e_4] at hl
          exact ih6 (j + 1) (by omega) (by omega) ls (lv_sub hl [1, 0, 2, 3, 4, 5] rfl)
        · skip
          refine lv_aload_n hx hb dX2_sameMany_31 rfl (lv_at hl 2 rfl) ?_
          refine lv_iload_n hx hb dX2_sameMany_32 rfl (lv_at hl 3 rfl) ?_
          refine lv_iload_n hx hb dX2_sameMany_33 rfl (lv_at hl 4 rfl) ?_
          refine lv_iload hx hb dX2_sameMany_34 (lv_at hl 1 rfl) ?_
          refine g_cRV hX hl y_X2_hasAt v_X2_hasAt q2405 (k_X2_hasAt m0 i j (by omega) (by omega) (by omega)) (hM.rc hX.2.2.2) hM rfl ⟨Nat.le_of_ble_eq_true rfl, Nat.le_of_ble_eq_true rfl⟩ ⟨Nat.zero_le _, Nat.zero_le _⟩ (rest := [.int (nI (s_cnt (fun p => !decide (s_has (X (3 + m0)) i p = -1) && decide (s_has (X (3 + m0)) i p = s_has (X (3 + m0)) i2 p)) j))]) (st1 := [.int (s_has (X (3 + m0)) i j), .int (nI (s_cnt (fun p => !decide (s_has (X (3 + m0)) i p = -1) && decide (s_has (X (3 + m0)) i p = s_has (X (3 + m0)) i2 p)) j))]) rfl rfl (Nat.le_of_ble_eq_true rfl) dX2_sameMany_36 ?_
          refine lv_aload_n hx hb dX2_sameMany_39 rfl (lv_at hl 2 rfl) ?_
          refine lv_iload_n hx hb dX2_sameMany_40 rfl (lv_at hl 3 rfl) ?_
          refine lv_iload_n hx hb dX2_sameMany_41 rfl (lv_at hl 5 rfl) ?_
          refine lv_iload hx hb dX2_sameMany_42 (lv_at hl 1 rfl) ?_
          refine g_cRV hX hl y_X2_hasAt v_X2_hasAt q2405 (k_X2_hasAt m0 i2 j (by omega) (by omega) (by omega)) (hM.rc hX.2.2.2) hM rfl ⟨Nat.le_of_ble_eq_true rfl, Nat.le_of_ble_eq_true rfl⟩ ⟨Nat.zero_le _, Nat.zero_le _⟩ (rest := [.int (s_has (X (3 + m0)) i j), .int (nI (s_cnt (fun p => !decide (s_has (X (3 + m0)) i p = -1) && decide (s_has (X (3 + m0)) i p = s_has (X (3 + m0)) i2 p)) j))]) (st1 := [.int (s_has (X (3 + m0)) i2 j), .int (s_has (X (3 + m0)) i j), .int (nI (s_cnt (fun p => !decide (s_has (X (3 + m0)) i p = -1) && decide (s_has (X (3 + m0)) i p = s_has (X (3 + m0)) i2 p)) j))]) rfl rfl (Nat.le_of_ble_eq_true rfl) dX2_sameMany_44 ?_
          refine lv_icmp_ne (tgt := 54) hx hb dX2_sameMany_47 (by decide) (fun c_47 => ?_) (fun c_47 => ?_)
          · skip
            refine lv_iconst (v := 0) hx hb dX2_sameMany_54 rfl ?_
            refine g_cRS hX hl y_X2_one v_X2_one q2386 (k_X2_one false) trivial rfl ⟨Nat.le_of_ble_eq_true rfl, Nat.le_of_ble_eq_true rfl⟩ ⟨Nat.zero_le _, Nat.zero_le _⟩ (rest := [.int (nI (s_cnt (fun p => !decide (s_has (X (3 + m0)) i p = -1) && decide (s_has (X (3 + m0)) i p = s_has (X (3 + m0)) i2 p)) j))]) (st1 := [.int (nI (s_n false)), .int (nI (s_cnt (fun p => !decide (s_has (X (3 + m0)) i p = -1) && decide (s_has (X (3 + m0)) i p = s_has (X (3 + m0)) i2 p)) j))]) rfl rfl (Nat.le_of_ble_eq_true rfl) dX2_sameMany_55 ?_
            refine g_iaddN hx hb (s_cnt (fun p => !decide (s_has (X (3 + m0)) i p = -1) && decide (s_has (X (3 + m0)) i p = s_has (X (3 + m0)) i2 p)) j) (s_n false) rfl rfl dX2_sameMany_58 ?_
            refine lv_istore (lv' := [(4, .int (nI (s_cnt (fun p => !decide (s_has (X (3 + m0)) i p = -1) && decide (s_has (X (3 + m0)) i p = s_has (X (3 + m0)) i2 p)) j + s_n false))), (5, .int (nI j)), (0, .ref (ad 0)), (1, .int (nI m0)), (2, .int (nI i)), (3, .int (nI i2))]) hx hb dX2_sameMany_59 hl (by decide) rfl (fun ls hl => ?_)
            refine lv_iinc (v := (nI (j + 1))) (lv' := [(5, .int (nI (j + 1))), (4, .int (nI (s_cnt (fun p => !decide (s_has (X (3 + m0)) i p = -1) && decide (s_has (X (3 + m0)) i p = s_has (X (3 + m0)) i2 p)) j + s_n false))), (0, .ref (ad 0)), (1, .int (nI m0)), (2, .int (nI i)), (3, .int (nI i2))]) hx hb dX2_sameMany_61 hl (k := 1) rfl (nI_1 _) (by decide) rfl (fun ls hl => ?_)
            refine lv_goto (tgt := 6) hx hb dX2_sameMany_64 (by decide) ?_
            have e_4 : (nI (s_cnt (fun p => !decide (s_has (X (3 + m0)) i p = -1) && decide (s_has (X (3 + m0)) i p = s_has (X (3 + m0)) i2 p)) j + s_n false)) = (nI (s_cnt (fun p => !decide (s_has (X (3 + m0)) i p = -1) && decide (s_has (X (3 + m0)) i p = s_has (X (3 + m0)) i2 p)) (j + 1))) := by first | (simp [s_cnt, s_n, c_14, c_28, c_47]; done) | grind [s_cnt, s_n]
            rw [e_4] at hl
            exact ih6 (j + 1) (by omega) (by omega) ls (lv_sub hl [1, 0, 2, 3, 4, 5] rfl)
          · skip
            refine lv_iconst (v := 1) hx hb dX2_sameMany_50 rfl ?_
            refine lv_goto (tgt := 55) hx hb dX2_sameMany_51 (by decide) ?_
            refine g_cRS hX hl y_X2_one v_X2_one q2386 (k_X2_one true) trivial rfl ⟨Nat.le_of_ble_eq_true rfl, Nat.le_of_ble_eq_true rfl⟩ ⟨Nat.zero_le _, Nat.zero_le _⟩ (rest := [.int (nI (s_cnt (fun p => !decide (s_has (X (3 + m0)) i p = -1) && decide (s_has (X (3 + m0)) i p = s_has (X (3 + m0)) i2 p)) j))]) (st1 := [.int (nI (s_n true)), .int (nI (s_cnt (fun p => !decide (s_has (X (3 + m0)) i p = -1) && decide (s_has (X (3 + m0)) i p = s_has (X (3 + m0)) i2 p)) j))]) rfl rfl (Nat.le_of_ble_eq_true rfl) dX2_sameMany_55 ?_
            refine g_iaddN hx hb (s_cnt (fun p => !decide (s_has (X (3 + m0)) i p = -1) && decide (s_has (X (3 + m0)) i p = s_has (X (3 + m0)) i2 p)) j) (s_n true) rfl rfl dX2_sameMany_58 ?_
            refine lv_istore (lv' := [(4, .int (nI (s_cnt (fun p => !decide (s_has (X (3 + m0)) i p = -1) && decide (s_has (X (3 + m0)) i p = s_has (X (3 + m0)) i2 p)) j + s_n true))), (5, .int (nI j)), (0, .ref (ad 0)), (1, .int (nI m0)), (2, .int (nI i)), (3, .int (nI i2))]) hx hb dX2_sameMany_59 hl (by decide) rfl (fun ls hl => ?_)
            refine lv_iinc (v := (nI (j + 1))) (lv' := [(5, .int (nI (j + 1))), (4, .int (nI (s_cnt (fun p => !decide (s_has (X (3 + m0)) i p = -1) && decide (s_has (X (3 + m0)) i p = s_has (X (3 + m0)) i2 p)) j + s_n true))), (0, .ref (ad 0)), (1, .int (nI m0)), (2, .int (nI i)), (3, .int (nI i2))]) hx hb dX2_sameMany_61 hl (k := 1) rfl (nI_1 _) (by decide) rfl (fun ls hl => ?_)
            refine lv_goto (tgt := 6) hx hb dX2_sameMany_64 (by decide) ?_
            have e_4 : (nI (s_cnt (fun p => !decide (s_has (X (3 + m0)) i p = -1) && decide (s_has (X (3 + m0)) i p = s_has (X (3 + m0)) i2 p)) j + s_n true)) = (nI (s_cnt (fun p => !decide (s_has (X (3 + m0)) i p = -1) && decide (s_has (X (3 + m0)) i p = s_has (X (3 + m0)) i2 p)) (j + 1))) := by first | (simp [s_cnt, s_n, c_14, c_28, c_47]; done) | grind [s_cnt, s_n]
            rw [e_4] at hl
            exact ih6 (j + 1) (by omega) (by omega) ls (lv_sub hl [1, 0, 2, 3, 4, 5] rfl)
  exact L6 (s_len (X (3 + m0)) - 0 + 1) 0 (Nat.zero_le _) (Nat.lt_succ_self _) ls (lv_sub hl [1, 0, 2, 3, 4, 5] rfl)

theorem y_X2_nextOf : g_Y yX2_nextOf cX2_nextOf 2 (some .int) 1 := ⟨q2683, by decide +kernel⟩
theorem v_X2_nextOf : g_YV yX2_nextOf := ⟨q2682, qs115, q140⟩
set_option maxHeartbeats 4000000 in
theorem k_X2_nextOf {G : g_G} {l : Launch} {ad : Nat → Nat} {F : Nat → Int32} {X Y : g_Wd} {U V : Nat → g_Wd} {Z : g_Wd} (m0 : Nat) (hm0 : m0 < 6) (ho : s_okL (X (3 + m0))) (hW : s_ok X) : g_Rd G l yX2_nextOf cX2_nextOf 2 (some .int) 5 [.ref (ad 0), .int (nI m0)] (g_Mod G ad F X Y U V Z) (some (.int (s_next X m0))) := by
  refine g_Rd.ofI (by decide) rfl ?_
  intro p e s m args below meth c ls Q hX hM hl hret
  have hx := hX.1.1
  have hb := hX.1.2.1
  have hl : lv_has ls 2 [(0, .ref (ad 0)), (1, .int (nI m0))] := hl
  have hL := ho.2
  have hW9 := hW
  obtain ⟨⟨hL0, hL2, hL6⟩, ⟨hM0, hM6⟩, ⟨hG0, hG40⟩, hok⟩ := hW9
  refine lv_aload_n hx hb dX2_nextOf_0 rfl (lv_at hl 0 rfl) ?_
  refine lv_iload_n hx hb dX2_nextOf_1 rfl (lv_at hl 1 rfl) ?_
  refine g_cRV hX hl y_X2_isUnderWay v_X2_isUnderWay q2382 (k_X2_isUnderWay m0 (by omega)) (hM.rc hX.2.2.2) hM rfl ⟨Nat.le_of_ble_eq_true rfl, Nat.le_of_ble_eq_true rfl⟩ ⟨Nat.zero_le _, Nat.zero_le _⟩ (rest := []) (st1 := [.int (g_b (decide (X (3 + m0) 4 = -1)))]) rfl rfl (Nat.le_of_ble_eq_true rfl) dX2_nextOf_2 ?_
  refine g_if_neB (tgt := 10) hx hb (b := decide (X (3 + m0) 4 = -1)) rfl dX2_nextOf_5 (by decide) (fun c_5 => ?_) (fun c_5 => ?_)
  · skip
    refine lv_aload_n hx hb dX2_nextOf_10 rfl (lv_at hl 0 rfl) ?_
    refine lv_iload_n hx hb dX2_nextOf_11 rfl (lv_at hl 1 rfl) ?_
    refine g_cRV hX hl y_X2_willAsk v_X2_willAsk q2393 (k_X2_willAsk m0 (by omega) ho) (hM.rc hX.2.2.2) hM rfl ⟨Nat.le_of_ble_eq_true rfl, Nat.le_of_ble_eq_true rfl⟩ ⟨Nat.zero_le _, Nat.zero_le _⟩ (rest := []) (st1 := [.int (g_b (s_will X m0))]) rfl rfl (Nat.le_of_ble_eq_true rfl) dX2_nextOf_12 ?_
    refine g_if_eqB (tgt := 20) hx hb (b := s_will X m0) rfl dX2_nextOf_15 (by decide) (fun c_15 => ?_) (fun c_15 => ?_)
    · skip
      refine lv_aload_n hx hb dX2_nextOf_20 rfl (lv_at hl 0 rfl) ?_
      refine lv_iload_n hx hb dX2_nextOf_21 rfl (lv_at hl 1 rfl) ?_
      refine lv_iconst (v := 1) hx hb dX2_nextOf_22 rfl ?_
      refine g_cRV hX hl y_X2_of v_X2_of q2365 (k_X2_of m0 1 (by omega) (by omega)) (hM.rc hX.2.2.2) hM rfl ⟨Nat.le_of_ble_eq_true rfl, Nat.le_of_ble_eq_true rfl⟩ ⟨Nat.zero_le _, Nat.zero_le _⟩ (rest := []) (st1 := [.int (X (3 + m0) 1)]) rfl rfl (Nat.le_of_ble_eq_true rfl) dX2_nextOf_23 ?_
      refine lv_aload_n hx hb dX2_nextOf_26 rfl (lv_at hl 0 rfl) ?_
      refine g_cRV hX hl y_X2_lastLevel v_X2_lastLevel q2440 (k_X2_lastLevel hW) (hM.rc hX.2.2.2) hM rfl ⟨Nat.le_of_ble_eq_true rfl, Nat.le_of_ble_eq_true rfl⟩ ⟨Nat.zero_le _, Nat.zero_le _⟩ (rest := [.int (X (3 + m0) 1)]) (st1 := [.int (nI (s_L X - 1)), .int (X (3 + m0) 1)]) rfl rfl (Nat.le_of_ble_eq_true rfl) dX2_nextOf_27 ?_
      refine lv_icmp_ge (tgt := 37) hx hb dX2_nextOf_30 (by decide) (fun c_30 => ?_) (fun c_30 => ?_)
      · skip
        refine lv_iconst (v := 3) hx hb dX2_nextOf_37 rfl ?_
        exact hret _ _ _ dX2_nextOf_38 (by grind [s_next])
      · skip
        refine lv_iconst (v := 2) hx hb dX2_nextOf_33 rfl ?_
        refine lv_goto (tgt := 38) hx hb dX2_nextOf_34 (by decide) ?_
        exact hret _ _ _ dX2_nextOf_38 (by grind [s_next])
    · skip
      refine lv_iconst (v := 1) hx hb dX2_nextOf_18 rfl ?_
      exact hret _ _ _ dX2_nextOf_19 (by grind [s_next])
  · skip
    refine lv_iconst (v := 0) hx hb dX2_nextOf_8 rfl ?_
    exact hret _ _ _ dX2_nextOf_9 (by grind [s_next])

theorem y_X2_unlikeCopies : g_Y yX2_unlikeCopies cX2_unlikeCopies 5 (some .int) 1 := ⟨q2696, by decide +kernel⟩
theorem v_X2_unlikeCopies : g_YV yX2_unlikeCopies := ⟨q2695, qs117, q140⟩
set_option maxHeartbeats 4000000 in
theorem k_X2_unlikeCopies {G : g_G} {l : Launch} {ad : Nat → Nat} {F : Nat → Int32} {X Y : g_Wd} {U V : Nat → g_Wd} {Z : g_Wd} (m0 : Nat) (hm0 : m0 < 6) (ho : s_okL (X (3 + m0))) : g_Rd G l yX2_unlikeCopies cX2_unlikeCopies 5 (some .int) 3 [.ref (ad 0), .int (nI m0)] (g_Mod G ad F X Y U V Z) (some (.int (nI (s_unlM (X (3 + m0)))))) := by
  refine g_Rd.ofI (by decide) rfl ?_
  intro p e s m args below meth c ls Q hX hM hl hret
  have hx := hX.1.1
  have hb := hX.1.2.1
  have hl : lv_has ls 5 [(0, .ref (ad 0)), (1, .int (nI m0))] := hl
  have hL := ho.2
  refine lv_iconst (v := 0) hx hb dX2_unlikeCopies_0 rfl ?_
  refine lv_istore_n (lv' := [(2, .int 0), (0, .ref (ad 0)), (1, .int (nI m0))]) hx hb dX2_unlikeCopies_1 rfl hl (by decide) rfl (fun ls hl => ?_)
  refine lv_iconst (v := 0) hx hb dX2_unlikeCopies_2 rfl ?_
  refine lv_istore_n (lv' := [(3, .int 0), (2, .int 0), (0, .ref (ad 0)), (1, .int (nI m0))]) hx hb dX2_unlikeCopies_3 rfl hl (by decide) rfl (fun ls hl => ?_)
  have L4 : ∀ (nf : Nat) (j : Nat), (j ≤ 3) → (3 - j < nf) → ∀ ls : Array Slot, lv_has ls 5 [(2, .int (nI (s_sum (fun i => s_unl (X (3 + m0)) i) j))), (3, .int (nI j)), (0, .ref (ad 0)), (1, .int (nI m0))] → W p l e (g_rm 3 0 0) s m args below meth c s.heap [] 0 0 Q (F0 m 4 ls []) := by
    intro n4
    induction n4 with
    | zero => intro j hj hn; exact absurd hn (Nat.not_lt_zero _)
    | succ n4 ih4 =>
      intro j hj hn4 ls hl
      refine lv_iload_n hx hb dX2_unlikeCopies_4 rfl (lv_at hl 1 rfl) ?_
      refine lv_iconst (v := 3) hx hb dX2_unlikeCopies_5 rfl ?_
      refine g_icmp_geN (tgt := 65) hx hb j 3 rfl rfl (by omega) (by omega) dX2_unlikeCopies_6 (by decide) (fun c_6 => ?_) (fun c_6 => ?_)
      · skip
        refine lv_aload_n hx hb dX2_unlikeCopies_65 rfl (lv_at hl 2 rfl) ?_
        refine lv_iload_n hx hb dX2_unlikeCopies_66 rfl (lv_at hl 3 rfl) ?_
        refine lv_iconst (v := 1) hx hb dX2_unlikeCopies_67 rfl ?_
        refine g_cRV hX hl y_X2_of v_X2_of q2365 (k_X2_of m0 1 (by omega) (by omega)) (hM.rc hX.2.2.2) hM rfl ⟨Nat.le_of_ble_eq_true rfl, Nat.le_of_ble_eq_true rfl⟩ ⟨Nat.zero_le _, Nat.zero_le _⟩ (rest := []) (st1 := [.int (X (3 + m0) 1)]) rfl rfl (Nat.le_of_ble_eq_true rfl) dX2_unlikeCopies_68 ?_
        refine lv_if_ne (tgt := 78) hx hb dX2_unlikeCopies_71 (by decide) (fun c_71 => ?_) (fun c_71 => ?_)
        · skip
          refine lv_iload_n hx hb dX2_unlikeCopies_78 rfl (lv_at hl 0 rfl) ?_
          exact hret _ _ _ dX2_unlikeCopies_79 (by have hj3 : j = 3 := (by omega); subst hj3; first | (simp [s_unlM, *]; done) | (simp [s_unlM, *]; rfl))
        · skip
          refine lv_iconst (v := 0) hx hb dX2_unlikeCopies_74 rfl ?_
          refine lv_goto (tgt := 79) hx hb dX2_unlikeCopies_75 (by decide) ?_
          exact hret _ _ _ dX2_unlikeCopies_79 (by have hj3 : j = 3 := (by omega); subst hj3; first | (simp [s_unlM, *]; done) | (simp [s_unlM, *]; rfl))
      · skip
        refine lv_iconst (v := 0) hx hb dX2_unlikeCopies_9 rfl ?_
        refine lv_istore (lv' := [(4, .int 0), (2, .int (nI (s_sum (fun i => s_unl (X (3 + m0)) i) j))), (3, .int (nI j)), (0, .ref (ad 0)), (1, .int (nI m0))]) hx hb dX2_unlikeCopies_10 hl (by decide) rfl (fun ls hl => ?_)
        have L12 : ∀ (nf : Nat) (q : Nat), (q ≤ s_len (X (3 + m0))) → (s_len (X (3 + m0)) - q < nf) → ∀ ls : Array Slot, lv_has ls 5 [(2, .int (nI (s_sum (fun i => s_unl (X (3 + m0)) i) j + s_cnt (fun p => !decide (s_has (X (3 + m0)) j p = s_votedAt (X (3 + m0)) j p)) q))), (4, .int (nI q)), (3, .int (nI j)), (0, .ref (ad 0)), (1, .int (nI m0))] → W p l e (g_rm 3 0 0) s m args below meth c s.heap [] 0 0 Q (F0 m 12 ls []) := by
          intro n12
          induction n12 with
          | zero => intro q hq hn; exact absurd hn (Nat.not_lt_zero _)
          | succ n12 ih12 =>
            intro q hq hn12 ls hl
            refine lv_iload hx hb dX2_unlikeCopies_12 (lv_at hl 1 rfl) ?_
            refine lv_aload_n hx hb dX2_unlikeCopies_14 rfl (lv_at hl 3 rfl) ?_
            refine lv_iload_n hx hb dX2_unlikeCopies_15 rfl (lv_at hl 4 rfl) ?_
            refine lv_iconst (v := 0) hx hb dX2_unlikeCopies_16 rfl ?_
            refine g_cRV hX hl y_X2_of v_X2_of q2365 (k_X2_of m0 0 (by omega) (by omega)) (hM.rc hX.2.2.2) hM rfl ⟨Nat.le_of_ble_eq_true rfl, Nat.le_of_ble_eq_true rfl⟩ ⟨Nat.zero_le _, Nat.zero_le _⟩ (rest := [.int (nI q)]) (st1 := [.int (X (3 + m0) 0), .int (nI q)]) rfl rfl (Nat.le_of_ble_eq_true rfl) dX2_unlikeCopies_17 ?_
            refine g_icmp_geN (tgt := 59) hx hb q (s_len (X (3 + m0))) rfl ho.1 (by omega) (by omega) dX2_unlikeCopies_20 (by decide) (fun c_20 => ?_) (fun c_20 => ?_)
            · skip
              refine lv_iinc (v := (nI (j + 1))) (lv' := [(3, .int (nI (j + 1))), (2, .int (nI (s_sum (fun i => s_unl (X (3 + m0)) i) j + s_cnt (fun p => !decide (s_has (X (3 + m0)) j p = s_votedAt (X (3 + m0)) j p)) q))), (4, .int (nI q)), (0, .ref (ad 0)), (1, .int (nI m0))]) hx hb dX2_unlikeCopies_59 hl (k := 2) rfl (nI_1 _) (by decide) rfl (fun ls hl => ?_)
              refine lv_goto (tgt := 4) hx hb dX2_unlikeCopies_62 (by decide) ?_
              have e_2 : (nI (s_sum (fun i => s_unl (X (3 + m0)) i) j + s_cnt (fun p => !decide (s_has (X (3 + m0)) j p = s_votedAt (X (3 + m0)) j p)) q)) = (nI (s_sum (fun i => s_unl (X (3 + m0)) i) (j + 1))) := by rw [show q = s_len (X (3 + m0)) by omega]; rfl
              rw [e_2] at hl
              exact ih4 (j + 1) (by omega) (by omega) ls (lv_sub hl [1, 0, 3, 4] rfl)
            · skip
              refine lv_iload_n hx hb dX2_unlikeCopies_23 rfl (lv_at hl 0 rfl) ?_
              refine lv_aload_n hx hb dX2_unlikeCopies_24 rfl (lv_at hl 3 rfl) ?_
              refine lv_iload_n hx hb dX2_unlikeCopies_25 rfl (lv_at hl 4 rfl) ?_
              refine lv_iload_n hx hb dX2_unlikeCopies_26 rfl (lv_at hl 2 rfl) ?_
              refine lv_iload hx hb dX2_unlikeCopies_27 (lv_at hl 1 rfl) ?_
              refine g_cRV hX hl y_X2_hasAt v_X2_hasAt q2405 (k_X2_hasAt m0 j q (by omega) (by omega) (by omega)) (hM.rc hX.2.2.2) hM rfl ⟨Nat.le_of_ble_eq_true rfl, Nat.le_of_ble_eq_true rfl⟩ ⟨Nat.zero_le _, Nat.zero_le _⟩ (rest := [.int (nI (s_sum (fun i => s_unl (X (3 + m0)) i) j + s_cnt (fun p => !decide (s_has (X (3 + m0)) j p = s_votedAt (X (3 + m0)) j p)) q))]) (st1 := [.int (s_has (X (3 + m0)) j q), .int (nI (s_sum (fun i => s_unl (X (3 + m0)) i) j + s_cnt (fun p => !decide (s_has (X (3 + m0)) j p = s_votedAt (X (3 + m0)) j p)) q))]) rfl rfl (Nat.le_of_ble_eq_true rfl) dX2_unlikeCopies_29 ?_
              refine lv_aload_n hx hb dX2_unlikeCopies_32 rfl (lv_at hl 3 rfl) ?_
              refine lv_iload_n hx hb dX2_unlikeCopies_33 rfl (lv_at hl 4 rfl) ?_
              refine lv_iload_n hx hb dX2_unlikeCopies_34 rfl (lv_at hl 2 rfl) ?_
              refine lv_iload hx hb dX2_unlikeCopies_35 (lv_at hl 1 rfl) ?_
              refine g_cRV hX hl y_X2_votedAt v_X2_votedAt q2429 (k_X2_votedAt m0 j q (by omega) (by omega) (by omega)) (hM.rc hX.2.2.2) hM rfl ⟨Nat.le_of_ble_eq_true rfl, Nat.le_of_ble_eq_true rfl⟩ ⟨Nat.zero_le _, Nat.zero_le _⟩ (rest := [.int (s_has (X (3 + m0)) j q), .int (nI (s_sum (fun i => s_unl (X (3 + m0)) i) j + s_cnt (fun p => !decide (s_has (X (3 + m0)) j p = s_votedAt (X (3 + m0)) j p)) q))]) (st1 := [.int (s_votedAt (X (3 + m0)) j q), .int (s_has (X (3 + m0)) j q), .int (nI (s_sum (fun i => s_unl (X (3 + m0)) i) j + s_cnt (fun p => !decide (s_has (X (3 + m0)) j p = s_votedAt (X (3 + m0)) j p)) q))]) rfl rfl (Nat.le_of_ble_eq_true rfl) dX2_unlikeCopies_37 ?_
              refine lv_icmp_eq (tgt := 47) hx hb dX2_unlikeCopies_40 (by decide) (fun c_40 => ?_) (fun c_40 => ?_)
              · skip
                refine lv_iconst (v := 0) hx hb dX2_unlikeCopies_47 rfl ?_
                refine g_cRS hX hl y_X2_one v_X2_one q2386 (k_X2_one false) trivial rfl ⟨Nat.le_of_ble_eq_true rfl, Nat.le_of_ble_eq_true rfl⟩ ⟨Nat.zero_le _, Nat.zero_le _⟩ (rest := [.int (nI (s_sum (fun i => s_unl (X (3 + m0)) i) j + s_cnt (fun p => !decide (s_has (X (3 + m0)) j p = s_votedAt (X (3 + m0)) j p)) q))]) (st1 := [.int (nI (s_n false)), .int (nI (s_sum (fun i => s_unl (X (3 + m0)) i) j + s_cnt (fun p => !decide (s_has (X (3 + m0)) j p = s_votedAt (X (3 + m0)) j p)) q))]) rfl rfl (Nat.le_of_ble_eq_true rfl) dX2_unlikeCopies_48 ?_
                refine g_iaddN hx hb (s_sum (fun i => s_unl (X (3 + m0)) i) j + s_cnt (fun p => !decide (s_has (X (3 + m0)) j p = s_votedAt (X (3 + m0)) j p)) q) (s_n false) rfl rfl dX2_unlikeCopies_51 ?_
                refine lv_istore_n (lv' := [(2, .int (nI (s_sum (fun i => s_unl (X (3 + m0)) i) j + s_cnt (fun p => !decide (s_has (X (3 + m0)) j p = s_votedAt (X (3 + m0)) j p)) q + s_n false))), (4, .int (nI q)), (3, .int (nI j)), (0, .ref (ad 0)), (1, .int (nI m0))]) hx hb dX2_unlikeCopies_52 rfl hl (by decide) rfl (fun ls hl => ?_)
                refine lv_iinc (v := (nI (q + 1))) (lv' := [(4, .int (nI (q + 1))), (2, .int (nI (s_sum (fun i => s_unl (X (3 + m0)) i) j + s_cnt (fun p => !decide (s_has (X (3 + m0)) j p = s_votedAt (X (3 + m0)) j p)) q + s_n false))), (3, .int (nI j)), (0, .ref (ad 0)), (1, .int (nI m0))]) hx hb dX2_unlikeCopies_53 hl (k := 1) rfl (nI_1 _) (by decide) rfl (fun ls hl => ?_)
                refine lv_goto (tgt := 12) hx hb dX2_unlikeCopies_56 (by decide) ?_
                have e_2 : (nI (s_sum (fun i => s_unl (X (3 + m0)) i) j + s_cnt (fun p => !decide (s_has (X (3 + m0)) j p = s_votedAt (X (3 + m0)) j p)) q + s_n false)) = (nI (s_sum (fun i => s_unl (X (3 + m0)) i) j + s_cnt (fun p => !decide (s_has (X (3 + m0)) j p = s_votedAt (X (3 + m0)) j p)) (q + 1))) := by rw [Nat.add_assoc]; simp [s_cnt, s_n, c_20, c_40]
                rw [e_2] at hl
                exact ih12 (q + 1) (by omega) (by omega) ls (lv_sub hl [1, 0, 2, 3, 4] rfl)
              · skip
                refine lv_iconst (v := 1) hx hb dX2_unlikeCopies_43 rfl ?_
                refine lv_goto (tgt := 48) hx hb dX2_unlikeCopies_44 (by decide) ?_
                refine g_cRS hX hl y_X2_one v_X2_one q2386 (k_X2_one true) trivial rfl ⟨Nat.le_of_ble_eq_true rfl, Nat.le_of_ble_eq_true rfl⟩ ⟨Nat.zero_le _, Nat.zero_le _⟩ (rest := [.int (nI (s_sum (fun i => s_unl (X (3 + m0)) i) j + s_cnt (fun p => !decide (s_has (X (3 + m0)) j p = s_votedAt (X (3 + m0)) j p)) q))]) (st1 := [.int (nI (s_n true)), .int (nI (s_sum (fun i => s_unl (X (3 + m0)) i) j + s_cnt (fun p => !decide (s_has (X (3 + m0)) j p = s_votedAt (X (3 + m0)) j p)) q))]) rfl rfl (Nat.le_of_ble_eq_true rfl) dX2_unlikeCopies_48 ?_
                refine g_iaddN hx hb (s_sum (fun i => s_unl (X (3 + m0)) i) j + s_cnt (fun p => !decide (s_has (X (3 + m0)) j p = s_votedAt (X (3 + m0)) j p)) q) (s_n true) rfl rfl dX2_unlikeCopies_51 ?_
                refine lv_istore_n (lv' := [(2, .int (nI (s_sum (fun i => s_unl (X (3 + m0)) i) j + s_cnt (fun p => !decide (s_has (X (3 + m0)) j p = s_votedAt (X (3 + m0)) j p)) q + s_n true))), (4, .int (nI q)), (3, .int (nI j)), (0, .ref (ad 0)), (1, .int (nI m0))]) hx hb dX2_unlikeCopies_52 rfl hl (by decide) rfl (fun ls hl => ?_)
                refine lv_iinc (v := (nI (q + 1))) (lv' := [(4, .int (nI (q + 1))), (2, .int (nI (s_sum (fun i => s_unl (X (3 + m0)) i) j + s_cnt (fun p => !decide (s_has (X (3 + m0)) j p = s_votedAt (X (3 + m0)) j p)) q + s_n true))), (3, .int (nI j)), (0, .ref (ad 0)), (1, .int (nI m0))]) hx hb dX2_unlikeCopies_53 hl (k := 1) rfl (nI_1 _) (by decide) rfl (fun ls hl => ?_)
                refine lv_goto (tgt := 12) hx hb dX2_unlikeCopies_56 (by decide) ?_
                have e_2 : (nI (s_sum (fun i => s_unl (X (3 + m0)) i) j + s_cnt (fun p => !decide (s_has (X (3 + m0)) j p = s_votedAt (X (3 + m0)) j p)) q + s_n true)) = (nI (s_sum (fun i => s_unl (X (3 + m0)) i) j + s_cnt (fun p => !decide (s_has (X (3 + m0)) j p = s_votedAt (X (3 + m0)) j p)) (q + 1))) := by rw [Nat.add_assoc]; simp [s_cnt, s_n, c_20, c_40]
                rw [e_2] at hl
                exact ih12 (q + 1) (by omega) (by omega) ls (lv_sub hl [1, 0, 2, 3, 4] rfl)
        exact L12 (s_len (X (3 + m0)) - 0 + 1) 0 (by omega) (Nat.lt_succ_self _) ls (lv_sub hl [1, 0, 2, 3, 4] rfl)
  exact L4 (3 - 0 + 1) 0 (by omega) (Nat.lt_succ_self _) ls (lv_sub hl [1, 0, 2, 3] rfl)

theorem y_X2_ofAllWires : g_Y yX2_ofAllWires cX2_ofAllWires 4 (some .int) 1 := ⟨q2691, by decide +kernel⟩
theorem v_X2_ofAllWires : g_YV yX2_ofAllWires := ⟨q2690, qs116, q140⟩
set_option maxHeartbeats 4000000 in
theorem k_X2_ofAllWires {G : g_G} {l : Launch} {ad : Nat → Nat} {F : Nat → Int32} {X Y : g_Wd} {U V : Nat → g_Wd} {Z : g_Wd} (k : Nat) (hW : s_ok X) (hk : k < 5) : g_Rd G l yX2_ofAllWires cX2_ofAllWires 4 (some .int) 1 [.ref (ad 0), .int (nI k)] (g_Mod G ad F X Y U V Z) (some (.int (s_wsum X k))) := by
  refine g_Rd.ofI (by decide) rfl ?_
  intro p e s m args below meth c ls Q hX hM hl hret
  have hx := hX.1.1
  have hb := hX.1.2.1
  have hl : lv_has ls 4 [(0, .ref (ad 0)), (1, .int (nI k))] := hl
  have hW9 := hW
  obtain ⟨⟨hL0, hL2, hL6⟩, ⟨hM0, hM6⟩, ⟨hG0, hG40⟩, hok⟩ := hW9
  have hw9 : s_W X ≤ 45 := by unfold s_W; omega
  refine lv_iconst (v := 0) hx hb dX2_ofAllWires_0 rfl ?_
  refine lv_istore_n (lv' := [(2, .int 0), (0, .ref (ad 0)), (1, .int (nI k))]) hx hb dX2_ofAllWires_1 rfl hl (by decide) rfl (fun ls hl => ?_)
  refine lv_iconst (v := 0) hx hb dX2_ofAllWires_2 rfl ?_
  refine lv_istore_n (lv' := [(3, .int 0), (2, .int 0), (0, .ref (ad 0)), (1, .int (nI k))]) hx hb dX2_ofAllWires_3 rfl hl (by decide) rfl (fun ls hl => ?_)
  have L4 : ∀ (nf : Nat) (j : Nat), (j ≤ 9 * (s_L X - 1)) → (9 * (s_L X - 1) - j < nf) → ∀ ls : Array Slot, lv_has ls 4 [(2, .int (s_isum (fun w => X 1 (5 * w + k)) j)), (3, .int (nI j)), (0, .ref (ad 0)), (1, .int (nI k))] → W p l e (g_rm 1 0 0) s m args below meth c s.heap [] 0 0 Q (F0 m 4 ls []) := by
    intro n4
    induction n4 with
    | zero => intro j hj hn; exact absurd hn (Nat.not_lt_zero _)
    | succ n4 ih4 =>
      intro j hj hn4 ls hl
      refine lv_iload_n hx hb dX2_ofAllWires_4 rfl (lv_at hl 1 rfl) ?_
      refine lv_bipush (v := 9) hx hb dX2_ofAllWires_5 (by decide) ?_
      refine lv_aload_n hx hb dX2_ofAllWires_7 rfl (lv_at hl 2 rfl) ?_
      refine g_cRV hX hl y_X2_lastLevel v_X2_lastLevel q2440 (k_X2_lastLevel hW) (hM.rc hX.2.2.2) hM rfl ⟨Nat.le_of_ble_eq_true rfl, Nat.le_of_ble_eq_true rfl⟩ ⟨Nat.zero_le _, Nat.zero_le _⟩ (rest := [.int 9, .int (nI j)]) (st1 := [.int (nI (s_L X - 1)), .int 9, .int (nI j)]) rfl rfl (Nat.le_of_ble_eq_true rfl) dX2_ofAllWires_8 ?_
      refine g_imulN hx hb 9 (s_L X - 1) rfl rfl dX2_ofAllWires_11 ?_
      refine g_icmp_geN (tgt := 30) hx hb j (9 * (s_L X - 1)) rfl rfl (by omega) (by omega) dX2_ofAllWires_12 (by decide) (fun c_12 => ?_) (fun c_12 => ?_)
      · skip
        refine lv_iload_n hx hb dX2_ofAllWires_30 rfl (lv_at hl 0 rfl) ?_
        exact hret _ _ _ dX2_ofAllWires_31 (by rw [show j = 9 * (s_L X - 1) by omega]; rfl)
      · skip
        refine lv_iload_n hx hb dX2_ofAllWires_15 rfl (lv_at hl 0 rfl) ?_
        refine lv_aload_n hx hb dX2_ofAllWires_16 rfl (lv_at hl 2 rfl) ?_
        refine lv_iload_n hx hb dX2_ofAllWires_17 rfl (lv_at hl 1 rfl) ?_
        refine lv_iload_n hx hb dX2_ofAllWires_18 rfl (lv_at hl 3 rfl) ?_
        refine g_cRV hX hl y_X2_ofWire v_X2_ofWire q2340 (k_X2_ofWire j k (by omega) (by omega)) (hM.rc hX.2.2.2) hM rfl ⟨Nat.le_of_ble_eq_true rfl, Nat.le_of_ble_eq_true rfl⟩ ⟨Nat.zero_le _, Nat.zero_le _⟩ (rest := [.int (s_isum (fun w => X 1 (5 * w + k)) j)]) (st1 := [.int (X 1 (5 * j + k)), .int (s_isum (fun w => X 1 (5 * w + k)) j)]) rfl rfl (Nat.le_of_ble_eq_true rfl) dX2_ofAllWires_19 ?_
        refine lv_iadd hx hb dX2_ofAllWires_22 ?_
        refine lv_istore_n (lv' := [(2, .int ((s_isum (fun w => X 1 (5 * w + k)) j) + (X 1 (5 * j + k)))), (3, .int (nI j)), (0, .ref (ad 0)), (1, .int (nI k))]) hx hb dX2_ofAllWires_23 rfl hl (by decide) rfl (fun ls hl => ?_)
        refine lv_iinc (v := (nI (j + 1))) (lv' := [(3, .int (nI (j + 1))), (2, .int ((s_isum (fun w => X 1 (5 * w + k)) j) + (X 1 (5 * j + k)))), (0, .ref (ad 0)), (1, .int (nI k))]) hx hb dX2_ofAllWires_24 hl (k := 1) rfl (nI_1 _) (by decide) rfl (fun ls hl => ?_)
        refine lv_goto (tgt := 4) hx hb dX2_ofAllWires_27 (by decide) ?_
        have e_2 : ((s_isum (fun w => X 1 (5 * w + k)) j) + (X 1 (5 * j + k))) = (s_isum (fun w => X 1 (5 * w + k)) (j + 1)) := rfl
        rw [e_2] at hl
        exact ih4 (j + 1) (by omega) (by omega) ls (lv_sub hl [1, 0, 2, 3] rfl)
  exact L4 (9 * (s_L X - 1) - 0 + 1) 0 (by omega) (Nat.lt_succ_self _) ls (lv_sub hl [1, 0, 2, 3] rfl)

theorem y_X2_areBoth : g_Y yX2_areBoth cX2_areBoth 3 (some .boolean) 2 := ⟨q2732, by decide +kernel⟩
theorem v_X2_areBoth : g_YV yX2_areBoth := ⟨q2731, qs120, q140⟩
set_option maxHeartbeats 4000000 in
theorem k_X2_areBoth {G : g_G} {l : Launch} {ad : Nat → Nat} {F : Nat → Int32} {X Y : g_Wd} {U V : Nat → g_Wd} {Z : g_Wd} (v : Int32) (w : Int32) (hWc : ¬ F 6 = 0 → s_ok X) : g_Rd G l yX2_areBoth cX2_areBoth 3 (some .boolean) 2 [.ref (ad 0), .int v, .int w] (g_Mod G ad F X Y U V Z) (some (.int (g_b (s_isMsg F X v && s_isWN F X w)))) := by
  refine g_Rd.ofI (by decide) (by cases (s_isMsg F X v && s_isWN F X w) <;> rfl) ?_
  intro p e s m args below meth c ls Q hX hM hl hret
  have hx := hX.1.1
  have hb := hX.1.2.1
  have hl : lv_has ls 3 [(0, .ref (ad 0)), (1, .int v), (2, .int w)] := hl
  refine lv_aload_n hx hb dX2_areBoth_0 rfl (lv_at hl 0 rfl) ?_
  refine lv_iload_n hx hb dX2_areBoth_1 rfl (lv_at hl 1 rfl) ?_
  refine g_cRV hX hl y_X2_isMessage v_X2_isMessage q2564 (k_X2_isMessage v) (hM.rc hX.2.2.2) hM rfl ⟨Nat.le_of_ble_eq_true rfl, Nat.le_of_ble_eq_true rfl⟩ ⟨Nat.zero_le _, Nat.zero_le _⟩ (rest := []) (st1 := [.int (g_b (s_isMsg F X v))]) rfl rfl (Nat.le_of_ble_eq_true rfl) dX2_areBoth_2 ?_
  refine g_if_eqB (tgt := 20) hx hb (b := s_isMsg F X v) rfl dX2_areBoth_5 (by decide) (fun c_5 => ?_) (fun c_5 => ?_)
  · skip
    refine lv_iconst (v := 0) hx hb dX2_areBoth_20 rfl ?_
    exact hret _ _ _ dX2_areBoth_21 (by grind [g_b, s_isMsg])
  · skip
    refine lv_aload_n hx hb dX2_areBoth_8 rfl (lv_at hl 0 rfl) ?_
    refine lv_iload_n hx hb dX2_areBoth_9 rfl (lv_at hl 2 rfl) ?_
    refine g_cRV hX hl y_X2_isWireNumber v_X2_isWireNumber q2733 (k_X2_isWireNumber w hWc) (hM.rc hX.2.2.2) hM rfl ⟨Nat.le_of_ble_eq_true rfl, Nat.le_of_ble_eq_true rfl⟩ ⟨Nat.zero_le _, Nat.zero_le _⟩ (rest := []) (st1 := [.int (g_b (s_isWN F X w))]) rfl rfl (Nat.le_of_ble_eq_true rfl) dX2_areBoth_10 ?_
    refine g_if_eqB (tgt := 20) hx hb (b := s_isWN F X w) rfl dX2_areBoth_13 (by decide) (fun c_13 => ?_) (fun c_13 => ?_)
    · skip
      refine lv_iconst (v := 0) hx hb dX2_areBoth_20 rfl ?_
      exact hret _ _ _ dX2_areBoth_21 (by grind [g_b, s_isMsg])
    · skip
      refine lv_iconst (v := 1) hx hb dX2_areBoth_16 rfl ?_
      refine lv_goto (tgt := 21) hx hb dX2_areBoth_17 (by decide) ?_
      exact hret _ _ _ dX2_areBoth_21 (by grind [g_b, s_isMsg])

theorem y_X2_allHours : g_Y yX2_allHours cX2_allHours 3 (some .int) 0 := ⟨q2796, by decide +kernel⟩
theorem v_X2_allHours : g_YV yX2_allHours := ⟨q2795, qs127, q140⟩
set_option maxHeartbeats 4000000 in
theorem k_X2_allHours {G : g_G} {l : Launch} {ad : Nat → Nat} {F : Nat → Int32} {X Y : g_Wd} {U V : Nat → g_Wd} {Z : g_Wd}  (hW : s_ok X) : g_Rd G l yX2_allHours cX2_allHours 3 (some .int) 2 [.ref (ad 0)] (g_Mod G ad F X Y U V Z) (some (.int (s_hours X))) := by
  refine g_Rd.ofI (by decide) rfl ?_
  intro p e s m args below meth c ls Q hX hM hl hret
  have hx := hX.1.1
  have hb := hX.1.2.1
  have hl : lv_has ls 3 [(0, .ref (ad 0))] := hl
  have hW9 := hW
  obtain ⟨⟨hL0, hL2, hL6⟩, ⟨hM0, hM6⟩, ⟨hG0, hG40⟩, hok⟩ := hW9
  have hw9 : s_W X ≤ 45 := by unfold s_W; omega
  refine lv_iconst (v := 0) hx hb dX2_allHours_0 rfl ?_
  refine lv_istore_n (lv' := [(1, .int 0), (0, .ref (ad 0))]) hx hb dX2_allHours_1 rfl hl (by decide) rfl (fun ls hl => ?_)
  refine lv_iconst (v := 0) hx hb dX2_allHours_2 rfl ?_
  refine lv_istore_n (lv' := [(2, .int 0), (1, .int 0), (0, .ref (ad 0))]) hx hb dX2_allHours_3 rfl hl (by decide) rfl (fun ls hl => ?_)
  have L4 : ∀ (nf : Nat) (j : Nat), (j ≤ s_M X) → (s_M X - j < nf) → ∀ ls : Array Slot, lv_has ls 3 [(1, .int (s_isum (fun m => if X (3 + m) 4 = -1 then 0 else X (3 + m) 4 - X (3 + m) 3 + 1) j)), (2, .int (nI j)), (0, .ref (ad 0))] → W p l e (g_rm 2 0 0) s m args below meth c s.heap [] 0 0 Q (F0 m 4 ls []) := by
    intro n4
    induction n4 with
    | zero => intro j hj hn; exact absurd hn (Nat.not_lt_zero _)
    | succ n4 ih4 =>
      intro j hj hn4 ls hl
      refine lv_iload_n hx hb dX2_allHours_4 rfl (lv_at hl 1 rfl) ?_
      refine lv_aload_n hx hb dX2_allHours_5 rfl (lv_at hl 2 rfl) ?_
      refine g_getM hX hM 1 (by decide) q2164 rfl (v := .ref (ad 1)) rfl dX2_allHours_6 ?_
      refine lv_iconst (v := 3) hx hb dX2_allHours_9 rfl ?_
      refine g_iald hX hM.a1 3 rfl (by omega) (by decide) (v := (X 0 3)) rfl dX2_allHours_10 ?_
      refine g_icmp_geN (tgt := 50) hx hb j (s_M X) rfl hM0 (by omega) (by omega) dX2_allHours_11 (by decide) (fun c_11 => ?_) (fun c_11 => ?_)
      · skip
        refine lv_iload_n hx hb dX2_allHours_50 rfl (lv_at hl 0 rfl) ?_
        exact hret _ _ _ dX2_allHours_51 (by rw [show j = s_M X by omega]; rfl)
      · skip
        refine lv_iload_n hx hb dX2_allHours_14 rfl (lv_at hl 0 rfl) ?_
        refine lv_aload_n hx hb dX2_allHours_15 rfl (lv_at hl 2 rfl) ?_
        refine lv_iload_n hx hb dX2_allHours_16 rfl (lv_at hl 1 rfl) ?_
        refine g_cRV hX hl y_X2_isUnderWay v_X2_isUnderWay q2382 (k_X2_isUnderWay j (by omega)) (hM.rc hX.2.2.2) hM rfl ⟨Nat.le_of_ble_eq_true rfl, Nat.le_of_ble_eq_true rfl⟩ ⟨Nat.zero_le _, Nat.zero_le _⟩ (rest := [.int (s_isum (fun m => if X (3 + m) 4 = -1 then 0 else X (3 + m) 4 - X (3 + m) 3 + 1) j)]) (st1 := [.int (g_b (decide (X (3 + j) 4 = -1))), .int (s_isum (fun m => if X (3 + m) 4 = -1 then 0 else X (3 + m) 4 - X (3 + m) 3 + 1) j)]) rfl rfl (Nat.le_of_ble_eq_true rfl) dX2_allHours_17 ?_
        refine g_if_eqB (tgt := 27) hx hb (b := decide (X (3 + j) 4 = -1)) rfl dX2_allHours_20 (by decide) (fun c_20 => ?_) (fun c_20 => ?_)
        · skip
          refine lv_aload_n hx hb dX2_allHours_27 rfl (lv_at hl 2 rfl) ?_
          refine lv_iload_n hx hb dX2_allHours_28 rfl (lv_at hl 1 rfl) ?_
          refine lv_iconst (v := 4) hx hb dX2_allHours_29 rfl ?_
          refine g_cRV hX hl y_X2_of v_X2_of q2365 (k_X2_of j 4 (by omega) (by omega)) (hM.rc hX.2.2.2) hM rfl ⟨Nat.le_of_ble_eq_true rfl, Nat.le_of_ble_eq_true rfl⟩ ⟨Nat.zero_le _, Nat.zero_le _⟩ (rest := [.int (s_isum (fun m => if X (3 + m) 4 = -1 then 0 else X (3 + m) 4 - X (3 + m) 3 + 1) j)]) (st1 := [.int (X (3 + j) 4), .int (s_isum (fun m => if X (3 + m) 4 = -1 then 0 else X (3 + m) 4 - X (3 + m) 3 + 1) j)]) rfl rfl (Nat.le_of_ble_eq_true rfl) dX2_allHours_30 ?_
          refine lv_aload_n hx hb dX2_allHours_33 rfl (lv_at hl 2 rfl) ?_
          refine lv_iload_n hx hb dX2_allHours_34 rfl (lv_at hl 1 rfl) ?_
          refine lv_iconst (v := 3) hx hb dX2_allHours_35 rfl ?_
          refine g_cRV hX hl y_X2_of v_X2_of q2365 (k_X2_of j 3 (by omega) (by omega)) (hM.rc hX.2.2.2) hM rfl ⟨Nat.le_of_ble_eq_true rfl, Nat.le_of_ble_eq_true rfl⟩ ⟨Nat.zero_le _, Nat.zero_le _⟩ (rest := [.int (X (3 + j) 4), .int (s_isum (fun m => if X (3 + m) 4 = -1 then 0 else X (3 + m) 4 - X (3 + m) 3 + 1) j)]) (st1 := [.int (X (3 + j) 3), .int (X (3 + j) 4), .int (s_isum (fun m => if X (3 + m) 4 = -1 then 0 else X (3 + m) 4 - X (3 + m) 3 + 1) j)]) rfl rfl (Nat.le_of_ble_eq_true rfl) dX2_allHours_36 ?_
          refine lv_isub hx hb dX2_allHours_39 ?_
          refine lv_iconst (v := 1) hx hb dX2_allHours_40 rfl ?_
          refine lv_iadd hx hb dX2_allHours_41 ?_
          refine lv_iadd hx hb dX2_allHours_42 ?_
          refine lv_istore_n (lv' := [(1, .int ((s_isum (fun m => if X (3 + m) 4 = -1 then 0 else X (3 + m) 4 - X (3 + m) 3 + 1) j) + (((X (3 + j) 4) - (X (3 + j) 3)) + 1))), (2, .int (nI j)), (0, .ref (ad 0))]) hx hb dX2_allHours_43 rfl hl (by decide) rfl (fun ls hl => ?_)
          refine lv_iinc (v := (nI (j + 1))) (lv' := [(2, .int (nI (j + 1))), (1, .int ((s_isum (fun m => if X (3 + m) 4 = -1 then 0 else X (3 + m) 4 - X (3 + m) 3 + 1) j) + (((X (3 + j) 4) - (X (3 + j) 3)) + 1))), (0, .ref (ad 0))]) hx hb dX2_allHours_44 hl (k := 1) rfl (nI_1 _) (by decide) rfl (fun ls hl => ?_)
          refine lv_goto (tgt := 4) hx hb dX2_allHours_47 (by decide) ?_
          have e_1 : ((s_isum (fun m => if X (3 + m) 4 = -1 then 0 else X (3 + m) 4 - X (3 + m) 3 + 1) j) + (((X (3 + j) 4) - (X (3 + j) 3)) + 1)) = (s_isum (fun m => if X (3 + m) 4 = -1 then 0 else X (3 + m) 4 - X (3 + m) 3 + 1) (j + 1)) := by grind [s_isum]
          rw [e_1] at hl
          exact ih4 (j + 1) (by omega) (by omega) ls (lv_sub hl [1, 0, 2] rfl)
        · skip
          refine lv_iconst (v := 0) hx hb dX2_allHours_23 rfl ?_
          refine lv_goto (tgt := 42) hx hb dX2_allHours_24 (by decide) ?_
          refine lv_iadd hx hb dX2_allHours_42 ?_
          refine lv_istore_n (lv' := [(1, .int ((s_isum (fun m => if X (3 + m) 4 = -1 then 0 else X (3 + m) 4 - X (3 + m) 3 + 1) j) + 0)), (2, .int (nI j)), (0, .ref (ad 0))]) hx hb dX2_allHours_43 rfl hl (by decide) rfl (fun ls hl => ?_)
          refine lv_iinc (v := (nI (j + 1))) (lv' := [(2, .int (nI (j + 1))), (1, .int ((s_isum (fun m => if X (3 + m) 4 = -1 then 0 else X (3 + m) 4 - X (3 + m) 3 + 1) j) + 0)), (0, .ref (ad 0))]) hx hb dX2_allHours_44 hl (k := 1) rfl (nI_1 _) (by decide) rfl (fun ls hl => ?_)
          refine lv_goto (tgt := 4) hx hb dX2_allHours_47 (by decide) ?_
          have e_1 : ((s_isum (fun m => if X (3 + m) 4 = -1 then 0 else X (3 + m) 4 - X (3 + m) 3 + 1) j) + 0) = (s_isum (fun m => if X (3 + m) 4 = -1 then 0 else X (3 + m) 4 - X (3 + m) 3 + 1) (j + 1)) := by grind [s_isum]
          rw [e_1] at hl
          exact ih4 (j + 1) (by omega) (by omega) ls (lv_sub hl [1, 0, 2] rfl)
  exact L4 (s_M X - 0 + 1) 0 (by omega) (Nat.lt_succ_self _) ls (lv_sub hl [1, 0, 2] rfl)

theorem y_X2_signOf : g_Y yX2_signOf cX2_signOf 1 (some .int) 1 := ⟨q2827, by decide +kernel⟩
theorem v_X2_signOf : g_YS yX2_signOf := ⟨q2826, q140⟩
set_option maxHeartbeats 4000000 in
theorem k_X2_signOf {G : g_G} {l : Launch} (v : Int32)  : g_Rd G l yX2_signOf cX2_signOf 1 (some .int) 0 [.int v] (fun _ => True) (some (.int (s_sign v))) := by
  refine g_Rd.ofI (by decide) rfl ?_
  intro p e s m args below meth c ls Q hX hM hl hret
  have hx := hX.1.1
  have hb := hX.1.2.1
  have hl : lv_has ls 1 [(0, .int v)] := hl
  refine lv_iload_n hx hb dX2_signOf_0 rfl (lv_at hl 0 rfl) ?_
  refine lv_if_ne (tgt := 9) hx hb dX2_signOf_1 (by decide) (fun c_1 => ?_) (fun c_1 => ?_)
  · skip
    refine lv_iload_n hx hb dX2_signOf_9 rfl (lv_at hl 0 rfl) ?_
    refine lv_iconst (v := 1) hx hb dX2_signOf_10 rfl ?_
    refine lv_icmp_ne (tgt := 19) hx hb dX2_signOf_11 (by decide) (fun c_11 => ?_) (fun c_11 => ?_)
    · skip
      refine lv_iload_n hx hb dX2_signOf_19 rfl (lv_at hl 0 rfl) ?_
      refine lv_iconst (v := 2) hx hb dX2_signOf_20 rfl ?_
      refine lv_icmp_ne (tgt := 29) hx hb dX2_signOf_21 (by decide) (fun c_21 => ?_) (fun c_21 => ?_)
      · skip
        refine lv_bipush (v := 114) hx hb dX2_signOf_29 (by decide) ?_
        exact hret _ _ _ dX2_signOf_31 (by simp [s_sign, *])
      · skip
        refine lv_bipush (v := 97) hx hb dX2_signOf_24 (by decide) ?_
        refine lv_goto (tgt := 31) hx hb dX2_signOf_26 (by decide) ?_
        exact hret _ _ _ dX2_signOf_31 (by simp [s_sign, *])
    · skip
      refine lv_bipush (v := 103) hx hb dX2_signOf_14 (by decide) ?_
      refine lv_goto (tgt := 31) hx hb dX2_signOf_16 (by decide) ?_
      exact hret _ _ _ dX2_signOf_31 (by simp [s_sign, *])
  · skip
    refine lv_bipush (v := 115) hx hb dX2_signOf_4 (by decide) ?_
    refine lv_goto (tgt := 31) hx hb dX2_signOf_6 (by decide) ?_
    exact hret _ _ _ dX2_signOf_31 (by simp [s_sign, *])

theorem y_X2_areDigits : g_Y yX2_areDigits cX2_areDigits 4 (some .boolean) 2 := ⟨q2838, by decide +kernel⟩
theorem v_X2_areDigits : g_YS yX2_areDigits := ⟨q2837, q140⟩
set_option maxHeartbeats 4000000 in
theorem k_X2_areDigits {G : g_G} {l : Launch} (v : Int32) (q : Nat) (hq : q ≤ 9) : g_Rd G l yX2_areDigits cX2_areDigits 4 (some .boolean) 0 [.int v, .int (nI q)] (fun _ => True) (some (.int (g_b (s_areD v q)))) := by
  refine g_Rd.ofI (by decide) (by cases (s_areD v q) <;> rfl) ?_
  intro p e s m args below meth c ls Q hX hM hl hret
  have hx := hX.1.1
  have hb := hX.1.2.1
  have hl : lv_has ls 4 [(0, .int v), (1, .int (nI q))] := hl
  refine lv_iload_n hx hb dX2_areDigits_0 rfl (lv_at hl 0 rfl) ?_
  refine lv_istore_n (lv' := [(2, .int v), (0, .int v), (1, .int (nI q))]) hx hb dX2_areDigits_1 rfl hl (by decide) rfl (fun ls hl => ?_)
  refine lv_iconst (v := 0) hx hb dX2_areDigits_2 rfl ?_
  refine lv_istore_n (lv' := [(3, .int 0), (2, .int v), (0, .int v), (1, .int (nI q))]) hx hb dX2_areDigits_3 rfl hl (by decide) rfl (fun ls hl => ?_)
  have L4 : ∀ (nf : Nat) (j : Nat), (j ≤ q) → (q - j < nf) → ∀ ls : Array Slot, lv_has ls 4 [(2, .int (s_tenth v j)), (3, .int (nI j)), (0, .int v), (1, .int (nI q))] → W p l e (g_rm 0 0 0) s m args below meth c s.heap [] 0 0 Q (F0 m 4 ls []) := by
    intro n4
    induction n4 with
    | zero => intro j hj hn; exact absurd hn (Nat.not_lt_zero _)
    | succ n4 ih4 =>
      intro j hj hn4 ls hl
      refine lv_iload_n hx hb dX2_areDigits_4 rfl (lv_at hl 1 rfl) ?_
      refine lv_iload_n hx hb dX2_areDigits_5 rfl (lv_at hl 3 rfl) ?_
      refine g_icmp_geN (tgt := 20) hx hb j q rfl rfl (by omega) (by omega) dX2_areDigits_6 (by decide) (fun c_6 => ?_) (fun c_6 => ?_)
      · skip
        refine lv_iload_n hx hb dX2_areDigits_20 rfl (lv_at hl 2 rfl) ?_
        refine lv_if_lt (tgt := 32) hx hb dX2_areDigits_21 (by decide) (fun c_21 => ?_) (fun c_21 => ?_)
        · skip
          refine lv_iconst (v := 0) hx hb dX2_areDigits_32 rfl ?_
          exact hret _ _ _ dX2_areDigits_33 (by obtain rfl : j = q := (by omega); grind [g_b, s_areD])
        · skip
          refine lv_iload_n hx hb dX2_areDigits_24 rfl (lv_at hl 0 rfl) ?_
          refine lv_if_ne (tgt := 32) hx hb dX2_areDigits_25 (by decide) (fun c_25 => ?_) (fun c_25 => ?_)
          · skip
            refine lv_iconst (v := 0) hx hb dX2_areDigits_32 rfl ?_
            exact hret _ _ _ dX2_areDigits_33 (by obtain rfl : j = q := (by omega); grind [g_b, s_areD])
          · skip
            refine lv_iconst (v := 1) hx hb dX2_areDigits_28 rfl ?_
            refine lv_goto (tgt := 33) hx hb dX2_areDigits_29 (by decide) ?_
            exact hret _ _ _ dX2_areDigits_33 (by obtain rfl : j = q := (by omega); grind [g_b, s_areD])
      · skip
        refine lv_iload_n hx hb dX2_areDigits_9 rfl (lv_at hl 0 rfl) ?_
        refine lv_bipush (v := 10) hx hb dX2_areDigits_10 (by decide) ?_
        refine lv_idiv hx hb dX2_areDigits_12 (by decide) ?_
        refine lv_istore_n (lv' := [(2, .int ((s_tenth v j) / 10)), (3, .int (nI j)), (0, .int v), (1, .int (nI q))]) hx hb dX2_areDigits_13 rfl hl (by decide) rfl (fun ls hl => ?_)
        refine lv_iinc (v := (nI (j + 1))) (lv' := [(3, .int (nI (j + 1))), (2, .int ((s_tenth v j) / 10)), (0, .int v), (1, .int (nI q))]) hx hb dX2_areDigits_14 hl (k := 1) rfl (nI_1 _) (by decide) rfl (fun ls hl => ?_)
        refine lv_goto (tgt := 4) hx hb dX2_areDigits_17 (by decide) ?_
        have e_2 : ((s_tenth v j) / 10) = (s_tenth v (j + 1)) := rfl
        rw [e_2] at hl
        exact ih4 (j + 1) (by omega) (by omega) ls (lv_sub hl [1, 0, 2, 3] rfl)
  exact L4 (q - 0 + 1) 0 (by omega) (Nat.lt_succ_self _) ls (lv_sub hl [1, 0, 2, 3] rfl)
