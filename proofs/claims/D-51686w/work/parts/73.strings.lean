/-! THE JDK: a text, read -/
set_option maxRecDepth 100000
theorem y_J4_coder : g_Y yJ4_coder cJ4_coder 1 (some .byte) 0 := ⟨q629, by decide +kernel⟩
theorem v_J4_coder : g_YV yJ4_coder := ⟨q627, q628, q138⟩
set_option maxHeartbeats 4000000 in
theorem k_J4_coder {G : g_G} {l : Launch} {A : Nat → Prop} (a : Nat) (v : Nat) (h : Int32) (z : Int32)  : g_Re G l yJ4_coder cJ4_coder 1 (some .byte) 0 [.ref a] A (fun H9 => g_at G H9 a (g_ob 13 [.ref v, .int 0, .int h, .int z])) (some (.int 0)) := by
  refine g_Re.ofI (by decide) rfl ?_
  intro p e s m args below meth c ls Q hX hE hP hl hret
  have c0 := hP
  have hx := hX.1.1
  have hb := hX.1.2.1
  have hl : lv_has ls 1 [(0, .ref a)] := hl
  refine g_gst hX hE va_S.id 0 rfl q630 (fun _ h9 => h9) dJ4_coder_0 ?_
  refine g_if_eqN (tgt := 13) hx hb 1 rfl (by omega) dJ4_coder_3 (by decide) (fun c_3 => ?_) (fun c_3 => ?_)
  · exact absurd c_3 (by decide)
  skip
  refine lv_aload_n hx hb dJ4_coder_6 rfl (lv_at hl 0 rfl) ?_
  refine g_get in_J4 (ci := 13) rfl hX c0 1 (by decide) q667 (fun _ h9 => h9) (v := .int 0) rfl dJ4_coder_7 ?_
  refine lv_goto (tgt := 14) hx hb dJ4_coder_10 (by decide) ?_
  exact hret _ _ _ dJ4_coder_14 (rfl)

theorem y_J4_length : g_Y yJ4_length cJ4_length 1 (some .int) 0 := ⟨q625, by decide +kernel⟩
theorem v_J4_length : g_YV yJ4_length := ⟨q623, q624, q138⟩
set_option maxHeartbeats 4000000 in
theorem k_J4_length {G : g_G} {l : Launch} {A : Nat → Prop} (a : Nat) (v : Nat) (n : Nat) (f : Nat → Int32) (h : Int32) (z : Int32) (hn : n < 2 ^ 31) : g_Re G l yJ4_length cJ4_length 1 (some .int) 1 [.ref a] A (fun H9 => g_at G H9 a (g_ob 13 [.ref v, .int 0, .int h, .int z]) ∧ g_at G H9 v (g_ai G 1 n f)) (some (.int (nI n))) := by
  refine g_Re.ofI (by decide) rfl ?_
  intro p e s m args below meth c ls Q hX hE hP hl hret
  obtain ⟨c0, c1⟩ := hP
  have hx := hX.1.1
  have hb := hX.1.2.1
  have hl : lv_has ls 1 [(0, .ref a)] := hl
  refine lv_aload_n hx hb dJ4_length_0 rfl (lv_at hl 0 rfl) ?_
  refine g_get in_J4 (ci := 13) rfl hX c0 0 (by decide) q666 (fun _ h9 => h9) (v := .ref v) rfl dJ4_length_1 ?_
  refine g_alen hX (t := 1) rfl c1 (v := nI n) rfl dJ4_length_4 ?_
  refine lv_aload_n hx hb dJ4_length_5 rfl (lv_at hl 0 rfl) ?_
  refine g_eRV hX hE va_S.id hl y_J4_coder v_J4_coder q626 (k_J4_coder a v h z) (c0.rc hX.2.2.2 rfl) c0 rfl ⟨Nat.le_of_ble_eq_true rfl, Nat.le_of_ble_eq_true rfl⟩ ⟨by omega, by omega⟩ (rest := [.int (nI n)]) (st1 := [.int 0, .int (nI n)]) rfl rfl (Nat.le_of_ble_eq_true rfl) dJ4_length_6 ?_
  refine lv_ishr hx hb dJ4_length_9 ?_
  exact hret _ _ _ dJ4_length_10 (e_sh0 n)

theorem y_J4_isLatin1 : g_Y yJ4_isLatin1 cJ4_isLatin1 1 (some .boolean) 0 := ⟨q904, by decide +kernel⟩
theorem v_J4_isLatin1 : g_YV yJ4_isLatin1 := ⟨q902, q903, q138⟩
set_option maxHeartbeats 4000000 in
theorem k_J4_isLatin1 {G : g_G} {l : Launch} {A : Nat → Prop} (a : Nat) (v : Nat) (h : Int32) (z : Int32)  : g_Re G l yJ4_isLatin1 cJ4_isLatin1 1 (some .boolean) 0 [.ref a] A (fun H9 => g_at G H9 a (g_ob 13 [.ref v, .int 0, .int h, .int z])) (some (.int (g_b true))) := by
  refine g_Re.ofI (by decide) rfl ?_
  intro p e s m args below meth c ls Q hX hE hP hl hret
  have c0 := hP
  have hx := hX.1.1
  have hb := hX.1.2.1
  have hl : lv_has ls 1 [(0, .ref a)] := hl
  refine g_gst hX hE va_S.id 0 rfl q630 (fun _ h9 => h9) dJ4_isLatin1_0 ?_
  refine g_if_eqN (tgt := 17) hx hb 1 rfl (by omega) dJ4_isLatin1_3 (by decide) (fun c_3 => ?_) (fun c_3 => ?_)
  · exact absurd c_3 (by decide)
  skip
  refine lv_aload_n hx hb dJ4_isLatin1_6 rfl (lv_at hl 0 rfl) ?_
  refine g_get in_J4 (ci := 13) rfl hX c0 1 (by decide) q667 (fun _ h9 => h9) (v := .int 0) rfl dJ4_isLatin1_7 ?_
  refine g_if_neN (tgt := 17) hx hb 0 rfl (by omega) dJ4_isLatin1_10 (by decide) (fun c_10 => ?_) (fun c_10 => ?_)
  · exact absurd c_10 (by decide)
  skip
  refine lv_iconst (v := 1) hx hb dJ4_isLatin1_13 rfl ?_
  refine lv_goto (tgt := 18) hx hb dJ4_isLatin1_14 (by decide) ?_
  exact hret _ _ _ dJ4_isLatin1_18 (rfl)

theorem y_J15_checkIndex : g_Y yJ15_checkIndex cJ15_checkIndex 3 (some .int) 3 := ⟨q526, by decide +kernel⟩
theorem v_J15_checkIndex : g_YS yJ15_checkIndex := ⟨q525, q154⟩
set_option maxHeartbeats 4000000 in
theorem k_J15_checkIndex_n {G : g_G} {l : Launch} {A : Nat → Prop} (i : Nat) (n : Nat) (hi : i < n) (hn : n < 2 ^ 31) : g_Re G l yJ15_checkIndex cJ15_checkIndex 3 (some .int) 0 [.int (nI i), .int (nI n), .null] A (fun H9 => True) (some (.int (nI i))) := by
  refine g_Re.ofI (by decide) rfl ?_
  intro p e s m args below meth c ls Q hX hE hP hl hret
  have hx := hX.1.1
  have hb := hX.1.2.1
  have hl : lv_has ls 3 [(0, .int (nI i)), (1, .int (nI n)), (2, .null)] := hl
  refine lv_iload_n hx hb dJ15_checkIndex_0 rfl (lv_at hl 0 rfl) ?_
  refine g_if_ltN (tgt := 9) hx hb i rfl (by omega) dJ15_checkIndex_1 (by decide) (fun c_1 => ?_) (fun c_1 => ?_)
  · exact absurd c_1 (by omega)
  skip
  refine lv_iload_n hx hb dJ15_checkIndex_4 rfl (lv_at hl 0 rfl) ?_
  refine lv_iload_n hx hb dJ15_checkIndex_5 rfl (lv_at hl 1 rfl) ?_
  refine g_icmp_ltN (tgt := 16) hx hb i n rfl rfl (by omega) (by omega) dJ15_checkIndex_6 (by decide) (fun c_6 => ?_) (fun c_6 => ?_)
  rotate_left
  · exact absurd c_6 (by omega)
  refine lv_iload_n hx hb dJ15_checkIndex_16 rfl (lv_at hl 0 rfl) ?_
  exact hret _ _ _ dJ15_checkIndex_17 (rfl)

set_option maxHeartbeats 4000000 in
theorem k_J15_checkIndex_r {G : g_G} {l : Launch} {A : Nat → Prop} (i : Nat) (n : Nat) (t : Nat) (hi : i < n) (hn : n < 2 ^ 31) : g_Re G l yJ15_checkIndex cJ15_checkIndex 3 (some .int) 0 [.int (nI i), .int (nI n), .ref t] A (fun H9 => True) (some (.int (nI i))) := by
  refine g_Re.ofI (by decide) rfl ?_
  intro p e s m args below meth c ls Q hX hE hP hl hret
  have hx := hX.1.1
  have hb := hX.1.2.1
  have hl : lv_has ls 3 [(0, .int (nI i)), (1, .int (nI n)), (2, .ref t)] := hl
  refine lv_iload_n hx hb dJ15_checkIndex_0 rfl (lv_at hl 0 rfl) ?_
  refine g_if_ltN (tgt := 9) hx hb i rfl (by omega) dJ15_checkIndex_1 (by decide) (fun c_1 => ?_) (fun c_1 => ?_)
  · exact absurd c_1 (by omega)
  skip
  refine lv_iload_n hx hb dJ15_checkIndex_4 rfl (lv_at hl 0 rfl) ?_
  refine lv_iload_n hx hb dJ15_checkIndex_5 rfl (lv_at hl 1 rfl) ?_
  refine g_icmp_ltN (tgt := 16) hx hb i n rfl rfl (by omega) (by omega) dJ15_checkIndex_6 (by decide) (fun c_6 => ?_) (fun c_6 => ?_)
  rotate_left
  · exact absurd c_6 (by omega)
  refine lv_iload_n hx hb dJ15_checkIndex_16 rfl (lv_at hl 0 rfl) ?_
  exact hret _ _ _ dJ15_checkIndex_17 (rfl)

theorem y_J4_checkIndex : g_Y yJ4_checkIndex cJ4_checkIndex 2 none 2 := ⟨q523, by decide +kernel⟩
theorem v_J4_checkIndex : g_YS yJ4_checkIndex := ⟨q522, q138⟩
set_option maxHeartbeats 4000000 in
theorem k_J4_checkIndex {G : g_G} {l : Launch} {A : Nat → Prop} (i : Nat) (n : Nat) (hi : i < n) (hn : n < 2 ^ 31) : g_Re G l yJ4_checkIndex cJ4_checkIndex 2 none 1 [.int (nI i), .int (nI n)] A (fun H9 => True) none := by
  refine g_Re.ofV (by decide) ?_
  intro p e s m args below meth c ls Q hX hE hP hl hret
  have hx := hX.1.1
  have hb := hX.1.2.1
  have hl : lv_has ls 2 [(0, .int (nI i)), (1, .int (nI n))] := hl
  refine lv_iload_n hx hb dJ4_checkIndex_0 rfl (lv_at hl 0 rfl) ?_
  refine lv_iload_n hx hb dJ4_checkIndex_1 rfl (lv_at hl 1 rfl) ?_
  rcases hE.1.2 with hz | ⟨t, hz⟩
  · skip
    refine va_gets hX.1.1 hX.1.2.1 hz va_S.id hX.1.2.2.2.1 (hX.1.2.2.2.2 _ q501) (fun _ h9 => h9) dJ4_checkIndex_2 ?_
    refine g_eRS hX hE va_S.id hl y_J15_checkIndex v_J15_checkIndex q524 (k_J15_checkIndex_n i n (by omega) (by omega)) trivial rfl ⟨Nat.le_of_ble_eq_true rfl, Nat.le_of_ble_eq_true rfl⟩ ⟨by omega, by omega⟩ (rest := []) (st1 := [.int (nI i)]) rfl rfl (Nat.le_of_ble_eq_true rfl) dJ4_checkIndex_5 ?_
    refine lv_pop hx hb dJ4_checkIndex_8 rfl ?_
    exact hret _ _ dJ4_checkIndex_9
  · skip
    refine va_gets hX.1.1 hX.1.2.1 hz va_S.id hX.1.2.2.2.1 (hX.1.2.2.2.2 _ q501) (fun _ h9 => h9) dJ4_checkIndex_2 ?_
    refine g_eRS hX hE va_S.id hl y_J15_checkIndex v_J15_checkIndex q524 (k_J15_checkIndex_r i n t (by omega) (by omega)) trivial rfl ⟨Nat.le_of_ble_eq_true rfl, Nat.le_of_ble_eq_true rfl⟩ ⟨by omega, by omega⟩ (rest := []) (st1 := [.int (nI i)]) rfl rfl (Nat.le_of_ble_eq_true rfl) dJ4_checkIndex_5 ?_
    refine lv_pop hx hb dJ4_checkIndex_8 rfl ?_
    exact hret _ _ dJ4_checkIndex_9

theorem y_J14_charAt : g_Y yJ14_charAt cJ14_charAt 2 (some .char) 2 := ⟨q1964, by decide +kernel⟩
theorem v_J14_charAt : g_YS yJ14_charAt := ⟨q1963, q153⟩
set_option maxHeartbeats 4000000 in
theorem k_J14_charAt {G : g_G} {l : Launch} {A : Nat → Prop} (v : Nat) (n : Nat) (f : Nat → Int32) (i : Nat) (hi : i < n) (hn : n < 2 ^ 31) : g_Re G l yJ14_charAt cJ14_charAt 2 (some .char) 2 [.ref v, .int (nI i)] A (fun H9 => g_at G H9 v (g_ai G 1 n f)) (some (.int (f i &&& 255))) := by
  refine g_Re.ofI (by decide) (sc_nar _) ?_
  intro p e s m args below meth c ls Q hX hE hP hl hret
  have c1 := hP
  have hx := hX.1.1
  have hb := hX.1.2.1
  have hl : lv_has ls 2 [(0, .ref v), (1, .int (nI i))] := hl
  refine lv_iload_n hx hb dJ14_charAt_0 rfl (lv_at hl 1 rfl) ?_
  refine lv_aload_n hx hb dJ14_charAt_1 rfl (lv_at hl 0 rfl) ?_
  refine g_alen hX (t := 1) rfl c1 (v := nI n) rfl dJ14_charAt_2 ?_
  refine g_eRS hX hE va_S.id hl y_J4_checkIndex v_J4_checkIndex q1965 (k_J4_checkIndex i n (by omega) (by omega)) trivial rfl ⟨Nat.le_of_ble_eq_true rfl, Nat.le_of_ble_eq_true rfl⟩ ⟨by omega, by omega⟩ (rest := []) (st1 := []) rfl rfl (Nat.le_of_ble_eq_true rfl) dJ14_charAt_3 ?_
  refine lv_aload_n hx hb dJ14_charAt_6 rfl (lv_at hl 0 rfl) ?_
  refine lv_iload_n hx hb dJ14_charAt_7 rfl (lv_at hl 1 rfl) ?_
  refine g_bald hX c1 i rfl (by omega) (by omega) (v := (f i)) rfl dJ14_charAt_8 ?_
  refine lv_sipush (v := 255) hx hb dJ14_charAt_9 (by decide) ?_
  refine lv_iand hx hb dJ14_charAt_12 ?_
  refine lv_i2c (v := ((f i) &&& 255)) hx hb dJ14_charAt_13 (sc_c2 _) ?_
  exact hret _ _ _ dJ14_charAt_14 (rfl)

theorem y_J4_charAt : g_Y yJ4_charAt cJ4_charAt 2 (some .char) 1 := ⟨q1961, by decide +kernel⟩
theorem v_J4_charAt : g_YV yJ4_charAt := ⟨q1959, q1960, q138⟩
set_option maxHeartbeats 4000000 in
theorem k_J4_charAt {G : g_G} {l : Launch} {A : Nat → Prop} (a : Nat) (v : Nat) (n : Nat) (f : Nat → Int32) (h : Int32) (z : Int32) (i : Nat) (hi : i < n) (hn : n < 2 ^ 31) : g_Re G l yJ4_charAt cJ4_charAt 2 (some .char) 3 [.ref a, .int (nI i)] A (fun H9 => g_at G H9 a (g_ob 13 [.ref v, .int 0, .int h, .int z]) ∧ g_at G H9 v (g_ai G 1 n f)) (some (.int (f i &&& 255))) := by
  refine g_Re.ofI (by decide) (sc_nar _) ?_
  intro p e s m args below meth c ls Q hX hE hP hl hret
  obtain ⟨c0, c1⟩ := hP
  have hx := hX.1.1
  have hb := hX.1.2.1
  have hl : lv_has ls 2 [(0, .ref a), (1, .int (nI i))] := hl
  refine lv_aload_n hx hb dJ4_charAt_0 rfl (lv_at hl 0 rfl) ?_
  refine g_eRV hX hE va_S.id hl y_J4_isLatin1 v_J4_isLatin1 q901 (k_J4_isLatin1 a v h z) (c0.rc hX.2.2.2 rfl) c0 rfl ⟨Nat.le_of_ble_eq_true rfl, Nat.le_of_ble_eq_true rfl⟩ ⟨by omega, by omega⟩ (rest := []) (st1 := [.int (g_b true)]) rfl rfl (Nat.le_of_ble_eq_true rfl) dJ4_charAt_1 ?_
  refine g_if_eqB (tgt := 16) hx hb (b := true) rfl dJ4_charAt_4 (by decide) (fun c_4 => ?_) (fun c_4 => ?_)
  · exact Bool.noConfusion ((rfl : true = true).symm.trans c_4)
  skip
  refine lv_aload_n hx hb dJ4_charAt_7 rfl (lv_at hl 0 rfl) ?_
  refine g_get in_J4 (ci := 13) rfl hX c0 0 (by decide) q666 (fun _ h9 => h9) (v := .ref v) rfl dJ4_charAt_8 ?_
  refine lv_iload_n hx hb dJ4_charAt_11 rfl (lv_at hl 1 rfl) ?_
  refine g_eRS hX hE va_S.id hl y_J14_charAt v_J14_charAt q1962 (k_J14_charAt v n f i (by omega) (by omega)) c1 rfl ⟨Nat.le_of_ble_eq_true rfl, Nat.le_of_ble_eq_true rfl⟩ ⟨by omega, by omega⟩ (rest := []) (st1 := [.int (f i &&& 255)]) rfl rfl (Nat.le_of_ble_eq_true rfl) dJ4_charAt_12 ?_
  exact hret _ _ _ dJ4_charAt_15 (rfl)
