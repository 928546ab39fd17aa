/-! THE MODEL: the text -/
set_option maxRecDepth 100000
theorem y_X2_isWord : g_Y yX2_isWord cX2_isWord 3 (some .boolean) 1 := ⟨q2292, by decide +kernel⟩
theorem v_X2_isWord : g_YV yX2_isWord := ⟨q2291, qs46, q140⟩
set_option maxHeartbeats 4000000 in
theorem k_X2_isWord {G : g_G} {l : Launch} {A : Nat → Prop} {ad : Nat → Nat} {F : Nat → Int32} {X Y : g_Wd} {U V : Nat → g_Wd} {Z : g_Wd} (P : g_P) (n : Nat) (wa : Nat) (wv : Nat) (wn : Nat) (wf : Nat → Int32) (wh : Int32) (wz : Int32) (hn : F 12 = nI n) (hn4 : n ≤ 400) (hp : p_ok n P) (hwn : wn < 2 ^ 31) : g_Re G l yX2_isWord cX2_isWord 3 (some .boolean) 4 [.ref (ad 0), .ref wa] A (fun H9 => g_Mod G ad (p_F F P) X Y U V Z H9 ∧ g_at G H9 wa (g_ob 13 [.ref wv, .int 0, .int wh, .int wz]) ∧ g_at G H9 wv (g_ai G 1 wn wf)) (some (.int (g_b (q_isW (Z 8) P wn wf)))) := by
  refine g_Re.ofI (by decide) (by cases (q_isW (Z 8) P wn wf) <;> rfl) ?_
  intro p e s m args below meth c ls Q hX hE hP hl hret
  obtain ⟨hM, c0, c1⟩ := hP
  have hx := hX.1.1
  have hb := hX.1.2.1
  have hl : lv_has ls 3 [(0, .ref (ad 0)), (1, .ref wa)] := hl
  have hpc : P.1 ≤ 3 := hp.1
  have hpu : P.2.2.1 ≤ n := hp.2.1
  have hps : P.2.2.2.1 ≤ P.2.2.1 := hp.2.2.1
  have hpt : P.2.2.2.2 ≤ 4 := hp.2.2.2.1
  refine lv_aload_n hx hb dX2_isWord_0 rfl (lv_at hl 0 rfl) ?_
  refine lv_iconst (v := 2) hx hb dX2_isWord_1 rfl ?_
  refine g_cRV hX hl y_X2_is v_X2_is q2293 (k_X2_is 2 P n hn hn4 (by first | exact hp | assumption) (by omega)) (hM.rc hX.2.2.2) hM rfl ⟨Nat.le_of_ble_eq_true rfl, Nat.le_of_ble_eq_true rfl⟩ ⟨Nat.zero_le _, Nat.zero_le _⟩ (rest := []) (st1 := [.int (g_b (q_is P 2))]) rfl rfl (Nat.le_of_ble_eq_true rfl) dX2_isWord_2 ?_
  refine g_if_eqB (tgt := 24) hx hb (b := q_is P 2) rfl dX2_isWord_5 (by decide) (fun c_5 => ?_) (fun c_5 => ?_)
  · skip
    refine lv_iconst (v := 0) hx hb dX2_isWord_24 rfl ?_
    exact hret _ _ _ dX2_isWord_25 (by have e9 : q_isW (Z 8) P wn wf = false := (by unfold q_isW; simp [c_5]); rw [e9]; first | done | rfl)
  · skip
    refine lv_aload_n hx hb dX2_isWord_8 rfl (lv_at hl 0 rfl) ?_
    refine g_getM hX hM 13 (by decide) q2176 rfl (v := .int (nI P.2.2.1)) rfl dX2_isWord_9 ?_
    refine lv_aload_n hx hb dX2_isWord_12 rfl (lv_at hl 0 rfl) ?_
    refine g_getM hX hM 14 (by decide) q2177 rfl (v := .int (nI P.2.2.2.1)) rfl dX2_isWord_13 ?_
    refine g_isubN hx hb P.2.2.1 P.2.2.2.1 rfl rfl (by omega) dX2_isWord_16 ?_
    refine lv_aload_n hx hb dX2_isWord_17 rfl (lv_at hl 1 rfl) ?_
    refine g_eRV hX hE va_S.id hl y_J4_length v_J4_length q2297 (k_J4_length wa wv wn wf wh wz (by omega)) (c0.rc hX.2.2.2 rfl) ⟨c0, c1⟩ rfl ⟨Nat.le_of_ble_eq_true rfl, Nat.le_of_ble_eq_true rfl⟩ ⟨by omega, by omega⟩ (rest := [.int (nI (P.2.2.1 - P.2.2.2.1))]) (st1 := [.int (nI wn), .int (nI (P.2.2.1 - P.2.2.2.1))]) rfl rfl (Nat.le_of_ble_eq_true rfl) dX2_isWord_18 ?_
    refine g_icmp_eqN (tgt := 26) hx hb (P.2.2.1 - P.2.2.2.1) wn rfl rfl (by omega) (by omega) dX2_isWord_21 (by decide) (fun c_21 => ?_) (fun c_21 => ?_)
    · skip
      refine lv_iconst (v := 0) hx hb dX2_isWord_26 rfl ?_
      refine lv_istore_n (lv' := [(2, .int 0), (0, .ref (ad 0)), (1, .ref wa)]) hx hb dX2_isWord_27 rfl hl (by decide) rfl (fun ls hl => ?_)
      have L28 : ∀ (nf : Nat) (k : Nat), (k ≤ wn) → (s_any (fun k => !decide (Z 8 (P.2.2.2.1 + k) = wf k &&& 255)) k = false) → (wn - k < nf) → ∀ ls : Array Slot, lv_has ls 3 [(2, .int (nI k)), (0, .ref (ad 0)), (1, .ref wa)] → W p l e (g_rm 4 0 0) s m args below meth c s.heap [] 0 0 Q (F0 m 28 ls []) := by
        intro n28
        induction n28 with
        | zero => intro k hk ha hn; exact absurd hn (Nat.not_lt_zero _)
        | succ n28 ih28 =>
          intro k hk ha hn28 ls hl
          refine lv_iload_n hx hb dX2_isWord_28 rfl (lv_at hl 0 rfl) ?_
          refine lv_aload_n hx hb dX2_isWord_29 rfl (lv_at hl 2 rfl) ?_
          refine g_eRV hX hE va_S.id hl y_J4_length v_J4_length q2297 (k_J4_length wa wv wn wf wh wz (by omega)) (c0.rc hX.2.2.2 rfl) ⟨c0, c1⟩ rfl ⟨Nat.le_of_ble_eq_true rfl, Nat.le_of_ble_eq_true rfl⟩ ⟨by omega, by omega⟩ (rest := [.int (nI k)]) (st1 := [.int (nI wn), .int (nI k)]) rfl rfl (Nat.le_of_ble_eq_true rfl) dX2_isWord_30 ?_
          refine g_icmp_geN (tgt := 63) hx hb k wn rfl rfl (by omega) (by omega) dX2_isWord_33 (by decide) (fun c_33 => ?_) (fun c_33 => ?_)
          · skip
            refine lv_iconst (v := 1) hx hb dX2_isWord_63 rfl ?_
            exact hret _ _ _ dX2_isWord_64 (by have e9 : q_isW (Z 8) P wn wf = true := (by unfold q_isW; rw [show wn = k by omega, ha]; simp [c_5, show P.2.2.1 - P.2.2.2.1 = k by omega]); rw [e9]; first | done | rfl)
          · skip
            refine lv_aload_n hx hb dX2_isWord_36 rfl (lv_at hl 1 rfl) ?_
            refine g_getM hX hM 8 (by decide) q2171 rfl (v := .ref (ad 8)) rfl dX2_isWord_37 ?_
            refine lv_aload_n hx hb dX2_isWord_40 rfl (lv_at hl 1 rfl) ?_
            refine g_getM hX hM 14 (by decide) q2177 rfl (v := .int (nI P.2.2.2.1)) rfl dX2_isWord_41 ?_
            refine lv_iload_n hx hb dX2_isWord_44 rfl (lv_at hl 0 rfl) ?_
            refine g_iaddN hx hb P.2.2.2.1 k rfl rfl dX2_isWord_45 ?_
            refine g_bald hX hM.a8 (P.2.2.2.1 + k) rfl (by omega) (by decide) (v := (Z 8 (P.2.2.2.1 + k))) rfl dX2_isWord_46 ?_
            refine lv_aload_n hx hb dX2_isWord_47 rfl (lv_at hl 2 rfl) ?_
            refine lv_iload_n hx hb dX2_isWord_48 rfl (lv_at hl 0 rfl) ?_
            refine g_eRV hX hE va_S.id hl y_J4_charAt v_J4_charAt q2298 (k_J4_charAt wa wv wn wf wh wz k (by omega) (by omega)) (c0.rc hX.2.2.2 rfl) ⟨c0, c1⟩ rfl ⟨Nat.le_of_ble_eq_true rfl, Nat.le_of_ble_eq_true rfl⟩ ⟨by omega, by omega⟩ (rest := [.int (Z 8 (P.2.2.2.1 + k))]) (st1 := [.int (wf k &&& 255), .int (Z 8 (P.2.2.2.1 + k))]) rfl rfl (Nat.le_of_ble_eq_true rfl) dX2_isWord_49 ?_
            refine lv_icmp_eq (tgt := 57) hx hb dX2_isWord_52 (by decide) (fun c_52 => ?_) (fun c_52 => ?_)
            · skip
              refine lv_iinc (v := (nI (k + 1))) (lv' := [(2, .int (nI (k + 1))), (0, .ref (ad 0)), (1, .ref wa)]) hx hb dX2_isWord_57 hl (k := 0) rfl (nI_1 _) (by decide) rfl (fun ls hl => ?_)
              refine lv_goto (tgt := 28) hx hb dX2_isWord_60 (by decide) ?_
              exact ih28 (k + 1) (by omega) (by show (s_any (fun k => !decide (Z 8 (P.2.2.2.1 + k) = wf k &&& 255)) k || _) = false; rw [ha]; simp only [Bool.false_or, decide_eq_true c_52]; rfl) (by omega) ls (lv_sub hl [0, 1, 2] rfl)
            · skip
              refine lv_iconst (v := 0) hx hb dX2_isWord_55 rfl ?_
              exact hret _ _ _ dX2_isWord_56 (by have e9 : q_isW (Z 8) P wn wf = false := (by unfold q_isW; rw [s_any_t (f := (fun k => !decide (Z 8 (P.2.2.2.1 + k) = wf k &&& 255))) (j := k) (by simp only [decide_eq_false c_52]; rfl) c_33]; simp); rw [e9]; first | done | rfl)
      exact L28 (wn - 0 + 1) 0 (by omega) (rfl) (Nat.lt_succ_self _) ls (lv_sub hl [0, 1, 2] rfl)
    · skip
      refine lv_iconst (v := 0) hx hb dX2_isWord_24 rfl ?_
      exact hret _ _ _ dX2_isWord_25 (by have e9 : q_isW (Z 8) P wn wf = false := (by unfold q_isW; simp [c_5, c_21]); rw [e9]; first | done | rfl)

theorem y_X2_readsOther : g_Y yX2_readsOther cX2_readsOther 1 none 0 := ⟨q2455, by decide +kernel⟩
theorem v_X2_readsOther : g_YV yX2_readsOther := ⟨q2454, qs83, q140⟩
set_option maxHeartbeats 4000000 in
theorem k_X2_readsOther {G : g_G} {l : Launch} {ad : Nat → Nat} {F : Nat → Int32} {X Y : g_Wd} {U V : Nat → g_Wd} {Z : g_Wd}  (P : g_P) (n : Nat) (hn : F 12 = nI n) (hn4 : n ≤ 400) (hp : p_ok n P) (hwl : s_wl X) : g_Me G l yX2_readsOther cX2_readsOther 1 none 5 0 0 [.ref (ad 0)] (g_Mod G ad (p_F F P) X Y U V Z) (g_Qv none (g_Mod G ad (p_F F (r_otP (Z 8) n X P)) (r_otX (Z 8) n X P) Y U V Z)) (md_A ad) := by
  refine g_Me.ofV (by decide) ?_
  intro p e s m args below meth c ls Q hX hE hM hl hS hret
  have hx := hX.1.1
  have hb := hX.1.2.1
  have hl : lv_has ls 1 [(0, .ref (ad 0))] := hl
  have key : ∀ (H : Heap) (locs : List Loc), g_Mod G ad (p_F F P) X Y U V Z H → va_S (md_A ad) s.heap H locs → W p l e (g_rm 5 0 0) s m args below meth c H locs 0 0 Q (F0 m 0 ls []) := by
    intro H locs hM hS
    have hpc : P.1 ≤ 3 := hp.1
    have hpu : P.2.2.1 ≤ n := hp.2.1
    have hps : P.2.2.2.1 ≤ P.2.2.1 := hp.2.2.1
    have hpt : P.2.2.2.2 ≤ 4 := hp.2.2.2.1
    have hW := hwl.1
    refine lv_aload_n hx hb dX2_readsOther_0 rfl (lv_at hl 0 rfl) ?_
    refine g_ldS hX hE 0 rfl dX2_readsOther_1 ?_
    have cz0 := ((hE.kept hS.2.1).2.1 4 _ rfl).1
    have cz1 := ((hE.kept hS.2.1).2.1 16 _ rfl).1
    refine g_eRV hX hE hS hl y_X2_isWord v_X2_isWord q2289 (k_X2_isWord P n (G.2 204) (G.2 304) 4 (e_tx 4) 3347790 0 hn hn4 hp (by omega)) (hM.rc hX.2.2.2) ⟨hM, cz0, cz1⟩ rfl ⟨Nat.le_of_ble_eq_true rfl, Nat.le_of_ble_eq_true rfl⟩ ⟨Nat.le_refl _, Nat.le_refl _⟩ (rest := []) (st1 := [.int (g_b (q_w (Z 8) P 4 4))]) rfl rfl (Nat.le_of_ble_eq_true rfl) dX2_readsOther_3 ?_
    clear cz0 cz1
    refine g_if_eqB (tgt := 17) hx hb (b := q_w (Z 8) P 4 4) rfl dX2_readsOther_6 (by decide) (fun c_6 => ?_) (fun c_6 => ?_)
    · skip
      refine lv_aload_n hx hb dX2_readsOther_17 rfl (lv_at hl 0 rfl) ?_
      refine g_ldS hX hE 1 rfl dX2_readsOther_18 ?_
      have cz0 := ((hE.kept hS.2.1).2.1 5 _ rfl).1
      have cz1 := ((hE.kept hS.2.1).2.1 17 _ rfl).1
      refine g_eRV hX hE hS hl y_X2_isWord v_X2_isWord q2289 (k_X2_isWord P n (G.2 205) (G.2 305) 4 (e_tx 5) 3522662 0 hn hn4 hp (by omega)) (hM.rc hX.2.2.2) ⟨hM, cz0, cz1⟩ rfl ⟨Nat.le_of_ble_eq_true rfl, Nat.le_of_ble_eq_true rfl⟩ ⟨Nat.le_refl _, Nat.le_refl _⟩ (rest := []) (st1 := [.int (g_b (q_w (Z 8) P 5 4))]) rfl rfl (Nat.le_of_ble_eq_true rfl) dX2_readsOther_20 ?_
      clear cz0 cz1
      refine g_if_eqB (tgt := 33) hx hb (b := q_w (Z 8) P 5 4) rfl dX2_readsOther_23 (by decide) (fun c_23 => ?_) (fun c_23 => ?_)
      · skip
        refine lv_aload_n hx hb dX2_readsOther_33 rfl (lv_at hl 0 rfl) ?_
        refine g_ldS hX hE 2 rfl dX2_readsOther_34 ?_
        have cz0 := ((hE.kept hS.2.1).2.1 7 _ rfl).1
        have cz1 := ((hE.kept hS.2.1).2.1 19 _ rfl).1
        refine g_eRV hX hE hS hl y_X2_isWord v_X2_isWord q2289 (k_X2_isWord P n (G.2 207) (G.2 307) 4 (e_tx 7) 3003674 0 hn hn4 hp (by omega)) (hM.rc hX.2.2.2) ⟨hM, cz0, cz1⟩ rfl ⟨Nat.le_of_ble_eq_true rfl, Nat.le_of_ble_eq_true rfl⟩ ⟨Nat.le_refl _, Nat.le_refl _⟩ (rest := []) (st1 := [.int (g_b (q_w (Z 8) P 7 4))]) rfl rfl (Nat.le_of_ble_eq_true rfl) dX2_readsOther_36 ?_
        clear cz0 cz1
        refine g_if_eqB (tgt := 49) hx hb (b := q_w (Z 8) P 7 4) rfl dX2_readsOther_39 (by decide) (fun c_39 => ?_) (fun c_39 => ?_)
        · skip
          refine lv_aload_n hx hb dX2_readsOther_49 rfl (lv_at hl 0 rfl) ?_
          refine g_ldS hX hE 3 rfl dX2_readsOther_50 ?_
          have cz0 := ((hE.kept hS.2.1).2.1 8 _ rfl).1
          have cz1 := ((hE.kept hS.2.1).2.1 20 _ rfl).1
          refine g_eRV hX hE hS hl y_X2_isWord v_X2_isWord q2289 (k_X2_isWord P n (G.2 208) (G.2 308) 4 (e_tx 8) 3045983 0 hn hn4 hp (by omega)) (hM.rc hX.2.2.2) ⟨hM, cz0, cz1⟩ rfl ⟨Nat.le_of_ble_eq_true rfl, Nat.le_of_ble_eq_true rfl⟩ ⟨Nat.le_refl _, Nat.le_refl _⟩ (rest := []) (st1 := [.int (g_b (q_w (Z 8) P 8 4))]) rfl rfl (Nat.le_of_ble_eq_true rfl) dX2_readsOther_52 ?_
          clear cz0 cz1
          refine g_if_eqB (tgt := 65) hx hb (b := q_w (Z 8) P 8 4) rfl dX2_readsOther_55 (by decide) (fun c_55 => ?_) (fun c_55 => ?_)
          · skip
            refine lv_aload_n hx hb dX2_readsOther_65 rfl (lv_at hl 0 rfl) ?_
            refine g_ldS hX hE 4 rfl dX2_readsOther_66 ?_
            have cz0 := ((hE.kept hS.2.1).2.1 6 _ rfl).1
            have cz1 := ((hE.kept hS.2.1).2.1 18 _ rfl).1
            refine g_eRV hX hE hS hl y_X2_isWord v_X2_isWord q2289 (k_X2_isWord P n (G.2 206) (G.2 306) 4 (e_tx 6) 3092207 0 hn hn4 hp (by omega)) (hM.rc hX.2.2.2) ⟨hM, cz0, cz1⟩ rfl ⟨Nat.le_of_ble_eq_true rfl, Nat.le_of_ble_eq_true rfl⟩ ⟨Nat.le_refl _, Nat.le_refl _⟩ (rest := []) (st1 := [.int (g_b (q_w (Z 8) P 6 4))]) rfl rfl (Nat.le_of_ble_eq_true rfl) dX2_readsOther_68 ?_
            clear cz0 cz1
            refine g_if_eqB (tgt := 81) hx hb (b := q_w (Z 8) P 6 4) rfl dX2_readsOther_71 (by decide) (fun c_71 => ?_) (fun c_71 => ?_)
            · skip
              refine lv_aload_n hx hb dX2_readsOther_81 rfl (lv_at hl 0 rfl) ?_
              refine lv_iconst (v := 1) hx hb dX2_readsOther_82 rfl ?_
              refine g_cMV hX hl y_X2_faults v_X2_faults q2299 (k_X2_faults 1 P n hn hn4 (by first | exact hp | assumption) (by omega)) (hM.rc hX.2.2.2) hM rfl ⟨Nat.le_of_ble_eq_true rfl, Nat.le_of_ble_eq_true rfl⟩ ⟨Nat.le_refl _, Nat.le_refl _⟩ (rest := []) (st1 := []) rfl rfl (Nat.le_of_ble_eq_true rfl) dX2_readsOther_83 hS (fun _ h => h) (fun H locs hM hS _ => ?_)
              have eP : r_otP (Z 8) n X P = (q_f P 1) := by unfold r_otP; simp only [c_6, c_23, c_39, c_55, c_71, Bool.false_eq_true, if_false, if_true]
              have eX : r_otX (Z 8) n X P = X := by unfold r_otX; simp only [c_6, c_23, c_39, c_55, c_71, Bool.false_eq_true, if_false, if_true]
              exact hret H locs _ _ _ _ dX2_readsOther_86 hS (Nat.le_refl _) (Nat.le_refl _) ⟨rfl, by rw [eP, eX]; exact hM⟩
            · skip
              refine lv_aload_n hx hb dX2_readsOther_74 rfl (lv_at hl 0 rfl) ?_
              refine g_cMV hX hl y_X2_readsDrop v_X2_readsDrop q2481 (k_X2_readsDrop P n hn hn4 (by first | exact hp | assumption) hwl) (hM.rc hX.2.2.2) hM rfl ⟨Nat.le_of_ble_eq_true rfl, Nat.le_of_ble_eq_true rfl⟩ ⟨Nat.le_refl _, Nat.le_refl _⟩ (rest := []) (st1 := []) rfl rfl (Nat.le_of_ble_eq_true rfl) dX2_readsOther_75 hS (fun _ h => h) (fun H locs hM hS _ => ?_)
              refine lv_goto (tgt := 86) hx hb dX2_readsOther_78 (by decide) ?_
              have eP : r_otP (Z 8) n X P = (q_goes (Z 8) n (r_d3 (Z 8) n X P)) := by unfold r_otP; simp only [c_6, c_23, c_39, c_55, c_71, Bool.false_eq_true, if_false, if_true]
              have eX : r_otX (Z 8) n X P = r_drX (Z 8) n X P := by unfold r_otX; simp only [c_6, c_23, c_39, c_55, c_71, Bool.false_eq_true, if_false, if_true]
              exact hret H locs _ _ _ _ dX2_readsOther_86 hS (Nat.le_refl _) (Nat.le_refl _) ⟨rfl, by rw [eP, eX]; exact hM⟩
          · skip
            refine lv_aload_n hx hb dX2_readsOther_58 rfl (lv_at hl 0 rfl) ?_
            refine g_cMV hX hl y_X2_readsCalm v_X2_readsCalm q2472 (k_X2_readsCalm P n hn hn4 (by first | exact hp | assumption) hwl) (hM.rc hX.2.2.2) hM rfl ⟨Nat.le_of_ble_eq_true rfl, Nat.le_of_ble_eq_true rfl⟩ ⟨Nat.le_refl _, Nat.le_refl _⟩ (rest := []) (st1 := []) rfl rfl (Nat.le_of_ble_eq_true rfl) dX2_readsOther_59 hS (fun _ h => h) (fun H locs hM hS _ => ?_)
            refine lv_goto (tgt := 86) hx hb dX2_readsOther_62 (by decide) ?_
            have eP : r_otP (Z 8) n X P = (q_goes (Z 8) n P) := by unfold r_otP; simp only [c_6, c_23, c_39, c_55, Bool.false_eq_true, if_false, if_true]
            have eX : r_otX (Z 8) n X P = x_cW X 0 (9 * (s_L X - 1)) := by unfold r_otX; simp only [c_6, c_23, c_39, c_55, Bool.false_eq_true, if_false, if_true]
            exact hret H locs _ _ _ _ dX2_readsOther_86 hS (Nat.le_refl _) (Nat.le_refl _) ⟨rfl, by rw [eP, eX]; exact hM⟩
        · skip
          refine lv_aload_n hx hb dX2_readsOther_42 rfl (lv_at hl 0 rfl) ?_
          refine g_cMV hX hl y_X2_readsAsks v_X2_readsAsks q2467 (k_X2_readsAsks P n hn hn4 (by first | exact hp | assumption) hwl) (hM.rc hX.2.2.2) hM rfl ⟨Nat.le_of_ble_eq_true rfl, Nat.le_of_ble_eq_true rfl⟩ ⟨Nat.le_refl _, Nat.le_refl _⟩ (rest := []) (st1 := []) rfl rfl (Nat.le_of_ble_eq_true rfl) dX2_readsOther_43 hS (fun _ h => h) (fun H locs hM hS _ => ?_)
          refine lv_goto (tgt := 86) hx hb dX2_readsOther_46 (by decide) ?_
          have eP : r_otP (Z 8) n X P = (q_num (Z 8) n (q_goes (Z 8) n P) 0 5) := by unfold r_otP; simp only [c_6, c_23, c_39, Bool.false_eq_true, if_false, if_true]
          have eX : r_otX (Z 8) n X P = r_asX (Z 8) n X P := by unfold r_otX; simp only [c_6, c_23, c_39, Bool.false_eq_true, if_false, if_true]
          exact hret H locs _ _ _ _ dX2_readsOther_86 hS (Nat.le_refl _) (Nat.le_refl _) ⟨rfl, by rw [eP, eX]; exact hM⟩
      · skip
        refine lv_aload_n hx hb dX2_readsOther_26 rfl (lv_at hl 0 rfl) ?_
        refine g_cMV hX hl y_X2_readsSame v_X2_readsSame q2458 (k_X2_readsSame P n hn hn4 (by first | exact hp | assumption) hwl) (hM.rc hX.2.2.2) hM rfl ⟨Nat.le_of_ble_eq_true rfl, Nat.le_of_ble_eq_true rfl⟩ ⟨Nat.le_refl _, Nat.le_refl _⟩ (rest := []) (st1 := []) rfl rfl (Nat.le_of_ble_eq_true rfl) dX2_readsOther_27 hS (fun _ h => h) (fun H locs hM hS _ => ?_)
        refine lv_goto (tgt := 86) hx hb dX2_readsOther_30 (by decide) ?_
        have eP : r_otP (Z 8) n X P = (r_s3 (Z 8) n X P) := by unfold r_otP; simp only [c_6, c_23, Bool.false_eq_true, if_false, if_true]
        have eX : r_otX (Z 8) n X P = r_saX (Z 8) n X P := by unfold r_otX; simp only [c_6, c_23, Bool.false_eq_true, if_false, if_true]
        exact hret H locs _ _ _ _ dX2_readsOther_86 hS (Nat.le_refl _) (Nat.le_refl _) ⟨rfl, by rw [eP, eX]; exact hM⟩
    · skip
      refine lv_aload_n hx hb dX2_readsOther_9 rfl (lv_at hl 0 rfl) ?_
      refine lv_iconst (v := 0) hx hb dX2_readsOther_10 rfl ?_
      refine g_cMV hX hl y_X2_readsCut v_X2_readsCut q2336 (k_X2_readsCut 0 P n hn hn4 (by first | exact hp | assumption) hwl (by omega)) (hM.rc hX.2.2.2) hM rfl ⟨Nat.le_of_ble_eq_true rfl, Nat.le_of_ble_eq_true rfl⟩ ⟨Nat.le_refl _, Nat.le_refl _⟩ (rest := []) (st1 := []) rfl rfl (Nat.le_of_ble_eq_true rfl) dX2_readsOther_11 hS (fun _ h => h) (fun H locs hM hS _ => ?_)
      refine lv_goto (tgt := 86) hx hb dX2_readsOther_14 (by decide) ?_
      have eP : r_otP (Z 8) n X P = (q_goes (Z 8) n (r_c4 (Z 8) n X P 0)) := by unfold r_otP; simp only [c_6, Bool.false_eq_true, if_false, if_true]
      have eX : r_otX (Z 8) n X P = r_cuX (Z 8) n X P 0 := by unfold r_otX; simp only [c_6, Bool.false_eq_true, if_false, if_true]
      exact hret H locs _ _ _ _ dX2_readsOther_86 hS (Nat.le_refl _) (Nat.le_refl _) ⟨rfl, by rw [eP, eX]; exact hM⟩
  exact key _ _ hM hS

theorem y_X2_readsPart : g_Y yX2_readsPart cX2_readsPart 1 none 0 := ⟨q2318, by decide +kernel⟩
theorem v_X2_readsPart : g_YV yX2_readsPart := ⟨q2317, qs52, q140⟩
set_option maxHeartbeats 4000000 in
theorem k_X2_readsPart {G : g_G} {l : Launch} {ad : Nat → Nat} {F : Nat → Int32} {X Y : g_Wd} {U V : Nat → g_Wd} {Z : g_Wd}  (P : g_P) (n : Nat) (hn : F 12 = nI n) (hn4 : n ≤ 400) (hp : p_ok n P) (hwl : s_wl X) : g_Me G l yX2_readsPart cX2_readsPart 1 none 9 0 0 [.ref (ad 0)] (g_Mod G ad (p_F F P) X Y U V Z) (g_Qv none (g_Mod G ad (p_F F (r_lnP (Z 8) n X P)) (r_lnX (Z 8) n X P) Y U V Z)) (md_A ad) := by
  refine g_Me.ofV (by decide) ?_
  intro p e s m args below meth c ls Q hX hE hM hl hS hret
  have hx := hX.1.1
  have hb := hX.1.2.1
  have hl : lv_has ls 1 [(0, .ref (ad 0))] := hl
  have key : ∀ (H : Heap) (locs : List Loc), g_Mod G ad (p_F F P) X Y U V Z H → va_S (md_A ad) s.heap H locs → W p l e (g_rm 9 0 0) s m args below meth c H locs 0 0 Q (F0 m 0 ls []) := by
    intro H locs hM hS
    have hpc : P.1 ≤ 3 := hp.1
    have hpu : P.2.2.1 ≤ n := hp.2.1
    have hps : P.2.2.2.1 ≤ P.2.2.1 := hp.2.2.1
    have hpt : P.2.2.2.2 ≤ 4 := hp.2.2.2.1
    have hW := hwl.1
    refine lv_aload_n hx hb dX2_readsPart_0 rfl (lv_at hl 0 rfl) ?_
    refine g_ldS hX hE 5 rfl dX2_readsPart_1 ?_
    have cz0 := ((hE.kept hS.2.1).2.1 1 _ rfl).1
    have cz1 := ((hE.kept hS.2.1).2.1 13 _ rfl).1
    refine g_eRV hX hE hS hl y_X2_isWord v_X2_isWord q2289 (k_X2_isWord P n (G.2 201) (G.2 301) 5 (e_tx 1) 109770985 0 hn hn4 hp (by omega)) (hM.rc hX.2.2.2) ⟨hM, cz0, cz1⟩ rfl ⟨Nat.le_of_ble_eq_true rfl, Nat.le_of_ble_eq_true rfl⟩ ⟨Nat.le_refl _, Nat.le_refl _⟩ (rest := []) (st1 := [.int (g_b (q_w (Z 8) P 1 5))]) rfl rfl (Nat.le_of_ble_eq_true rfl) dX2_readsPart_3 ?_
    clear cz0 cz1
    refine g_if_eqB (tgt := 16) hx hb (b := q_w (Z 8) P 1 5) rfl dX2_readsPart_6 (by decide) (fun c_6 => ?_) (fun c_6 => ?_)
    · skip
      refine lv_aload_n hx hb dX2_readsPart_16 rfl (lv_at hl 0 rfl) ?_
      refine g_ldS hX hE 6 rfl dX2_readsPart_17 ?_
      have cz0 := ((hE.kept hS.2.1).2.1 2 _ rfl).1
      have cz1 := ((hE.kept hS.2.1).2.1 14 _ rfl).1
      refine g_eRV hX hE hS hl y_X2_isWord v_X2_isWord q2289 (k_X2_isWord P n (G.2 202) (G.2 302) 3 (e_tx 2) 98882 0 hn hn4 hp (by omega)) (hM.rc hX.2.2.2) ⟨hM, cz0, cz1⟩ rfl ⟨Nat.le_of_ble_eq_true rfl, Nat.le_of_ble_eq_true rfl⟩ ⟨Nat.le_refl _, Nat.le_refl _⟩ (rest := []) (st1 := [.int (g_b (q_w (Z 8) P 2 3))]) rfl rfl (Nat.le_of_ble_eq_true rfl) dX2_readsPart_19 ?_
      clear cz0 cz1
      refine g_if_eqB (tgt := 33) hx hb (b := q_w (Z 8) P 2 3) rfl dX2_readsPart_22 (by decide) (fun c_22 => ?_) (fun c_22 => ?_)
      · skip
        refine lv_aload_n hx hb dX2_readsPart_33 rfl (lv_at hl 0 rfl) ?_
        refine g_ldS hX hE 7 rfl dX2_readsPart_34 ?_
        have cz0 := ((hE.kept hS.2.1).2.1 3 _ rfl).1
        have cz1 := ((hE.kept hS.2.1).2.1 15 _ rfl).1
        refine g_eRV hX hE hS hl y_X2_isWord v_X2_isWord q2289 (k_X2_isWord P n (G.2 203) (G.2 303) 4 (e_tx 3) 3526536 0 hn hn4 hp (by omega)) (hM.rc hX.2.2.2) ⟨hM, cz0, cz1⟩ rfl ⟨Nat.le_of_ble_eq_true rfl, Nat.le_of_ble_eq_true rfl⟩ ⟨Nat.le_refl _, Nat.le_refl _⟩ (rest := []) (st1 := [.int (g_b (q_w (Z 8) P 3 4))]) rfl rfl (Nat.le_of_ble_eq_true rfl) dX2_readsPart_36 ?_
        clear cz0 cz1
        refine g_if_eqB (tgt := 49) hx hb (b := q_w (Z 8) P 3 4) rfl dX2_readsPart_39 (by decide) (fun c_39 => ?_) (fun c_39 => ?_)
        · skip
          refine lv_aload_n hx hb dX2_readsPart_49 rfl (lv_at hl 0 rfl) ?_
          refine g_ldS hX hE 8 rfl dX2_readsPart_50 ?_
          have cz0 := ((hE.kept hS.2.1).2.1 9 _ rfl).1
          have cz1 := ((hE.kept hS.2.1).2.1 21 _ rfl).1
          refine g_eRV hX hE hS hl y_X2_isWord v_X2_isWord q2289 (k_X2_isWord P n (G.2 209) (G.2 309) 4 (e_tx 9) 3433489 0 hn hn4 hp (by omega)) (hM.rc hX.2.2.2) ⟨hM, cz0, cz1⟩ rfl ⟨Nat.le_of_ble_eq_true rfl, Nat.le_of_ble_eq_true rfl⟩ ⟨Nat.le_refl _, Nat.le_refl _⟩ (rest := []) (st1 := [.int (g_b (q_w (Z 8) P 9 4))]) rfl rfl (Nat.le_of_ble_eq_true rfl) dX2_readsPart_52 ?_
          clear cz0 cz1
          refine g_if_eqB (tgt := 65) hx hb (b := q_w (Z 8) P 9 4) rfl dX2_readsPart_55 (by decide) (fun c_55 => ?_) (fun c_55 => ?_)
          · skip
            refine lv_aload_n hx hb dX2_readsPart_65 rfl (lv_at hl 0 rfl) ?_
            refine g_eMV hX hE hS hl y_X2_readsOther v_X2_readsOther q2452 (k_X2_readsOther P n hn hn4 (by first | exact hp | assumption) hwl) (hM.rc hX.2.2.2) hM rfl ⟨Nat.le_of_ble_eq_true rfl, Nat.le_of_ble_eq_true rfl⟩ ⟨Nat.le_refl _, Nat.le_refl _⟩ (rest := []) (st1 := []) rfl rfl (Nat.le_of_ble_eq_true rfl) dX2_readsPart_66 (fun _ h => h) (fun H locs hM hS _ => ?_)
            have eP : r_lnP (Z 8) n X P = (r_otP (Z 8) n X P) := by unfold r_lnP; simp only [c_6, c_22, c_39, c_55, Bool.false_eq_true, if_false, if_true]
            have eX : r_lnX (Z 8) n X P = r_otX (Z 8) n X P := by unfold r_lnX; simp only [c_6, c_22, c_39, c_55, Bool.false_eq_true, if_false, if_true]
            exact hret H locs _ _ _ _ dX2_readsPart_69 hS (Nat.le_refl _) (Nat.le_refl _) ⟨rfl, by rw [eP, eX]; exact hM⟩
          · skip
            refine lv_aload_n hx hb dX2_readsPart_58 rfl (lv_at hl 0 rfl) ?_
            refine g_cMV hX hl y_X2_readsPass v_X2_readsPass q2370 (k_X2_readsPass P n hn hn4 (by first | exact hp | assumption) hwl) (hM.rc hX.2.2.2) hM rfl ⟨Nat.le_of_ble_eq_true rfl, Nat.le_of_ble_eq_true rfl⟩ ⟨Nat.le_refl _, Nat.le_refl _⟩ (rest := []) (st1 := []) rfl rfl (Nat.le_of_ble_eq_true rfl) dX2_readsPart_59 hS (fun _ h => h) (fun H locs hM hS _ => ?_)
            refine lv_goto (tgt := 69) hx hb dX2_readsPart_62 (by decide) ?_
            have eP : r_lnP (Z 8) n X P = (q_num (Z 8) n (q_goes (Z 8) n P) 1 50) := by unfold r_lnP; simp only [c_6, c_22, c_39, c_55, Bool.false_eq_true, if_false, if_true]
            have eX : r_lnX (Z 8) n X P = r_paX (Z 8) n X P := by unfold r_lnX; simp only [c_6, c_22, c_39, c_55, Bool.false_eq_true, if_false, if_true]
            exact hret H locs _ _ _ _ dX2_readsPart_69 hS (Nat.le_refl _) (Nat.le_refl _) ⟨rfl, by rw [eP, eX]; exact hM⟩
        · skip
          refine lv_aload_n hx hb dX2_readsPart_42 rfl (lv_at hl 0 rfl) ?_
          refine g_cMV hX hl y_X2_readsSend v_X2_readsSend q2345 (k_X2_readsSend P n hn hn4 (by first | exact hp | assumption) hwl) (hM.rc hX.2.2.2) hM rfl ⟨Nat.le_of_ble_eq_true rfl, Nat.le_of_ble_eq_true rfl⟩ ⟨Nat.le_refl _, Nat.le_refl _⟩ (rest := []) (st1 := []) rfl rfl (Nat.le_of_ble_eq_true rfl) dX2_readsPart_43 hS (fun _ h => h) (fun H locs hM hS _ => ?_)
          refine lv_goto (tgt := 69) hx hb dX2_readsPart_46 (by decide) ?_
          have eP : r_lnP (Z 8) n X P = (r_eP (Z 8) n X P) := by unfold r_lnP; simp only [c_6, c_22, c_39, Bool.false_eq_true, if_false, if_true]
          have eX : r_lnX (Z 8) n X P = r_seX (Z 8) n X P := by unfold r_lnX; simp only [c_6, c_22, c_39, Bool.false_eq_true, if_false, if_true]
          exact hret H locs _ _ _ _ dX2_readsPart_69 hS (Nat.le_refl _) (Nat.le_refl _) ⟨rfl, by rw [eP, eX]; exact hM⟩
      · skip
        refine lv_aload_n hx hb dX2_readsPart_25 rfl (lv_at hl 0 rfl) ?_
        refine lv_iconst (v := 1) hx hb dX2_readsPart_26 rfl ?_
        refine g_cMV hX hl y_X2_readsCut v_X2_readsCut q2336 (k_X2_readsCut 1 P n hn hn4 (by first | exact hp | assumption) hwl (by omega)) (hM.rc hX.2.2.2) hM rfl ⟨Nat.le_of_ble_eq_true rfl, Nat.le_of_ble_eq_true rfl⟩ ⟨Nat.le_refl _, Nat.le_refl _⟩ (rest := []) (st1 := []) rfl rfl (Nat.le_of_ble_eq_true rfl) dX2_readsPart_27 hS (fun _ h => h) (fun H locs hM hS _ => ?_)
        refine lv_goto (tgt := 69) hx hb dX2_readsPart_30 (by decide) ?_
        have eP : r_lnP (Z 8) n X P = (q_goes (Z 8) n (r_c4 (Z 8) n X P 1)) := by unfold r_lnP; simp only [c_6, c_22, Bool.false_eq_true, if_false, if_true]
        have eX : r_lnX (Z 8) n X P = r_cuX (Z 8) n X P 1 := by unfold r_lnX; simp only [c_6, c_22, Bool.false_eq_true, if_false, if_true]
        exact hret H locs _ _ _ _ dX2_readsPart_69 hS (Nat.le_refl _) (Nat.le_refl _) ⟨rfl, by rw [eP, eX]; exact hM⟩
    · skip
      refine lv_aload_n hx hb dX2_readsPart_9 rfl (lv_at hl 0 rfl) ?_
      refine g_cMV hX hl y_X2_readsStorm v_X2_readsStorm q2320 (k_X2_readsStorm P n hn hn4 (by first | exact hp | assumption) hwl) (hM.rc hX.2.2.2) hM rfl ⟨Nat.le_of_ble_eq_true rfl, Nat.le_of_ble_eq_true rfl⟩ ⟨Nat.le_refl _, Nat.le_refl _⟩ (rest := []) (st1 := []) rfl rfl (Nat.le_of_ble_eq_true rfl) dX2_readsPart_10 hS (fun _ h => h) (fun H locs hM hS _ => ?_)
      refine lv_goto (tgt := 69) hx hb dX2_readsPart_13 (by decide) ?_
      have eP : r_lnP (Z 8) n X P = (r_l5 (Z 8) n X P) := by unfold r_lnP; simp only [c_6, Bool.false_eq_true, if_false, if_true]
      have eX : r_lnX (Z 8) n X P = r_stX (Z 8) n X P := by unfold r_lnX; simp only [c_6, Bool.false_eq_true, if_false, if_true]
      exact hret H locs _ _ _ _ dX2_readsPart_69 hS (Nat.le_refl _) (Nat.le_refl _) ⟨rfl, by rw [eP, eX]; exact hM⟩
  exact key _ _ hM hS
