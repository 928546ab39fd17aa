/-! THE MODEL: hours, copies of worlds -/
set_option maxRecDepth 100000
theorem y_X2_lays : g_Y yX2_lays cX2_lays 5 none 4 := ⟨q2271, by decide +kernel⟩
theorem v_X2_lays : g_YS yX2_lays := ⟨q2270, q140⟩
set_option maxHeartbeats 4000000 in
theorem k_X2_lays {G : g_G} {l : Launch} (pa pb na nb i j : Nat) (f g : Nat → Int32) (hne : pa ≠ pb) (hi : i + 1576 ≤ na) (hj : j + 1576 ≤ nb) (ha : na < 65536) (hb2 : nb < 65536) : g_Md G l yX2_lays cX2_lays 5 none 0 0 0 [.ref pa, .int (nI i), .ref pb, .int (nI j)] (fun H => g_at G H pa (g_ai G 0 na f) ∧ g_at G H pb (g_ai G 0 nb g)) (g_Qv none (fun H => g_at G H pb (g_ai G 0 nb (va_cpy f g i j 1576)))) (fun z => z = pb) := by
  refine g_Md.ofV (by decide) ?_
  intro p e s m args below meth c ls Q hX hP hl hS hret
  have hx := hX.1.1
  have hb := hX.1.2.1
  have hl : lv_has ls 5 [(0, .ref pa), (1, .int (nI i)), (2, .ref pb), (3, .int (nI j))] := hl
  have L3 : ∀ (n : Nat) (H : Heap) (locs : List Loc) (q : Nat) (g1 : Nat → Int32), q ≤ 1576 → 1576 - q < n → g1 = va_cpy f g i j q → (g_at G H pa (g_ai G 0 na f) ∧ g_at G H pb (g_ai G 0 nb g1)) → va_S (fun z => z = pb) s.heap H locs → ∀ ls : Array Slot, lv_has ls 5 [(4, .int (nI q)), (0, .ref pa), (1, .int (nI i)), (2, .ref pb), (3, .int (nI j))] → W p l e (g_rm 0 0 0) s m args below meth c H locs 0 0 Q (F0 m 3 ls []) := by
    intro n; induction n with
    | zero => intro H locs q g1 h1 h2; omega
    | succ n ih =>
      intro H locs q g1 hq hn hg1 hP hS ls hl
      refine lv_iload hx hb dX2_lays_3 (lv_at hl 0 rfl) ?_
      refine lv_sipush (v := 1576) hx hb dX2_lays_5 (by decide) ?_
      refine g_icmp_geN (tgt := 29) hx hb q 1576 rfl rfl (by omega) (by omega) dX2_lays_8 (by decide) (fun c_8 => ?_) (fun c_8 => ?_)
      · skip
        exact hret H locs _ _ _ _ dX2_lays_29 hS (Nat.le_refl _) (Nat.le_refl _) (⟨rfl, by obtain rfl : q = 1576 := (by omega); rw [← hg1]; exact hP.2⟩)
      · skip
        refine lv_aload_n hx hb dX2_lays_11 rfl (lv_at hl 3 rfl) ?_
        refine lv_iload_n hx hb dX2_lays_12 rfl (lv_at hl 4 rfl) ?_
        refine lv_iload hx hb dX2_lays_13 (lv_at hl 0 rfl) ?_
        refine g_iaddN hx hb j q rfl rfl dX2_lays_15 ?_
        refine lv_aload_n hx hb dX2_lays_16 rfl (lv_at hl 1 rfl) ?_
        refine lv_iload_n hx hb dX2_lays_17 rfl (lv_at hl 2 rfl) ?_
        refine lv_iload hx hb dX2_lays_18 (lv_at hl 0 rfl) ?_
        refine g_iaddN hx hb i q rfl rfl dX2_lays_20 ?_
        refine g_iald hX hP.1 (i + q) rfl (by omega) (by omega) (v := f (i + q)) rfl dX2_lays_21 ?_
        refine g_iast (A := fun z => z = pb) hX hP.2 rfl hS (j + q) rfl (by omega) (by omega) dX2_lays_22 (fun H1 locs h9 o9 hS => ?_)
        rw [hg1, g_cpy_s] at h9
        have hP : g_at G H1 pa (g_ai G 0 na f) ∧ g_at G H1 pb (g_ai G 0 nb (va_cpy f g i j (q + 1))) := ⟨hP.1.kept (o9 pa hne), h9⟩
        clear h9 o9
        refine lv_iinc (v := (nI (q + 1))) (lv' := [(4, .int (nI (q + 1))), (0, .ref pa), (1, .int (nI i)), (2, .ref pb), (3, .int (nI j))]) hx hb dX2_lays_23 hl (k := 0) rfl (nI_1 _) (by decide) rfl (fun ls hl => ?_)
        refine lv_goto (tgt := 3) hx hb dX2_lays_26 (by decide) ?_
        exact ih H1 locs (q + 1) _ (by omega) (by omega) rfl hP hS ls (lv_sub hl [0, 1, 2, 3, 4] rfl)
  refine lv_iconst (v := 0) hx hb dX2_lays_0 rfl ?_
  refine lv_istore (lv' := [(4, .int 0), (0, .ref pa), (1, .int (nI i)), (2, .ref pb), (3, .int (nI j))]) hx hb dX2_lays_1 hl (by decide) rfl (fun ls hl => ?_)
  exact L3 1577 s.heap [] 0 g (by omega) (by omega) g_cpy_0 hP hS ls (lv_sub hl [0, 1, 2, 3, 4] rfl)

theorem y_X2_thinks : g_Y yX2_thinks cX2_thinks 1 none 0 := ⟨q2268, by decide +kernel⟩
theorem v_X2_thinks : g_YV yX2_thinks := ⟨q2267, qs41, q140⟩
set_option maxHeartbeats 4000000 in
theorem k_X2_thinks {G : g_G} {l : Launch} {ad : Nat → Nat} {F : Nat → Int32} {X Y : g_Wd} {U V : Nat → g_Wd} {Z : g_Wd}   : g_Md G l yX2_thinks cX2_thinks 1 none 1 0 0 [.ref (ad 0)] (g_Mod G ad F X Y U V Z) (g_Qv none (g_Mod G ad F X X U V Z)) (md_A ad) := by
  refine g_Md.ofV (by decide) ?_
  intro p e s m args below meth c ls Q hX hM hl hS hret
  have hx := hX.1.1
  have hb := hX.1.2.1
  have hl : lv_has ls 1 [(0, .ref (ad 0))] := hl
  have key : ∀ (H : Heap) (locs : List Loc), g_Mod G ad F X Y U V Z H → va_S (md_A ad) s.heap H locs → W p l e (g_rm 1 0 0) s m args below meth c H locs 0 0 Q (F0 m 0 ls []) := by
    intro H locs hM hS
    refine lv_aload_n hx hb dX2_thinks_0 rfl (lv_at hl 0 rfl) ?_
    refine g_getM hX hM 1 (by decide) q2164 rfl (v := .ref (ad 1)) rfl dX2_thinks_1 ?_
    refine lv_iconst (v := 0) hx hb dX2_thinks_4 rfl ?_
    refine lv_aload_n hx hb dX2_thinks_5 rfl (lv_at hl 0 rfl) ?_
    refine g_getM hX hM 2 (by decide) q2165 rfl (v := .ref (ad 2)) rfl dX2_thinks_6 ?_
    refine lv_iconst (v := 0) hx hb dX2_thinks_9 rfl ?_
    refine g_cMS hX hl y_X2_lays v_X2_lays q2269 (k_X2_lays (ad 1) (ad 2) 1576 1576 0 0 (g_fl X) (g_fl Y) (hM.ne (by decide) (by decide) (by decide)) (by omega) (by omega) (by decide) (by decide)) ⟨hM.a1, hM.a2⟩ rfl ⟨Nat.le_of_ble_eq_true rfl, Nat.le_of_ble_eq_true rfl⟩ ⟨Nat.le_refl _, Nat.le_refl _⟩ (rest := []) (st1 := []) rfl rfl (Nat.le_of_ble_eq_true rfl) dX2_thinks_10 hS (fun z h => by rw [h]; exact md_A.at (by decide)) (fun H1 locs h9 hS o9 => ?_)
    replace hM : g_Mod G ad F X X U V Z H1 := hM.l12 h9 o9.2
    clear h9 o9
    revert hM hS
    generalize H1 = H
    intro hS hM
    exact hret H locs _ _ _ _ dX2_thinks_13 hS (Nat.le_refl _) (Nat.le_refl _) (⟨rfl, hM⟩)
  exact key _ _ hM hS

theorem y_X2_back : g_Y yX2_back cX2_back 2 (some .int) 1 := ⟨q2496, by decide +kernel⟩
theorem v_X2_back : g_YV yX2_back := ⟨q2495, qs92, q140⟩
set_option maxHeartbeats 4000000 in
theorem k_X2_back {G : g_G} {l : Launch} {ad : Nat → Nat} {F : Nat → Int32} {X Y : g_Wd} {U V : Nat → g_Wd} {Z : g_Wd} (v : Int32)  : g_Md G l yX2_back cX2_back 2 (some .int) 1 0 0 [.ref (ad 0), .int v] (g_Mod G ad F X Y U V Z) (g_Qv (some (.int v)) (g_Mod G ad F Y Y U V Z)) (md_A ad) := by
  refine g_Md.ofI (by decide) (fun _ _ _ => rfl) ?_
  intro p e s m args below meth c ls Q hX hM hl hS hret
  have hx := hX.1.1
  have hb := hX.1.2.1
  have hl : lv_has ls 2 [(0, .ref (ad 0)), (1, .int v)] := hl
  have key : ∀ (H : Heap) (locs : List Loc), g_Mod G ad F X Y U V Z H → va_S (md_A ad) s.heap H locs → W p l e (g_rm 1 0 0) s m args below meth c H locs 0 0 Q (F0 m 0 ls []) := by
    intro H locs hM hS
    refine lv_aload_n hx hb dX2_back_0 rfl (lv_at hl 0 rfl) ?_
    refine g_getM hX hM 2 (by decide) q2165 rfl (v := .ref (ad 2)) rfl dX2_back_1 ?_
    refine lv_iconst (v := 0) hx hb dX2_back_4 rfl ?_
    refine lv_aload_n hx hb dX2_back_5 rfl (lv_at hl 0 rfl) ?_
    refine g_getM hX hM 1 (by decide) q2164 rfl (v := .ref (ad 1)) rfl dX2_back_6 ?_
    refine lv_iconst (v := 0) hx hb dX2_back_9 rfl ?_
    refine g_cMS hX hl y_X2_lays v_X2_lays q2269 (k_X2_lays (ad 2) (ad 1) 1576 1576 0 0 (g_fl Y) (g_fl X) (hM.ne (by decide) (by decide) (by decide)) (by omega) (by omega) (by decide) (by decide)) ⟨hM.a2, hM.a1⟩ rfl ⟨Nat.le_of_ble_eq_true rfl, Nat.le_of_ble_eq_true rfl⟩ ⟨Nat.le_refl _, Nat.le_refl _⟩ (rest := []) (st1 := []) rfl rfl (Nat.le_of_ble_eq_true rfl) dX2_back_10 hS (fun z h => by rw [h]; exact md_A.at (by decide)) (fun H1 locs h9 hS o9 => ?_)
    replace hM : g_Mod G ad F Y Y U V Z H1 := hM.l21 h9 o9.2
    clear h9 o9
    revert hM hS
    generalize H1 = H
    intro hS hM
    refine lv_iload_n hx hb dX2_back_13 rfl (lv_at hl 1 rfl) ?_
    exact hret H locs _ _ _ _ _ dX2_back_14 hS (Nat.le_refl _) (Nat.le_refl _) (⟨rfl, hM⟩)
  exact key _ _ hM hS

theorem y_X2_begins : g_Y yX2_begins cX2_begins 4 (some .int) 1 := ⟨q2352, by decide +kernel⟩
theorem v_X2_begins : g_YV yX2_begins := ⟨q2351, qs59, q140⟩
set_option maxHeartbeats 4000000 in
theorem k_X2_begins {G : g_G} {l : Launch} {ad : Nat → Nat} {F : Nat → Int32} {X Y : g_Wd} {U V : Nat → g_Wd} {Z : g_Wd} (len : Int32) (hM3 : X 0 3 = nI (s_M X)) (hM6 : s_M X < 6) : g_Md G l yX2_begins cX2_begins 4 (some .int) 1 0 0 [.ref (ad 0), .int len] (g_Mod G ad F X Y U V Z) (g_Qv (some (.int (nI (s_M X)))) (g_Mod G ad F (x_beg X len) Y U V Z)) (md_A ad) := by
  refine g_Md.ofI (by decide) (fun _ _ _ => rfl) ?_
  intro p e s m args below meth c ls Q hX hM hl hS hret
  have hx := hX.1.1
  have hb := hX.1.2.1
  have hl : lv_has ls 4 [(0, .ref (ad 0)), (1, .int len)] := hl
  have key : ∀ (H : Heap) (locs : List Loc), g_Mod G ad F X Y U V Z H → va_S (md_A ad) s.heap H locs → W p l e (g_rm 1 0 0) s m args below meth c H locs 0 0 Q (F0 m 0 ls []) := by
    intro H locs hM hS
    refine lv_aload_n hx hb dX2_begins_0 rfl (lv_at hl 0 rfl) ?_
    refine g_getM hX hM 1 (by decide) q2164 rfl (v := .ref (ad 1)) rfl dX2_begins_1 ?_
    refine lv_iconst (v := 3) hx hb dX2_begins_4 rfl ?_
    refine g_iald hX hM.a1 3 rfl (by omega) (by decide) (v := (X 0 3)) rfl dX2_begins_5 ?_
    refine lv_istore_n (lv' := [(2, .int (X 0 3)), (0, .ref (ad 0)), (1, .int len)]) hx hb dX2_begins_6 rfl hl (by decide) rfl (fun ls hl => ?_)
    refine lv_iconst (v := 0) hx hb dX2_begins_7 rfl ?_
    refine lv_istore_n (lv' := [(3, .int 0), (2, .int (X 0 3)), (0, .ref (ad 0)), (1, .int len)]) hx hb dX2_begins_8 rfl hl (by decide) rfl (fun ls hl => ?_)
    have L9 : ∀ (nf : Nat) (H : Heap) (locs : List Loc) (j : Nat) (X1 : g_Wd), (j ≤ 197) → (X1 = x_clr X (3 + s_M X) j) → (197 - j < nf) → (g_Mod G ad F X1 Y U V Z H) → va_S (md_A ad) s.heap H locs → ∀ ls : Array Slot, lv_has ls 4 [(3, .int (nI j)), (2, .int (X 0 3)), (0, .ref (ad 0)), (1, .int len)] → W p l e (g_rm 1 0 0) s m args below meth c H locs 0 0 Q (F0 m 9 ls []) := by
      intro n9
      induction n9 with
      | zero => intro H locs j X1 hj hX1 hn; exact absurd hn (Nat.not_lt_zero _)
      | succ n9 ih9 =>
        intro H locs j X1 hj hX1 hn9 hM hS ls hl
        refine lv_iload_n hx hb dX2_begins_9 rfl (lv_at hl 0 rfl) ?_
        refine lv_sipush (v := 197) hx hb dX2_begins_10 (by decide) ?_
        refine g_icmp_geN (tgt := 29) hx hb j 197 rfl rfl (by omega) (by omega) dX2_begins_13 (by decide) (fun c_13 => ?_) (fun c_13 => ?_)
        · skip
          refine lv_aload_n hx hb dX2_begins_29 rfl (lv_at hl 2 rfl) ?_
          refine lv_iload_n hx hb dX2_begins_30 rfl (lv_at hl 1 rfl) ?_
          refine lv_iconst (v := 0) hx hb dX2_begins_31 rfl ?_
          refine lv_iload_n hx hb dX2_begins_32 rfl (lv_at hl 3 rfl) ?_
          refine g_cMV hX hl y_X2_puts v_X2_puts q2353 (k_X2_puts (s_M X) 0 len (by omega) (by omega)) (hM.rc hX.2.2.2) hM rfl ⟨Nat.le_of_ble_eq_true rfl, Nat.le_of_ble_eq_true rfl⟩ ⟨Nat.le_refl _, Nat.le_refl _⟩ (rest := []) (st1 := []) (by rw [← hM3]; rfl) rfl (Nat.le_of_ble_eq_true rfl) dX2_begins_33 hS (fun _ h => h) (fun H locs hM hS _ => ?_)
          refine lv_aload_n hx hb dX2_begins_36 rfl (lv_at hl 2 rfl) ?_
          refine lv_iload_n hx hb dX2_begins_37 rfl (lv_at hl 1 rfl) ?_
          refine lv_iconst (v := 3) hx hb dX2_begins_38 rfl ?_
          refine lv_aload_n hx hb dX2_begins_39 rfl (lv_at hl 2 rfl) ?_
          refine g_getM hX hM 1 (by decide) q2164 rfl (v := .ref (ad 1)) rfl dX2_begins_40 ?_
          refine lv_iconst (v := 2) hx hb dX2_begins_43 rfl ?_
          refine g_iald hX hM.a1 2 rfl (by omega) (by decide) (v := ((g_up2 X1 (3 + (s_M X)) 0 len) 0 2)) rfl dX2_begins_44 ?_
          refine g_topi (y := X 0 2) (by rw [g_up2_row (by omega), hX1, x_clr_ne (by omega)]) ?_
          refine g_cMV hX hl y_X2_puts v_X2_puts q2353 (k_X2_puts (s_M X) 3 (X 0 2) (by omega) (by omega)) (hM.rc hX.2.2.2) hM rfl ⟨Nat.le_of_ble_eq_true rfl, Nat.le_of_ble_eq_true rfl⟩ ⟨Nat.le_refl _, Nat.le_refl _⟩ (rest := []) (st1 := []) (by rw [← hM3]; rfl) rfl (Nat.le_of_ble_eq_true rfl) dX2_begins_45 hS (fun _ h => h) (fun H locs hM hS _ => ?_)
          refine lv_aload_n hx hb dX2_begins_48 rfl (lv_at hl 2 rfl) ?_
          refine lv_iload_n hx hb dX2_begins_49 rfl (lv_at hl 1 rfl) ?_
          refine lv_iconst (v := 4) hx hb dX2_begins_50 rfl ?_
          refine lv_iconst (v := (-1)) hx hb dX2_begins_51 rfl ?_
          refine g_cMV hX hl y_X2_puts v_X2_puts q2353 (k_X2_puts (s_M X) 4 (-1) (by omega) (by omega)) (hM.rc hX.2.2.2) hM rfl ⟨Nat.le_of_ble_eq_true rfl, Nat.le_of_ble_eq_true rfl⟩ ⟨Nat.le_refl _, Nat.le_refl _⟩ (rest := []) (st1 := []) (by rw [← hM3]; rfl) rfl (Nat.le_of_ble_eq_true rfl) dX2_begins_52 hS (fun _ h => h) (fun H locs hM hS _ => ?_)
          refine lv_aload_n hx hb dX2_begins_55 rfl (lv_at hl 2 rfl) ?_
          refine g_getM hX hM 1 (by decide) q2164 rfl (v := .ref (ad 1)) rfl dX2_begins_56 ?_
          refine lv_iconst (v := 3) hx hb dX2_begins_59 rfl ?_
          refine lv_dup2_11 hx hb dX2_begins_60 rfl rfl ?_
          refine g_iald hX hM.a1 3 rfl (by omega) (by decide) (v := ((g_up2 (g_up2 (g_up2 X1 (3 + (s_M X)) 0 len) (3 + (s_M X)) 3 (X 0 2)) (3 + (s_M X)) 4 (-1)) 0 3)) rfl dX2_begins_61 ?_
          refine g_topi (y := X 0 3) (by rw [g_up2_row (by omega), g_up2_row (by omega), g_up2_row (by omega), hX1, x_clr_ne (by omega)]) ?_
          refine lv_iconst (v := 1) hx hb dX2_begins_62 rfl ?_
          refine g_iaddN hx hb (s_M X) 1 hM3 rfl dX2_begins_63 ?_
          refine g_istX hX hM hS 3 rfl (by omega) (X' := g_up2 (g_up2 (g_up2 (g_up2 X1 (3 + (s_M X)) 0 len) (3 + (s_M X)) 3 (X 0 2)) (3 + (s_M X)) 4 (-1)) 0 3 (nI (s_M X + 1))) (g_flu0 _ (by omega) _) dX2_begins_64 (fun H locs hM hS => ?_)
          refine lv_iload_n hx hb dX2_begins_65 rfl (lv_at hl 1 rfl) ?_
          exact hret H locs _ _ _ _ _ dX2_begins_66 hS (Nat.le_refl _) (Nat.le_refl _) (⟨by rw [hM3], by obtain rfl : j = 197 := (by omega); subst hX1; exact hM⟩)
        · skip
          refine lv_aload_n hx hb dX2_begins_16 rfl (lv_at hl 2 rfl) ?_
          refine lv_iload_n hx hb dX2_begins_17 rfl (lv_at hl 1 rfl) ?_
          refine lv_iload_n hx hb dX2_begins_18 rfl (lv_at hl 0 rfl) ?_
          refine lv_iconst (v := 0) hx hb dX2_begins_19 rfl ?_
          refine g_cMV hX hl y_X2_puts v_X2_puts q2353 (k_X2_puts (s_M X) j 0 (by omega) (by omega)) (hM.rc hX.2.2.2) hM rfl ⟨Nat.le_of_ble_eq_true rfl, Nat.le_of_ble_eq_true rfl⟩ ⟨Nat.le_refl _, Nat.le_refl _⟩ (rest := []) (st1 := []) (by rw [← hM3]; rfl) rfl (Nat.le_of_ble_eq_true rfl) dX2_begins_20 hS (fun _ h => h) (fun H locs hM hS _ => ?_)
          refine lv_iinc (v := (nI (j + 1))) (lv' := [(3, .int (nI (j + 1))), (2, .int (X 0 3)), (0, .ref (ad 0)), (1, .int len)]) hx hb dX2_begins_23 hl (k := 0) rfl (nI_1 _) (by decide) rfl (fun ls hl => ?_)
          refine lv_goto (tgt := 9) hx hb dX2_begins_26 (by decide) ?_
          exact ih9 H locs (j + 1) (g_up2 X1 (3 + (s_M X)) j 0) (by omega) (x_clr_s hX1) (by omega) hM hS ls (lv_sub hl [0, 1, 2, 3] rfl)
    exact L9 (197 - 0 + 1) H locs 0 X (by omega) (x_clr_0) (Nat.lt_succ_self _) hM hS ls (lv_sub hl [0, 1, 2, 3] rfl)
  exact key _ _ hM hS

theorem y_X2_putsDigit : g_Y yX2_putsDigit cX2_putsDigit 5 none 3 := ⟨q2360, by decide +kernel⟩
theorem v_X2_putsDigit : g_YV yX2_putsDigit := ⟨q2359, qs61, q140⟩
set_option maxHeartbeats 4000000 in
theorem k_X2_putsDigit {G : g_G} {l : Launch} {ad : Nat → Nat} {F : Nat → Int32} {X Y : g_Wd} {U V : Nat → g_Wd} {Z : g_Wd} (m0 : Nat) (p0 : Nat) (dg : Int32) (hm0 : m0 < 6) (hp0 : p0 < 12) : g_Md G l yX2_putsDigit cX2_putsDigit 5 none 1 0 0 [.ref (ad 0), .int (nI m0), .int (nI p0), .int dg] (g_Mod G ad F X Y U V Z) (g_Qv none (g_Mod G ad F (x_dig X m0 p0 dg) Y U V Z)) (md_A ad) := by
  refine g_Md.ofV (by decide) ?_
  intro p e s m args below meth c ls Q hX hM hl hS hret
  have hx := hX.1.1
  have hb := hX.1.2.1
  have hl : lv_has ls 5 [(0, .ref (ad 0)), (1, .int (nI m0)), (2, .int (nI p0)), (3, .int dg)] := hl
  have key : ∀ (H : Heap) (locs : List Loc), g_Mod G ad F X Y U V Z H → va_S (md_A ad) s.heap H locs → W p l e (g_rm 1 0 0) s m args below meth c H locs 0 0 Q (F0 m 0 ls []) := by
    intro H locs hM hS
    refine lv_aload_n hx hb dX2_putsDigit_0 rfl (lv_at hl 0 rfl) ?_
    refine lv_iload_n hx hb dX2_putsDigit_1 rfl (lv_at hl 1 rfl) ?_
    refine lv_iconst (v := 5) hx hb dX2_putsDigit_2 rfl ?_
    refine lv_iload_n hx hb dX2_putsDigit_3 rfl (lv_at hl 2 rfl) ?_
    refine g_iaddN hx hb 5 p0 rfl rfl dX2_putsDigit_4 ?_
    refine lv_iload_n hx hb dX2_putsDigit_5 rfl (lv_at hl 3 rfl) ?_
    refine g_cMV hX hl y_X2_puts v_X2_puts q2353 (k_X2_puts m0 (5 + p0) dg (by omega) (by omega)) (hM.rc hX.2.2.2) hM rfl ⟨Nat.le_of_ble_eq_true rfl, Nat.le_of_ble_eq_true rfl⟩ ⟨Nat.le_refl _, Nat.le_refl _⟩ (rest := []) (st1 := []) rfl rfl (Nat.le_of_ble_eq_true rfl) dX2_putsDigit_6 hS (fun _ h => h) (fun H locs hM hS _ => ?_)
    refine lv_iconst (v := 0) hx hb dX2_putsDigit_9 rfl ?_
    refine lv_istore (lv' := [(4, .int 0), (0, .ref (ad 0)), (1, .int (nI m0)), (2, .int (nI p0)), (3, .int dg)]) hx hb dX2_putsDigit_10 hl (by decide) rfl (fun ls hl => ?_)
    have L12 : ∀ (nf : Nat) (H : Heap) (locs : List Loc) (j : Nat) (X1 : g_Wd), (j ≤ 3) → (X1 = x_dgN X m0 p0 dg j) → (3 - j < nf) → (g_Mod G ad F X1 Y U V Z H) → va_S (md_A ad) s.heap H locs → ∀ ls : Array Slot, lv_has ls 5 [(4, .int (nI j)), (0, .ref (ad 0)), (1, .int (nI m0)), (2, .int (nI p0)), (3, .int dg)] → W p l e (g_rm 1 0 0) s m args below meth c H locs 0 0 Q (F0 m 12 ls []) := by
      intro n12
      induction n12 with
      | zero => intro H locs j X1 hj hX1 hn; exact absurd hn (Nat.not_lt_zero _)
      | succ n12 ih12 =>
        intro H locs j X1 hj hX1 hn12 hM hS ls hl
        refine lv_iload hx hb dX2_putsDigit_12 (lv_at hl 0 rfl) ?_
        refine lv_iconst (v := 3) hx hb dX2_putsDigit_14 rfl ?_
        refine g_icmp_geN (tgt := 40) hx hb j 3 rfl rfl (by omega) (by omega) dX2_putsDigit_15 (by decide) (fun c_15 => ?_) (fun c_15 => ?_)
        · skip
          exact hret H locs _ _ _ _ dX2_putsDigit_40 hS (Nat.le_refl _) (Nat.le_refl _) (⟨rfl, by obtain rfl : j = 3 := (by omega); subst hX1; exact hM⟩)
        · skip
          refine lv_aload_n hx hb dX2_putsDigit_18 rfl (lv_at hl 1 rfl) ?_
          refine lv_iload_n hx hb dX2_putsDigit_19 rfl (lv_at hl 2 rfl) ?_
          refine lv_bipush (v := 17) hx hb dX2_putsDigit_20 (by decide) ?_
          refine lv_bipush (v := 12) hx hb dX2_putsDigit_22 (by decide) ?_
          refine lv_iload hx hb dX2_putsDigit_24 (lv_at hl 0 rfl) ?_
          refine g_imulN hx hb 12 j rfl rfl dX2_putsDigit_26 ?_
          refine g_iaddN hx hb 17 (12 * j) rfl rfl dX2_putsDigit_27 ?_
          refine lv_iload_n hx hb dX2_putsDigit_28 rfl (lv_at hl 3 rfl) ?_
          refine g_iaddN hx hb (17 + 12 * j) p0 rfl rfl dX2_putsDigit_29 ?_
          refine lv_iload_n hx hb dX2_putsDigit_30 rfl (lv_at hl 4 rfl) ?_
          refine g_cMV hX hl y_X2_puts v_X2_puts q2353 (k_X2_puts m0 (17 + 12 * j + p0) dg (by omega) (by omega)) (hM.rc hX.2.2.2) hM rfl ⟨Nat.le_of_ble_eq_true rfl, Nat.le_of_ble_eq_true rfl⟩ ⟨Nat.le_refl _, Nat.le_refl _⟩ (rest := []) (st1 := []) rfl rfl (Nat.le_of_ble_eq_true rfl) dX2_putsDigit_31 hS (fun _ h => h) (fun H locs hM hS _ => ?_)
          refine lv_iinc (v := (nI (j + 1))) (lv' := [(4, .int (nI (j + 1))), (0, .ref (ad 0)), (1, .int (nI m0)), (2, .int (nI p0)), (3, .int dg)]) hx hb dX2_putsDigit_34 hl (k := 0) rfl (nI_1 _) (by decide) rfl (fun ls hl => ?_)
          refine lv_goto (tgt := 12) hx hb dX2_putsDigit_37 (by decide) ?_
          exact ih12 H locs (j + 1) (g_up2 X1 (3 + m0) (17 + 12 * j + p0) dg) (by omega) (by rw [hX1]; rfl) (by omega) hM hS ls (lv_sub hl [0, 1, 2, 3, 4] rfl)
    exact L12 (3 - 0 + 1) H locs 0 (g_up2 X (3 + m0) (5 + p0) dg) (by omega) (rfl) (Nat.lt_succ_self _) hM hS ls (lv_sub hl [0, 1, 2, 3, 4] rfl)
  exact key _ _ hM hS

theorem y_X2_moves : g_Y yX2_moves cX2_moves 2 none 1 := ⟨q2392, by decide +kernel⟩
theorem v_X2_moves : g_YV yX2_moves := ⟨q2391, qs68, q140⟩
set_option maxHeartbeats 4000000 in
theorem k_X2_moves {G : g_G} {l : Launch} {ad : Nat → Nat} {F : Nat → Int32} {X Y : g_Wd} {U V : Nat → g_Wd} {Z : g_Wd} (m0 : Nat) (hm : m0 < s_M X) (hwl : s_wl X) : g_Md G l yX2_moves cX2_moves 2 none 6 0 0 [.ref (ad 0), .int (nI m0)] (g_Mod G ad F X Y U V Z) (g_Qv none (g_Mod G ad F (x_moves X m0) Y U V Z)) (md_A ad) := by
  refine g_Md.ofV (by decide) ?_
  intro p e s m args below meth c ls Q hX hM hl hS hret
  have hx := hX.1.1
  have hb := hX.1.2.1
  have hl : lv_has ls 2 [(0, .ref (ad 0)), (1, .int (nI m0))] := hl
  have key : ∀ (H : Heap) (locs : List Loc), g_Mod G ad F X Y U V Z H → va_S (md_A ad) s.heap H locs → W p l e (g_rm 6 0 0) s m args below meth c H locs 0 0 Q (F0 m 0 ls []) := by
    intro H locs hM hS
    have hW1 := hwl.1
    have ho := hW1.2.2.2 m0 hm
    have hvl := hwl.2 m0 hm
    have hM6 := hW1.2.1.2
    have hL6 := hW1.1.2.2
    have hm0 : m0 < 6 := by omega
    have hL := ho.2
    have T34 : ∀ (H : Heap) (locs : List Loc) (Y1 : g_Wd), (Y1 = x_mv1 X m0) → (g_Mod G ad F Y1 Y U V Z H) → va_S (md_A ad) s.heap H locs → ∀ ls : Array Slot, lv_has ls 2 [(0, .ref (ad 0)), (1, .int (nI m0))] → W p l e (g_rm 6 0 0) s m args below meth c H locs 0 0 Q (F0 m 34 ls []) := by
      intro H locs Y1 hY hM hS ls hl
      have hok1 : s_ok Y1 := by rw [hY]; exact (k_m.mv1 ho).ok (x_mv1_G ho hW1.2.2.1) hW1
      have ho1 : s_okL (Y1 (3 + m0)) := by rw [hY]; exact s_okL_of (k_m.mv1 ho).2.2.2.1 ho
      refine lv_aload_n hx hb dX2_moves_34 rfl (lv_at hl 0 rfl) ?_
      refine lv_iload_n hx hb dX2_moves_35 rfl (lv_at hl 1 rfl) ?_
      refine g_cRV hX hl y_X2_mayArrive v_X2_mayArrive q2448 (k_X2_mayArrive m0 (by omega) ho1 hok1) (hM.rc hX.2.2.2) hM rfl ⟨Nat.le_of_ble_eq_true rfl, Nat.le_of_ble_eq_true rfl⟩ ⟨Nat.zero_le _, Nat.zero_le _⟩ (rest := []) (st1 := [.int (g_b (s_mayA Y1 m0))]) rfl rfl (Nat.le_of_ble_eq_true rfl) dX2_moves_36 ?_
      refine g_if_neB (tgt := 43) hx hb (b := s_mayA Y1 m0) rfl dX2_moves_39 (by decide) (fun c_39 => ?_) (fun c_39 => ?_)
      · skip
        refine lv_aload_n hx hb dX2_moves_43 rfl (lv_at hl 0 rfl) ?_
        refine lv_iload_n hx hb dX2_moves_44 rfl (lv_at hl 1 rfl) ?_
        refine lv_iconst (v := 4) hx hb dX2_moves_45 rfl ?_
        refine lv_aload_n hx hb dX2_moves_46 rfl (lv_at hl 0 rfl) ?_
        refine g_getM hX hM 1 (by decide) q2164 rfl (v := .ref (ad 1)) rfl dX2_moves_47 ?_
        refine lv_iconst (v := 2) hx hb dX2_moves_50 rfl ?_
        refine g_iald hX hM.a1 2 rfl (by omega) (by decide) (v := (Y1 0 2)) rfl dX2_moves_51 ?_
        refine g_cMV hX hl y_X2_puts v_X2_puts q2353 (k_X2_puts m0 4 (Y1 0 2) (by omega) (by omega)) (hM.rc hX.2.2.2) hM rfl ⟨Nat.le_of_ble_eq_true rfl, Nat.le_of_ble_eq_true rfl⟩ ⟨Nat.le_refl _, Nat.le_refl _⟩ (rest := []) (st1 := []) rfl rfl (Nat.le_of_ble_eq_true rfl) dX2_moves_52 hS (fun _ h => h) (fun H locs hM hS _ => ?_)
        refine lv_aload_n hx hb dX2_moves_55 rfl (lv_at hl 0 rfl) ?_
        refine lv_iconst (v := 3) hx hb dX2_moves_56 rfl ?_
        refine lv_iload_n hx hb dX2_moves_57 rfl (lv_at hl 1 rfl) ?_
        refine g_cMV hX hl y_X2_logs v_X2_logs q2361 (k_X2_logs 3 m0 (by omega) (s_okG_of (X := Y1) (by rw [g_up2_row (by omega)]) hok1.2.2.1)) (hM.rc hX.2.2.2) hM rfl ⟨Nat.le_of_ble_eq_true rfl, Nat.le_of_ble_eq_true rfl⟩ ⟨Nat.le_refl _, Nat.le_refl _⟩ (rest := []) (st1 := []) rfl rfl (Nat.le_of_ble_eq_true rfl) dX2_moves_58 hS (fun _ h => h) (fun H locs hM hS _ => ?_)
        exact hret H locs _ _ _ _ dX2_moves_61 hS (Nat.le_refl _) (Nat.le_refl _) (⟨rfl, by unfold x_moves; rw [← hY, if_pos c_39]; exact hM⟩)
      · skip
        exact hret H locs _ _ _ _ dX2_moves_42 hS (Nat.le_refl _) (Nat.le_refl _) (⟨rfl, by unfold x_moves; rw [← hY, if_neg (by simp [c_39])]; exact hM⟩)
    refine lv_aload_n hx hb dX2_moves_0 rfl (lv_at hl 0 rfl) ?_
    refine lv_iload_n hx hb dX2_moves_1 rfl (lv_at hl 1 rfl) ?_
    refine g_cRV hX hl y_X2_willAsk v_X2_willAsk q2393 (k_X2_willAsk m0 (by omega) ho) (hM.rc hX.2.2.2) hM rfl ⟨Nat.le_of_ble_eq_true rfl, Nat.le_of_ble_eq_true rfl⟩ ⟨Nat.zero_le _, Nat.zero_le _⟩ (rest := []) (st1 := [.int (g_b (s_will X m0))]) rfl rfl (Nat.le_of_ble_eq_true rfl) dX2_moves_2 ?_
    refine g_if_eqB (tgt := 16) hx hb (b := s_will X m0) rfl dX2_moves_5 (by decide) (fun c_5 => ?_) (fun c_5 => ?_)
    · skip
      refine lv_aload_n hx hb dX2_moves_16 rfl (lv_at hl 0 rfl) ?_
      refine lv_iload_n hx hb dX2_moves_17 rfl (lv_at hl 1 rfl) ?_
      refine lv_iconst (v := 1) hx hb dX2_moves_18 rfl ?_
      refine g_cRV hX hl y_X2_of v_X2_of q2365 (k_X2_of m0 1 (by omega) (by omega)) (hM.rc hX.2.2.2) hM rfl ⟨Nat.le_of_ble_eq_true rfl, Nat.le_of_ble_eq_true rfl⟩ ⟨Nat.zero_le _, Nat.zero_le _⟩ (rest := []) (st1 := [.int (X (3 + m0) 1)]) rfl rfl (Nat.le_of_ble_eq_true rfl) dX2_moves_19 ?_
      refine lv_aload_n hx hb dX2_moves_22 rfl (lv_at hl 0 rfl) ?_
      refine g_cRV hX hl y_X2_lastLevel v_X2_lastLevel q2440 (k_X2_lastLevel hW1) (hM.rc hX.2.2.2) hM rfl ⟨Nat.le_of_ble_eq_true rfl, Nat.le_of_ble_eq_true rfl⟩ ⟨Nat.zero_le _, Nat.zero_le _⟩ (rest := [.int (X (3 + m0) 1)]) (st1 := [.int (nI (s_L X - 1)), .int (X (3 + m0) 1)]) rfl rfl (Nat.le_of_ble_eq_true rfl) dX2_moves_23 ?_
      refine g_icmp_geN (tgt := 34) hx hb (s_lev (X (3 + m0))) (s_L X - 1) hvl.1 rfl (by omega) (by omega) dX2_moves_26 (by decide) (fun c_26 => ?_) (fun c_26 => ?_)
      · skip
        exact T34 H locs X (by unfold x_mv1; rw [if_neg (by simp [c_5]), if_neg (by rw [hvl.1]; exact nI_nlt c_26 (by omega))]) hM hS ls (lv_sub hl [0, 1] rfl)
      · skip
        refine lv_aload_n hx hb dX2_moves_29 rfl (lv_at hl 0 rfl) ?_
        refine lv_iload_n hx hb dX2_moves_30 rfl (lv_at hl 1 rfl) ?_
        refine g_cMV hX hl y_X2_goesOn v_X2_goesOn q2444 (k_X2_goesOn m0 (by omega) ho ⟨hvl.1, by omega⟩ (by omega) hW1.2.2.1) (hM.rc hX.2.2.2) hM rfl ⟨Nat.le_of_ble_eq_true rfl, Nat.le_of_ble_eq_true rfl⟩ ⟨Nat.le_refl _, Nat.le_refl _⟩ (rest := []) (st1 := []) rfl rfl (Nat.le_of_ble_eq_true rfl) dX2_moves_31 hS (fun _ h => h) (fun H locs hM hS _ => ?_)
        exact T34 H locs (x_goes X m0) (by unfold x_mv1; rw [if_neg (by simp [c_5]), if_pos (by rw [hvl.1]; exact nI_lt c_26 (by omega))]) hM hS ls (lv_sub hl [0, 1] rfl)
    · skip
      refine lv_aload_n hx hb dX2_moves_8 rfl (lv_at hl 0 rfl) ?_
      refine lv_iload_n hx hb dX2_moves_9 rfl (lv_at hl 1 rfl) ?_
      refine g_cMV hX hl y_X2_asks v_X2_asks q2409 (k_X2_asks m0 (by omega) ho ⟨hvl.1, by omega⟩ (s_will_lev c_5 hvl.1) hW1.2.2.1) (hM.rc hX.2.2.2) hM rfl ⟨Nat.le_of_ble_eq_true rfl, Nat.le_of_ble_eq_true rfl⟩ ⟨Nat.le_refl _, Nat.le_refl _⟩ (rest := []) (st1 := []) rfl rfl (Nat.le_of_ble_eq_true rfl) dX2_moves_10 hS (fun _ h => h) (fun H locs hM hS _ => ?_)
      refine lv_goto (tgt := 34) hx hb dX2_moves_13 (by decide) ?_
      exact T34 H locs (x_asks X m0) (by unfold x_mv1; rw [if_pos c_5]) hM hS ls (lv_sub hl [0, 1] rfl)
  exact key _ _ hM hS

theorem y_X2_passes : g_Y yX2_passes cX2_passes 5 (some .int) 1 := ⟨q2377, by decide +kernel⟩
theorem v_X2_passes : g_YV yX2_passes := ⟨q2376, qs65, q140⟩
set_option maxHeartbeats 4000000 in
theorem k_X2_passes {G : g_G} {l : Launch} {ad : Nat → Nat} {F : Nat → Int32} {X Y : g_Wd} {U V : Nat → g_Wd} {Z : g_Wd} (t : Nat) (hwl : s_wl X) (ht : t ≤ 9999) : g_Md G l yX2_passes cX2_passes 5 (some .int) 7 0 0 [.ref (ad 0), .int (nI t)] (g_Mod G ad F X Y U V Z) (g_Qv (some (.int (nI (s_arrd (x_pH X t)) - nI (s_arrd X)))) (g_Mod G ad F (x_pH X t) Y U V Z)) (md_A ad) := by
  refine g_Md.ofI (by decide) (fun _ _ _ => rfl) ?_
  intro p e s m args below meth c ls Q hX hM hl hS hret
  have hx := hX.1.1
  have hb := hX.1.2.1
  have hl : lv_has ls 5 [(0, .ref (ad 0)), (1, .int (nI t))] := hl
  have key : ∀ (H : Heap) (locs : List Loc), g_Mod G ad F X Y U V Z H → va_S (md_A ad) s.heap H locs → W p l e (g_rm 7 0 0) s m args below meth c H locs 0 0 Q (F0 m 0 ls []) := by
    intro H locs hM hS
    have hM6 := hwl.1.2.1.2
    refine lv_aload_n hx hb dX2_passes_0 rfl (lv_at hl 0 rfl) ?_
    refine g_cRV hX hl y_X2_arrivedMany v_X2_arrivedMany q2378 (k_X2_arrivedMany hwl.1) (hM.rc hX.2.2.2) hM rfl ⟨Nat.le_of_ble_eq_true rfl, Nat.le_of_ble_eq_true rfl⟩ ⟨Nat.zero_le _, Nat.zero_le _⟩ (rest := []) (st1 := [.int (nI (s_arrd X))]) rfl rfl (Nat.le_of_ble_eq_true rfl) dX2_passes_1 ?_
    refine lv_istore_n (lv' := [(2, .int (nI (s_arrd X))), (0, .ref (ad 0)), (1, .int (nI t))]) hx hb dX2_passes_4 rfl hl (by decide) rfl (fun ls hl => ?_)
    refine lv_iconst (v := 0) hx hb dX2_passes_5 rfl ?_
    refine lv_istore_n (lv' := [(3, .int 0), (2, .int (nI (s_arrd X))), (0, .ref (ad 0)), (1, .int (nI t))]) hx hb dX2_passes_6 rfl hl (by decide) rfl (fun ls hl => ?_)
    have L7 : ∀ (nf : Nat) (H : Heap) (locs : List Loc) (a : Nat) (X1 : g_Wd), (a ≤ t) → (X1 = x_pH X a) → (t - a < nf) → (g_Mod G ad F X1 Y U V Z H) → va_S (md_A ad) s.heap H locs → ∀ ls : Array Slot, lv_has ls 5 [(3, .int (nI a)), (2, .int (nI (s_arrd X))), (1, .int (nI t)), (0, .ref (ad 0))] → W p l e (g_rm 7 0 0) s m args below meth c H locs 0 0 Q (F0 m 7 ls []) := by
      intro n7
      induction n7 with
      | zero => intro H locs a X1 ha hX1 hn; exact absurd hn (Nat.not_lt_zero _)
      | succ n7 ih7 =>
        intro H locs a X1 ha hX1 hn7 hM hS ls hl
        refine lv_iload_n hx hb dX2_passes_7 rfl (lv_at hl 0 rfl) ?_
        refine lv_iload_n hx hb dX2_passes_8 rfl (lv_at hl 2 rfl) ?_
        refine g_icmp_geN (tgt := 63) hx hb a t rfl rfl (by omega) (by omega) dX2_passes_9 (by decide) (fun c_9 => ?_) (fun c_9 => ?_)
        · skip
          refine lv_aload_n hx hb dX2_passes_63 rfl (lv_at hl 3 rfl) ?_
          refine g_cRV hX hl y_X2_arrivedMany v_X2_arrivedMany q2378 (k_X2_arrivedMany (by rw [hX1]; exact (x_pH_M hwl).1.1)) (hM.rc hX.2.2.2) hM rfl ⟨Nat.le_of_ble_eq_true rfl, Nat.le_of_ble_eq_true rfl⟩ ⟨Nat.zero_le _, Nat.zero_le _⟩ (rest := []) (st1 := [.int (nI (s_arrd X1))]) rfl rfl (Nat.le_of_ble_eq_true rfl) dX2_passes_64 ?_
          refine lv_iload_n hx hb dX2_passes_67 rfl (lv_at hl 1 rfl) ?_
          refine lv_isub hx hb dX2_passes_68 ?_
          exact hret H locs _ _ _ _ _ dX2_passes_69 hS (Nat.le_refl _) (Nat.le_refl _) (by obtain rfl : a = t := (by omega); rw [← hX1]; exact ⟨rfl, hM⟩)
        · skip
          refine lv_iconst (v := 0) hx hb dX2_passes_12 rfl ?_
          refine lv_istore (lv' := [(4, .int 0), (3, .int (nI a)), (2, .int (nI (s_arrd X))), (1, .int (nI t)), (0, .ref (ad 0))]) hx hb dX2_passes_13 hl (by decide) rfl (fun ls hl => ?_)
          have L15 : ∀ (nf : Nat) (H : Heap) (locs : List Loc) (b : Nat) (X2 : g_Wd), (b ≤ s_M X) → (X2 = x_pM X1 b) → (s_M X - b < nf) → (g_Mod G ad F X2 Y U V Z H) → va_S (md_A ad) s.heap H locs → ∀ ls : Array Slot, lv_has ls 5 [(4, .int (nI b)), (3, .int (nI a)), (2, .int (nI (s_arrd X))), (1, .int (nI t)), (0, .ref (ad 0))] → W p l e (g_rm 7 0 0) s m args below meth c H locs 0 0 Q (F0 m 15 ls []) := by
            intro n15
            induction n15 with
            | zero => intro H locs b X2 hb9 hX2 hn; exact absurd hn (Nat.not_lt_zero _)
            | succ n15 ih15 =>
              intro H locs b X2 hb9 hX2 hn15 hM hS ls hl
              have hA := x_pH_M hwl (n := a)
              rw [← hX1] at hA
              have hB := x_pM_M hA.1 (n := b) (by omega)
              rw [← hX2] at hB
              have hm3 : X2 0 3 = nI (s_M X) := by rw [hB.1.1.2.1.1, hB.2.1, hA.2.1]
              refine lv_iload hx hb dX2_passes_15 (lv_at hl 0 rfl) ?_
              refine lv_aload_n hx hb dX2_passes_17 rfl (lv_at hl 4 rfl) ?_
              refine g_getM hX hM 1 (by decide) q2164 rfl (v := .ref (ad 1)) rfl dX2_passes_18 ?_
              refine lv_iconst (v := 3) hx hb dX2_passes_21 rfl ?_
              refine g_iald hX hM.a1 3 rfl (by omega) (by decide) (v := (X2 0 3)) rfl dX2_passes_22 ?_
              refine g_icmp_geN (tgt := 47) hx hb b (s_M X) rfl hm3 (by omega) (by omega) dX2_passes_23 (by decide) (fun c_23 => ?_) (fun c_23 => ?_)
              · skip
                refine lv_aload_n hx hb dX2_passes_47 rfl (lv_at hl 4 rfl) ?_
                refine g_getM hX hM 1 (by decide) q2164 rfl (v := .ref (ad 1)) rfl dX2_passes_48 ?_
                refine lv_iconst (v := 2) hx hb dX2_passes_51 rfl ?_
                refine lv_dup2_11 hx hb dX2_passes_52 rfl rfl ?_
                refine g_iald hX hM.a1 2 rfl (by omega) (by decide) (v := (X2 0 2)) rfl dX2_passes_53 ?_
                refine lv_iconst (v := 1) hx hb dX2_passes_54 rfl ?_
                refine lv_iadd hx hb dX2_passes_55 ?_
                refine g_istX hX hM hS 2 rfl (by omega) (X' := g_up2 X2 0 2 ((X2 0 2) + 1)) (g_flu0 _ (by omega) _) dX2_passes_56 (fun H locs hM hS => ?_)
                refine lv_iinc (v := (nI (a + 1))) (lv' := [(3, .int (nI (a + 1))), (4, .int (nI b)), (2, .int (nI (s_arrd X))), (1, .int (nI t)), (0, .ref (ad 0))]) hx hb dX2_passes_57 hl (k := 1) rfl (nI_1 _) (by decide) rfl (fun ls hl => ?_)
                refine lv_goto (tgt := 7) hx hb dX2_passes_60 (by decide) ?_
                exact ih7 H locs (a + 1) (g_up2 X2 0 2 ((X2 0 2) + 1)) (by omega) (by rw [show x_pH X (a + 1) = g_up2 (x_pM (x_pH X a) (s_M X)) 0 2 (x_pM (x_pH X a) (s_M X) 0 2 + 1) from rfl, ← hX1, show s_M X = b by omega, ← hX2]) (by omega) hM hS ls (lv_sub hl [0, 2, 3, 4] rfl)
              · skip
                refine lv_aload_n hx hb dX2_passes_26 rfl (lv_at hl 4 rfl) ?_
                refine lv_iload hx hb dX2_passes_27 (lv_at hl 0 rfl) ?_
                refine g_cRV hX hl y_X2_isUnderWay v_X2_isUnderWay q2382 (k_X2_isUnderWay b (by omega)) (hM.rc hX.2.2.2) hM rfl ⟨Nat.le_of_ble_eq_true rfl, Nat.le_of_ble_eq_true rfl⟩ ⟨Nat.zero_le _, Nat.zero_le _⟩ (rest := []) (st1 := [.int (g_b (decide (X2 (3 + b) 4 = -1)))]) rfl rfl (Nat.le_of_ble_eq_true rfl) dX2_passes_29 ?_
                refine g_if_eqB (tgt := 41) hx hb (b := decide (X2 (3 + b) 4 = -1)) rfl dX2_passes_32 (by decide) (fun c_32 => ?_) (fun c_32 => ?_)
                · skip
                  refine lv_iinc (v := (nI (b + 1))) (lv' := [(4, .int (nI (b + 1))), (3, .int (nI a)), (2, .int (nI (s_arrd X))), (1, .int (nI t)), (0, .ref (ad 0))]) hx hb dX2_passes_41 hl (k := 0) rfl (nI_1 _) (by decide) rfl (fun ls hl => ?_)
                  refine lv_goto (tgt := 15) hx hb dX2_passes_44 (by decide) ?_
                  exact ih15 H locs (b + 1) X2 (by omega) (by rw [show x_pM X1 (b + 1) = (if x_pM X1 b (3 + b) 4 = -1 then x_moves (x_pM X1 b) b else x_pM X1 b) from rfl, ← hX2]; first | rw [if_pos (of_decide_eq_true c_32)] | rw [if_neg (of_decide_eq_false c_32)]) (by omega) hM hS ls (lv_sub hl [0, 1, 2, 3, 4] rfl)
                · skip
                  refine lv_aload_n hx hb dX2_passes_35 rfl (lv_at hl 4 rfl) ?_
                  refine lv_iload hx hb dX2_passes_36 (lv_at hl 0 rfl) ?_
                  refine g_cMV hX hl y_X2_moves v_X2_moves q2389 (k_X2_moves b (by have h1 := hB.2.1; have h2 := hA.2.1; omega) hB.1) (hM.rc hX.2.2.2) hM rfl ⟨Nat.le_of_ble_eq_true rfl, Nat.le_of_ble_eq_true rfl⟩ ⟨Nat.le_refl _, Nat.le_refl _⟩ (rest := []) (st1 := []) rfl rfl (Nat.le_of_ble_eq_true rfl) dX2_passes_38 hS (fun _ h => h) (fun H locs hM hS _ => ?_)
                  refine lv_iinc (v := (nI (b + 1))) (lv' := [(4, .int (nI (b + 1))), (3, .int (nI a)), (2, .int (nI (s_arrd X))), (1, .int (nI t)), (0, .ref (ad 0))]) hx hb dX2_passes_41 hl (k := 0) rfl (nI_1 _) (by decide) rfl (fun ls hl => ?_)
                  refine lv_goto (tgt := 15) hx hb dX2_passes_44 (by decide) ?_
                  exact ih15 H locs (b + 1) (x_moves X2 b) (by omega) (by rw [show x_pM X1 (b + 1) = (if x_pM X1 b (3 + b) 4 = -1 then x_moves (x_pM X1 b) b else x_pM X1 b) from rfl, ← hX2]; first | rw [if_pos (of_decide_eq_true c_32)] | rw [if_neg (of_decide_eq_false c_32)]) (by omega) hM hS ls (lv_sub hl [0, 1, 2, 3, 4] rfl)
          exact L15 (s_M X - 0 + 1) H locs 0 X1 (by omega) (rfl) (Nat.lt_succ_self _) hM hS ls (lv_sub hl [0, 1, 2, 3, 4] rfl)
    exact L7 (t - 0 + 1) H locs 0 X (by omega) (rfl) (Nat.lt_succ_self _) hM hS ls (lv_sub hl [0, 1, 3, 2] rfl)
  exact key _ _ hM hS

theorem y_X2_arrives : g_Y yX2_arrives cX2_arrives 4 (some .int) 1 := ⟨q2712, by decide +kernel⟩
theorem v_X2_arrives : g_YV yX2_arrives := ⟨q2711, qs118, q140⟩
set_option maxHeartbeats 4000000 in
theorem k_X2_arrives {G : g_G} {l : Launch} {ad : Nat → Nat} {F : Nat → Int32} {X Y : g_Wd} {U V : Nat → g_Wd} {Z : g_Wd} (m0 : Nat) (hm0 : m0 < 6) (hwl : s_wl X) (hT : s_arv X m0) : g_Md G l yX2_arrives cX2_arrives 4 (some .int) 8 0 0 [.ref (ad 0), .int (nI m0)] (g_Mod G ad F X Y U V Z) (g_Qv (some (.int (nI (s_T X m0)))) (g_Mod G ad F (x_end X m0) Y U V Z)) (md_A ad) := by
  refine g_Md.ofI (by decide) (fun _ _ _ => rfl) ?_
  intro p e s m args below meth c ls Q hX hM hl hS hret
  have hx := hX.1.1
  have hb := hX.1.2.1
  have hl : lv_has ls 4 [(0, .ref (ad 0)), (1, .int (nI m0))] := hl
  have key : ∀ (H : Heap) (locs : List Loc), g_Mod G ad F X Y U V Z H → va_S (md_A ad) s.heap H locs → W p l e (g_rm 8 0 0) s m args below meth c H locs 0 0 Q (F0 m 0 ls []) := by
    intro H locs hM hS
    refine lv_iconst (v := 0) hx hb dX2_arrives_0 rfl ?_
    refine lv_istore_n (lv' := [(2, .int 0), (0, .ref (ad 0)), (1, .int (nI m0))]) hx hb dX2_arrives_1 rfl hl (by decide) rfl (fun ls hl => ?_)
    have L2 : ∀ (nf : Nat) (H : Heap) (locs : List Loc) (a : Nat) (X1 : g_Wd), (a ≤ s_T X m0) → (X1 = x_pH X a) → (s_T X m0 - a < nf) → (g_Mod G ad F X1 Y U V Z H) → va_S (md_A ad) s.heap H locs → ∀ ls : Array Slot, lv_has ls 4 [(2, .int (nI a)), (0, .ref (ad 0)), (1, .int (nI m0))] → W p l e (g_rm 8 0 0) s m args below meth c H locs 0 0 Q (F0 m 2 ls []) := by
      intro n2
      induction n2 with
      | zero => intro H locs a X1 ha hX1 hn; exact absurd hn (Nat.not_lt_zero _)
      | succ n2 ih2 =>
        intro H locs a X1 ha hX1 hn2 hM hS ls hl
        have hA := x_pH_M hwl (n := a)
        rw [← hX1] at hA
        refine lv_aload_n hx hb dX2_arrives_2 rfl (lv_at hl 1 rfl) ?_
        refine lv_iload_n hx hb dX2_arrives_3 rfl (lv_at hl 2 rfl) ?_
        refine g_cRV hX hl y_X2_isUnderWay v_X2_isUnderWay q2382 (k_X2_isUnderWay m0 (by omega)) (hM.rc hX.2.2.2) hM rfl ⟨Nat.le_of_ble_eq_true rfl, Nat.le_of_ble_eq_true rfl⟩ ⟨Nat.zero_le _, Nat.zero_le _⟩ (rest := []) (st1 := [.int (g_b (decide (X1 (3 + m0) 4 = -1)))]) rfl rfl (Nat.le_of_ble_eq_true rfl) dX2_arrives_4 ?_
        refine g_if_eqB (tgt := 22) hx hb (b := decide (X1 (3 + m0) 4 = -1)) rfl dX2_arrives_7 (by decide) (fun c_7 => ?_) (fun c_7 => ?_)
        · skip
          refine lv_iload_n hx hb dX2_arrives_22 rfl (lv_at hl 0 rfl) ?_
          exact hret H locs _ _ _ _ _ dX2_arrives_23 hS (Nat.le_refl _) (Nat.le_refl _) (by have h1 := of_decide_eq_false c_7; have h3 : ¬ a < s_T X m0 := (fun z => h1 (by rw [hX1]; exact hT.2.2 a z)); obtain rfl : a = s_T X m0 := (by omega); unfold x_end; rw [← hX1]; exact ⟨rfl, hM⟩)
        · skip
          have hlt : a < s_T X m0 := by have h1 := of_decide_eq_true c_7; have h2 := hT.1; have h3 : a ≠ s_T X m0 := (fun z => h2 (by rw [← z, ← hX1]; exact h1)); omega
          refine lv_aload_n hx hb dX2_arrives_10 rfl (lv_at hl 1 rfl) ?_
          refine lv_iconst (v := 1) hx hb dX2_arrives_11 rfl ?_
          refine g_cMV hX hl y_X2_passes v_X2_passes q2374 (k_X2_passes 1 hA.1 (by omega)) (hM.rc hX.2.2.2) hM rfl ⟨Nat.le_of_ble_eq_true rfl, Nat.le_of_ble_eq_true rfl⟩ ⟨Nat.le_refl _, Nat.le_refl _⟩ (rest := []) (st1 := [.int (nI (s_arrd (x_pH X1 1)) - nI (s_arrd X1))]) rfl rfl (Nat.le_of_ble_eq_true rfl) dX2_arrives_12 hS (fun _ h => h) (fun H locs hM hS _ => ?_)
          refine lv_istore_n (lv' := [(3, .int (nI (s_arrd (x_pH X1 1)) - nI (s_arrd X1))), (2, .int (nI a)), (0, .ref (ad 0)), (1, .int (nI m0))]) hx hb dX2_arrives_15 rfl hl (by decide) rfl (fun ls hl => ?_)
          refine lv_iinc (v := (nI (a + 1))) (lv' := [(2, .int (nI (a + 1))), (3, .int (nI (s_arrd (x_pH X1 1)) - nI (s_arrd X1))), (0, .ref (ad 0)), (1, .int (nI m0))]) hx hb dX2_arrives_16 hl (k := 1) rfl (nI_1 _) (by decide) rfl (fun ls hl => ?_)
          refine lv_goto (tgt := 2) hx hb dX2_arrives_19 (by decide) ?_
          exact ih2 H locs (a + 1) (x_pH X1 1) (by omega) (by rw [hX1, x_pH_1 (by rw [← hX1]; exact hA.2.1)]) (by omega) hM hS ls (lv_sub hl [0, 2, 3] rfl)
    exact L2 (s_T X m0 - 0 + 1) H locs 0 X (by omega) (rfl) (Nat.lt_succ_self _) hM hS ls (lv_sub hl [0, 1, 2] rfl)
  exact key _ _ hM hS
