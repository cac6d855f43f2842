/-! printed by tools/gen.py -/
set_option maxHeartbeats 4000000 in
set_option maxRecDepth 100000 in
theorem met_X7_init (l : Launch) (E : g_E) (G : g_G) (o : Nat) (p1 : Nat) (mc0 ms0 : Nat) (post : g_G → Prop) (hvc : wp_X7_init E G o p1 mc0 ms0 post) : g_MV E l yX7_init (ws_ yX7_init cX7_init 2 (Option.none : Option Jvm.ClassFile.FieldType)) ({ frames := 4, cells := mc0, slots := ms0, locals := 72 } : Room) (g_X E) [.ref o, .ref p1] G (post) := by
  refine g_enter (by decide +kernel) (Nat.le_of_ble_eq_true rfl) ?_
  intro p e s m below meth c ls hx hb hr hts hown hlocks hml hin hz hX hK hG hS hl
  have hl : lv_has ls 2 [(0, .ref o), (1, .ref p1)] := hl
  have hown : s.vm.findClass RX7 = some m.cls := hown
  have hMC : 0 + mc0 ≤ mc0 := Nat.le_of_eq (Nat.zero_add _)
  have hMS : 0 + ms0 ≤ ms0 := Nat.le_of_eq (Nat.zero_add _)
  unfold wp_X7_init at hvc
  refine lv_aload_n hx hb dX7_init_0 rfl (lv_at hl 0 rfl) ?_
  refine lv_aload_n hx hb dX7_init_1 rfl (lv_at hl 1 rfl) ?_
  refine gw_putF (ty := .object "VoteLogs") (C := RX7) (T := TX7) (N := 4) (own := RX7) hx hb hts in_X7 tyX7 tyX7_ok nmX7 hown hK hG hS hvc rfl (by decide) (hts _ q1115) (fun _ h9 => h9) rfl hin rfl (by decide +kernel) rfl rfl dX7_init_2 (fun G1 H locs hvc_1 hG_2 hS_3 => ?_)
  clear hvc hG hS
  refine lv_aload_n hx hb dX7_init_5 rfl (lv_at hl 0 rfl) ?_
  refine W.objInit hx hb hown (hts _ q1106) (hts _ q135) (hts _ q136) rfl (by rw [hml]; exact hl.1) rfl dX7_init_6 (Nat.le_of_ble_eq_true rfl) (Nat.le_of_ble_eq_true rfl) ?_
  refine W.eq (g2 := F0 m 9 ls []) rfl ?_
  refine lv_aload_n hx hb dX7_init_9 rfl (lv_at hl 0 rfl) ?_
  refine gw_new (C := RJ7) (T := TJ7) (N := 3) (own := RX7) hx hb hts in_J7 tyJ7 tyJ7_ok hown (hts _ q1107) (hts _ q198) (hts _ q99) hK hG_2 hS_3 hz hvc_1 rfl (by decide) hMC hMS (Nat.le_refl _) (Nat.le_refl _) dX7_init_10 (fun q2 G3 H ce sl hvc_4 hG_5 hS_6 hMC_7 hMS_8 => ?_)
  clear hvc_1 hG_2 hS_3 hMC hMS
  refine lv_dup hx hb dX7_init_13 rfl ?_
  refine gw_cCVN (As := []) (rest := [.ref q2, .ref o])  ⟨hx, hb, hml, hown, hts⟩ (met_J7_init l E G3 q2 _ hvc_4) (cwI 0 hts (lw_meth q201) rfl rfl rfl (hts _ q99) (hts _ q1108) (hts _ q200) rfl (by decide +kernel) ⟨Nat.le_of_ble_eq_true rfl, Nat.le_of_ble_eq_true rfl⟩) (by show _ ≤ mc0; omega) (by show _ ≤ ms0; omega) (g_X.st E) hz hX hK hG_5 hS_6 rfl hl.1 rfl (Nat.le_of_ble_eq_true rfl) dX7_init_14 (fun G5 H locs hvc_9 hG_10 hS_11 => ?_)
  clear hvc_4 hG_5 hS_6
  refine gw_putF (ty := .object "java/util/List") (C := RX7) (T := TX7) (N := 4) (own := RX7) hx hb hts in_X7 tyX7 tyX7_ok nmX7 hown hK hG_10 hS_11 hvc_9 rfl (by decide) (hts _ q1109) (fun _ h9 => h9) rfl hin rfl (by decide +kernel) rfl rfl dX7_init_17 (fun G6 H locs hvc_12 hG_13 hS_14 => ?_)
  clear hvc_9 hG_10 hS_11
  exact g_vret hx hb hr hlocks (by show _ ≤ mc0; omega) (by show _ ≤ ms0; omega) hG_13 hS_14 hvc_12 dX7_init_20
set_option maxHeartbeats 4000000 in
set_option maxRecDepth 100000 in
theorem met_X7_sees (l : Launch) (E : g_E) (G : g_G) (o : Nat) (p1 : Int32) (p2 : Int32) (mc0 ms0 : Nat) (post : Int32 → g_G → Prop) (hvc : wp_X7_sees E G o p1 p2 mc0 ms0 post) : g_MI E l yX7_sees (ws_ yX7_sees cX7_sees 3 (Option.some Jvm.ClassFile.FieldType.boolean)) ({ frames := 4, cells := mc0, slots := ms0, locals := 88 } : Room) (g_X E) [.ref o, .int p1, .int p2] G (post) := by
  refine g_enter (by decide +kernel) (Nat.le_of_ble_eq_true rfl) ?_
  intro p e s m below meth c ls hx hb hr hts hown hlocks hml hin hz hX hK hG hS hl
  have hl : lv_has ls 3 [(0, .ref o), (1, .int p1), (2, .int p2)] := hl
  have hown : s.vm.findClass RX7 = some m.cls := hown
  have hMC : 0 + mc0 ≤ mc0 := Nat.le_of_eq (Nat.zero_add _)
  have hMS : 0 + ms0 ≤ ms0 := Nat.le_of_eq (Nat.zero_add _)
  unfold wp_X7_sees at hvc
  refine lv_aload_n hx hb dX7_sees_0 rfl (lv_at hl 0 rfl) ?_
  refine gw_gi (C := RX7) (T := TX7) (N := 4) (own := RX7) hx hb hts in_X7 hown hK hG hvc rfl (by decide) (hts _ q1111) (fun _ h9 => h9) dX7_sees_1 (fun x1 hvc_1 => ?_)
  clear hvc
  refine lv_aload_n hx hb dX7_sees_4 rfl (lv_at hl 0 rfl) ?_
  refine gw_gr (C := RX7) (T := TX7) (N := 4) (own := RX7) hx hb hts in_X7 hown hK hG hvc_1 rfl (by decide) (hts _ q1115) (fun _ h9 => h9) dX7_sees_5 (fun x2 hvc_2 => ?_)
  clear hvc_1
  refine gw_grN (C := RX1) (T := TX1) (N := 4) (own := RX7) hx hb hts in_X1 hown hK hG hvc_2 rfl (by decide) (hX.1 _ q346 rfl) (fun _ h9 => h9) dX7_sees_8 (fun x3 hvc_3 => ?_)
  clear hvc_2
  refine gw_cVIP (As := []) (rest := [.int x1])  ⟨hx, hb, hml, hown, hts⟩ (met_J1_length l E G x3 _ hvc_3.2) (cwV 0 hts (lw_V q1141 q616 q2283 q92 q617) rfl rfl rfl (by decide +kernel) ⟨Nat.le_of_ble_eq_true rfl, Nat.le_of_ble_eq_true rfl⟩) (gw_rc (q := (RJ1, TJ1, 4)) hK hG hvc_3.1 rfl) (by show _ ≤ mc0; omega) (by show _ ≤ ms0; omega) (g_St0 E) hz trivial hK hG hS rfl hl.1 rfl (Nat.le_of_ble_eq_true rfl) dX7_sees_11 (fun x4 H locs hvc_4 hG_5 hS_6 => ?_)
  clear hvc_3 hG hS
  refine lv_icmp_ge (tgt := 57) hx hb dX7_sees_14 (by decide) (fun h9 => ?_) (fun h9 => ?_)
  · replace hvc_4 := hvc_4.1 h9
    refine lv_iconst (v := nI 0) hx hb dX7_sees_57 (by decide) ?_
    exact g_iret hx hb hr hlocks (by show _ ≤ mc0; omega) (by show _ ≤ ms0; omega) hG_5 hS_6 rfl hvc_4 dX7_sees_58
  · replace hvc_4 := hvc_4.2 h9
    refine lv_aload_n hx hb dX7_sees_17 rfl (lv_at hl 0 rfl) ?_
    refine gw_gr (C := RX7) (T := TX7) (N := 4) (own := RX7) hx hb hts in_X7 hown hK hG_5 hvc_4 rfl (by decide) (hts _ q1115) (fun _ h9 => h9) dX7_sees_18 (fun x6 hvc_7 => ?_)
    clear hvc_4
    refine gw_grN (C := RX1) (T := TX1) (N := 4) (own := RX7) hx hb hts in_X1 hown hK hG_5 hvc_7 rfl (by decide) (hX.1 _ q346 rfl) (fun _ h9 => h9) dX7_sees_21 (fun x7 hvc_8 => ?_)
    clear hvc_7
    refine lv_aload_n hx hb dX7_sees_24 rfl (lv_at hl 0 rfl) ?_
    refine gw_gi (C := RX7) (T := TX7) (N := 4) (own := RX7) hx hb hts in_X7 hown hK hG_5 hvc_8 rfl (by decide) (hts _ q1111) (fun _ h9 => h9) dX7_sees_25 (fun x8 hvc_9 => ?_)
    clear hvc_8
    obtain ⟨c11, t12, hc1, hs1, hvc_9⟩ := hvc_9
    refine gw_cVIA (As := [.int x8]) (rest := [])  ⟨hx, hb, hml, hown, hts⟩ (met_J1_charAt l E G x7 x8 c11 t12 _ hvc_9.2) (cwV 1 hts (lw_V q1142 q1143 q1144 q92 q1145) rfl rfl rfl (by decide +kernel) ⟨Nat.le_of_ble_eq_true rfl, Nat.le_of_ble_eq_true rfl⟩) (gw_rc (q := (RJ1, TJ1, 4)) hK hG_5 hvc_9.1 rfl) hc1 hs1 hMC hMS (Nat.le_refl _) (Nat.le_refl _) (g_X.st E) hz hX hK hG_5 hS_6 rfl hl.1 rfl (Nat.le_of_ble_eq_true rfl) dX7_sees_28 (fun x9 G10 H locs ce sl hvc_10 hG_11 hS_12 hMC_13 hMS_14 => ?_)
    clear hvc_9 hG_5 hS_6 hMC hMS
    refine lv_iload_n hx hb dX7_sees_31 rfl (lv_at hl 1 rfl) ?_
    refine lv_icmp_lt (tgt := 57) hx hb dX7_sees_32 (by decide) (fun h9 => ?_) (fun h9 => ?_)
    · replace hvc_10 := hvc_10.1 h9
      refine lv_iconst (v := nI 0) hx hb dX7_sees_57 (by decide) ?_
      exact g_iret hx hb hr hlocks (by show _ ≤ mc0; omega) (by show _ ≤ ms0; omega) hG_11 hS_12 rfl hvc_10 dX7_sees_58
    · replace hvc_10 := hvc_10.2 h9
      refine lv_aload_n hx hb dX7_sees_35 rfl (lv_at hl 0 rfl) ?_
      refine gw_gr (C := RX7) (T := TX7) (N := 4) (own := RX7) hx hb hts in_X7 hown hK hG_11 hvc_10 rfl (by decide) (hts _ q1115) (fun _ h9 => h9) dX7_sees_36 (fun x13 hvc_15 => ?_)
      clear hvc_10
      refine gw_grN (C := RX1) (T := TX1) (N := 4) (own := RX7) hx hb hts in_X1 hown hK hG_11 hvc_15 rfl (by decide) (hX.1 _ q346 rfl) (fun _ h9 => h9) dX7_sees_39 (fun x14 hvc_16 => ?_)
      clear hvc_15
      refine lv_aload_n hx hb dX7_sees_42 rfl (lv_at hl 0 rfl) ?_
      refine gw_gi (C := RX7) (T := TX7) (N := 4) (own := RX7) hx hb hts in_X7 hown hK hG_11 hvc_16 rfl (by decide) (hts _ q1111) (fun _ h9 => h9) dX7_sees_43 (fun x15 hvc_17 => ?_)
      clear hvc_16
      obtain ⟨c18, t19, hc1, hs1, hvc_17⟩ := hvc_17
      refine gw_cVIA (As := [.int x15]) (rest := [])  ⟨hx, hb, hml, hown, hts⟩ (met_J1_charAt l E G10 x14 x15 c18 t19 _ hvc_17.2) (cwV 1 hts (lw_V q1142 q1143 q1144 q92 q1145) rfl rfl rfl (by decide +kernel) ⟨Nat.le_of_ble_eq_true rfl, Nat.le_of_ble_eq_true rfl⟩) (gw_rc (q := (RJ1, TJ1, 4)) hK hG_11 hvc_17.1 rfl) hc1 hs1 hMC_13 hMS_14 (Nat.le_refl _) (Nat.le_refl _) (g_X.st E) hz hX hK hG_11 hS_12 rfl hl.1 rfl (Nat.le_of_ble_eq_true rfl) dX7_sees_46 (fun x16 G17 H locs ce sl hvc_18 hG_19 hS_20 hMC_21 hMS_22 => ?_)
      clear hvc_17 hG_11 hS_12 hMC_13 hMS_14
      refine lv_iload_n hx hb dX7_sees_49 rfl (lv_at hl 2 rfl) ?_
      refine lv_icmp_gt (tgt := 57) hx hb dX7_sees_50 (by decide) (fun h9 => ?_) (fun h9 => ?_)
      · replace hvc_18 := hvc_18.1 h9
        refine lv_iconst (v := nI 0) hx hb dX7_sees_57 (by decide) ?_
        exact g_iret hx hb hr hlocks (by show _ ≤ mc0; omega) (by show _ ≤ ms0; omega) hG_19 hS_20 rfl hvc_18 dX7_sees_58
      · replace hvc_18 := hvc_18.2 h9
        refine lv_iconst (v := nI 1) hx hb dX7_sees_53 (by decide) ?_
        refine lv_goto (tgt := 58) hx hb dX7_sees_54 (by decide) ?_
        exact g_iret hx hb hr hlocks (by show _ ≤ mc0; omega) (by show _ ≤ ms0; omega) hG_19 hS_20 rfl hvc_18 dX7_sees_58
set_option maxHeartbeats 4000000 in
set_option maxRecDepth 100000 in
theorem met_X7_next (l : Launch) (E : g_E) (G : g_G) (o : Nat) (p1 : Int32) (p2 : Int32) (mc0 ms0 : Nat) (post : Int32 → g_G → Prop) (hvc : wp_X7_next E G o p1 p2 mc0 ms0 post) : g_MI E l yX7_next (ws_ yX7_next cX7_next 3 (Option.some Jvm.ClassFile.FieldType.int)) ({ frames := 5, cells := mc0, slots := ms0, locals := 110 } : Room) (g_X E) [.ref o, .int p1, .int p2] G (post) := by
  refine g_enter (by decide +kernel) (Nat.le_of_ble_eq_true rfl) ?_
  intro p e s m below meth c ls hx hb hr hts hown hlocks hml hin hz hX hK hG hS hl
  have hl : lv_has ls 3 [(0, .ref o), (1, .int p1), (2, .int p2)] := hl
  have hown : s.vm.findClass RX7 = some m.cls := hown
  have hMC : 0 + mc0 ≤ mc0 := Nat.le_of_eq (Nat.zero_add _)
  have hMS : 0 + ms0 ≤ ms0 := Nat.le_of_eq (Nat.zero_add _)
  unfold wp_X7_next at hvc
  refine lv_aload_n hx hb dX7_next_0 rfl (lv_at hl 0 rfl) ?_
  refine lv_iload_n hx hb dX7_next_1 rfl (lv_at hl 1 rfl) ?_
  refine lv_iload_n hx hb dX7_next_2 rfl (lv_at hl 2 rfl) ?_
  obtain ⟨c3, t4, hc1, hs1, hvc⟩ := hvc
  refine gw_cVIA (As := [.int p1, .int p2]) (rest := [])  ⟨hx, hb, hml, hown, hts⟩ (met_X7_sees l E G o p1 p2 c3 t4 _ hvc.2) (cwV 2 hts (lw_V q1137 q1139 qs16 q124 q1140) rfl rfl rfl (by decide +kernel) ⟨Nat.le_of_ble_eq_true rfl, Nat.le_of_ble_eq_true rfl⟩) (gw_rc (q := (RX7, TX7, 4)) hK hG hvc.1 rfl) hc1 hs1 hMC hMS (Nat.le_refl _) (Nat.le_refl _) (g_X.st E) hz hX hK hG hS rfl hl.1 rfl (Nat.le_of_ble_eq_true rfl) dX7_next_3 (fun x1 G2 H locs ce sl hvc_1 hG_2 hS_3 hMC_4 hMS_5 => ?_)
  clear hvc hG hS hMC hMS
  refine lv_if_ne (tgt := 11) hx hb dX7_next_6 (by decide) (fun h9 => ?_) (fun h9 => ?_)
  · replace hvc_1 := hvc_1.1 h9
    refine lv_aload_n hx hb dX7_next_11 rfl (lv_at hl 0 rfl) ?_
    refine lv_dup hx hb dX7_next_12 rfl ?_
    refine gw_gi (C := RX7) (T := TX7) (N := 4) (own := RX7) hx hb hts in_X7 hown hK hG_2 hvc_1 rfl (by decide) (hts _ q1111) (fun _ h9 => h9) dX7_next_13 (fun x5 hvc_6 => ?_)
    clear hvc_1
    refine lv_iconst (v := nI 1) hx hb dX7_next_16 (by decide) ?_
    refine lv_iadd hx hb dX7_next_17 ?_
    refine gw_put (ty := .int) (C := RX7) (T := TX7) (N := 4) (own := RX7) hx hb hts in_X7 tyX7 tyX7_ok nmX7 hown hK hG_2 hS_3 hvc_6 rfl (by decide) (hts _ q1111) (fun _ h9 => h9) rfl (by decide +kernel) rfl rfl dX7_next_18 (fun G6 H locs hvc_7 hG_8 hS_9 => ?_)
    clear hvc_6 hG_2 hS_3
    refine lv_aload_n hx hb dX7_next_21 rfl (lv_at hl 0 rfl) ?_
    refine gw_gr (C := RX7) (T := TX7) (N := 4) (own := RX7) hx hb hts in_X7 hown hK hG_8 hvc_7 rfl (by decide) (hts _ q1115) (fun _ h9 => h9) dX7_next_22 (fun x7 hvc_10 => ?_)
    clear hvc_7
    refine gw_grN (C := RX1) (T := TX1) (N := 4) (own := RX7) hx hb hts in_X1 hown hK hG_8 hvc_10 rfl (by decide) (hX.1 _ q346 rfl) (fun _ h9 => h9) dX7_next_25 (fun x8 hvc_11 => ?_)
    clear hvc_10
    refine lv_aload_n hx hb dX7_next_28 rfl (lv_at hl 0 rfl) ?_
    refine gw_gi (C := RX7) (T := TX7) (N := 4) (own := RX7) hx hb hts in_X7 hown hK hG_8 hvc_11 rfl (by decide) (hts _ q1111) (fun _ h9 => h9) dX7_next_29 (fun x9 hvc_12 => ?_)
    clear hvc_11
    refine lv_iconst (v := nI 1) hx hb dX7_next_32 (by decide) ?_
    refine lv_isub hx hb dX7_next_33 ?_
    obtain ⟨c12, t13, hc1, hs1, hvc_12⟩ := hvc_12
    refine gw_cVIA (As := [.int (x9 - (nI 1))]) (rest := [])  ⟨hx, hb, hml, hown, hts⟩ (met_J1_charAt l E G6 x8 (x9 - (nI 1)) c12 t13 _ hvc_12.2) (cwV 1 hts (lw_V q1142 q1143 q1144 q92 q1145) rfl rfl rfl (by decide +kernel) ⟨Nat.le_of_ble_eq_true rfl, Nat.le_of_ble_eq_true rfl⟩) (gw_rc (q := (RJ1, TJ1, 4)) hK hG_8 hvc_12.1 rfl) hc1 hs1 hMC_4 hMS_5 (Nat.le_refl _) (Nat.le_refl _) (g_X.st E) hz hX hK hG_8 hS_9 rfl hl.1 rfl (Nat.le_of_ble_eq_true rfl) dX7_next_34 (fun x10 G11 H locs ce sl hvc_13 hG_14 hS_15 hMC_16 hMS_17 => ?_)
    clear hvc_12 hG_8 hS_9 hMC_4 hMS_5
    refine lv_iload_n hx hb dX7_next_37 rfl (lv_at hl 1 rfl) ?_
    refine lv_isub hx hb dX7_next_38 ?_
    exact g_iret hx hb hr hlocks (by show _ ≤ mc0; omega) (by show _ ≤ ms0; omega) hG_14 hS_15 rfl hvc_13 dX7_next_39
  · replace hvc_1 := hvc_1.2 h9
    refine lv_iconst (v := -nI 1) hx hb dX7_next_9 (by decide) ?_
    exact g_iret hx hb hr hlocks (by show _ ≤ mc0; omega) (by show _ ≤ ms0; omega) hG_2 hS_3 rfl hvc_1 dX7_next_10
set_option maxHeartbeats 4000000 in
set_option maxRecDepth 100000 in
theorem met_X7_store (l : Launch) (E : g_E) (G : g_G) (o : Nat) (p1 : Int32) (p2 : Int32) (mc0 ms0 : Nat) (post : Int32 → g_G → Prop) (hvc : wp_X7_store E G o p1 p2 mc0 ms0 post) : g_MI E l yX7_store (ws_ yX7_store cX7_store 4 (Option.some Jvm.ClassFile.FieldType.int)) ({ frames := 6, cells := mc0, slots := ms0, locals := 132 } : Room) (g_X E) [.ref o, .int p1, .int p2] G (post) := by
  refine g_enter (by decide +kernel) (Nat.le_of_ble_eq_true rfl) ?_
  intro p e s m below meth c ls hx hb hr hts hown hlocks hml hin hz hX hK hG hS hl
  have hl : lv_has ls 4 [(0, .ref o), (1, .int p1), (2, .int p2)] := hl
  have hown : s.vm.findClass RX7 = some m.cls := hown
  have hMC : 0 + mc0 ≤ mc0 := Nat.le_of_eq (Nat.zero_add _)
  have hMS : 0 + ms0 ≤ ms0 := Nat.le_of_eq (Nat.zero_add _)
  unfold wp_X7_store at hvc
  refine lv_aload_n hx hb dX7_store_0 rfl (lv_at hl 0 rfl) ?_
  refine lv_bipush (v := nI 48) hx hb dX7_store_1 (by decide) ?_
  refine lv_bipush (v := nI 51) hx hb dX7_store_3 (by decide) ?_
  obtain ⟨c3, t4, hc1, hs1, hvc⟩ := hvc
  refine gw_cVIA (As := [.int (nI 48), .int (nI 51)]) (rest := [])  ⟨hx, hb, hml, hown, hts⟩ (met_X7_sees l E G o (nI 48) (nI 51) c3 t4 _ hvc.2) (cwV 2 hts (lw_V q1137 q1139 qs16 q124 q1140) rfl rfl rfl (by decide +kernel) ⟨Nat.le_of_ble_eq_true rfl, Nat.le_of_ble_eq_true rfl⟩) (gw_rc (q := (RX7, TX7, 4)) hK hG hvc.1 rfl) hc1 hs1 hMC hMS (Nat.le_refl _) (Nat.le_refl _) (g_X.st E) hz hX hK hG hS rfl hl.1 rfl (Nat.le_of_ble_eq_true rfl) dX7_store_5 (fun x1 G2 H locs ce sl hvc_1 hG_2 hS_3 hMC_4 hMS_5 => ?_)
  clear hvc hG hS hMC hMS
  have jn58 : ∀ (y0 : Nat) (s0 : Int32) (G : g_G) (mc : Nat) (ms : Nat) (H : Heap) (locs : List Loc) (ls : Array Slot) (ce sl : Nat), wp_X7_store_58 E post y0 s0 G mc ms → g_H E G H → va_S (g_A E) s.heap H locs → lv_has ls 4 [(0, .ref y0)] → ce + mc ≤ mc0 → sl + ms ≤ ms0 → W p l e ({ frames := 6, cells := mc0, slots := ms0, locals := 132 } : Room) s m ([.ref o, .int p1, .int p2] : List Value).toArray below meth c H locs ce sl (MQ below (va_Qi (post) (g_Bk E) (g_A E)) ([.ref o, .int p1, .int p2] : List Value).toArray s mc0 ms0 (g_A E)) (F0 m 58 ls [.int s0]) := by
    clear hvc_1 hG_2 hS_3 hl hMC_4 hMS_5
    intro y0 s0 G mc ms H locs ls ce sl hvc_6 hG_7 hS_8 hl_9 hMC_10 hMS_11
    refine lv_istore_n (lv' := [(3, .int s0), (0, .ref y0)]) hx hb dX7_store_58 rfl hl_9 (by decide) rfl (fun ls hl_12 => ?_)
    clear hl_9
    refine lv_iload_n hx hb dX7_store_59 rfl (lv_at hl_12 0 rfl) ?_
    refine lv_if_eq (tgt := 74) hx hb dX7_store_60 (by decide) (fun h9 => ?_) (fun h9 => ?_)
    · replace hvc_6 := hvc_6.1 h9
      refine lv_iconst (v := -nI 1) hx hb dX7_store_74 (by decide) ?_
      exact g_iret hx hb hr hlocks (by show _ ≤ mc0; omega) (by show _ ≤ ms0; omega) hG_7 hS_8 rfl hvc_6 dX7_store_75
    · replace hvc_6 := hvc_6.2 h9
      refine lv_aload_n hx hb dX7_store_63 rfl (lv_at hl_12 1 rfl) ?_
      refine lv_bipush (v := nI 48) hx hb dX7_store_64 (by decide) ?_
      refine lv_bipush (v := nI 51) hx hb dX7_store_66 (by decide) ?_
      obtain ⟨c7, t8, hc1, hs1, hvc_6⟩ := hvc_6
      refine gw_cVIA (As := [.int (nI 48), .int (nI 51)]) (rest := [])  ⟨hx, hb, hml, hown, hts⟩ (met_X7_next l E G y0 (nI 48) (nI 51) c7 t8 _ hvc_6.2) (cwV 2 hts (lw_V q1133 q1135 qs15 q124 q1136) rfl rfl rfl (by decide +kernel) ⟨Nat.le_of_ble_eq_true rfl, Nat.le_of_ble_eq_true rfl⟩) (gw_rc (q := (RX7, TX7, 4)) hK hG_7 hvc_6.1 rfl) hc1 hs1 hMC_10 hMS_11 (Nat.le_refl _) (Nat.le_refl _) (g_X.st E) hz hX hK hG_7 hS_8 rfl hl_12.1 rfl (Nat.le_of_ble_eq_true rfl) dX7_store_68 (fun x5 G6 H locs ce sl hvc_13 hG_14 hS_15 hMC_16 hMS_17 => ?_)
      clear hvc_6 hG_7 hS_8 hMC_10 hMS_11
      refine lv_goto (tgt := 75) hx hb dX7_store_71 (by decide) ?_
      exact g_iret hx hb hr hlocks (by show _ ≤ mc0; omega) (by show _ ≤ ms0; omega) hG_14 hS_15 rfl hvc_13 dX7_store_75
  have jn57 : ∀ (y0 : Nat) (G : g_G) (mc : Nat) (ms : Nat) (H : Heap) (locs : List Loc) (ls : Array Slot) (ce sl : Nat), wp_X7_store_57 E post (wp_X7_store_58 E post) y0 G mc ms → g_H E G H → va_S (g_A E) s.heap H locs → lv_has ls 4 [(0, .ref y0)] → ce + mc ≤ mc0 → sl + ms ≤ ms0 → W p l e ({ frames := 6, cells := mc0, slots := ms0, locals := 132 } : Room) s m ([.ref o, .int p1, .int p2] : List Value).toArray below meth c H locs ce sl (MQ below (va_Qi (post) (g_Bk E) (g_A E)) ([.ref o, .int p1, .int p2] : List Value).toArray s mc0 ms0 (g_A E)) (F0 m 57 ls []) := by
    clear hvc_1 hG_2 hS_3 hl hMC_4 hMS_5
    intro y0 G mc ms H locs ls ce sl hvc_18 hG_19 hS_20 hl_21 hMC_22 hMS_23
    refine lv_iconst (v := nI 0) hx hb dX7_store_57 (by decide) ?_
    exact jn58 y0 (nI 0) G mc ms _ _ _ _ _ hvc_18 hG_19 hS_20 (lv_sub hl_21 [0] rfl) hMC_22 hMS_23
  refine lv_if_eq (tgt := 57) hx hb dX7_store_8 (by decide) (fun h9 => ?_) (fun h9 => ?_)
  · replace hvc_1 := hvc_1.1 h9
    exact jn57 o G2 (mc0 - c3) (ms0 - t4) _ _ _ _ _ hvc_1 hG_2 hS_3 (lv_sub hl [0] rfl) hMC_4 hMS_5
  · replace hvc_1 := hvc_1.2 h9
    refine lv_aload_n hx hb dX7_store_11 rfl (lv_at hl 0 rfl) ?_
    refine gw_gr (C := RX7) (T := TX7) (N := 4) (own := RX7) hx hb hts in_X7 hown hK hG_2 hvc_1 rfl (by decide) (hts _ q1115) (fun _ h9 => h9) dX7_store_12 (fun x9 hvc_24 => ?_)
    clear hvc_1
    refine gw_grN (C := RX1) (T := TX1) (N := 4) (own := RX7) hx hb hts in_X1 hown hK hG_2 hvc_24 rfl (by decide) (hX.1 _ q346 rfl) (fun _ h9 => h9) dX7_store_15 (fun x10 hvc_25 => ?_)
    clear hvc_24
    refine lv_aload_n hx hb dX7_store_18 rfl (lv_at hl 0 rfl) ?_
    refine gw_gi (C := RX7) (T := TX7) (N := 4) (own := RX7) hx hb hts in_X7 hown hK hG_2 hvc_25 rfl (by decide) (hts _ q1111) (fun _ h9 => h9) dX7_store_19 (fun x11 hvc_26 => ?_)
    clear hvc_25
    obtain ⟨c14, t15, hc1, hs1, hvc_26⟩ := hvc_26
    refine gw_cVIA (As := [.int x11]) (rest := [])  ⟨hx, hb, hml, hown, hts⟩ (met_J1_charAt l E G2 x10 x11 c14 t15 _ hvc_26.2) (cwV 1 hts (lw_V q1142 q1143 q1144 q92 q1145) rfl rfl rfl (by decide +kernel) ⟨Nat.le_of_ble_eq_true rfl, Nat.le_of_ble_eq_true rfl⟩) (gw_rc (q := (RJ1, TJ1, 4)) hK hG_2 hvc_26.1 rfl) hc1 hs1 hMC_4 hMS_5 (Nat.le_refl _) (Nat.le_refl _) (g_X.st E) hz hX hK hG_2 hS_3 rfl hl.1 rfl (Nat.le_of_ble_eq_true rfl) dX7_store_22 (fun x12 G13 H locs ce sl hvc_27 hG_28 hS_29 hMC_30 hMS_31 => ?_)
    clear hvc_26 hG_2 hS_3 hMC_4 hMS_5
    refine lv_bipush (v := nI 48) hx hb dX7_store_25 (by decide) ?_
    refine lv_isub hx hb dX7_store_27 ?_
    refine lv_iload_n hx hb dX7_store_28 rfl (lv_at hl 1 rfl) ?_
    refine lv_icmp_lt (tgt := 57) hx hb dX7_store_29 (by decide) (fun h9 => ?_) (fun h9 => ?_)
    · replace hvc_27 := hvc_27.1 h9
      exact jn57 o G13 (mc0 - c3 - c14) (ms0 - t4 - t15) _ _ _ _ _ hvc_27 hG_28 hS_29 (lv_sub hl [0] rfl) hMC_30 hMS_31
    · replace hvc_27 := hvc_27.2 h9
      refine lv_aload_n hx hb dX7_store_32 rfl (lv_at hl 0 rfl) ?_
      refine gw_gr (C := RX7) (T := TX7) (N := 4) (own := RX7) hx hb hts in_X7 hown hK hG_28 hvc_27 rfl (by decide) (hts _ q1115) (fun _ h9 => h9) dX7_store_33 (fun x16 hvc_32 => ?_)
      clear hvc_27
      refine gw_grN (C := RX1) (T := TX1) (N := 4) (own := RX7) hx hb hts in_X1 hown hK hG_28 hvc_32 rfl (by decide) (hX.1 _ q346 rfl) (fun _ h9 => h9) dX7_store_36 (fun x17 hvc_33 => ?_)
      clear hvc_32
      refine lv_aload_n hx hb dX7_store_39 rfl (lv_at hl 0 rfl) ?_
      refine gw_gi (C := RX7) (T := TX7) (N := 4) (own := RX7) hx hb hts in_X7 hown hK hG_28 hvc_33 rfl (by decide) (hts _ q1111) (fun _ h9 => h9) dX7_store_40 (fun x18 hvc_34 => ?_)
      clear hvc_33
      obtain ⟨c21, t22, hc1, hs1, hvc_34⟩ := hvc_34
      refine gw_cVIA (As := [.int x18]) (rest := [])  ⟨hx, hb, hml, hown, hts⟩ (met_J1_charAt l E G13 x17 x18 c21 t22 _ hvc_34.2) (cwV 1 hts (lw_V q1142 q1143 q1144 q92 q1145) rfl rfl rfl (by decide +kernel) ⟨Nat.le_of_ble_eq_true rfl, Nat.le_of_ble_eq_true rfl⟩) (gw_rc (q := (RJ1, TJ1, 4)) hK hG_28 hvc_34.1 rfl) hc1 hs1 hMC_30 hMS_31 (Nat.le_refl _) (Nat.le_refl _) (g_X.st E) hz hX hK hG_28 hS_29 rfl hl.1 rfl (Nat.le_of_ble_eq_true rfl) dX7_store_43 (fun x19 G20 H locs ce sl hvc_35 hG_36 hS_37 hMC_38 hMS_39 => ?_)
      clear hvc_34 hG_28 hS_29 hMC_30 hMS_31
      refine lv_bipush (v := nI 48) hx hb dX7_store_46 (by decide) ?_
      refine lv_isub hx hb dX7_store_48 ?_
      refine lv_iload_n hx hb dX7_store_49 rfl (lv_at hl 2 rfl) ?_
      refine lv_icmp_eq (tgt := 57) hx hb dX7_store_50 (by decide) (fun h9 => ?_) (fun h9 => ?_)
      · replace hvc_35 := hvc_35.1 h9
        exact jn57 o G20 (mc0 - c3 - c14 - c21) (ms0 - t4 - t15 - t22) _ _ _ _ _ hvc_35 hG_36 hS_37 (lv_sub hl [0] rfl) hMC_38 hMS_39
      · replace hvc_35 := hvc_35.2 h9
        refine lv_iconst (v := nI 1) hx hb dX7_store_53 (by decide) ?_
        refine lv_goto (tgt := 58) hx hb dX7_store_54 (by decide) ?_
        exact jn58 o (nI 1) G20 (mc0 - c3 - c14 - c21) (ms0 - t4 - t15 - t22) _ _ _ _ _ hvc_35 hG_36 hS_37 (lv_sub hl [0] rfl) hMC_38 hMS_39
set_option maxHeartbeats 4000000 in
set_option maxRecDepth 100000 in
theorem met_X7_size (l : Launch) (E : g_E) (G : g_G) (o : Nat) (mc0 ms0 : Nat) (post : Int32 → g_G → Prop) (hvc : wp_X7_size E G o mc0 ms0 post) : g_MI E l yX7_size (ws_ yX7_size cX7_size 2 (Option.some Jvm.ClassFile.FieldType.int)) ({ frames := 6, cells := mc0, slots := ms0, locals := 132 } : Room) (g_X E) [.ref o] G (post) := by
  refine g_enter (by decide +kernel) (Nat.le_of_ble_eq_true rfl) ?_
  intro p e s m below meth c ls hx hb hr hts hown hlocks hml hin hz hX hK hG hS hl
  have hl : lv_has ls 2 [(0, .ref o)] := hl
  have hown : s.vm.findClass RX7 = some m.cls := hown
  have hMC : 0 + mc0 ≤ mc0 := Nat.le_of_eq (Nat.zero_add _)
  have hMS : 0 + ms0 ≤ ms0 := Nat.le_of_eq (Nat.zero_add _)
  unfold wp_X7_size at hvc
  refine lv_aload_n hx hb dX7_size_0 rfl (lv_at hl 0 rfl) ?_
  refine lv_bipush (v := nI 49) hx hb dX7_size_1 (by decide) ?_
  refine lv_bipush (v := nI 57) hx hb dX7_size_3 (by decide) ?_
  obtain ⟨c3, t4, hc1, hs1, hvc⟩ := hvc
  refine gw_cVIA (As := [.int (nI 49), .int (nI 57)]) (rest := [])  ⟨hx, hb, hml, hown, hts⟩ (met_X7_next l E G o (nI 49) (nI 57) c3 t4 _ hvc.2) (cwV 2 hts (lw_V q1133 q1135 qs15 q124 q1136) rfl rfl rfl (by decide +kernel) ⟨Nat.le_of_ble_eq_true rfl, Nat.le_of_ble_eq_true rfl⟩) (gw_rc (q := (RX7, TX7, 4)) hK hG hvc.1 rfl) hc1 hs1 hMC hMS (Nat.le_refl _) (Nat.le_refl _) (g_X.st E) hz hX hK hG hS rfl hl.1 rfl (Nat.le_of_ble_eq_true rfl) dX7_size_5 (fun x1 G2 H locs ce sl hvc_1 hG_2 hS_3 hMC_4 hMS_5 => ?_)
  clear hvc hG hS hMC hMS
  refine lv_iconst (v := nI 1) hx hb dX7_size_8 (by decide) ?_
  refine lv_iadd hx hb dX7_size_9 ?_
  refine lv_istore_n (lv' := [(1, .int (x1 + (nI 1))), (0, .ref o)]) hx hb dX7_size_10 rfl hl (by decide) rfl (fun ls hl_6 => ?_)
  clear hl
  refine lv_iload_n hx hb dX7_size_11 rfl (lv_at hl_6 0 rfl) ?_
  refine lv_if_le (tgt := 67) hx hb dX7_size_12 (by decide) (fun h9 => ?_) (fun h9 => ?_)
  · replace hvc_1 := hvc_1.1 h9
    refine lv_iload_n hx hb dX7_size_67 rfl (lv_at hl_6 0 rfl) ?_
    exact g_iret hx hb hr hlocks (by show _ ≤ mc0; omega) (by show _ ≤ ms0; omega) hG_2 hS_3 rfl hvc_1 dX7_size_68
  · replace hvc_1 := hvc_1.2 h9
    refine lv_aload_n hx hb dX7_size_15 rfl (lv_at hl_6 1 rfl) ?_
    refine lv_bipush (v := nI 48) hx hb dX7_size_16 (by decide) ?_
    refine lv_bipush (v := nI 57) hx hb dX7_size_18 (by decide) ?_
    obtain ⟨c7, t8, hc1, hs1, hvc_1⟩ := hvc_1
    refine gw_cVIA (As := [.int (nI 48), .int (nI 57)]) (rest := [])  ⟨hx, hb, hml, hown, hts⟩ (met_X7_sees l E G2 o (nI 48) (nI 57) c7 t8 _ hvc_1.2) (cwV 2 hts (lw_V q1137 q1139 qs16 q124 q1140) rfl rfl rfl (by decide +kernel) ⟨Nat.le_of_ble_eq_true rfl, Nat.le_of_ble_eq_true rfl⟩) (gw_rc (q := (RX7, TX7, 4)) hK hG_2 hvc_1.1 rfl) hc1 hs1 hMC_4 hMS_5 (Nat.le_refl _) (Nat.le_refl _) (g_X.st E) hz hX hK hG_2 hS_3 rfl hl_6.1 rfl (Nat.le_of_ble_eq_true rfl) dX7_size_20 (fun x5 G6 H locs ce sl hvc_7 hG_8 hS_9 hMC_10 hMS_11 => ?_)
    clear hvc_1 hG_2 hS_3 hMC_4 hMS_5
    refine lv_if_eq (tgt := 67) hx hb dX7_size_23 (by decide) (fun h9 => ?_) (fun h9 => ?_)
    · replace hvc_7 := hvc_7.1 h9
      refine lv_iload_n hx hb dX7_size_67 rfl (lv_at hl_6 0 rfl) ?_
      exact g_iret hx hb hr hlocks (by show _ ≤ mc0; omega) (by show _ ≤ ms0; omega) hG_8 hS_9 rfl hvc_7 dX7_size_68
    · replace hvc_7 := hvc_7.2 h9
      refine lv_bipush (v := nI 10) hx hb dX7_size_26 (by decide) ?_
      refine lv_iload_n hx hb dX7_size_28 rfl (lv_at hl_6 0 rfl) ?_
      refine lv_imul hx hb dX7_size_29 ?_
      refine lv_aload_n hx hb dX7_size_30 rfl (lv_at hl_6 1 rfl) ?_
      refine gw_gr (C := RX7) (T := TX7) (N := 4) (own := RX7) hx hb hts in_X7 hown hK hG_8 hvc_7 rfl (by decide) (hts _ q1115) (fun _ h9 => h9) dX7_size_31 (fun x9 hvc_12 => ?_)
      clear hvc_7
      refine gw_grN (C := RX1) (T := TX1) (N := 4) (own := RX7) hx hb hts in_X1 hown hK hG_8 hvc_12 rfl (by decide) (hX.1 _ q346 rfl) (fun _ h9 => h9) dX7_size_34 (fun x10 hvc_13 => ?_)
      clear hvc_12
      refine lv_aload_n hx hb dX7_size_37 rfl (lv_at hl_6 1 rfl) ?_
      refine gw_gi (C := RX7) (T := TX7) (N := 4) (own := RX7) hx hb hts in_X7 hown hK hG_8 hvc_13 rfl (by decide) (hts _ q1111) (fun _ h9 => h9) dX7_size_38 (fun x11 hvc_14 => ?_)
      clear hvc_13
      obtain ⟨c14, t15, hc1, hs1, hvc_14⟩ := hvc_14
      refine gw_cVIA (As := [.int x11]) (rest := [.int ((nI 10) * (x1 + (nI 1)))])  ⟨hx, hb, hml, hown, hts⟩ (met_J1_charAt l E G6 x10 x11 c14 t15 _ hvc_14.2) (cwV 1 hts (lw_V q1142 q1143 q1144 q92 q1145) rfl rfl rfl (by decide +kernel) ⟨Nat.le_of_ble_eq_true rfl, Nat.le_of_ble_eq_true rfl⟩) (gw_rc (q := (RJ1, TJ1, 4)) hK hG_8 hvc_14.1 rfl) hc1 hs1 hMC_10 hMS_11 (Nat.le_refl _) (Nat.le_refl _) (g_X.st E) hz hX hK hG_8 hS_9 rfl hl_6.1 rfl (Nat.le_of_ble_eq_true rfl) dX7_size_41 (fun x12 G13 H locs ce sl hvc_15 hG_16 hS_17 hMC_18 hMS_19 => ?_)
      clear hvc_14 hG_8 hS_9 hMC_10 hMS_11
      refine lv_iadd hx hb dX7_size_44 ?_
      refine lv_bipush (v := nI 48) hx hb dX7_size_45 (by decide) ?_
      refine lv_isub hx hb dX7_size_47 ?_
      refine lv_bipush (v := nI 50) hx hb dX7_size_48 (by decide) ?_
      refine lv_icmp_gt (tgt := 67) hx hb dX7_size_50 (by decide) (fun h9 => ?_) (fun h9 => ?_)
      · replace hvc_15 := hvc_15.1 h9
        refine lv_iload_n hx hb dX7_size_67 rfl (lv_at hl_6 0 rfl) ?_
        exact g_iret hx hb hr hlocks (by show _ ≤ mc0; omega) (by show _ ≤ ms0; omega) hG_16 hS_17 rfl hvc_15 dX7_size_68
      · replace hvc_15 := hvc_15.2 h9
        refine lv_bipush (v := nI 10) hx hb dX7_size_53 (by decide) ?_
        refine lv_iload_n hx hb dX7_size_55 rfl (lv_at hl_6 0 rfl) ?_
        refine lv_imul hx hb dX7_size_56 ?_
        refine lv_aload_n hx hb dX7_size_57 rfl (lv_at hl_6 1 rfl) ?_
        refine lv_bipush (v := nI 48) hx hb dX7_size_58 (by decide) ?_
        refine lv_bipush (v := nI 57) hx hb dX7_size_60 (by decide) ?_
        obtain ⟨c18, t19, hc1, hs1, hvc_15⟩ := hvc_15
        refine gw_cVIA (As := [.int (nI 48), .int (nI 57)]) (rest := [.int ((nI 10) * (x1 + (nI 1)))])  ⟨hx, hb, hml, hown, hts⟩ (met_X7_next l E G13 o (nI 48) (nI 57) c18 t19 _ hvc_15.2) (cwV 2 hts (lw_V q1133 q1135 qs15 q124 q1136) rfl rfl rfl (by decide +kernel) ⟨Nat.le_of_ble_eq_true rfl, Nat.le_of_ble_eq_true rfl⟩) (gw_rc (q := (RX7, TX7, 4)) hK hG_16 hvc_15.1 rfl) hc1 hs1 hMC_18 hMS_19 (Nat.le_refl _) (Nat.le_refl _) (g_X.st E) hz hX hK hG_16 hS_17 rfl hl_6.1 rfl (Nat.le_of_ble_eq_true rfl) dX7_size_62 (fun x16 G17 H locs ce sl hvc_20 hG_21 hS_22 hMC_23 hMS_24 => ?_)
        clear hvc_15 hG_16 hS_17 hMC_18 hMS_19
        refine lv_iadd hx hb dX7_size_65 ?_
        refine lv_istore_n (lv' := [(1, .int (((nI 10) * (x1 + (nI 1))) + x16)), (0, .ref o)]) hx hb dX7_size_66 rfl hl_6 (by decide) rfl (fun ls hl_25 => ?_)
        clear hl_6
        refine lv_iload_n hx hb dX7_size_67 rfl (lv_at hl_25 0 rfl) ?_
        exact g_iret hx hb hr hlocks (by show _ ≤ mc0; omega) (by show _ ≤ ms0; omega) hG_21 hS_22 rfl hvc_20 dX7_size_68
set_option maxHeartbeats 4000000 in
set_option maxRecDepth 100000 in
theorem met_X7_beginning (l : Launch) (E : g_E) (G : g_G) (o : Nat) (mc0 ms0 : Nat) (post : Int32 → g_G → Prop) (hvc : wp_X7_beginning E G o mc0 ms0 post) : g_MI E l yX7_beginning (ws_ yX7_beginning cX7_beginning 5 (Option.some Jvm.ClassFile.FieldType.boolean)) ({ frames := 7, cells := mc0, slots := ms0, locals := 191 } : Room) (g_X E) [.ref o] G (post) := by
  refine g_enter (by decide +kernel) (Nat.le_of_ble_eq_true rfl) ?_
  intro p e s m below meth c ls hx hb hr hts hown hlocks hml hin hz hX hK hG hS hl
  have hl : lv_has ls 5 [(0, .ref o)] := hl
  have hown : s.vm.findClass RX7 = some m.cls := hown
  have hMC : 0 + mc0 ≤ mc0 := Nat.le_of_eq (Nat.zero_add _)
  have hMS : 0 + ms0 ≤ ms0 := Nat.le_of_eq (Nat.zero_add _)
  unfold wp_X7_beginning at hvc
  refine lv_aload_n hx hb dX7_beginning_0 rfl (lv_at hl 0 rfl) ?_
  refine lv_bipush (v := nI 48) hx hb dX7_beginning_1 (by decide) ?_
  refine lv_bipush (v := nI 51) hx hb dX7_beginning_3 (by decide) ?_
  obtain ⟨c3, t4, hc1, hs1, hvc⟩ := hvc
  refine gw_cVIA (As := [.int (nI 48), .int (nI 51)]) (rest := [])  ⟨hx, hb, hml, hown, hts⟩ (met_X7_next l E G o (nI 48) (nI 51) c3 t4 _ hvc.2) (cwV 2 hts (lw_V q1133 q1135 qs15 q124 q1136) rfl rfl rfl (by decide +kernel) ⟨Nat.le_of_ble_eq_true rfl, Nat.le_of_ble_eq_true rfl⟩) (gw_rc (q := (RX7, TX7, 4)) hK hG hvc.1 rfl) hc1 hs1 hMC hMS (Nat.le_refl _) (Nat.le_refl _) (g_X.st E) hz hX hK hG hS rfl hl.1 rfl (Nat.le_of_ble_eq_true rfl) dX7_beginning_5 (fun x1 G2 H locs ce sl hvc_1 hG_2 hS_3 hMC_4 hMS_5 => ?_)
  clear hvc hG hS hMC hMS
  refine lv_istore_n (lv' := [(1, .int x1), (0, .ref o)]) hx hb dX7_beginning_8 rfl hl (by decide) rfl (fun ls hl_6 => ?_)
  clear hl
  refine lv_iload_n hx hb dX7_beginning_9 rfl (lv_at hl_6 0 rfl) ?_
  refine lv_iconst (v := -nI 1) hx hb dX7_beginning_10 (by decide) ?_
  have jn35 : ∀ (y0 : Nat) (y1 : Int32) (s0 : Int32) (G : g_G) (mc : Nat) (ms : Nat) (H : Heap) (locs : List Loc) (ls : Array Slot) (ce sl : Nat), wp_X7_beginning_35 E post y0 y1 s0 G mc ms → g_H E G H → va_S (g_A E) s.heap H locs → lv_has ls 5 [(0, .ref y0), (1, .int y1)] → ce + mc ≤ mc0 → sl + ms ≤ ms0 → W p l e ({ frames := 7, cells := mc0, slots := ms0, locals := 191 } : Room) s m ([.ref o] : List Value).toArray below meth c H locs ce sl (MQ below (va_Qi (post) (g_Bk E) (g_A E)) ([.ref o] : List Value).toArray s mc0 ms0 (g_A E)) (F0 m 35 ls [.int s0]) := by
    clear hvc_1 hG_2 hS_3 hl_6 hMC_4 hMS_5
    intro y0 y1 s0 G mc ms H locs ls ce sl hvc_7 hG_8 hS_9 hl_10 hMC_11 hMS_12
    refine lv_istore_n (lv' := [(2, .int s0), (0, .ref y0), (1, .int y1)]) hx hb dX7_beginning_35 rfl hl_10 (by decide) rfl (fun ls hl_13 => ?_)
    clear hl_10
    refine lv_iconst (v := nI 0) hx hb dX7_beginning_36 (by decide) ?_
    have lp38 : ∀ (n38 : Nat) (y0 : Nat) (y1 : Int32) (y2 : Int32) (y3 : Int32) (G : g_G) (mc : Nat) (ms : Nat) (H : Heap) (locs : List Loc) (ls : Array Slot) (ce sl : Nat), wp_X7_beginning_38 E post n38 y0 y1 y2 y3 G mc ms → g_H E G H → va_S (g_A E) s.heap H locs → lv_has ls 5 [(0, .ref y0), (1, .int y1), (2, .int y2), (3, .int y3)] → ce + mc ≤ mc0 → sl + ms ≤ ms0 → W p l e ({ frames := 7, cells := mc0, slots := ms0, locals := 191 } : Room) s m ([.ref o] : List Value).toArray below meth c H locs ce sl (MQ below (va_Qi (post) (g_Bk E) (g_A E)) ([.ref o] : List Value).toArray s mc0 ms0 (g_A E)) (F0 m 38 ls []) := by
      clear hvc_7 hG_8 hS_9 hl_13 hMC_11 hMS_12
      intro n38
      induction n38 with
      | zero =>
        intro y0 y1 y2 y3 G mc ms H locs ls ce sl hvc_14 hG_15 hS_16 hl_17 hMC_18 hMS_19
        exact False.elim hvc_14
      | succ n38 ih38 =>
        intro y0 y1 y2 y3 G mc ms H locs ls ce sl hvc_20 hG_21 hS_22 hl_23 hMC_24 hMS_25
        refine lv_iload_n hx hb dX7_beginning_38 rfl (lv_at hl_23 2 rfl) ?_
        refine lv_iconst (v := -nI 1) hx hb dX7_beginning_39 (by decide) ?_
        refine lv_icmp_eq (tgt := 61) hx hb dX7_beginning_40 (by decide) (fun h9 => ?_) (fun h9 => ?_)
        · replace hvc_20 := hvc_20.1 h9
          refine lv_iload_n hx hb dX7_beginning_61 rfl (lv_at hl_23 3 rfl) ?_
          have jn84 : ∀ (y0 : Nat) (y1 : Int32) (y3 : Int32) (s0 : Int32) (G : g_G) (mc : Nat) (ms : Nat) (H : Heap) (locs : List Loc) (ls : Array Slot) (ce sl : Nat), wp_X7_beginning_84 E post y0 y1 y3 s0 G mc ms → g_H E G H → va_S (g_A E) s.heap H locs → lv_has ls 5 [(0, .ref y0), (1, .int y1), (3, .int y3)] → ce + mc ≤ mc0 → sl + ms ≤ ms0 → W p l e ({ frames := 7, cells := mc0, slots := ms0, locals := 191 } : Room) s m ([.ref o] : List Value).toArray below meth c H locs ce sl (MQ below (va_Qi (post) (g_Bk E) (g_A E)) ([.ref o] : List Value).toArray s mc0 ms0 (g_A E)) (F0 m 84 ls [.int s0]) := by
            clear hvc_20 hG_21 hS_22 hl_23 hMC_24 hMS_25
            intro y0 y1 y3 s0 G mc ms H locs ls ce sl hvc_26 hG_27 hS_28 hl_29 hMC_30 hMS_31
            refine lv_istore (lv' := [(4, .int s0), (0, .ref y0), (1, .int y1), (3, .int y3)]) hx hb dX7_beginning_84 hl_29 (by decide) rfl (fun ls hl_32 => ?_)
            clear hl_29
            refine lv_iload hx hb dX7_beginning_86 (lv_at hl_32 0 rfl) ?_
            refine lv_if_le (tgt := 125) hx hb dX7_beginning_88 (by decide) (fun h9 => ?_) (fun h9 => ?_)
            · replace hvc_26 := hvc_26.1 h9
              refine lv_iconst (v := nI 0) hx hb dX7_beginning_125 (by decide) ?_
              exact g_iret hx hb hr hlocks (by show _ ≤ mc0; omega) (by show _ ≤ ms0; omega) hG_27 hS_28 rfl hvc_26 dX7_beginning_126
            · replace hvc_26 := hvc_26.2 h9
              refine lv_aload_n hx hb dX7_beginning_91 rfl (lv_at hl_32 1 rfl) ?_
              refine gw_gr (C := RX7) (T := TX7) (N := 4) (own := RX7) hx hb hts in_X7 hown hK hG_27 hvc_26 rfl (by decide) (hts _ q1109) (fun _ h9 => h9) dX7_beginning_92 (fun x5 hvc_33 => ?_)
              clear hvc_26
              refine gw_new (C := RX8) (T := TX8) (N := 1) (own := RX7) hx hb hts in_X8 tyX8 tyX8_ok hown (hts _ q1167) (hts _ q1168) (hts _ q125) hK hG_27 hS_28 hz hvc_33 rfl (by decide) hMC_30 hMS_31 (Nat.le_refl _) (Nat.le_refl _) dX7_beginning_95 (fun q6 G7 H ce sl hvc_34 hG_35 hS_36 hMC_37 hMS_38 => ?_)
              clear hvc_33 hG_27 hS_28 hMC_30 hMS_31
              refine lv_dup hx hb dX7_beginning_98 rfl ?_
              refine gw_new (C := RX4) (T := TX4) (N := 3) (own := RX7) hx hb hts in_X4 tyX4 tyX4_ok hown (hts _ q1169) (hts _ q1170) (hts _ q117) hK hG_35 hS_36 hz hvc_34 rfl (by decide) hMC_37 hMS_38 (Nat.le_refl _) (Nat.le_refl _) dX7_beginning_99 (fun q8 G9 H ce sl hvc_39 hG_40 hS_41 hMC_42 hMS_43 => ?_)
              clear hvc_34 hG_35 hS_36 hMC_37 hMS_38
              refine lv_dup hx hb dX7_beginning_102 rfl ?_
              refine lv_iload_n hx hb dX7_beginning_103 rfl (lv_at hl_32 2 rfl) ?_
              refine lv_iload_n hx hb dX7_beginning_104 rfl (lv_at hl_32 3 rfl) ?_
              refine lv_iload hx hb dX7_beginning_105 (lv_at hl_32 0 rfl) ?_
              refine gw_cCVN (As := [.int y1, .int y3, .int s0]) (rest := [.ref q8, .ref q6, .ref q6, .ref x5])  ⟨hx, hb, hml, hown, hts⟩ (met_X4_init l E G9 q8 y1 y3 s0 _ hvc_39) (cwI 3 hts (lw_meth q1173) rfl rfl rfl (hts _ q117) (hts _ q1171) (hts _ q1172) rfl (by decide +kernel) ⟨Nat.le_of_ble_eq_true rfl, Nat.le_of_ble_eq_true rfl⟩) (by show _ ≤ mc0; omega) (by show _ ≤ ms0; omega) (g_St0 E) hz trivial hK hG_40 hS_41 rfl hl_32.1 rfl (Nat.le_of_ble_eq_true rfl) dX7_beginning_107 (fun G11 H locs hvc_44 hG_45 hS_46 => ?_)
              clear hvc_39 hG_40 hS_41
              refine gw_cCVN (As := [.ref q8]) (rest := [.ref q6, .ref x5])  ⟨hx, hb, hml, hown, hts⟩ (met_X8_init l E G11 q6 q8 _ hvc_44) (cwI 1 hts (lw_meth q1188) rfl rfl rfl (hts _ q125) (hts _ q1186) (hts _ q1187) rfl (by decide +kernel) ⟨Nat.le_of_ble_eq_true rfl, Nat.le_of_ble_eq_true rfl⟩) (by show _ ≤ mc0; omega) (by show _ ≤ ms0; omega) (g_St0 E) hz trivial hK hG_45 hS_46 rfl hl_32.1 rfl (Nat.le_of_ble_eq_true rfl) dX7_beginning_110 (fun G13 H locs hvc_47 hG_48 hS_49 => ?_)
              clear hvc_44 hG_45 hS_46
              obtain ⟨c16, t17, hc1, hs1, hvc_47⟩ := hvc_47
              refine gw_cFIA (As := [.ref q6]) (rest := []) (hK.1 9 _ rfl).2  ⟨hx, hb, hml, hown, hts⟩ (met_J7_add l E G13 x5 q6 c16 t17 _ hvc_47.2) (va_cwF 1 hts (lw_F q1196 q228 q230 q99 q232) rfl rfl rfl (hX.fw (List.mem_of_getElem? (i := 0) rfl)) (by decide +kernel) ⟨Nat.le_of_ble_eq_true rfl, Nat.le_of_ble_eq_true rfl⟩) (gw_rc (q := (RJ7, TJ7, 3)) hK hG_48 hvc_47.1 rfl) hc1 hs1 hMC_42 hMS_43 (Nat.le_refl _) (Nat.le_refl _) (g_X.st E) hz hX hK hG_48 hS_49 rfl hl_32.1 rfl (Nat.le_of_ble_eq_true rfl) dX7_beginning_113 (fun x14 G15 H locs ce sl hvc_50 hG_51 hS_52 hMC_53 hMS_54 => ?_)
              clear hvc_47 hG_48 hS_49 hMC_42 hMS_43
              refine lv_if_eq (tgt := 125) hx hb dX7_beginning_118 (by decide) (fun h9 => ?_) (fun h9 => ?_)
              · replace hvc_50 := hvc_50.1 h9
                refine lv_iconst (v := nI 0) hx hb dX7_beginning_125 (by decide) ?_
                exact g_iret hx hb hr hlocks (by show _ ≤ mc0; omega) (by show _ ≤ ms0; omega) hG_51 hS_52 rfl hvc_50 dX7_beginning_126
              · replace hvc_50 := hvc_50.2 h9
                refine lv_iconst (v := nI 1) hx hb dX7_beginning_121 (by decide) ?_
                refine lv_goto (tgt := 126) hx hb dX7_beginning_122 (by decide) ?_
                exact g_iret hx hb hr hlocks (by show _ ≤ mc0; omega) (by show _ ≤ ms0; omega) hG_51 hS_52 rfl hvc_50 dX7_beginning_126
          have jn83 : ∀ (y0 : Nat) (y1 : Int32) (y3 : Int32) (G : g_G) (mc : Nat) (ms : Nat) (H : Heap) (locs : List Loc) (ls : Array Slot) (ce sl : Nat), wp_X7_beginning_83 E post (wp_X7_beginning_84 E post) y0 y1 y3 G mc ms → g_H E G H → va_S (g_A E) s.heap H locs → lv_has ls 5 [(0, .ref y0), (1, .int y1), (3, .int y3)] → ce + mc ≤ mc0 → sl + ms ≤ ms0 → W p l e ({ frames := 7, cells := mc0, slots := ms0, locals := 191 } : Room) s m ([.ref o] : List Value).toArray below meth c H locs ce sl (MQ below (va_Qi (post) (g_Bk E) (g_A E)) ([.ref o] : List Value).toArray s mc0 ms0 (g_A E)) (F0 m 83 ls []) := by
            clear hvc_20 hG_21 hS_22 hl_23 hMC_24 hMS_25
            intro y0 y1 y3 G mc ms H locs ls ce sl hvc_55 hG_56 hS_57 hl_58 hMC_59 hMS_60
            refine lv_iconst (v := nI 0) hx hb dX7_beginning_83 (by decide) ?_
            exact jn84 y0 y1 y3 (nI 0) G mc ms _ _ _ _ _ hvc_55 hG_56 hS_57 (lv_sub hl_58 [0, 1, 2] rfl) hMC_59 hMS_60
          refine lv_if_eq (tgt := 83) hx hb dX7_beginning_62 (by decide) (fun h9 => ?_) (fun h9 => ?_)
          · replace hvc_20 := hvc_20.1 h9
            exact jn83 y0 y1 y3 G mc ms _ _ _ _ _ hvc_20 hG_21 hS_22 (lv_sub hl_23 [0, 1, 3] rfl) hMC_24 hMS_25
          · replace hvc_20 := hvc_20.2 h9
            refine lv_aload_n hx hb dX7_beginning_65 rfl (lv_at hl_23 0 rfl) ?_
            refine lv_bipush (v := nI 58) hx hb dX7_beginning_66 (by decide) ?_
            refine lv_bipush (v := nI 58) hx hb dX7_beginning_68 (by decide) ?_
            obtain ⟨c20, t21, hc1, hs1, hvc_20⟩ := hvc_20
            refine gw_cVIA (As := [.int (nI 58), .int (nI 58)]) (rest := [])  ⟨hx, hb, hml, hown, hts⟩ (met_X7_next l E G y0 (nI 58) (nI 58) c20 t21 _ hvc_20.2) (cwV 2 hts (lw_V q1133 q1135 qs15 q124 q1136) rfl rfl rfl (by decide +kernel) ⟨Nat.le_of_ble_eq_true rfl, Nat.le_of_ble_eq_true rfl⟩) (gw_rc (q := (RX7, TX7, 4)) hK hG_21 hvc_20.1 rfl) hc1 hs1 hMC_24 hMS_25 (Nat.le_refl _) (Nat.le_refl _) (g_X.st E) hz hX hK hG_21 hS_22 rfl hl_23.1 rfl (Nat.le_of_ble_eq_true rfl) dX7_beginning_70 (fun x18 G19 H locs ce sl hvc_61 hG_62 hS_63 hMC_64 hMS_65 => ?_)
            clear hvc_20 hG_21 hS_22 hMC_24 hMS_25
            refine lv_if_ne (tgt := 83) hx hb dX7_beginning_73 (by decide) (fun h9 => ?_) (fun h9 => ?_)
            · replace hvc_61 := hvc_61.1 h9
              exact jn83 y0 y1 y3 G19 (mc - c20) (ms - t21) _ _ _ _ _ hvc_61 hG_62 hS_63 (lv_sub hl_23 [0, 1, 3] rfl) hMC_64 hMS_65
            · replace hvc_61 := hvc_61.2 h9
              refine lv_aload_n hx hb dX7_beginning_76 rfl (lv_at hl_23 0 rfl) ?_
              obtain ⟨c24, t25, hc1, hs1, hvc_61⟩ := hvc_61
              refine gw_cVIA (As := []) (rest := [])  ⟨hx, hb, hml, hown, hts⟩ (met_X7_size l E G19 y0 c24 t25 _ hvc_61.2) (cwV 0 hts (lw_V q1163 q1165 qs19 q124 q1166) rfl rfl rfl (by decide +kernel) ⟨Nat.le_of_ble_eq_true rfl, Nat.le_of_ble_eq_true rfl⟩) (gw_rc (q := (RX7, TX7, 4)) hK hG_62 hvc_61.1 rfl) hc1 hs1 hMC_64 hMS_65 (Nat.le_refl _) (Nat.le_refl _) (g_X.st E) hz hX hK hG_62 hS_63 rfl hl_23.1 rfl (Nat.le_of_ble_eq_true rfl) dX7_beginning_77 (fun x22 G23 H locs ce sl hvc_66 hG_67 hS_68 hMC_69 hMS_70 => ?_)
              clear hvc_61 hG_62 hS_63 hMC_64 hMS_65
              refine lv_goto (tgt := 84) hx hb dX7_beginning_80 (by decide) ?_
              exact jn84 y0 y1 y3 x22 G23 (mc - c20 - c24) (ms - t21 - t25) _ _ _ _ _ hvc_66 hG_67 hS_68 (lv_sub hl_23 [0, 1, 3] rfl) hMC_69 hMS_70
        · replace hvc_20 := hvc_20.2 h9
          refine lv_iload_n hx hb dX7_beginning_43 rfl (lv_at hl_23 3 rfl) ?_
          refine lv_iconst (v := nI 1) hx hb dX7_beginning_44 (by decide) ?_
          refine lv_iload_n hx hb dX7_beginning_45 rfl (lv_at hl_23 2 rfl) ?_
          refine lv_ishl hx hb dX7_beginning_46 ?_
          refine lv_ior hx hb dX7_beginning_47 ?_
          refine lv_istore_n (lv' := [(3, .int (y3 ||| ((nI 1) <<< (y2 &&& 31)))), (0, .ref y0), (1, .int y1), (2, .int y2)]) hx hb dX7_beginning_48 rfl hl_23 (by decide) rfl (fun ls hl_71 => ?_)
          clear hl_23
          refine lv_aload_n hx hb dX7_beginning_49 rfl (lv_at hl_71 1 rfl) ?_
          refine lv_iload_n hx hb dX7_beginning_50 rfl (lv_at hl_71 3 rfl) ?_
          refine lv_iconst (v := nI 1) hx hb dX7_beginning_51 (by decide) ?_
          refine lv_iadd hx hb dX7_beginning_52 ?_
          refine lv_iload_n hx hb dX7_beginning_53 rfl (lv_at hl_71 2 rfl) ?_
          obtain ⟨c28, t29, hc1, hs1, hvc_20⟩ := hvc_20
          refine gw_cVIA (As := [.int (y2 + (nI 1)), .int y1]) (rest := [])  ⟨hx, hb, hml, hown, hts⟩ (met_X7_store l E G y0 (y2 + (nI 1)) y1 c28 t29 _ hvc_20.2) (cwV 2 hts (lw_V q1159 q1161 qs18 q124 q1162) rfl rfl rfl (by decide +kernel) ⟨Nat.le_of_ble_eq_true rfl, Nat.le_of_ble_eq_true rfl⟩) (gw_rc (q := (RX7, TX7, 4)) hK hG_21 hvc_20.1 rfl) hc1 hs1 hMC_24 hMS_25 (Nat.le_refl _) (Nat.le_refl _) (g_X.st E) hz hX hK hG_21 hS_22 rfl hl_71.1 rfl (Nat.le_of_ble_eq_true rfl) dX7_beginning_54 (fun x26 G27 H locs ce sl hvc_72 hG_73 hS_74 hMC_75 hMS_76 => ?_)
          clear hvc_20 hG_21 hS_22 hMC_24 hMS_25
          refine lv_istore_n (lv' := [(2, .int x26), (3, .int (y3 ||| ((nI 1) <<< (y2 &&& 31)))), (0, .ref y0), (1, .int y1)]) hx hb dX7_beginning_57 rfl hl_71 (by decide) rfl (fun ls hl_77 => ?_)
          clear hl_71
          refine lv_goto (tgt := 38) hx hb dX7_beginning_58 (by decide) ?_
          exact ih38 y0 y1 x26 (y3 ||| ((nI 1) <<< (y2 &&& 31))) G27 (mc - c28) (ms - t29) _ _ _ _ _ hvc_72 hG_73 hS_74 (lv_sub hl_77 [2, 3, 0, 1] rfl) hMC_75 hMS_76
    refine lv_istore_n (lv' := [(3, .int (nI 0)), (2, .int s0), (0, .ref y0), (1, .int y1)]) hx hb dX7_beginning_37 rfl hl_13 (by decide) rfl (fun ls hl_78 => ?_)
    clear hl_13
    obtain ⟨nf38, hvc_7⟩ := hvc_7
    exact lp38 nf38 y0 y1 s0 (nI 0) G mc ms _ _ _ _ _ hvc_7 hG_8 hS_9 (lv_sub hl_78 [2, 3, 1, 0] rfl) hMC_11 hMS_12
  have jn34 : ∀ (y0 : Nat) (y1 : Int32) (G : g_G) (mc : Nat) (ms : Nat) (H : Heap) (locs : List Loc) (ls : Array Slot) (ce sl : Nat), wp_X7_beginning_34 E post (wp_X7_beginning_35 E post) y0 y1 G mc ms → g_H E G H → va_S (g_A E) s.heap H locs → lv_has ls 5 [(0, .ref y0), (1, .int y1)] → ce + mc ≤ mc0 → sl + ms ≤ ms0 → W p l e ({ frames := 7, cells := mc0, slots := ms0, locals := 191 } : Room) s m ([.ref o] : List Value).toArray below meth c H locs ce sl (MQ below (va_Qi (post) (g_Bk E) (g_A E)) ([.ref o] : List Value).toArray s mc0 ms0 (g_A E)) (F0 m 34 ls []) := by
    clear hvc_1 hG_2 hS_3 hl_6 hMC_4 hMS_5
    intro y0 y1 G mc ms H locs ls ce sl hvc_79 hG_80 hS_81 hl_82 hMC_83 hMS_84
    refine lv_iconst (v := -nI 1) hx hb dX7_beginning_34 (by decide) ?_
    exact jn35 y0 y1 (-nI 1) G mc ms _ _ _ _ _ hvc_79 hG_80 hS_81 (lv_sub hl_82 [0, 1] rfl) hMC_83 hMS_84
  refine lv_icmp_eq (tgt := 34) hx hb dX7_beginning_11 (by decide) (fun h9 => ?_) (fun h9 => ?_)
  · replace hvc_1 := hvc_1.1 h9
    exact jn34 o x1 G2 (mc0 - c3) (ms0 - t4) _ _ _ _ _ hvc_1 hG_2 hS_3 (lv_sub hl_6 [1, 0] rfl) hMC_4 hMS_5
  · replace hvc_1 := hvc_1.2 h9
    refine lv_aload_n hx hb dX7_beginning_14 rfl (lv_at hl_6 1 rfl) ?_
    refine lv_bipush (v := nI 62) hx hb dX7_beginning_15 (by decide) ?_
    refine lv_bipush (v := nI 62) hx hb dX7_beginning_17 (by decide) ?_
    obtain ⟨c32, t33, hc1, hs1, hvc_1⟩ := hvc_1
    refine gw_cVIA (As := [.int (nI 62), .int (nI 62)]) (rest := [])  ⟨hx, hb, hml, hown, hts⟩ (met_X7_next l E G2 o (nI 62) (nI 62) c32 t33 _ hvc_1.2) (cwV 2 hts (lw_V q1133 q1135 qs15 q124 q1136) rfl rfl rfl (by decide +kernel) ⟨Nat.le_of_ble_eq_true rfl, Nat.le_of_ble_eq_true rfl⟩) (gw_rc (q := (RX7, TX7, 4)) hK hG_2 hvc_1.1 rfl) hc1 hs1 hMC_4 hMS_5 (Nat.le_refl _) (Nat.le_refl _) (g_X.st E) hz hX hK hG_2 hS_3 rfl hl_6.1 rfl (Nat.le_of_ble_eq_true rfl) dX7_beginning_19 (fun x30 G31 H locs ce sl hvc_85 hG_86 hS_87 hMC_88 hMS_89 => ?_)
    clear hvc_1 hG_2 hS_3 hMC_4 hMS_5
    refine lv_if_ne (tgt := 34) hx hb dX7_beginning_22 (by decide) (fun h9 => ?_) (fun h9 => ?_)
    · replace hvc_85 := hvc_85.1 h9
      exact jn34 o x1 G31 (mc0 - c3 - c32) (ms0 - t4 - t33) _ _ _ _ _ hvc_85 hG_86 hS_87 (lv_sub hl_6 [1, 0] rfl) hMC_88 hMS_89
    · replace hvc_85 := hvc_85.2 h9
      refine lv_aload_n hx hb dX7_beginning_25 rfl (lv_at hl_6 1 rfl) ?_
      refine lv_iconst (v := nI 0) hx hb dX7_beginning_26 (by decide) ?_
      refine lv_iload_n hx hb dX7_beginning_27 rfl (lv_at hl_6 0 rfl) ?_
      obtain ⟨c36, t37, hc1, hs1, hvc_85⟩ := hvc_85
      refine gw_cVIA (As := [.int (nI 0), .int x1]) (rest := [])  ⟨hx, hb, hml, hown, hts⟩ (met_X7_store l E G31 o (nI 0) x1 c36 t37 _ hvc_85.2) (cwV 2 hts (lw_V q1159 q1161 qs18 q124 q1162) rfl rfl rfl (by decide +kernel) ⟨Nat.le_of_ble_eq_true rfl, Nat.le_of_ble_eq_true rfl⟩) (gw_rc (q := (RX7, TX7, 4)) hK hG_86 hvc_85.1 rfl) hc1 hs1 hMC_88 hMS_89 (Nat.le_refl _) (Nat.le_refl _) (g_X.st E) hz hX hK hG_86 hS_87 rfl hl_6.1 rfl (Nat.le_of_ble_eq_true rfl) dX7_beginning_28 (fun x34 G35 H locs ce sl hvc_90 hG_91 hS_92 hMC_93 hMS_94 => ?_)
      clear hvc_85 hG_86 hS_87 hMC_88 hMS_89
      refine lv_goto (tgt := 35) hx hb dX7_beginning_31 (by decide) ?_
      exact jn35 o x1 x34 G35 (mc0 - c3 - c32 - c36) (ms0 - t4 - t33 - t37) _ _ _ _ _ hvc_90 hG_91 hS_92 (lv_sub hl_6 [1, 0] rfl) hMC_93 hMS_94
set_option maxHeartbeats 4000000 in
set_option maxRecDepth 100000 in
theorem met_X7_deed (l : Launch) (E : g_E) (G : g_G) (o : Nat) (p1 : Int32) (p2 : Int32) (p3 : Int32) (mc0 ms0 : Nat) (post : Int32 → g_G → Prop) (hvc : wp_X7_deed E G o p1 p2 p3 mc0 ms0 post) : g_MI E l yX7_deed (ws_ yX7_deed cX7_deed 5 (Option.some Jvm.ClassFile.FieldType.boolean)) ({ frames := 7, cells := mc0, slots := ms0, locals := 191 } : Room) (g_X E) [.ref o, .int p1, .int p2, .int p3] G (post) := by
  refine g_enter (by decide +kernel) (Nat.le_of_ble_eq_true rfl) ?_
  intro p e s m below meth c ls hx hb hr hts hown hlocks hml hin hz hX hK hG hS hl
  have hl : lv_has ls 5 [(0, .ref o), (1, .int p1), (2, .int p2), (3, .int p3)] := hl
  have hown : s.vm.findClass RX7 = some m.cls := hown
  have hMC : 0 + mc0 ≤ mc0 := Nat.le_of_eq (Nat.zero_add _)
  have hMS : 0 + ms0 ≤ ms0 := Nat.le_of_eq (Nat.zero_add _)
  unfold wp_X7_deed at hvc
  refine lv_aload_n hx hb dX7_deed_0 rfl (lv_at hl 0 rfl) ?_
  refine lv_dup hx hb dX7_deed_1 rfl ?_
  refine gw_gi (C := RX7) (T := TX7) (N := 4) (own := RX7) hx hb hts in_X7 hown hK hG hvc rfl (by decide) (hts _ q1111) (fun _ h9 => h9) dX7_deed_2 (fun x1 hvc_1 => ?_)
  clear hvc
  refine lv_iconst (v := nI 1) hx hb dX7_deed_5 (by decide) ?_
  refine lv_iadd hx hb dX7_deed_6 ?_
  refine gw_put (ty := .int) (C := RX7) (T := TX7) (N := 4) (own := RX7) hx hb hts in_X7 tyX7 tyX7_ok nmX7 hown hK hG hS hvc_1 rfl (by decide) (hts _ q1111) (fun _ h9 => h9) rfl (by decide +kernel) rfl rfl dX7_deed_7 (fun G2 H locs hvc_2 hG_3 hS_4 => ?_)
  clear hvc_1 hG hS
  refine lv_aload_n hx hb dX7_deed_10 rfl (lv_at hl 0 rfl) ?_
  refine lv_iload_n hx hb dX7_deed_11 rfl (lv_at hl 2 rfl) ?_
  refine lv_iload_n hx hb dX7_deed_12 rfl (lv_at hl 3 rfl) ?_
  obtain ⟨c5, t6, hc1, hs1, hvc_2⟩ := hvc_2
  refine gw_cVIA (As := [.int p2, .int p3]) (rest := [])  ⟨hx, hb, hml, hown, hts⟩ (met_X7_next l E G2 o p2 p3 c5 t6 _ hvc_2.2) (cwV 2 hts (lw_V q1133 q1135 qs15 q124 q1136) rfl rfl rfl (by decide +kernel) ⟨Nat.le_of_ble_eq_true rfl, Nat.le_of_ble_eq_true rfl⟩) (gw_rc (q := (RX7, TX7, 4)) hK hG_3 hvc_2.1 rfl) hc1 hs1 hMC hMS (Nat.le_refl _) (Nat.le_refl _) (g_X.st E) hz hX hK hG_3 hS_4 rfl hl.1 rfl (Nat.le_of_ble_eq_true rfl) dX7_deed_13 (fun x3 G4 H locs ce sl hvc_5 hG_6 hS_7 hMC_8 hMS_9 => ?_)
  clear hvc_2 hG_3 hS_4 hMC hMS
  refine lv_istore (lv' := [(4, .int x3), (0, .ref o), (1, .int p1), (2, .int p2), (3, .int p3)]) hx hb dX7_deed_16 hl (by decide) rfl (fun ls hl_10 => ?_)
  clear hl
  refine lv_iload hx hb dX7_deed_18 (lv_at hl_10 0 rfl) ?_
  refine lv_iconst (v := -nI 1) hx hb dX7_deed_20 (by decide) ?_
  refine lv_icmp_eq (tgt := 51) hx hb dX7_deed_21 (by decide) (fun h9 => ?_) (fun h9 => ?_)
  · replace hvc_5 := hvc_5.1 h9
    refine lv_iconst (v := nI 0) hx hb dX7_deed_51 (by decide) ?_
    exact g_iret hx hb hr hlocks (by show _ ≤ mc0; omega) (by show _ ≤ ms0; omega) hG_6 hS_7 rfl hvc_5 dX7_deed_52
  · replace hvc_5 := hvc_5.2 h9
    refine lv_aload_n hx hb dX7_deed_24 rfl (lv_at hl_10 1 rfl) ?_
    refine gw_gr (C := RX7) (T := TX7) (N := 4) (own := RX7) hx hb hts in_X7 hown hK hG_6 hvc_5 rfl (by decide) (hts _ q1109) (fun _ h9 => h9) dX7_deed_25 (fun x7 hvc_11 => ?_)
    clear hvc_5
    refine gw_new (C := RX9) (T := TX9) (N := 3) (own := RX7) hx hb hts in_X9 tyX9 tyX9_ok hown (hts _ q1201) (hts _ q1202) (hts _ q126) hK hG_6 hS_7 hz hvc_11 rfl (by decide) hMC_8 hMS_9 (Nat.le_refl _) (Nat.le_refl _) dX7_deed_28 (fun q8 G9 H ce sl hvc_12 hG_13 hS_14 hMC_15 hMS_16 => ?_)
    clear hvc_11 hG_6 hS_7 hMC_8 hMS_9
    refine lv_dup hx hb dX7_deed_31 rfl ?_
    refine lv_iload_n hx hb dX7_deed_32 rfl (lv_at hl_10 2 rfl) ?_
    refine lv_iload hx hb dX7_deed_33 (lv_at hl_10 0 rfl) ?_
    refine lv_iconst (v := -nI 1) hx hb dX7_deed_35 (by decide) ?_
    refine gw_cCVN (As := [.int p1, .int x3, .int (-nI 1)]) (rest := [.ref q8, .ref x7])  ⟨hx, hb, hml, hown, hts⟩ (met_X9_init l E G9 q8 p1 x3 (-nI 1) _ hvc_12) (cwI 3 hts (lw_meth q1205) rfl rfl rfl (hts _ q126) (hts _ q1203) (hts _ q1204) rfl (by decide +kernel) ⟨Nat.le_of_ble_eq_true rfl, Nat.le_of_ble_eq_true rfl⟩) (by show _ ≤ mc0; omega) (by show _ ≤ ms0; omega) (g_St0 E) hz trivial hK hG_13 hS_14 rfl hl_10.1 rfl (Nat.le_of_ble_eq_true rfl) dX7_deed_36 (fun G11 H locs hvc_17 hG_18 hS_19 => ?_)
    clear hvc_12 hG_13 hS_14
    obtain ⟨c14, t15, hc1, hs1, hvc_17⟩ := hvc_17
    refine gw_cFIA (As := [.ref q8]) (rest := []) (hK.1 9 _ rfl).2  ⟨hx, hb, hml, hown, hts⟩ (met_J7_add l E G11 x7 q8 c14 t15 _ hvc_17.2) (va_cwF 1 hts (lw_F q1196 q228 q230 q99 q232) rfl rfl rfl (hX.fw (List.mem_of_getElem? (i := 0) rfl)) (by decide +kernel) ⟨Nat.le_of_ble_eq_true rfl, Nat.le_of_ble_eq_true rfl⟩) (gw_rc (q := (RJ7, TJ7, 3)) hK hG_18 hvc_17.1 rfl) hc1 hs1 hMC_15 hMS_16 (Nat.le_refl _) (Nat.le_refl _) (g_X.st E) hz hX hK hG_18 hS_19 rfl hl_10.1 rfl (Nat.le_of_ble_eq_true rfl) dX7_deed_39 (fun x12 G13 H locs ce sl hvc_20 hG_21 hS_22 hMC_23 hMS_24 => ?_)
    clear hvc_17 hG_18 hS_19 hMC_15 hMS_16
    refine lv_if_eq (tgt := 51) hx hb dX7_deed_44 (by decide) (fun h9 => ?_) (fun h9 => ?_)
    · replace hvc_20 := hvc_20.1 h9
      refine lv_iconst (v := nI 0) hx hb dX7_deed_51 (by decide) ?_
      exact g_iret hx hb hr hlocks (by show _ ≤ mc0; omega) (by show _ ≤ ms0; omega) hG_21 hS_22 rfl hvc_20 dX7_deed_52
    · replace hvc_20 := hvc_20.2 h9
      refine lv_iconst (v := nI 1) hx hb dX7_deed_47 (by decide) ?_
      refine lv_goto (tgt := 52) hx hb dX7_deed_48 (by decide) ?_
      exact g_iret hx hb hr hlocks (by show _ ≤ mc0; omega) (by show _ ≤ ms0; omega) hG_21 hS_22 rfl hvc_20 dX7_deed_52
set_option maxHeartbeats 4000000 in
set_option maxRecDepth 100000 in
theorem met_X7_asking (l : Launch) (E : g_E) (G : g_G) (o : Nat) (mc0 ms0 : Nat) (post : Int32 → g_G → Prop) (hvc : wp_X7_asking E G o mc0 ms0 post) : g_MI E l yX7_asking (ws_ yX7_asking cX7_asking 3 (Option.some Jvm.ClassFile.FieldType.boolean)) ({ frames := 7, cells := mc0, slots := ms0, locals := 191 } : Room) (g_X E) [.ref o] G (post) := by
  refine g_enter (by decide +kernel) (Nat.le_of_ble_eq_true rfl) ?_
  intro p e s m below meth c ls hx hb hr hts hown hlocks hml hin hz hX hK hG hS hl
  have hl : lv_has ls 3 [(0, .ref o)] := hl
  have hown : s.vm.findClass RX7 = some m.cls := hown
  have hMC : 0 + mc0 ≤ mc0 := Nat.le_of_eq (Nat.zero_add _)
  have hMS : 0 + ms0 ≤ ms0 := Nat.le_of_eq (Nat.zero_add _)
  unfold wp_X7_asking at hvc
  refine lv_aload_n hx hb dX7_asking_0 rfl (lv_at hl 0 rfl) ?_
  refine lv_dup hx hb dX7_asking_1 rfl ?_
  refine gw_gi (C := RX7) (T := TX7) (N := 4) (own := RX7) hx hb hts in_X7 hown hK hG hvc rfl (by decide) (hts _ q1111) (fun _ h9 => h9) dX7_asking_2 (fun x1 hvc_1 => ?_)
  clear hvc
  refine lv_iconst (v := nI 1) hx hb dX7_asking_5 (by decide) ?_
  refine lv_iadd hx hb dX7_asking_6 ?_
  refine gw_put (ty := .int) (C := RX7) (T := TX7) (N := 4) (own := RX7) hx hb hts in_X7 tyX7 tyX7_ok nmX7 hown hK hG hS hvc_1 rfl (by decide) (hts _ q1111) (fun _ h9 => h9) rfl (by decide +kernel) rfl rfl dX7_asking_7 (fun G2 H locs hvc_2 hG_3 hS_4 => ?_)
  clear hvc_1 hG hS
  refine lv_aload_n hx hb dX7_asking_10 rfl (lv_at hl 0 rfl) ?_
  refine lv_bipush (v := nI 48) hx hb dX7_asking_11 (by decide) ?_
  refine lv_bipush (v := nI 51) hx hb dX7_asking_13 (by decide) ?_
  obtain ⟨c5, t6, hc1, hs1, hvc_2⟩ := hvc_2
  refine gw_cVIA (As := [.int (nI 48), .int (nI 51)]) (rest := [])  ⟨hx, hb, hml, hown, hts⟩ (met_X7_next l E G2 o (nI 48) (nI 51) c5 t6 _ hvc_2.2) (cwV 2 hts (lw_V q1133 q1135 qs15 q124 q1136) rfl rfl rfl (by decide +kernel) ⟨Nat.le_of_ble_eq_true rfl, Nat.le_of_ble_eq_true rfl⟩) (gw_rc (q := (RX7, TX7, 4)) hK hG_3 hvc_2.1 rfl) hc1 hs1 hMC hMS (Nat.le_refl _) (Nat.le_refl _) (g_X.st E) hz hX hK hG_3 hS_4 rfl hl.1 rfl (Nat.le_of_ble_eq_true rfl) dX7_asking_15 (fun x3 G4 H locs ce sl hvc_5 hG_6 hS_7 hMC_8 hMS_9 => ?_)
  clear hvc_2 hG_3 hS_4 hMC hMS
  refine lv_istore_n (lv' := [(1, .int x3), (0, .ref o)]) hx hb dX7_asking_18 rfl hl (by decide) rfl (fun ls hl_10 => ?_)
  clear hl
  refine lv_iload_n hx hb dX7_asking_19 rfl (lv_at hl_10 0 rfl) ?_
  refine lv_iconst (v := -nI 1) hx hb dX7_asking_20 (by decide) ?_
  have jn36 : ∀ (y0 : Nat) (y1 : Int32) (s0 : Int32) (G : g_G) (mc : Nat) (ms : Nat) (H : Heap) (locs : List Loc) (ls : Array Slot) (ce sl : Nat), wp_X7_asking_36 E post y0 y1 s0 G mc ms → g_H E G H → va_S (g_A E) s.heap H locs → lv_has ls 3 [(0, .ref y0), (1, .int y1)] → ce + mc ≤ mc0 → sl + ms ≤ ms0 → W p l e ({ frames := 7, cells := mc0, slots := ms0, locals := 191 } : Room) s m ([.ref o] : List Value).toArray below meth c H locs ce sl (MQ below (va_Qi (post) (g_Bk E) (g_A E)) ([.ref o] : List Value).toArray s mc0 ms0 (g_A E)) (F0 m 36 ls [.int s0]) := by
    clear hvc_5 hG_6 hS_7 hl_10 hMC_8 hMS_9
    intro y0 y1 s0 G mc ms H locs ls ce sl hvc_11 hG_12 hS_13 hl_14 hMC_15 hMS_16
    refine lv_istore_n (lv' := [(2, .int s0), (0, .ref y0), (1, .int y1)]) hx hb dX7_asking_36 rfl hl_14 (by decide) rfl (fun ls hl_17 => ?_)
    clear hl_14
    refine lv_iload_n hx hb dX7_asking_37 rfl (lv_at hl_17 0 rfl) ?_
    refine lv_iconst (v := -nI 1) hx hb dX7_asking_38 (by decide) ?_
    refine lv_icmp_eq (tgt := 69) hx hb dX7_asking_39 (by decide) (fun h9 => ?_) (fun h9 => ?_)
    · replace hvc_11 := hvc_11.1 h9
      refine lv_iconst (v := nI 0) hx hb dX7_asking_69 (by decide) ?_
      exact g_iret hx hb hr hlocks (by show _ ≤ mc0; omega) (by show _ ≤ ms0; omega) hG_12 hS_13 rfl hvc_11 dX7_asking_70
    · replace hvc_11 := hvc_11.2 h9
      refine lv_aload_n hx hb dX7_asking_42 rfl (lv_at hl_17 1 rfl) ?_
      refine gw_gr (C := RX7) (T := TX7) (N := 4) (own := RX7) hx hb hts in_X7 hown hK hG_12 hvc_11 rfl (by decide) (hts _ q1109) (fun _ h9 => h9) dX7_asking_43 (fun x7 hvc_18 => ?_)
      clear hvc_11
      refine gw_new (C := RX9) (T := TX9) (N := 3) (own := RX7) hx hb hts in_X9 tyX9 tyX9_ok hown (hts _ q1201) (hts _ q1202) (hts _ q126) hK hG_12 hS_13 hz hvc_18 rfl (by decide) hMC_15 hMS_16 (Nat.le_refl _) (Nat.le_refl _) dX7_asking_46 (fun q8 G9 H ce sl hvc_19 hG_20 hS_21 hMC_22 hMS_23 => ?_)
      clear hvc_18 hG_12 hS_13 hMC_15 hMS_16
      refine lv_dup hx hb dX7_asking_49 rfl ?_
      refine lv_bipush (v := nI 113) hx hb dX7_asking_50 (by decide) ?_
      refine lv_iload_n hx hb dX7_asking_52 rfl (lv_at hl_17 0 rfl) ?_
      refine lv_iload_n hx hb dX7_asking_53 rfl (lv_at hl_17 2 rfl) ?_
      refine gw_cCVN (As := [.int (nI 113), .int s0, .int y1]) (rest := [.ref q8, .ref x7])  ⟨hx, hb, hml, hown, hts⟩ (met_X9_init l E G9 q8 (nI 113) s0 y1 _ hvc_19) (cwI 3 hts (lw_meth q1205) rfl rfl rfl (hts _ q126) (hts _ q1203) (hts _ q1204) rfl (by decide +kernel) ⟨Nat.le_of_ble_eq_true rfl, Nat.le_of_ble_eq_true rfl⟩) (by show _ ≤ mc0; omega) (by show _ ≤ ms0; omega) (g_St0 E) hz trivial hK hG_20 hS_21 rfl hl_17.1 rfl (Nat.le_of_ble_eq_true rfl) dX7_asking_54 (fun G11 H locs hvc_24 hG_25 hS_26 => ?_)
      clear hvc_19 hG_20 hS_21
      obtain ⟨c14, t15, hc1, hs1, hvc_24⟩ := hvc_24
      refine gw_cFIA (As := [.ref q8]) (rest := []) (hK.1 9 _ rfl).2  ⟨hx, hb, hml, hown, hts⟩ (met_J7_add l E G11 x7 q8 c14 t15 _ hvc_24.2) (va_cwF 1 hts (lw_F q1196 q228 q230 q99 q232) rfl rfl rfl (hX.fw (List.mem_of_getElem? (i := 0) rfl)) (by decide +kernel) ⟨Nat.le_of_ble_eq_true rfl, Nat.le_of_ble_eq_true rfl⟩) (gw_rc (q := (RJ7, TJ7, 3)) hK hG_25 hvc_24.1 rfl) hc1 hs1 hMC_22 hMS_23 (Nat.le_refl _) (Nat.le_refl _) (g_X.st E) hz hX hK hG_25 hS_26 rfl hl_17.1 rfl (Nat.le_of_ble_eq_true rfl) dX7_asking_57 (fun x12 G13 H locs ce sl hvc_27 hG_28 hS_29 hMC_30 hMS_31 => ?_)
      clear hvc_24 hG_25 hS_26 hMC_22 hMS_23
      refine lv_if_eq (tgt := 69) hx hb dX7_asking_62 (by decide) (fun h9 => ?_) (fun h9 => ?_)
      · replace hvc_27 := hvc_27.1 h9
        refine lv_iconst (v := nI 0) hx hb dX7_asking_69 (by decide) ?_
        exact g_iret hx hb hr hlocks (by show _ ≤ mc0; omega) (by show _ ≤ ms0; omega) hG_28 hS_29 rfl hvc_27 dX7_asking_70
      · replace hvc_27 := hvc_27.2 h9
        refine lv_iconst (v := nI 1) hx hb dX7_asking_65 (by decide) ?_
        refine lv_goto (tgt := 70) hx hb dX7_asking_66 (by decide) ?_
        exact g_iret hx hb hr hlocks (by show _ ≤ mc0; omega) (by show _ ≤ ms0; omega) hG_28 hS_29 rfl hvc_27 dX7_asking_70
  refine lv_icmp_ne (tgt := 28) hx hb dX7_asking_21 (by decide) (fun h9 => ?_) (fun h9 => ?_)
  · replace hvc_5 := hvc_5.1 h9
    refine lv_aload_n hx hb dX7_asking_28 rfl (lv_at hl_10 1 rfl) ?_
    refine lv_bipush (v := nI 48) hx hb dX7_asking_29 (by decide) ?_
    refine lv_bipush (v := nI 55) hx hb dX7_asking_31 (by decide) ?_
    obtain ⟨c18, t19, hc1, hs1, hvc_5⟩ := hvc_5
    refine gw_cVIA (As := [.int (nI 48), .int (nI 55)]) (rest := [])  ⟨hx, hb, hml, hown, hts⟩ (met_X7_next l E G4 o (nI 48) (nI 55) c18 t19 _ hvc_5.2) (cwV 2 hts (lw_V q1133 q1135 qs15 q124 q1136) rfl rfl rfl (by decide +kernel) ⟨Nat.le_of_ble_eq_true rfl, Nat.le_of_ble_eq_true rfl⟩) (gw_rc (q := (RX7, TX7, 4)) hK hG_6 hvc_5.1 rfl) hc1 hs1 hMC_8 hMS_9 (Nat.le_refl _) (Nat.le_refl _) (g_X.st E) hz hX hK hG_6 hS_7 rfl hl_10.1 rfl (Nat.le_of_ble_eq_true rfl) dX7_asking_33 (fun x16 G17 H locs ce sl hvc_32 hG_33 hS_34 hMC_35 hMS_36 => ?_)
    clear hvc_5 hG_6 hS_7 hMC_8 hMS_9
    exact jn36 o x3 x16 G17 (mc0 - c5 - c18) (ms0 - t6 - t19) _ _ _ _ _ hvc_32 hG_33 hS_34 (lv_sub hl_10 [1, 0] rfl) hMC_35 hMS_36
  · replace hvc_5 := hvc_5.2 h9
    refine lv_iconst (v := -nI 1) hx hb dX7_asking_24 (by decide) ?_
    refine lv_goto (tgt := 36) hx hb dX7_asking_25 (by decide) ?_
    exact jn36 o x3 (-nI 1) G4 (mc0 - c5) (ms0 - t6) _ _ _ _ _ hvc_5 hG_6 hS_7 (lv_sub hl_10 [1, 0] rfl) hMC_8 hMS_9
set_option maxHeartbeats 4000000 in
set_option maxRecDepth 100000 in
theorem met_X7_part (l : Launch) (E : g_E) (G : g_G) (o : Nat) (mc0 ms0 : Nat) (post : Int32 → g_G → Prop) (hvc : wp_X7_part E G o mc0 ms0 post) : g_MI E l yX7_part (ws_ yX7_part cX7_part 2 (Option.some Jvm.ClassFile.FieldType.boolean)) ({ frames := 8, cells := mc0, slots := ms0, locals := 215 } : Room) (g_X E) [.ref o] G (post) := by
  refine g_enter (by decide +kernel) (Nat.le_of_ble_eq_true rfl) ?_
  intro p e s m below meth c ls hx hb hr hts hown hlocks hml hin hz hX hK hG hS hl
  have hl : lv_has ls 2 [(0, .ref o)] := hl
  have hown : s.vm.findClass RX7 = some m.cls := hown
  have hMC : 0 + mc0 ≤ mc0 := Nat.le_of_eq (Nat.zero_add _)
  have hMS : 0 + ms0 ≤ ms0 := Nat.le_of_eq (Nat.zero_add _)
  unfold wp_X7_part at hvc
  refine lv_aload_n hx hb dX7_part_0 rfl (lv_at hl 0 rfl) ?_
  refine lv_bipush (v := nI 98) hx hb dX7_part_1 (by decide) ?_
  refine lv_bipush (v := nI 98) hx hb dX7_part_3 (by decide) ?_
  obtain ⟨c3, t4, hc1, hs1, hvc⟩ := hvc
  refine gw_cVIA (As := [.int (nI 98), .int (nI 98)]) (rest := [])  ⟨hx, hb, hml, hown, hts⟩ (met_X7_next l E G o (nI 98) (nI 98) c3 t4 _ hvc.2) (cwV 2 hts (lw_V q1133 q1135 qs15 q124 q1136) rfl rfl rfl (by decide +kernel) ⟨Nat.le_of_ble_eq_true rfl, Nat.le_of_ble_eq_true rfl⟩) (gw_rc (q := (RX7, TX7, 4)) hK hG hvc.1 rfl) hc1 hs1 hMC hMS (Nat.le_refl _) (Nat.le_refl _) (g_X.st E) hz hX hK hG hS rfl hl.1 rfl (Nat.le_of_ble_eq_true rfl) dX7_part_5 (fun x1 G2 H locs ce sl hvc_1 hG_2 hS_3 hMC_4 hMS_5 => ?_)
  clear hvc hG hS hMC hMS
  refine lv_if_ne (tgt := 16) hx hb dX7_part_8 (by decide) (fun h9 => ?_) (fun h9 => ?_)
  · replace hvc_1 := hvc_1.1 h9
    refine lv_aload_n hx hb dX7_part_16 rfl (lv_at hl 0 rfl) ?_
    refine gw_gi (C := RX7) (T := TX7) (N := 4) (own := RX7) hx hb hts in_X7 hown hK hG_2 hvc_1 rfl (by decide) (hts _ q1111) (fun _ h9 => h9) dX7_part_17 (fun x5 hvc_6 => ?_)
    clear hvc_1
    refine lv_aload_n hx hb dX7_part_20 rfl (lv_at hl 0 rfl) ?_
    refine gw_gr (C := RX7) (T := TX7) (N := 4) (own := RX7) hx hb hts in_X7 hown hK hG_2 hvc_6 rfl (by decide) (hts _ q1115) (fun _ h9 => h9) dX7_part_21 (fun x6 hvc_7 => ?_)
    clear hvc_6
    refine gw_grN (C := RX1) (T := TX1) (N := 4) (own := RX7) hx hb hts in_X1 hown hK hG_2 hvc_7 rfl (by decide) (hX.1 _ q346 rfl) (fun _ h9 => h9) dX7_part_24 (fun x7 hvc_8 => ?_)
    clear hvc_7
    refine gw_cVIP (As := []) (rest := [.int x5])  ⟨hx, hb, hml, hown, hts⟩ (met_J1_length l E G2 x7 _ hvc_8.2) (cwV 0 hts (lw_V q1141 q616 q2283 q92 q617) rfl rfl rfl (by decide +kernel) ⟨Nat.le_of_ble_eq_true rfl, Nat.le_of_ble_eq_true rfl⟩) (gw_rc (q := (RJ1, TJ1, 4)) hK hG_2 hvc_8.1 rfl) (by show _ ≤ mc0; omega) (by show _ ≤ ms0; omega) (g_St0 E) hz trivial hK hG_2 hS_3 rfl hl.1 rfl (Nat.le_of_ble_eq_true rfl) dX7_part_27 (fun x8 H locs hvc_9 hG_10 hS_11 => ?_)
    clear hvc_8 hG_2 hS_3
    have jn52 : ∀ (y0 : Nat) (s0 : Int32) (G : g_G) (mc : Nat) (ms : Nat) (H : Heap) (locs : List Loc) (ls : Array Slot) (ce sl : Nat), wp_X7_part_52 E post y0 s0 G mc ms → g_H E G H → va_S (g_A E) s.heap H locs → lv_has ls 2 [(0, .ref y0)] → ce + mc ≤ mc0 → sl + ms ≤ ms0 → W p l e ({ frames := 8, cells := mc0, slots := ms0, locals := 215 } : Room) s m ([.ref o] : List Value).toArray below meth c H locs ce sl (MQ below (va_Qi (post) (g_Bk E) (g_A E)) ([.ref o] : List Value).toArray s mc0 ms0 (g_A E)) (F0 m 52 ls [.int s0]) := by
      clear hvc_9 hG_10 hS_11 hl hMC_4 hMS_5
      intro y0 s0 G mc ms H locs ls ce sl hvc_12 hG_13 hS_14 hl_15 hMC_16 hMS_17
      refine lv_istore_n (lv' := [(1, .int s0), (0, .ref y0)]) hx hb dX7_part_52 rfl hl_15 (by decide) rfl (fun ls hl_18 => ?_)
      clear hl_15
      refine lv_iload_n hx hb dX7_part_53 rfl (lv_at hl_18 0 rfl) ?_
      by_cases h99 : s0 = nI 99
      · replace hvc_12 := hvc_12.1 h99
        rw [h99]; refine lv_tableIn (off := 102) (tgt := 156) hx hb dX7_part_54 (by decide) (by decide) (by decide) (by decide) ?_
        refine lv_aload_n hx hb dX7_part_156 rfl (lv_at hl_18 1 rfl) ?_
        refine lv_iload_n hx hb dX7_part_157 rfl (lv_at hl_18 0 rfl) ?_
        refine lv_bipush (v := nI 48) hx hb dX7_part_158 (by decide) ?_
        refine lv_bipush (v := nI 52) hx hb dX7_part_160 (by decide) ?_
        obtain ⟨c12, t13, hc1, hs1, hvc_12⟩ := hvc_12
        refine gw_cVIA (As := [.int s0, .int (nI 48), .int (nI 52)]) (rest := [])  ⟨hx, hb, hml, hown, hts⟩ (met_X7_deed l E G y0 s0 (nI 48) (nI 52) c12 t13 _ hvc_12.2) (cwV 3 hts (lw_V q1197 q1199 qs20 q124 q1200) rfl rfl rfl (by decide +kernel) ⟨Nat.le_of_ble_eq_true rfl, Nat.le_of_ble_eq_true rfl⟩) (gw_rc (q := (RX7, TX7, 4)) hK hG_13 hvc_12.1 rfl) hc1 hs1 hMC_16 hMS_17 (Nat.le_refl _) (Nat.le_refl _) (g_X.st E) hz hX hK hG_13 hS_14 rfl hl_18.1 rfl (Nat.le_of_ble_eq_true rfl) dX7_part_162 (fun x10 G11 H locs ce sl hvc_19 hG_20 hS_21 hMC_22 hMS_23 => ?_)
        clear hvc_12 hG_13 hS_14 hMC_16 hMS_17
        refine lv_goto (tgt := 188) hx hb dX7_part_165 (by decide) ?_
        exact g_iret hx hb hr hlocks (by show _ ≤ mc0; omega) (by show _ ≤ ms0; omega) hG_20 hS_21 hvc_19.1 hvc_19.2 dX7_part_188
      by_cases h100 : s0 = nI 100
      · replace hvc_12 := hvc_12.2.1 h100
        rw [h100]; refine lv_tableIn (off := 78) (tgt := 132) hx hb dX7_part_54 (by decide) (by decide) (by decide) (by decide) ?_
        refine lv_aload_n hx hb dX7_part_132 rfl (lv_at hl_18 1 rfl) ?_
        refine lv_iload_n hx hb dX7_part_133 rfl (lv_at hl_18 0 rfl) ?_
        refine lv_bipush (v := nI 49) hx hb dX7_part_134 (by decide) ?_
        refine lv_bipush (v := nI 57) hx hb dX7_part_136 (by decide) ?_
        obtain ⟨c16, t17, hc1, hs1, hvc_12⟩ := hvc_12
        refine gw_cVIA (As := [.int s0, .int (nI 49), .int (nI 57)]) (rest := [])  ⟨hx, hb, hml, hown, hts⟩ (met_X7_deed l E G y0 s0 (nI 49) (nI 57) c16 t17 _ hvc_12.2) (cwV 3 hts (lw_V q1197 q1199 qs20 q124 q1200) rfl rfl rfl (by decide +kernel) ⟨Nat.le_of_ble_eq_true rfl, Nat.le_of_ble_eq_true rfl⟩) (gw_rc (q := (RX7, TX7, 4)) hK hG_13 hvc_12.1 rfl) hc1 hs1 hMC_16 hMS_17 (Nat.le_refl _) (Nat.le_refl _) (g_X.st E) hz hX hK hG_13 hS_14 rfl hl_18.1 rfl (Nat.le_of_ble_eq_true rfl) dX7_part_138 (fun x14 G15 H locs ce sl hvc_24 hG_25 hS_26 hMC_27 hMS_28 => ?_)
        clear hvc_12 hG_13 hS_14 hMC_16 hMS_17
        refine lv_goto (tgt := 188) hx hb dX7_part_141 (by decide) ?_
        exact g_iret hx hb hr hlocks (by show _ ≤ mc0; omega) (by show _ ≤ ms0; omega) hG_25 hS_26 hvc_24.1 hvc_24.2 dX7_part_188
      by_cases h103 : s0 = nI 103
      · replace hvc_12 := hvc_12.2.2.1 h103
        rw [h103]; refine lv_tableIn (off := 114) (tgt := 168) hx hb dX7_part_54 (by decide) (by decide) (by decide) (by decide) ?_
        refine lv_aload_n hx hb dX7_part_168 rfl (lv_at hl_18 1 rfl) ?_
        refine lv_iload_n hx hb dX7_part_169 rfl (lv_at hl_18 0 rfl) ?_
        refine lv_bipush (v := nI 48) hx hb dX7_part_170 (by decide) ?_
        refine lv_bipush (v := nI 55) hx hb dX7_part_172 (by decide) ?_
        obtain ⟨c20, t21, hc1, hs1, hvc_12⟩ := hvc_12
        refine gw_cVIA (As := [.int s0, .int (nI 48), .int (nI 55)]) (rest := [])  ⟨hx, hb, hml, hown, hts⟩ (met_X7_deed l E G y0 s0 (nI 48) (nI 55) c20 t21 _ hvc_12.2) (cwV 3 hts (lw_V q1197 q1199 qs20 q124 q1200) rfl rfl rfl (by decide +kernel) ⟨Nat.le_of_ble_eq_true rfl, Nat.le_of_ble_eq_true rfl⟩) (gw_rc (q := (RX7, TX7, 4)) hK hG_13 hvc_12.1 rfl) hc1 hs1 hMC_16 hMS_17 (Nat.le_refl _) (Nat.le_refl _) (g_X.st E) hz hX hK hG_13 hS_14 rfl hl_18.1 rfl (Nat.le_of_ble_eq_true rfl) dX7_part_174 (fun x18 G19 H locs ce sl hvc_29 hG_30 hS_31 hMC_32 hMS_33 => ?_)
        clear hvc_12 hG_13 hS_14 hMC_16 hMS_17
        refine lv_goto (tgt := 188) hx hb dX7_part_177 (by decide) ?_
        exact g_iret hx hb hr hlocks (by show _ ≤ mc0; omega) (by show _ ≤ ms0; omega) hG_30 hS_31 hvc_29.1 hvc_29.2 dX7_part_188
      by_cases h108 : s0 = nI 108
      · replace hvc_12 := hvc_12.2.2.2.1 h108
        rw [h108]; refine lv_tableIn (off := 90) (tgt := 144) hx hb dX7_part_54 (by decide) (by decide) (by decide) (by decide) ?_
        refine lv_aload_n hx hb dX7_part_144 rfl (lv_at hl_18 1 rfl) ?_
        refine lv_iload_n hx hb dX7_part_145 rfl (lv_at hl_18 0 rfl) ?_
        refine lv_bipush (v := nI 48) hx hb dX7_part_146 (by decide) ?_
        refine lv_bipush (v := nI 57) hx hb dX7_part_148 (by decide) ?_
        obtain ⟨c24, t25, hc1, hs1, hvc_12⟩ := hvc_12
        refine gw_cVIA (As := [.int s0, .int (nI 48), .int (nI 57)]) (rest := [])  ⟨hx, hb, hml, hown, hts⟩ (met_X7_deed l E G y0 s0 (nI 48) (nI 57) c24 t25 _ hvc_12.2) (cwV 3 hts (lw_V q1197 q1199 qs20 q124 q1200) rfl rfl rfl (by decide +kernel) ⟨Nat.le_of_ble_eq_true rfl, Nat.le_of_ble_eq_true rfl⟩) (gw_rc (q := (RX7, TX7, 4)) hK hG_13 hvc_12.1 rfl) hc1 hs1 hMC_16 hMS_17 (Nat.le_refl _) (Nat.le_refl _) (g_X.st E) hz hX hK hG_13 hS_14 rfl hl_18.1 rfl (Nat.le_of_ble_eq_true rfl) dX7_part_150 (fun x22 G23 H locs ce sl hvc_34 hG_35 hS_36 hMC_37 hMS_38 => ?_)
        clear hvc_12 hG_13 hS_14 hMC_16 hMS_17
        refine lv_goto (tgt := 188) hx hb dX7_part_153 (by decide) ?_
        exact g_iret hx hb hr hlocks (by show _ ≤ mc0; omega) (by show _ ≤ ms0; omega) hG_35 hS_36 hvc_34.1 hvc_34.2 dX7_part_188
      by_cases h113 : s0 = nI 113
      · replace hvc_12 := hvc_12.2.2.2.2.1 h113
        rw [h113]; refine lv_tableIn (off := 126) (tgt := 180) hx hb dX7_part_54 (by decide) (by decide) (by decide) (by decide) ?_
        refine lv_aload_n hx hb dX7_part_180 rfl (lv_at hl_18 1 rfl) ?_
        obtain ⟨c28, t29, hc1, hs1, hvc_12⟩ := hvc_12
        refine gw_cVIA (As := []) (rest := [])  ⟨hx, hb, hml, hown, hts⟩ (met_X7_asking l E G y0 c28 t29 _ hvc_12.2) (cwV 0 hts (lw_V q1220 q1222 qs21 q124 q1223) rfl rfl rfl (by decide +kernel) ⟨Nat.le_of_ble_eq_true rfl, Nat.le_of_ble_eq_true rfl⟩) (gw_rc (q := (RX7, TX7, 4)) hK hG_13 hvc_12.1 rfl) hc1 hs1 hMC_16 hMS_17 (Nat.le_refl _) (Nat.le_refl _) (g_X.st E) hz hX hK hG_13 hS_14 rfl hl_18.1 rfl (Nat.le_of_ble_eq_true rfl) dX7_part_181 (fun x26 G27 H locs ce sl hvc_39 hG_40 hS_41 hMC_42 hMS_43 => ?_)
        clear hvc_12 hG_13 hS_14 hMC_16 hMS_17
        refine lv_goto (tgt := 188) hx hb dX7_part_184 (by decide) ?_
        exact g_iret hx hb hr hlocks (by show _ ≤ mc0; omega) (by show _ ≤ ms0; omega) hG_40 hS_41 hvc_39.1 hvc_39.2 dX7_part_188
      by_cases h114 : s0 = nI 114
      · replace hvc_12 := hvc_12.2.2.2.2.2.1 h114
        rw [h114]; refine lv_tableIn (off := 102) (tgt := 156) hx hb dX7_part_54 (by decide) (by decide) (by decide) (by decide) ?_
        refine lv_aload_n hx hb dX7_part_156 rfl (lv_at hl_18 1 rfl) ?_
        refine lv_iload_n hx hb dX7_part_157 rfl (lv_at hl_18 0 rfl) ?_
        refine lv_bipush (v := nI 48) hx hb dX7_part_158 (by decide) ?_
        refine lv_bipush (v := nI 52) hx hb dX7_part_160 (by decide) ?_
        obtain ⟨c32, t33, hc1, hs1, hvc_12⟩ := hvc_12
        refine gw_cVIA (As := [.int s0, .int (nI 48), .int (nI 52)]) (rest := [])  ⟨hx, hb, hml, hown, hts⟩ (met_X7_deed l E G y0 s0 (nI 48) (nI 52) c32 t33 _ hvc_12.2) (cwV 3 hts (lw_V q1197 q1199 qs20 q124 q1200) rfl rfl rfl (by decide +kernel) ⟨Nat.le_of_ble_eq_true rfl, Nat.le_of_ble_eq_true rfl⟩) (gw_rc (q := (RX7, TX7, 4)) hK hG_13 hvc_12.1 rfl) hc1 hs1 hMC_16 hMS_17 (Nat.le_refl _) (Nat.le_refl _) (g_X.st E) hz hX hK hG_13 hS_14 rfl hl_18.1 rfl (Nat.le_of_ble_eq_true rfl) dX7_part_162 (fun x30 G31 H locs ce sl hvc_44 hG_45 hS_46 hMC_47 hMS_48 => ?_)
        clear hvc_12 hG_13 hS_14 hMC_16 hMS_17
        refine lv_goto (tgt := 188) hx hb dX7_part_165 (by decide) ?_
        exact g_iret hx hb hr hlocks (by show _ ≤ mc0; omega) (by show _ ≤ ms0; omega) hG_45 hS_46 hvc_44.1 hvc_44.2 dX7_part_188
      replace hvc_12 := hvc_12.2.2.2.2.2.2 h99 h100 h103 h108 h113 h114
      by_cases h101 : s0 = nI 101
      · rw [h101]; refine lv_tableIn (off := 133) (tgt := 187) hx hb dX7_part_54 (by decide) (by decide) (by decide) (by decide) ?_
        refine lv_iconst (v := nI 0) hx hb dX7_part_187 (by decide) ?_
        exact g_iret hx hb hr hlocks (by show _ ≤ mc0; omega) (by show _ ≤ ms0; omega) hG_13 hS_14 rfl hvc_12 dX7_part_188
      by_cases h102 : s0 = nI 102
      · rw [h102]; refine lv_tableIn (off := 133) (tgt := 187) hx hb dX7_part_54 (by decide) (by decide) (by decide) (by decide) ?_
        refine lv_iconst (v := nI 0) hx hb dX7_part_187 (by decide) ?_
        exact g_iret hx hb hr hlocks (by show _ ≤ mc0; omega) (by show _ ≤ ms0; omega) hG_13 hS_14 rfl hvc_12 dX7_part_188
      by_cases h104 : s0 = nI 104
      · rw [h104]; refine lv_tableIn (off := 133) (tgt := 187) hx hb dX7_part_54 (by decide) (by decide) (by decide) (by decide) ?_
        refine lv_iconst (v := nI 0) hx hb dX7_part_187 (by decide) ?_
        exact g_iret hx hb hr hlocks (by show _ ≤ mc0; omega) (by show _ ≤ ms0; omega) hG_13 hS_14 rfl hvc_12 dX7_part_188
      by_cases h105 : s0 = nI 105
      · rw [h105]; refine lv_tableIn (off := 133) (tgt := 187) hx hb dX7_part_54 (by decide) (by decide) (by decide) (by decide) ?_
        refine lv_iconst (v := nI 0) hx hb dX7_part_187 (by decide) ?_
        exact g_iret hx hb hr hlocks (by show _ ≤ mc0; omega) (by show _ ≤ ms0; omega) hG_13 hS_14 rfl hvc_12 dX7_part_188
      by_cases h106 : s0 = nI 106
      · rw [h106]; refine lv_tableIn (off := 133) (tgt := 187) hx hb dX7_part_54 (by decide) (by decide) (by decide) (by decide) ?_
        refine lv_iconst (v := nI 0) hx hb dX7_part_187 (by decide) ?_
        exact g_iret hx hb hr hlocks (by show _ ≤ mc0; omega) (by show _ ≤ ms0; omega) hG_13 hS_14 rfl hvc_12 dX7_part_188
      by_cases h107 : s0 = nI 107
      · rw [h107]; refine lv_tableIn (off := 133) (tgt := 187) hx hb dX7_part_54 (by decide) (by decide) (by decide) (by decide) ?_
        refine lv_iconst (v := nI 0) hx hb dX7_part_187 (by decide) ?_
        exact g_iret hx hb hr hlocks (by show _ ≤ mc0; omega) (by show _ ≤ ms0; omega) hG_13 hS_14 rfl hvc_12 dX7_part_188
      by_cases h109 : s0 = nI 109
      · rw [h109]; refine lv_tableIn (off := 133) (tgt := 187) hx hb dX7_part_54 (by decide) (by decide) (by decide) (by decide) ?_
        refine lv_iconst (v := nI 0) hx hb dX7_part_187 (by decide) ?_
        exact g_iret hx hb hr hlocks (by show _ ≤ mc0; omega) (by show _ ≤ ms0; omega) hG_13 hS_14 rfl hvc_12 dX7_part_188
      by_cases h110 : s0 = nI 110
      · rw [h110]; refine lv_tableIn (off := 133) (tgt := 187) hx hb dX7_part_54 (by decide) (by decide) (by decide) (by decide) ?_
        refine lv_iconst (v := nI 0) hx hb dX7_part_187 (by decide) ?_
        exact g_iret hx hb hr hlocks (by show _ ≤ mc0; omega) (by show _ ≤ ms0; omega) hG_13 hS_14 rfl hvc_12 dX7_part_188
      by_cases h111 : s0 = nI 111
      · rw [h111]; refine lv_tableIn (off := 133) (tgt := 187) hx hb dX7_part_54 (by decide) (by decide) (by decide) (by decide) ?_
        refine lv_iconst (v := nI 0) hx hb dX7_part_187 (by decide) ?_
        exact g_iret hx hb hr hlocks (by show _ ≤ mc0; omega) (by show _ ≤ ms0; omega) hG_13 hS_14 rfl hvc_12 dX7_part_188
      by_cases h112 : s0 = nI 112
      · rw [h112]; refine lv_tableIn (off := 133) (tgt := 187) hx hb dX7_part_54 (by decide) (by decide) (by decide) (by decide) ?_
        refine lv_iconst (v := nI 0) hx hb dX7_part_187 (by decide) ?_
        exact g_iret hx hb hr hlocks (by show _ ≤ mc0; omega) (by show _ ≤ ms0; omega) hG_13 hS_14 rfl hvc_12 dX7_part_188
      have hr9 : (s0).toInt < 99 ∨ 114 < (s0).toInt := by
        have g99 := lv_neT h99 (a := 99) (by decide)
        have g100 := lv_neT h100 (a := 100) (by decide)
        have g101 := lv_neT h101 (a := 101) (by decide)
        have g102 := lv_neT h102 (a := 102) (by decide)
        have g103 := lv_neT h103 (a := 103) (by decide)
        have g104 := lv_neT h104 (a := 104) (by decide)
        have g105 := lv_neT h105 (a := 105) (by decide)
        have g106 := lv_neT h106 (a := 106) (by decide)
        have g107 := lv_neT h107 (a := 107) (by decide)
        have g108 := lv_neT h108 (a := 108) (by decide)
        have g109 := lv_neT h109 (a := 109) (by decide)
        have g110 := lv_neT h110 (a := 110) (by decide)
        have g111 := lv_neT h111 (a := 111) (by decide)
        have g112 := lv_neT h112 (a := 112) (by decide)
        have g113 := lv_neT h113 (a := 113) (by decide)
        have g114 := lv_neT h114 (a := 114) (by decide)
        omega
      refine lv_tableOut (tgt := 187) hx hb dX7_part_54 hr9 (by decide) ?_
      refine lv_iconst (v := nI 0) hx hb dX7_part_187 (by decide) ?_
      exact g_iret hx hb hr hlocks (by show _ ≤ mc0; omega) (by show _ ≤ ms0; omega) hG_13 hS_14 rfl hvc_12 dX7_part_188
    refine lv_icmp_ge (tgt := 50) hx hb dX7_part_30 (by decide) (fun h9 => ?_) (fun h9 => ?_)
    · replace hvc_9 := hvc_9.1 h9
      refine lv_bipush (v := nI 32) hx hb dX7_part_50 (by decide) ?_
      exact jn52 o (nI 32) G2 (mc0 - c3) (ms0 - t4) _ _ _ _ _ hvc_9 hG_10 hS_11 (lv_sub hl [0] rfl) hMC_4 hMS_5
    · replace hvc_9 := hvc_9.2 h9
      refine lv_aload_n hx hb dX7_part_33 rfl (lv_at hl 0 rfl) ?_
      refine gw_gr (C := RX7) (T := TX7) (N := 4) (own := RX7) hx hb hts in_X7 hown hK hG_10 hvc_9 rfl (by decide) (hts _ q1115) (fun _ h9 => h9) dX7_part_34 (fun x34 hvc_49 => ?_)
      clear hvc_9
      refine gw_grN (C := RX1) (T := TX1) (N := 4) (own := RX7) hx hb hts in_X1 hown hK hG_10 hvc_49 rfl (by decide) (hX.1 _ q346 rfl) (fun _ h9 => h9) dX7_part_37 (fun x35 hvc_50 => ?_)
      clear hvc_49
      refine lv_aload_n hx hb dX7_part_40 rfl (lv_at hl 0 rfl) ?_
      refine gw_gi (C := RX7) (T := TX7) (N := 4) (own := RX7) hx hb hts in_X7 hown hK hG_10 hvc_50 rfl (by decide) (hts _ q1111) (fun _ h9 => h9) dX7_part_41 (fun x36 hvc_51 => ?_)
      clear hvc_50
      obtain ⟨c39, t40, hc1, hs1, hvc_51⟩ := hvc_51
      refine gw_cVIA (As := [.int x36]) (rest := [])  ⟨hx, hb, hml, hown, hts⟩ (met_J1_charAt l E G2 x35 x36 c39 t40 _ hvc_51.2) (cwV 1 hts (lw_V q1142 q1143 q1144 q92 q1145) rfl rfl rfl (by decide +kernel) ⟨Nat.le_of_ble_eq_true rfl, Nat.le_of_ble_eq_true rfl⟩) (gw_rc (q := (RJ1, TJ1, 4)) hK hG_10 hvc_51.1 rfl) hc1 hs1 hMC_4 hMS_5 (Nat.le_refl _) (Nat.le_refl _) (g_X.st E) hz hX hK hG_10 hS_11 rfl hl.1 rfl (Nat.le_of_ble_eq_true rfl) dX7_part_44 (fun x37 G38 H locs ce sl hvc_52 hG_53 hS_54 hMC_55 hMS_56 => ?_)
      clear hvc_51 hG_10 hS_11 hMC_4 hMS_5
      refine lv_goto (tgt := 52) hx hb dX7_part_47 (by decide) ?_
      exact jn52 o x37 G38 (mc0 - c3 - c39) (ms0 - t4 - t40) _ _ _ _ _ hvc_52 hG_53 hS_54 (lv_sub hl [0] rfl) hMC_55 hMS_56
  · replace hvc_1 := hvc_1.2 h9
    refine lv_aload_n hx hb dX7_part_11 rfl (lv_at hl 0 rfl) ?_
    obtain ⟨c43, t44, hc1, hs1, hvc_1⟩ := hvc_1
    refine gw_cVIA (As := []) (rest := [])  ⟨hx, hb, hml, hown, hts⟩ (met_X7_beginning l E G2 o c43 t44 _ hvc_1.2) (cwV 0 hts (lw_V q1155 q1157 qs17 q124 q1158) rfl rfl rfl (by decide +kernel) ⟨Nat.le_of_ble_eq_true rfl, Nat.le_of_ble_eq_true rfl⟩) (gw_rc (q := (RX7, TX7, 4)) hK hG_2 hvc_1.1 rfl) hc1 hs1 hMC_4 hMS_5 (Nat.le_refl _) (Nat.le_refl _) (g_X.st E) hz hX hK hG_2 hS_3 rfl hl.1 rfl (Nat.le_of_ble_eq_true rfl) dX7_part_12 (fun x41 G42 H locs ce sl hvc_57 hG_58 hS_59 hMC_60 hMS_61 => ?_)
    clear hvc_1 hG_2 hS_3 hMC_4 hMS_5
    exact g_iret hx hb hr hlocks (by show _ ≤ mc0; omega) (by show _ ≤ ms0; omega) hG_58 hS_59 hvc_57.1 hvc_57.2 dX7_part_15
set_option maxHeartbeats 4000000 in
set_option maxRecDepth 100000 in
theorem met_X7_reads (l : Launch) (E : g_E) (G : g_G) (o : Nat) (mc0 ms0 : Nat) (post : Option Nat → g_G → Prop) (hvc : wp_X7_reads E G o mc0 ms0 post) : g_MQ E l yX7_reads (ws_ yX7_reads cX7_reads 2 (Option.some (Jvm.ClassFile.FieldType.object "VoteLogs$Reader"))) ({ frames := 9, cells := mc0, slots := ms0, locals := 236 } : Room) (g_X E) [.ref o] G (post) := by
  refine g_enter (by decide +kernel) (Nat.le_of_ble_eq_true rfl) ?_
  intro p e s m below meth c ls hx hb hr hts hown hlocks hml hin hz hX hK hG hS hl
  have hl : lv_has ls 2 [(0, .ref o)] := hl
  have hown : s.vm.findClass RX7 = some m.cls := hown
  have hMC : 0 + mc0 ≤ mc0 := Nat.le_of_eq (Nat.zero_add _)
  have hMS : 0 + ms0 ≤ ms0 := Nat.le_of_eq (Nat.zero_add _)
  unfold wp_X7_reads at hvc
  refine lv_aload_n hx hb dX7_reads_0 rfl (lv_at hl 0 rfl) ?_
  obtain ⟨c3, t4, hc1, hs1, hvc⟩ := hvc
  refine gw_cVIA (As := []) (rest := [])  ⟨hx, hb, hml, hown, hts⟩ (met_X7_part l E G o c3 t4 _ hvc.2) (cwV 0 hts (lw_V q1129 q1131 qs14 q124 q1132) rfl rfl rfl (by decide +kernel) ⟨Nat.le_of_ble_eq_true rfl, Nat.le_of_ble_eq_true rfl⟩) (gw_rc (q := (RX7, TX7, 4)) hK hG hvc.1 rfl) hc1 hs1 hMC hMS (Nat.le_refl _) (Nat.le_refl _) (g_X.st E) hz hX hK hG hS rfl hl.1 rfl (Nat.le_of_ble_eq_true rfl) dX7_reads_1 (fun x1 G2 H locs ce sl hvc_1 hG_2 hS_3 hMC_4 hMS_5 => ?_)
  clear hvc hG hS hMC hMS
  have lp5 : ∀ (n5 : Nat) (y0 : Nat) (y1 : Int32) (G : g_G) (mc : Nat) (ms : Nat) (H : Heap) (locs : List Loc) (ls : Array Slot) (ce sl : Nat), wp_X7_reads_5 E post n5 y0 y1 G mc ms → g_H E G H → va_S (g_A E) s.heap H locs → lv_has ls 2 [(0, .ref y0), (1, .int y1)] → ce + mc ≤ mc0 → sl + ms ≤ ms0 → W p l e ({ frames := 9, cells := mc0, slots := ms0, locals := 236 } : Room) s m ([.ref o] : List Value).toArray below meth c H locs ce sl (MQ below (va_Qq (post) (g_Bk E) (g_A E)) ([.ref o] : List Value).toArray s mc0 ms0 (g_A E)) (F0 m 5 ls []) := by
    clear hvc_1 hG_2 hS_3 hl hMC_4 hMS_5
    intro n5
    induction n5 with
    | zero =>
      intro y0 y1 G mc ms H locs ls ce sl hvc_6 hG_7 hS_8 hl_9 hMC_10 hMS_11
      exact False.elim hvc_6
    | succ n5 ih5 =>
      intro y0 y1 G mc ms H locs ls ce sl hvc_12 hG_13 hS_14 hl_15 hMC_16 hMS_17
      refine lv_iload_n hx hb dX7_reads_5 rfl (lv_at hl_15 1 rfl) ?_
      have jn28 : ∀ (y0 : Nat) (y1 : Int32) (G : g_G) (mc : Nat) (ms : Nat) (H : Heap) (locs : List Loc) (ls : Array Slot) (ce sl : Nat), wp_X7_reads_28 E post y0 y1 G mc ms → g_H E G H → va_S (g_A E) s.heap H locs → lv_has ls 2 [(0, .ref y0), (1, .int y1)] → ce + mc ≤ mc0 → sl + ms ≤ ms0 → W p l e ({ frames := 9, cells := mc0, slots := ms0, locals := 236 } : Room) s m ([.ref o] : List Value).toArray below meth c H locs ce sl (MQ below (va_Qq (post) (g_Bk E) (g_A E)) ([.ref o] : List Value).toArray s mc0 ms0 (g_A E)) (F0 m 28 ls []) := by
        clear hvc_12 hG_13 hS_14 hl_15 hMC_16 hMS_17
        intro y0 y1 G mc ms H locs ls ce sl hvc_18 hG_19 hS_20 hl_21 hMC_22 hMS_23
        refine lv_aload_n hx hb dX7_reads_28 rfl (lv_at hl_21 0 rfl) ?_
        refine lv_iload_n hx hb dX7_reads_29 rfl (lv_at hl_21 1 rfl) ?_
        have jn54 : ∀ (y0 : Nat) (s0 : Nat) (G : g_G) (mc : Nat) (ms : Nat) (H : Heap) (locs : List Loc) (ls : Array Slot) (ce sl : Nat), wp_X7_reads_54 E post y0 s0 G mc ms → g_H E G H → va_S (g_A E) s.heap H locs → lv_has ls 2 [(0, .ref y0)] → ce + mc ≤ mc0 → sl + ms ≤ ms0 → W p l e ({ frames := 9, cells := mc0, slots := ms0, locals := 236 } : Room) s m ([.ref o] : List Value).toArray below meth c H locs ce sl (MQ below (va_Qq (post) (g_Bk E) (g_A E)) ([.ref o] : List Value).toArray s mc0 ms0 (g_A E)) (F0 m 54 ls [.ref s0]) := by
          clear hvc_18 hG_19 hS_20 hl_21 hMC_22 hMS_23
          intro y0 s0 G mc ms H locs ls ce sl hvc_24 hG_25 hS_26 hl_27 hMC_28 hMS_29
          refine lv_iconst (v := nI 0) hx hb dX7_reads_54 (by decide) ?_
          refine gw_put (ty := .boolean) (C := RX7) (T := TX7) (N := 4) (own := RX7) hx hb hts in_X7 tyX7 tyX7_ok nmX7 hown hK hG_25 hS_26 hvc_24 rfl (by decide) (hts _ q1113) (fun _ h9 => h9) rfl (by decide +kernel) rfl rfl dX7_reads_55 (fun G5 H locs hvc_30 hG_31 hS_32 => ?_)
          clear hvc_24 hG_25 hS_26
          refine lv_aload_n hx hb dX7_reads_58 rfl (lv_at hl_27 0 rfl) ?_
          exact g_aret (v := (some y0)) hx hb hr (Or.inl ⟨_, rfl⟩) hlocks (by show _ ≤ mc0; omega) (by show _ ≤ ms0; omega) hG_31 hS_32 hvc_30 dX7_reads_59
        refine lv_if_eq (tgt := 54) hx hb dX7_reads_30 (by decide) (fun h9 => ?_) (fun h9 => ?_)
        · replace hvc_18 := hvc_18.1 h9
          exact jn54 y0 y0 G mc ms _ _ _ _ _ hvc_18 hG_19 hS_20 (lv_sub hl_21 [0] rfl) hMC_22 hMS_23
        · replace hvc_18 := hvc_18.2 h9
          refine lv_aload_n hx hb dX7_reads_33 rfl (lv_at hl_21 0 rfl) ?_
          refine gw_gi (C := RX7) (T := TX7) (N := 4) (own := RX7) hx hb hts in_X7 hown hK hG_19 hvc_18 rfl (by decide) (hts _ q1111) (fun _ h9 => h9) dX7_reads_34 (fun x6 hvc_33 => ?_)
          clear hvc_18
          refine lv_aload_n hx hb dX7_reads_37 rfl (lv_at hl_21 0 rfl) ?_
          refine gw_gr (C := RX7) (T := TX7) (N := 4) (own := RX7) hx hb hts in_X7 hown hK hG_19 hvc_33 rfl (by decide) (hts _ q1115) (fun _ h9 => h9) dX7_reads_38 (fun x7 hvc_34 => ?_)
          clear hvc_33
          refine gw_grN (C := RX1) (T := TX1) (N := 4) (own := RX7) hx hb hts in_X1 hown hK hG_19 hvc_34 rfl (by decide) (hX.1 _ q346 rfl) (fun _ h9 => h9) dX7_reads_41 (fun x8 hvc_35 => ?_)
          clear hvc_34
          refine gw_cVIP (As := []) (rest := [.int x6, .ref y0])  ⟨hx, hb, hml, hown, hts⟩ (met_J1_length l E G x8 _ hvc_35.2) (cwV 0 hts (lw_V q1141 q616 q2283 q92 q617) rfl rfl rfl (by decide +kernel) ⟨Nat.le_of_ble_eq_true rfl, Nat.le_of_ble_eq_true rfl⟩) (gw_rc (q := (RJ1, TJ1, 4)) hK hG_19 hvc_35.1 rfl) (by show _ ≤ mc0; omega) (by show _ ≤ ms0; omega) (g_St0 E) hz trivial hK hG_19 hS_20 rfl hl_21.1 rfl (Nat.le_of_ble_eq_true rfl) dX7_reads_44 (fun x9 H locs hvc_36 hG_37 hS_38 => ?_)
          clear hvc_35 hG_19 hS_20
          refine lv_icmp_ne (tgt := 54) hx hb dX7_reads_47 (by decide) (fun h9 => ?_) (fun h9 => ?_)
          · replace hvc_36 := hvc_36.1 h9
            exact jn54 y0 y0 G mc ms _ _ _ _ _ hvc_36 hG_37 hS_38 (lv_sub hl_21 [0] rfl) hMC_22 hMS_23
          · replace hvc_36 := hvc_36.2 h9
            refine lv_iconst (v := nI 1) hx hb dX7_reads_50 (by decide) ?_
            refine lv_goto (tgt := 55) hx hb dX7_reads_51 (by decide) ?_
            refine gw_put (ty := .boolean) (C := RX7) (T := TX7) (N := 4) (own := RX7) hx hb hts in_X7 tyX7 tyX7_ok nmX7 hown hK hG_37 hS_38 hvc_36 rfl (by decide) (hts _ q1113) (fun _ h9 => h9) rfl (by decide +kernel) rfl rfl dX7_reads_55 (fun G11 H locs hvc_39 hG_40 hS_41 => ?_)
            clear hvc_36 hG_37 hS_38
            refine lv_aload_n hx hb dX7_reads_58 rfl (lv_at hl_21 0 rfl) ?_
            exact g_aret (v := (some y0)) hx hb hr (Or.inl ⟨_, rfl⟩) hlocks (by show _ ≤ mc0; omega) (by show _ ≤ ms0; omega) hG_40 hS_41 hvc_39 dX7_reads_59
      refine lv_if_eq (tgt := 28) hx hb dX7_reads_6 (by decide) (fun h9 => ?_) (fun h9 => ?_)
      · replace hvc_12 := hvc_12.1 h9
        exact jn28 y0 y1 G mc ms _ _ _ _ _ hvc_12 hG_13 hS_14 (lv_sub hl_15 [0, 1] rfl) hMC_16 hMS_17
      · replace hvc_12 := hvc_12.2 h9
        refine lv_aload_n hx hb dX7_reads_9 rfl (lv_at hl_15 0 rfl) ?_
        refine lv_bipush (v := nI 59) hx hb dX7_reads_10 (by decide) ?_
        refine lv_bipush (v := nI 59) hx hb dX7_reads_12 (by decide) ?_
        obtain ⟨c14, t15, hc1, hs1, hvc_12⟩ := hvc_12
        refine gw_cVIA (As := [.int (nI 59), .int (nI 59)]) (rest := [])  ⟨hx, hb, hml, hown, hts⟩ (met_X7_next l E G y0 (nI 59) (nI 59) c14 t15 _ hvc_12.2) (cwV 2 hts (lw_V q1133 q1135 qs15 q124 q1136) rfl rfl rfl (by decide +kernel) ⟨Nat.le_of_ble_eq_true rfl, Nat.le_of_ble_eq_true rfl⟩) (gw_rc (q := (RX7, TX7, 4)) hK hG_13 hvc_12.1 rfl) hc1 hs1 hMC_16 hMS_17 (Nat.le_refl _) (Nat.le_refl _) (g_X.st E) hz hX hK hG_13 hS_14 rfl hl_15.1 rfl (Nat.le_of_ble_eq_true rfl) dX7_reads_14 (fun x12 G13 H locs ce sl hvc_42 hG_43 hS_44 hMC_45 hMS_46 => ?_)
        clear hvc_12 hG_13 hS_14 hMC_16 hMS_17
        refine lv_if_ne (tgt := 28) hx hb dX7_reads_17 (by decide) (fun h9 => ?_) (fun h9 => ?_)
        · replace hvc_42 := hvc_42.1 h9
          exact jn28 y0 y1 G13 (mc - c14) (ms - t15) _ _ _ _ _ hvc_42 hG_43 hS_44 (lv_sub hl_15 [0, 1] rfl) hMC_45 hMS_46
        · replace hvc_42 := hvc_42.2 h9
          refine lv_aload_n hx hb dX7_reads_20 rfl (lv_at hl_15 0 rfl) ?_
          obtain ⟨c18, t19, hc1, hs1, hvc_42⟩ := hvc_42
          refine gw_cVIA (As := []) (rest := [])  ⟨hx, hb, hml, hown, hts⟩ (met_X7_part l E G13 y0 c18 t19 _ hvc_42.2) (cwV 0 hts (lw_V q1129 q1131 qs14 q124 q1132) rfl rfl rfl (by decide +kernel) ⟨Nat.le_of_ble_eq_true rfl, Nat.le_of_ble_eq_true rfl⟩) (gw_rc (q := (RX7, TX7, 4)) hK hG_43 hvc_42.1 rfl) hc1 hs1 hMC_45 hMS_46 (Nat.le_refl _) (Nat.le_refl _) (g_X.st E) hz hX hK hG_43 hS_44 rfl hl_15.1 rfl (Nat.le_of_ble_eq_true rfl) dX7_reads_21 (fun x16 G17 H locs ce sl hvc_47 hG_48 hS_49 hMC_50 hMS_51 => ?_)
          clear hvc_42 hG_43 hS_44 hMC_45 hMS_46
          refine lv_istore_n (lv' := [(1, .int x16), (0, .ref y0)]) hx hb dX7_reads_24 rfl hl_15 (by decide) rfl (fun ls hl_52 => ?_)
          clear hl_15
          refine lv_goto (tgt := 5) hx hb dX7_reads_25 (by decide) ?_
          exact ih5 y0 x16 G17 (mc - c14 - c18) (ms - t15 - t19) _ _ _ _ _ hvc_47 hG_48 hS_49 (lv_sub hl_52 [1, 0] rfl) hMC_50 hMS_51
  refine lv_istore_n (lv' := [(1, .int x1), (0, .ref o)]) hx hb dX7_reads_4 rfl hl (by decide) rfl (fun ls hl_53 => ?_)
  clear hl
  obtain ⟨nf5, hvc_1⟩ := hvc_1
  exact lp5 nf5 o x1 G2 (mc0 - c3) (ms0 - t4) _ _ _ _ _ hvc_1 hG_2 hS_3 (lv_sub hl_53 [1, 0] rfl) hMC_4 hMS_5
