/-! printed by tools/gen.py -/
set_option maxHeartbeats 4000000 in
set_option maxRecDepth 100000 in
theorem met_X1_init (l : Launch) (E : g_E) (G : g_G) (o : Nat) (mc0 ms0 : Nat) (post : g_G → Prop) (hvc : wp_X1_init E G o mc0 ms0 post) : g_MV E l yX1_init (ws_ yX1_init cX1_init 1 (Option.none : Option Jvm.ClassFile.FieldType)) ({ frames := 8, cells := mc0, slots := ms0, locals := 212 } : Room) (g_X E) [.ref o] G (post) := by
  refine g_enter (by decide +kernel) (Nat.le_of_ble_eq_true rfl) ?_
  intro p e s m below meth c ls hx hb hr hts hown hlocks hml hin hz hX hK hG hS hl
  have hl : lv_has ls 1 [(0, .ref o)] := hl
  have hown : s.vm.findClass RX1 = some m.cls := hown
  have hMC : 0 + mc0 ≤ mc0 := Nat.le_of_eq (Nat.zero_add _)
  have hMS : 0 + ms0 ≤ ms0 := Nat.le_of_eq (Nat.zero_add _)
  unfold wp_X1_init at hvc
  refine lv_aload_n hx hb dX1_init_0 rfl (lv_at hl 0 rfl) ?_
  refine W.objInit hx hb hown (hts _ q134) (hts _ q135) (hts _ q136) rfl (by rw [hml]; exact hl.1) rfl dX1_init_1 (Nat.le_of_ble_eq_true rfl) (Nat.le_of_ble_eq_true rfl) ?_
  refine W.eq (g2 := F0 m 4 ls []) rfl ?_
  refine lv_aload_n hx hb dX1_init_4 rfl (lv_at hl 0 rfl) ?_
  refine gw_new (C := RJ1) (T := TJ1) (N := 4) (own := RX1) hx hb hts in_J1 tyJ1 tyJ1_ok hown (hts _ q137) (hts _ q138) (hts _ q92) hK hG hS hz hvc rfl (by decide) hMC hMS (Nat.le_refl _) (Nat.le_refl _) dX1_init_5 (fun q1 G2 H ce sl hvc_1 hG_2 hS_3 hMC_4 hMS_5 => ?_)
  clear hvc hG hS hMC hMS
  refine lv_dup hx hb dX1_init_8 rfl ?_
  obtain ⟨c5, t6, hc1, hs1, hvc_1⟩ := hvc_1
  refine gw_cCVA (As := []) (rest := [.ref q1, .ref o])  ⟨hx, hb, hml, hown, hts⟩ (met_J1_init l E G2 q1 c5 t6 _ hvc_1) (cwI 0 hts (lw_meth q141) rfl rfl rfl (hts _ q92) (hts _ q139) (hts _ q140) rfl (by decide +kernel) ⟨Nat.le_of_ble_eq_true rfl, Nat.le_of_ble_eq_true rfl⟩) hc1 hs1 hMC_4 hMS_5 (Nat.le_refl _) (Nat.le_refl _) (g_X.st E) hz hX hK hG_2 hS_3 rfl hl.1 rfl (Nat.le_of_ble_eq_true rfl) dX1_init_9 (fun G4 H locs ce sl hvc_6 hG_7 hS_8 hMC_9 hMS_10 => ?_)
  clear hvc_1 hG_2 hS_3 hMC_4 hMS_5
  refine gw_putF (ty := .object "java/lang/StringBuilder") (C := RX1) (T := TX1) (N := 4) (own := RX1) hx hb hts in_X1 tyX1 tyX1_ok nmX1 hown hK hG_7 hS_8 hvc_6 rfl (by decide) (hts _ q345) (fun _ h9 => h9) rfl hin rfl (by decide +kernel) rfl rfl dX1_init_12 (fun G7 H locs hvc_11 hG_12 hS_13 => ?_)
  clear hvc_6 hG_7 hS_8
  refine lv_aload_n hx hb dX1_init_15 rfl (lv_at hl 0 rfl) ?_
  refine gw_new (C := RJ5) (T := TJ5) (N := 3) (own := RX1) hx hb hts in_J5 tyJ5 tyJ5_ok hown (hts _ q170) (hts _ q171) (hts _ q96) hK hG_12 hS_13 hz hvc_11 rfl (by decide) hMC_9 hMS_10 (Nat.le_refl _) (Nat.le_refl _) dX1_init_16 (fun q8 G9 H ce sl hvc_14 hG_15 hS_16 hMC_17 hMS_18 => ?_)
  clear hvc_11 hG_12 hS_13 hMC_9 hMS_10
  refine lv_dup hx hb dX1_init_19 rfl ?_
  obtain ⟨c12, t13, hc1, hs1, hvc_14⟩ := hvc_14
  refine gw_cCVA (As := []) (rest := [.ref q8, .ref o])  ⟨hx, hb, hml, hown, hts⟩ (met_J5_init l E G9 q8 c12 t13 _ hvc_14) (cwI 0 hts (lw_meth q174) rfl rfl rfl (hts _ q96) (hts _ q172) (hts _ q173) rfl (by decide +kernel) ⟨Nat.le_of_ble_eq_true rfl, Nat.le_of_ble_eq_true rfl⟩) hc1 hs1 hMC_17 hMS_18 (Nat.le_refl _) (Nat.le_refl _) (g_X.st E) hz hX hK hG_15 hS_16 rfl hl.1 rfl (Nat.le_of_ble_eq_true rfl) dX1_init_20 (fun G11 H locs ce sl hvc_19 hG_20 hS_21 hMC_22 hMS_23 => ?_)
  clear hvc_14 hG_15 hS_16 hMC_17 hMS_18
  refine gw_putF (ty := .object "java/util/ArrayDeque") (C := RX1) (T := TX1) (N := 4) (own := RX1) hx hb hts in_X1 tyX1 tyX1_ok nmX1 hown hK hG_20 hS_21 hvc_19 rfl (by decide) (hts _ q347) (fun _ h9 => h9) rfl hin rfl (by decide +kernel) rfl rfl dX1_init_23 (fun G14 H locs hvc_24 hG_25 hS_26 => ?_)
  clear hvc_19 hG_20 hS_21
  refine lv_aload_n hx hb dX1_init_26 rfl (lv_at hl 0 rfl) ?_
  refine gw_new (C := RX2) (T := TX2) (N := 11) (own := RX1) hx hb hts in_X2 tyX2 tyX2_ok hown (hts _ q191) (hts _ q192) (hts _ q97) hK hG_25 hS_26 hz hvc_24 rfl (by decide) hMC_22 hMS_23 (Nat.le_refl _) (Nat.le_refl _) dX1_init_27 (fun q15 G16 H ce sl hvc_27 hG_28 hS_29 hMC_30 hMS_31 => ?_)
  clear hvc_24 hG_25 hS_26 hMC_22 hMS_23
  refine lv_dup hx hb dX1_init_30 rfl ?_
  obtain ⟨c19, t20, hc1, hs1, hvc_27⟩ := hvc_27
  refine gw_cCVA (As := []) (rest := [.ref q15, .ref o])  ⟨hx, hb, hml, hown, hts⟩ (met_X2_init l E G16 q15 c19 t20 _ hvc_27) (cwI 0 hts (lw_meth q195) rfl rfl rfl (hts _ q97) (hts _ q193) (hts _ q194) rfl (by decide +kernel) ⟨Nat.le_of_ble_eq_true rfl, Nat.le_of_ble_eq_true rfl⟩) hc1 hs1 hMC_30 hMS_31 (Nat.le_refl _) (Nat.le_refl _) (g_X.st E) hz hX hK hG_28 hS_29 rfl hl.1 rfl (Nat.le_of_ble_eq_true rfl) dX1_init_31 (fun G18 H locs ce sl hvc_32 hG_33 hS_34 hMC_35 hMS_36 => ?_)
  clear hvc_27 hG_28 hS_29 hMC_30 hMS_31
  refine gw_put (ty := .object "VoteLogs$Town") (C := RX1) (T := TX1) (N := 4) (own := RX1) hx hb hts in_X1 tyX1 tyX1_ok nmX1 hown hK hG_33 hS_34 hvc_32 rfl (by decide) (hts _ q348) (fun _ h9 => h9) rfl (by decide +kernel) rfl rfl dX1_init_34 (fun G21 H locs hvc_37 hG_38 hS_39 => ?_)
  clear hvc_32 hG_33 hS_34
  exact g_vret hx hb hr hlocks (by show _ ≤ mc0; omega) (by show _ ≤ ms0; omega) hG_38 hS_39 hvc_37 dX1_init_37
set_option maxHeartbeats 4000000 in
set_option maxRecDepth 100000 in
theorem met_X1_saves (l : Launch) (E : g_E) (G : g_G) (o : Nat) (mc0 ms0 : Nat) (post : g_G → Prop) (hvc : wp_X1_saves E G o mc0 ms0 post) : g_MV E l yX1_saves (ws_ yX1_saves cX1_saves 1 (Option.none : Option Jvm.ClassFile.FieldType)) ({ frames := 8, cells := mc0, slots := ms0, locals := 214 } : Room) (g_X E) [.ref o] G (post) := by
  refine g_enter (by decide +kernel) (Nat.le_of_ble_eq_true rfl) ?_
  intro p e s m below meth c ls hx hb hr hts hown hlocks hml hin hz hX hK hG hS hl
  have hl : lv_has ls 1 [(0, .ref o)] := hl
  have hown : s.vm.findClass RX1 = some m.cls := hown
  have hMC : 0 + mc0 ≤ mc0 := Nat.le_of_eq (Nat.zero_add _)
  have hMS : 0 + ms0 ≤ ms0 := Nat.le_of_eq (Nat.zero_add _)
  unfold wp_X1_saves at hvc
  refine lv_aload_n hx hb dX1_saves_0 rfl (lv_at hl 0 rfl) ?_
  refine gw_gr (C := RX1) (T := TX1) (N := 4) (own := RX1) hx hb hts in_X1 hown hK hG hvc rfl (by decide) (hts _ q347) (fun _ h9 => h9) dX1_saves_1 (fun x1 hvc_1 => ?_)
  clear hvc
  refine gw_cVIP (As := []) (rest := [])  ⟨hx, hb, hml, hown, hts⟩ (met_J5_size l E G x1 _ hvc_1.2) (cwV 0 hts (lw_V q367 q368 q369 q96 q370) rfl rfl rfl (by decide +kernel) ⟨Nat.le_of_ble_eq_true rfl, Nat.le_of_ble_eq_true rfl⟩) (gw_rc (q := (RJ5, TJ5, 3)) hK hG hvc_1.1 rfl) (by show _ ≤ mc0; omega) (by show _ ≤ ms0; omega) (g_X.st E) hz hX hK hG hS rfl hl.1 rfl (Nat.le_of_ble_eq_true rfl) dX1_saves_4 (fun x2 H locs hvc_2 hG_3 hS_4 => ?_)
  clear hvc_1 hG hS
  refine lv_bipush (v := nI 6) hx hb dX1_saves_7 (by decide) ?_
  have jn20 : ∀ (y0 : Nat) (G : g_G) (mc : Nat) (ms : Nat) (H : Heap) (locs : List Loc) (ls : Array Slot) (ce sl : Nat), wp_X1_saves_20 E post y0 G mc ms → g_H E G H → va_S (g_A E) s.heap H locs → lv_has ls 1 [(0, .ref y0)] → ce + mc ≤ mc0 → sl + ms ≤ ms0 → W p l e ({ frames := 8, cells := mc0, slots := ms0, locals := 214 } : Room) s m ([.ref o] : List Value).toArray below meth c H locs ce sl (MQ below (va_Qv (post) (g_Bk E) (g_A E)) ([.ref o] : List Value).toArray s mc0 ms0 (g_A E)) (F0 m 20 ls []) := by
    clear hvc_2 hG_3 hS_4 hl hMC hMS
    intro y0 G mc ms H locs ls ce sl hvc_5 hG_6 hS_7 hl_8 hMC_9 hMS_10
    refine lv_aload_n hx hb dX1_saves_20 rfl (lv_at hl_8 0 rfl) ?_
    refine gw_gr (C := RX1) (T := TX1) (N := 4) (own := RX1) hx hb hts in_X1 hown hK hG_6 hvc_5 rfl (by decide) (hts _ q347) (fun _ h9 => h9) dX1_saves_21 (fun x4 hvc_11 => ?_)
    clear hvc_5
    refine gw_new (C := RX2) (T := TX2) (N := 11) (own := RX1) hx hb hts in_X2 tyX2 tyX2_ok hown (hts _ q191) (hts _ q192) (hts _ q97) hK hG_6 hS_7 hz hvc_11 rfl (by decide) hMC_9 hMS_10 (Nat.le_refl _) (Nat.le_refl _) dX1_saves_24 (fun q5 G6 H ce sl hvc_12 hG_13 hS_14 hMC_15 hMS_16 => ?_)
    clear hvc_11 hG_6 hS_7 hMC_9 hMS_10
    refine lv_dup hx hb dX1_saves_27 rfl ?_
    refine lv_aload_n hx hb dX1_saves_28 rfl (lv_at hl_8 0 rfl) ?_
    refine gw_gr (C := RX1) (T := TX1) (N := 4) (own := RX1) hx hb hts in_X1 hown hK hG_13 hvc_12 rfl (by decide) (hts _ q348) (fun _ h9 => h9) dX1_saves_29 (fun x7 hvc_17 => ?_)
    clear hvc_12
    obtain ⟨c10, t11, hc1, hs1, hvc_17⟩ := hvc_17
    refine gw_cCVA (As := [.ref x7]) (rest := [.ref q5, .ref x4])  ⟨hx, hb, hml, hown, hts⟩ (met_X2_init_2 l E G6 q5 x7 c10 t11 _ hvc_17) (cwI 1 hts (lw_meth q390) rfl rfl rfl (hts _ q97) (hts _ q388) (hts _ q389) rfl (by decide +kernel) ⟨Nat.le_of_ble_eq_true rfl, Nat.le_of_ble_eq_true rfl⟩) hc1 hs1 hMC_15 hMS_16 (Nat.le_refl _) (Nat.le_refl _) (g_X.st E) hz hX hK hG_13 hS_14 rfl hl_8.1 rfl (Nat.le_of_ble_eq_true rfl) dX1_saves_32 (fun G9 H locs ce sl hvc_18 hG_19 hS_20 hMC_21 hMS_22 => ?_)
    clear hvc_17 hG_13 hS_14 hMC_15 hMS_16
    obtain ⟨c14, t15, hc1, hs1, hvc_18⟩ := hvc_18
    refine gw_cVVA (As := [.ref q5]) (rest := [])  ⟨hx, hb, hml, hown, hts⟩ (met_J5_addLast l E G9 x4 q5 c14 t15 _ hvc_18.2) (cwV 1 hts (lw_V q759 q760 q761 q96 q762) rfl rfl rfl (by decide +kernel) ⟨Nat.le_of_ble_eq_true rfl, Nat.le_of_ble_eq_true rfl⟩) (gw_rc (q := (RJ5, TJ5, 3)) hK hG_19 hvc_18.1 rfl) hc1 hs1 hMC_21 hMS_22 (Nat.le_refl _) (Nat.le_refl _) (g_X.st E) hz hX hK hG_19 hS_20 rfl hl_8.1 rfl (Nat.le_of_ble_eq_true rfl) dX1_saves_35 (fun G13 H locs ce sl hvc_23 hG_24 hS_25 hMC_26 hMS_27 => ?_)
    clear hvc_18 hG_19 hS_20 hMC_21 hMS_22
    exact g_vret hx hb hr hlocks (by show _ ≤ mc0; omega) (by show _ ≤ ms0; omega) hG_24 hS_25 hvc_23 dX1_saves_38
  refine lv_icmp_ne (tgt := 20) hx hb dX1_saves_9 (by decide) (fun h9 => ?_) (fun h9 => ?_)
  · replace hvc_2 := hvc_2.1 h9
    exact jn20 o G mc0 ms0 _ _ _ _ _ hvc_2 hG_3 hS_4 (lv_sub hl [0] rfl) hMC hMS
  · replace hvc_2 := hvc_2.2 h9
    refine lv_aload_n hx hb dX1_saves_12 rfl (lv_at hl 0 rfl) ?_
    refine gw_gr (C := RX1) (T := TX1) (N := 4) (own := RX1) hx hb hts in_X1 hown hK hG_3 hvc_2 rfl (by decide) (hts _ q347) (fun _ h9 => h9) dX1_saves_13 (fun x16 hvc_28 => ?_)
    clear hvc_2
    obtain ⟨c19, t20, hc1, hs1, hvc_28⟩ := hvc_28
    refine gw_cVQA (As := []) (rest := [])  ⟨hx, hb, hml, hown, hts⟩ (met_J5_removeFirst l E G x16 c19 t20 _ hvc_28.2) (cwV 0 hts (lw_V q374 q375 q376 q96 q377) rfl rfl rfl (by decide +kernel) ⟨Nat.le_of_ble_eq_true rfl, Nat.le_of_ble_eq_true rfl⟩) (gw_rc (q := (RJ5, TJ5, 3)) hK hG_3 hvc_28.1 rfl) hc1 hs1 hMC hMS (Nat.le_refl _) (Nat.le_refl _) (g_X.st E) hz hX hK hG_3 hS_4 rfl hl.1 rfl (Nat.le_of_ble_eq_true rfl) dX1_saves_16 (fun x17 G18 H locs ce sl hvc_29 hG_30 hS_31 hMC_32 hMS_33 => ?_)
    clear hvc_28 hG_3 hS_4 hMC hMS
    refine gq_pop hx hb dX1_saves_19 ?_
    exact jn20 o G18 (mc0 - c19) (ms0 - t20) _ _ _ _ _ hvc_29 hG_30 hS_31 (lv_sub hl [0] rfl) hMC_32 hMS_33
set_option maxHeartbeats 4000000 in
set_option maxRecDepth 100000 in
theorem met_X1_deliverAll (l : Launch) (E : g_E) (G : g_G) (o : Nat) (mc0 ms0 : Nat) (post : Int32 → g_G → Prop) (hvc : wp_X1_deliverAll E G o mc0 ms0 post) : g_MI E l yX1_deliverAll (ws_ yX1_deliverAll cX1_deliverAll 1 (Option.some Jvm.ClassFile.FieldType.int)) ({ frames := 14, cells := mc0, slots := ms0, locals := 349 } : Room) (g_X E) [.ref o] G (post) := by
  refine g_enter (by decide +kernel) (Nat.le_of_ble_eq_true rfl) ?_
  intro p e s m below meth c ls hx hb hr hts hown hlocks hml hin hz hX hK hG hS hl
  have hl : lv_has ls 1 [(0, .ref o)] := hl
  have hown : s.vm.findClass RX1 = some m.cls := hown
  have hMC : 0 + mc0 ≤ mc0 := Nat.le_of_eq (Nat.zero_add _)
  have hMS : 0 + ms0 ≤ ms0 := Nat.le_of_eq (Nat.zero_add _)
  unfold wp_X1_deliverAll at hvc
  refine lv_aload_n hx hb dX1_deliverAll_0 rfl (lv_at hl 0 rfl) ?_
  obtain ⟨c3, t4, hc1, hs1, hvc⟩ := hvc
  refine gw_cVVA (As := []) (rest := [])  ⟨hx, hb, hml, hown, hts⟩ (met_X1_saves l E G o c3 t4 _ hvc.2) (cwV 0 hts (lw_V q363 q365 qs3 q90 q366) rfl rfl rfl (by decide +kernel) ⟨Nat.le_of_ble_eq_true rfl, Nat.le_of_ble_eq_true rfl⟩) (gw_rc (q := (RX1, TX1, 4)) hK hG hvc.1 rfl) hc1 hs1 hMC hMS (Nat.le_refl _) (Nat.le_refl _) (g_X.st E) hz hX hK hG hS rfl hl.1 rfl (Nat.le_of_ble_eq_true rfl) dX1_deliverAll_1 (fun G2 H locs ce sl hvc_1 hG_2 hS_3 hMC_4 hMS_5 => ?_)
  clear hvc hG hS hMC hMS
  refine lv_aload_n hx hb dX1_deliverAll_4 rfl (lv_at hl 0 rfl) ?_
  refine gw_gr (C := RX1) (T := TX1) (N := 4) (own := RX1) hx hb hts in_X1 hown hK hG_2 hvc_1 rfl (by decide) (hts _ q348) (fun _ h9 => h9) dX1_deliverAll_5 (fun x5 hvc_6 => ?_)
  clear hvc_1
  refine lv_ldc (v := nI 2147483647) hx hb hown (by exact hts _ q790) dX1_deliverAll_8 ?_
  obtain ⟨c8, t9, hc1, hs1, hvc_6⟩ := hvc_6
  refine gw_cVIA (As := [.int (nI 2147483647)]) (rest := [])  ⟨hx, hb, hml, hown, hts⟩ (met_X2_deliversFirst l E G2 x5 (nI 2147483647) c8 t9 _ hvc_6.2) (cwV 1 hts (lw_V q791 q792 q793 q97 q794) rfl rfl rfl (by decide +kernel) ⟨Nat.le_of_ble_eq_true rfl, Nat.le_of_ble_eq_true rfl⟩) (gw_rc (q := (RX2, TX2, 11)) hK hG_2 hvc_6.1 rfl) hc1 hs1 hMC_4 hMS_5 (Nat.le_refl _) (Nat.le_refl _) (g_X.st E) hz hX hK hG_2 hS_3 rfl hl.1 rfl (Nat.le_of_ble_eq_true rfl) dX1_deliverAll_10 (fun x6 G7 H locs ce sl hvc_7 hG_8 hS_9 hMC_10 hMS_11 => ?_)
  clear hvc_6 hG_2 hS_3 hMC_4 hMS_5
  exact g_iret hx hb hr hlocks (by show _ ≤ mc0; omega) (by show _ ≤ ms0; omega) hG_8 hS_9 rfl hvc_7 dX1_deliverAll_13
set_option maxHeartbeats 4000000 in
set_option maxRecDepth 100000 in
theorem met_X1_clearBuffer (l : Launch) (E : g_E) (G : g_G) (o : Nat) (mc0 ms0 : Nat) (post : Int32 → g_G → Prop) (hvc : wp_X1_clearBuffer E G o mc0 ms0 post) : g_MI E l yX1_clearBuffer (ws_ yX1_clearBuffer cX1_clearBuffer 2 (Option.some Jvm.ClassFile.FieldType.int)) ({ frames := 23, cells := mc0, slots := ms0, locals := 511 } : Room) (g_X E) [.ref o] G (post) := by
  refine g_enter (by decide +kernel) (Nat.le_of_ble_eq_true rfl) ?_
  intro p e s m below meth c ls hx hb hr hts hown hlocks hml hin hz hX hK hG hS hl
  have hl : lv_has ls 2 [(0, .ref o)] := hl
  have hown : s.vm.findClass RX1 = some m.cls := hown
  have hMC : 0 + mc0 ≤ mc0 := Nat.le_of_eq (Nat.zero_add _)
  have hMS : 0 + ms0 ≤ ms0 := Nat.le_of_eq (Nat.zero_add _)
  unfold wp_X1_clearBuffer at hvc
  refine lv_aload_n hx hb dX1_clearBuffer_0 rfl (lv_at hl 0 rfl) ?_
  refine gw_gr (C := RX1) (T := TX1) (N := 4) (own := RX1) hx hb hts in_X1 hown hK hG hvc rfl (by decide) (hts _ q345) (fun _ h9 => h9) dX1_clearBuffer_1 (fun x1 hvc_1 => ?_)
  clear hvc
  refine gw_cVIP (As := []) (rest := [])  ⟨hx, hb, hml, hown, hts⟩ (met_J1_length l E G x1 _ hvc_1.2) (cwV 0 hts (lw_V q1028 q616 q2283 q92 q617) rfl rfl rfl (by decide +kernel) ⟨Nat.le_of_ble_eq_true rfl, Nat.le_of_ble_eq_true rfl⟩) (gw_rc (q := (RJ1, TJ1, 4)) hK hG hvc_1.1 rfl) (by show _ ≤ mc0; omega) (by show _ ≤ ms0; omega) (g_St0 E) hz trivial hK hG hS rfl hl.1 rfl (Nat.le_of_ble_eq_true rfl) dX1_clearBuffer_4 (fun x2 H locs hvc_2 hG_3 hS_4 => ?_)
  clear hvc_1 hG hS
  refine lv_istore_n (lv' := [(1, .int x2), (0, .ref o)]) hx hb dX1_clearBuffer_7 rfl hl (by decide) rfl (fun ls hl_5 => ?_)
  clear hl
  refine lv_aload_n hx hb dX1_clearBuffer_8 rfl (lv_at hl_5 1 rfl) ?_
  refine gw_gr (C := RX1) (T := TX1) (N := 4) (own := RX1) hx hb hts in_X1 hown hK hG_3 hvc_2 rfl (by decide) (hts _ q345) (fun _ h9 => h9) dX1_clearBuffer_9 (fun x4 hvc_6 => ?_)
  clear hvc_2
  refine lv_iconst (v := nI 0) hx hb dX1_clearBuffer_12 (by decide) ?_
  obtain ⟨c7, t8, hc1, hs1, hvc_6⟩ := hvc_6
  refine gw_cVVA (As := [.int (nI 0)]) (rest := [])  ⟨hx, hb, hml, hown, hts⟩ (met_J1_setLength l E G x4 (nI 0) c7 t8 _ hvc_6.2) (cwV 1 hts (lw_V q1029 q1030 q1031 q92 q1032) rfl rfl rfl (by decide +kernel) ⟨Nat.le_of_ble_eq_true rfl, Nat.le_of_ble_eq_true rfl⟩) (gw_rc (q := (RJ1, TJ1, 4)) hK hG_3 hvc_6.1 rfl) hc1 hs1 hMC hMS (Nat.le_refl _) (Nat.le_refl _) (g_X.st E) hz hX hK hG_3 hS_4 rfl hl_5.1 rfl (Nat.le_of_ble_eq_true rfl) dX1_clearBuffer_13 (fun G6 H locs ce sl hvc_7 hG_8 hS_9 hMC_10 hMS_11 => ?_)
  clear hvc_6 hG_3 hS_4 hMC hMS
  refine lv_iload_n hx hb dX1_clearBuffer_16 rfl (lv_at hl_5 0 rfl) ?_
  exact g_iret hx hb hr hlocks (by show _ ≤ mc0; omega) (by show _ ≤ ms0; omega) hG_8 hS_9 rfl hvc_7 dX1_clearBuffer_17
set_option maxHeartbeats 4000000 in
set_option maxRecDepth 100000 in
theorem met_X1_firstError (l : Launch) (E : g_E) (G : g_G) (o : Nat) (mc0 ms0 : Nat) (post : Int32 → g_G → Prop) (hvc : wp_X1_firstError E G o mc0 ms0 post) : g_MI E l yX1_firstError (ws_ yX1_firstError cX1_firstError 1 (Option.some Jvm.ClassFile.FieldType.int)) ({ frames := 10, cells := mc0, slots := ms0, locals := 257 } : Room) (g_X E) [.ref o] G (post) := by
  refine g_enter (by decide +kernel) (Nat.le_of_ble_eq_true rfl) ?_
  intro p e s m below meth c ls hx hb hr hts hown hlocks hml hin hz hX hK hG hS hl
  have hl : lv_has ls 1 [(0, .ref o)] := hl
  have hown : s.vm.findClass RX1 = some m.cls := hown
  have hMC : 0 + mc0 ≤ mc0 := Nat.le_of_eq (Nat.zero_add _)
  have hMS : 0 + ms0 ≤ ms0 := Nat.le_of_eq (Nat.zero_add _)
  unfold wp_X1_firstError at hvc
  refine gw_new (C := RX7) (T := TX7) (N := 4) (own := RX1) hx hb hts in_X7 tyX7 tyX7_ok hown (hts _ q1101) (hts _ q1102) (hts _ q124) hK hG hS hz hvc rfl (by decide) hMC hMS (Nat.le_refl _) (Nat.le_refl _) dX1_firstError_0 (fun q1 G2 H ce sl hvc_1 hG_2 hS_3 hMC_4 hMS_5 => ?_)
  clear hvc hG hS hMC hMS
  refine lv_dup hx hb dX1_firstError_3 rfl ?_
  refine lv_aload_n hx hb dX1_firstError_4 rfl (lv_at hl 0 rfl) ?_
  obtain ⟨c5, t6, hc1, hs1, hvc_1⟩ := hvc_1
  refine gw_cNVA (As := [.ref o]) (rest := [.ref q1])  ⟨hx, hb, hml, hown, hts⟩ (met_X7_init l E G2 q1 o c5 t6 _ hvc_1) ⟨va_cnB 1 hts (lw_meth q1105) rfl rfl rfl (hX.1 _ q1103 rfl) (hts _ q124) (by decide +kernel) ⟨Nat.le_of_ble_eq_true rfl, Nat.le_of_ble_eq_true rfl⟩, rfl, hts _ q1104⟩ hc1 hs1 hMC_4 hMS_5 (Nat.le_refl _) (Nat.le_refl _) (g_X.st E) hz hX hK hG_2 hS_3 rfl hl.1 rfl (Nat.le_of_ble_eq_true rfl) dX1_firstError_5 (fun G4 H locs ce sl hvc_6 hG_7 hS_8 hMC_9 hMS_10 => ?_)
  clear hvc_1 hG_2 hS_3 hMC_4 hMS_5
  obtain ⟨c9, t10, hc1, hs1, hvc_6⟩ := hvc_6
  refine gw_cVQA (As := []) (rest := [])  ⟨hx, hb, hml, hown, hts⟩ (met_X7_reads l E G4 q1 c9 t10 _ hvc_6.2) (cwV 0 hts (lw_V q1125 q1126 q1127 q124 q1128) rfl rfl rfl (by decide +kernel) ⟨Nat.le_of_ble_eq_true rfl, Nat.le_of_ble_eq_true rfl⟩) (gw_rc (q := (RX7, TX7, 4)) hK hG_7 hvc_6.1 rfl) hc1 hs1 hMC_9 hMS_10 (Nat.le_refl _) (Nat.le_refl _) (g_X.st E) hz hX hK hG_7 hS_8 rfl hl.1 rfl (Nat.le_of_ble_eq_true rfl) dX1_firstError_8 (fun x7 G8 H locs ce sl hvc_11 hG_12 hS_13 hMC_14 hMS_15 => ?_)
  clear hvc_6 hG_7 hS_8 hMC_9 hMS_10
  obtain ⟨z11, rfl, hvc_11⟩ := hvc_11
  refine gw_giN (C := RX7) (T := TX7) (N := 4) (own := RX1) hx hb hts in_X7 hown hK hG_12 hvc_11 rfl (by decide) (hX.1 _ q1112 rfl) (fun _ h9 => h9) dX1_firstError_11 (fun x12 hvc_16 => ?_)
  clear hvc_11
  exact g_iret hx hb hr hlocks (by show _ ≤ mc0; omega) (by show _ ≤ ms0; omega) hG_12 hS_13 rfl hvc_16 dX1_firstError_14
set_option maxHeartbeats 4000000 in
set_option maxRecDepth 100000 in
theorem met_X1_keep (l : Launch) (E : g_E) (G : g_G) (o : Nat) (mc0 ms0 : Nat) (post : Int32 → g_G → Prop) (hvc : wp_X1_keep E G o mc0 ms0 post) : g_MI E l yX1_keep (ws_ yX1_keep cX1_keep 1 (Option.some Jvm.ClassFile.FieldType.int)) ({ frames := 8, cells := mc0, slots := ms0, locals := 214 } : Room) (g_X E) [.ref o] G (post) := by
  refine g_enter (by decide +kernel) (Nat.le_of_ble_eq_true rfl) ?_
  intro p e s m below meth c ls hx hb hr hts hown hlocks hml hin hz hX hK hG hS hl
  have hl : lv_has ls 1 [(0, .ref o)] := hl
  have hown : s.vm.findClass RX1 = some m.cls := hown
  have hMC : 0 + mc0 ≤ mc0 := Nat.le_of_eq (Nat.zero_add _)
  have hMS : 0 + ms0 ≤ ms0 := Nat.le_of_eq (Nat.zero_add _)
  unfold wp_X1_keep at hvc
  refine lv_aload_n hx hb dX1_keep_0 rfl (lv_at hl 0 rfl) ?_
  refine gw_new (C := RX2) (T := TX2) (N := 11) (own := RX1) hx hb hts in_X2 tyX2 tyX2_ok hown (hts _ q191) (hts _ q192) (hts _ q97) hK hG hS hz hvc rfl (by decide) hMC hMS (Nat.le_refl _) (Nat.le_refl _) dX1_keep_1 (fun q1 G2 H ce sl hvc_1 hG_2 hS_3 hMC_4 hMS_5 => ?_)
  clear hvc hG hS hMC hMS
  refine lv_dup hx hb dX1_keep_4 rfl ?_
  refine lv_aload_n hx hb dX1_keep_5 rfl (lv_at hl 0 rfl) ?_
  refine gw_gr (C := RX1) (T := TX1) (N := 4) (own := RX1) hx hb hts in_X1 hown hK hG_2 hvc_1 rfl (by decide) (hts _ q348) (fun _ h9 => h9) dX1_keep_6 (fun x3 hvc_6 => ?_)
  clear hvc_1
  obtain ⟨c6, t7, hc1, hs1, hvc_6⟩ := hvc_6
  refine gw_cCVA (As := [.ref x3]) (rest := [.ref q1, .ref o])  ⟨hx, hb, hml, hown, hts⟩ (met_X2_init_2 l E G2 q1 x3 c6 t7 _ hvc_6) (cwI 1 hts (lw_meth q390) rfl rfl rfl (hts _ q97) (hts _ q388) (hts _ q389) rfl (by decide +kernel) ⟨Nat.le_of_ble_eq_true rfl, Nat.le_of_ble_eq_true rfl⟩) hc1 hs1 hMC_4 hMS_5 (Nat.le_refl _) (Nat.le_refl _) (g_X.st E) hz hX hK hG_2 hS_3 rfl hl.1 rfl (Nat.le_of_ble_eq_true rfl) dX1_keep_9 (fun G5 H locs ce sl hvc_7 hG_8 hS_9 hMC_10 hMS_11 => ?_)
  clear hvc_6 hG_2 hS_3 hMC_4 hMS_5
  refine gw_put (ty := .object "VoteLogs$Town") (C := RX1) (T := TX1) (N := 4) (own := RX1) hx hb hts in_X1 tyX1 tyX1_ok nmX1 hown hK hG_8 hS_9 hvc_7 rfl (by decide) (hts _ q349) (fun _ h9 => h9) rfl (by decide +kernel) rfl rfl dX1_keep_12 (fun G8 H locs hvc_12 hG_13 hS_14 => ?_)
  clear hvc_7 hG_8 hS_9
  refine lv_aload_n hx hb dX1_keep_15 rfl (lv_at hl 0 rfl) ?_
  refine gw_gr (C := RX1) (T := TX1) (N := 4) (own := RX1) hx hb hts in_X1 hown hK hG_13 hvc_12 rfl (by decide) (hts _ q348) (fun _ h9 => h9) dX1_keep_16 (fun x9 hvc_15 => ?_)
  clear hvc_12
  refine gw_grN (C := RX2) (T := TX2) (N := 11) (own := RX1) hx hb hts in_X2 hown hK hG_13 hvc_15 rfl (by decide) (hX.1 _ q306 rfl) (fun _ h9 => h9) dX1_keep_19 (fun x10 hvc_16 => ?_)
  clear hvc_15
  refine gw_cFIP (As := []) (rest := []) (hK.1 9 _ rfl).2  ⟨hx, hb, hml, hown, hts⟩ (met_J7_size l E G8 x10 _ hvc_16.2) (va_cwF 0 hts (lw_F q1229 q886 q888 q99 q890) rfl rfl rfl (hX.fw (List.mem_of_getElem? (i := 6) rfl)) (by decide +kernel) ⟨Nat.le_of_ble_eq_true rfl, Nat.le_of_ble_eq_true rfl⟩) (gw_rc (q := (RJ7, TJ7, 3)) hK hG_13 hvc_16.1 rfl) (by show _ ≤ mc0; omega) (by show _ ≤ ms0; omega) (g_St0 E) hz trivial hK hG_13 hS_14 rfl hl.1 rfl (Nat.le_of_ble_eq_true rfl) dX1_keep_22 (fun x11 H locs hvc_17 hG_18 hS_19 => ?_)
  clear hvc_16 hG_13 hS_14
  exact g_iret hx hb hr hlocks (by show _ ≤ mc0; omega) (by show _ ≤ ms0; omega) hG_18 hS_19 rfl hvc_17 dX1_keep_27
set_option maxHeartbeats 4000000 in
set_option maxRecDepth 100000 in
theorem met_X1_transfers (l : Launch) (E : g_E) (G : g_G) (o : Nat) (post : Int32 → Prop) (hvc : wp_X1_transfers E G o post) : g_MI E l yX1_transfers (ws_ yX1_transfers cX1_transfers 1 (Option.some Jvm.ClassFile.FieldType.int)) ({ frames := 1, cells := 0, slots := 0, locals := 20 } : Room) (g_X E) [.ref o] G (fun v G9 => G9 = G ∧ post v) := by
  refine g_enter (by decide +kernel) (Nat.le_of_ble_eq_true rfl) ?_
  intro p e s m below meth c ls hx hb hr hts hown hlocks hml hin hz hX hK hG hS hl
  have hl : lv_has ls 1 [(0, .ref o)] := hl
  have hown : s.vm.findClass RX1 = some m.cls := hown
  unfold wp_X1_transfers at hvc
  refine lv_aload_n hx hb dX1_transfers_0 rfl (lv_at hl 0 rfl) ?_
  refine gw_gr (C := RX1) (T := TX1) (N := 4) (own := RX1) hx hb hts in_X1 hown hK hG hvc rfl (by decide) (hts _ q348) (fun _ h9 => h9) dX1_transfers_1 (fun x1 hvc_1 => ?_)
  clear hvc
  refine gw_grN (C := RX2) (T := TX2) (N := 11) (own := RX1) hx hb hts in_X2 hown hK hG hvc_1 rfl (by decide) (hX.1 _ q302 rfl) (fun _ h9 => h9) dX1_transfers_4 (fun x2 hvc_2 => ?_)
  clear hvc_1
  refine gw_cFIP (As := []) (rest := []) (hK.1 9 _ rfl).2  ⟨hx, hb, hml, hown, hts⟩ (met_J7_size l E G x2 _ hvc_2.2) (va_cwF 0 hts (lw_F q1229 q886 q888 q99 q890) rfl rfl rfl (hX.fw (List.mem_of_getElem? (i := 6) rfl)) (by decide +kernel) ⟨Nat.le_of_ble_eq_true rfl, Nat.le_of_ble_eq_true rfl⟩) (gw_rc (q := (RJ7, TJ7, 3)) hK hG hvc_2.1 rfl) (Nat.zero_le _) (Nat.zero_le _) (g_St0 E) hz trivial hK hG hS rfl hl.1 rfl (Nat.le_of_ble_eq_true rfl) dX1_transfers_7 (fun x3 H locs hvc_3 hG_4 hS_5 => ?_)
  clear hvc_2 hG hS
  exact g_iret hx hb hr hlocks (Nat.zero_le _) (Nat.zero_le _) hG_4 hS_5 rfl ⟨rfl, hvc_3⟩ dX1_transfers_12
set_option maxHeartbeats 4000000 in
set_option maxRecDepth 100000 in
theorem met_X1_total (l : Launch) (E : g_E) (G : g_G) (o : Nat) (post : Int32 → Prop) (hvc : wp_X1_total E G o post) : g_MI E l yX1_total (ws_ yX1_total cX1_total 1 (Option.some Jvm.ClassFile.FieldType.int)) ({ frames := 1, cells := 0, slots := 0, locals := 20 } : Room) (fun _ => True) [.ref o] G (fun v G9 => G9 = G ∧ post v) := by
  refine g_enter (by decide +kernel) (Nat.le_of_ble_eq_true rfl) ?_
  intro p e s m below meth c ls hx hb hr hts hown hlocks hml hin hz hX hK hG hS hl
  have hl : lv_has ls 1 [(0, .ref o)] := hl
  have hown : s.vm.findClass RX1 = some m.cls := hown
  unfold wp_X1_total at hvc
  refine lv_aload_n hx hb dX1_total_0 rfl (lv_at hl 0 rfl) ?_
  refine gw_gr (C := RX1) (T := TX1) (N := 4) (own := RX1) hx hb hts in_X1 hown hK hG hvc rfl (by decide) (hts _ q348) (fun _ h9 => h9) dX1_total_1 (fun x1 hvc_1 => ?_)
  clear hvc
  refine gw_cVIP (As := []) (rest := [])  ⟨hx, hb, hml, hown, hts⟩ (met_X2_total l E G x1 _ hvc_1.2) (cwV 0 hts (lw_V q1238 q1239 q1240 q97 q1241) rfl rfl rfl (by decide +kernel) ⟨Nat.le_of_ble_eq_true rfl, Nat.le_of_ble_eq_true rfl⟩) (gw_rc (q := (RX2, TX2, 11)) hK hG hvc_1.1 rfl) (Nat.zero_le _) (Nat.zero_le _) (g_St0 E) hz trivial hK hG hS rfl hl.1 rfl (Nat.le_of_ble_eq_true rfl) dX1_total_4 (fun x2 H locs hvc_2 hG_3 hS_4 => ?_)
  clear hvc_1 hG hS
  exact g_iret hx hb hr hlocks (Nat.zero_le _) (Nat.zero_le _) hG_3 hS_4 rfl ⟨rfl, hvc_2⟩ dX1_total_7
set_option maxHeartbeats 4000000 in
set_option maxRecDepth 100000 in
theorem met_X1_onTheWay (l : Launch) (E : g_E) (G : g_G) (o : Nat) (mc0 ms0 : Nat) (post : Int32 → g_G → Prop) (hvc : wp_X1_onTheWay E G o mc0 ms0 post) : g_MI E l yX1_onTheWay (ws_ yX1_onTheWay cX1_onTheWay 1 (Option.some Jvm.ClassFile.FieldType.int)) ({ frames := 6, cells := mc0, slots := ms0, locals := 134 } : Room) (g_X E) [.ref o] G (post) := by
  refine g_enter (by decide +kernel) (Nat.le_of_ble_eq_true rfl) ?_
  intro p e s m below meth c ls hx hb hr hts hown hlocks hml hin hz hX hK hG hS hl
  have hl : lv_has ls 1 [(0, .ref o)] := hl
  have hown : s.vm.findClass RX1 = some m.cls := hown
  have hMC : 0 + mc0 ≤ mc0 := Nat.le_of_eq (Nat.zero_add _)
  have hMS : 0 + ms0 ≤ ms0 := Nat.le_of_eq (Nat.zero_add _)
  unfold wp_X1_onTheWay at hvc
  refine lv_aload_n hx hb dX1_onTheWay_0 rfl (lv_at hl 0 rfl) ?_
  refine gw_gr (C := RX1) (T := TX1) (N := 4) (own := RX1) hx hb hts in_X1 hown hK hG hvc rfl (by decide) (hts _ q348) (fun _ h9 => h9) dX1_onTheWay_1 (fun x1 hvc_1 => ?_)
  clear hvc
  obtain ⟨c4, t5, hc1, hs1, hvc_1⟩ := hvc_1
  refine gw_cVIA (As := []) (rest := [])  ⟨hx, hb, hml, hown, hts⟩ (met_X2_onTheWay l E G x1 c4 t5 _ hvc_1.2) (cwV 0 hts (lw_V q1246 q1247 q1248 q97 q1249) rfl rfl rfl (by decide +kernel) ⟨Nat.le_of_ble_eq_true rfl, Nat.le_of_ble_eq_true rfl⟩) (gw_rc (q := (RX2, TX2, 11)) hK hG hvc_1.1 rfl) hc1 hs1 hMC hMS (Nat.le_refl _) (Nat.le_refl _) (g_X.st E) hz hX hK hG hS rfl hl.1 rfl (Nat.le_of_ble_eq_true rfl) dX1_onTheWay_4 (fun x2 G3 H locs ce sl hvc_2 hG_3 hS_4 hMC_5 hMS_6 => ?_)
  clear hvc_1 hG hS hMC hMS
  exact g_iret hx hb hr hlocks (by show _ ≤ mc0; omega) (by show _ ≤ ms0; omega) hG_3 hS_4 rfl hvc_2 dX1_onTheWay_7
set_option maxHeartbeats 4000000 in
set_option maxRecDepth 100000 in
theorem met_X1_waiting (l : Launch) (E : g_E) (G : g_G) (o : Nat) (post : Int32 → Prop) (hvc : wp_X1_waiting E G o post) : g_MI E l yX1_waiting (ws_ yX1_waiting cX1_waiting 1 (Option.some Jvm.ClassFile.FieldType.int)) ({ frames := 1, cells := 0, slots := 0, locals := 20 } : Room) (g_X E) [.ref o] G (fun v G9 => G9 = G ∧ post v) := by
  refine g_enter (by decide +kernel) (Nat.le_of_ble_eq_true rfl) ?_
  intro p e s m below meth c ls hx hb hr hts hown hlocks hml hin hz hX hK hG hS hl
  have hl : lv_has ls 1 [(0, .ref o)] := hl
  have hown : s.vm.findClass RX1 = some m.cls := hown
  unfold wp_X1_waiting at hvc
  refine lv_aload_n hx hb dX1_waiting_0 rfl (lv_at hl 0 rfl) ?_
  refine gw_gr (C := RX1) (T := TX1) (N := 4) (own := RX1) hx hb hts in_X1 hown hK hG hvc rfl (by decide) (hts _ q348) (fun _ h9 => h9) dX1_waiting_1 (fun x1 hvc_1 => ?_)
  clear hvc
  refine gw_grN (C := RX2) (T := TX2) (N := 11) (own := RX1) hx hb hts in_X2 hown hK hG hvc_1 rfl (by decide) (hX.1 _ q306 rfl) (fun _ h9 => h9) dX1_waiting_4 (fun x2 hvc_2 => ?_)
  clear hvc_1
  refine gw_cFIP (As := []) (rest := []) (hK.1 9 _ rfl).2  ⟨hx, hb, hml, hown, hts⟩ (met_J7_size l E G x2 _ hvc_2.2) (va_cwF 0 hts (lw_F q1229 q886 q888 q99 q890) rfl rfl rfl (hX.fw (List.mem_of_getElem? (i := 6) rfl)) (by decide +kernel) ⟨Nat.le_of_ble_eq_true rfl, Nat.le_of_ble_eq_true rfl⟩) (gw_rc (q := (RJ7, TJ7, 3)) hK hG hvc_2.1 rfl) (Nat.zero_le _) (Nat.zero_le _) (g_St0 E) hz trivial hK hG hS rfl hl.1 rfl (Nat.le_of_ble_eq_true rfl) dX1_waiting_7 (fun x3 H locs hvc_3 hG_4 hS_5 => ?_)
  clear hvc_2 hG hS
  exact g_iret hx hb hr hlocks (Nat.zero_le _) (Nat.zero_le _) hG_4 hS_5 rfl ⟨rfl, hvc_3⟩ dX1_waiting_12
set_option maxHeartbeats 4000000 in
set_option maxRecDepth 100000 in
theorem met_X1_sent (l : Launch) (E : g_E) (G : g_G) (o : Nat) (post : Int32 → Prop) (hvc : wp_X1_sent E G o post) : g_MI E l yX1_sent (ws_ yX1_sent cX1_sent 1 (Option.some Jvm.ClassFile.FieldType.int)) ({ frames := 0, cells := 0, slots := 0, locals := 0 } : Room) (g_X E) [.ref o] G (fun v G9 => G9 = G ∧ post v) := by
  refine g_enter (by decide +kernel) (Nat.le_of_ble_eq_true rfl) ?_
  intro p e s m below meth c ls hx hb hr hts hown hlocks hml hin hz hX hK hG hS hl
  have hl : lv_has ls 1 [(0, .ref o)] := hl
  have hown : s.vm.findClass RX1 = some m.cls := hown
  unfold wp_X1_sent at hvc
  refine lv_aload_n hx hb dX1_sent_0 rfl (lv_at hl 0 rfl) ?_
  refine gw_gr (C := RX1) (T := TX1) (N := 4) (own := RX1) hx hb hts in_X1 hown hK hG hvc rfl (by decide) (hts _ q348) (fun _ h9 => h9) dX1_sent_1 (fun x1 hvc_1 => ?_)
  clear hvc
  refine gw_giN (C := RX2) (T := TX2) (N := 11) (own := RX1) hx hb hts in_X2 hown hK hG hvc_1 rfl (by decide) (hX.1 _ q316 rfl) (fun _ h9 => h9) dX1_sent_4 (fun x2 hvc_2 => ?_)
  clear hvc_1
  exact g_iret hx hb hr hlocks (Nat.zero_le _) (Nat.zero_le _) hG hS rfl ⟨rfl, hvc_2⟩ dX1_sent_7
set_option maxHeartbeats 4000000 in
set_option maxRecDepth 100000 in
theorem met_X1_sentByAccount (l : Launch) (E : g_E) (G : g_G) (o : Nat) (post : Int32 → Prop) (hvc : wp_X1_sentByAccount E G o post) : g_MI E l yX1_sentByAccount (ws_ yX1_sentByAccount cX1_sentByAccount 1 (Option.some Jvm.ClassFile.FieldType.int)) ({ frames := 1, cells := 0, slots := 0, locals := 20 } : Room) (g_X E) [.ref o] G (fun v G9 => G9 = G ∧ post v) := by
  refine g_enter (by decide +kernel) (Nat.le_of_ble_eq_true rfl) ?_
  intro p e s m below meth c ls hx hb hr hts hown hlocks hml hin hz hX hK hG hS hl
  have hl : lv_has ls 1 [(0, .ref o)] := hl
  have hown : s.vm.findClass RX1 = some m.cls := hown
  unfold wp_X1_sentByAccount at hvc
  refine lv_aload_n hx hb dX1_sentByAccount_0 rfl (lv_at hl 0 rfl) ?_
  refine gw_gr (C := RX1) (T := TX1) (N := 4) (own := RX1) hx hb hts in_X1 hown hK hG hvc rfl (by decide) (hts _ q348) (fun _ h9 => h9) dX1_sentByAccount_1 (fun x1 hvc_1 => ?_)
  clear hvc
  refine gw_giN (C := RX2) (T := TX2) (N := 11) (own := RX1) hx hb hts in_X2 hown hK hG hvc_1 rfl (by decide) (hX.1 _ q318 rfl) (fun _ h9 => h9) dX1_sentByAccount_4 (fun x2 hvc_2 => ?_)
  clear hvc_1
  refine lv_aload_n hx hb dX1_sentByAccount_7 rfl (lv_at hl 0 rfl) ?_
  refine gw_gr (C := RX1) (T := TX1) (N := 4) (own := RX1) hx hb hts in_X1 hown hK hG hvc_2 rfl (by decide) (hts _ q348) (fun _ h9 => h9) dX1_sentByAccount_8 (fun x3 hvc_3 => ?_)
  clear hvc_2
  refine gw_giN (C := RX2) (T := TX2) (N := 11) (own := RX1) hx hb hts in_X2 hown hK hG hvc_3 rfl (by decide) (hX.1 _ q320 rfl) (fun _ h9 => h9) dX1_sentByAccount_11 (fun x4 hvc_4 => ?_)
  clear hvc_3
  refine lv_iadd hx hb dX1_sentByAccount_14 ?_
  refine lv_aload_n hx hb dX1_sentByAccount_15 rfl (lv_at hl 0 rfl) ?_
  refine gw_gr (C := RX1) (T := TX1) (N := 4) (own := RX1) hx hb hts in_X1 hown hK hG hvc_4 rfl (by decide) (hts _ q348) (fun _ h9 => h9) dX1_sentByAccount_16 (fun x5 hvc_5 => ?_)
  clear hvc_4
  refine gw_grN (C := RX2) (T := TX2) (N := 11) (own := RX1) hx hb hts in_X2 hown hK hG hvc_5 rfl (by decide) (hX.1 _ q306 rfl) (fun _ h9 => h9) dX1_sentByAccount_19 (fun x6 hvc_6 => ?_)
  clear hvc_5
  refine gw_cFIP (As := []) (rest := [.int (x2 + x4)]) (hK.1 9 _ rfl).2  ⟨hx, hb, hml, hown, hts⟩ (met_J7_size l E G x6 _ hvc_6.2) (va_cwF 0 hts (lw_F q1229 q886 q888 q99 q890) rfl rfl rfl (hX.fw (List.mem_of_getElem? (i := 6) rfl)) (by decide +kernel) ⟨Nat.le_of_ble_eq_true rfl, Nat.le_of_ble_eq_true rfl⟩) (gw_rc (q := (RJ7, TJ7, 3)) hK hG hvc_6.1 rfl) (Nat.zero_le _) (Nat.zero_le _) (g_St0 E) hz trivial hK hG hS rfl hl.1 rfl (Nat.le_of_ble_eq_true rfl) dX1_sentByAccount_22 (fun x7 H locs hvc_7 hG_8 hS_9 => ?_)
  clear hvc_6 hG hS
  refine lv_iadd hx hb dX1_sentByAccount_27 ?_
  exact g_iret hx hb hr hlocks (Nat.zero_le _) (Nat.zero_le _) hG_8 hS_9 rfl ⟨rfl, hvc_7⟩ dX1_sentByAccount_28
set_option maxHeartbeats 4000000 in
set_option maxRecDepth 100000 in
theorem met_X1_lost (l : Launch) (E : g_E) (G : g_G) (o : Nat) (post : Int32 → Prop) (hvc : wp_X1_lost E G o post) : g_MI E l yX1_lost (ws_ yX1_lost cX1_lost 1 (Option.some Jvm.ClassFile.FieldType.int)) ({ frames := 0, cells := 0, slots := 0, locals := 0 } : Room) (g_X E) [.ref o] G (fun v G9 => G9 = G ∧ post v) := by
  refine g_enter (by decide +kernel) (Nat.le_of_ble_eq_true rfl) ?_
  intro p e s m below meth c ls hx hb hr hts hown hlocks hml hin hz hX hK hG hS hl
  have hl : lv_has ls 1 [(0, .ref o)] := hl
  have hown : s.vm.findClass RX1 = some m.cls := hown
  unfold wp_X1_lost at hvc
  refine lv_aload_n hx hb dX1_lost_0 rfl (lv_at hl 0 rfl) ?_
  refine gw_gr (C := RX1) (T := TX1) (N := 4) (own := RX1) hx hb hts in_X1 hown hK hG hvc rfl (by decide) (hts _ q348) (fun _ h9 => h9) dX1_lost_1 (fun x1 hvc_1 => ?_)
  clear hvc
  refine gw_giN (C := RX2) (T := TX2) (N := 11) (own := RX1) hx hb hts in_X2 hown hK hG hvc_1 rfl (by decide) (hX.1 _ q320 rfl) (fun _ h9 => h9) dX1_lost_4 (fun x2 hvc_2 => ?_)
  clear hvc_1
  exact g_iret hx hb hr hlocks (Nat.zero_le _) (Nat.zero_le _) hG hS rfl ⟨rfl, hvc_2⟩ dX1_lost_7
set_option maxHeartbeats 4000000 in
set_option maxRecDepth 100000 in
theorem met_X1_messagesToSettle (l : Launch) (E : g_E) (G : g_G) (o : Nat) (mc0 ms0 : Nat) (post : Int32 → g_G → Prop) (hvc : wp_X1_messagesToSettle E G o mc0 ms0 post) : g_MI E l yX1_messagesToSettle (ws_ yX1_messagesToSettle cX1_messagesToSettle 1 (Option.some Jvm.ClassFile.FieldType.int)) ({ frames := 15, cells := mc0, slots := ms0, locals := 371 } : Room) (g_X E) [.ref o] G (post) := by
  refine g_enter (by decide +kernel) (Nat.le_of_ble_eq_true rfl) ?_
  intro p e s m below meth c ls hx hb hr hts hown hlocks hml hin hz hX hK hG hS hl
  have hl : lv_has ls 1 [(0, .ref o)] := hl
  have hown : s.vm.findClass RX1 = some m.cls := hown
  have hMC : 0 + mc0 ≤ mc0 := Nat.le_of_eq (Nat.zero_add _)
  have hMS : 0 + ms0 ≤ ms0 := Nat.le_of_eq (Nat.zero_add _)
  unfold wp_X1_messagesToSettle at hvc
  refine gw_new (C := RX2) (T := TX2) (N := 11) (own := RX1) hx hb hts in_X2 tyX2 tyX2_ok hown (hts _ q191) (hts _ q192) (hts _ q97) hK hG hS hz hvc rfl (by decide) hMC hMS (Nat.le_refl _) (Nat.le_refl _) dX1_messagesToSettle_0 (fun q1 G2 H ce sl hvc_1 hG_2 hS_3 hMC_4 hMS_5 => ?_)
  clear hvc hG hS hMC hMS
  refine lv_dup hx hb dX1_messagesToSettle_3 rfl ?_
  refine lv_aload_n hx hb dX1_messagesToSettle_4 rfl (lv_at hl 0 rfl) ?_
  refine gw_gr (C := RX1) (T := TX1) (N := 4) (own := RX1) hx hb hts in_X1 hown hK hG_2 hvc_1 rfl (by decide) (hts _ q348) (fun _ h9 => h9) dX1_messagesToSettle_5 (fun x3 hvc_6 => ?_)
  clear hvc_1
  obtain ⟨c6, t7, hc1, hs1, hvc_6⟩ := hvc_6
  refine gw_cCVA (As := [.ref x3]) (rest := [.ref q1])  ⟨hx, hb, hml, hown, hts⟩ (met_X2_init_2 l E G2 q1 x3 c6 t7 _ hvc_6) (cwI 1 hts (lw_meth q390) rfl rfl rfl (hts _ q97) (hts _ q388) (hts _ q389) rfl (by decide +kernel) ⟨Nat.le_of_ble_eq_true rfl, Nat.le_of_ble_eq_true rfl⟩) hc1 hs1 hMC_4 hMS_5 (Nat.le_refl _) (Nat.le_refl _) (g_X.st E) hz hX hK hG_2 hS_3 rfl hl.1 rfl (Nat.le_of_ble_eq_true rfl) dX1_messagesToSettle_8 (fun G5 H locs ce sl hvc_7 hG_8 hS_9 hMC_10 hMS_11 => ?_)
  clear hvc_6 hG_2 hS_3 hMC_4 hMS_5
  obtain ⟨c10, t11, hc1, hs1, hvc_7⟩ := hvc_7
  refine gw_cVIA (As := []) (rest := [])  ⟨hx, hb, hml, hown, hts⟩ (met_X2_settles l E G5 q1 c10 t11 _ hvc_7.2) (cwV 0 hts (lw_V q1270 q1271 q1272 q97 q1273) rfl rfl rfl (by decide +kernel) ⟨Nat.le_of_ble_eq_true rfl, Nat.le_of_ble_eq_true rfl⟩) (gw_rc (q := (RX2, TX2, 11)) hK hG_8 hvc_7.1 rfl) hc1 hs1 hMC_10 hMS_11 (Nat.le_refl _) (Nat.le_refl _) (g_X.st E) hz hX hK hG_8 hS_9 rfl hl.1 rfl (Nat.le_of_ble_eq_true rfl) dX1_messagesToSettle_11 (fun x8 G9 H locs ce sl hvc_12 hG_13 hS_14 hMC_15 hMS_16 => ?_)
  clear hvc_7 hG_8 hS_9 hMC_10 hMS_11
  exact g_iret hx hb hr hlocks (by show _ ≤ mc0; omega) (by show _ ≤ ms0; omega) hG_13 hS_14 rfl hvc_12 dX1_messagesToSettle_14
set_option maxHeartbeats 4000000 in
set_option maxRecDepth 100000 in
theorem met_X1_lostShare (l : Launch) (E : g_E) (G : g_G) (o : Nat) (post : UInt64 → Prop) (hvc : wp_X1_lostShare E G o post) : g_MD E l yX1_lostShare (ws_ yX1_lostShare cX1_lostShare 1 (Option.some Jvm.ClassFile.FieldType.double)) ({ frames := 0, cells := 0, slots := 0, locals := 0 } : Room) (g_X E) [.ref o] G (fun v G9 => G9 = G ∧ post v) := by
  refine g_enter (by decide +kernel) (Nat.le_of_ble_eq_true rfl) ?_
  intro p e s m below meth c ls hx hb hr hts hown hlocks hml hin hz hX hK hG hS hl
  have hl : lv_has ls 1 [(0, .ref o)] := hl
  have hown : s.vm.findClass RX1 = some m.cls := hown
  unfold wp_X1_lostShare at hvc
  refine lv_aload_n hx hb dX1_lostShare_0 rfl (lv_at hl 0 rfl) ?_
  refine gw_gr (C := RX1) (T := TX1) (N := 4) (own := RX1) hx hb hts in_X1 hown hK hG hvc rfl (by decide) (hts _ q348) (fun _ h9 => h9) dX1_lostShare_1 (fun x1 hvc_1 => ?_)
  clear hvc
  refine gw_giN (C := RX2) (T := TX2) (N := 11) (own := RX1) hx hb hts in_X2 hown hK hG hvc_1 rfl (by decide) (hX.1 _ q316 rfl) (fun _ h9 => h9) dX1_lostShare_4 (fun x2 hvc_2 => ?_)
  clear hvc_1
  refine lv_if_ne (tgt := 14) hx hb dX1_lostShare_7 (by decide) (fun h9 => ?_) (fun h9 => ?_)
  · replace hvc_2 := hvc_2.1 h9
    refine lv_aload_n hx hb dX1_lostShare_14 rfl (lv_at hl 0 rfl) ?_
    refine gw_gr (C := RX1) (T := TX1) (N := 4) (own := RX1) hx hb hts in_X1 hown hK hG hvc_2 rfl (by decide) (hts _ q348) (fun _ h9 => h9) dX1_lostShare_15 (fun x3 hvc_3 => ?_)
    clear hvc_2
    refine gw_giN (C := RX2) (T := TX2) (N := 11) (own := RX1) hx hb hts in_X2 hown hK hG hvc_3 rfl (by decide) (hX.1 _ q320 rfl) (fun _ h9 => h9) dX1_lostShare_18 (fun x4 hvc_4 => ?_)
    clear hvc_3
    refine lv_i2d hx hb dX1_lostShare_21 ?_
    refine lv_aload_n hx hb dX1_lostShare_22 rfl (lv_at hl 0 rfl) ?_
    refine gw_gr (C := RX1) (T := TX1) (N := 4) (own := RX1) hx hb hts in_X1 hown hK hG hvc_4 rfl (by decide) (hts _ q348) (fun _ h9 => h9) dX1_lostShare_23 (fun x5 hvc_5 => ?_)
    clear hvc_4
    refine gw_giN (C := RX2) (T := TX2) (N := 11) (own := RX1) hx hb hts in_X2 hown hK hG hvc_5 rfl (by decide) (hX.1 _ q316 rfl) (fun _ h9 => h9) dX1_lostShare_26 (fun x6 hvc_6 => ?_)
    clear hvc_5
    refine lv_i2d hx hb dX1_lostShare_29 ?_
    refine lv_ddiv hx hb dX1_lostShare_30 hvc_6.1 ?_
    replace hvc_6 := hvc_6.2
    exact g_dret hx hb hr hlocks (Nat.zero_le _) (Nat.zero_le _) hG hS ⟨rfl, hvc_6⟩ dX1_lostShare_31
  · replace hvc_2 := hvc_2.2 h9
    refine lv_dconst0 hx hb dX1_lostShare_10 ?_
    refine lv_goto (tgt := 31) hx hb dX1_lostShare_11 (by decide) ?_
    exact g_dret hx hb hr hlocks (Nat.zero_le _) (Nat.zero_le _) hG hS ⟨rfl, hvc_2⟩ dX1_lostShare_31
set_option maxHeartbeats 4000000 in
set_option maxRecDepth 100000 in
theorem met_X1_meanSize (l : Launch) (E : g_E) (G : g_G) (o : Nat) (mc0 ms0 : Nat) (post : UInt32 → g_G → Prop) (hvc : wp_X1_meanSize E G o mc0 ms0 post) : g_MF E l yX1_meanSize (ws_ yX1_meanSize cX1_meanSize 1 (Option.some Jvm.ClassFile.FieldType.float)) ({ frames := 4, cells := mc0, slots := ms0, locals := 76 } : Room) (g_X E) [.ref o] G (post) := by
  refine g_enter (by decide +kernel) (Nat.le_of_ble_eq_true rfl) ?_
  intro p e s m below meth c ls hx hb hr hts hown hlocks hml hin hz hX hK hG hS hl
  have hl : lv_has ls 1 [(0, .ref o)] := hl
  have hown : s.vm.findClass RX1 = some m.cls := hown
  have hMC : 0 + mc0 ≤ mc0 := Nat.le_of_eq (Nat.zero_add _)
  have hMS : 0 + ms0 ≤ ms0 := Nat.le_of_eq (Nat.zero_add _)
  unfold wp_X1_meanSize at hvc
  refine lv_aload_n hx hb dX1_meanSize_0 rfl (lv_at hl 0 rfl) ?_
  refine gw_gr (C := RX1) (T := TX1) (N := 4) (own := RX1) hx hb hts in_X1 hown hK hG hvc rfl (by decide) (hts _ q348) (fun _ h9 => h9) dX1_meanSize_1 (fun x1 hvc_1 => ?_)
  clear hvc
  refine gw_grN (C := RX2) (T := TX2) (N := 11) (own := RX1) hx hb hts in_X2 hown hK hG hvc_1 rfl (by decide) (hX.1 _ q302 rfl) (fun _ h9 => h9) dX1_meanSize_4 (fun x2 hvc_2 => ?_)
  clear hvc_1
  refine gw_cFIP (As := []) (rest := []) (hK.1 9 _ rfl).2  ⟨hx, hb, hml, hown, hts⟩ (met_J7_isEmpty l E G x2 _ hvc_2.2) (va_cwF 0 hts (lw_F q1295 q799 q801 q99 q803) rfl rfl rfl (hX.fw (List.mem_of_getElem? (i := 3) rfl)) (by decide +kernel) ⟨Nat.le_of_ble_eq_true rfl, Nat.le_of_ble_eq_true rfl⟩) (gw_rc (q := (RJ7, TJ7, 3)) hK hG hvc_2.1 rfl) (by show _ ≤ mc0; omega) (by show _ ≤ ms0; omega) (g_St0 E) hz trivial hK hG hS rfl hl.1 rfl (Nat.le_of_ble_eq_true rfl) dX1_meanSize_7 (fun x3 H locs hvc_3 hG_4 hS_5 => ?_)
  clear hvc_2 hG hS
  refine lv_if_eq (tgt := 19) hx hb dX1_meanSize_12 (by decide) (fun h9 => ?_) (fun h9 => ?_)
  · replace hvc_3 := hvc_3.1 h9
    refine lv_aload_n hx hb dX1_meanSize_19 rfl (lv_at hl 0 rfl) ?_
    refine gw_gr (C := RX1) (T := TX1) (N := 4) (own := RX1) hx hb hts in_X1 hown hK hG_4 hvc_3 rfl (by decide) (hts _ q348) (fun _ h9 => h9) dX1_meanSize_20 (fun x5 hvc_6 => ?_)
    clear hvc_3
    obtain ⟨c8, t9, hc1, hs1, hvc_6⟩ := hvc_6
    refine gw_cVIA (As := []) (rest := [])  ⟨hx, hb, hml, hown, hts⟩ (met_X2_sizes l E G x5 c8 t9 _ hvc_6.2) (cwV 0 hts (lw_V q1296 q1297 q1298 q97 q1299) rfl rfl rfl (by decide +kernel) ⟨Nat.le_of_ble_eq_true rfl, Nat.le_of_ble_eq_true rfl⟩) (gw_rc (q := (RX2, TX2, 11)) hK hG_4 hvc_6.1 rfl) hc1 hs1 hMC hMS (Nat.le_refl _) (Nat.le_refl _) (g_X.st E) hz hX hK hG_4 hS_5 rfl hl.1 rfl (Nat.le_of_ble_eq_true rfl) dX1_meanSize_23 (fun x6 G7 H locs ce sl hvc_7 hG_8 hS_9 hMC_10 hMS_11 => ?_)
    clear hvc_6 hG_4 hS_5 hMC hMS
    refine lv_i2f hx hb dX1_meanSize_26 ?_
    refine lv_aload_n hx hb dX1_meanSize_27 rfl (lv_at hl 0 rfl) ?_
    refine gw_gr (C := RX1) (T := TX1) (N := 4) (own := RX1) hx hb hts in_X1 hown hK hG_8 hvc_7 rfl (by decide) (hts _ q348) (fun _ h9 => h9) dX1_meanSize_28 (fun x10 hvc_12 => ?_)
    clear hvc_7
    refine gw_grN (C := RX2) (T := TX2) (N := 11) (own := RX1) hx hb hts in_X2 hown hK hG_8 hvc_12 rfl (by decide) (hX.1 _ q302 rfl) (fun _ h9 => h9) dX1_meanSize_31 (fun x11 hvc_13 => ?_)
    clear hvc_12
    refine gw_cFIP (As := []) (rest := [.float (FP.i2f x6)]) (hK.1 9 _ rfl).2  ⟨hx, hb, hml, hown, hts⟩ (met_J7_size l E G7 x11 _ hvc_13.2) (va_cwF 0 hts (lw_F q1229 q886 q888 q99 q890) rfl rfl rfl (hX.fw (List.mem_of_getElem? (i := 6) rfl)) (by decide +kernel) ⟨Nat.le_of_ble_eq_true rfl, Nat.le_of_ble_eq_true rfl⟩) (gw_rc (q := (RJ7, TJ7, 3)) hK hG_8 hvc_13.1 rfl) (by show _ ≤ mc0; omega) (by show _ ≤ ms0; omega) (g_St0 E) hz trivial hK hG_8 hS_9 rfl hl.1 rfl (Nat.le_of_ble_eq_true rfl) dX1_meanSize_34 (fun x12 H locs hvc_14 hG_15 hS_16 => ?_)
    clear hvc_13 hG_8 hS_9
    refine lv_i2f hx hb dX1_meanSize_39 ?_
    refine lv_fdiv hx hb dX1_meanSize_40 hvc_14.1 ?_
    replace hvc_14 := hvc_14.2
    exact g_fret hx hb hr hlocks (by show _ ≤ mc0; omega) (by show _ ≤ ms0; omega) hG_15 hS_16 hvc_14 dX1_meanSize_41
  · replace hvc_3 := hvc_3.2 h9
    refine lv_fconst0 hx hb dX1_meanSize_15 ?_
    refine lv_goto (tgt := 41) hx hb dX1_meanSize_16 (by decide) ?_
    exact g_fret hx hb hr hlocks (by show _ ≤ mc0; omega) (by show _ ≤ ms0; omega) hG_4 hS_5 hvc_3 dX1_meanSize_41
set_option maxHeartbeats 4000000 in
set_option maxRecDepth 100000 in
theorem met_X1_hashOfTransfer (l : Launch) (E : g_E) (G : g_G) (o : Nat) (p1 : Int64) (p2 : Int32) (p3 : Nat) (mc0 ms0 : Nat) (post : Int64 → g_G → Prop) (hvc : wp_X1_hashOfTransfer E G o p1 p2 p3 mc0 ms0 post) : g_ML E l yX1_hashOfTransfer (ws_ yX1_hashOfTransfer cX1_hashOfTransfer 8 (Option.some Jvm.ClassFile.FieldType.long)) ({ frames := 5, cells := mc0, slots := ms0, locals := 113 } : Room) (g_X E) [.ref o, .long p1, .int p2, .ref p3] G (post) := by
  refine g_enter (by decide +kernel) (Nat.le_of_ble_eq_true rfl) ?_
  intro p e s m below meth c ls hx hb hr hts hown hlocks hml hin hz hX hK hG hS hl
  have hl : lv_has ls 8 [(0, .ref o), (1, .long p1), (3, .int p2), (4, .ref p3)] := hl
  have hown : s.vm.findClass RX1 = some m.cls := hown
  have hMC : 0 + mc0 ≤ mc0 := Nat.le_of_eq (Nat.zero_add _)
  have hMS : 0 + ms0 ≤ ms0 := Nat.le_of_eq (Nat.zero_add _)
  unfold wp_X1_hashOfTransfer at hvc
  refine lv_ldc2 (v := lN 31) hx hb hown (by exact hts _ q1309) dX1_hashOfTransfer_0 ?_
  refine lv_ldc2 (v := lN 31) hx hb hown (by exact hts _ q1309) dX1_hashOfTransfer_3 ?_
  refine lv_lload_n hx hb dX1_hashOfTransfer_6 rfl (lv_at hl 1 rfl) ?_
  refine lv_lmul hx hb dX1_hashOfTransfer_7 ?_
  refine lv_aload_n hx hb dX1_hashOfTransfer_8 rfl (lv_at hl 0 rfl) ?_
  refine gw_gr (C := RX1) (T := TX1) (N := 4) (own := RX1) hx hb hts in_X1 hown hK hG hvc rfl (by decide) (hts _ q348) (fun _ h9 => h9) dX1_hashOfTransfer_9 (fun x1 hvc_1 => ?_)
  clear hvc
  refine gw_grN (C := RX2) (T := TX2) (N := 11) (own := RX1) hx hb hts in_X2 hown hK hG hvc_1 rfl (by decide) (hX.1 _ q302 rfl) (fun _ h9 => h9) dX1_hashOfTransfer_12 (fun x2 hvc_2 => ?_)
  clear hvc_1
  refine lv_iload_n hx hb dX1_hashOfTransfer_15 rfl (lv_at hl 2 rfl) ?_
  refine gw_cFQP (As := [.int p2]) (rest := [.long ((lN 31) * p1), .long (lN 31)]) (hK.1 9 _ rfl).2  ⟨hx, hb, hml, hown, hts⟩ (met_J7_get l E G x2 p2 _ hvc_2.2) (va_cwF 1 hts (lw_F q1311 q857 q859 q99 q861) rfl rfl rfl (hX.fw (List.mem_of_getElem? (i := 5) rfl)) (by decide +kernel) ⟨Nat.le_of_ble_eq_true rfl, Nat.le_of_ble_eq_true rfl⟩) (gw_rc (q := (RJ7, TJ7, 3)) hK hG hvc_2.1 rfl) (by show _ ≤ mc0; omega) (by show _ ≤ ms0; omega) (g_St0 E) hz trivial hK hG hS rfl hl.1 rfl (Nat.le_of_ble_eq_true rfl) dX1_hashOfTransfer_16 (fun x3 H locs hvc_3 hG_4 hS_5 => ?_)
  clear hvc_2 hG hS
  refine gw_castS (v := x3) (ci := 3) hx hb hown (hts _ q1312) hK hG_4 rfl rfl hvc_3 dX1_hashOfTransfer_21 (fun z5 hy9 hvc_6 => ?_)
  clear hvc_3
  subst hy9
  refine gw_cVIP (As := []) (rest := [.long ((lN 31) * p1), .long (lN 31)])  ⟨hx, hb, hml, hown, hts⟩ (met_X4_partners l E G z5 _ hvc_6.2) (cwV 0 hts (lw_V q1313 q965 q966 q117 q967) rfl rfl rfl (by decide +kernel) ⟨Nat.le_of_ble_eq_true rfl, Nat.le_of_ble_eq_true rfl⟩) (gw_rc (q := (RX4, TX4, 3)) hK hG_4 hvc_6.1 rfl) (by show _ ≤ mc0; omega) (by show _ ≤ ms0; omega) (g_St0 E) hz trivial hK hG_4 hS_5 rfl hl.1 rfl (Nat.le_of_ble_eq_true rfl) dX1_hashOfTransfer_24 (fun x6 H locs hvc_7 hG_8 hS_9 => ?_)
  clear hvc_6 hG_4 hS_5
  refine lv_i2l (v := x6.toInt64) hx hb dX1_hashOfTransfer_27 rfl ?_
  refine lv_ladd hx hb dX1_hashOfTransfer_28 ?_
  refine lv_lmul hx hb dX1_hashOfTransfer_29 ?_
  refine lv_aload_n hx hb dX1_hashOfTransfer_30 rfl (lv_at hl 0 rfl) ?_
  refine gw_gr (C := RX1) (T := TX1) (N := 4) (own := RX1) hx hb hts in_X1 hown hK hG_8 hvc_7 rfl (by decide) (hts _ q348) (fun _ h9 => h9) dX1_hashOfTransfer_31 (fun x8 hvc_10 => ?_)
  clear hvc_7
  refine lv_iload_n hx hb dX1_hashOfTransfer_34 rfl (lv_at hl 2 rfl) ?_
  obtain ⟨c11, t12, hc1, hs1, hvc_10⟩ := hvc_10
  refine gw_cVIA (As := [.int p2]) (rest := [.long ((lN 31) * (((lN 31) * p1) + x6.toInt64))])  ⟨hx, hb, hml, hown, hts⟩ (met_X2_outcome l E G x8 p2 c11 t12 _ hvc_10.2) (cwV 1 hts (lw_V q1314 q957 q958 q97 q959) rfl rfl rfl (by decide +kernel) ⟨Nat.le_of_ble_eq_true rfl, Nat.le_of_ble_eq_true rfl⟩) (gw_rc (q := (RX2, TX2, 11)) hK hG_8 hvc_10.1 rfl) hc1 hs1 hMC hMS (Nat.le_refl _) (Nat.le_refl _) (g_X.st E) hz hX hK hG_8 hS_9 rfl hl.1 rfl (Nat.le_of_ble_eq_true rfl) dX1_hashOfTransfer_35 (fun x9 G10 H locs ce sl hvc_11 hG_12 hS_13 hMC_14 hMS_15 => ?_)
  clear hvc_10 hG_8 hS_9 hMC hMS
  refine lv_i2l (v := x9.toInt64) hx hb dX1_hashOfTransfer_38 rfl ?_
  refine lv_ladd hx hb dX1_hashOfTransfer_39 ?_
  refine lv_lstore (lv' := [(5, .long (((lN 31) * (((lN 31) * p1) + x6.toInt64)) + x9.toInt64)), (0, .ref o), (1, .long p1), (3, .int p2), (4, .ref p3)]) hx hb dX1_hashOfTransfer_40 hl (by decide) rfl (fun ls hl_16 => ?_)
  clear hl
  refine lv_ldc2 (v := lN 31) hx hb hown (by exact hts _ q1309) dX1_hashOfTransfer_42 ?_
  refine lv_ldc2 (v := lN 31) hx hb hown (by exact hts _ q1309) dX1_hashOfTransfer_45 ?_
  refine lv_lload hx hb dX1_hashOfTransfer_48 (lv_at hl_16 0 rfl) ?_
  refine lv_lmul hx hb dX1_hashOfTransfer_50 ?_
  refine lv_aload_n hx hb dX1_hashOfTransfer_51 rfl (lv_at hl_16 1 rfl) ?_
  refine gw_gr (C := RX1) (T := TX1) (N := 4) (own := RX1) hx hb hts in_X1 hown hK hG_12 hvc_11 rfl (by decide) (hts _ q348) (fun _ h9 => h9) dX1_hashOfTransfer_52 (fun x13 hvc_17 => ?_)
  clear hvc_11
  refine lv_iload_n hx hb dX1_hashOfTransfer_55 rfl (lv_at hl_16 3 rfl) ?_
  refine gw_cVIP (As := [.int p2]) (rest := [.long ((lN 31) * (((lN 31) * (((lN 31) * p1) + x6.toInt64)) + x9.toInt64)), .long (lN 31)])  ⟨hx, hb, hml, hown, hts⟩ (met_X2_outcomeByStores l E G10 x13 p2 _ hvc_17.2) (cwV 1 hts (lw_V q1315 q1316 q1317 q97 q1318) rfl rfl rfl (by decide +kernel) ⟨Nat.le_of_ble_eq_true rfl, Nat.le_of_ble_eq_true rfl⟩) (gw_rc (q := (RX2, TX2, 11)) hK hG_12 hvc_17.1 rfl) (by show _ ≤ mc0; omega) (by show _ ≤ ms0; omega) (g_St0 E) hz trivial hK hG_12 hS_13 rfl hl_16.1 rfl (Nat.le_of_ble_eq_true rfl) dX1_hashOfTransfer_56 (fun x14 H locs hvc_18 hG_19 hS_20 => ?_)
  clear hvc_17 hG_12 hS_13
  refine lv_i2l (v := x14.toInt64) hx hb dX1_hashOfTransfer_59 rfl ?_
  refine lv_ladd hx hb dX1_hashOfTransfer_60 ?_
  refine lv_lmul hx hb dX1_hashOfTransfer_61 ?_
  refine lv_aload_n hx hb dX1_hashOfTransfer_62 rfl (lv_at hl_16 1 rfl) ?_
  refine gw_gr (C := RX1) (T := TX1) (N := 4) (own := RX1) hx hb hts in_X1 hown hK hG_19 hvc_18 rfl (by decide) (hts _ q348) (fun _ h9 => h9) dX1_hashOfTransfer_63 (fun x16 hvc_21 => ?_)
  clear hvc_18
  refine lv_iload_n hx hb dX1_hashOfTransfer_66 rfl (lv_at hl_16 3 rfl) ?_
  obtain ⟨c19, t20, hc1, hs1, hvc_21⟩ := hvc_21
  refine gw_cVIA (As := [.int p2]) (rest := [.long ((lN 31) * (((lN 31) * (((lN 31) * (((lN 31) * p1) + x6.toInt64)) + x9.toInt64)) + x14.toInt64))])  ⟨hx, hb, hml, hown, hts⟩ (met_X2_hasEnded l E G10 x16 p2 c19 t20 _ hvc_21.2) (cwV 1 hts (lw_V q1319 q1014 q1015 q97 q1016) rfl rfl rfl (by decide +kernel) ⟨Nat.le_of_ble_eq_true rfl, Nat.le_of_ble_eq_true rfl⟩) (gw_rc (q := (RX2, TX2, 11)) hK hG_19 hvc_21.1 rfl) hc1 hs1 hMC_14 hMS_15 (Nat.le_refl _) (Nat.le_refl _) (g_X.st E) hz hX hK hG_19 hS_20 rfl hl_16.1 rfl (Nat.le_of_ble_eq_true rfl) dX1_hashOfTransfer_67 (fun x17 G18 H locs ce sl hvc_22 hG_23 hS_24 hMC_25 hMS_26 => ?_)
  clear hvc_21 hG_19 hS_20 hMC_14 hMS_15
  have jn78 : ∀ (y0 : Nat) (y3 : Int32) (y4 : Nat) (s0 : Int32) (s1 : Int64) (G : g_G) (mc : Nat) (ms : Nat) (H : Heap) (locs : List Loc) (ls : Array Slot) (ce sl : Nat), wp_X1_hashOfTransfer_78 E post y0 y3 y4 s0 s1 G mc ms → g_H E G H → va_S (g_A E) s.heap H locs → lv_has ls 8 [(0, .ref y0), (3, .int y3), (4, .ref y4)] → ce + mc ≤ mc0 → sl + ms ≤ ms0 → W p l e ({ frames := 5, cells := mc0, slots := ms0, locals := 113 } : Room) s m ([.ref o, .long p1, .int p2, .ref p3] : List Value).toArray below meth c H locs ce sl (MQ below (va_Ql (post) (g_Bk E) (g_A E)) ([.ref o, .long p1, .int p2, .ref p3] : List Value).toArray s mc0 ms0 (g_A E)) (F0 m 78 ls [.int s0, .long s1]) := by
    clear hvc_22 hG_23 hS_24 hl_16 hMC_25 hMS_26
    intro y0 y3 y4 s0 s1 G mc ms H locs ls ce sl hvc_27 hG_28 hS_29 hl_30 hMC_31 hMS_32
    refine lv_i2l (v := s0.toInt64) hx hb dX1_hashOfTransfer_78 rfl ?_
    refine lv_ladd hx hb dX1_hashOfTransfer_79 ?_
    refine lv_lstore (lv' := [(5, .long (s1 + s0.toInt64)), (0, .ref y0), (3, .int y3), (4, .ref y4)]) hx hb dX1_hashOfTransfer_80 hl_30 (by decide) rfl (fun ls hl_33 => ?_)
    clear hl_30
    refine lv_ldc2 (v := lN 31) hx hb hown (by exact hts _ q1309) dX1_hashOfTransfer_82 ?_
    refine lv_ldc2 (v := lN 31) hx hb hown (by exact hts _ q1309) dX1_hashOfTransfer_85 ?_
    refine lv_ldc2 (v := lN 31) hx hb hown (by exact hts _ q1309) dX1_hashOfTransfer_88 ?_
    refine lv_lload hx hb dX1_hashOfTransfer_91 (lv_at hl_33 0 rfl) ?_
    refine lv_lmul hx hb dX1_hashOfTransfer_93 ?_
    refine lv_aload_n hx hb dX1_hashOfTransfer_94 rfl (lv_at hl_33 1 rfl) ?_
    refine gw_gr (C := RX1) (T := TX1) (N := 4) (own := RX1) hx hb hts in_X1 hown hK hG_28 hvc_27 rfl (by decide) (hts _ q348) (fun _ h9 => h9) dX1_hashOfTransfer_95 (fun x21 hvc_34 => ?_)
    clear hvc_27
    refine gw_grN (C := RX2) (T := TX2) (N := 11) (own := RX1) hx hb hts in_X2 hown hK hG_28 hvc_34 rfl (by decide) (hX.1 _ q311 rfl) (fun _ h9 => h9) dX1_hashOfTransfer_98 (fun x22 hvc_35 => ?_)
    clear hvc_34
    refine lv_iload_n hx hb dX1_hashOfTransfer_101 rfl (lv_at hl_33 2 rfl) ?_
    refine gw_ild hx hb hK hG_28 hvc_35 dX1_hashOfTransfer_102 (fun x23 hvc_36 => ?_)
    clear hvc_35
    refine lv_i2l (v := x23.toInt64) hx hb dX1_hashOfTransfer_103 rfl ?_
    refine lv_ladd hx hb dX1_hashOfTransfer_104 ?_
    refine lv_lmul hx hb dX1_hashOfTransfer_105 ?_
    refine lv_aload_n hx hb dX1_hashOfTransfer_106 rfl (lv_at hl_33 1 rfl) ?_
    refine gw_gr (C := RX1) (T := TX1) (N := 4) (own := RX1) hx hb hts in_X1 hown hK hG_28 hvc_36 rfl (by decide) (hts _ q348) (fun _ h9 => h9) dX1_hashOfTransfer_107 (fun x24 hvc_37 => ?_)
    clear hvc_36
    refine gw_grN (C := RX2) (T := TX2) (N := 11) (own := RX1) hx hb hts in_X2 hown hK hG_28 hvc_37 rfl (by decide) (hX.1 _ q313 rfl) (fun _ h9 => h9) dX1_hashOfTransfer_110 (fun x25 hvc_38 => ?_)
    clear hvc_37
    refine lv_iload_n hx hb dX1_hashOfTransfer_113 rfl (lv_at hl_33 2 rfl) ?_
    refine gw_ild hx hb hK hG_28 hvc_38 dX1_hashOfTransfer_114 (fun x26 hvc_39 => ?_)
    clear hvc_38
    refine lv_i2l (v := x26.toInt64) hx hb dX1_hashOfTransfer_115 rfl ?_
    refine lv_ladd hx hb dX1_hashOfTransfer_116 ?_
    refine lv_lmul hx hb dX1_hashOfTransfer_117 ?_
    refine lv_aload hx hb dX1_hashOfTransfer_118 (lv_at hl_33 3 rfl) ?_
    refine lv_iload_n hx hb dX1_hashOfTransfer_120 rfl (lv_at hl_33 2 rfl) ?_
    obtain ⟨c29, t30, hc1, hs1, hvc_39⟩ := hvc_39
    refine gw_cVIA (As := [.int y3]) (rest := [.long ((lN 31) * (((lN 31) * (((lN 31) * (s1 + s0.toInt64)) + x23.toInt64)) + x26.toInt64))])  ⟨hx, hb, hml, hown, hts⟩ (met_X2_outcome l E G y4 y3 c29 t30 _ hvc_39.2) (cwV 1 hts (lw_V q1314 q957 q958 q97 q959) rfl rfl rfl (by decide +kernel) ⟨Nat.le_of_ble_eq_true rfl, Nat.le_of_ble_eq_true rfl⟩) (gw_rc (q := (RX2, TX2, 11)) hK hG_28 hvc_39.1 rfl) hc1 hs1 hMC_31 hMS_32 (Nat.le_refl _) (Nat.le_refl _) (g_X.st E) hz hX hK hG_28 hS_29 rfl hl_33.1 rfl (Nat.le_of_ble_eq_true rfl) dX1_hashOfTransfer_121 (fun x27 G28 H locs ce sl hvc_40 hG_41 hS_42 hMC_43 hMS_44 => ?_)
    clear hvc_39 hG_28 hS_29 hMC_31 hMS_32
    refine lv_i2l (v := x27.toInt64) hx hb dX1_hashOfTransfer_124 rfl ?_
    refine lv_ladd hx hb dX1_hashOfTransfer_125 ?_
    refine lv_lstore (lv' := [(5, .long (((lN 31) * (((lN 31) * (((lN 31) * (s1 + s0.toInt64)) + x23.toInt64)) + x26.toInt64)) + x27.toInt64)), (0, .ref y0), (3, .int y3), (4, .ref y4)]) hx hb dX1_hashOfTransfer_126 hl_33 (by decide) rfl (fun ls hl_45 => ?_)
    clear hl_33
    refine lv_iconst (v := nI 0) hx hb dX1_hashOfTransfer_128 (by decide) ?_
    have lp131 : ∀ (n131 : Nat) (y0 : Nat) (y3 : Int32) (y5 : Int64) (y7 : Int32) (G : g_G) (mc : Nat) (ms : Nat) (H : Heap) (locs : List Loc) (ls : Array Slot) (ce sl : Nat), wp_X1_hashOfTransfer_131 E post n131 y0 y3 y5 y7 G mc ms → g_H E G H → va_S (g_A E) s.heap H locs → lv_has ls 8 [(0, .ref y0), (3, .int y3), (5, .long y5), (7, .int y7)] → ce + mc ≤ mc0 → sl + ms ≤ ms0 → W p l e ({ frames := 5, cells := mc0, slots := ms0, locals := 113 } : Room) s m ([.ref o, .long p1, .int p2, .ref p3] : List Value).toArray below meth c H locs ce sl (MQ below (va_Ql (post) (g_Bk E) (g_A E)) ([.ref o, .long p1, .int p2, .ref p3] : List Value).toArray s mc0 ms0 (g_A E)) (F0 m 131 ls []) := by
      clear hvc_40 hG_41 hS_42 hl_45 hMC_43 hMS_44
      intro n131
      induction n131 with
      | zero =>
        intro y0 y3 y5 y7 G mc ms H locs ls ce sl hvc_46 hG_47 hS_48 hl_49 hMC_50 hMS_51
        exact False.elim hvc_46
      | succ n131 ih131 =>
        intro y0 y3 y5 y7 G mc ms H locs ls ce sl hvc_52 hG_53 hS_54 hl_55 hMC_56 hMS_57
        refine lv_iload hx hb dX1_hashOfTransfer_131 (lv_at hl_55 3 rfl) ?_
        refine lv_iconst (v := nI 4) hx hb dX1_hashOfTransfer_133 (by decide) ?_
        refine lv_icmp_ge (tgt := 210) hx hb dX1_hashOfTransfer_134 (by decide) (fun h9 => ?_) (fun h9 => ?_)
        · replace hvc_52 := hvc_52.1 h9
          refine lv_lload hx hb dX1_hashOfTransfer_210 (lv_at hl_55 2 rfl) ?_
          exact g_lret hx hb hr hlocks (by show _ ≤ mc0; omega) (by show _ ≤ ms0; omega) hG_53 hS_54 hvc_52 dX1_hashOfTransfer_212
        · replace hvc_52 := hvc_52.2 h9
          refine lv_ldc2 (v := lN 31) hx hb hown (by exact hts _ q1309) dX1_hashOfTransfer_137 ?_
          refine lv_lload hx hb dX1_hashOfTransfer_140 (lv_at hl_55 2 rfl) ?_
          refine lv_lmul hx hb dX1_hashOfTransfer_142 ?_
          refine lv_aload_n hx hb dX1_hashOfTransfer_143 rfl (lv_at hl_55 0 rfl) ?_
          refine gw_gr (C := RX1) (T := TX1) (N := 4) (own := RX1) hx hb hts in_X1 hown hK hG_53 hvc_52 rfl (by decide) (hts _ q348) (fun _ h9 => h9) dX1_hashOfTransfer_144 (fun x31 hvc_58 => ?_)
          clear hvc_52
          refine gw_grN (C := RX2) (T := TX2) (N := 11) (own := RX1) hx hb hts in_X2 hown hK hG_53 hvc_58 rfl (by decide) (hX.1 _ q302 rfl) (fun _ h9 => h9) dX1_hashOfTransfer_147 (fun x32 hvc_59 => ?_)
          clear hvc_58
          refine lv_iload_n hx hb dX1_hashOfTransfer_150 rfl (lv_at hl_55 1 rfl) ?_
          refine gw_cFQP (As := [.int y3]) (rest := [.long ((lN 31) * y5)]) (hK.1 9 _ rfl).2  ⟨hx, hb, hml, hown, hts⟩ (met_J7_get l E G x32 y3 _ hvc_59.2) (va_cwF 1 hts (lw_F q1311 q857 q859 q99 q861) rfl rfl rfl (hX.fw (List.mem_of_getElem? (i := 5) rfl)) (by decide +kernel) ⟨Nat.le_of_ble_eq_true rfl, Nat.le_of_ble_eq_true rfl⟩) (gw_rc (q := (RJ7, TJ7, 3)) hK hG_53 hvc_59.1 rfl) (by show _ ≤ mc0; omega) (by show _ ≤ ms0; omega) (g_St0 E) hz trivial hK hG_53 hS_54 rfl hl_55.1 rfl (Nat.le_of_ble_eq_true rfl) dX1_hashOfTransfer_151 (fun x33 H locs hvc_60 hG_61 hS_62 => ?_)
          clear hvc_59 hG_53 hS_54
          refine gw_castS (v := x33) (ci := 3) hx hb hown (hts _ q1312) hK hG_61 rfl rfl hvc_60 dX1_hashOfTransfer_156 (fun z35 hy9 hvc_63 => ?_)
          clear hvc_60
          subst hy9
          refine lv_iload hx hb dX1_hashOfTransfer_159 (lv_at hl_55 3 rfl) ?_
          refine gw_cVIP (As := [.int y7]) (rest := [.long ((lN 31) * y5)])  ⟨hx, hb, hml, hown, hts⟩ (met_X4_share l E G z35 y7 _ hvc_63.2) (cwV 1 hts (lw_V q1320 q868 q869 q117 q870) rfl rfl rfl (by decide +kernel) ⟨Nat.le_of_ble_eq_true rfl, Nat.le_of_ble_eq_true rfl⟩) (gw_rc (q := (RX4, TX4, 3)) hK hG_61 hvc_63.1 rfl) (by show _ ≤ mc0; omega) (by show _ ≤ ms0; omega) (g_X.st E) hz hX hK hG_61 hS_62 rfl hl_55.1 rfl (Nat.le_of_ble_eq_true rfl) dX1_hashOfTransfer_161 (fun x36 H locs hvc_64 hG_65 hS_66 => ?_)
          clear hvc_63 hG_61 hS_62
          refine lv_i2l (v := x36.toInt64) hx hb dX1_hashOfTransfer_164 rfl ?_
          refine lv_ladd hx hb dX1_hashOfTransfer_165 ?_
          refine lv_lstore (lv' := [(5, .long (((lN 31) * y5) + x36.toInt64)), (0, .ref y0), (3, .int y3), (7, .int y7)]) hx hb dX1_hashOfTransfer_166 hl_55 (by decide) rfl (fun ls hl_67 => ?_)
          clear hl_55
          refine lv_ldc2 (v := lN 31) hx hb hown (by exact hts _ q1309) dX1_hashOfTransfer_168 ?_
          refine lv_ldc2 (v := lN 31) hx hb hown (by exact hts _ q1309) dX1_hashOfTransfer_171 ?_
          refine lv_lload hx hb dX1_hashOfTransfer_174 (lv_at hl_67 0 rfl) ?_
          refine lv_lmul hx hb dX1_hashOfTransfer_176 ?_
          refine lv_aload_n hx hb dX1_hashOfTransfer_177 rfl (lv_at hl_67 1 rfl) ?_
          refine gw_gr (C := RX1) (T := TX1) (N := 4) (own := RX1) hx hb hts in_X1 hown hK hG_65 hvc_64 rfl (by decide) (hts _ q348) (fun _ h9 => h9) dX1_hashOfTransfer_178 (fun x38 hvc_68 => ?_)
          clear hvc_64
          refine lv_iload hx hb dX1_hashOfTransfer_181 (lv_at hl_67 3 rfl) ?_
          refine lv_iload_n hx hb dX1_hashOfTransfer_183 rfl (lv_at hl_67 2 rfl) ?_
          refine gw_cVIP (As := [.int y7, .int y3]) (rest := [.long ((lN 31) * (((lN 31) * y5) + x36.toInt64)), .long (lN 31)])  ⟨hx, hb, hml, hown, hts⟩ (met_X2_state l E G x38 y7 y3 _ hvc_68.2) (cwV 2 hts (lw_V q1321 q850 q851 q97 q852) rfl rfl rfl (by decide +kernel) ⟨Nat.le_of_ble_eq_true rfl, Nat.le_of_ble_eq_true rfl⟩) (gw_rc (q := (RX2, TX2, 11)) hK hG_65 hvc_68.1 rfl) (by show _ ≤ mc0; omega) (by show _ ≤ ms0; omega) (g_St0 E) hz trivial hK hG_65 hS_66 rfl hl_67.1 rfl (Nat.le_of_ble_eq_true rfl) dX1_hashOfTransfer_184 (fun x39 H locs hvc_69 hG_70 hS_71 => ?_)
          clear hvc_68 hG_65 hS_66
          refine lv_i2l (v := x39.toInt64) hx hb dX1_hashOfTransfer_187 rfl ?_
          refine lv_ladd hx hb dX1_hashOfTransfer_188 ?_
          refine lv_lmul hx hb dX1_hashOfTransfer_189 ?_
          refine lv_aload_n hx hb dX1_hashOfTransfer_190 rfl (lv_at hl_67 1 rfl) ?_
          refine gw_gr (C := RX1) (T := TX1) (N := 4) (own := RX1) hx hb hts in_X1 hown hK hG_70 hvc_69 rfl (by decide) (hts _ q348) (fun _ h9 => h9) dX1_hashOfTransfer_191 (fun x41 hvc_72 => ?_)
          clear hvc_69
          refine lv_iload hx hb dX1_hashOfTransfer_194 (lv_at hl_67 3 rfl) ?_
          refine lv_iload_n hx hb dX1_hashOfTransfer_196 rfl (lv_at hl_67 2 rfl) ?_
          obtain ⟨c44, t45, hc1, hs1, hvc_72⟩ := hvc_72
          refine gw_cVIA (As := [.int y7, .int y3]) (rest := [.long ((lN 31) * (((lN 31) * (((lN 31) * y5) + x36.toInt64)) + x39.toInt64))])  ⟨hx, hb, hml, hown, hts⟩ (met_X2_stateByLog l E G x41 y7 y3 c44 t45 _ hvc_72.2) (cwV 2 hts (lw_V q1322 q1323 q1324 q97 q1325) rfl rfl rfl (by decide +kernel) ⟨Nat.le_of_ble_eq_true rfl, Nat.le_of_ble_eq_true rfl⟩) (gw_rc (q := (RX2, TX2, 11)) hK hG_70 hvc_72.1 rfl) hc1 hs1 hMC_56 hMS_57 (Nat.le_refl _) (Nat.le_refl _) (g_X.st E) hz hX hK hG_70 hS_71 rfl hl_67.1 rfl (Nat.le_of_ble_eq_true rfl) dX1_hashOfTransfer_197 (fun x42 G43 H locs ce sl hvc_73 hG_74 hS_75 hMC_76 hMS_77 => ?_)
          clear hvc_72 hG_70 hS_71 hMC_56 hMS_57
          refine lv_i2l (v := x42.toInt64) hx hb dX1_hashOfTransfer_200 rfl ?_
          refine lv_ladd hx hb dX1_hashOfTransfer_201 ?_
          refine lv_lstore (lv' := [(5, .long (((lN 31) * (((lN 31) * (((lN 31) * y5) + x36.toInt64)) + x39.toInt64)) + x42.toInt64)), (0, .ref y0), (3, .int y3), (7, .int y7)]) hx hb dX1_hashOfTransfer_202 hl_67 (by decide) rfl (fun ls hl_78 => ?_)
          clear hl_67
          refine lv_iinc (k := 3) (v := y7 + (nI 1)) (lv' := [(7, .int (y7 + (nI 1))), (5, .long (((lN 31) * (((lN 31) * (((lN 31) * y5) + x36.toInt64)) + x39.toInt64)) + x42.toInt64)), (0, .ref y0), (3, .int y3)]) hx hb dX1_hashOfTransfer_204 hl_78 rfl (congrArg (y7 + ·) (by decide : Int32.ofInt (1) = nI 1)) (by decide) rfl (fun ls hl_79 => ?_)
          clear hl_78
          refine lv_goto (tgt := 131) hx hb dX1_hashOfTransfer_207 (by decide) ?_
          exact ih131 y0 y3 (((lN 31) * (((lN 31) * (((lN 31) * y5) + x36.toInt64)) + x39.toInt64)) + x42.toInt64) (y7 + (nI 1)) G43 (mc - c44) (ms - t45) _ _ _ _ _ hvc_73 hG_74 hS_75 (lv_sub hl_79 [2, 3, 1, 0] rfl) hMC_76 hMS_77
    refine lv_istore (lv' := [(7, .int (nI 0)), (5, .long (((lN 31) * (((lN 31) * (((lN 31) * (s1 + s0.toInt64)) + x23.toInt64)) + x26.toInt64)) + x27.toInt64)), (0, .ref y0), (3, .int y3), (4, .ref y4)]) hx hb dX1_hashOfTransfer_129 hl_45 (by decide) rfl (fun ls hl_80 => ?_)
    clear hl_45
    obtain ⟨nf131, hvc_40⟩ := hvc_40
    exact lp131 nf131 y0 y3 (((lN 31) * (((lN 31) * (((lN 31) * (s1 + s0.toInt64)) + x23.toInt64)) + x26.toInt64)) + x27.toInt64) (nI 0) G28 (mc - c29) (ms - t30) _ _ _ _ _ hvc_40 hG_41 hS_42 (lv_sub hl_80 [2, 3, 1, 0] rfl) hMC_43 hMS_44
  refine lv_if_eq (tgt := 77) hx hb dX1_hashOfTransfer_70 (by decide) (fun h9 => ?_) (fun h9 => ?_)
  · replace hvc_22 := hvc_22.1 h9
    refine lv_iconst (v := nI 0) hx hb dX1_hashOfTransfer_77 (by decide) ?_
    exact jn78 o p2 p3 (nI 0) ((lN 31) * (((lN 31) * (((lN 31) * (((lN 31) * p1) + x6.toInt64)) + x9.toInt64)) + x14.toInt64)) G18 (mc0 - c11 - c19) (ms0 - t12 - t20) _ _ _ _ _ hvc_22 hG_23 hS_24 (lv_sub hl_16 [1, 3, 4] rfl) hMC_25 hMS_26
  · replace hvc_22 := hvc_22.2 h9
    refine lv_iconst (v := nI 1) hx hb dX1_hashOfTransfer_73 (by decide) ?_
    refine lv_goto (tgt := 78) hx hb dX1_hashOfTransfer_74 (by decide) ?_
    exact jn78 o p2 p3 (nI 1) ((lN 31) * (((lN 31) * (((lN 31) * (((lN 31) * p1) + x6.toInt64)) + x9.toInt64)) + x14.toInt64)) G18 (mc0 - c11 - c19) (ms0 - t12 - t20) _ _ _ _ _ hvc_22 hG_23 hS_24 (lv_sub hl_16 [1, 3, 4] rfl) hMC_25 hMS_26
set_option maxHeartbeats 4000000 in
set_option maxRecDepth 100000 in
theorem met_X1_hashOfSites (l : Launch) (E : g_E) (G : g_G) (o : Nat) (p1 : Int64) (p2 : Nat) (mc0 ms0 : Nat) (post : Int64 → g_G → Prop) (hvc : wp_X1_hashOfSites E G o p1 p2 mc0 ms0 post) : g_ML E l yX1_hashOfSites (ws_ yX1_hashOfSites cX1_hashOfSites 9 (Option.some Jvm.ClassFile.FieldType.long)) ({ frames := 4, cells := mc0, slots := ms0, locals := 88 } : Room) (g_X E) [.ref o, .long p1, .ref p2] G (post) := by
  refine g_enter (by decide +kernel) (Nat.le_of_ble_eq_true rfl) ?_
  intro p e s m below meth c ls hx hb hr hts hown hlocks hml hin hz hX hK hG hS hl
  have hl : lv_has ls 9 [(0, .ref o), (1, .long p1), (3, .ref p2)] := hl
  have hown : s.vm.findClass RX1 = some m.cls := hown
  have hMC : 0 + mc0 ≤ mc0 := Nat.le_of_eq (Nat.zero_add _)
  have hMS : 0 + ms0 ≤ ms0 := Nat.le_of_eq (Nat.zero_add _)
  unfold wp_X1_hashOfSites at hvc
  refine lv_lload_n hx hb dX1_hashOfSites_0 rfl (lv_at hl 1 rfl) ?_
  refine lv_lstore (lv' := [(4, .long p1), (0, .ref o), (1, .long p1), (3, .ref p2)]) hx hb dX1_hashOfSites_1 hl (by decide) rfl (fun ls hl_1 => ?_)
  clear hl
  refine lv_iconst (v := nI 0) hx hb dX1_hashOfSites_3 (by decide) ?_
  have lp6 : ∀ (n6 : Nat) (y0 : Nat) (y3 : Nat) (y4 : Int64) (y6 : Int32) (G : g_G) (mc : Nat) (ms : Nat) (H : Heap) (locs : List Loc) (ls : Array Slot) (ce sl : Nat), wp_X1_hashOfSites_6 E post n6 y0 y3 y4 y6 G mc ms → g_H E G H → va_S (g_A E) s.heap H locs → lv_has ls 9 [(0, .ref y0), (3, .ref y3), (4, .long y4), (6, .int y6)] → ce + mc ≤ mc0 → sl + ms ≤ ms0 → W p l e ({ frames := 4, cells := mc0, slots := ms0, locals := 88 } : Room) s m ([.ref o, .long p1, .ref p2] : List Value).toArray below meth c H locs ce sl (MQ below (va_Ql (post) (g_Bk E) (g_A E)) ([.ref o, .long p1, .ref p2] : List Value).toArray s mc0 ms0 (g_A E)) (F0 m 6 ls []) := by
    clear hvc hG hS hl_1 hMC hMS
    intro n6
    induction n6 with
    | zero =>
      intro y0 y3 y4 y6 G mc ms H locs ls ce sl hvc_2 hG_3 hS_4 hl_5 hMC_6 hMS_7
      exact False.elim hvc_2
    | succ n6 ih6 =>
      intro y0 y3 y4 y6 G mc ms H locs ls ce sl hvc_8 hG_9 hS_10 hl_11 hMC_12 hMS_13
      refine lv_iload hx hb dX1_hashOfSites_6 (lv_at hl_11 3 rfl) ?_
      refine lv_iconst (v := nI 4) hx hb dX1_hashOfSites_8 (by decide) ?_
      refine lv_icmp_ge (tgt := 85) hx hb dX1_hashOfSites_9 (by decide) (fun h9 => ?_) (fun h9 => ?_)
      · replace hvc_8 := hvc_8.1 h9
        refine lv_iconst (v := nI 0) hx hb dX1_hashOfSites_85 (by decide) ?_
        have lp88 : ∀ (n88 : Nat) (y0 : Nat) (y4 : Int64) (y6 : Int32) (G : g_G) (mc : Nat) (ms : Nat) (H : Heap) (locs : List Loc) (ls : Array Slot) (ce sl : Nat), wp_X1_hashOfSites_88 E post n88 y0 y4 y6 G mc ms → g_H E G H → va_S (g_A E) s.heap H locs → lv_has ls 9 [(0, .ref y0), (4, .long y4), (6, .int y6)] → ce + mc ≤ mc0 → sl + ms ≤ ms0 → W p l e ({ frames := 4, cells := mc0, slots := ms0, locals := 88 } : Room) s m ([.ref o, .long p1, .ref p2] : List Value).toArray below meth c H locs ce sl (MQ below (va_Ql (post) (g_Bk E) (g_A E)) ([.ref o, .long p1, .ref p2] : List Value).toArray s mc0 ms0 (g_A E)) (F0 m 88 ls []) := by
          clear hvc_8 hG_9 hS_10 hl_11 hMC_12 hMS_13
          intro n88
          induction n88 with
          | zero =>
            intro y0 y4 y6 G mc ms H locs ls ce sl hvc_14 hG_15 hS_16 hl_17 hMC_18 hMS_19
            exact False.elim hvc_14
          | succ n88 ih88 =>
            intro y0 y4 y6 G mc ms H locs ls ce sl hvc_20 hG_21 hS_22 hl_23 hMC_24 hMS_25
            refine lv_iload hx hb dX1_hashOfSites_88 (lv_at hl_23 2 rfl) ?_
            refine lv_iconst (v := nI 5) hx hb dX1_hashOfSites_90 (by decide) ?_
            refine lv_icmp_ge (tgt := 230) hx hb dX1_hashOfSites_91 (by decide) (fun h9 => ?_) (fun h9 => ?_)
            · replace hvc_20 := hvc_20.1 h9
              refine lv_lload hx hb dX1_hashOfSites_230 (lv_at hl_23 1 rfl) ?_
              exact g_lret hx hb hr hlocks (by show _ ≤ mc0; omega) (by show _ ≤ ms0; omega) hG_21 hS_22 hvc_20 dX1_hashOfSites_232
            · replace hvc_20 := hvc_20.2 h9
              refine lv_ldc2 (v := lN 31) hx hb hown (by exact hts _ q1309) dX1_hashOfSites_94 ?_
              refine lv_ldc2 (v := lN 31) hx hb hown (by exact hts _ q1309) dX1_hashOfSites_97 ?_
              refine lv_lload hx hb dX1_hashOfSites_100 (lv_at hl_23 1 rfl) ?_
              refine lv_lmul hx hb dX1_hashOfSites_102 ?_
              refine lv_aload_n hx hb dX1_hashOfSites_103 rfl (lv_at hl_23 0 rfl) ?_
              refine gw_gr (C := RX1) (T := TX1) (N := 4) (own := RX1) hx hb hts in_X1 hown hK hG_21 hvc_20 rfl (by decide) (hts _ q348) (fun _ h9 => h9) dX1_hashOfSites_104 (fun x1 hvc_26 => ?_)
              clear hvc_20
              refine lv_iload hx hb dX1_hashOfSites_107 (lv_at hl_23 2 rfl) ?_
              refine gw_cVIP (As := [.int y6]) (rest := [.long ((lN 31) * y4), .long (lN 31)])  ⟨hx, hb, hml, hown, hts⟩ (met_X2_isUp l E G x1 y6 _ hvc_26.2) (cwV 1 hts (lw_V q1338 q833 q834 q97 q835) rfl rfl rfl (by decide +kernel) ⟨Nat.le_of_ble_eq_true rfl, Nat.le_of_ble_eq_true rfl⟩) (gw_rc (q := (RX2, TX2, 11)) hK hG_21 hvc_26.1 rfl) (by show _ ≤ mc0; omega) (by show _ ≤ ms0; omega) (g_X.st E) hz hX hK hG_21 hS_22 rfl hl_23.1 rfl (Nat.le_of_ble_eq_true rfl) dX1_hashOfSites_109 (fun x2 H locs hvc_27 hG_28 hS_29 => ?_)
              clear hvc_26 hG_21 hS_22
              have jn120 : ∀ (y0 : Nat) (y6 : Int32) (s0 : Int32) (s1 : Int64) (s2 : Int64) (G : g_G) (mc : Nat) (ms : Nat) (H : Heap) (locs : List Loc) (ls : Array Slot) (ce sl : Nat), wp_X1_hashOfSites_120 E post (wp_X1_hashOfSites_88 E post n88) y0 y6 s0 s1 s2 G mc ms → g_H E G H → va_S (g_A E) s.heap H locs → lv_has ls 9 [(0, .ref y0), (6, .int y6)] → ce + mc ≤ mc0 → sl + ms ≤ ms0 → W p l e ({ frames := 4, cells := mc0, slots := ms0, locals := 88 } : Room) s m ([.ref o, .long p1, .ref p2] : List Value).toArray below meth c H locs ce sl (MQ below (va_Ql (post) (g_Bk E) (g_A E)) ([.ref o, .long p1, .ref p2] : List Value).toArray s mc0 ms0 (g_A E)) (F0 m 120 ls [.int s0, .long s1, .long s2]) := by
                clear hvc_27 hG_28 hS_29 hl_23 hMC_24 hMS_25
                intro y0 y6 s0 s1 s2 G mc ms H locs ls ce sl hvc_30 hG_31 hS_32 hl_33 hMC_34 hMS_35
                refine lv_i2l (v := s0.toInt64) hx hb dX1_hashOfSites_120 rfl ?_
                refine lv_ladd hx hb dX1_hashOfSites_121 ?_
                refine lv_lmul hx hb dX1_hashOfSites_122 ?_
                refine lv_aload_n hx hb dX1_hashOfSites_123 rfl (lv_at hl_33 0 rfl) ?_
                refine gw_gr (C := RX1) (T := TX1) (N := 4) (own := RX1) hx hb hts in_X1 hown hK hG_31 hvc_30 rfl (by decide) (hts _ q348) (fun _ h9 => h9) dX1_hashOfSites_124 (fun x4 hvc_36 => ?_)
                clear hvc_30
                refine gw_grN (C := RX2) (T := TX2) (N := 11) (own := RX1) hx hb hts in_X2 hown hK hG_31 hvc_36 rfl (by decide) (hX.1 _ q304 rfl) (fun _ h9 => h9) dX1_hashOfSites_127 (fun x5 hvc_37 => ?_)
                clear hvc_36
                refine lv_iload hx hb dX1_hashOfSites_130 (lv_at hl_33 1 rfl) ?_
                refine gw_cFQP (As := [.int y6]) (rest := [.long (s2 * (s1 + s0.toInt64))]) (hK.1 9 _ rfl).2  ⟨hx, hb, hml, hown, hts⟩ (met_J7_get l E G x5 y6 _ hvc_37.2) (va_cwF 1 hts (lw_F q1311 q857 q859 q99 q861) rfl rfl rfl (hX.fw (List.mem_of_getElem? (i := 5) rfl)) (by decide +kernel) ⟨Nat.le_of_ble_eq_true rfl, Nat.le_of_ble_eq_true rfl⟩) (gw_rc (q := (RJ7, TJ7, 3)) hK hG_31 hvc_37.1 rfl) (by show _ ≤ mc0; omega) (by show _ ≤ ms0; omega) (g_St0 E) hz trivial hK hG_31 hS_32 rfl hl_33.1 rfl (Nat.le_of_ble_eq_true rfl) dX1_hashOfSites_132 (fun x6 H locs hvc_38 hG_39 hS_40 => ?_)
                clear hvc_37 hG_31 hS_32
                refine gw_castY (v := x6) (ci := 9) hx hb hown (hts _ q1339) hK hG_39 rfl (hX.1 _ q227 rfl) hvc_38 dX1_hashOfSites_137 (fun z8 hy9 hvc_41 => ?_)
                clear hvc_38
                subst hy9
                refine gw_cFIP (As := []) (rest := [.long (s2 * (s1 + s0.toInt64))]) (hK.1 9 _ rfl).2  ⟨hx, hb, hml, hown, hts⟩ (met_J7_size l E G z8 _ hvc_41.2) (va_cwF 0 hts (lw_F q1229 q886 q888 q99 q890) rfl rfl rfl (hX.fw (List.mem_of_getElem? (i := 6) rfl)) (by decide +kernel) ⟨Nat.le_of_ble_eq_true rfl, Nat.le_of_ble_eq_true rfl⟩) (gw_rc (q := (RJ7, TJ7, 3)) hK hG_39 hvc_41.1 rfl) (by show _ ≤ mc0; omega) (by show _ ≤ ms0; omega) (g_St0 E) hz trivial hK hG_39 hS_40 rfl hl_33.1 rfl (Nat.le_of_ble_eq_true rfl) dX1_hashOfSites_140 (fun x9 H locs hvc_42 hG_43 hS_44 => ?_)
                clear hvc_41 hG_39 hS_40
                refine lv_i2l (v := x9.toInt64) hx hb dX1_hashOfSites_145 rfl ?_
                refine lv_ladd hx hb dX1_hashOfSites_146 ?_
                refine lv_lstore (lv' := [(4, .long ((s2 * (s1 + s0.toInt64)) + x9.toInt64)), (0, .ref y0), (6, .int y6)]) hx hb dX1_hashOfSites_147 hl_33 (by decide) rfl (fun ls hl_45 => ?_)
                clear hl_33
                refine lv_aload_n hx hb dX1_hashOfSites_149 rfl (lv_at hl_45 1 rfl) ?_
                refine gw_gr (C := RX1) (T := TX1) (N := 4) (own := RX1) hx hb hts in_X1 hown hK hG_43 hvc_42 rfl (by decide) (hts _ q348) (fun _ h9 => h9) dX1_hashOfSites_150 (fun x11 hvc_46 => ?_)
                clear hvc_42
                refine gw_grN (C := RX2) (T := TX2) (N := 11) (own := RX1) hx hb hts in_X2 hown hK hG_43 hvc_46 rfl (by decide) (hX.1 _ q304 rfl) (fun _ h9 => h9) dX1_hashOfSites_153 (fun x12 hvc_47 => ?_)
                clear hvc_46
                refine lv_iload hx hb dX1_hashOfSites_156 (lv_at hl_45 2 rfl) ?_
                refine gw_cFQP (As := [.int y6]) (rest := []) (hK.1 9 _ rfl).2  ⟨hx, hb, hml, hown, hts⟩ (met_J7_get l E G x12 y6 _ hvc_47.2) (va_cwF 1 hts (lw_F q1311 q857 q859 q99 q861) rfl rfl rfl (hX.fw (List.mem_of_getElem? (i := 5) rfl)) (by decide +kernel) ⟨Nat.le_of_ble_eq_true rfl, Nat.le_of_ble_eq_true rfl⟩) (gw_rc (q := (RJ7, TJ7, 3)) hK hG_43 hvc_47.1 rfl) (by show _ ≤ mc0; omega) (by show _ ≤ ms0; omega) (g_St0 E) hz trivial hK hG_43 hS_44 rfl hl_45.1 rfl (Nat.le_of_ble_eq_true rfl) dX1_hashOfSites_158 (fun x13 H locs hvc_48 hG_49 hS_50 => ?_)
                clear hvc_47 hG_43 hS_44
                refine gw_castY (v := x13) (ci := 9) hx hb hown (hts _ q1339) hK hG_49 rfl (hX.1 _ q227 rfl) hvc_48 dX1_hashOfSites_163 (fun z15 hy9 hvc_51 => ?_)
                clear hvc_48
                subst hy9
                obtain ⟨c18, t19, hc1, hs1, hvc_51⟩ := hvc_51
                refine gw_cFQA (As := []) (rest := []) (hK.1 9 _ rfl).2  ⟨hx, hb, hml, hown, hts⟩ (met_J7_iterator l E G z15 c18 t19 _ hvc_51.2) (va_cwF 0 hts (lw_F q1341 q691 q693 q99 q695) rfl rfl rfl (hX.fw (List.mem_of_getElem? (i := 2) rfl)) (by decide +kernel) ⟨Nat.le_of_ble_eq_true rfl, Nat.le_of_ble_eq_true rfl⟩) (gw_rc (q := (RJ7, TJ7, 3)) hK hG_49 hvc_51.1 rfl) hc1 hs1 hMC_34 hMS_35 (Nat.le_refl _) (Nat.le_refl _) (g_St0 E) hz trivial hK hG_49 hS_50 rfl hl_45.1 rfl (Nat.le_of_ble_eq_true rfl) dX1_hashOfSites_166 (fun x16 G17 H locs ce sl hvc_52 hG_53 hS_54 hMC_55 hMS_56 => ?_)
                clear hvc_51 hG_49 hS_50 hMC_34 hMS_35
                have lp173 : ∀ (n173 : Nat) (y0 : Nat) (y4 : Int64) (y6 : Int32) (y7 : Option Nat) (G : g_G) (mc : Nat) (ms : Nat) (H : Heap) (locs : List Loc) (ls : Array Slot) (ce sl : Nat), wp_X1_hashOfSites_173 E post (wp_X1_hashOfSites_88 E post n88) n173 y0 y4 y6 y7 G mc ms → g_H E G H → va_S (g_A E) s.heap H locs → lv_has ls 9 [(0, .ref y0), (4, .long y4), (6, .int y6), (7, va_rf y7)] → ce + mc ≤ mc0 → sl + ms ≤ ms0 → W p l e ({ frames := 4, cells := mc0, slots := ms0, locals := 88 } : Room) s m ([.ref o, .long p1, .ref p2] : List Value).toArray below meth c H locs ce sl (MQ below (va_Ql (post) (g_Bk E) (g_A E)) ([.ref o, .long p1, .ref p2] : List Value).toArray s mc0 ms0 (g_A E)) (F0 m 173 ls []) := by
                  clear hvc_52 hG_53 hS_54 hl_45 hMC_55 hMS_56
                  intro n173
                  induction n173 with
                  | zero =>
                    intro y0 y4 y6 y7 G mc ms H locs ls ce sl hvc_57 hG_58 hS_59 hl_60 hMC_61 hMS_62
                    exact False.elim hvc_57
                  | succ n173 ih173 =>
                    intro y0 y4 y6 y7 G mc ms H locs ls ce sl hvc_63 hG_64 hS_65 hl_66 hMC_67 hMS_68
                    refine gq_aload hx hb dX1_hashOfSites_173 (lv_at hl_66 3 rfl) ?_
                    obtain ⟨z20, rfl, hvc_63⟩ := hvc_63
                    refine gw_cFIP (As := []) (rest := []) (hK.1 10 _ rfl).2  ⟨hx, hb, hml, hown, hts⟩ (met_J21_hasNext l E G z20 _ hvc_63.2) (va_cwF 0 hts (lw_F q1343 q720 q722 q116 q724) rfl rfl rfl (hX.fw (List.mem_of_getElem? (i := 8) rfl)) (by decide +kernel) ⟨Nat.le_of_ble_eq_true rfl, Nat.le_of_ble_eq_true rfl⟩) (gw_rc (q := (RJ21, TJ21, 4)) hK hG_64 hvc_63.1 rfl) (by show _ ≤ mc0; omega) (by show _ ≤ ms0; omega) (g_X.st E) hz hX hK hG_64 hS_65 rfl hl_66.1 rfl (Nat.le_of_ble_eq_true rfl) dX1_hashOfSites_175 (fun x21 H locs hvc_69 hG_70 hS_71 => ?_)
                    clear hvc_63 hG_64 hS_65
                    refine lv_if_eq (tgt := 224) hx hb dX1_hashOfSites_180 (by decide) (fun h9 => ?_) (fun h9 => ?_)
                    · replace hvc_69 := hvc_69.1 h9
                      refine lv_iinc (k := 2) (v := y6 + (nI 1)) (lv' := [(6, .int (y6 + (nI 1))), (0, .ref y0), (4, .long y4), (7, .ref z20)]) hx hb dX1_hashOfSites_224 hl_66 rfl (congrArg (y6 + ·) (by decide : Int32.ofInt (1) = nI 1)) (by decide) rfl (fun ls hl_72 => ?_)
                      clear hl_66
                      refine lv_goto (tgt := 88) hx hb dX1_hashOfSites_227 (by decide) ?_
                      exact ih88 y0 y4 (y6 + (nI 1)) G mc ms _ _ _ _ _ hvc_69 hG_70 hS_71 (lv_sub hl_72 [1, 2, 0] rfl) hMC_67 hMS_68
                    · replace hvc_69 := hvc_69.2 h9
                      refine lv_aload hx hb dX1_hashOfSites_183 (lv_at hl_66 3 rfl) ?_
                      obtain ⟨c25, t26, hc1, hs1, hvc_69⟩ := hvc_69
                      refine gw_cFQA (As := []) (rest := []) (hK.1 10 _ rfl).2  ⟨hx, hb, hml, hown, hts⟩ (met_J21_next l E G z20 c25 t26 _ hvc_69.2) (va_cwF 0 hts (lw_F q1345 q729 q731 q116 q733) rfl rfl rfl (hX.fw (List.mem_of_getElem? (i := 9) rfl)) (by decide +kernel) ⟨Nat.le_of_ble_eq_true rfl, Nat.le_of_ble_eq_true rfl⟩) (gw_rc (q := (RJ21, TJ21, 4)) hK hG_70 hvc_69.1 rfl) hc1 hs1 hMC_67 hMS_68 (Nat.le_refl _) (Nat.le_refl _) (g_X.st E) hz hX hK hG_70 hS_71 rfl hl_66.1 rfl (Nat.le_of_ble_eq_true rfl) dX1_hashOfSites_185 (fun x23 G24 H locs ce sl hvc_73 hG_74 hS_75 hMC_76 hMS_77 => ?_)
                      clear hvc_69 hG_70 hS_71 hMC_67 hMS_68
                      refine gw_castS (v := x23) (ci := 4) hx hb hown (hts _ q1346) hK hG_74 rfl rfl hvc_73 dX1_hashOfSites_190 (fun z27 hy9 hvc_78 => ?_)
                      clear hvc_73
                      subst hy9
                      refine lv_astore (lv' := [(8, .ref z27), (0, .ref y0), (4, .long y4), (6, .int y6), (7, .ref z20)]) hx hb dX1_hashOfSites_193 hl_66 (by decide) rfl (fun ls hl_79 => ?_)
                      clear hl_66
                      refine lv_ldc2 (v := lN 31) hx hb hown (by exact hts _ q1309) dX1_hashOfSites_195 ?_
                      refine lv_ldc2 (v := lN 31) hx hb hown (by exact hts _ q1309) dX1_hashOfSites_198 ?_
                      refine lv_lload hx hb dX1_hashOfSites_201 (lv_at hl_79 2 rfl) ?_
                      refine lv_lmul hx hb dX1_hashOfSites_203 ?_
                      refine lv_aload hx hb dX1_hashOfSites_204 (lv_at hl_79 0 rfl) ?_
                      refine gw_giN (C := RX5) (T := TX5) (N := 2) (own := RX1) hx hb hts in_X5 hown hK hG_74 hvc_78 rfl (by decide) (hX.1 _ q903 rfl) (fun _ h9 => h9) dX1_hashOfSites_206 (fun x28 hvc_80 => ?_)
                      clear hvc_78
                      refine lv_i2l (v := x28.toInt64) hx hb dX1_hashOfSites_209 rfl ?_
                      refine lv_ladd hx hb dX1_hashOfSites_210 ?_
                      refine lv_lmul hx hb dX1_hashOfSites_211 ?_
                      refine lv_aload hx hb dX1_hashOfSites_212 (lv_at hl_79 0 rfl) ?_
                      refine gw_giN (C := RX5) (T := TX5) (N := 2) (own := RX1) hx hb hts in_X5 hown hK hG_74 hvc_80 rfl (by decide) (hX.1 _ q906 rfl) (fun _ h9 => h9) dX1_hashOfSites_214 (fun x29 hvc_81 => ?_)
                      clear hvc_80
                      refine lv_i2l (v := x29.toInt64) hx hb dX1_hashOfSites_217 rfl ?_
                      refine lv_ladd hx hb dX1_hashOfSites_218 ?_
                      refine lv_lstore (lv' := [(4, .long (((lN 31) * (((lN 31) * y4) + x28.toInt64)) + x29.toInt64)), (8, .ref z27), (0, .ref y0), (6, .int y6), (7, .ref z20)]) hx hb dX1_hashOfSites_219 hl_79 (by decide) rfl (fun ls hl_82 => ?_)
                      clear hl_79
                      refine lv_goto (tgt := 173) hx hb dX1_hashOfSites_221 (by decide) ?_
                      exact ih173 y0 (((lN 31) * (((lN 31) * y4) + x28.toInt64)) + x29.toInt64) y6 (some z20) G24 (mc - c25) (ms - t26) _ _ _ _ _ hvc_81 hG_74 hS_75 (lv_sub hl_82 [2, 0, 3, 4] rfl) hMC_76 hMS_77
                refine gq_astore (lv' := [(7, va_rf x16), (4, .long ((s2 * (s1 + s0.toInt64)) + x9.toInt64)), (0, .ref y0), (6, .int y6)]) hx hb dX1_hashOfSites_171 hl_45 (by decide) rfl (fun ls hl_83 => ?_)
                clear hl_45
                obtain ⟨nf173, hvc_52⟩ := hvc_52
                exact lp173 nf173 y0 ((s2 * (s1 + s0.toInt64)) + x9.toInt64) y6 x16 G17 (mc - c18) (ms - t19) _ _ _ _ _ hvc_52 hG_53 hS_54 (lv_sub hl_83 [2, 1, 3, 0] rfl) hMC_55 hMS_56
              refine lv_if_eq (tgt := 119) hx hb dX1_hashOfSites_112 (by decide) (fun h9 => ?_) (fun h9 => ?_)
              · replace hvc_27 := hvc_27.1 h9
                refine lv_iconst (v := nI 0) hx hb dX1_hashOfSites_119 (by decide) ?_
                exact jn120 y0 y6 (nI 0) ((lN 31) * y4) (lN 31) G mc ms _ _ _ _ _ hvc_27 hG_28 hS_29 (lv_sub hl_23 [0, 2] rfl) hMC_24 hMS_25
              · replace hvc_27 := hvc_27.2 h9
                refine lv_iconst (v := nI 1) hx hb dX1_hashOfSites_115 (by decide) ?_
                refine lv_goto (tgt := 120) hx hb dX1_hashOfSites_116 (by decide) ?_
                exact jn120 y0 y6 (nI 1) ((lN 31) * y4) (lN 31) G mc ms _ _ _ _ _ hvc_27 hG_28 hS_29 (lv_sub hl_23 [0, 2] rfl) hMC_24 hMS_25
        refine lv_istore (lv' := [(6, .int (nI 0)), (0, .ref y0), (3, .ref y3), (4, .long y4)]) hx hb dX1_hashOfSites_86 hl_11 (by decide) rfl (fun ls hl_84 => ?_)
        clear hl_11
        obtain ⟨nf88, hvc_8⟩ := hvc_8
        exact lp88 nf88 y0 y4 (nI 0) G mc ms _ _ _ _ _ hvc_8 hG_9 hS_10 (lv_sub hl_84 [1, 3, 0] rfl) hMC_12 hMS_13
      · replace hvc_8 := hvc_8.2 h9
        refine lv_ldc2 (v := lN 31) hx hb hown (by exact hts _ q1309) dX1_hashOfSites_12 ?_
        refine lv_ldc2 (v := lN 31) hx hb hown (by exact hts _ q1309) dX1_hashOfSites_15 ?_
        refine lv_lload hx hb dX1_hashOfSites_18 (lv_at hl_11 2 rfl) ?_
        refine lv_lmul hx hb dX1_hashOfSites_20 ?_
        refine lv_aload_n hx hb dX1_hashOfSites_21 rfl (lv_at hl_11 0 rfl) ?_
        refine gw_gr (C := RX1) (T := TX1) (N := 4) (own := RX1) hx hb hts in_X1 hown hK hG_9 hvc_8 rfl (by decide) (hts _ q348) (fun _ h9 => h9) dX1_hashOfSites_22 (fun x30 hvc_85 => ?_)
        clear hvc_8
        refine gw_grN (C := RX2) (T := TX2) (N := 11) (own := RX1) hx hb hts in_X2 hown hK hG_9 hvc_85 rfl (by decide) (hX.1 _ q308 rfl) (fun _ h9 => h9) dX1_hashOfSites_25 (fun x31 hvc_86 => ?_)
        clear hvc_85
        refine lv_iload hx hb dX1_hashOfSites_28 (lv_at hl_11 3 rfl) ?_
        refine gw_ild hx hb hK hG_9 hvc_86 dX1_hashOfSites_30 (fun x32 hvc_87 => ?_)
        clear hvc_86
        refine lv_i2l (v := x32.toInt64) hx hb dX1_hashOfSites_31 rfl ?_
        refine lv_ladd hx hb dX1_hashOfSites_32 ?_
        refine lv_lmul hx hb dX1_hashOfSites_33 ?_
        refine lv_aload_n hx hb dX1_hashOfSites_34 rfl (lv_at hl_11 0 rfl) ?_
        refine gw_gr (C := RX1) (T := TX1) (N := 4) (own := RX1) hx hb hts in_X1 hown hK hG_9 hvc_87 rfl (by decide) (hts _ q348) (fun _ h9 => h9) dX1_hashOfSites_35 (fun x33 hvc_88 => ?_)
        clear hvc_87
        refine lv_iload hx hb dX1_hashOfSites_38 (lv_at hl_11 3 rfl) ?_
        obtain ⟨c36, t37, hc1, hs1, hvc_88⟩ := hvc_88
        refine gw_cVIA (As := [.int y6]) (rest := [.long ((lN 31) * (((lN 31) * y4) + x32.toInt64))])  ⟨hx, hb, hml, hown, hts⟩ (met_X2_amountByLog l E G x33 y6 c36 t37 _ hvc_88.2) (cwV 1 hts (lw_V q1330 q1331 q1332 q97 q1333) rfl rfl rfl (by decide +kernel) ⟨Nat.le_of_ble_eq_true rfl, Nat.le_of_ble_eq_true rfl⟩) (gw_rc (q := (RX2, TX2, 11)) hK hG_9 hvc_88.1 rfl) hc1 hs1 hMC_12 hMS_13 (Nat.le_refl _) (Nat.le_refl _) (g_X.st E) hz hX hK hG_9 hS_10 rfl hl_11.1 rfl (Nat.le_of_ble_eq_true rfl) dX1_hashOfSites_40 (fun x34 G35 H locs ce sl hvc_89 hG_90 hS_91 hMC_92 hMS_93 => ?_)
        clear hvc_88 hG_9 hS_10 hMC_12 hMS_13
        refine lv_i2l (v := x34.toInt64) hx hb dX1_hashOfSites_43 rfl ?_
        refine lv_ladd hx hb dX1_hashOfSites_44 ?_
        refine lv_lstore (lv' := [(4, .long (((lN 31) * (((lN 31) * y4) + x32.toInt64)) + x34.toInt64)), (0, .ref y0), (3, .ref y3), (6, .int y6)]) hx hb dX1_hashOfSites_45 hl_11 (by decide) rfl (fun ls hl_94 => ?_)
        clear hl_11
        refine lv_ldc2 (v := lN 31) hx hb hown (by exact hts _ q1309) dX1_hashOfSites_47 ?_
        refine lv_ldc2 (v := lN 31) hx hb hown (by exact hts _ q1309) dX1_hashOfSites_50 ?_
        refine lv_lload hx hb dX1_hashOfSites_53 (lv_at hl_94 0 rfl) ?_
        refine lv_lmul hx hb dX1_hashOfSites_55 ?_
        refine lv_aload_n hx hb dX1_hashOfSites_56 rfl (lv_at hl_94 1 rfl) ?_
        refine gw_gr (C := RX1) (T := TX1) (N := 4) (own := RX1) hx hb hts in_X1 hown hK hG_90 hvc_89 rfl (by decide) (hts _ q348) (fun _ h9 => h9) dX1_hashOfSites_57 (fun x38 hvc_95 => ?_)
        clear hvc_89
        refine lv_iload hx hb dX1_hashOfSites_60 (lv_at hl_94 3 rfl) ?_
        refine gw_cVIP (As := [.int y6]) (rest := [.long ((lN 31) * (((lN 31) * (((lN 31) * y4) + x32.toInt64)) + x34.toInt64)), .long (lN 31)])  ⟨hx, hb, hml, hown, hts⟩ (met_X2_inDoubt l E G35 x38 y6 _ hvc_95.2) (cwV 1 hts (lw_V q1334 q1335 q1336 q97 q1337) rfl rfl rfl (by decide +kernel) ⟨Nat.le_of_ble_eq_true rfl, Nat.le_of_ble_eq_true rfl⟩) (gw_rc (q := (RX2, TX2, 11)) hK hG_90 hvc_95.1 rfl) (by show _ ≤ mc0; omega) (by show _ ≤ ms0; omega) (g_X.st E) hz hX hK hG_90 hS_91 rfl hl_94.1 rfl (Nat.le_of_ble_eq_true rfl) dX1_hashOfSites_62 (fun x39 H locs hvc_96 hG_97 hS_98 => ?_)
        clear hvc_95 hG_90 hS_91
        refine lv_i2l (v := x39.toInt64) hx hb dX1_hashOfSites_65 rfl ?_
        refine lv_ladd hx hb dX1_hashOfSites_66 ?_
        refine lv_lmul hx hb dX1_hashOfSites_67 ?_
        refine lv_aload_n hx hb dX1_hashOfSites_68 rfl (lv_at hl_94 2 rfl) ?_
        refine gw_grN (C := RX2) (T := TX2) (N := 11) (own := RX1) hx hb hts in_X2 hown hK hG_97 hvc_96 rfl (by decide) (hX.1 _ q308 rfl) (fun _ h9 => h9) dX1_hashOfSites_69 (fun x41 hvc_99 => ?_)
        clear hvc_96
        refine lv_iload hx hb dX1_hashOfSites_72 (lv_at hl_94 3 rfl) ?_
        refine gw_ild hx hb hK hG_97 hvc_99 dX1_hashOfSites_74 (fun x42 hvc_100 => ?_)
        clear hvc_99
        refine lv_i2l (v := x42.toInt64) hx hb dX1_hashOfSites_75 rfl ?_
        refine lv_ladd hx hb dX1_hashOfSites_76 ?_
        refine lv_lstore (lv' := [(4, .long (((lN 31) * (((lN 31) * (((lN 31) * (((lN 31) * y4) + x32.toInt64)) + x34.toInt64)) + x39.toInt64)) + x42.toInt64)), (0, .ref y0), (3, .ref y3), (6, .int y6)]) hx hb dX1_hashOfSites_77 hl_94 (by decide) rfl (fun ls hl_101 => ?_)
        clear hl_94
        refine lv_iinc (k := 3) (v := y6 + (nI 1)) (lv' := [(6, .int (y6 + (nI 1))), (4, .long (((lN 31) * (((lN 31) * (((lN 31) * (((lN 31) * y4) + x32.toInt64)) + x34.toInt64)) + x39.toInt64)) + x42.toInt64)), (0, .ref y0), (3, .ref y3)]) hx hb dX1_hashOfSites_79 hl_101 rfl (congrArg (y6 + ·) (by decide : Int32.ofInt (1) = nI 1)) (by decide) rfl (fun ls hl_102 => ?_)
        clear hl_101
        refine lv_goto (tgt := 6) hx hb dX1_hashOfSites_82 (by decide) ?_
        exact ih6 y0 y3 (((lN 31) * (((lN 31) * (((lN 31) * (((lN 31) * y4) + x32.toInt64)) + x34.toInt64)) + x39.toInt64)) + x42.toInt64) (y6 + (nI 1)) G35 (mc - c36) (ms - t37) _ _ _ _ _ hvc_100 hG_97 hS_98 (lv_sub hl_102 [2, 3, 1, 0] rfl) hMC_92 hMS_93
  refine lv_istore (lv' := [(6, .int (nI 0)), (4, .long p1), (0, .ref o), (1, .long p1), (3, .ref p2)]) hx hb dX1_hashOfSites_4 hl_1 (by decide) rfl (fun ls hl_103 => ?_)
  clear hl_1
  obtain ⟨nf6, hvc⟩ := hvc
  exact lp6 nf6 o p2 p1 (nI 0) G mc0 ms0 _ _ _ _ _ hvc hG hS (lv_sub hl_103 [2, 4, 1, 0] rfl) hMC hMS
set_option maxHeartbeats 4000000 in
set_option maxRecDepth 100000 in
theorem met_X1_index (l : Launch) (hfl : l.stackTraces = false) (E : g_E) (G : g_G) (p1 : Int32) (p2 : Int32) (mc0 ms0 : Nat) (post : g_G → Prop) (px : String → g_G → Prop) (hvc : wp_X1_index E G p1 p2 mc0 ms0 post px) : g_TV E l yX1_index (ws_ yX1_index cX1_index 2 (Option.none : Option Jvm.ClassFile.FieldType)) ({ frames := 6, cells := mc0, slots := ms0, locals := 96 } : Room) (g_Y E) [.int p1, .int p2] G post px := by
  refine g_enterT (by decide +kernel) (Nat.le_of_ble_eq_true rfl) ?_
  intro p e s m below meth c ls hx hb hr hts hown hlocks hml hout hz hY hK hG hS hl
  have hX := hY.1
  have hl : lv_has ls 2 [(0, .int p1), (1, .int p2)] := hl
  have hown : s.vm.findClass RX1 = some m.cls := hown
  have hMC : 0 + mc0 ≤ mc0 := Nat.le_of_eq (Nat.zero_add _)
  have hMS : 0 + ms0 ≤ ms0 := Nat.le_of_eq (Nat.zero_add _)
  unfold wp_X1_index at hvc
  refine lv_iload_n hx hb dX1_index_0 rfl (lv_at hl 0 rfl) ?_
  have jn9 : ∀ (G : g_G) (mc : Nat) (ms : Nat) (H : Heap) (locs : List Loc) (ls : Array Slot) (ce sl : Nat), wp_X1_index_9 E post px G mc ms → g_H E G H → va_S (g_A E) s.heap H locs → lv_has ls 2 [] → ce + mc ≤ mc0 → sl + ms ≤ ms0 → W p l e ({ frames := 6, cells := mc0, slots := ms0, locals := 96 } : Room) s m ([.int p1, .int p2] : List Value).toArray below meth c H locs ce sl (vx_MQ below (va_Qv (post) (g_Bk E) (g_A E)) (g_XC E px) ([.int p1, .int p2] : List Value).toArray s mc0 ms0 (g_A E)) (F0 m 9 ls []) := by
    clear hvc hG hS hl hMC hMS
    intro G mc ms H locs ls ce sl hvc_1 hG_2 hS_3 hl_4 hMC_5 hMS_6
    exact gy_make (rest := []) (cls := "java/lang/IndexOutOfBoundsException") (text := "there is no such number") (names := ["java/lang/RuntimeException", "java/lang/Exception"]) (ik := 30) (is := 32) (ic := 34) (own := "VoteLogs") (ci := 13) hx hb hfl hvc_1 hown (by decide) (by decide) (hts _ q1362) (hts _ q108) hY.2.1 (g_hats g_hat_index hts hY.1) (by decide +kernel) hY hz hK hG_2 hS_3 (by rw [hml]; exact hl_4.1) dX1_index_9 dX1_index_12 dX1_index_13 dX1_index_15 dX1_index_18 rfl (by show 5 < 6; decide) (Nat.le_of_ble_eq_true rfl) hMC_5 hMS_6 (Nat.le_refl _) (Nat.le_refl _) (fun q9 ce G9 H9 c9 s9 a1 a2 a3 a4 a5 a6 a7 a8 => gt_out hout hlocks (by show _ ≤ mc0; omega) (by show _ ≤ ms0; omega) a2 a3 a4 a5 a6 a1)
  refine lv_if_lt (tgt := 9) hx hb dX1_index_1 (by decide) (fun h9 => ?_) (fun h9 => ?_)
  · replace hvc := hvc.1 h9
    exact jn9 G mc0 ms0 _ _ _ _ _ hvc hG hS (lv_sub hl [] rfl) hMC hMS
  · replace hvc := hvc.2 h9
    refine lv_iload_n hx hb dX1_index_4 rfl (lv_at hl 0 rfl) ?_
    refine lv_iload_n hx hb dX1_index_5 rfl (lv_at hl 1 rfl) ?_
    refine lv_icmp_lt (tgt := 19) hx hb dX1_index_6 (by decide) (fun h9 => ?_) (fun h9 => ?_)
    · replace hvc := hvc.1 h9
      exact vx_ret (g_vret hx hb hr hlocks (by show _ ≤ mc0; omega) (by show _ ≤ ms0; omega) hG hS hvc dX1_index_19)
    · replace hvc := hvc.2 h9
      exact jn9 G mc0 ms0 _ _ _ _ _ hvc hG hS (lv_sub hl [] rfl) hMC hMS
set_option maxHeartbeats 4000000 in
set_option maxRecDepth 100000 in
theorem met_X1_message (l : Launch) (hfl : l.stackTraces = false) (E : g_E) (G : g_G) (o : Nat) (p1 : Int32) (mc0 ms0 : Nat) (post : Option Nat → g_G → Prop) (px : String → g_G → Prop) (hvc : wp_X1_message E G o p1 mc0 ms0 post px) : g_TQ E l yX1_message (ws_ yX1_message cX1_message 2 (Option.some (Jvm.ClassFile.FieldType.object "VoteLogs$Message"))) ({ frames := 7, cells := mc0, slots := ms0, locals := 117 } : Room) (g_Y E) [.ref o, .int p1] G post px := by
  refine g_enterT (by decide +kernel) (Nat.le_of_ble_eq_true rfl) ?_
  intro p e s m below meth c ls hx hb hr hts hown hlocks hml hout hz hY hK hG hS hl
  have hX := hY.1
  have hl : lv_has ls 2 [(0, .ref o), (1, .int p1)] := hl
  have hown : s.vm.findClass RX1 = some m.cls := hown
  have hMC : 0 + mc0 ≤ mc0 := Nat.le_of_eq (Nat.zero_add _)
  have hMS : 0 + ms0 ≤ ms0 := Nat.le_of_eq (Nat.zero_add _)
  unfold wp_X1_message at hvc
  refine lv_iload_n hx hb dX1_message_0 rfl (lv_at hl 1 rfl) ?_
  refine lv_iconst (v := nI 0) hx hb dX1_message_1 (by decide) ?_
  refine va_mmin hx hb (by rw [hml]; exact hl.1.symm) hown (hts _ q1358) (hts _ q294) (hts _ q101) (hts _ q295) (Nat.le_of_ble_eq_true rfl) (Nat.le_of_ble_eq_true rfl) (by show _ ≤ mc0; omega) (by show _ ≤ ms0; omega) dX1_message_2 ?_
  refine lv_iconst (v := nI 1) hx hb dX1_message_5 (by decide) ?_
  obtain ⟨c3, t4, hc1, hs1, hvc⟩ := hvc
  refine gt_cSV (As := [.int (if (nI 0) < p1 then (nI 0) else p1), .int (nI 1)]) (rest := [])  ⟨hx, hb, hml, hown, hts⟩ (met_X1_index l hfl E G (if (nI 0) < p1 then (nI 0) else p1) (nI 1) c3 t4 _ _ hvc) (va_cwS 2 hts (lw_S q1359 q1360 q90 q1361) rfl rfl rfl (by decide +kernel) ⟨Nat.le_of_ble_eq_true rfl, Nat.le_of_ble_eq_true rfl⟩) hc1 hs1 hMC hMS (Nat.le_refl _) (Nat.le_refl _) (g_Y.st E) hz hY hK hG hS rfl hl.1 rfl (Nat.le_of_ble_eq_true rfl) dX1_message_6 (fun X9 ce q9 G9 H9 l9 c9 s9 a1 a2 a3 a4 a5 a6 a7 a8 => gt_out hout hlocks (by show _ ≤ mc0; omega) (by show _ ≤ ms0; omega) a2 a3 a4 a5 a6 a1) (fun G2 H locs ce sl hvc_1 hG_2 hS_3 hMC_4 hMS_5 => ?_)
  clear hvc hG hS hMC hMS
  refine lv_iload_n hx hb dX1_message_9 rfl (lv_at hl 1 rfl) ?_
  refine lv_aload_n hx hb dX1_message_10 rfl (lv_at hl 0 rfl) ?_
  refine gw_gr (C := RX1) (T := TX1) (N := 4) (own := RX1) hx hb hts in_X1 hown hK hG_2 hvc_1 rfl (by decide) (hts _ q348) (fun _ h9 => h9) dX1_message_11 (fun x5 hvc_6 => ?_)
  clear hvc_1
  refine gw_grN (C := RX2) (T := TX2) (N := 11) (own := RX1) hx hb hts in_X2 hown hK hG_2 hvc_6 rfl (by decide) (hX.1 _ q306 rfl) (fun _ h9 => h9) dX1_message_14 (fun x6 hvc_7 => ?_)
  clear hvc_6
  refine gw_cFIP (As := []) (rest := [.int p1]) (hK.1 9 _ rfl).2  ⟨hx, hb, hml, hown, hts⟩ (met_J7_size l E G2 x6 _ hvc_7.2) (va_cwF 0 hts (lw_F q1229 q886 q888 q99 q890) rfl rfl rfl (hX.fw (List.mem_of_getElem? (i := 6) rfl)) (by decide +kernel) ⟨Nat.le_of_ble_eq_true rfl, Nat.le_of_ble_eq_true rfl⟩) (gw_rc (q := (RJ7, TJ7, 3)) hK hG_2 hvc_7.1 rfl) (by show _ ≤ mc0; omega) (by show _ ≤ ms0; omega) (g_St0 E) hz trivial hK hG_2 hS_3 rfl hl.1 rfl (Nat.le_of_ble_eq_true rfl) dX1_message_17 (fun x7 H locs hvc_8 hG_9 hS_10 => ?_)
  clear hvc_7 hG_2 hS_3
  refine lv_icmp_ge (tgt := 44) hx hb dX1_message_22 (by decide) (fun h9 => ?_) (fun h9 => ?_)
  · replace hvc_8 := hvc_8.1 h9
    refine lv_null hx hb dX1_message_44 ?_
    exact vx_ret (g_aret (v := none) hx hb hr (Or.inl ⟨_, rfl⟩) hlocks (by show _ ≤ mc0; omega) (by show _ ≤ ms0; omega) hG_9 hS_10 hvc_8 dX1_message_45)
  · replace hvc_8 := hvc_8.2 h9
    refine lv_aload_n hx hb dX1_message_25 rfl (lv_at hl 0 rfl) ?_
    refine gw_gr (C := RX1) (T := TX1) (N := 4) (own := RX1) hx hb hts in_X1 hown hK hG_9 hvc_8 rfl (by decide) (hts _ q348) (fun _ h9 => h9) dX1_message_26 (fun x9 hvc_11 => ?_)
    clear hvc_8
    refine gw_grN (C := RX2) (T := TX2) (N := 11) (own := RX1) hx hb hts in_X2 hown hK hG_9 hvc_11 rfl (by decide) (hX.1 _ q306 rfl) (fun _ h9 => h9) dX1_message_29 (fun x10 hvc_12 => ?_)
    clear hvc_11
    refine lv_iload_n hx hb dX1_message_32 rfl (lv_at hl 1 rfl) ?_
    refine gw_cFQP (As := [.int p1]) (rest := []) (hK.1 9 _ rfl).2  ⟨hx, hb, hml, hown, hts⟩ (met_J7_get l E G2 x10 p1 _ hvc_12.2) (va_cwF 1 hts (lw_F q1311 q857 q859 q99 q861) rfl rfl rfl (hX.fw (List.mem_of_getElem? (i := 5) rfl)) (by decide +kernel) ⟨Nat.le_of_ble_eq_true rfl, Nat.le_of_ble_eq_true rfl⟩) (gw_rc (q := (RJ7, TJ7, 3)) hK hG_9 hvc_12.1 rfl) (by show _ ≤ mc0; omega) (by show _ ≤ ms0; omega) (g_St0 E) hz trivial hK hG_9 hS_10 rfl hl.1 rfl (Nat.le_of_ble_eq_true rfl) dX1_message_33 (fun x11 H locs hvc_13 hG_14 hS_15 => ?_)
    clear hvc_12 hG_9 hS_10
    refine gw_castS (v := x11) (ci := 5) hx hb hown (hts _ q1375) hK hG_14 rfl rfl hvc_13 dX1_message_38 (fun z13 hy9 hvc_16 => ?_)
    clear hvc_13
    subst hy9
    refine lv_goto (tgt := 45) hx hb dX1_message_41 (by decide) ?_
    exact vx_ret (g_aret (v := (some z13)) hx hb hr (Or.inl ⟨_, rfl⟩) hlocks (by show _ ≤ mc0; omega) (by show _ ≤ ms0; omega) hG_14 hS_15 hvc_16 dX1_message_45)
set_option maxHeartbeats 4000000 in
set_option maxRecDepth 100000 in
theorem met_X1_kindOf (l : Launch) (hfl : l.stackTraces = false) (E : g_E) (G : g_G) (o : Nat) (p1 : Int32) (mc0 ms0 : Nat) (post : Int32 → g_G → Prop) (px : String → g_G → Prop) (hvc : wp_X1_kindOf E G o p1 mc0 ms0 post px) : g_TI E l yX1_kindOf (ws_ yX1_kindOf cX1_kindOf 3 (Option.some Jvm.ClassFile.FieldType.int)) ({ frames := 8, cells := mc0, slots := ms0, locals := 138 } : Room) (g_Y E) [.ref o, .int p1] G post px := by
  refine g_enterT (by decide +kernel) (Nat.le_of_ble_eq_true rfl) ?_
  intro p e s m below meth c ls hx hb hr hts hown hlocks hml hout hz hY hK hG hS hl
  have hX := hY.1
  have hl : lv_has ls 3 [(0, .ref o), (1, .int p1)] := hl
  have hown : s.vm.findClass RX1 = some m.cls := hown
  have hMC : 0 + mc0 ≤ mc0 := Nat.le_of_eq (Nat.zero_add _)
  have hMS : 0 + ms0 ≤ ms0 := Nat.le_of_eq (Nat.zero_add _)
  unfold wp_X1_kindOf at hvc
  refine lv_aload_n hx hb dX1_kindOf_0 rfl (lv_at hl 0 rfl) ?_
  refine lv_iload_n hx hb dX1_kindOf_1 rfl (lv_at hl 1 rfl) ?_
  obtain ⟨c3, t4, hc1, hs1, hvc⟩ := hvc
  refine gt_cVQ (As := [.int p1]) (rest := [])  ⟨hx, hb, hml, hown, hts⟩ (met_X1_message l hfl E G o p1 c3 t4 _ _ hvc.2) (cwV 1 hts (lw_V q1354 q1356 qs25 q90 q1357) rfl rfl rfl (by decide +kernel) ⟨Nat.le_of_ble_eq_true rfl, Nat.le_of_ble_eq_true rfl⟩) (gw_rc (q := (RX1, TX1, 4)) hK hG hvc.1 rfl) hc1 hs1 hMC hMS (Nat.le_refl _) (Nat.le_refl _) (g_Y.st E) hz hY hK hG hS rfl hl.1 rfl (Nat.le_of_ble_eq_true rfl) dX1_kindOf_2 (fun X9 ce q9 G9 H9 l9 c9 s9 a1 a2 a3 a4 a5 a6 a7 a8 => gt_out hout hlocks (by show _ ≤ mc0; omega) (by show _ ≤ ms0; omega) a2 a3 a4 a5 a6 a1) (fun x1 G2 H locs ce sl hvc_1 hG_2 hS_3 hMC_4 hMS_5 => ?_)
  clear hvc hG hS hMC hMS
  refine gq_astore_n (lv' := [(2, va_rf x1), (0, .ref o), (1, .int p1)]) hx hb dX1_kindOf_5 rfl hl (by decide) rfl (fun ls hl_6 => ?_)
  clear hl
  refine gq_aload_n hx hb dX1_kindOf_6 rfl (lv_at hl_6 0 rfl) ?_
  refine gq_ifnonnull (o := x1) (tgt := 14) hx hb dX1_kindOf_7 (by decide) (fun h9 => ?_) (fun h9 => ?_)
  · replace hvc_1 := hvc_1.1 h9
    refine gq_aload_n hx hb dX1_kindOf_14 rfl (lv_at hl_6 0 rfl) ?_
    obtain ⟨z5, rfl, hvc_1⟩ := hvc_1
    refine gw_grN (C := RX6) (T := TX6) (N := 3) (own := RX1) hx hb hts in_X6 hown hK hG_2 hvc_1 rfl (by decide) (hX.1 _ q931 rfl) (fun _ h9 => h9) dX1_kindOf_15 (fun x6 hvc_7 => ?_)
    clear hvc_1
    refine gw_ord (v := (some x6)) (rest := []) ⟨hx, hb, hml, hown, hts⟩ hX hz hK hG_2 hS_3 hvc_7 q1376 (by show _ ≤ mc0; omega) (by show _ ≤ ms0; omega) (Nat.le_of_ble_eq_true rfl) (Nat.le_of_ble_eq_true rfl) hl_6.1 (Nat.le_of_ble_eq_true rfl) dX1_kindOf_18 (fun x7 H locs hvc_8 hG_9 hS_10 => ?_)
    clear hvc_7 hG_2 hS_3
    exact vx_ret (g_iret hx hb hr hlocks (by show _ ≤ mc0; omega) (by show _ ≤ ms0; omega) hG_9 hS_10 rfl hvc_8 dX1_kindOf_21)
  · replace hvc_1 := hvc_1.2 h9
    refine lv_iconst (v := -nI 1) hx hb dX1_kindOf_10 (by decide) ?_
    refine lv_goto (tgt := 21) hx hb dX1_kindOf_11 (by decide) ?_
    exact vx_ret (g_iret hx hb hr hlocks (by show _ ≤ mc0; omega) (by show _ ≤ ms0; omega) hG_2 hS_3 rfl hvc_1 dX1_kindOf_21)
set_option maxHeartbeats 4000000 in
set_option maxRecDepth 100000 in
theorem met_X1_transferOf (l : Launch) (hfl : l.stackTraces = false) (E : g_E) (G : g_G) (o : Nat) (p1 : Int32) (mc0 ms0 : Nat) (post : Int32 → g_G → Prop) (px : String → g_G → Prop) (hvc : wp_X1_transferOf E G o p1 mc0 ms0 post px) : g_TI E l yX1_transferOf (ws_ yX1_transferOf cX1_transferOf 3 (Option.some Jvm.ClassFile.FieldType.int)) ({ frames := 8, cells := mc0, slots := ms0, locals := 138 } : Room) (g_Y E) [.ref o, .int p1] G post px := by
  refine g_enterT (by decide +kernel) (Nat.le_of_ble_eq_true rfl) ?_
  intro p e s m below meth c ls hx hb hr hts hown hlocks hml hout hz hY hK hG hS hl
  have hX := hY.1
  have hl : lv_has ls 3 [(0, .ref o), (1, .int p1)] := hl
  have hown : s.vm.findClass RX1 = some m.cls := hown
  have hMC : 0 + mc0 ≤ mc0 := Nat.le_of_eq (Nat.zero_add _)
  have hMS : 0 + ms0 ≤ ms0 := Nat.le_of_eq (Nat.zero_add _)
  unfold wp_X1_transferOf at hvc
  refine lv_aload_n hx hb dX1_transferOf_0 rfl (lv_at hl 0 rfl) ?_
  refine lv_iload_n hx hb dX1_transferOf_1 rfl (lv_at hl 1 rfl) ?_
  obtain ⟨c3, t4, hc1, hs1, hvc⟩ := hvc
  refine gt_cVQ (As := [.int p1]) (rest := [])  ⟨hx, hb, hml, hown, hts⟩ (met_X1_message l hfl E G o p1 c3 t4 _ _ hvc.2) (cwV 1 hts (lw_V q1354 q1356 qs25 q90 q1357) rfl rfl rfl (by decide +kernel) ⟨Nat.le_of_ble_eq_true rfl, Nat.le_of_ble_eq_true rfl⟩) (gw_rc (q := (RX1, TX1, 4)) hK hG hvc.1 rfl) hc1 hs1 hMC hMS (Nat.le_refl _) (Nat.le_refl _) (g_Y.st E) hz hY hK hG hS rfl hl.1 rfl (Nat.le_of_ble_eq_true rfl) dX1_transferOf_2 (fun X9 ce q9 G9 H9 l9 c9 s9 a1 a2 a3 a4 a5 a6 a7 a8 => gt_out hout hlocks (by show _ ≤ mc0; omega) (by show _ ≤ ms0; omega) a2 a3 a4 a5 a6 a1) (fun x1 G2 H locs ce sl hvc_1 hG_2 hS_3 hMC_4 hMS_5 => ?_)
  clear hvc hG hS hMC hMS
  refine gq_astore_n (lv' := [(2, va_rf x1), (0, .ref o), (1, .int p1)]) hx hb dX1_transferOf_5 rfl hl (by decide) rfl (fun ls hl_6 => ?_)
  clear hl
  refine gq_aload_n hx hb dX1_transferOf_6 rfl (lv_at hl_6 0 rfl) ?_
  refine gq_ifnonnull (o := x1) (tgt := 14) hx hb dX1_transferOf_7 (by decide) (fun h9 => ?_) (fun h9 => ?_)
  · replace hvc_1 := hvc_1.1 h9
    refine gq_aload_n hx hb dX1_transferOf_14 rfl (lv_at hl_6 0 rfl) ?_
    obtain ⟨z5, rfl, hvc_1⟩ := hvc_1
    refine gw_giN (C := RX6) (T := TX6) (N := 3) (own := RX1) hx hb hts in_X6 hown hK hG_2 hvc_1 rfl (by decide) (hX.1 _ q934 rfl) (fun _ h9 => h9) dX1_transferOf_15 (fun x6 hvc_7 => ?_)
    clear hvc_1
    exact vx_ret (g_iret hx hb hr hlocks (by show _ ≤ mc0; omega) (by show _ ≤ ms0; omega) hG_2 hS_3 rfl hvc_7 dX1_transferOf_18)
  · replace hvc_1 := hvc_1.2 h9
    refine lv_iconst (v := -nI 1) hx hb dX1_transferOf_10 (by decide) ?_
    refine lv_goto (tgt := 18) hx hb dX1_transferOf_11 (by decide) ?_
    exact vx_ret (g_iret hx hb hr hlocks (by show _ ≤ mc0; omega) (by show _ ≤ ms0; omega) hG_2 hS_3 rfl hvc_1 dX1_transferOf_18)
set_option maxHeartbeats 4000000 in
set_option maxRecDepth 100000 in
theorem met_X1_storeOf (l : Launch) (hfl : l.stackTraces = false) (E : g_E) (G : g_G) (o : Nat) (p1 : Int32) (mc0 ms0 : Nat) (post : Int32 → g_G → Prop) (px : String → g_G → Prop) (hvc : wp_X1_storeOf E G o p1 mc0 ms0 post px) : g_TI E l yX1_storeOf (ws_ yX1_storeOf cX1_storeOf 3 (Option.some Jvm.ClassFile.FieldType.int)) ({ frames := 8, cells := mc0, slots := ms0, locals := 138 } : Room) (g_Y E) [.ref o, .int p1] G post px := by
  refine g_enterT (by decide +kernel) (Nat.le_of_ble_eq_true rfl) ?_
  intro p e s m below meth c ls hx hb hr hts hown hlocks hml hout hz hY hK hG hS hl
  have hX := hY.1
  have hl : lv_has ls 3 [(0, .ref o), (1, .int p1)] := hl
  have hown : s.vm.findClass RX1 = some m.cls := hown
  have hMC : 0 + mc0 ≤ mc0 := Nat.le_of_eq (Nat.zero_add _)
  have hMS : 0 + ms0 ≤ ms0 := Nat.le_of_eq (Nat.zero_add _)
  unfold wp_X1_storeOf at hvc
  refine lv_aload_n hx hb dX1_storeOf_0 rfl (lv_at hl 0 rfl) ?_
  refine lv_iload_n hx hb dX1_storeOf_1 rfl (lv_at hl 1 rfl) ?_
  obtain ⟨c3, t4, hc1, hs1, hvc⟩ := hvc
  refine gt_cVQ (As := [.int p1]) (rest := [])  ⟨hx, hb, hml, hown, hts⟩ (met_X1_message l hfl E G o p1 c3 t4 _ _ hvc.2) (cwV 1 hts (lw_V q1354 q1356 qs25 q90 q1357) rfl rfl rfl (by decide +kernel) ⟨Nat.le_of_ble_eq_true rfl, Nat.le_of_ble_eq_true rfl⟩) (gw_rc (q := (RX1, TX1, 4)) hK hG hvc.1 rfl) hc1 hs1 hMC hMS (Nat.le_refl _) (Nat.le_refl _) (g_Y.st E) hz hY hK hG hS rfl hl.1 rfl (Nat.le_of_ble_eq_true rfl) dX1_storeOf_2 (fun X9 ce q9 G9 H9 l9 c9 s9 a1 a2 a3 a4 a5 a6 a7 a8 => gt_out hout hlocks (by show _ ≤ mc0; omega) (by show _ ≤ ms0; omega) a2 a3 a4 a5 a6 a1) (fun x1 G2 H locs ce sl hvc_1 hG_2 hS_3 hMC_4 hMS_5 => ?_)
  clear hvc hG hS hMC hMS
  refine gq_astore_n (lv' := [(2, va_rf x1), (0, .ref o), (1, .int p1)]) hx hb dX1_storeOf_5 rfl hl (by decide) rfl (fun ls hl_6 => ?_)
  clear hl
  refine gq_aload_n hx hb dX1_storeOf_6 rfl (lv_at hl_6 0 rfl) ?_
  refine gq_ifnonnull (o := x1) (tgt := 14) hx hb dX1_storeOf_7 (by decide) (fun h9 => ?_) (fun h9 => ?_)
  · replace hvc_1 := hvc_1.1 h9
    refine gq_aload_n hx hb dX1_storeOf_14 rfl (lv_at hl_6 0 rfl) ?_
    obtain ⟨z5, rfl, hvc_1⟩ := hvc_1
    refine gw_giN (C := RX6) (T := TX6) (N := 3) (own := RX1) hx hb hts in_X6 hown hK hG_2 hvc_1 rfl (by decide) (hX.1 _ q937 rfl) (fun _ h9 => h9) dX1_storeOf_15 (fun x6 hvc_7 => ?_)
    clear hvc_1
    exact vx_ret (g_iret hx hb hr hlocks (by show _ ≤ mc0; omega) (by show _ ≤ ms0; omega) hG_2 hS_3 rfl hvc_7 dX1_storeOf_18)
  · replace hvc_1 := hvc_1.2 h9
    refine lv_iconst (v := -nI 1) hx hb dX1_storeOf_10 (by decide) ?_
    refine lv_goto (tgt := 18) hx hb dX1_storeOf_11 (by decide) ?_
    exact vx_ret (g_iret hx hb hr hlocks (by show _ ≤ mc0; omega) (by show _ ≤ ms0; omega) hG_2 hS_3 rfl hvc_1 dX1_storeOf_18)
set_option maxHeartbeats 4000000 in
set_option maxRecDepth 100000 in
theorem met_X1_wouldSend (l : Launch) (hfl : l.stackTraces = false) (E : g_E) (G : g_G) (o : Nat) (p1 : Int32) (mc0 ms0 : Nat) (post : Int32 → g_G → Prop) (px : String → g_G → Prop) (hvc : wp_X1_wouldSend E G o p1 mc0 ms0 post px) : g_TI E l yX1_wouldSend (ws_ yX1_wouldSend cX1_wouldSend 3 (Option.some Jvm.ClassFile.FieldType.int)) ({ frames := 13, cells := mc0, slots := ms0, locals := 327 } : Room) (g_Y E) [.ref o, .int p1] G post px := by
  refine g_enterT (by decide +kernel) (Nat.le_of_ble_eq_true rfl) ?_
  intro p e s m below meth c ls hx hb hr hts hown hlocks hml hout hz hY hK hG hS hl
  have hX := hY.1
  have hl : lv_has ls 3 [(0, .ref o), (1, .int p1)] := hl
  have hown : s.vm.findClass RX1 = some m.cls := hown
  have hMC : 0 + mc0 ≤ mc0 := Nat.le_of_eq (Nat.zero_add _)
  have hMS : 0 + ms0 ≤ ms0 := Nat.le_of_eq (Nat.zero_add _)
  unfold wp_X1_wouldSend at hvc
  refine lv_iload_n hx hb dX1_wouldSend_0 rfl (lv_at hl 1 rfl) ?_
  refine lv_aload_n hx hb dX1_wouldSend_1 rfl (lv_at hl 0 rfl) ?_
  refine gw_gr (C := RX1) (T := TX1) (N := 4) (own := RX1) hx hb hts in_X1 hown hK hG hvc rfl (by decide) (hts _ q348) (fun _ h9 => h9) dX1_wouldSend_2 (fun x1 hvc_1 => ?_)
  clear hvc
  refine gw_grN (C := RX2) (T := TX2) (N := 11) (own := RX1) hx hb hts in_X2 hown hK hG hvc_1 rfl (by decide) (hX.1 _ q306 rfl) (fun _ h9 => h9) dX1_wouldSend_5 (fun x2 hvc_2 => ?_)
  clear hvc_1
  refine gw_cFIP (As := []) (rest := [.int p1]) (hK.1 9 _ rfl).2  ⟨hx, hb, hml, hown, hts⟩ (met_J7_size l E G x2 _ hvc_2.2) (va_cwF 0 hts (lw_F q1229 q886 q888 q99 q890) rfl rfl rfl (hX.fw (List.mem_of_getElem? (i := 6) rfl)) (by decide +kernel) ⟨Nat.le_of_ble_eq_true rfl, Nat.le_of_ble_eq_true rfl⟩) (gw_rc (q := (RJ7, TJ7, 3)) hK hG hvc_2.1 rfl) (by show _ ≤ mc0; omega) (by show _ ≤ ms0; omega) (g_St0 E) hz trivial hK hG hS rfl hl.1 rfl (Nat.le_of_ble_eq_true rfl) dX1_wouldSend_8 (fun x3 H locs hvc_3 hG_4 hS_5 => ?_)
  clear hvc_2 hG hS
  obtain ⟨c7, t8, hc1, hs1, hvc_3⟩ := hvc_3
  refine gt_cSV (As := [.int p1, .int x3]) (rest := [])  ⟨hx, hb, hml, hown, hts⟩ (met_X1_index l hfl E G p1 x3 c7 t8 _ _ hvc_3) (va_cwS 2 hts (lw_S q1359 q1360 q90 q1361) rfl rfl rfl (by decide +kernel) ⟨Nat.le_of_ble_eq_true rfl, Nat.le_of_ble_eq_true rfl⟩) hc1 hs1 hMC hMS (Nat.le_refl _) (Nat.le_refl _) (g_Y.st E) hz hY hK hG_4 hS_5 rfl hl.1 rfl (Nat.le_of_ble_eq_true rfl) dX1_wouldSend_13 (fun X9 ce q9 G9 H9 l9 c9 s9 a1 a2 a3 a4 a5 a6 a7 a8 => gt_out hout hlocks (by show _ ≤ mc0; omega) (by show _ ≤ ms0; omega) a2 a3 a4 a5 a6 a1) (fun G6 H locs ce sl hvc_6 hG_7 hS_8 hMC_9 hMS_10 => ?_)
  clear hvc_3 hG_4 hS_5 hMC hMS
  refine gw_new (C := RX2) (T := TX2) (N := 11) (own := RX1) hx hb hts in_X2 tyX2 tyX2_ok hown (hts _ q191) (hts _ q192) (hts _ q97) hK hG_7 hS_8 hz hvc_6 rfl (by decide) hMC_9 hMS_10 (Nat.le_refl _) (Nat.le_refl _) dX1_wouldSend_16 (fun q9 G10 H ce sl hvc_11 hG_12 hS_13 hMC_14 hMS_15 => ?_)
  clear hvc_6 hG_7 hS_8 hMC_9 hMS_10
  refine lv_dup hx hb dX1_wouldSend_19 rfl ?_
  refine lv_aload_n hx hb dX1_wouldSend_20 rfl (lv_at hl 0 rfl) ?_
  refine gw_gr (C := RX1) (T := TX1) (N := 4) (own := RX1) hx hb hts in_X1 hown hK hG_12 hvc_11 rfl (by decide) (hts _ q348) (fun _ h9 => h9) dX1_wouldSend_21 (fun x11 hvc_16 => ?_)
  clear hvc_11
  obtain ⟨c14, t15, hc1, hs1, hvc_16⟩ := hvc_16
  refine gw_cCVA (As := [.ref x11]) (rest := [.ref q9])  ⟨hx, hb, hml, hown, hts⟩ (met_X2_init_2 l E G10 q9 x11 c14 t15 _ hvc_16) (cwI 1 hts (lw_meth q390) rfl rfl rfl (hts _ q97) (hts _ q388) (hts _ q389) rfl (by decide +kernel) ⟨Nat.le_of_ble_eq_true rfl, Nat.le_of_ble_eq_true rfl⟩) hc1 hs1 hMC_14 hMS_15 (Nat.le_refl _) (Nat.le_refl _) (g_X.st E) hz hX hK hG_12 hS_13 rfl hl.1 rfl (Nat.le_of_ble_eq_true rfl) dX1_wouldSend_24 (fun G13 H locs ce sl hvc_17 hG_18 hS_19 hMC_20 hMS_21 => ?_)
  clear hvc_16 hG_12 hS_13 hMC_14 hMS_15
  refine lv_astore_n (lv' := [(2, .ref q9), (0, .ref o), (1, .int p1)]) hx hb dX1_wouldSend_27 rfl hl (by decide) rfl (fun ls hl_22 => ?_)
  clear hl
  refine lv_aload_n hx hb dX1_wouldSend_28 rfl (lv_at hl_22 0 rfl) ?_
  refine lv_iload_n hx hb dX1_wouldSend_29 rfl (lv_at hl_22 2 rfl) ?_
  obtain ⟨c18, t19, hc1, hs1, hvc_17⟩ := hvc_17
  refine gw_cVIA (As := [.int p1]) (rest := [])  ⟨hx, hb, hml, hown, hts⟩ (met_X2_delivers l E G13 q9 p1 c18 t19 _ hvc_17.2) (cwV 1 hts (lw_V q1400 q805 q806 q97 q807) rfl rfl rfl (by decide +kernel) ⟨Nat.le_of_ble_eq_true rfl, Nat.le_of_ble_eq_true rfl⟩) (gw_rc (q := (RX2, TX2, 11)) hK hG_18 hvc_17.1 rfl) hc1 hs1 hMC_20 hMS_21 (Nat.le_refl _) (Nat.le_refl _) (g_X.st E) hz hX hK hG_18 hS_19 rfl hl_22.1 rfl (Nat.le_of_ble_eq_true rfl) dX1_wouldSend_30 (fun x16 G17 H locs ce sl hvc_23 hG_24 hS_25 hMC_26 hMS_27 => ?_)
  clear hvc_17 hG_18 hS_19 hMC_20 hMS_21
  refine lv_if_eq (tgt := 51) hx hb dX1_wouldSend_33 (by decide) (fun h9 => ?_) (fun h9 => ?_)
  · replace hvc_23 := hvc_23.1 h9
    refine lv_iconst (v := -nI 1) hx hb dX1_wouldSend_51 (by decide) ?_
    exact vx_ret (g_iret hx hb hr hlocks (by show _ ≤ mc0; omega) (by show _ ≤ ms0; omega) hG_24 hS_25 rfl hvc_23 dX1_wouldSend_52)
  · replace hvc_23 := hvc_23.2 h9
    refine lv_aload_n hx hb dX1_wouldSend_36 rfl (lv_at hl_22 0 rfl) ?_
    refine gw_giN (C := RX2) (T := TX2) (N := 11) (own := RX1) hx hb hts in_X2 hown hK hG_24 hvc_23 rfl (by decide) (hX.1 _ q316 rfl) (fun _ h9 => h9) dX1_wouldSend_37 (fun x20 hvc_28 => ?_)
    clear hvc_23
    refine lv_aload_n hx hb dX1_wouldSend_40 rfl (lv_at hl_22 1 rfl) ?_
    refine gw_gr (C := RX1) (T := TX1) (N := 4) (own := RX1) hx hb hts in_X1 hown hK hG_24 hvc_28 rfl (by decide) (hts _ q348) (fun _ h9 => h9) dX1_wouldSend_41 (fun x21 hvc_29 => ?_)
    clear hvc_28
    refine gw_giN (C := RX2) (T := TX2) (N := 11) (own := RX1) hx hb hts in_X2 hown hK hG_24 hvc_29 rfl (by decide) (hX.1 _ q316 rfl) (fun _ h9 => h9) dX1_wouldSend_44 (fun x22 hvc_30 => ?_)
    clear hvc_29
    refine lv_isub hx hb dX1_wouldSend_47 ?_
    refine lv_goto (tgt := 52) hx hb dX1_wouldSend_48 (by decide) ?_
    exact vx_ret (g_iret hx hb hr hlocks (by show _ ≤ mc0; omega) (by show _ ≤ ms0; omega) hG_24 hS_25 rfl hvc_30 dX1_wouldSend_52)
set_option maxHeartbeats 4000000 in
set_option maxRecDepth 100000 in
theorem met_X1_digest (l : Launch) (hfl : l.stackTraces = false) (E : g_E) (G : g_G) (o : Nat) (mc0 ms0 : Nat) (post : Int64 → g_G → Prop) (px : String → g_G → Prop) (hvc : wp_X1_digest E G o mc0 ms0 post px) : g_TL E l yX1_digest (ws_ yX1_digest cX1_digest 6 (Option.some Jvm.ClassFile.FieldType.long)) ({ frames := 15, cells := mc0, slots := ms0, locals := 371 } : Room) (g_Y E) [.ref o] G post px := by
  refine g_enterT (by decide +kernel) (Nat.le_of_ble_eq_true rfl) ?_
  intro p e s m below meth c ls hx hb hr hts hown hlocks hml hout hz hY hK hG hS hl
  have hX := hY.1
  have hl : lv_has ls 6 [(0, .ref o)] := hl
  have hown : s.vm.findClass RX1 = some m.cls := hown
  have hMC : 0 + mc0 ≤ mc0 := Nat.le_of_eq (Nat.zero_add _)
  have hMS : 0 + ms0 ≤ ms0 := Nat.le_of_eq (Nat.zero_add _)
  unfold wp_X1_digest at hvc
  refine gw_new (C := RX2) (T := TX2) (N := 11) (own := RX1) hx hb hts in_X2 tyX2 tyX2_ok hown (hts _ q191) (hts _ q192) (hts _ q97) hK hG hS hz hvc rfl (by decide) hMC hMS (Nat.le_refl _) (Nat.le_refl _) dX1_digest_0 (fun q1 G2 H ce sl hvc_1 hG_2 hS_3 hMC_4 hMS_5 => ?_)
  clear hvc hG hS hMC hMS
  refine lv_dup hx hb dX1_digest_3 rfl ?_
  refine lv_aload_n hx hb dX1_digest_4 rfl (lv_at hl 0 rfl) ?_
  refine gw_gr (C := RX1) (T := TX1) (N := 4) (own := RX1) hx hb hts in_X1 hown hK hG_2 hvc_1 rfl (by decide) (hts _ q348) (fun _ h9 => h9) dX1_digest_5 (fun x3 hvc_6 => ?_)
  clear hvc_1
  obtain ⟨c6, t7, hc1, hs1, hvc_6⟩ := hvc_6
  refine gw_cCVA (As := [.ref x3]) (rest := [.ref q1])  ⟨hx, hb, hml, hown, hts⟩ (met_X2_init_2 l E G2 q1 x3 c6 t7 _ hvc_6) (cwI 1 hts (lw_meth q390) rfl rfl rfl (hts _ q97) (hts _ q388) (hts _ q389) rfl (by decide +kernel) ⟨Nat.le_of_ble_eq_true rfl, Nat.le_of_ble_eq_true rfl⟩) hc1 hs1 hMC_4 hMS_5 (Nat.le_refl _) (Nat.le_refl _) (g_X.st E) hz hX hK hG_2 hS_3 rfl hl.1 rfl (Nat.le_of_ble_eq_true rfl) dX1_digest_8 (fun G5 H locs ce sl hvc_7 hG_8 hS_9 hMC_10 hMS_11 => ?_)
  clear hvc_6 hG_2 hS_3 hMC_4 hMS_5
  refine lv_astore_n (lv' := [(1, .ref q1), (0, .ref o)]) hx hb dX1_digest_11 rfl hl (by decide) rfl (fun ls hl_12 => ?_)
  clear hl
  refine lv_aload_n hx hb dX1_digest_12 rfl (lv_at hl_12 0 rfl) ?_
  obtain ⟨c10, t11, hc1, hs1, hvc_7⟩ := hvc_7
  refine gw_cVIA (As := []) (rest := [])  ⟨hx, hb, hml, hown, hts⟩ (met_X2_settles l E G5 q1 c10 t11 _ hvc_7.2) (cwV 0 hts (lw_V q1270 q1271 q1272 q97 q1273) rfl rfl rfl (by decide +kernel) ⟨Nat.le_of_ble_eq_true rfl, Nat.le_of_ble_eq_true rfl⟩) (gw_rc (q := (RX2, TX2, 11)) hK hG_8 hvc_7.1 rfl) hc1 hs1 hMC_10 hMS_11 (Nat.le_refl _) (Nat.le_refl _) (g_X.st E) hz hX hK hG_8 hS_9 rfl hl_12.1 rfl (Nat.le_of_ble_eq_true rfl) dX1_digest_13 (fun x8 G9 H locs ce sl hvc_13 hG_14 hS_15 hMC_16 hMS_17 => ?_)
  clear hvc_7 hG_8 hS_9 hMC_10 hMS_11
  refine lv_istore_n (lv' := [(2, .int x8), (1, .ref q1), (0, .ref o)]) hx hb dX1_digest_16 rfl hl_12 (by decide) rfl (fun ls hl_18 => ?_)
  clear hl_12
  refine lv_ldc2 (v := lN 130789) hx hb hown (by exact hts _ q1304) dX1_digest_17 ?_
  refine lv_aload_n hx hb dX1_digest_20 rfl (lv_at hl_18 2 rfl) ?_
  refine gw_gr (C := RX1) (T := TX1) (N := 4) (own := RX1) hx hb hts in_X1 hown hK hG_14 hvc_13 rfl (by decide) (hts _ q348) (fun _ h9 => h9) dX1_digest_21 (fun x12 hvc_19 => ?_)
  clear hvc_13
  refine gw_grN (C := RX2) (T := TX2) (N := 11) (own := RX1) hx hb hts in_X2 hown hK hG_14 hvc_19 rfl (by decide) (hX.1 _ q302 rfl) (fun _ h9 => h9) dX1_digest_24 (fun x13 hvc_20 => ?_)
  clear hvc_19
  refine gw_cFIP (As := []) (rest := [.long (lN 130789)]) (hK.1 9 _ rfl).2  ⟨hx, hb, hml, hown, hts⟩ (met_J7_size l E G9 x13 _ hvc_20.2) (va_cwF 0 hts (lw_F q1229 q886 q888 q99 q890) rfl rfl rfl (hX.fw (List.mem_of_getElem? (i := 6) rfl)) (by decide +kernel) ⟨Nat.le_of_ble_eq_true rfl, Nat.le_of_ble_eq_true rfl⟩) (gw_rc (q := (RJ7, TJ7, 3)) hK hG_14 hvc_20.1 rfl) (by show _ ≤ mc0; omega) (by show _ ≤ ms0; omega) (g_St0 E) hz trivial hK hG_14 hS_15 rfl hl_18.1 rfl (Nat.le_of_ble_eq_true rfl) dX1_digest_27 (fun x14 H locs hvc_21 hG_22 hS_23 => ?_)
  clear hvc_20 hG_14 hS_15
  refine lv_i2l (v := x14.toInt64) hx hb dX1_digest_32 rfl ?_
  refine lv_ladd hx hb dX1_digest_33 ?_
  refine lv_lstore_n (lv' := [(3, .long ((lN 130789) + x14.toInt64)), (2, .int x8), (1, .ref q1), (0, .ref o)]) hx hb dX1_digest_34 rfl hl_18 (by decide) rfl (fun ls hl_24 => ?_)
  clear hl_18
  refine lv_iconst (v := nI 0) hx hb dX1_digest_35 (by decide) ?_
  have lp38 : ∀ (n38 : Nat) (y0 : Nat) (y1 : Nat) (y2 : Int32) (y3 : Int64) (y5 : Int32) (G : g_G) (mc : Nat) (ms : Nat) (H : Heap) (locs : List Loc) (ls : Array Slot) (ce sl : Nat), wp_X1_digest_38 E post px n38 y0 y1 y2 y3 y5 G mc ms → g_H E G H → va_S (g_A E) s.heap H locs → lv_has ls 6 [(0, .ref y0), (1, .ref y1), (2, .int y2), (3, .long y3), (5, .int y5)] → ce + mc ≤ mc0 → sl + ms ≤ ms0 → W p l e ({ frames := 15, cells := mc0, slots := ms0, locals := 371 } : Room) s m ([.ref o] : List Value).toArray below meth c H locs ce sl (vx_MQ below (va_Ql (post) (g_Bk E) (g_A E)) (g_XC E px) ([.ref o] : List Value).toArray s mc0 ms0 (g_A E)) (F0 m 38 ls []) := by
    clear hvc_21 hG_22 hS_23 hl_24 hMC_16 hMS_17
    intro n38
    induction n38 with
    | zero =>
      intro y0 y1 y2 y3 y5 G mc ms H locs ls ce sl hvc_25 hG_26 hS_27 hl_28 hMC_29 hMS_30
      exact False.elim hvc_25
    | succ n38 ih38 =>
      intro y0 y1 y2 y3 y5 G mc ms H locs ls ce sl hvc_31 hG_32 hS_33 hl_34 hMC_35 hMS_36
      refine lv_iload hx hb dX1_digest_38 (lv_at hl_34 4 rfl) ?_
      refine lv_aload_n hx hb dX1_digest_40 rfl (lv_at hl_34 0 rfl) ?_
      refine gw_gr (C := RX1) (T := TX1) (N := 4) (own := RX1) hx hb hts in_X1 hown hK hG_32 hvc_31 rfl (by decide) (hts _ q348) (fun _ h9 => h9) dX1_digest_41 (fun x16 hvc_37 => ?_)
      clear hvc_31
      refine gw_grN (C := RX2) (T := TX2) (N := 11) (own := RX1) hx hb hts in_X2 hown hK hG_32 hvc_37 rfl (by decide) (hX.1 _ q302 rfl) (fun _ h9 => h9) dX1_digest_44 (fun x17 hvc_38 => ?_)
      clear hvc_37
      refine gw_cFIP (As := []) (rest := [.int y5]) (hK.1 9 _ rfl).2  ⟨hx, hb, hml, hown, hts⟩ (met_J7_size l E G x17 _ hvc_38.2) (va_cwF 0 hts (lw_F q1229 q886 q888 q99 q890) rfl rfl rfl (hX.fw (List.mem_of_getElem? (i := 6) rfl)) (by decide +kernel) ⟨Nat.le_of_ble_eq_true rfl, Nat.le_of_ble_eq_true rfl⟩) (gw_rc (q := (RJ7, TJ7, 3)) hK hG_32 hvc_38.1 rfl) (by show _ ≤ mc0; omega) (by show _ ≤ ms0; omega) (g_St0 E) hz trivial hK hG_32 hS_33 rfl hl_34.1 rfl (Nat.le_of_ble_eq_true rfl) dX1_digest_47 (fun x18 H locs hvc_39 hG_40 hS_41 => ?_)
      clear hvc_38 hG_32 hS_33
      refine lv_icmp_ge (tgt := 70) hx hb dX1_digest_52 (by decide) (fun h9 => ?_) (fun h9 => ?_)
      · replace hvc_39 := hvc_39.1 h9
        refine lv_aload_n hx hb dX1_digest_70 rfl (lv_at hl_34 0 rfl) ?_
        refine lv_lload_n hx hb dX1_digest_71 rfl (lv_at hl_34 3 rfl) ?_
        refine lv_aload_n hx hb dX1_digest_72 rfl (lv_at hl_34 1 rfl) ?_
        obtain ⟨c22, t23, hc1, hs1, hvc_39⟩ := hvc_39
        refine gw_cVLA (As := [.long y3, .ref y1]) (rest := [])  ⟨hx, hb, hml, hown, hts⟩ (met_X1_hashOfSites l E G y0 y3 y1 c22 t23 _ hvc_39.2) (cwV 2 hts (lw_V q1326 q1328 qs24 q90 q1329) rfl rfl rfl (by decide +kernel) ⟨Nat.le_of_ble_eq_true rfl, Nat.le_of_ble_eq_true rfl⟩) (gw_rc (q := (RX1, TX1, 4)) hK hG_40 hvc_39.1 rfl) hc1 hs1 hMC_35 hMS_36 (Nat.le_refl _) (Nat.le_refl _) (g_X.st E) hz hX hK hG_40 hS_41 rfl hl_34.1 rfl (Nat.le_of_ble_eq_true rfl) dX1_digest_73 (fun x20 G21 H locs ce sl hvc_42 hG_43 hS_44 hMC_45 hMS_46 => ?_)
        clear hvc_39 hG_40 hS_41 hMC_35 hMS_36
        refine lv_lstore_n (lv' := [(3, .long x20), (0, .ref y0), (1, .ref y1), (2, .int y2), (5, .int y5)]) hx hb dX1_digest_76 rfl hl_34 (by decide) rfl (fun ls hl_47 => ?_)
        clear hl_34
        refine lv_ldc2 (v := lN 31) hx hb hown (by exact hts _ q1309) dX1_digest_77 ?_
        refine lv_ldc2 (v := lN 31) hx hb hown (by exact hts _ q1309) dX1_digest_80 ?_
        refine lv_ldc2 (v := lN 31) hx hb hown (by exact hts _ q1309) dX1_digest_83 ?_
        refine lv_lload_n hx hb dX1_digest_86 rfl (lv_at hl_47 0 rfl) ?_
        refine lv_lmul hx hb dX1_digest_87 ?_
        refine lv_aload_n hx hb dX1_digest_88 rfl (lv_at hl_47 1 rfl) ?_
        refine gw_cVIP (As := []) (rest := [.long ((lN 31) * x20), .long (lN 31), .long (lN 31)])  ⟨hx, hb, hml, hown, hts⟩ (met_X1_total l E G21 y0 _ hvc_42.2) (cwV 0 hts (lw_V q1347 q1235 q1236 q90 q1237) rfl rfl rfl (by decide +kernel) ⟨Nat.le_of_ble_eq_true rfl, Nat.le_of_ble_eq_true rfl⟩) (gw_rc (q := (RX1, TX1, 4)) hK hG_43 hvc_42.1 rfl) (by show _ ≤ mc0; omega) (by show _ ≤ ms0; omega) (g_St0 E) hz trivial hK hG_43 hS_44 rfl hl_47.1 rfl (Nat.le_of_ble_eq_true rfl) dX1_digest_89 (fun x24 H locs hvc_48 hG_49 hS_50 => ?_)
        clear hvc_42 hG_43 hS_44
        refine lv_i2l (v := x24.toInt64) hx hb dX1_digest_92 rfl ?_
        refine lv_ladd hx hb dX1_digest_93 ?_
        refine lv_lmul hx hb dX1_digest_94 ?_
        refine lv_aload_n hx hb dX1_digest_95 rfl (lv_at hl_47 1 rfl) ?_
        obtain ⟨c28, t29, hc1, hs1, hvc_48⟩ := hvc_48
        refine gw_cVIA (As := []) (rest := [.long ((lN 31) * (((lN 31) * x20) + x24.toInt64)), .long (lN 31)])  ⟨hx, hb, hml, hown, hts⟩ (met_X1_onTheWay l E G21 y0 c28 t29 _ hvc_48.2) (cwV 0 hts (lw_V q1348 q1243 q1244 q90 q1245) rfl rfl rfl (by decide +kernel) ⟨Nat.le_of_ble_eq_true rfl, Nat.le_of_ble_eq_true rfl⟩) (gw_rc (q := (RX1, TX1, 4)) hK hG_49 hvc_48.1 rfl) hc1 hs1 hMC_45 hMS_46 (Nat.le_refl _) (Nat.le_refl _) (g_X.st E) hz hX hK hG_49 hS_50 rfl hl_47.1 rfl (Nat.le_of_ble_eq_true rfl) dX1_digest_96 (fun x26 G27 H locs ce sl hvc_51 hG_52 hS_53 hMC_54 hMS_55 => ?_)
        clear hvc_48 hG_49 hS_50 hMC_45 hMS_46
        refine lv_i2l (v := x26.toInt64) hx hb dX1_digest_99 rfl ?_
        refine lv_ladd hx hb dX1_digest_100 ?_
        refine lv_lmul hx hb dX1_digest_101 ?_
        refine lv_aload_n hx hb dX1_digest_102 rfl (lv_at hl_47 1 rfl) ?_
        refine gw_cVIP (As := []) (rest := [.long ((lN 31) * (((lN 31) * (((lN 31) * x20) + x24.toInt64)) + x26.toInt64))])  ⟨hx, hb, hml, hown, hts⟩ (met_X1_waiting l E G27 y0 _ hvc_51.2) (cwV 0 hts (lw_V q1349 q1251 q1252 q90 q1253) rfl rfl rfl (by decide +kernel) ⟨Nat.le_of_ble_eq_true rfl, Nat.le_of_ble_eq_true rfl⟩) (gw_rc (q := (RX1, TX1, 4)) hK hG_52 hvc_51.1 rfl) (by show _ ≤ mc0; omega) (by show _ ≤ ms0; omega) (g_X.st E) hz hX hK hG_52 hS_53 rfl hl_47.1 rfl (Nat.le_of_ble_eq_true rfl) dX1_digest_103 (fun x30 H locs hvc_56 hG_57 hS_58 => ?_)
        clear hvc_51 hG_52 hS_53
        refine lv_i2l (v := x30.toInt64) hx hb dX1_digest_106 rfl ?_
        refine lv_ladd hx hb dX1_digest_107 ?_
        refine lv_lstore_n (lv' := [(3, .long (((lN 31) * (((lN 31) * (((lN 31) * x20) + x24.toInt64)) + x26.toInt64)) + x30.toInt64)), (0, .ref y0), (1, .ref y1), (2, .int y2), (5, .int y5)]) hx hb dX1_digest_108 rfl hl_47 (by decide) rfl (fun ls hl_59 => ?_)
        clear hl_47
        refine lv_iconst (v := nI 0) hx hb dX1_digest_109 (by decide) ?_
        have lp112 : ∀ (n112 : Nat) (y0 : Nat) (y2 : Int32) (y3 : Int64) (y5 : Int32) (G : g_G) (mc : Nat) (ms : Nat) (H : Heap) (locs : List Loc) (ls : Array Slot) (ce sl : Nat), wp_X1_digest_112 E post px n112 y0 y2 y3 y5 G mc ms → g_H E G H → va_S (g_A E) s.heap H locs → lv_has ls 6 [(0, .ref y0), (2, .int y2), (3, .long y3), (5, .int y5)] → ce + mc ≤ mc0 → sl + ms ≤ ms0 → W p l e ({ frames := 15, cells := mc0, slots := ms0, locals := 371 } : Room) s m ([.ref o] : List Value).toArray below meth c H locs ce sl (vx_MQ below (va_Ql (post) (g_Bk E) (g_A E)) (g_XC E px) ([.ref o] : List Value).toArray s mc0 ms0 (g_A E)) (F0 m 112 ls []) := by
          clear hvc_56 hG_57 hS_58 hl_59 hMC_54 hMS_55
          intro n112
          induction n112 with
          | zero =>
            intro y0 y2 y3 y5 G mc ms H locs ls ce sl hvc_60 hG_61 hS_62 hl_63 hMC_64 hMS_65
            exact False.elim hvc_60
          | succ n112 ih112 =>
            intro y0 y2 y3 y5 G mc ms H locs ls ce sl hvc_66 hG_67 hS_68 hl_69 hMC_70 hMS_71
            refine lv_iload hx hb dX1_digest_112 (lv_at hl_69 3 rfl) ?_
            refine lv_aload_n hx hb dX1_digest_114 rfl (lv_at hl_69 0 rfl) ?_
            refine gw_gr (C := RX1) (T := TX1) (N := 4) (own := RX1) hx hb hts in_X1 hown hK hG_67 hvc_66 rfl (by decide) (hts _ q348) (fun _ h9 => h9) dX1_digest_115 (fun x32 hvc_72 => ?_)
            clear hvc_66
            refine gw_grN (C := RX2) (T := TX2) (N := 11) (own := RX1) hx hb hts in_X2 hown hK hG_67 hvc_72 rfl (by decide) (hX.1 _ q306 rfl) (fun _ h9 => h9) dX1_digest_118 (fun x33 hvc_73 => ?_)
            clear hvc_72
            refine gw_cFIP (As := []) (rest := [.int y5]) (hK.1 9 _ rfl).2  ⟨hx, hb, hml, hown, hts⟩ (met_J7_size l E G x33 _ hvc_73.2) (va_cwF 0 hts (lw_F q1229 q886 q888 q99 q890) rfl rfl rfl (hX.fw (List.mem_of_getElem? (i := 6) rfl)) (by decide +kernel) ⟨Nat.le_of_ble_eq_true rfl, Nat.le_of_ble_eq_true rfl⟩) (gw_rc (q := (RJ7, TJ7, 3)) hK hG_67 hvc_73.1 rfl) (by show _ ≤ mc0; omega) (by show _ ≤ ms0; omega) (g_St0 E) hz trivial hK hG_67 hS_68 rfl hl_69.1 rfl (Nat.le_of_ble_eq_true rfl) dX1_digest_121 (fun x34 H locs hvc_74 hG_75 hS_76 => ?_)
            clear hvc_73 hG_67 hS_68
            refine lv_icmp_ge (tgt := 187) hx hb dX1_digest_126 (by decide) (fun h9 => ?_) (fun h9 => ?_)
            · replace hvc_74 := hvc_74.1 h9
              refine lv_ldc2 (v := lN 31) hx hb hown (by exact hts _ q1309) dX1_digest_187 ?_
              refine lv_ldc2 (v := lN 31) hx hb hown (by exact hts _ q1309) dX1_digest_190 ?_
              refine lv_ldc2 (v := lN 31) hx hb hown (by exact hts _ q1309) dX1_digest_193 ?_
              refine lv_lload_n hx hb dX1_digest_196 rfl (lv_at hl_69 2 rfl) ?_
              refine lv_lmul hx hb dX1_digest_197 ?_
              refine lv_aload_n hx hb dX1_digest_198 rfl (lv_at hl_69 0 rfl) ?_
              refine gw_gr (C := RX1) (T := TX1) (N := 4) (own := RX1) hx hb hts in_X1 hown hK hG_75 hvc_74 rfl (by decide) (hts _ q348) (fun _ h9 => h9) dX1_digest_199 (fun x36 hvc_77 => ?_)
              clear hvc_74
              refine gw_giN (C := RX2) (T := TX2) (N := 11) (own := RX1) hx hb hts in_X2 hown hK hG_75 hvc_77 rfl (by decide) (hX.1 _ q316 rfl) (fun _ h9 => h9) dX1_digest_202 (fun x37 hvc_78 => ?_)
              clear hvc_77
              refine lv_i2l (v := x37.toInt64) hx hb dX1_digest_205 rfl ?_
              refine lv_ladd hx hb dX1_digest_206 ?_
              refine lv_lmul hx hb dX1_digest_207 ?_
              refine lv_aload_n hx hb dX1_digest_208 rfl (lv_at hl_69 0 rfl) ?_
              refine gw_cVIP (As := []) (rest := [.long ((lN 31) * (((lN 31) * y3) + x37.toInt64)), .long (lN 31)])  ⟨hx, hb, hml, hown, hts⟩ (met_X1_sentByAccount l E G y0 _ hvc_78.2) (cwV 0 hts (lw_V q1401 q1259 q1260 q90 q1261) rfl rfl rfl (by decide +kernel) ⟨Nat.le_of_ble_eq_true rfl, Nat.le_of_ble_eq_true rfl⟩) (gw_rc (q := (RX1, TX1, 4)) hK hG_75 hvc_78.1 rfl) (by show _ ≤ mc0; omega) (by show _ ≤ ms0; omega) (g_X.st E) hz hX hK hG_75 hS_76 rfl hl_69.1 rfl (Nat.le_of_ble_eq_true rfl) dX1_digest_209 (fun x38 H locs hvc_79 hG_80 hS_81 => ?_)
              clear hvc_78 hG_75 hS_76
              refine lv_i2l (v := x38.toInt64) hx hb dX1_digest_212 rfl ?_
              refine lv_ladd hx hb dX1_digest_213 ?_
              refine lv_lmul hx hb dX1_digest_214 ?_
              refine lv_aload_n hx hb dX1_digest_215 rfl (lv_at hl_69 0 rfl) ?_
              refine gw_gr (C := RX1) (T := TX1) (N := 4) (own := RX1) hx hb hts in_X1 hown hK hG_80 hvc_79 rfl (by decide) (hts _ q348) (fun _ h9 => h9) dX1_digest_216 (fun x40 hvc_82 => ?_)
              clear hvc_79
              refine gw_giN (C := RX2) (T := TX2) (N := 11) (own := RX1) hx hb hts in_X2 hown hK hG_80 hvc_82 rfl (by decide) (hX.1 _ q320 rfl) (fun _ h9 => h9) dX1_digest_219 (fun x41 hvc_83 => ?_)
              clear hvc_82
              refine lv_i2l (v := x41.toInt64) hx hb dX1_digest_222 rfl ?_
              refine lv_ladd hx hb dX1_digest_223 ?_
              refine lv_lstore_n (lv' := [(3, .long (((lN 31) * (((lN 31) * (((lN 31) * y3) + x37.toInt64)) + x38.toInt64)) + x41.toInt64)), (0, .ref y0), (2, .int y2), (5, .int y5)]) hx hb dX1_digest_224 rfl hl_69 (by decide) rfl (fun ls hl_84 => ?_)
              clear hl_69
              refine lv_ldc2 (v := lN 31) hx hb hown (by exact hts _ q1309) dX1_digest_225 ?_
              refine lv_ldc2 (v := lN 31) hx hb hown (by exact hts _ q1309) dX1_digest_228 ?_
              refine lv_ldc2 (v := lN 31) hx hb hown (by exact hts _ q1309) dX1_digest_231 ?_
              refine lv_lload_n hx hb dX1_digest_234 rfl (lv_at hl_84 0 rfl) ?_
              refine lv_lmul hx hb dX1_digest_235 ?_
              refine lv_iload_n hx hb dX1_digest_236 rfl (lv_at hl_84 2 rfl) ?_
              refine lv_i2l (v := y2.toInt64) hx hb dX1_digest_237 rfl ?_
              refine lv_ladd hx hb dX1_digest_238 ?_
              refine lv_lmul hx hb dX1_digest_239 ?_
              refine lv_aload_n hx hb dX1_digest_240 rfl (lv_at hl_84 1 rfl) ?_
              refine gw_gr (C := RX1) (T := TX1) (N := 4) (own := RX1) hx hb hts in_X1 hown hK hG_80 hvc_83 rfl (by decide) (hts _ q348) (fun _ h9 => h9) dX1_digest_241 (fun x42 hvc_85 => ?_)
              clear hvc_83
              refine lv_iconst (v := nI 0) hx hb dX1_digest_244 (by decide) ?_
              refine lv_bipush (v := nI 14) hx hb dX1_digest_245 (by decide) ?_
              refine gw_cVIP (As := [.int (nI 0), .int (nI 14)]) (rest := [.long ((lN 31) * (((lN 31) * (((lN 31) * (((lN 31) * (((lN 31) * y3) + x37.toInt64)) + x38.toInt64)) + x41.toInt64)) + y2.toInt64)), .long (lN 31)])  ⟨hx, hb, hml, hown, hts⟩ (met_X2_greatestSize l E G x42 (nI 0) (nI 14) _ hvc_85.2) (cwV 2 hts (lw_V q1402 q1403 q1404 q97 q1405) rfl rfl rfl (by decide +kernel) ⟨Nat.le_of_ble_eq_true rfl, Nat.le_of_ble_eq_true rfl⟩) (gw_rc (q := (RX2, TX2, 11)) hK hG_80 hvc_85.1 rfl) (by show _ ≤ mc0; omega) (by show _ ≤ ms0; omega) (g_X.st E) hz hX hK hG_80 hS_81 rfl hl_84.1 rfl (Nat.le_of_ble_eq_true rfl) dX1_digest_247 (fun x43 H locs hvc_86 hG_87 hS_88 => ?_)
              clear hvc_85 hG_80 hS_81
              refine lv_i2l (v := x43.toInt64) hx hb dX1_digest_250 rfl ?_
              refine lv_ladd hx hb dX1_digest_251 ?_
              refine lv_lmul hx hb dX1_digest_252 ?_
              refine lv_aload_n hx hb dX1_digest_253 rfl (lv_at hl_84 1 rfl) ?_
              refine gw_gr (C := RX1) (T := TX1) (N := 4) (own := RX1) hx hb hts in_X1 hown hK hG_87 hvc_86 rfl (by decide) (hts _ q347) (fun _ h9 => h9) dX1_digest_254 (fun x45 hvc_89 => ?_)
              clear hvc_86
              refine gw_cVIP (As := []) (rest := [.long ((lN 31) * (((lN 31) * (((lN 31) * (((lN 31) * (((lN 31) * (((lN 31) * y3) + x37.toInt64)) + x38.toInt64)) + x41.toInt64)) + y2.toInt64)) + x43.toInt64))])  ⟨hx, hb, hml, hown, hts⟩ (met_J5_size l E G x45 _ hvc_89.2) (cwV 0 hts (lw_V q367 q368 q369 q96 q370) rfl rfl rfl (by decide +kernel) ⟨Nat.le_of_ble_eq_true rfl, Nat.le_of_ble_eq_true rfl⟩) (gw_rc (q := (RJ5, TJ5, 3)) hK hG_87 hvc_89.1 rfl) (by show _ ≤ mc0; omega) (by show _ ≤ ms0; omega) (g_X.st E) hz hX hK hG_87 hS_88 rfl hl_84.1 rfl (Nat.le_of_ble_eq_true rfl) dX1_digest_257 (fun x46 H locs hvc_90 hG_91 hS_92 => ?_)
              clear hvc_89 hG_87 hS_88
              refine lv_i2l (v := x46.toInt64) hx hb dX1_digest_260 rfl ?_
              refine lv_ladd hx hb dX1_digest_261 ?_
              refine lv_lstore_n (lv' := [(3, .long (((lN 31) * (((lN 31) * (((lN 31) * (((lN 31) * (((lN 31) * (((lN 31) * y3) + x37.toInt64)) + x38.toInt64)) + x41.toInt64)) + y2.toInt64)) + x43.toInt64)) + x46.toInt64)), (0, .ref y0), (2, .int y2), (5, .int y5)]) hx hb dX1_digest_262 rfl hl_84 (by decide) rfl (fun ls hl_93 => ?_)
              clear hl_84
              refine lv_ldc2 (v := lN 31) hx hb hown (by exact hts _ q1309) dX1_digest_263 ?_
              refine lv_ldc2 (v := lN 31) hx hb hown (by exact hts _ q1309) dX1_digest_266 ?_
              refine lv_lload_n hx hb dX1_digest_269 rfl (lv_at hl_93 0 rfl) ?_
              refine lv_lmul hx hb dX1_digest_270 ?_
              refine lv_aload_n hx hb dX1_digest_271 rfl (lv_at hl_93 1 rfl) ?_
              refine gw_cVDP (As := []) (rest := [.long ((lN 31) * (((lN 31) * (((lN 31) * (((lN 31) * (((lN 31) * (((lN 31) * (((lN 31) * y3) + x37.toInt64)) + x38.toInt64)) + x41.toInt64)) + y2.toInt64)) + x43.toInt64)) + x46.toInt64)), .long (lN 31)])  ⟨hx, hb, hml, hown, hts⟩ (met_X1_lostShare l E G y0 _ hvc_90.2) (cwV 0 hts (lw_V q1411 q1287 q1288 q90 q1289) rfl rfl rfl (by decide +kernel) ⟨Nat.le_of_ble_eq_true rfl, Nat.le_of_ble_eq_true rfl⟩) (gw_rc (q := (RX1, TX1, 4)) hK hG_91 hvc_90.1 rfl) (by show _ ≤ mc0; omega) (by show _ ≤ ms0; omega) (g_X.st E) hz hX hK hG_91 hS_92 rfl hl_93.1 rfl (Nat.le_of_ble_eq_true rfl) dX1_digest_272 (fun x48 H locs hvc_94 hG_95 hS_96 => ?_)
              clear hvc_90 hG_91 hS_92
              refine gw_cSLP (As := [.double x48]) (rest := [.long ((lN 31) * (((lN 31) * (((lN 31) * (((lN 31) * (((lN 31) * (((lN 31) * (((lN 31) * y3) + x37.toInt64)) + x38.toInt64)) + x41.toInt64)) + y2.toInt64)) + x43.toInt64)) + x46.toInt64)), .long (lN 31)])  ⟨hx, hb, hml, hown, hts⟩ (met_J25_doubleToLongBits l E G x48 _ hvc_94) (va_cwS 1 hts (lw_S q1412 q1413 q127 q1414) rfl rfl rfl (by decide +kernel) ⟨Nat.le_of_ble_eq_true rfl, Nat.le_of_ble_eq_true rfl⟩) (by show _ ≤ mc0; omega) (by show _ ≤ ms0; omega) (g_St0 E) hz trivial hK hG_95 hS_96 rfl hl_93.1 rfl (Nat.le_of_ble_eq_true rfl) dX1_digest_275 (fun x50 H locs hvc_97 hG_98 hS_99 => ?_)
              clear hvc_94 hG_95 hS_96
              refine lv_ladd hx hb dX1_digest_278 ?_
              refine lv_lmul hx hb dX1_digest_279 ?_
              refine lv_aload_n hx hb dX1_digest_280 rfl (lv_at hl_93 1 rfl) ?_
              obtain ⟨c54, t55, hc1, hs1, hvc_97⟩ := hvc_97
              refine gw_cVFA (As := []) (rest := [.long ((lN 31) * (((lN 31) * (((lN 31) * (((lN 31) * (((lN 31) * (((lN 31) * (((lN 31) * (((lN 31) * y3) + x37.toInt64)) + x38.toInt64)) + x41.toInt64)) + y2.toInt64)) + x43.toInt64)) + x46.toInt64)) + x50))])  ⟨hx, hb, hml, hown, hts⟩ (met_X1_meanSize l E G y0 c54 t55 _ hvc_97.2) (cwV 0 hts (lw_V q1422 q1291 q1292 q90 q1293) rfl rfl rfl (by decide +kernel) ⟨Nat.le_of_ble_eq_true rfl, Nat.le_of_ble_eq_true rfl⟩) (gw_rc (q := (RX1, TX1, 4)) hK hG_98 hvc_97.1 rfl) hc1 hs1 hMC_70 hMS_71 (Nat.le_refl _) (Nat.le_refl _) (g_X.st E) hz hX hK hG_98 hS_99 rfl hl_93.1 rfl (Nat.le_of_ble_eq_true rfl) dX1_digest_281 (fun x52 G53 H locs ce sl hvc_100 hG_101 hS_102 hMC_103 hMS_104 => ?_)
              clear hvc_97 hG_98 hS_99 hMC_70 hMS_71
              refine gw_cSIP (As := [.float x52]) (rest := [.long ((lN 31) * (((lN 31) * (((lN 31) * (((lN 31) * (((lN 31) * (((lN 31) * (((lN 31) * (((lN 31) * y3) + x37.toInt64)) + x38.toInt64)) + x41.toInt64)) + y2.toInt64)) + x43.toInt64)) + x46.toInt64)) + x50))])  ⟨hx, hb, hml, hown, hts⟩ (met_J26_floatToIntBits l E G53 x52 _ hvc_100) (va_cwS 1 hts (lw_S q1423 q1424 q128 q1425) rfl rfl rfl (by decide +kernel) ⟨Nat.le_of_ble_eq_true rfl, Nat.le_of_ble_eq_true rfl⟩) (by show _ ≤ mc0; omega) (by show _ ≤ ms0; omega) (g_St0 E) hz trivial hK hG_101 hS_102 rfl hl_93.1 rfl (Nat.le_of_ble_eq_true rfl) dX1_digest_284 (fun x56 H locs hvc_105 hG_106 hS_107 => ?_)
              clear hvc_100 hG_101 hS_102
              refine lv_i2l (v := x56.toInt64) hx hb dX1_digest_287 rfl ?_
              refine lv_ladd hx hb dX1_digest_288 ?_
              refine lv_lstore_n (lv' := [(3, .long (((lN 31) * (((lN 31) * (((lN 31) * (((lN 31) * (((lN 31) * (((lN 31) * (((lN 31) * (((lN 31) * y3) + x37.toInt64)) + x38.toInt64)) + x41.toInt64)) + y2.toInt64)) + x43.toInt64)) + x46.toInt64)) + x50)) + x56.toInt64)), (0, .ref y0), (2, .int y2), (5, .int y5)]) hx hb dX1_digest_289 rfl hl_93 (by decide) rfl (fun ls hl_108 => ?_)
              clear hl_93
              refine lv_ldc2 (v := lN 31) hx hb hown (by exact hts _ q1309) dX1_digest_290 ?_
              refine lv_ldc2 (v := lN 31) hx hb hown (by exact hts _ q1309) dX1_digest_293 ?_
              refine lv_lload_n hx hb dX1_digest_296 rfl (lv_at hl_108 0 rfl) ?_
              refine lv_lmul hx hb dX1_digest_297 ?_
              refine lv_aload_n hx hb dX1_digest_298 rfl (lv_at hl_108 1 rfl) ?_
              refine gw_gq (C := RX1) (T := TX1) (N := 4) (own := RX1) hx hb hts in_X1 hown hK hG_106 hvc_105 rfl (by decide) (hts _ q349) (fun _ h9 => h9) dX1_digest_299 (fun x58 hvc_109 => ?_)
              clear hvc_105
              have jn310 : ∀ (y0 : Nat) (s0 : Int32) (s1 : Int64) (s2 : Int64) (G : g_G) (mc : Nat) (ms : Nat) (H : Heap) (locs : List Loc) (ls : Array Slot) (ce sl : Nat), wp_X1_digest_310 E post px y0 s0 s1 s2 G mc ms → g_H E G H → va_S (g_A E) s.heap H locs → lv_has ls 6 [(0, .ref y0)] → ce + mc ≤ mc0 → sl + ms ≤ ms0 → W p l e ({ frames := 15, cells := mc0, slots := ms0, locals := 371 } : Room) s m ([.ref o] : List Value).toArray below meth c H locs ce sl (vx_MQ below (va_Ql (post) (g_Bk E) (g_A E)) (g_XC E px) ([.ref o] : List Value).toArray s mc0 ms0 (g_A E)) (F0 m 310 ls [.int s0, .long s1, .long s2]) := by
                clear hvc_109 hG_106 hS_107 hl_108 hMC_103 hMS_104
                intro y0 s0 s1 s2 G mc ms H locs ls ce sl hvc_110 hG_111 hS_112 hl_113 hMC_114 hMS_115
                refine lv_i2l (v := s0.toInt64) hx hb dX1_digest_310 rfl ?_
                refine lv_ladd hx hb dX1_digest_311 ?_
                refine lv_lmul hx hb dX1_digest_312 ?_
                refine lv_aload_n hx hb dX1_digest_313 rfl (lv_at hl_113 0 rfl) ?_
                refine gw_gr (C := RX1) (T := TX1) (N := 4) (own := RX1) hx hb hts in_X1 hown hK hG_111 hvc_110 rfl (by decide) (hts _ q345) (fun _ h9 => h9) dX1_digest_314 (fun x59 hvc_116 => ?_)
                clear hvc_110
                refine gw_cVIP (As := []) (rest := [.long (s2 * (s1 + s0.toInt64))])  ⟨hx, hb, hml, hown, hts⟩ (met_J1_length l E G x59 _ hvc_116.2) (cwV 0 hts (lw_V q1028 q616 q2283 q92 q617) rfl rfl rfl (by decide +kernel) ⟨Nat.le_of_ble_eq_true rfl, Nat.le_of_ble_eq_true rfl⟩) (gw_rc (q := (RJ1, TJ1, 4)) hK hG_111 hvc_116.1 rfl) (by show _ ≤ mc0; omega) (by show _ ≤ ms0; omega) (g_St0 E) hz trivial hK hG_111 hS_112 rfl hl_113.1 rfl (Nat.le_of_ble_eq_true rfl) dX1_digest_317 (fun x60 H locs hvc_117 hG_118 hS_119 => ?_)
                clear hvc_116 hG_111 hS_112
                refine lv_i2l (v := x60.toInt64) hx hb dX1_digest_320 rfl ?_
                refine lv_ladd hx hb dX1_digest_321 ?_
                refine lv_lstore_n (lv' := [(3, .long ((s2 * (s1 + s0.toInt64)) + x60.toInt64)), (0, .ref y0)]) hx hb dX1_digest_322 rfl hl_113 (by decide) rfl (fun ls hl_120 => ?_)
                clear hl_113
                refine lv_iconst (v := nI 0) hx hb dX1_digest_323 (by decide) ?_
                have lp326 : ∀ (n326 : Nat) (y0 : Nat) (y3 : Int64) (y5 : Int32) (G : g_G) (mc : Nat) (ms : Nat) (H : Heap) (locs : List Loc) (ls : Array Slot) (ce sl : Nat), wp_X1_digest_326 E post px n326 y0 y3 y5 G mc ms → g_H E G H → va_S (g_A E) s.heap H locs → lv_has ls 6 [(0, .ref y0), (3, .long y3), (5, .int y5)] → ce + mc ≤ mc0 → sl + ms ≤ ms0 → W p l e ({ frames := 15, cells := mc0, slots := ms0, locals := 371 } : Room) s m ([.ref o] : List Value).toArray below meth c H locs ce sl (vx_MQ below (va_Ql (post) (g_Bk E) (g_A E)) (g_XC E px) ([.ref o] : List Value).toArray s mc0 ms0 (g_A E)) (F0 m 326 ls []) := by
                  clear hvc_117 hG_118 hS_119 hl_120 hMC_114 hMS_115
                  intro n326
                  induction n326 with
                  | zero =>
                    intro y0 y3 y5 G mc ms H locs ls ce sl hvc_121 hG_122 hS_123 hl_124 hMC_125 hMS_126
                    exact False.elim hvc_121
                  | succ n326 ih326 =>
                    intro y0 y3 y5 G mc ms H locs ls ce sl hvc_127 hG_128 hS_129 hl_130 hMC_131 hMS_132
                    refine lv_iload hx hb dX1_digest_326 (lv_at hl_130 2 rfl) ?_
                    refine lv_aload_n hx hb dX1_digest_328 rfl (lv_at hl_130 0 rfl) ?_
                    refine gw_gr (C := RX1) (T := TX1) (N := 4) (own := RX1) hx hb hts in_X1 hown hK hG_128 hvc_127 rfl (by decide) (hts _ q345) (fun _ h9 => h9) dX1_digest_329 (fun x62 hvc_133 => ?_)
                    clear hvc_127
                    refine gw_cVIP (As := []) (rest := [.int y5])  ⟨hx, hb, hml, hown, hts⟩ (met_J1_length l E G x62 _ hvc_133.2) (cwV 0 hts (lw_V q1028 q616 q2283 q92 q617) rfl rfl rfl (by decide +kernel) ⟨Nat.le_of_ble_eq_true rfl, Nat.le_of_ble_eq_true rfl⟩) (gw_rc (q := (RJ1, TJ1, 4)) hK hG_128 hvc_133.1 rfl) (by show _ ≤ mc0; omega) (by show _ ≤ ms0; omega) (g_St0 E) hz trivial hK hG_128 hS_129 rfl hl_130.1 rfl (Nat.le_of_ble_eq_true rfl) dX1_digest_332 (fun x63 H locs hvc_134 hG_135 hS_136 => ?_)
                    clear hvc_133 hG_128 hS_129
                    refine lv_icmp_ge (tgt := 361) hx hb dX1_digest_335 (by decide) (fun h9 => ?_) (fun h9 => ?_)
                    · replace hvc_134 := hvc_134.1 h9
                      refine lv_lload_n hx hb dX1_digest_361 rfl (lv_at hl_130 1 rfl) ?_
                      exact vx_ret (g_lret hx hb hr hlocks (by show _ ≤ mc0; omega) (by show _ ≤ ms0; omega) hG_135 hS_136 hvc_134 dX1_digest_362)
                    · replace hvc_134 := hvc_134.2 h9
                      refine lv_ldc2 (v := lN 31) hx hb hown (by exact hts _ q1309) dX1_digest_338 ?_
                      refine lv_lload_n hx hb dX1_digest_341 rfl (lv_at hl_130 1 rfl) ?_
                      refine lv_lmul hx hb dX1_digest_342 ?_
                      refine lv_aload_n hx hb dX1_digest_343 rfl (lv_at hl_130 0 rfl) ?_
                      refine gw_gr (C := RX1) (T := TX1) (N := 4) (own := RX1) hx hb hts in_X1 hown hK hG_135 hvc_134 rfl (by decide) (hts _ q345) (fun _ h9 => h9) dX1_digest_344 (fun x65 hvc_137 => ?_)
                      clear hvc_134
                      refine lv_iload hx hb dX1_digest_347 (lv_at hl_130 2 rfl) ?_
                      obtain ⟨c68, t69, hc1, hs1, hvc_137⟩ := hvc_137
                      refine gw_cVIA (As := [.int y5]) (rest := [.long ((lN 31) * y3)])  ⟨hx, hb, hml, hown, hts⟩ (met_J1_charAt l E G x65 y5 c68 t69 _ hvc_137.2) (cwV 1 hts (lw_V q1433 q1143 q1144 q92 q1145) rfl rfl rfl (by decide +kernel) ⟨Nat.le_of_ble_eq_true rfl, Nat.le_of_ble_eq_true rfl⟩) (gw_rc (q := (RJ1, TJ1, 4)) hK hG_135 hvc_137.1 rfl) hc1 hs1 hMC_131 hMS_132 (Nat.le_refl _) (Nat.le_refl _) (g_X.st E) hz hX hK hG_135 hS_136 rfl hl_130.1 rfl (Nat.le_of_ble_eq_true rfl) dX1_digest_349 (fun x66 G67 H locs ce sl hvc_138 hG_139 hS_140 hMC_141 hMS_142 => ?_)
                      clear hvc_137 hG_135 hS_136 hMC_131 hMS_132
                      refine lv_i2l (v := x66.toInt64) hx hb dX1_digest_352 rfl ?_
                      refine lv_ladd hx hb dX1_digest_353 ?_
                      refine lv_lstore_n (lv' := [(3, .long (((lN 31) * y3) + x66.toInt64)), (0, .ref y0), (5, .int y5)]) hx hb dX1_digest_354 rfl hl_130 (by decide) rfl (fun ls hl_143 => ?_)
                      clear hl_130
                      refine lv_iinc (k := 2) (v := y5 + (nI 1)) (lv' := [(5, .int (y5 + (nI 1))), (3, .long (((lN 31) * y3) + x66.toInt64)), (0, .ref y0)]) hx hb dX1_digest_355 hl_143 rfl (congrArg (y5 + ·) (by decide : Int32.ofInt (1) = nI 1)) (by decide) rfl (fun ls hl_144 => ?_)
                      clear hl_143
                      refine lv_goto (tgt := 326) hx hb dX1_digest_358 (by decide) ?_
                      exact ih326 y0 (((lN 31) * y3) + x66.toInt64) (y5 + (nI 1)) G67 (mc - c68) (ms - t69) _ _ _ _ _ hvc_138 hG_139 hS_140 (lv_sub hl_144 [2, 1, 0] rfl) hMC_141 hMS_142
                refine lv_istore (lv' := [(5, .int (nI 0)), (3, .long ((s2 * (s1 + s0.toInt64)) + x60.toInt64)), (0, .ref y0)]) hx hb dX1_digest_324 hl_120 (by decide) rfl (fun ls hl_145 => ?_)
                clear hl_120
                obtain ⟨nf326, hvc_117⟩ := hvc_117
                exact lp326 nf326 y0 ((s2 * (s1 + s0.toInt64)) + x60.toInt64) (nI 0) G mc ms _ _ _ _ _ hvc_117 hG_118 hS_119 (lv_sub hl_145 [2, 1, 0] rfl) hMC_114 hMS_115
              refine gq_ifnonnull (o := x58) (tgt := 309) hx hb dX1_digest_302 (by decide) (fun h9 => ?_) (fun h9 => ?_)
              · replace hvc_109 := hvc_109.1 h9
                refine lv_iconst (v := nI 1) hx hb dX1_digest_309 (by decide) ?_
                exact jn310 y0 (nI 1) ((lN 31) * (((lN 31) * (((lN 31) * (((lN 31) * (((lN 31) * (((lN 31) * (((lN 31) * (((lN 31) * (((lN 31) * y3) + x37.toInt64)) + x38.toInt64)) + x41.toInt64)) + y2.toInt64)) + x43.toInt64)) + x46.toInt64)) + x50)) + x56.toInt64)) (lN 31) G53 (mc - c54) (ms - t55) _ _ _ _ _ hvc_109 hG_106 hS_107 (lv_sub hl_108 [1] rfl) hMC_103 hMS_104
              · replace hvc_109 := hvc_109.2 h9
                refine lv_iconst (v := nI 0) hx hb dX1_digest_305 (by decide) ?_
                refine lv_goto (tgt := 310) hx hb dX1_digest_306 (by decide) ?_
                exact jn310 y0 (nI 0) ((lN 31) * (((lN 31) * (((lN 31) * (((lN 31) * (((lN 31) * (((lN 31) * (((lN 31) * (((lN 31) * (((lN 31) * y3) + x37.toInt64)) + x38.toInt64)) + x41.toInt64)) + y2.toInt64)) + x43.toInt64)) + x46.toInt64)) + x50)) + x56.toInt64)) (lN 31) G53 (mc - c54) (ms - t55) _ _ _ _ _ hvc_109 hG_106 hS_107 (lv_sub hl_108 [1] rfl) hMC_103 hMS_104
            · replace hvc_74 := hvc_74.2 h9
              refine lv_ldc2 (v := lN 31) hx hb hown (by exact hts _ q1309) dX1_digest_129 ?_
              refine lv_ldc2 (v := lN 31) hx hb hown (by exact hts _ q1309) dX1_digest_132 ?_
              refine lv_lload_n hx hb dX1_digest_135 rfl (lv_at hl_69 2 rfl) ?_
              refine lv_lmul hx hb dX1_digest_136 ?_
              refine lv_aload_n hx hb dX1_digest_137 rfl (lv_at hl_69 0 rfl) ?_
              refine lv_iload hx hb dX1_digest_138 (lv_at hl_69 3 rfl) ?_
              obtain ⟨c72, t73, hc1, hs1, hvc_74⟩ := hvc_74
              refine gt_cVI (As := [.int y5]) (rest := [.long ((lN 31) * y3), .long (lN 31)])  ⟨hx, hb, hml, hown, hts⟩ (met_X1_kindOf l hfl E G y0 y5 c72 t73 _ _ hvc_74.2) (cwV 1 hts (lw_V q1350 q1351 q1352 q90 q1353) rfl rfl rfl (by decide +kernel) ⟨Nat.le_of_ble_eq_true rfl, Nat.le_of_ble_eq_true rfl⟩) (gw_rc (q := (RX1, TX1, 4)) hK hG_75 hvc_74.1 rfl) hc1 hs1 hMC_70 hMS_71 (Nat.le_refl _) (Nat.le_refl _) (g_Y.st E) hz hY hK hG_75 hS_76 rfl hl_69.1 rfl (Nat.le_of_ble_eq_true rfl) dX1_digest_140 (fun X9 ce q9 G9 H9 l9 c9 s9 a1 a2 a3 a4 a5 a6 a7 a8 => gt_out hout hlocks (by show _ ≤ mc0; omega) (by show _ ≤ ms0; omega) a2 a3 a4 a5 a6 a1) (fun x70 G71 H locs ce sl hvc_146 hG_147 hS_148 hMC_149 hMS_150 => ?_)
              clear hvc_74 hG_75 hS_76 hMC_70 hMS_71
              refine lv_i2l (v := x70.toInt64) hx hb dX1_digest_143 rfl ?_
              refine lv_ladd hx hb dX1_digest_144 ?_
              refine lv_lmul hx hb dX1_digest_145 ?_
              refine lv_aload_n hx hb dX1_digest_146 rfl (lv_at hl_69 0 rfl) ?_
              refine lv_iload hx hb dX1_digest_147 (lv_at hl_69 3 rfl) ?_
              obtain ⟨c76, t77, hc1, hs1, hvc_146⟩ := hvc_146
              refine gt_cVI (As := [.int y5]) (rest := [.long ((lN 31) * (((lN 31) * y3) + x70.toInt64))])  ⟨hx, hb, hml, hown, hts⟩ (met_X1_transferOf l hfl E G71 y0 y5 c76 t77 _ _ hvc_146.2) (cwV 1 hts (lw_V q1388 q1389 q1390 q90 q1391) rfl rfl rfl (by decide +kernel) ⟨Nat.le_of_ble_eq_true rfl, Nat.le_of_ble_eq_true rfl⟩) (gw_rc (q := (RX1, TX1, 4)) hK hG_147 hvc_146.1 rfl) hc1 hs1 hMC_149 hMS_150 (Nat.le_refl _) (Nat.le_refl _) (g_Y.st E) hz hY hK hG_147 hS_148 rfl hl_69.1 rfl (Nat.le_of_ble_eq_true rfl) dX1_digest_149 (fun X9 ce q9 G9 H9 l9 c9 s9 a1 a2 a3 a4 a5 a6 a7 a8 => gt_out hout hlocks (by show _ ≤ mc0; omega) (by show _ ≤ ms0; omega) a2 a3 a4 a5 a6 a1) (fun x74 G75 H locs ce sl hvc_151 hG_152 hS_153 hMC_154 hMS_155 => ?_)
              clear hvc_146 hG_147 hS_148 hMC_149 hMS_150
              refine lv_i2l (v := x74.toInt64) hx hb dX1_digest_152 rfl ?_
              refine lv_ladd hx hb dX1_digest_153 ?_
              refine lv_lstore_n (lv' := [(3, .long (((lN 31) * (((lN 31) * y3) + x70.toInt64)) + x74.toInt64)), (0, .ref y0), (2, .int y2), (5, .int y5)]) hx hb dX1_digest_154 rfl hl_69 (by decide) rfl (fun ls hl_156 => ?_)
              clear hl_69
              refine lv_ldc2 (v := lN 31) hx hb hown (by exact hts _ q1309) dX1_digest_155 ?_
              refine lv_ldc2 (v := lN 31) hx hb hown (by exact hts _ q1309) dX1_digest_158 ?_
              refine lv_lload_n hx hb dX1_digest_161 rfl (lv_at hl_156 0 rfl) ?_
              refine lv_lmul hx hb dX1_digest_162 ?_
              refine lv_aload_n hx hb dX1_digest_163 rfl (lv_at hl_156 1 rfl) ?_
              refine lv_iload hx hb dX1_digest_164 (lv_at hl_156 3 rfl) ?_
              obtain ⟨c80, t81, hc1, hs1, hvc_151⟩ := hvc_151
              refine gt_cVI (As := [.int y5]) (rest := [.long ((lN 31) * (((lN 31) * (((lN 31) * y3) + x70.toInt64)) + x74.toInt64)), .long (lN 31)])  ⟨hx, hb, hml, hown, hts⟩ (met_X1_storeOf l hfl E G75 y0 y5 c80 t81 _ _ hvc_151.2) (cwV 1 hts (lw_V q1392 q1393 q1394 q90 q1395) rfl rfl rfl (by decide +kernel) ⟨Nat.le_of_ble_eq_true rfl, Nat.le_of_ble_eq_true rfl⟩) (gw_rc (q := (RX1, TX1, 4)) hK hG_152 hvc_151.1 rfl) hc1 hs1 hMC_154 hMS_155 (Nat.le_refl _) (Nat.le_refl _) (g_Y.st E) hz hY hK hG_152 hS_153 rfl hl_156.1 rfl (Nat.le_of_ble_eq_true rfl) dX1_digest_166 (fun X9 ce q9 G9 H9 l9 c9 s9 a1 a2 a3 a4 a5 a6 a7 a8 => gt_out hout hlocks (by show _ ≤ mc0; omega) (by show _ ≤ ms0; omega) a2 a3 a4 a5 a6 a1) (fun x78 G79 H locs ce sl hvc_157 hG_158 hS_159 hMC_160 hMS_161 => ?_)
              clear hvc_151 hG_152 hS_153 hMC_154 hMS_155
              refine lv_i2l (v := x78.toInt64) hx hb dX1_digest_169 rfl ?_
              refine lv_ladd hx hb dX1_digest_170 ?_
              refine lv_lmul hx hb dX1_digest_171 ?_
              refine lv_aload_n hx hb dX1_digest_172 rfl (lv_at hl_156 1 rfl) ?_
              refine lv_iload hx hb dX1_digest_173 (lv_at hl_156 3 rfl) ?_
              obtain ⟨c84, t85, hc1, hs1, hvc_157⟩ := hvc_157
              refine gt_cVI (As := [.int y5]) (rest := [.long ((lN 31) * (((lN 31) * (((lN 31) * (((lN 31) * y3) + x70.toInt64)) + x74.toInt64)) + x78.toInt64))])  ⟨hx, hb, hml, hown, hts⟩ (met_X1_wouldSend l hfl E G79 y0 y5 c84 t85 _ _ hvc_157.2) (cwV 1 hts (lw_V q1396 q1397 q1398 q90 q1399) rfl rfl rfl (by decide +kernel) ⟨Nat.le_of_ble_eq_true rfl, Nat.le_of_ble_eq_true rfl⟩) (gw_rc (q := (RX1, TX1, 4)) hK hG_158 hvc_157.1 rfl) hc1 hs1 hMC_160 hMS_161 (Nat.le_refl _) (Nat.le_refl _) (g_Y.st E) hz hY hK hG_158 hS_159 rfl hl_156.1 rfl (Nat.le_of_ble_eq_true rfl) dX1_digest_175 (fun X9 ce q9 G9 H9 l9 c9 s9 a1 a2 a3 a4 a5 a6 a7 a8 => gt_out hout hlocks (by show _ ≤ mc0; omega) (by show _ ≤ ms0; omega) a2 a3 a4 a5 a6 a1) (fun x82 G83 H locs ce sl hvc_162 hG_163 hS_164 hMC_165 hMS_166 => ?_)
              clear hvc_157 hG_158 hS_159 hMC_160 hMS_161
              refine lv_i2l (v := x82.toInt64) hx hb dX1_digest_178 rfl ?_
              refine lv_ladd hx hb dX1_digest_179 ?_
              refine lv_lstore_n (lv' := [(3, .long (((lN 31) * (((lN 31) * (((lN 31) * (((lN 31) * y3) + x70.toInt64)) + x74.toInt64)) + x78.toInt64)) + x82.toInt64)), (0, .ref y0), (2, .int y2), (5, .int y5)]) hx hb dX1_digest_180 rfl hl_156 (by decide) rfl (fun ls hl_167 => ?_)
              clear hl_156
              refine lv_iinc (k := 3) (v := y5 + (nI 1)) (lv' := [(5, .int (y5 + (nI 1))), (3, .long (((lN 31) * (((lN 31) * (((lN 31) * (((lN 31) * y3) + x70.toInt64)) + x74.toInt64)) + x78.toInt64)) + x82.toInt64)), (0, .ref y0), (2, .int y2)]) hx hb dX1_digest_181 hl_167 rfl (congrArg (y5 + ·) (by decide : Int32.ofInt (1) = nI 1)) (by decide) rfl (fun ls hl_168 => ?_)
              clear hl_167
              refine lv_goto (tgt := 112) hx hb dX1_digest_184 (by decide) ?_
              exact ih112 y0 y2 (((lN 31) * (((lN 31) * (((lN 31) * (((lN 31) * y3) + x70.toInt64)) + x74.toInt64)) + x78.toInt64)) + x82.toInt64) (y5 + (nI 1)) G83 (mc - c72 - c76 - c80 - c84) (ms - t73 - t77 - t81 - t85) _ _ _ _ _ hvc_162 hG_163 hS_164 (lv_sub hl_168 [2, 3, 1, 0] rfl) hMC_165 hMS_166
        refine lv_istore (lv' := [(5, .int (nI 0)), (3, .long (((lN 31) * (((lN 31) * (((lN 31) * x20) + x24.toInt64)) + x26.toInt64)) + x30.toInt64)), (0, .ref y0), (1, .ref y1), (2, .int y2)]) hx hb dX1_digest_110 hl_59 (by decide) rfl (fun ls hl_169 => ?_)
        clear hl_59
        obtain ⟨nf112, hvc_56⟩ := hvc_56
        exact lp112 nf112 y0 y2 (((lN 31) * (((lN 31) * (((lN 31) * x20) + x24.toInt64)) + x26.toInt64)) + x30.toInt64) (nI 0) G27 (mc - c22 - c28) (ms - t23 - t29) _ _ _ _ _ hvc_56 hG_57 hS_58 (lv_sub hl_169 [2, 4, 1, 0] rfl) hMC_54 hMS_55
      · replace hvc_39 := hvc_39.2 h9
        refine lv_aload_n hx hb dX1_digest_55 rfl (lv_at hl_34 0 rfl) ?_
        refine lv_lload_n hx hb dX1_digest_56 rfl (lv_at hl_34 3 rfl) ?_
        refine lv_iload hx hb dX1_digest_57 (lv_at hl_34 4 rfl) ?_
        refine lv_aload_n hx hb dX1_digest_59 rfl (lv_at hl_34 1 rfl) ?_
        obtain ⟨c88, t89, hc1, hs1, hvc_39⟩ := hvc_39
        refine gw_cVLA (As := [.long y3, .int y5, .ref y1]) (rest := [])  ⟨hx, hb, hml, hown, hts⟩ (met_X1_hashOfTransfer l E G y0 y3 y5 y1 c88 t89 _ hvc_39.2) (cwV 3 hts (lw_V q1305 q1307 qs23 q90 q1308) rfl rfl rfl (by decide +kernel) ⟨Nat.le_of_ble_eq_true rfl, Nat.le_of_ble_eq_true rfl⟩) (gw_rc (q := (RX1, TX1, 4)) hK hG_40 hvc_39.1 rfl) hc1 hs1 hMC_35 hMS_36 (Nat.le_refl _) (Nat.le_refl _) (g_X.st E) hz hX hK hG_40 hS_41 rfl hl_34.1 rfl (Nat.le_of_ble_eq_true rfl) dX1_digest_60 (fun x86 G87 H locs ce sl hvc_170 hG_171 hS_172 hMC_173 hMS_174 => ?_)
        clear hvc_39 hG_40 hS_41 hMC_35 hMS_36
        refine lv_lstore_n (lv' := [(3, .long x86), (0, .ref y0), (1, .ref y1), (2, .int y2), (5, .int y5)]) hx hb dX1_digest_63 rfl hl_34 (by decide) rfl (fun ls hl_175 => ?_)
        clear hl_34
        refine lv_iinc (k := 4) (v := y5 + (nI 1)) (lv' := [(5, .int (y5 + (nI 1))), (3, .long x86), (0, .ref y0), (1, .ref y1), (2, .int y2)]) hx hb dX1_digest_64 hl_175 rfl (congrArg (y5 + ·) (by decide : Int32.ofInt (1) = nI 1)) (by decide) rfl (fun ls hl_176 => ?_)
        clear hl_175
        refine lv_goto (tgt := 38) hx hb dX1_digest_67 (by decide) ?_
        exact ih38 y0 y1 y2 x86 (y5 + (nI 1)) G87 (mc - c88) (ms - t89) _ _ _ _ _ hvc_170 hG_171 hS_172 (lv_sub hl_176 [2, 3, 4, 1, 0] rfl) hMC_173 hMS_174
  refine lv_istore (lv' := [(5, .int (nI 0)), (3, .long ((lN 130789) + x14.toInt64)), (2, .int x8), (1, .ref q1), (0, .ref o)]) hx hb dX1_digest_36 hl_24 (by decide) rfl (fun ls hl_177 => ?_)
  clear hl_24
  obtain ⟨nf38, hvc_21⟩ := hvc_21
  exact lp38 nf38 o q1 x8 ((lN 130789) + x14.toInt64) (nI 0) G9 (mc0 - 1 - c6 - c10) (ms0 - 11 - t7 - t11) _ _ _ _ _ hvc_21 hG_22 hS_23 (lv_sub hl_177 [4, 3, 2, 1, 0] rfl) hMC_16 hMS_17
set_option maxHeartbeats 4000000 in
set_option maxRecDepth 100000 in
theorem met_X1_argument (l : Launch) (hfl : l.stackTraces = false) (E : g_E) (G : g_G) (p1 : Int32) (mc0 ms0 : Nat) (post : g_G → Prop) (px : String → g_G → Prop) (hvc : wp_X1_argument E G p1 mc0 ms0 post px) : g_TV E l yX1_argument (ws_ yX1_argument cX1_argument 1 (Option.none : Option Jvm.ClassFile.FieldType)) ({ frames := 6, cells := mc0, slots := ms0, locals := 96 } : Room) (g_Y E) [.int p1] G post px := by
  refine g_enterT (by decide +kernel) (Nat.le_of_ble_eq_true rfl) ?_
  intro p e s m below meth c ls hx hb hr hts hown hlocks hml hout hz hY hK hG hS hl
  have hX := hY.1
  have hl : lv_has ls 1 [(0, .int p1)] := hl
  have hown : s.vm.findClass RX1 = some m.cls := hown
  have hMC : 0 + mc0 ≤ mc0 := Nat.le_of_eq (Nat.zero_add _)
  have hMS : 0 + ms0 ≤ ms0 := Nat.le_of_eq (Nat.zero_add _)
  unfold wp_X1_argument at hvc
  refine lv_iload_n hx hb dX1_argument_0 rfl (lv_at hl 0 rfl) ?_
  refine lv_if_ne (tgt := 14) hx hb dX1_argument_1 (by decide) (fun h9 => ?_) (fun h9 => ?_)
  · replace hvc := hvc.1 h9
    exact vx_ret (g_vret hx hb hr hlocks (by show _ ≤ mc0; omega) (by show _ ≤ ms0; omega) hG hS hvc dX1_argument_14)
  · replace hvc := hvc.2 h9
    exact gy_make (rest := []) (cls := "java/lang/IllegalArgumentException") (text := "it is not allowed") (names := ["java/lang/RuntimeException", "java/lang/Exception"]) (ik := 37) (is := 39) (ic := 41) (own := "VoteLogs") (ci := 14) hx hb hfl hvc hown (by decide) (by decide) (hts _ q1453) (hts _ q110) hY.2.2.1 (g_hats g_hat_argument hts hY.1) (by decide +kernel) hY hz hK hG hS (by rw [hml]; exact hl.1) dX1_argument_4 dX1_argument_7 dX1_argument_8 dX1_argument_10 dX1_argument_13 rfl (by show 5 < 6; decide) (Nat.le_of_ble_eq_true rfl) hMC hMS (Nat.le_refl _) (Nat.le_refl _) (fun q9 ce G9 H9 c9 s9 a1 a2 a3 a4 a5 a6 a7 a8 => gt_out hout hlocks (by show _ ≤ mc0; omega) (by show _ ≤ ms0; omega) a2 a3 a4 a5 a6 a1)
set_option maxHeartbeats 4000000 in
set_option maxRecDepth 100000 in
theorem met_X1_areStores (l : Launch) (hfl : l.stackTraces = false) (E : g_E) (G : g_G) (p1 : Int32) (p2 : Int32) (p3 : Int32) (mc0 ms0 : Nat) (post : g_G → Prop) (px : String → g_G → Prop) (hvc : wp_X1_areStores E G p1 p2 p3 mc0 ms0 post px) : g_TV E l yX1_areStores (ws_ yX1_areStores cX1_areStores 3 (Option.none : Option Jvm.ClassFile.FieldType)) ({ frames := 7, cells := mc0, slots := ms0, locals := 117 } : Room) (g_Y E) [.int p1, .int p2, .int p3] G post px := by
  refine g_enterT (by decide +kernel) (Nat.le_of_ble_eq_true rfl) ?_
  intro p e s m below meth c ls hx hb hr hts hown hlocks hml hout hz hY hK hG hS hl
  have hX := hY.1
  have hl : lv_has ls 3 [(0, .int p1), (1, .int p2), (2, .int p3)] := hl
  have hown : s.vm.findClass RX1 = some m.cls := hown
  have hMC : 0 + mc0 ≤ mc0 := Nat.le_of_eq (Nat.zero_add _)
  have hMS : 0 + ms0 ≤ ms0 := Nat.le_of_eq (Nat.zero_add _)
  unfold wp_X1_areStores at hvc
  refine lv_iload_n hx hb dX1_areStores_0 rfl (lv_at hl 0 rfl) ?_
  refine lv_iconst (v := nI 4) hx hb dX1_areStores_1 (by decide) ?_
  obtain ⟨c3, t4, hc1, hs1, hvc⟩ := hvc
  refine gt_cSV (As := [.int p1, .int (nI 4)]) (rest := [])  ⟨hx, hb, hml, hown, hts⟩ (met_X1_index l hfl E G p1 (nI 4) c3 t4 _ _ hvc) (va_cwS 2 hts (lw_S q1359 q1360 q90 q1361) rfl rfl rfl (by decide +kernel) ⟨Nat.le_of_ble_eq_true rfl, Nat.le_of_ble_eq_true rfl⟩) hc1 hs1 hMC hMS (Nat.le_refl _) (Nat.le_refl _) (g_Y.st E) hz hY hK hG hS rfl hl.1 rfl (Nat.le_of_ble_eq_true rfl) dX1_areStores_2 (fun X9 ce q9 G9 H9 l9 c9 s9 a1 a2 a3 a4 a5 a6 a7 a8 => gt_out hout hlocks (by show _ ≤ mc0; omega) (by show _ ≤ ms0; omega) a2 a3 a4 a5 a6 a1) (fun G2 H locs ce sl hvc_1 hG_2 hS_3 hMC_4 hMS_5 => ?_)
  clear hvc hG hS hMC hMS
  refine lv_iload_n hx hb dX1_areStores_5 rfl (lv_at hl 1 rfl) ?_
  refine lv_iconst (v := nI 1) hx hb dX1_areStores_6 (by decide) ?_
  have jn33 : ∀ (s0 : Int32) (G : g_G) (mc : Nat) (ms : Nat) (H : Heap) (locs : List Loc) (ls : Array Slot) (ce sl : Nat), wp_X1_areStores_33 E post px s0 G mc ms → g_H E G H → va_S (g_A E) s.heap H locs → lv_has ls 3 [] → ce + mc ≤ mc0 → sl + ms ≤ ms0 → W p l e ({ frames := 7, cells := mc0, slots := ms0, locals := 117 } : Room) s m ([.int p1, .int p2, .int p3] : List Value).toArray below meth c H locs ce sl (vx_MQ below (va_Qv (post) (g_Bk E) (g_A E)) (g_XC E px) ([.int p1, .int p2, .int p3] : List Value).toArray s mc0 ms0 (g_A E)) (F0 m 33 ls [.int s0]) := by
    clear hvc_1 hG_2 hS_3 hl hMC_4 hMS_5
    intro s0 G mc ms H locs ls ce sl hvc_6 hG_7 hS_8 hl_9 hMC_10 hMS_11
    obtain ⟨c7, t8, hc1, hs1, hvc_6⟩ := hvc_6
    refine gt_cSV (As := [.int s0]) (rest := [])  ⟨hx, hb, hml, hown, hts⟩ (met_X1_argument l hfl E G s0 c7 t8 _ _ hvc_6) (va_cwS 1 hts (lw_S q1450 q1451 q90 q1452) rfl rfl rfl (by decide +kernel) ⟨Nat.le_of_ble_eq_true rfl, Nat.le_of_ble_eq_true rfl⟩) hc1 hs1 hMC_10 hMS_11 (Nat.le_refl _) (Nat.le_refl _) (g_Y.st E) hz hY hK hG_7 hS_8 rfl hl_9.1 rfl (Nat.le_of_ble_eq_true rfl) dX1_areStores_33 (fun X9 ce q9 G9 H9 l9 c9 s9 a1 a2 a3 a4 a5 a6 a7 a8 => gt_out hout hlocks (by show _ ≤ mc0; omega) (by show _ ≤ ms0; omega) a2 a3 a4 a5 a6 a1) (fun G6 H locs ce sl hvc_12 hG_13 hS_14 hMC_15 hMS_16 => ?_)
    clear hvc_6 hG_7 hS_8 hMC_10 hMS_11
    exact vx_ret (g_vret hx hb hr hlocks (by show _ ≤ mc0; omega) (by show _ ≤ ms0; omega) hG_13 hS_14 hvc_12 dX1_areStores_36)
  have jn32 : ∀ (G : g_G) (mc : Nat) (ms : Nat) (H : Heap) (locs : List Loc) (ls : Array Slot) (ce sl : Nat), wp_X1_areStores_32 E post px (wp_X1_areStores_33 E post px) G mc ms → g_H E G H → va_S (g_A E) s.heap H locs → lv_has ls 3 [] → ce + mc ≤ mc0 → sl + ms ≤ ms0 → W p l e ({ frames := 7, cells := mc0, slots := ms0, locals := 117 } : Room) s m ([.int p1, .int p2, .int p3] : List Value).toArray below meth c H locs ce sl (vx_MQ below (va_Qv (post) (g_Bk E) (g_A E)) (g_XC E px) ([.int p1, .int p2, .int p3] : List Value).toArray s mc0 ms0 (g_A E)) (F0 m 32 ls []) := by
    clear hvc_1 hG_2 hS_3 hl hMC_4 hMS_5
    intro G mc ms H locs ls ce sl hvc_17 hG_18 hS_19 hl_20 hMC_21 hMS_22
    refine lv_iconst (v := nI 0) hx hb dX1_areStores_32 (by decide) ?_
    exact jn33 (nI 0) G mc ms _ _ _ _ _ hvc_17 hG_18 hS_19 (lv_sub hl_20 [] rfl) hMC_21 hMS_22
  refine lv_icmp_lt (tgt := 32) hx hb dX1_areStores_7 (by decide) (fun h9 => ?_) (fun h9 => ?_)
  · replace hvc_1 := hvc_1.1 h9
    exact jn32 G2 (mc0 - c3) (ms0 - t4) _ _ _ _ _ hvc_1 hG_2 hS_3 (lv_sub hl [] rfl) hMC_4 hMS_5
  · replace hvc_1 := hvc_1.2 h9
    refine lv_iload_n hx hb dX1_areStores_10 rfl (lv_at hl 1 rfl) ?_
    refine lv_bipush (v := nI 15) hx hb dX1_areStores_11 (by decide) ?_
    refine lv_icmp_gt (tgt := 32) hx hb dX1_areStores_13 (by decide) (fun h9 => ?_) (fun h9 => ?_)
    · replace hvc_1 := hvc_1.1 h9
      exact jn32 G2 (mc0 - c3) (ms0 - t4) _ _ _ _ _ hvc_1 hG_2 hS_3 (lv_sub hl [] rfl) hMC_4 hMS_5
    · replace hvc_1 := hvc_1.2 h9
      refine lv_iload_n hx hb dX1_areStores_16 rfl (lv_at hl 1 rfl) ?_
      refine lv_iload_n hx hb dX1_areStores_17 rfl (lv_at hl 0 rfl) ?_
      refine gw_cSIP (As := [.int p2, .int p1]) (rest := [])  ⟨hx, hb, hml, hown, hts⟩ (met_X1_has l E G2 p2 p1 _ hvc_1) (va_cwS 2 hts (lw_S q1449 q837 q90 q838) rfl rfl rfl (by decide +kernel) ⟨Nat.le_of_ble_eq_true rfl, Nat.le_of_ble_eq_true rfl⟩) (by show _ ≤ mc0; omega) (by show _ ≤ ms0; omega) (g_St0 E) hz trivial hK hG_2 hS_3 rfl hl.1 rfl (Nat.le_of_ble_eq_true rfl) dX1_areStores_18 (fun x9 H locs hvc_23 hG_24 hS_25 => ?_)
      clear hvc_1 hG_2 hS_3
      refine lv_if_ne (tgt := 32) hx hb dX1_areStores_21 (by decide) (fun h9 => ?_) (fun h9 => ?_)
      · replace hvc_23 := hvc_23.1 h9
        exact jn32 G2 (mc0 - c3) (ms0 - t4) _ _ _ _ _ hvc_23 hG_24 hS_25 (lv_sub hl [] rfl) hMC_4 hMS_5
      · replace hvc_23 := hvc_23.2 h9
        refine lv_iload_n hx hb dX1_areStores_24 rfl (lv_at hl 2 rfl) ?_
        refine lv_if_eq (tgt := 32) hx hb dX1_areStores_25 (by decide) (fun h9 => ?_) (fun h9 => ?_)
        · replace hvc_23 := hvc_23.1 h9
          exact jn32 G2 (mc0 - c3) (ms0 - t4) _ _ _ _ _ hvc_23 hG_24 hS_25 (lv_sub hl [] rfl) hMC_4 hMS_5
        · replace hvc_23 := hvc_23.2 h9
          refine lv_iconst (v := nI 1) hx hb dX1_areStores_28 (by decide) ?_
          refine lv_goto (tgt := 33) hx hb dX1_areStores_29 (by decide) ?_
          exact jn33 (nI 1) G2 (mc0 - c3) (ms0 - t4) _ _ _ _ _ hvc_23 hG_24 hS_25 (lv_sub hl [] rfl) hMC_4 hMS_5
set_option maxHeartbeats 4000000 in
set_option maxRecDepth 100000 in
theorem met_X1_state (l : Launch) (hfl : l.stackTraces = false) (E : g_E) (G : g_G) (p1 : Int32) (mc0 ms0 : Nat) (post : g_G → Prop) (px : String → g_G → Prop) (hvc : wp_X1_state E G p1 mc0 ms0 post px) : g_TV E l yX1_state (ws_ yX1_state cX1_state 1 (Option.none : Option Jvm.ClassFile.FieldType)) ({ frames := 6, cells := mc0, slots := ms0, locals := 96 } : Room) (g_Y E) [.int p1] G post px := by
  refine g_enterT (by decide +kernel) (Nat.le_of_ble_eq_true rfl) ?_
  intro p e s m below meth c ls hx hb hr hts hown hlocks hml hout hz hY hK hG hS hl
  have hX := hY.1
  have hl : lv_has ls 1 [(0, .int p1)] := hl
  have hown : s.vm.findClass RX1 = some m.cls := hown
  have hMC : 0 + mc0 ≤ mc0 := Nat.le_of_eq (Nat.zero_add _)
  have hMS : 0 + ms0 ≤ ms0 := Nat.le_of_eq (Nat.zero_add _)
  unfold wp_X1_state at hvc
  refine lv_iload_n hx hb dX1_state_0 rfl (lv_at hl 0 rfl) ?_
  refine lv_if_ne (tgt := 14) hx hb dX1_state_1 (by decide) (fun h9 => ?_) (fun h9 => ?_)
  · replace hvc := hvc.1 h9
    exact vx_ret (g_vret hx hb hr hlocks (by show _ ≤ mc0; omega) (by show _ ≤ ms0; omega) hG hS hvc dX1_state_14)
  · replace hvc := hvc.2 h9
    exact gy_make (rest := []) (cls := "java/lang/IllegalStateException") (text := "it can not be now") (names := ["java/lang/RuntimeException", "java/lang/Exception"]) (ik := 42) (is := 44) (ic := 46) (own := "VoteLogs") (ci := 15) hx hb hfl hvc hown (by decide) (by decide) (hts _ q1463) (hts _ q111) hY.2.2.2.1 (g_hats g_hat_state hts hY.1) (by decide +kernel) hY hz hK hG hS (by rw [hml]; exact hl.1) dX1_state_4 dX1_state_7 dX1_state_8 dX1_state_10 dX1_state_13 rfl (by show 5 < 6; decide) (Nat.le_of_ble_eq_true rfl) hMC hMS (Nat.le_refl _) (Nat.le_refl _) (fun q9 ce G9 H9 c9 s9 a1 a2 a3 a4 a5 a6 a7 a8 => gt_out hout hlocks (by show _ ≤ mc0; omega) (by show _ ≤ ms0; omega) a2 a3 a4 a5 a6 a1)
set_option maxHeartbeats 4000000 in
set_option maxRecDepth 100000 in
theorem met_X1_begin (l : Launch) (hfl : l.stackTraces = false) (E : g_E) (G : g_G) (o : Nat) (p1 : Int32) (p2 : Int32) (p3 : Int32) (mc0 ms0 : Nat) (post : Int32 → g_G → Prop) (px : String → g_G → Prop) (hvc : wp_X1_begin E G o p1 p2 p3 mc0 ms0 post px) : g_TI E l yX1_begin (ws_ yX1_begin cX1_begin 4 (Option.some Jvm.ClassFile.FieldType.int)) ({ frames := 10, cells := mc0, slots := ms0, locals := 260 } : Room) (g_Y E) [.ref o, .int p1, .int p2, .int p3] G post px := by
  refine g_enterT (by decide +kernel) (Nat.le_of_ble_eq_true rfl) ?_
  intro p e s m below meth c ls hx hb hr hts hown hlocks hml hout hz hY hK hG hS hl
  have hX := hY.1
  have hl : lv_has ls 4 [(0, .ref o), (1, .int p1), (2, .int p2), (3, .int p3)] := hl
  have hown : s.vm.findClass RX1 = some m.cls := hown
  have hMC : 0 + mc0 ≤ mc0 := Nat.le_of_eq (Nat.zero_add _)
  have hMS : 0 + ms0 ≤ ms0 := Nat.le_of_eq (Nat.zero_add _)
  unfold wp_X1_begin at hvc
  refine lv_iload_n hx hb dX1_begin_0 rfl (lv_at hl 1 rfl) ?_
  refine lv_iload_n hx hb dX1_begin_1 rfl (lv_at hl 2 rfl) ?_
  refine lv_iload_n hx hb dX1_begin_2 rfl (lv_at hl 3 rfl) ?_
  refine lv_iconst (v := nI 1) hx hb dX1_begin_3 (by decide) ?_
  have jn18 : ∀ (y0 : Nat) (y1 : Int32) (y2 : Int32) (y3 : Int32) (s0 : Int32) (s1 : Int32) (s2 : Int32) (G : g_G) (mc : Nat) (ms : Nat) (H : Heap) (locs : List Loc) (ls : Array Slot) (ce sl : Nat), wp_X1_begin_18 E post px y0 y1 y2 y3 s0 s1 s2 G mc ms → g_H E G H → va_S (g_A E) s.heap H locs → lv_has ls 4 [(0, .ref y0), (1, .int y1), (2, .int y2), (3, .int y3)] → ce + mc ≤ mc0 → sl + ms ≤ ms0 → W p l e ({ frames := 10, cells := mc0, slots := ms0, locals := 260 } : Room) s m ([.ref o, .int p1, .int p2, .int p3] : List Value).toArray below meth c H locs ce sl (vx_MQ below (va_Qi (post) (g_Bk E) (g_A E)) (g_XC E px) ([.ref o, .int p1, .int p2, .int p3] : List Value).toArray s mc0 ms0 (g_A E)) (F0 m 18 ls [.int s0, .int s1, .int s2]) := by
    clear hvc hG hS hl hMC hMS
    intro y0 y1 y2 y3 s0 s1 s2 G mc ms H locs ls ce sl hvc_1 hG_2 hS_3 hl_4 hMC_5 hMS_6
    obtain ⟨c3, t4, hc1, hs1, hvc_1⟩ := hvc_1
    refine gt_cSV (As := [.int s2, .int s1, .int s0]) (rest := [])  ⟨hx, hb, hml, hown, hts⟩ (met_X1_areStores l hfl E G s2 s1 s0 c3 t4 _ _ hvc_1) (va_cwS 3 hts (lw_S q1446 q1447 q90 q1448) rfl rfl rfl (by decide +kernel) ⟨Nat.le_of_ble_eq_true rfl, Nat.le_of_ble_eq_true rfl⟩) hc1 hs1 hMC_5 hMS_6 (Nat.le_refl _) (Nat.le_refl _) (g_Y.st E) hz hY hK hG_2 hS_3 rfl hl_4.1 rfl (Nat.le_of_ble_eq_true rfl) dX1_begin_18 (fun X9 ce q9 G9 H9 l9 c9 s9 a1 a2 a3 a4 a5 a6 a7 a8 => gt_out hout hlocks (by show _ ≤ mc0; omega) (by show _ ≤ ms0; omega) a2 a3 a4 a5 a6 a1) (fun G2 H locs ce sl hvc_7 hG_8 hS_9 hMC_10 hMS_11 => ?_)
    clear hvc_1 hG_2 hS_3 hMC_5 hMS_6
    refine lv_aload_n hx hb dX1_begin_21 rfl (lv_at hl_4 0 rfl) ?_
    refine gw_gr (C := RX1) (T := TX1) (N := 4) (own := RX1) hx hb hts in_X1 hown hK hG_8 hvc_7 rfl (by decide) (hts _ q348) (fun _ h9 => h9) dX1_begin_22 (fun x5 hvc_12 => ?_)
    clear hvc_7
    refine gw_cVIP (As := []) (rest := [])  ⟨hx, hb, hml, hown, hts⟩ (met_X2_canBegin l E G2 x5 _ hvc_12.2) (cwV 0 hts (lw_V q1456 q1457 q1458 q97 q1459) rfl rfl rfl (by decide +kernel) ⟨Nat.le_of_ble_eq_true rfl, Nat.le_of_ble_eq_true rfl⟩) (gw_rc (q := (RX2, TX2, 11)) hK hG_8 hvc_12.1 rfl) (by show _ ≤ mc0; omega) (by show _ ≤ ms0; omega) (g_X.st E) hz hX hK hG_8 hS_9 rfl hl_4.1 rfl (Nat.le_of_ble_eq_true rfl) dX1_begin_25 (fun x6 H locs hvc_13 hG_14 hS_15 => ?_)
    clear hvc_12 hG_8 hS_9
    obtain ⟨c10, t11, hc1, hs1, hvc_13⟩ := hvc_13
    refine gt_cSV (As := [.int x6]) (rest := [])  ⟨hx, hb, hml, hown, hts⟩ (met_X1_state l hfl E G2 x6 c10 t11 _ _ hvc_13) (va_cwS 1 hts (lw_S q1460 q1461 q90 q1462) rfl rfl rfl (by decide +kernel) ⟨Nat.le_of_ble_eq_true rfl, Nat.le_of_ble_eq_true rfl⟩) hc1 hs1 hMC_10 hMS_11 (Nat.le_refl _) (Nat.le_refl _) (g_Y.st E) hz hY hK hG_14 hS_15 rfl hl_4.1 rfl (Nat.le_of_ble_eq_true rfl) dX1_begin_28 (fun X9 ce q9 G9 H9 l9 c9 s9 a1 a2 a3 a4 a5 a6 a7 a8 => gt_out hout hlocks (by show _ ≤ mc0; omega) (by show _ ≤ ms0; omega) a2 a3 a4 a5 a6 a1) (fun G9 H locs ce sl hvc_16 hG_17 hS_18 hMC_19 hMS_20 => ?_)
    clear hvc_13 hG_14 hS_15 hMC_10 hMS_11
    refine lv_aload_n hx hb dX1_begin_31 rfl (lv_at hl_4 0 rfl) ?_
    obtain ⟨c14, t15, hc1, hs1, hvc_16⟩ := hvc_16
    refine gw_cVVA (As := []) (rest := [])  ⟨hx, hb, hml, hown, hts⟩ (met_X1_saves l E G9 y0 c14 t15 _ hvc_16.2) (cwV 0 hts (lw_V q363 q365 qs3 q90 q366) rfl rfl rfl (by decide +kernel) ⟨Nat.le_of_ble_eq_true rfl, Nat.le_of_ble_eq_true rfl⟩) (gw_rc (q := (RX1, TX1, 4)) hK hG_17 hvc_16.1 rfl) hc1 hs1 hMC_19 hMS_20 (Nat.le_refl _) (Nat.le_refl _) (g_X.st E) hz hX hK hG_17 hS_18 rfl hl_4.1 rfl (Nat.le_of_ble_eq_true rfl) dX1_begin_32 (fun G13 H locs ce sl hvc_21 hG_22 hS_23 hMC_24 hMS_25 => ?_)
    clear hvc_16 hG_17 hS_18 hMC_19 hMS_20
    refine lv_aload_n hx hb dX1_begin_35 rfl (lv_at hl_4 0 rfl) ?_
    refine gw_gr (C := RX1) (T := TX1) (N := 4) (own := RX1) hx hb hts in_X1 hown hK hG_22 hvc_21 rfl (by decide) (hts _ q348) (fun _ h9 => h9) dX1_begin_36 (fun x16 hvc_26 => ?_)
    clear hvc_21
    refine gw_new (C := RX4) (T := TX4) (N := 3) (own := RX1) hx hb hts in_X4 tyX4 tyX4_ok hown (hts _ q1312) (hts _ q1170) (hts _ q117) hK hG_22 hS_23 hz hvc_26 rfl (by decide) hMC_24 hMS_25 (Nat.le_refl _) (Nat.le_refl _) dX1_begin_39 (fun q17 G18 H ce sl hvc_27 hG_28 hS_29 hMC_30 hMS_31 => ?_)
    clear hvc_26 hG_22 hS_23 hMC_24 hMS_25
    refine lv_dup hx hb dX1_begin_42 rfl ?_
    refine lv_iload_n hx hb dX1_begin_43 rfl (lv_at hl_4 1 rfl) ?_
    refine lv_iload_n hx hb dX1_begin_44 rfl (lv_at hl_4 2 rfl) ?_
    refine lv_iload_n hx hb dX1_begin_45 rfl (lv_at hl_4 3 rfl) ?_
    refine gw_cCVN (As := [.int y1, .int y2, .int y3]) (rest := [.ref q17, .ref x16])  ⟨hx, hb, hml, hown, hts⟩ (met_X4_init l E G18 q17 y1 y2 y3 _ hvc_27) (cwI 3 hts (lw_meth q1173) rfl rfl rfl (hts _ q117) (hts _ q1466) (hts _ q1172) rfl (by decide +kernel) ⟨Nat.le_of_ble_eq_true rfl, Nat.le_of_ble_eq_true rfl⟩) (by show _ ≤ mc0; omega) (by show _ ≤ ms0; omega) (g_St0 E) hz trivial hK hG_28 hS_29 rfl hl_4.1 rfl (Nat.le_of_ble_eq_true rfl) dX1_begin_46 (fun G20 H locs hvc_32 hG_33 hS_34 => ?_)
    clear hvc_27 hG_28 hS_29
    obtain ⟨c23, t24, hc1, hs1, hvc_32⟩ := hvc_32
    refine gw_cVIA (As := [.ref q17]) (rest := [])  ⟨hx, hb, hml, hown, hts⟩ (met_X2_begins l E G20 x16 q17 c23 t24 _ hvc_32.2) (cwV 1 hts (lw_V q1467 q1468 q1469 q97 q1470) rfl rfl rfl (by decide +kernel) ⟨Nat.le_of_ble_eq_true rfl, Nat.le_of_ble_eq_true rfl⟩) (gw_rc (q := (RX2, TX2, 11)) hK hG_33 hvc_32.1 rfl) hc1 hs1 hMC_30 hMS_31 (Nat.le_refl _) (Nat.le_refl _) (g_X.st E) hz hX hK hG_33 hS_34 rfl hl_4.1 rfl (Nat.le_of_ble_eq_true rfl) dX1_begin_49 (fun x21 G22 H locs ce sl hvc_35 hG_36 hS_37 hMC_38 hMS_39 => ?_)
    clear hvc_32 hG_33 hS_34 hMC_30 hMS_31
    exact vx_ret (g_iret hx hb hr hlocks (by show _ ≤ mc0; omega) (by show _ ≤ ms0; omega) hG_36 hS_37 rfl hvc_35 dX1_begin_52)
  have jn17 : ∀ (y0 : Nat) (y1 : Int32) (y2 : Int32) (y3 : Int32) (s0 : Int32) (s1 : Int32) (G : g_G) (mc : Nat) (ms : Nat) (H : Heap) (locs : List Loc) (ls : Array Slot) (ce sl : Nat), wp_X1_begin_17 E post px (wp_X1_begin_18 E post px) y0 y1 y2 y3 s0 s1 G mc ms → g_H E G H → va_S (g_A E) s.heap H locs → lv_has ls 4 [(0, .ref y0), (1, .int y1), (2, .int y2), (3, .int y3)] → ce + mc ≤ mc0 → sl + ms ≤ ms0 → W p l e ({ frames := 10, cells := mc0, slots := ms0, locals := 260 } : Room) s m ([.ref o, .int p1, .int p2, .int p3] : List Value).toArray below meth c H locs ce sl (vx_MQ below (va_Qi (post) (g_Bk E) (g_A E)) (g_XC E px) ([.ref o, .int p1, .int p2, .int p3] : List Value).toArray s mc0 ms0 (g_A E)) (F0 m 17 ls [.int s0, .int s1]) := by
    clear hvc hG hS hl hMC hMS
    intro y0 y1 y2 y3 s0 s1 G mc ms H locs ls ce sl hvc_40 hG_41 hS_42 hl_43 hMC_44 hMS_45
    refine lv_iconst (v := nI 0) hx hb dX1_begin_17 (by decide) ?_
    exact jn18 y0 y1 y2 y3 (nI 0) s0 s1 G mc ms _ _ _ _ _ hvc_40 hG_41 hS_42 (lv_sub hl_43 [0, 1, 2, 3] rfl) hMC_44 hMS_45
  refine lv_icmp_lt (tgt := 17) hx hb dX1_begin_4 (by decide) (fun h9 => ?_) (fun h9 => ?_)
  · replace hvc := hvc.1 h9
    exact jn17 o p1 p2 p3 p2 p1 G mc0 ms0 _ _ _ _ _ hvc hG hS (lv_sub hl [0, 1, 2, 3] rfl) hMC hMS
  · replace hvc := hvc.2 h9
    refine lv_iload_n hx hb dX1_begin_7 rfl (lv_at hl 3 rfl) ?_
    refine lv_bipush (v := nI 50) hx hb dX1_begin_8 (by decide) ?_
    refine lv_icmp_gt (tgt := 17) hx hb dX1_begin_10 (by decide) (fun h9 => ?_) (fun h9 => ?_)
    · replace hvc := hvc.1 h9
      exact jn17 o p1 p2 p3 p2 p1 G mc0 ms0 _ _ _ _ _ hvc hG hS (lv_sub hl [0, 1, 2, 3] rfl) hMC hMS
    · replace hvc := hvc.2 h9
      refine lv_iconst (v := nI 1) hx hb dX1_begin_13 (by decide) ?_
      refine lv_goto (tgt := 18) hx hb dX1_begin_14 (by decide) ?_
      exact jn18 o p1 p2 p3 (nI 1) p2 p1 G mc0 ms0 _ _ _ _ _ hvc hG hS (lv_sub hl [0, 1, 2, 3] rfl) hMC hMS
set_option maxHeartbeats 4000000 in
set_option maxRecDepth 100000 in
theorem met_X1_giveUp (l : Launch) (hfl : l.stackTraces = false) (E : g_E) (G : g_G) (o : Nat) (p1 : Int32) (mc0 ms0 : Nat) (post : Int32 → g_G → Prop) (px : String → g_G → Prop) (hvc : wp_X1_giveUp E G o p1 mc0 ms0 post px) : g_TI E l yX1_giveUp (ws_ yX1_giveUp cX1_giveUp 2 (Option.some Jvm.ClassFile.FieldType.int)) ({ frames := 11, cells := mc0, slots := ms0, locals := 281 } : Room) (g_Y E) [.ref o, .int p1] G post px := by
  refine g_enterT (by decide +kernel) (Nat.le_of_ble_eq_true rfl) ?_
  intro p e s m below meth c ls hx hb hr hts hown hlocks hml hout hz hY hK hG hS hl
  have hX := hY.1
  have hl : lv_has ls 2 [(0, .ref o), (1, .int p1)] := hl
  have hown : s.vm.findClass RX1 = some m.cls := hown
  have hMC : 0 + mc0 ≤ mc0 := Nat.le_of_eq (Nat.zero_add _)
  have hMS : 0 + ms0 ≤ ms0 := Nat.le_of_eq (Nat.zero_add _)
  unfold wp_X1_giveUp at hvc
  refine lv_iload_n hx hb dX1_giveUp_0 rfl (lv_at hl 1 rfl) ?_
  refine lv_aload_n hx hb dX1_giveUp_1 rfl (lv_at hl 0 rfl) ?_
  refine gw_gr (C := RX1) (T := TX1) (N := 4) (own := RX1) hx hb hts in_X1 hown hK hG hvc rfl (by decide) (hts _ q348) (fun _ h9 => h9) dX1_giveUp_2 (fun x1 hvc_1 => ?_)
  clear hvc
  refine gw_grN (C := RX2) (T := TX2) (N := 11) (own := RX1) hx hb hts in_X2 hown hK hG hvc_1 rfl (by decide) (hX.1 _ q302 rfl) (fun _ h9 => h9) dX1_giveUp_5 (fun x2 hvc_2 => ?_)
  clear hvc_1
  refine gw_cFIP (As := []) (rest := [.int p1]) (hK.1 9 _ rfl).2  ⟨hx, hb, hml, hown, hts⟩ (met_J7_size l E G x2 _ hvc_2.2) (va_cwF 0 hts (lw_F q1229 q886 q888 q99 q890) rfl rfl rfl (hX.fw (List.mem_of_getElem? (i := 6) rfl)) (by decide +kernel) ⟨Nat.le_of_ble_eq_true rfl, Nat.le_of_ble_eq_true rfl⟩) (gw_rc (q := (RJ7, TJ7, 3)) hK hG hvc_2.1 rfl) (by show _ ≤ mc0; omega) (by show _ ≤ ms0; omega) (g_St0 E) hz trivial hK hG hS rfl hl.1 rfl (Nat.le_of_ble_eq_true rfl) dX1_giveUp_8 (fun x3 H locs hvc_3 hG_4 hS_5 => ?_)
  clear hvc_2 hG hS
  obtain ⟨c7, t8, hc1, hs1, hvc_3⟩ := hvc_3
  refine gt_cSV (As := [.int p1, .int x3]) (rest := [])  ⟨hx, hb, hml, hown, hts⟩ (met_X1_index l hfl E G p1 x3 c7 t8 _ _ hvc_3) (va_cwS 2 hts (lw_S q1359 q1360 q90 q1361) rfl rfl rfl (by decide +kernel) ⟨Nat.le_of_ble_eq_true rfl, Nat.le_of_ble_eq_true rfl⟩) hc1 hs1 hMC hMS (Nat.le_refl _) (Nat.le_refl _) (g_Y.st E) hz hY hK hG_4 hS_5 rfl hl.1 rfl (Nat.le_of_ble_eq_true rfl) dX1_giveUp_13 (fun X9 ce q9 G9 H9 l9 c9 s9 a1 a2 a3 a4 a5 a6 a7 a8 => gt_out hout hlocks (by show _ ≤ mc0; omega) (by show _ ≤ ms0; omega) a2 a3 a4 a5 a6 a1) (fun G6 H locs ce sl hvc_6 hG_7 hS_8 hMC_9 hMS_10 => ?_)
  clear hvc_3 hG_4 hS_5 hMC hMS
  refine lv_aload_n hx hb dX1_giveUp_16 rfl (lv_at hl 0 rfl) ?_
  refine gw_gr (C := RX1) (T := TX1) (N := 4) (own := RX1) hx hb hts in_X1 hown hK hG_7 hvc_6 rfl (by decide) (hts _ q348) (fun _ h9 => h9) dX1_giveUp_17 (fun x9 hvc_11 => ?_)
  clear hvc_6
  refine lv_iload_n hx hb dX1_giveUp_20 rfl (lv_at hl 1 rfl) ?_
  obtain ⟨c12, t13, hc1, hs1, hvc_11⟩ := hvc_11
  refine gw_cVIA (As := [.int p1]) (rest := [])  ⟨hx, hb, hml, hown, hts⟩ (met_X2_canGiveUp l E G6 x9 p1 c12 t13 _ hvc_11.2) (cwV 1 hts (lw_V q1480 q1481 q1482 q97 q1483) rfl rfl rfl (by decide +kernel) ⟨Nat.le_of_ble_eq_true rfl, Nat.le_of_ble_eq_true rfl⟩) (gw_rc (q := (RX2, TX2, 11)) hK hG_7 hvc_11.1 rfl) hc1 hs1 hMC_9 hMS_10 (Nat.le_refl _) (Nat.le_refl _) (g_X.st E) hz hX hK hG_7 hS_8 rfl hl.1 rfl (Nat.le_of_ble_eq_true rfl) dX1_giveUp_21 (fun x10 G11 H locs ce sl hvc_12 hG_13 hS_14 hMC_15 hMS_16 => ?_)
  clear hvc_11 hG_7 hS_8 hMC_9 hMS_10
  obtain ⟨c16, t17, hc1, hs1, hvc_12⟩ := hvc_12
  refine gt_cSV (As := [.int x10]) (rest := [])  ⟨hx, hb, hml, hown, hts⟩ (met_X1_state l hfl E G11 x10 c16 t17 _ _ hvc_12) (va_cwS 1 hts (lw_S q1460 q1461 q90 q1462) rfl rfl rfl (by decide +kernel) ⟨Nat.le_of_ble_eq_true rfl, Nat.le_of_ble_eq_true rfl⟩) hc1 hs1 hMC_15 hMS_16 (Nat.le_refl _) (Nat.le_refl _) (g_Y.st E) hz hY hK hG_13 hS_14 rfl hl.1 rfl (Nat.le_of_ble_eq_true rfl) dX1_giveUp_24 (fun X9 ce q9 G9 H9 l9 c9 s9 a1 a2 a3 a4 a5 a6 a7 a8 => gt_out hout hlocks (by show _ ≤ mc0; omega) (by show _ ≤ ms0; omega) a2 a3 a4 a5 a6 a1) (fun G15 H locs ce sl hvc_17 hG_18 hS_19 hMC_20 hMS_21 => ?_)
  clear hvc_12 hG_13 hS_14 hMC_15 hMS_16
  refine lv_aload_n hx hb dX1_giveUp_27 rfl (lv_at hl 0 rfl) ?_
  obtain ⟨c20, t21, hc1, hs1, hvc_17⟩ := hvc_17
  refine gw_cVVA (As := []) (rest := [])  ⟨hx, hb, hml, hown, hts⟩ (met_X1_saves l E G15 o c20 t21 _ hvc_17.2) (cwV 0 hts (lw_V q363 q365 qs3 q90 q366) rfl rfl rfl (by decide +kernel) ⟨Nat.le_of_ble_eq_true rfl, Nat.le_of_ble_eq_true rfl⟩) (gw_rc (q := (RX1, TX1, 4)) hK hG_18 hvc_17.1 rfl) hc1 hs1 hMC_20 hMS_21 (Nat.le_refl _) (Nat.le_refl _) (g_X.st E) hz hX hK hG_18 hS_19 rfl hl.1 rfl (Nat.le_of_ble_eq_true rfl) dX1_giveUp_28 (fun G19 H locs ce sl hvc_22 hG_23 hS_24 hMC_25 hMS_26 => ?_)
  clear hvc_17 hG_18 hS_19 hMC_20 hMS_21
  refine lv_aload_n hx hb dX1_giveUp_31 rfl (lv_at hl 0 rfl) ?_
  refine gw_gr (C := RX1) (T := TX1) (N := 4) (own := RX1) hx hb hts in_X1 hown hK hG_23 hvc_22 rfl (by decide) (hts _ q348) (fun _ h9 => h9) dX1_giveUp_32 (fun x22 hvc_27 => ?_)
  clear hvc_22
  refine lv_iload_n hx hb dX1_giveUp_35 rfl (lv_at hl 1 rfl) ?_
  obtain ⟨c25, t26, hc1, hs1, hvc_27⟩ := hvc_27
  refine gw_cVIA (As := [.int p1]) (rest := [])  ⟨hx, hb, hml, hown, hts⟩ (met_X2_givesUp l E G19 x22 p1 c25 t26 _ hvc_27.2) (cwV 1 hts (lw_V q1484 q1485 q1486 q97 q1487) rfl rfl rfl (by decide +kernel) ⟨Nat.le_of_ble_eq_true rfl, Nat.le_of_ble_eq_true rfl⟩) (gw_rc (q := (RX2, TX2, 11)) hK hG_23 hvc_27.1 rfl) hc1 hs1 hMC_25 hMS_26 (Nat.le_refl _) (Nat.le_refl _) (g_X.st E) hz hX hK hG_23 hS_24 rfl hl.1 rfl (Nat.le_of_ble_eq_true rfl) dX1_giveUp_36 (fun x23 G24 H locs ce sl hvc_28 hG_29 hS_30 hMC_31 hMS_32 => ?_)
  clear hvc_27 hG_23 hS_24 hMC_25 hMS_26
  exact vx_ret (g_iret hx hb hr hlocks (by show _ ≤ mc0; omega) (by show _ ≤ ms0; omega) hG_29 hS_30 rfl hvc_28 dX1_giveUp_39)
set_option maxHeartbeats 4000000 in
set_option maxRecDepth 100000 in
theorem met_X1_isStoreOf (l : Launch) (hfl : l.stackTraces = false) (E : g_E) (G : g_G) (o : Nat) (p1 : Int32) (p2 : Int32) (mc0 ms0 : Nat) (post : g_G → Prop) (px : String → g_G → Prop) (hvc : wp_X1_isStoreOf E G o p1 p2 mc0 ms0 post px) : g_TV E l yX1_isStoreOf (ws_ yX1_isStoreOf cX1_isStoreOf 3 (Option.none : Option Jvm.ClassFile.FieldType)) ({ frames := 7, cells := mc0, slots := ms0, locals := 117 } : Room) (g_Y E) [.ref o, .int p1, .int p2] G post px := by
  refine g_enterT (by decide +kernel) (Nat.le_of_ble_eq_true rfl) ?_
  intro p e s m below meth c ls hx hb hr hts hown hlocks hml hout hz hY hK hG hS hl
  have hX := hY.1
  have hl : lv_has ls 3 [(0, .ref o), (1, .int p1), (2, .int p2)] := hl
  have hown : s.vm.findClass RX1 = some m.cls := hown
  have hMC : 0 + mc0 ≤ mc0 := Nat.le_of_eq (Nat.zero_add _)
  have hMS : 0 + ms0 ≤ ms0 := Nat.le_of_eq (Nat.zero_add _)
  unfold wp_X1_isStoreOf at hvc
  refine lv_iload_n hx hb dX1_isStoreOf_0 rfl (lv_at hl 1 rfl) ?_
  refine lv_iconst (v := nI 4) hx hb dX1_isStoreOf_1 (by decide) ?_
  obtain ⟨c3, t4, hc1, hs1, hvc⟩ := hvc
  refine gt_cSV (As := [.int p1, .int (nI 4)]) (rest := [])  ⟨hx, hb, hml, hown, hts⟩ (met_X1_index l hfl E G p1 (nI 4) c3 t4 _ _ hvc) (va_cwS 2 hts (lw_S q1359 q1360 q90 q1361) rfl rfl rfl (by decide +kernel) ⟨Nat.le_of_ble_eq_true rfl, Nat.le_of_ble_eq_true rfl⟩) hc1 hs1 hMC hMS (Nat.le_refl _) (Nat.le_refl _) (g_Y.st E) hz hY hK hG hS rfl hl.1 rfl (Nat.le_of_ble_eq_true rfl) dX1_isStoreOf_2 (fun X9 ce q9 G9 H9 l9 c9 s9 a1 a2 a3 a4 a5 a6 a7 a8 => gt_out hout hlocks (by show _ ≤ mc0; omega) (by show _ ≤ ms0; omega) a2 a3 a4 a5 a6 a1) (fun G2 H locs ce sl hvc_1 hG_2 hS_3 hMC_4 hMS_5 => ?_)
  clear hvc hG hS hMC hMS
  refine lv_iload_n hx hb dX1_isStoreOf_5 rfl (lv_at hl 2 rfl) ?_
  refine lv_aload_n hx hb dX1_isStoreOf_6 rfl (lv_at hl 0 rfl) ?_
  refine gw_gr (C := RX1) (T := TX1) (N := 4) (own := RX1) hx hb hts in_X1 hown hK hG_2 hvc_1 rfl (by decide) (hts _ q348) (fun _ h9 => h9) dX1_isStoreOf_7 (fun x5 hvc_6 => ?_)
  clear hvc_1
  refine gw_grN (C := RX2) (T := TX2) (N := 11) (own := RX1) hx hb hts in_X2 hown hK hG_2 hvc_6 rfl (by decide) (hX.1 _ q302 rfl) (fun _ h9 => h9) dX1_isStoreOf_10 (fun x6 hvc_7 => ?_)
  clear hvc_6
  refine gw_cFIP (As := []) (rest := [.int p2]) (hK.1 9 _ rfl).2  ⟨hx, hb, hml, hown, hts⟩ (met_J7_size l E G2 x6 _ hvc_7.2) (va_cwF 0 hts (lw_F q1229 q886 q888 q99 q890) rfl rfl rfl (hX.fw (List.mem_of_getElem? (i := 6) rfl)) (by decide +kernel) ⟨Nat.le_of_ble_eq_true rfl, Nat.le_of_ble_eq_true rfl⟩) (gw_rc (q := (RJ7, TJ7, 3)) hK hG_2 hvc_7.1 rfl) (by show _ ≤ mc0; omega) (by show _ ≤ ms0; omega) (g_St0 E) hz trivial hK hG_2 hS_3 rfl hl.1 rfl (Nat.le_of_ble_eq_true rfl) dX1_isStoreOf_13 (fun x7 H locs hvc_8 hG_9 hS_10 => ?_)
  clear hvc_7 hG_2 hS_3
  obtain ⟨c11, t12, hc1, hs1, hvc_8⟩ := hvc_8
  refine gt_cSV (As := [.int p2, .int x7]) (rest := [])  ⟨hx, hb, hml, hown, hts⟩ (met_X1_index l hfl E G2 p2 x7 c11 t12 _ _ hvc_8) (va_cwS 2 hts (lw_S q1359 q1360 q90 q1361) rfl rfl rfl (by decide +kernel) ⟨Nat.le_of_ble_eq_true rfl, Nat.le_of_ble_eq_true rfl⟩) hc1 hs1 hMC_4 hMS_5 (Nat.le_refl _) (Nat.le_refl _) (g_Y.st E) hz hY hK hG_9 hS_10 rfl hl.1 rfl (Nat.le_of_ble_eq_true rfl) dX1_isStoreOf_18 (fun X9 ce q9 G9 H9 l9 c9 s9 a1 a2 a3 a4 a5 a6 a7 a8 => gt_out hout hlocks (by show _ ≤ mc0; omega) (by show _ ≤ ms0; omega) a2 a3 a4 a5 a6 a1) (fun G10 H locs ce sl hvc_11 hG_12 hS_13 hMC_14 hMS_15 => ?_)
  clear hvc_8 hG_9 hS_10 hMC_4 hMS_5
  exact vx_ret (g_vret hx hb hr hlocks (by show _ ≤ mc0; omega) (by show _ ≤ ms0; omega) hG_12 hS_13 hvc_11 dX1_isStoreOf_21)
set_option maxHeartbeats 4000000 in
set_option maxRecDepth 100000 in
theorem met_X1_ask (l : Launch) (hfl : l.stackTraces = false) (E : g_E) (G : g_G) (o : Nat) (p1 : Int32) (p2 : Int32) (mc0 ms0 : Nat) (post : Int32 → g_G → Prop) (px : String → g_G → Prop) (hvc : wp_X1_ask E G o p1 p2 mc0 ms0 post px) : g_TI E l yX1_ask (ws_ yX1_ask cX1_ask 3 (Option.some Jvm.ClassFile.FieldType.int)) ({ frames := 9, cells := mc0, slots := ms0, locals := 236 } : Room) (g_Y E) [.ref o, .int p1, .int p2] G post px := by
  refine g_enterT (by decide +kernel) (Nat.le_of_ble_eq_true rfl) ?_
  intro p e s m below meth c ls hx hb hr hts hown hlocks hml hout hz hY hK hG hS hl
  have hX := hY.1
  have hl : lv_has ls 3 [(0, .ref o), (1, .int p1), (2, .int p2)] := hl
  have hown : s.vm.findClass RX1 = some m.cls := hown
  have hMC : 0 + mc0 ≤ mc0 := Nat.le_of_eq (Nat.zero_add _)
  have hMS : 0 + ms0 ≤ ms0 := Nat.le_of_eq (Nat.zero_add _)
  unfold wp_X1_ask at hvc
  refine lv_aload_n hx hb dX1_ask_0 rfl (lv_at hl 0 rfl) ?_
  refine lv_iload_n hx hb dX1_ask_1 rfl (lv_at hl 1 rfl) ?_
  refine lv_iload_n hx hb dX1_ask_2 rfl (lv_at hl 2 rfl) ?_
  obtain ⟨c3, t4, hc1, hs1, hvc⟩ := hvc
  refine gt_cVV (As := [.int p1, .int p2]) (rest := [])  ⟨hx, hb, hml, hown, hts⟩ (met_X1_isStoreOf l hfl E G o p1 p2 c3 t4 _ _ hvc.2) (cwV 2 hts (lw_V q1495 q1497 qs27 q90 q1498) rfl rfl rfl (by decide +kernel) ⟨Nat.le_of_ble_eq_true rfl, Nat.le_of_ble_eq_true rfl⟩) (gw_rc (q := (RX1, TX1, 4)) hK hG hvc.1 rfl) hc1 hs1 hMC hMS (Nat.le_refl _) (Nat.le_refl _) (g_Y.st E) hz hY hK hG hS rfl hl.1 rfl (Nat.le_of_ble_eq_true rfl) dX1_ask_3 (fun X9 ce q9 G9 H9 l9 c9 s9 a1 a2 a3 a4 a5 a6 a7 a8 => gt_out hout hlocks (by show _ ≤ mc0; omega) (by show _ ≤ ms0; omega) a2 a3 a4 a5 a6 a1) (fun G2 H locs ce sl hvc_1 hG_2 hS_3 hMC_4 hMS_5 => ?_)
  clear hvc hG hS hMC hMS
  refine lv_aload_n hx hb dX1_ask_6 rfl (lv_at hl 0 rfl) ?_
  refine gw_gr (C := RX1) (T := TX1) (N := 4) (own := RX1) hx hb hts in_X1 hown hK hG_2 hvc_1 rfl (by decide) (hts _ q348) (fun _ h9 => h9) dX1_ask_7 (fun x5 hvc_6 => ?_)
  clear hvc_1
  refine lv_iload_n hx hb dX1_ask_10 rfl (lv_at hl 1 rfl) ?_
  refine lv_iload_n hx hb dX1_ask_11 rfl (lv_at hl 2 rfl) ?_
  refine gw_cVIP (As := [.int p1, .int p2]) (rest := [])  ⟨hx, hb, hml, hown, hts⟩ (met_X2_canAsk l E G2 x5 p1 p2 _ hvc_6.2) (cwV 2 hts (lw_V q1499 q1500 q1501 q97 q1502) rfl rfl rfl (by decide +kernel) ⟨Nat.le_of_ble_eq_true rfl, Nat.le_of_ble_eq_true rfl⟩) (gw_rc (q := (RX2, TX2, 11)) hK hG_2 hvc_6.1 rfl) (by show _ ≤ mc0; omega) (by show _ ≤ ms0; omega) (g_X.st E) hz hX hK hG_2 hS_3 rfl hl.1 rfl (Nat.le_of_ble_eq_true rfl) dX1_ask_12 (fun x6 H locs hvc_7 hG_8 hS_9 => ?_)
  clear hvc_6 hG_2 hS_3
  obtain ⟨c10, t11, hc1, hs1, hvc_7⟩ := hvc_7
  refine gt_cSV (As := [.int x6]) (rest := [])  ⟨hx, hb, hml, hown, hts⟩ (met_X1_state l hfl E G2 x6 c10 t11 _ _ hvc_7) (va_cwS 1 hts (lw_S q1460 q1461 q90 q1462) rfl rfl rfl (by decide +kernel) ⟨Nat.le_of_ble_eq_true rfl, Nat.le_of_ble_eq_true rfl⟩) hc1 hs1 hMC_4 hMS_5 (Nat.le_refl _) (Nat.le_refl _) (g_Y.st E) hz hY hK hG_8 hS_9 rfl hl.1 rfl (Nat.le_of_ble_eq_true rfl) dX1_ask_15 (fun X9 ce q9 G9 H9 l9 c9 s9 a1 a2 a3 a4 a5 a6 a7 a8 => gt_out hout hlocks (by show _ ≤ mc0; omega) (by show _ ≤ ms0; omega) a2 a3 a4 a5 a6 a1) (fun G9 H locs ce sl hvc_10 hG_11 hS_12 hMC_13 hMS_14 => ?_)
  clear hvc_7 hG_8 hS_9 hMC_4 hMS_5
  refine lv_aload_n hx hb dX1_ask_18 rfl (lv_at hl 0 rfl) ?_
  obtain ⟨c14, t15, hc1, hs1, hvc_10⟩ := hvc_10
  refine gw_cVVA (As := []) (rest := [])  ⟨hx, hb, hml, hown, hts⟩ (met_X1_saves l E G9 o c14 t15 _ hvc_10.2) (cwV 0 hts (lw_V q363 q365 qs3 q90 q366) rfl rfl rfl (by decide +kernel) ⟨Nat.le_of_ble_eq_true rfl, Nat.le_of_ble_eq_true rfl⟩) (gw_rc (q := (RX1, TX1, 4)) hK hG_11 hvc_10.1 rfl) hc1 hs1 hMC_13 hMS_14 (Nat.le_refl _) (Nat.le_refl _) (g_X.st E) hz hX hK hG_11 hS_12 rfl hl.1 rfl (Nat.le_of_ble_eq_true rfl) dX1_ask_19 (fun G13 H locs ce sl hvc_15 hG_16 hS_17 hMC_18 hMS_19 => ?_)
  clear hvc_10 hG_11 hS_12 hMC_13 hMS_14
  refine lv_aload_n hx hb dX1_ask_22 rfl (lv_at hl 0 rfl) ?_
  refine gw_gr (C := RX1) (T := TX1) (N := 4) (own := RX1) hx hb hts in_X1 hown hK hG_16 hvc_15 rfl (by decide) (hts _ q348) (fun _ h9 => h9) dX1_ask_23 (fun x16 hvc_20 => ?_)
  clear hvc_15
  refine lv_iload_n hx hb dX1_ask_26 rfl (lv_at hl 1 rfl) ?_
  refine lv_iload_n hx hb dX1_ask_27 rfl (lv_at hl 2 rfl) ?_
  obtain ⟨c19, t20, hc1, hs1, hvc_20⟩ := hvc_20
  refine gw_cVIA (As := [.int p1, .int p2]) (rest := [])  ⟨hx, hb, hml, hown, hts⟩ (met_X2_asks l E G13 x16 p1 p2 c19 t20 _ hvc_20.2) (cwV 2 hts (lw_V q1503 q1504 q1505 q97 q1506) rfl rfl rfl (by decide +kernel) ⟨Nat.le_of_ble_eq_true rfl, Nat.le_of_ble_eq_true rfl⟩) (gw_rc (q := (RX2, TX2, 11)) hK hG_16 hvc_20.1 rfl) hc1 hs1 hMC_18 hMS_19 (Nat.le_refl _) (Nat.le_refl _) (g_X.st E) hz hX hK hG_16 hS_17 rfl hl.1 rfl (Nat.le_of_ble_eq_true rfl) dX1_ask_28 (fun x17 G18 H locs ce sl hvc_21 hG_22 hS_23 hMC_24 hMS_25 => ?_)
  clear hvc_20 hG_16 hS_17 hMC_18 hMS_19
  exact vx_ret (g_iret hx hb hr hlocks (by show _ ≤ mc0; omega) (by show _ ≤ ms0; omega) hG_22 hS_23 rfl hvc_21 dX1_ask_31)
set_option maxHeartbeats 4000000 in
set_option maxRecDepth 100000 in
theorem met_X1_deliver (l : Launch) (hfl : l.stackTraces = false) (E : g_E) (G : g_G) (o : Nat) (p1 : Int32) (mc0 ms0 : Nat) (post : Int32 → g_G → Prop) (px : String → g_G → Prop) (hvc : wp_X1_deliver E G o p1 mc0 ms0 post px) : g_TI E l yX1_deliver (ws_ yX1_deliver cX1_deliver 2 (Option.some Jvm.ClassFile.FieldType.boolean)) ({ frames := 13, cells := mc0, slots := ms0, locals := 327 } : Room) (g_Y E) [.ref o, .int p1] G post px := by
  refine g_enterT (by decide +kernel) (Nat.le_of_ble_eq_true rfl) ?_
  intro p e s m below meth c ls hx hb hr hts hown hlocks hml hout hz hY hK hG hS hl
  have hX := hY.1
  have hl : lv_has ls 2 [(0, .ref o), (1, .int p1)] := hl
  have hown : s.vm.findClass RX1 = some m.cls := hown
  have hMC : 0 + mc0 ≤ mc0 := Nat.le_of_eq (Nat.zero_add _)
  have hMS : 0 + ms0 ≤ ms0 := Nat.le_of_eq (Nat.zero_add _)
  unfold wp_X1_deliver at hvc
  refine lv_iload_n hx hb dX1_deliver_0 rfl (lv_at hl 1 rfl) ?_
  refine lv_aload_n hx hb dX1_deliver_1 rfl (lv_at hl 0 rfl) ?_
  refine gw_gr (C := RX1) (T := TX1) (N := 4) (own := RX1) hx hb hts in_X1 hown hK hG hvc rfl (by decide) (hts _ q348) (fun _ h9 => h9) dX1_deliver_2 (fun x1 hvc_1 => ?_)
  clear hvc
  refine gw_grN (C := RX2) (T := TX2) (N := 11) (own := RX1) hx hb hts in_X2 hown hK hG hvc_1 rfl (by decide) (hX.1 _ q306 rfl) (fun _ h9 => h9) dX1_deliver_5 (fun x2 hvc_2 => ?_)
  clear hvc_1
  refine gw_cFIP (As := []) (rest := [.int p1]) (hK.1 9 _ rfl).2  ⟨hx, hb, hml, hown, hts⟩ (met_J7_size l E G x2 _ hvc_2.2) (va_cwF 0 hts (lw_F q1229 q886 q888 q99 q890) rfl rfl rfl (hX.fw (List.mem_of_getElem? (i := 6) rfl)) (by decide +kernel) ⟨Nat.le_of_ble_eq_true rfl, Nat.le_of_ble_eq_true rfl⟩) (gw_rc (q := (RJ7, TJ7, 3)) hK hG hvc_2.1 rfl) (by show _ ≤ mc0; omega) (by show _ ≤ ms0; omega) (g_St0 E) hz trivial hK hG hS rfl hl.1 rfl (Nat.le_of_ble_eq_true rfl) dX1_deliver_8 (fun x3 H locs hvc_3 hG_4 hS_5 => ?_)
  clear hvc_2 hG hS
  obtain ⟨c7, t8, hc1, hs1, hvc_3⟩ := hvc_3
  refine gt_cSV (As := [.int p1, .int x3]) (rest := [])  ⟨hx, hb, hml, hown, hts⟩ (met_X1_index l hfl E G p1 x3 c7 t8 _ _ hvc_3) (va_cwS 2 hts (lw_S q1359 q1360 q90 q1361) rfl rfl rfl (by decide +kernel) ⟨Nat.le_of_ble_eq_true rfl, Nat.le_of_ble_eq_true rfl⟩) hc1 hs1 hMC hMS (Nat.le_refl _) (Nat.le_refl _) (g_Y.st E) hz hY hK hG_4 hS_5 rfl hl.1 rfl (Nat.le_of_ble_eq_true rfl) dX1_deliver_13 (fun X9 ce q9 G9 H9 l9 c9 s9 a1 a2 a3 a4 a5 a6 a7 a8 => gt_out hout hlocks (by show _ ≤ mc0; omega) (by show _ ≤ ms0; omega) a2 a3 a4 a5 a6 a1) (fun G6 H locs ce sl hvc_6 hG_7 hS_8 hMC_9 hMS_10 => ?_)
  clear hvc_3 hG_4 hS_5 hMC hMS
  refine lv_aload_n hx hb dX1_deliver_16 rfl (lv_at hl 0 rfl) ?_
  obtain ⟨c11, t12, hc1, hs1, hvc_6⟩ := hvc_6
  refine gw_cVVA (As := []) (rest := [])  ⟨hx, hb, hml, hown, hts⟩ (met_X1_saves l E G6 o c11 t12 _ hvc_6.2) (cwV 0 hts (lw_V q363 q365 qs3 q90 q366) rfl rfl rfl (by decide +kernel) ⟨Nat.le_of_ble_eq_true rfl, Nat.le_of_ble_eq_true rfl⟩) (gw_rc (q := (RX1, TX1, 4)) hK hG_7 hvc_6.1 rfl) hc1 hs1 hMC_9 hMS_10 (Nat.le_refl _) (Nat.le_refl _) (g_X.st E) hz hX hK hG_7 hS_8 rfl hl.1 rfl (Nat.le_of_ble_eq_true rfl) dX1_deliver_17 (fun G10 H locs ce sl hvc_11 hG_12 hS_13 hMC_14 hMS_15 => ?_)
  clear hvc_6 hG_7 hS_8 hMC_9 hMS_10
  refine lv_aload_n hx hb dX1_deliver_20 rfl (lv_at hl 0 rfl) ?_
  refine gw_gr (C := RX1) (T := TX1) (N := 4) (own := RX1) hx hb hts in_X1 hown hK hG_12 hvc_11 rfl (by decide) (hts _ q348) (fun _ h9 => h9) dX1_deliver_21 (fun x13 hvc_16 => ?_)
  clear hvc_11
  refine lv_iload_n hx hb dX1_deliver_24 rfl (lv_at hl 1 rfl) ?_
  obtain ⟨c16, t17, hc1, hs1, hvc_16⟩ := hvc_16
  refine gw_cVIA (As := [.int p1]) (rest := [])  ⟨hx, hb, hml, hown, hts⟩ (met_X2_delivers l E G10 x13 p1 c16 t17 _ hvc_16.2) (cwV 1 hts (lw_V q1400 q805 q806 q97 q807) rfl rfl rfl (by decide +kernel) ⟨Nat.le_of_ble_eq_true rfl, Nat.le_of_ble_eq_true rfl⟩) (gw_rc (q := (RX2, TX2, 11)) hK hG_12 hvc_16.1 rfl) hc1 hs1 hMC_14 hMS_15 (Nat.le_refl _) (Nat.le_refl _) (g_X.st E) hz hX hK hG_12 hS_13 rfl hl.1 rfl (Nat.le_of_ble_eq_true rfl) dX1_deliver_25 (fun x14 G15 H locs ce sl hvc_17 hG_18 hS_19 hMC_20 hMS_21 => ?_)
  clear hvc_16 hG_12 hS_13 hMC_14 hMS_15
  exact vx_ret (g_iret hx hb hr hlocks (by show _ ≤ mc0; omega) (by show _ ≤ ms0; omega) hG_18 hS_19 hvc_17.1 hvc_17.2 dX1_deliver_28)
set_option maxHeartbeats 4000000 in
set_option maxRecDepth 100000 in
theorem met_X1_lose (l : Launch) (hfl : l.stackTraces = false) (E : g_E) (G : g_G) (o : Nat) (p1 : Int32) (mc0 ms0 : Nat) (post : Int32 → g_G → Prop) (px : String → g_G → Prop) (hvc : wp_X1_lose E G o p1 mc0 ms0 post px) : g_TI E l yX1_lose (ws_ yX1_lose cX1_lose 2 (Option.some Jvm.ClassFile.FieldType.int)) ({ frames := 9, cells := mc0, slots := ms0, locals := 234 } : Room) (g_Y E) [.ref o, .int p1] G post px := by
  refine g_enterT (by decide +kernel) (Nat.le_of_ble_eq_true rfl) ?_
  intro p e s m below meth c ls hx hb hr hts hown hlocks hml hout hz hY hK hG hS hl
  have hX := hY.1
  have hl : lv_has ls 2 [(0, .ref o), (1, .int p1)] := hl
  have hown : s.vm.findClass RX1 = some m.cls := hown
  have hMC : 0 + mc0 ≤ mc0 := Nat.le_of_eq (Nat.zero_add _)
  have hMS : 0 + ms0 ≤ ms0 := Nat.le_of_eq (Nat.zero_add _)
  unfold wp_X1_lose at hvc
  refine lv_iload_n hx hb dX1_lose_0 rfl (lv_at hl 1 rfl) ?_
  refine lv_aload_n hx hb dX1_lose_1 rfl (lv_at hl 0 rfl) ?_
  refine gw_gr (C := RX1) (T := TX1) (N := 4) (own := RX1) hx hb hts in_X1 hown hK hG hvc rfl (by decide) (hts _ q348) (fun _ h9 => h9) dX1_lose_2 (fun x1 hvc_1 => ?_)
  clear hvc
  refine gw_grN (C := RX2) (T := TX2) (N := 11) (own := RX1) hx hb hts in_X2 hown hK hG hvc_1 rfl (by decide) (hX.1 _ q306 rfl) (fun _ h9 => h9) dX1_lose_5 (fun x2 hvc_2 => ?_)
  clear hvc_1
  refine gw_cFIP (As := []) (rest := [.int p1]) (hK.1 9 _ rfl).2  ⟨hx, hb, hml, hown, hts⟩ (met_J7_size l E G x2 _ hvc_2.2) (va_cwF 0 hts (lw_F q1229 q886 q888 q99 q890) rfl rfl rfl (hX.fw (List.mem_of_getElem? (i := 6) rfl)) (by decide +kernel) ⟨Nat.le_of_ble_eq_true rfl, Nat.le_of_ble_eq_true rfl⟩) (gw_rc (q := (RJ7, TJ7, 3)) hK hG hvc_2.1 rfl) (by show _ ≤ mc0; omega) (by show _ ≤ ms0; omega) (g_St0 E) hz trivial hK hG hS rfl hl.1 rfl (Nat.le_of_ble_eq_true rfl) dX1_lose_8 (fun x3 H locs hvc_3 hG_4 hS_5 => ?_)
  clear hvc_2 hG hS
  obtain ⟨c7, t8, hc1, hs1, hvc_3⟩ := hvc_3
  refine gt_cSV (As := [.int p1, .int x3]) (rest := [])  ⟨hx, hb, hml, hown, hts⟩ (met_X1_index l hfl E G p1 x3 c7 t8 _ _ hvc_3) (va_cwS 2 hts (lw_S q1359 q1360 q90 q1361) rfl rfl rfl (by decide +kernel) ⟨Nat.le_of_ble_eq_true rfl, Nat.le_of_ble_eq_true rfl⟩) hc1 hs1 hMC hMS (Nat.le_refl _) (Nat.le_refl _) (g_Y.st E) hz hY hK hG_4 hS_5 rfl hl.1 rfl (Nat.le_of_ble_eq_true rfl) dX1_lose_13 (fun X9 ce q9 G9 H9 l9 c9 s9 a1 a2 a3 a4 a5 a6 a7 a8 => gt_out hout hlocks (by show _ ≤ mc0; omega) (by show _ ≤ ms0; omega) a2 a3 a4 a5 a6 a1) (fun G6 H locs ce sl hvc_6 hG_7 hS_8 hMC_9 hMS_10 => ?_)
  clear hvc_3 hG_4 hS_5 hMC hMS
  refine lv_aload_n hx hb dX1_lose_16 rfl (lv_at hl 0 rfl) ?_
  obtain ⟨c11, t12, hc1, hs1, hvc_6⟩ := hvc_6
  refine gw_cVVA (As := []) (rest := [])  ⟨hx, hb, hml, hown, hts⟩ (met_X1_saves l E G6 o c11 t12 _ hvc_6.2) (cwV 0 hts (lw_V q363 q365 qs3 q90 q366) rfl rfl rfl (by decide +kernel) ⟨Nat.le_of_ble_eq_true rfl, Nat.le_of_ble_eq_true rfl⟩) (gw_rc (q := (RX1, TX1, 4)) hK hG_7 hvc_6.1 rfl) hc1 hs1 hMC_9 hMS_10 (Nat.le_refl _) (Nat.le_refl _) (g_X.st E) hz hX hK hG_7 hS_8 rfl hl.1 rfl (Nat.le_of_ble_eq_true rfl) dX1_lose_17 (fun G10 H locs ce sl hvc_11 hG_12 hS_13 hMC_14 hMS_15 => ?_)
  clear hvc_6 hG_7 hS_8 hMC_9 hMS_10
  refine lv_aload_n hx hb dX1_lose_20 rfl (lv_at hl 0 rfl) ?_
  refine gw_gr (C := RX1) (T := TX1) (N := 4) (own := RX1) hx hb hts in_X1 hown hK hG_12 hvc_11 rfl (by decide) (hts _ q348) (fun _ h9 => h9) dX1_lose_21 (fun x13 hvc_16 => ?_)
  clear hvc_11
  refine lv_iload_n hx hb dX1_lose_24 rfl (lv_at hl 1 rfl) ?_
  refine gw_cVIN (As := [.int p1]) (rest := [])  ⟨hx, hb, hml, hown, hts⟩ (met_X2_loses l E G10 x13 p1 _ hvc_16.2) (cwV 1 hts (lw_V q1521 q1522 q1523 q97 q1524) rfl rfl rfl (by decide +kernel) ⟨Nat.le_of_ble_eq_true rfl, Nat.le_of_ble_eq_true rfl⟩) (gw_rc (q := (RX2, TX2, 11)) hK hG_12 hvc_16.1 rfl) (by show _ ≤ mc0; omega) (by show _ ≤ ms0; omega) (g_X.st E) hz hX hK hG_12 hS_13 rfl hl.1 rfl (Nat.le_of_ble_eq_true rfl) dX1_lose_25 (fun x14 G15 H locs hvc_17 hG_18 hS_19 => ?_)
  clear hvc_16 hG_12 hS_13
  exact vx_ret (g_iret hx hb hr hlocks (by show _ ≤ mc0; omega) (by show _ ≤ ms0; omega) hG_18 hS_19 rfl hvc_17 dX1_lose_28)
set_option maxHeartbeats 4000000 in
set_option maxRecDepth 100000 in
theorem met_X1_crash (l : Launch) (hfl : l.stackTraces = false) (E : g_E) (G : g_G) (o : Nat) (p1 : Int32) (mc0 ms0 : Nat) (post : Int32 → g_G → Prop) (px : String → g_G → Prop) (hvc : wp_X1_crash E G o p1 mc0 ms0 post px) : g_TI E l yX1_crash (ws_ yX1_crash cX1_crash 2 (Option.some Jvm.ClassFile.FieldType.int)) ({ frames := 9, cells := mc0, slots := ms0, locals := 234 } : Room) (g_Y E) [.ref o, .int p1] G post px := by
  refine g_enterT (by decide +kernel) (Nat.le_of_ble_eq_true rfl) ?_
  intro p e s m below meth c ls hx hb hr hts hown hlocks hml hout hz hY hK hG hS hl
  have hX := hY.1
  have hl : lv_has ls 2 [(0, .ref o), (1, .int p1)] := hl
  have hown : s.vm.findClass RX1 = some m.cls := hown
  have hMC : 0 + mc0 ≤ mc0 := Nat.le_of_eq (Nat.zero_add _)
  have hMS : 0 + ms0 ≤ ms0 := Nat.le_of_eq (Nat.zero_add _)
  unfold wp_X1_crash at hvc
  refine lv_iload_n hx hb dX1_crash_0 rfl (lv_at hl 1 rfl) ?_
  refine lv_iconst (v := nI 5) hx hb dX1_crash_1 (by decide) ?_
  obtain ⟨c3, t4, hc1, hs1, hvc⟩ := hvc
  refine gt_cSV (As := [.int p1, .int (nI 5)]) (rest := [])  ⟨hx, hb, hml, hown, hts⟩ (met_X1_index l hfl E G p1 (nI 5) c3 t4 _ _ hvc) (va_cwS 2 hts (lw_S q1359 q1360 q90 q1361) rfl rfl rfl (by decide +kernel) ⟨Nat.le_of_ble_eq_true rfl, Nat.le_of_ble_eq_true rfl⟩) hc1 hs1 hMC hMS (Nat.le_refl _) (Nat.le_refl _) (g_Y.st E) hz hY hK hG hS rfl hl.1 rfl (Nat.le_of_ble_eq_true rfl) dX1_crash_2 (fun X9 ce q9 G9 H9 l9 c9 s9 a1 a2 a3 a4 a5 a6 a7 a8 => gt_out hout hlocks (by show _ ≤ mc0; omega) (by show _ ≤ ms0; omega) a2 a3 a4 a5 a6 a1) (fun G2 H locs ce sl hvc_1 hG_2 hS_3 hMC_4 hMS_5 => ?_)
  clear hvc hG hS hMC hMS
  refine lv_aload_n hx hb dX1_crash_5 rfl (lv_at hl 0 rfl) ?_
  refine gw_gr (C := RX1) (T := TX1) (N := 4) (own := RX1) hx hb hts in_X1 hown hK hG_2 hvc_1 rfl (by decide) (hts _ q348) (fun _ h9 => h9) dX1_crash_6 (fun x5 hvc_6 => ?_)
  clear hvc_1
  refine lv_iload_n hx hb dX1_crash_9 rfl (lv_at hl 1 rfl) ?_
  refine gw_cVIP (As := [.int p1]) (rest := [])  ⟨hx, hb, hml, hown, hts⟩ (met_X2_isUp l E G2 x5 p1 _ hvc_6.2) (cwV 1 hts (lw_V q1338 q833 q834 q97 q835) rfl rfl rfl (by decide +kernel) ⟨Nat.le_of_ble_eq_true rfl, Nat.le_of_ble_eq_true rfl⟩) (gw_rc (q := (RX2, TX2, 11)) hK hG_2 hvc_6.1 rfl) (by show _ ≤ mc0; omega) (by show _ ≤ ms0; omega) (g_X.st E) hz hX hK hG_2 hS_3 rfl hl.1 rfl (Nat.le_of_ble_eq_true rfl) dX1_crash_10 (fun x6 H locs hvc_7 hG_8 hS_9 => ?_)
  clear hvc_6 hG_2 hS_3
  obtain ⟨c10, t11, hc1, hs1, hvc_7⟩ := hvc_7
  refine gt_cSV (As := [.int x6]) (rest := [])  ⟨hx, hb, hml, hown, hts⟩ (met_X1_state l hfl E G2 x6 c10 t11 _ _ hvc_7) (va_cwS 1 hts (lw_S q1460 q1461 q90 q1462) rfl rfl rfl (by decide +kernel) ⟨Nat.le_of_ble_eq_true rfl, Nat.le_of_ble_eq_true rfl⟩) hc1 hs1 hMC_4 hMS_5 (Nat.le_refl _) (Nat.le_refl _) (g_Y.st E) hz hY hK hG_8 hS_9 rfl hl.1 rfl (Nat.le_of_ble_eq_true rfl) dX1_crash_13 (fun X9 ce q9 G9 H9 l9 c9 s9 a1 a2 a3 a4 a5 a6 a7 a8 => gt_out hout hlocks (by show _ ≤ mc0; omega) (by show _ ≤ ms0; omega) a2 a3 a4 a5 a6 a1) (fun G9 H locs ce sl hvc_10 hG_11 hS_12 hMC_13 hMS_14 => ?_)
  clear hvc_7 hG_8 hS_9 hMC_4 hMS_5
  refine lv_aload_n hx hb dX1_crash_16 rfl (lv_at hl 0 rfl) ?_
  obtain ⟨c14, t15, hc1, hs1, hvc_10⟩ := hvc_10
  refine gw_cVVA (As := []) (rest := [])  ⟨hx, hb, hml, hown, hts⟩ (met_X1_saves l E G9 o c14 t15 _ hvc_10.2) (cwV 0 hts (lw_V q363 q365 qs3 q90 q366) rfl rfl rfl (by decide +kernel) ⟨Nat.le_of_ble_eq_true rfl, Nat.le_of_ble_eq_true rfl⟩) (gw_rc (q := (RX1, TX1, 4)) hK hG_11 hvc_10.1 rfl) hc1 hs1 hMC_13 hMS_14 (Nat.le_refl _) (Nat.le_refl _) (g_X.st E) hz hX hK hG_11 hS_12 rfl hl.1 rfl (Nat.le_of_ble_eq_true rfl) dX1_crash_17 (fun G13 H locs ce sl hvc_15 hG_16 hS_17 hMC_18 hMS_19 => ?_)
  clear hvc_10 hG_11 hS_12 hMC_13 hMS_14
  refine lv_aload_n hx hb dX1_crash_20 rfl (lv_at hl 0 rfl) ?_
  refine gw_gr (C := RX1) (T := TX1) (N := 4) (own := RX1) hx hb hts in_X1 hown hK hG_16 hvc_15 rfl (by decide) (hts _ q348) (fun _ h9 => h9) dX1_crash_21 (fun x16 hvc_20 => ?_)
  clear hvc_15
  refine lv_iload_n hx hb dX1_crash_24 rfl (lv_at hl 1 rfl) ?_
  refine gw_cVIN (As := [.int p1]) (rest := [])  ⟨hx, hb, hml, hown, hts⟩ (met_X2_crashes l E G13 x16 p1 _ hvc_20.2) (cwV 1 hts (lw_V q1533 q1534 q1535 q97 q1536) rfl rfl rfl (by decide +kernel) ⟨Nat.le_of_ble_eq_true rfl, Nat.le_of_ble_eq_true rfl⟩) (gw_rc (q := (RX2, TX2, 11)) hK hG_16 hvc_20.1 rfl) (by show _ ≤ mc0; omega) (by show _ ≤ ms0; omega) (g_St0 E) hz trivial hK hG_16 hS_17 rfl hl.1 rfl (Nat.le_of_ble_eq_true rfl) dX1_crash_25 (fun x17 G18 H locs hvc_21 hG_22 hS_23 => ?_)
  clear hvc_20 hG_16 hS_17
  exact vx_ret (g_iret hx hb hr hlocks (by show _ ≤ mc0; omega) (by show _ ≤ ms0; omega) hG_22 hS_23 rfl hvc_21 dX1_crash_28)
set_option maxHeartbeats 4000000 in
set_option maxRecDepth 100000 in
theorem met_X1_recover (l : Launch) (hfl : l.stackTraces = false) (E : g_E) (G : g_G) (o : Nat) (p1 : Int32) (mc0 ms0 : Nat) (post : Int32 → g_G → Prop) (px : String → g_G → Prop) (hvc : wp_X1_recover E G o p1 mc0 ms0 post px) : g_TI E l yX1_recover (ws_ yX1_recover cX1_recover 2 (Option.some Jvm.ClassFile.FieldType.int)) ({ frames := 12, cells := mc0, slots := ms0, locals := 303 } : Room) (g_Y E) [.ref o, .int p1] G post px := by
  refine g_enterT (by decide +kernel) (Nat.le_of_ble_eq_true rfl) ?_
  intro p e s m below meth c ls hx hb hr hts hown hlocks hml hout hz hY hK hG hS hl
  have hX := hY.1
  have hl : lv_has ls 2 [(0, .ref o), (1, .int p1)] := hl
  have hown : s.vm.findClass RX1 = some m.cls := hown
  have hMC : 0 + mc0 ≤ mc0 := Nat.le_of_eq (Nat.zero_add _)
  have hMS : 0 + ms0 ≤ ms0 := Nat.le_of_eq (Nat.zero_add _)
  unfold wp_X1_recover at hvc
  refine lv_iload_n hx hb dX1_recover_0 rfl (lv_at hl 1 rfl) ?_
  refine lv_iconst (v := nI 5) hx hb dX1_recover_1 (by decide) ?_
  obtain ⟨c3, t4, hc1, hs1, hvc⟩ := hvc
  refine gt_cSV (As := [.int p1, .int (nI 5)]) (rest := [])  ⟨hx, hb, hml, hown, hts⟩ (met_X1_index l hfl E G p1 (nI 5) c3 t4 _ _ hvc) (va_cwS 2 hts (lw_S q1359 q1360 q90 q1361) rfl rfl rfl (by decide +kernel) ⟨Nat.le_of_ble_eq_true rfl, Nat.le_of_ble_eq_true rfl⟩) hc1 hs1 hMC hMS (Nat.le_refl _) (Nat.le_refl _) (g_Y.st E) hz hY hK hG hS rfl hl.1 rfl (Nat.le_of_ble_eq_true rfl) dX1_recover_2 (fun X9 ce q9 G9 H9 l9 c9 s9 a1 a2 a3 a4 a5 a6 a7 a8 => gt_out hout hlocks (by show _ ≤ mc0; omega) (by show _ ≤ ms0; omega) a2 a3 a4 a5 a6 a1) (fun G2 H locs ce sl hvc_1 hG_2 hS_3 hMC_4 hMS_5 => ?_)
  clear hvc hG hS hMC hMS
  refine lv_aload_n hx hb dX1_recover_5 rfl (lv_at hl 0 rfl) ?_
  refine gw_gr (C := RX1) (T := TX1) (N := 4) (own := RX1) hx hb hts in_X1 hown hK hG_2 hvc_1 rfl (by decide) (hts _ q348) (fun _ h9 => h9) dX1_recover_6 (fun x5 hvc_6 => ?_)
  clear hvc_1
  refine lv_iload_n hx hb dX1_recover_9 rfl (lv_at hl 1 rfl) ?_
  refine gw_cVIP (As := [.int p1]) (rest := [])  ⟨hx, hb, hml, hown, hts⟩ (met_X2_isUp l E G2 x5 p1 _ hvc_6.2) (cwV 1 hts (lw_V q1338 q833 q834 q97 q835) rfl rfl rfl (by decide +kernel) ⟨Nat.le_of_ble_eq_true rfl, Nat.le_of_ble_eq_true rfl⟩) (gw_rc (q := (RX2, TX2, 11)) hK hG_2 hvc_6.1 rfl) (by show _ ≤ mc0; omega) (by show _ ≤ ms0; omega) (g_X.st E) hz hX hK hG_2 hS_3 rfl hl.1 rfl (Nat.le_of_ble_eq_true rfl) dX1_recover_10 (fun x6 H locs hvc_7 hG_8 hS_9 => ?_)
  clear hvc_6 hG_2 hS_3
  have jn21 : ∀ (y0 : Nat) (y1 : Int32) (s0 : Int32) (G : g_G) (mc : Nat) (ms : Nat) (H : Heap) (locs : List Loc) (ls : Array Slot) (ce sl : Nat), wp_X1_recover_21 E post px y0 y1 s0 G mc ms → g_H E G H → va_S (g_A E) s.heap H locs → lv_has ls 2 [(0, .ref y0), (1, .int y1)] → ce + mc ≤ mc0 → sl + ms ≤ ms0 → W p l e ({ frames := 12, cells := mc0, slots := ms0, locals := 303 } : Room) s m ([.ref o, .int p1] : List Value).toArray below meth c H locs ce sl (vx_MQ below (va_Qi (post) (g_Bk E) (g_A E)) (g_XC E px) ([.ref o, .int p1] : List Value).toArray s mc0 ms0 (g_A E)) (F0 m 21 ls [.int s0]) := by
    clear hvc_7 hG_8 hS_9 hl hMC_4 hMS_5
    intro y0 y1 s0 G mc ms H locs ls ce sl hvc_10 hG_11 hS_12 hl_13 hMC_14 hMS_15
    obtain ⟨c10, t11, hc1, hs1, hvc_10⟩ := hvc_10
    refine gt_cSV (As := [.int s0]) (rest := [])  ⟨hx, hb, hml, hown, hts⟩ (met_X1_state l hfl E G s0 c10 t11 _ _ hvc_10) (va_cwS 1 hts (lw_S q1460 q1461 q90 q1462) rfl rfl rfl (by decide +kernel) ⟨Nat.le_of_ble_eq_true rfl, Nat.le_of_ble_eq_true rfl⟩) hc1 hs1 hMC_14 hMS_15 (Nat.le_refl _) (Nat.le_refl _) (g_Y.st E) hz hY hK hG_11 hS_12 rfl hl_13.1 rfl (Nat.le_of_ble_eq_true rfl) dX1_recover_21 (fun X9 ce q9 G9 H9 l9 c9 s9 a1 a2 a3 a4 a5 a6 a7 a8 => gt_out hout hlocks (by show _ ≤ mc0; omega) (by show _ ≤ ms0; omega) a2 a3 a4 a5 a6 a1) (fun G9 H locs ce sl hvc_16 hG_17 hS_18 hMC_19 hMS_20 => ?_)
    clear hvc_10 hG_11 hS_12 hMC_14 hMS_15
    refine lv_aload_n hx hb dX1_recover_24 rfl (lv_at hl_13 0 rfl) ?_
    obtain ⟨c14, t15, hc1, hs1, hvc_16⟩ := hvc_16
    refine gw_cVVA (As := []) (rest := [])  ⟨hx, hb, hml, hown, hts⟩ (met_X1_saves l E G9 y0 c14 t15 _ hvc_16.2) (cwV 0 hts (lw_V q363 q365 qs3 q90 q366) rfl rfl rfl (by decide +kernel) ⟨Nat.le_of_ble_eq_true rfl, Nat.le_of_ble_eq_true rfl⟩) (gw_rc (q := (RX1, TX1, 4)) hK hG_17 hvc_16.1 rfl) hc1 hs1 hMC_19 hMS_20 (Nat.le_refl _) (Nat.le_refl _) (g_X.st E) hz hX hK hG_17 hS_18 rfl hl_13.1 rfl (Nat.le_of_ble_eq_true rfl) dX1_recover_25 (fun G13 H locs ce sl hvc_21 hG_22 hS_23 hMC_24 hMS_25 => ?_)
    clear hvc_16 hG_17 hS_18 hMC_19 hMS_20
    refine lv_aload_n hx hb dX1_recover_28 rfl (lv_at hl_13 0 rfl) ?_
    refine gw_gr (C := RX1) (T := TX1) (N := 4) (own := RX1) hx hb hts in_X1 hown hK hG_22 hvc_21 rfl (by decide) (hts _ q348) (fun _ h9 => h9) dX1_recover_29 (fun x16 hvc_26 => ?_)
    clear hvc_21
    refine lv_iload_n hx hb dX1_recover_32 rfl (lv_at hl_13 1 rfl) ?_
    obtain ⟨c19, t20, hc1, hs1, hvc_26⟩ := hvc_26
    refine gw_cVIA (As := [.int y1]) (rest := [])  ⟨hx, hb, hml, hown, hts⟩ (met_X2_recovers l E G13 x16 y1 c19 t20 _ hvc_26.2) (cwV 1 hts (lw_V q1544 q1275 q1276 q97 q1277) rfl rfl rfl (by decide +kernel) ⟨Nat.le_of_ble_eq_true rfl, Nat.le_of_ble_eq_true rfl⟩) (gw_rc (q := (RX2, TX2, 11)) hK hG_22 hvc_26.1 rfl) hc1 hs1 hMC_24 hMS_25 (Nat.le_refl _) (Nat.le_refl _) (g_X.st E) hz hX hK hG_22 hS_23 rfl hl_13.1 rfl (Nat.le_of_ble_eq_true rfl) dX1_recover_33 (fun x17 G18 H locs ce sl hvc_27 hG_28 hS_29 hMC_30 hMS_31 => ?_)
    clear hvc_26 hG_22 hS_23 hMC_24 hMS_25
    exact vx_ret (g_iret hx hb hr hlocks (by show _ ≤ mc0; omega) (by show _ ≤ ms0; omega) hG_28 hS_29 rfl hvc_27 dX1_recover_36)
  refine lv_if_ne (tgt := 20) hx hb dX1_recover_13 (by decide) (fun h9 => ?_) (fun h9 => ?_)
  · replace hvc_7 := hvc_7.1 h9
    refine lv_iconst (v := nI 0) hx hb dX1_recover_20 (by decide) ?_
    exact jn21 o p1 (nI 0) G2 (mc0 - c3) (ms0 - t4) _ _ _ _ _ hvc_7 hG_8 hS_9 (lv_sub hl [0, 1] rfl) hMC_4 hMS_5
  · replace hvc_7 := hvc_7.2 h9
    refine lv_iconst (v := nI 1) hx hb dX1_recover_16 (by decide) ?_
    refine lv_goto (tgt := 21) hx hb dX1_recover_17 (by decide) ?_
    exact jn21 o p1 (nI 1) G2 (mc0 - c3) (ms0 - t4) _ _ _ _ _ hvc_7 hG_8 hS_9 (lv_sub hl [0, 1] rfl) hMC_4 hMS_5
set_option maxHeartbeats 4000000 in
set_option maxRecDepth 100000 in
theorem met_X1_append (l : Launch) (hfl : l.stackTraces = false) (E : g_E) (G : g_G) (o : Nat) (p1 : Int32) (mc0 ms0 : Nat) (post : Int32 → g_G → Prop) (px : String → g_G → Prop) (hvc : wp_X1_append E G o p1 mc0 ms0 post px) : g_TI E l yX1_append (ws_ yX1_append cX1_append 2 (Option.some Jvm.ClassFile.FieldType.int)) ({ frames := 8, cells := mc0, slots := ms0, locals := 179 } : Room) (g_Y E) [.ref o, .int p1] G post px := by
  refine g_enterT (by decide +kernel) (Nat.le_of_ble_eq_true rfl) ?_
  intro p e s m below meth c ls hx hb hr hts hown hlocks hml hout hz hY hK hG hS hl
  have hX := hY.1
  have hl : lv_has ls 2 [(0, .ref o), (1, .int p1)] := hl
  have hown : s.vm.findClass RX1 = some m.cls := hown
  have hMC : 0 + mc0 ≤ mc0 := Nat.le_of_eq (Nat.zero_add _)
  have hMS : 0 + ms0 ≤ ms0 := Nat.le_of_eq (Nat.zero_add _)
  unfold wp_X1_append at hvc
  refine lv_iload_n hx hb dX1_append_0 rfl (lv_at hl 1 rfl) ?_
  refine lv_bipush (v := nI 33) hx hb dX1_append_1 (by decide) ?_
  have jn17 : ∀ (y0 : Nat) (y1 : Int32) (s0 : Int32) (G : g_G) (mc : Nat) (ms : Nat) (H : Heap) (locs : List Loc) (ls : Array Slot) (ce sl : Nat), wp_X1_append_17 E post px y0 y1 s0 G mc ms → g_H E G H → va_S (g_A E) s.heap H locs → lv_has ls 2 [(0, .ref y0), (1, .int y1)] → ce + mc ≤ mc0 → sl + ms ≤ ms0 → W p l e ({ frames := 8, cells := mc0, slots := ms0, locals := 179 } : Room) s m ([.ref o, .int p1] : List Value).toArray below meth c H locs ce sl (vx_MQ below (va_Qi (post) (g_Bk E) (g_A E)) (g_XC E px) ([.ref o, .int p1] : List Value).toArray s mc0 ms0 (g_A E)) (F0 m 17 ls [.int s0]) := by
    clear hvc hG hS hl hMC hMS
    intro y0 y1 s0 G mc ms H locs ls ce sl hvc_1 hG_2 hS_3 hl_4 hMC_5 hMS_6
    obtain ⟨c3, t4, hc1, hs1, hvc_1⟩ := hvc_1
    refine gt_cSV (As := [.int s0]) (rest := [])  ⟨hx, hb, hml, hown, hts⟩ (met_X1_argument l hfl E G s0 c3 t4 _ _ hvc_1) (va_cwS 1 hts (lw_S q1450 q1451 q90 q1452) rfl rfl rfl (by decide +kernel) ⟨Nat.le_of_ble_eq_true rfl, Nat.le_of_ble_eq_true rfl⟩) hc1 hs1 hMC_5 hMS_6 (Nat.le_refl _) (Nat.le_refl _) (g_Y.st E) hz hY hK hG_2 hS_3 rfl hl_4.1 rfl (Nat.le_of_ble_eq_true rfl) dX1_append_17 (fun X9 ce q9 G9 H9 l9 c9 s9 a1 a2 a3 a4 a5 a6 a7 a8 => gt_out hout hlocks (by show _ ≤ mc0; omega) (by show _ ≤ ms0; omega) a2 a3 a4 a5 a6 a1) (fun G2 H locs ce sl hvc_7 hG_8 hS_9 hMC_10 hMS_11 => ?_)
    clear hvc_1 hG_2 hS_3 hMC_5 hMS_6
    refine lv_aload_n hx hb dX1_append_20 rfl (lv_at hl_4 0 rfl) ?_
    refine gw_gr (C := RX1) (T := TX1) (N := 4) (own := RX1) hx hb hts in_X1 hown hK hG_8 hvc_7 rfl (by decide) (hts _ q345) (fun _ h9 => h9) dX1_append_21 (fun x5 hvc_12 => ?_)
    clear hvc_7
    refine gw_cVIP (As := []) (rest := [])  ⟨hx, hb, hml, hown, hts⟩ (met_J1_length l E G2 x5 _ hvc_12.2) (cwV 0 hts (lw_V q1028 q616 q2283 q92 q617) rfl rfl rfl (by decide +kernel) ⟨Nat.le_of_ble_eq_true rfl, Nat.le_of_ble_eq_true rfl⟩) (gw_rc (q := (RJ1, TJ1, 4)) hK hG_8 hvc_12.1 rfl) (by show _ ≤ mc0; omega) (by show _ ≤ ms0; omega) (g_St0 E) hz trivial hK hG_8 hS_9 rfl hl_4.1 rfl (Nat.le_of_ble_eq_true rfl) dX1_append_24 (fun x6 H locs hvc_13 hG_14 hS_15 => ?_)
    clear hvc_12 hG_8 hS_9
    refine lv_bipush (v := nI 60) hx hb dX1_append_27 (by decide) ?_
    have jn37 : ∀ (y0 : Nat) (y1 : Int32) (s0 : Int32) (G : g_G) (mc : Nat) (ms : Nat) (H : Heap) (locs : List Loc) (ls : Array Slot) (ce sl : Nat), wp_X1_append_37 E post px y0 y1 s0 G mc ms → g_H E G H → va_S (g_A E) s.heap H locs → lv_has ls 2 [(0, .ref y0), (1, .int y1)] → ce + mc ≤ mc0 → sl + ms ≤ ms0 → W p l e ({ frames := 8, cells := mc0, slots := ms0, locals := 179 } : Room) s m ([.ref o, .int p1] : List Value).toArray below meth c H locs ce sl (vx_MQ below (va_Qi (post) (g_Bk E) (g_A E)) (g_XC E px) ([.ref o, .int p1] : List Value).toArray s mc0 ms0 (g_A E)) (F0 m 37 ls [.int s0]) := by
      clear hvc_13 hG_14 hS_15 hl_4 hMC_10 hMS_11
      intro y0 y1 s0 G mc ms H locs ls ce sl hvc_16 hG_17 hS_18 hl_19 hMC_20 hMS_21
      obtain ⟨c10, t11, hc1, hs1, hvc_16⟩ := hvc_16
      refine gt_cSV (As := [.int s0]) (rest := [])  ⟨hx, hb, hml, hown, hts⟩ (met_X1_state l hfl E G s0 c10 t11 _ _ hvc_16) (va_cwS 1 hts (lw_S q1460 q1461 q90 q1462) rfl rfl rfl (by decide +kernel) ⟨Nat.le_of_ble_eq_true rfl, Nat.le_of_ble_eq_true rfl⟩) hc1 hs1 hMC_20 hMS_21 (Nat.le_refl _) (Nat.le_refl _) (g_Y.st E) hz hY hK hG_17 hS_18 rfl hl_19.1 rfl (Nat.le_of_ble_eq_true rfl) dX1_append_37 (fun X9 ce q9 G9 H9 l9 c9 s9 a1 a2 a3 a4 a5 a6 a7 a8 => gt_out hout hlocks (by show _ ≤ mc0; omega) (by show _ ≤ ms0; omega) a2 a3 a4 a5 a6 a1) (fun G9 H locs ce sl hvc_22 hG_23 hS_24 hMC_25 hMS_26 => ?_)
      clear hvc_16 hG_17 hS_18 hMC_20 hMS_21
      refine lv_aload_n hx hb dX1_append_40 rfl (lv_at hl_19 0 rfl) ?_
      refine gw_gr (C := RX1) (T := TX1) (N := 4) (own := RX1) hx hb hts in_X1 hown hK hG_23 hvc_22 rfl (by decide) (hts _ q345) (fun _ h9 => h9) dX1_append_41 (fun x12 hvc_27 => ?_)
      clear hvc_22
      refine lv_iload_n hx hb dX1_append_44 rfl (lv_at hl_19 1 rfl) ?_
      refine lv_i2c (v := (y1.toUInt32 % 65536).toInt32) hx hb dX1_append_45 rfl ?_
      obtain ⟨c15, t16, hc1, hs1, hvc_27⟩ := hvc_27
      refine gw_cVQA (As := [.int ((y1.toUInt32 % 65536).toInt32)]) (rest := [])  ⟨hx, hb, hml, hown, hts⟩ (met_J1_append_3 l E G9 x12 ((y1.toUInt32 % 65536).toInt32) c15 t16 _ hvc_27.2) (cwV 1 hts (lw_V q1552 q1553 q1554 q92 q1555) rfl rfl rfl (by decide +kernel) ⟨Nat.le_of_ble_eq_true rfl, Nat.le_of_ble_eq_true rfl⟩) (gw_rc (q := (RJ1, TJ1, 4)) hK hG_23 hvc_27.1 rfl) hc1 hs1 hMC_25 hMS_26 (Nat.le_refl _) (Nat.le_refl _) (g_X.st E) hz hX hK hG_23 hS_24 rfl hl_19.1 rfl (Nat.le_of_ble_eq_true rfl) dX1_append_46 (fun x13 G14 H locs ce sl hvc_28 hG_29 hS_30 hMC_31 hMS_32 => ?_)
      clear hvc_27 hG_23 hS_24 hMC_25 hMS_26
      refine gq_pop hx hb dX1_append_49 ?_
      refine lv_aload_n hx hb dX1_append_50 rfl (lv_at hl_19 0 rfl) ?_
      refine gw_gr (C := RX1) (T := TX1) (N := 4) (own := RX1) hx hb hts in_X1 hown hK hG_29 hvc_28 rfl (by decide) (hts _ q345) (fun _ h9 => h9) dX1_append_51 (fun x17 hvc_33 => ?_)
      clear hvc_28
      refine gw_cVIP (As := []) (rest := [])  ⟨hx, hb, hml, hown, hts⟩ (met_J1_length l E G14 x17 _ hvc_33.2) (cwV 0 hts (lw_V q1028 q616 q2283 q92 q617) rfl rfl rfl (by decide +kernel) ⟨Nat.le_of_ble_eq_true rfl, Nat.le_of_ble_eq_true rfl⟩) (gw_rc (q := (RJ1, TJ1, 4)) hK hG_29 hvc_33.1 rfl) (by show _ ≤ mc0; omega) (by show _ ≤ ms0; omega) (g_St0 E) hz trivial hK hG_29 hS_30 rfl hl_19.1 rfl (Nat.le_of_ble_eq_true rfl) dX1_append_54 (fun x18 H locs hvc_34 hG_35 hS_36 => ?_)
      clear hvc_33 hG_29 hS_30
      exact vx_ret (g_iret hx hb hr hlocks (by show _ ≤ mc0; omega) (by show _ ≤ ms0; omega) hG_35 hS_36 rfl hvc_34 dX1_append_57)
    refine lv_icmp_ge (tgt := 36) hx hb dX1_append_29 (by decide) (fun h9 => ?_) (fun h9 => ?_)
    · replace hvc_13 := hvc_13.1 h9
      refine lv_iconst (v := nI 0) hx hb dX1_append_36 (by decide) ?_
      exact jn37 y0 y1 (nI 0) G2 (mc - c3) (ms - t4) _ _ _ _ _ hvc_13 hG_14 hS_15 (lv_sub hl_4 [0, 1] rfl) hMC_10 hMS_11
    · replace hvc_13 := hvc_13.2 h9
      refine lv_iconst (v := nI 1) hx hb dX1_append_32 (by decide) ?_
      refine lv_goto (tgt := 37) hx hb dX1_append_33 (by decide) ?_
      exact jn37 y0 y1 (nI 1) G2 (mc - c3) (ms - t4) _ _ _ _ _ hvc_13 hG_14 hS_15 (lv_sub hl_4 [0, 1] rfl) hMC_10 hMS_11
  have jn16 : ∀ (y0 : Nat) (y1 : Int32) (G : g_G) (mc : Nat) (ms : Nat) (H : Heap) (locs : List Loc) (ls : Array Slot) (ce sl : Nat), wp_X1_append_16 E post px (wp_X1_append_17 E post px) y0 y1 G mc ms → g_H E G H → va_S (g_A E) s.heap H locs → lv_has ls 2 [(0, .ref y0), (1, .int y1)] → ce + mc ≤ mc0 → sl + ms ≤ ms0 → W p l e ({ frames := 8, cells := mc0, slots := ms0, locals := 179 } : Room) s m ([.ref o, .int p1] : List Value).toArray below meth c H locs ce sl (vx_MQ below (va_Qi (post) (g_Bk E) (g_A E)) (g_XC E px) ([.ref o, .int p1] : List Value).toArray s mc0 ms0 (g_A E)) (F0 m 16 ls []) := by
    clear hvc hG hS hl hMC hMS
    intro y0 y1 G mc ms H locs ls ce sl hvc_37 hG_38 hS_39 hl_40 hMC_41 hMS_42
    refine lv_iconst (v := nI 0) hx hb dX1_append_16 (by decide) ?_
    exact jn17 y0 y1 (nI 0) G mc ms _ _ _ _ _ hvc_37 hG_38 hS_39 (lv_sub hl_40 [0, 1] rfl) hMC_41 hMS_42
  refine lv_icmp_lt (tgt := 16) hx hb dX1_append_3 (by decide) (fun h9 => ?_) (fun h9 => ?_)
  · replace hvc := hvc.1 h9
    exact jn16 o p1 G mc0 ms0 _ _ _ _ _ hvc hG hS (lv_sub hl [0, 1] rfl) hMC hMS
  · replace hvc := hvc.2 h9
    refine lv_iload_n hx hb dX1_append_6 rfl (lv_at hl 1 rfl) ?_
    refine lv_bipush (v := nI 126) hx hb dX1_append_7 (by decide) ?_
    refine lv_icmp_gt (tgt := 16) hx hb dX1_append_9 (by decide) (fun h9 => ?_) (fun h9 => ?_)
    · replace hvc := hvc.1 h9
      exact jn16 o p1 G mc0 ms0 _ _ _ _ _ hvc hG hS (lv_sub hl [0, 1] rfl) hMC hMS
    · replace hvc := hvc.2 h9
      refine lv_iconst (v := nI 1) hx hb dX1_append_12 (by decide) ?_
      refine lv_goto (tgt := 17) hx hb dX1_append_13 (by decide) ?_
      exact jn17 o p1 (nI 1) G mc0 ms0 _ _ _ _ _ hvc hG hS (lv_sub hl [0, 1] rfl) hMC hMS
set_option maxHeartbeats 4000000 in
set_option maxRecDepth 100000 in
theorem met_X1_isDone (l : Launch) (E : g_E) (G : g_G) (o : Nat) (p1 : Nat) (mc0 ms0 : Nat) (post : Int32 → g_G → Prop) (hvc : wp_X1_isDone E G o p1 mc0 ms0 post) : g_MI E l yX1_isDone (ws_ yX1_isDone cX1_isDone 3 (Option.some Jvm.ClassFile.FieldType.boolean)) ({ frames := 14, cells := mc0, slots := ms0, locals := 349 } : Room) (g_X E) [.ref o, .ref p1] G (post) := by
  refine g_enter (by decide +kernel) (Nat.le_of_ble_eq_true rfl) ?_
  intro p e s m below meth c ls hx hb hr hts hown hlocks hml hin hz hX hK hG hS hl
  have hl : lv_has ls 3 [(0, .ref o), (1, .ref p1)] := hl
  have hown : s.vm.findClass RX1 = some m.cls := hown
  have hMC : 0 + mc0 ≤ mc0 := Nat.le_of_eq (Nat.zero_add _)
  have hMS : 0 + ms0 ≤ ms0 := Nat.le_of_eq (Nat.zero_add _)
  unfold wp_X1_isDone at hvc
  refine lv_aload_n hx hb dX1_isDone_0 rfl (lv_at hl 1 rfl) ?_
  refine gw_giN (C := RX9) (T := TX9) (N := 3) (own := RX1) hx hb hts in_X9 hown hK hG hvc rfl (by decide) (hX.1 _ q1210 rfl) (fun _ h9 => h9) dX1_isDone_1 (fun x1 hvc_1 => ?_)
  clear hvc
  refine lv_istore_n (lv' := [(2, .int x1), (0, .ref o), (1, .ref p1)]) hx hb dX1_isDone_4 rfl hl (by decide) rfl (fun ls hl_2 => ?_)
  clear hl
  refine lv_aload_n hx hb dX1_isDone_5 rfl (lv_at hl_2 2 rfl) ?_
  refine gw_giN (C := RX9) (T := TX9) (N := 3) (own := RX1) hx hb hts in_X9 hown hK hG hvc_1 rfl (by decide) (hX.1 _ q1208 rfl) (fun _ h9 => h9) dX1_isDone_6 (fun x2 hvc_3 => ?_)
  clear hvc_1
  by_cases h99 : x2 = nI 99
  · replace hvc_3 := hvc_3.1 h99
    rw [h99]; refine lv_lookup (off := 107) (tgt := 116) hx hb dX1_isDone_9 (by decide) (by decide) (by decide) ?_
    refine lv_aload_n hx hb dX1_isDone_116 rfl (lv_at hl_2 1 rfl) ?_
    refine gw_gr (C := RX1) (T := TX1) (N := 4) (own := RX1) hx hb hts in_X1 hown hK hG hvc_3 rfl (by decide) (hts _ q348) (fun _ h9 => h9) dX1_isDone_117 (fun x3 hvc_4 => ?_)
    clear hvc_3
    refine lv_iload_n hx hb dX1_isDone_120 rfl (lv_at hl_2 0 rfl) ?_
    refine gw_cVIP (As := [.int x1]) (rest := [])  ⟨hx, hb, hml, hown, hts⟩ (met_X2_isUp l E G x3 x1 _ hvc_4.2) (cwV 1 hts (lw_V q1338 q833 q834 q97 q835) rfl rfl rfl (by decide +kernel) ⟨Nat.le_of_ble_eq_true rfl, Nat.le_of_ble_eq_true rfl⟩) (gw_rc (q := (RX2, TX2, 11)) hK hG hvc_4.1 rfl) (by show _ ≤ mc0; omega) (by show _ ≤ ms0; omega) (g_X.st E) hz hX hK hG hS rfl hl_2.1 rfl (Nat.le_of_ble_eq_true rfl) dX1_isDone_121 (fun x4 H locs hvc_5 hG_6 hS_7 => ?_)
    clear hvc_4 hG hS
    refine lv_if_eq (tgt := 142) hx hb dX1_isDone_124 (by decide) (fun h9 => ?_) (fun h9 => ?_)
    · replace hvc_5 := hvc_5.1 h9
      refine lv_iconst (v := nI 0) hx hb dX1_isDone_142 (by decide) ?_
      refine lv_goto (tgt := 241) hx hb dX1_isDone_143 (by decide) ?_
      exact g_iret hx hb hr hlocks (by show _ ≤ mc0; omega) (by show _ ≤ ms0; omega) hG_6 hS_7 rfl hvc_5 dX1_isDone_241
    · replace hvc_5 := hvc_5.2 h9
      refine lv_aload_n hx hb dX1_isDone_127 rfl (lv_at hl_2 1 rfl) ?_
      refine gw_gr (C := RX1) (T := TX1) (N := 4) (own := RX1) hx hb hts in_X1 hown hK hG_6 hvc_5 rfl (by decide) (hts _ q348) (fun _ h9 => h9) dX1_isDone_128 (fun x6 hvc_8 => ?_)
      clear hvc_5
      refine lv_iload_n hx hb dX1_isDone_131 rfl (lv_at hl_2 0 rfl) ?_
      refine gw_cVIN (As := [.int x1]) (rest := [])  ⟨hx, hb, hml, hown, hts⟩ (met_X2_crashes l E G x6 x1 _ hvc_8.2) (cwV 1 hts (lw_V q1533 q1534 q1535 q97 q1536) rfl rfl rfl (by decide +kernel) ⟨Nat.le_of_ble_eq_true rfl, Nat.le_of_ble_eq_true rfl⟩) (gw_rc (q := (RX2, TX2, 11)) hK hG_6 hvc_8.1 rfl) (by show _ ≤ mc0; omega) (by show _ ≤ ms0; omega) (g_St0 E) hz trivial hK hG_6 hS_7 rfl hl_2.1 rfl (Nat.le_of_ble_eq_true rfl) dX1_isDone_132 (fun x7 G8 H locs hvc_9 hG_10 hS_11 => ?_)
      clear hvc_8 hG_6 hS_7
      refine lv_if_lt (tgt := 142) hx hb dX1_isDone_135 (by decide) (fun h9 => ?_) (fun h9 => ?_)
      · replace hvc_9 := hvc_9.1 h9
        refine lv_iconst (v := nI 0) hx hb dX1_isDone_142 (by decide) ?_
        refine lv_goto (tgt := 241) hx hb dX1_isDone_143 (by decide) ?_
        exact g_iret hx hb hr hlocks (by show _ ≤ mc0; omega) (by show _ ≤ ms0; omega) hG_10 hS_11 rfl hvc_9 dX1_isDone_241
      · replace hvc_9 := hvc_9.2 h9
        refine lv_iconst (v := nI 1) hx hb dX1_isDone_138 (by decide) ?_
        refine lv_goto (tgt := 241) hx hb dX1_isDone_139 (by decide) ?_
        exact g_iret hx hb hr hlocks (by show _ ≤ mc0; omega) (by show _ ≤ ms0; omega) hG_10 hS_11 rfl hvc_9 dX1_isDone_241
  by_cases h100 : x2 = nI 100
  · replace hvc_3 := hvc_3.2.1 h100
    rw [h100]; refine lv_lookup (off := 51) (tgt := 60) hx hb dX1_isDone_9 (by decide) (by decide) (by decide) ?_
    refine lv_aload_n hx hb dX1_isDone_60 rfl (lv_at hl_2 1 rfl) ?_
    refine gw_gr (C := RX1) (T := TX1) (N := 4) (own := RX1) hx hb hts in_X1 hown hK hG hvc_3 rfl (by decide) (hts _ q348) (fun _ h9 => h9) dX1_isDone_61 (fun x9 hvc_12 => ?_)
    clear hvc_3
    refine lv_iload_n hx hb dX1_isDone_64 rfl (lv_at hl_2 0 rfl) ?_
    refine lv_iconst (v := nI 1) hx hb dX1_isDone_65 (by decide) ?_
    refine lv_iadd hx hb dX1_isDone_66 ?_
    obtain ⟨c12, t13, hc1, hs1, hvc_12⟩ := hvc_12
    refine gw_cVIA (As := [.int (x1 + (nI 1))]) (rest := [])  ⟨hx, hb, hml, hown, hts⟩ (met_X2_deliversFirst l E G x9 (x1 + (nI 1)) c12 t13 _ hvc_12.2) (cwV 1 hts (lw_V q791 q792 q793 q97 q794) rfl rfl rfl (by decide +kernel) ⟨Nat.le_of_ble_eq_true rfl, Nat.le_of_ble_eq_true rfl⟩) (gw_rc (q := (RX2, TX2, 11)) hK hG hvc_12.1 rfl) hc1 hs1 hMC hMS (Nat.le_refl _) (Nat.le_refl _) (g_X.st E) hz hX hK hG hS rfl hl_2.1 rfl (Nat.le_of_ble_eq_true rfl) dX1_isDone_67 (fun x10 G11 H locs ce sl hvc_13 hG_14 hS_15 hMC_16 hMS_17 => ?_)
    clear hvc_12 hG hS hMC hMS
    refine lv_if_lt (tgt := 77) hx hb dX1_isDone_70 (by decide) (fun h9 => ?_) (fun h9 => ?_)
    · replace hvc_13 := hvc_13.1 h9
      refine lv_iconst (v := nI 0) hx hb dX1_isDone_77 (by decide) ?_
      refine lv_goto (tgt := 241) hx hb dX1_isDone_78 (by decide) ?_
      exact g_iret hx hb hr hlocks (by show _ ≤ mc0; omega) (by show _ ≤ ms0; omega) hG_14 hS_15 rfl hvc_13 dX1_isDone_241
    · replace hvc_13 := hvc_13.2 h9
      refine lv_iconst (v := nI 1) hx hb dX1_isDone_73 (by decide) ?_
      refine lv_goto (tgt := 241) hx hb dX1_isDone_74 (by decide) ?_
      exact g_iret hx hb hr hlocks (by show _ ≤ mc0; omega) (by show _ ≤ ms0; omega) hG_14 hS_15 rfl hvc_13 dX1_isDone_241
  by_cases h103 : x2 = nI 103
  · replace hvc_3 := hvc_3.2.2.1 h103
    rw [h103]; refine lv_lookup (off := 167) (tgt := 176) hx hb dX1_isDone_9 (by decide) (by decide) (by decide) ?_
    refine lv_aload_n hx hb dX1_isDone_176 rfl (lv_at hl_2 1 rfl) ?_
    refine gw_gr (C := RX1) (T := TX1) (N := 4) (own := RX1) hx hb hts in_X1 hown hK hG hvc_3 rfl (by decide) (hts _ q348) (fun _ h9 => h9) dX1_isDone_177 (fun x14 hvc_18 => ?_)
    clear hvc_3
    refine lv_iload_n hx hb dX1_isDone_180 rfl (lv_at hl_2 0 rfl) ?_
    obtain ⟨c17, t18, hc1, hs1, hvc_18⟩ := hvc_18
    refine gw_cVIA (As := [.int x1]) (rest := [])  ⟨hx, hb, hml, hown, hts⟩ (met_X2_canGiveUp l E G x14 x1 c17 t18 _ hvc_18.2) (cwV 1 hts (lw_V q1480 q1481 q1482 q97 q1483) rfl rfl rfl (by decide +kernel) ⟨Nat.le_of_ble_eq_true rfl, Nat.le_of_ble_eq_true rfl⟩) (gw_rc (q := (RX2, TX2, 11)) hK hG hvc_18.1 rfl) hc1 hs1 hMC hMS (Nat.le_refl _) (Nat.le_refl _) (g_X.st E) hz hX hK hG hS rfl hl_2.1 rfl (Nat.le_of_ble_eq_true rfl) dX1_isDone_181 (fun x15 G16 H locs ce sl hvc_19 hG_20 hS_21 hMC_22 hMS_23 => ?_)
    clear hvc_18 hG hS hMC hMS
    refine lv_if_eq (tgt := 202) hx hb dX1_isDone_184 (by decide) (fun h9 => ?_) (fun h9 => ?_)
    · replace hvc_19 := hvc_19.1 h9
      refine lv_iconst (v := nI 0) hx hb dX1_isDone_202 (by decide) ?_
      refine lv_goto (tgt := 241) hx hb dX1_isDone_203 (by decide) ?_
      exact g_iret hx hb hr hlocks (by show _ ≤ mc0; omega) (by show _ ≤ ms0; omega) hG_20 hS_21 rfl hvc_19 dX1_isDone_241
    · replace hvc_19 := hvc_19.2 h9
      refine lv_aload_n hx hb dX1_isDone_187 rfl (lv_at hl_2 1 rfl) ?_
      refine gw_gr (C := RX1) (T := TX1) (N := 4) (own := RX1) hx hb hts in_X1 hown hK hG_20 hvc_19 rfl (by decide) (hts _ q348) (fun _ h9 => h9) dX1_isDone_188 (fun x19 hvc_24 => ?_)
      clear hvc_19
      refine lv_iload_n hx hb dX1_isDone_191 rfl (lv_at hl_2 0 rfl) ?_
      obtain ⟨c22, t23, hc1, hs1, hvc_24⟩ := hvc_24
      refine gw_cVIA (As := [.int x1]) (rest := [])  ⟨hx, hb, hml, hown, hts⟩ (met_X2_givesUp l E G16 x19 x1 c22 t23 _ hvc_24.2) (cwV 1 hts (lw_V q1484 q1485 q1486 q97 q1487) rfl rfl rfl (by decide +kernel) ⟨Nat.le_of_ble_eq_true rfl, Nat.le_of_ble_eq_true rfl⟩) (gw_rc (q := (RX2, TX2, 11)) hK hG_20 hvc_24.1 rfl) hc1 hs1 hMC_22 hMS_23 (Nat.le_refl _) (Nat.le_refl _) (g_X.st E) hz hX hK hG_20 hS_21 rfl hl_2.1 rfl (Nat.le_of_ble_eq_true rfl) dX1_isDone_192 (fun x20 G21 H locs ce sl hvc_25 hG_26 hS_27 hMC_28 hMS_29 => ?_)
      clear hvc_24 hG_20 hS_21 hMC_22 hMS_23
      refine lv_if_lt (tgt := 202) hx hb dX1_isDone_195 (by decide) (fun h9 => ?_) (fun h9 => ?_)
      · replace hvc_25 := hvc_25.1 h9
        refine lv_iconst (v := nI 0) hx hb dX1_isDone_202 (by decide) ?_
        refine lv_goto (tgt := 241) hx hb dX1_isDone_203 (by decide) ?_
        exact g_iret hx hb hr hlocks (by show _ ≤ mc0; omega) (by show _ ≤ ms0; omega) hG_26 hS_27 rfl hvc_25 dX1_isDone_241
      · replace hvc_25 := hvc_25.2 h9
        refine lv_iconst (v := nI 1) hx hb dX1_isDone_198 (by decide) ?_
        refine lv_goto (tgt := 241) hx hb dX1_isDone_199 (by decide) ?_
        exact g_iret hx hb hr hlocks (by show _ ≤ mc0; omega) (by show _ ≤ ms0; omega) hG_26 hS_27 rfl hvc_25 dX1_isDone_241
  by_cases h108 : x2 = nI 108
  · replace hvc_3 := hvc_3.2.2.2.1 h108
    rw [h108]; refine lv_lookup (off := 72) (tgt := 81) hx hb dX1_isDone_9 (by decide) (by decide) (by decide) ?_
    refine lv_iload_n hx hb dX1_isDone_81 rfl (lv_at hl_2 0 rfl) ?_
    refine lv_aload_n hx hb dX1_isDone_82 rfl (lv_at hl_2 1 rfl) ?_
    refine gw_gr (C := RX1) (T := TX1) (N := 4) (own := RX1) hx hb hts in_X1 hown hK hG hvc_3 rfl (by decide) (hts _ q348) (fun _ h9 => h9) dX1_isDone_83 (fun x24 hvc_30 => ?_)
    clear hvc_3
    refine gw_grN (C := RX2) (T := TX2) (N := 11) (own := RX1) hx hb hts in_X2 hown hK hG hvc_30 rfl (by decide) (hX.1 _ q306 rfl) (fun _ h9 => h9) dX1_isDone_86 (fun x25 hvc_31 => ?_)
    clear hvc_30
    refine gw_cFIP (As := []) (rest := [.int x1]) (hK.1 9 _ rfl).2  ⟨hx, hb, hml, hown, hts⟩ (met_J7_size l E G x25 _ hvc_31.2) (va_cwF 0 hts (lw_F q1229 q886 q888 q99 q890) rfl rfl rfl (hX.fw (List.mem_of_getElem? (i := 6) rfl)) (by decide +kernel) ⟨Nat.le_of_ble_eq_true rfl, Nat.le_of_ble_eq_true rfl⟩) (gw_rc (q := (RJ7, TJ7, 3)) hK hG hvc_31.1 rfl) (by show _ ≤ mc0; omega) (by show _ ≤ ms0; omega) (g_St0 E) hz trivial hK hG hS rfl hl_2.1 rfl (Nat.le_of_ble_eq_true rfl) dX1_isDone_89 (fun x26 H locs hvc_32 hG_33 hS_34 => ?_)
    clear hvc_31 hG hS
    refine lv_icmp_ge (tgt := 112) hx hb dX1_isDone_94 (by decide) (fun h9 => ?_) (fun h9 => ?_)
    · replace hvc_32 := hvc_32.1 h9
      refine lv_iconst (v := nI 0) hx hb dX1_isDone_112 (by decide) ?_
      refine lv_goto (tgt := 241) hx hb dX1_isDone_113 (by decide) ?_
      exact g_iret hx hb hr hlocks (by show _ ≤ mc0; omega) (by show _ ≤ ms0; omega) hG_33 hS_34 rfl hvc_32 dX1_isDone_241
    · replace hvc_32 := hvc_32.2 h9
      refine lv_aload_n hx hb dX1_isDone_97 rfl (lv_at hl_2 1 rfl) ?_
      refine gw_gr (C := RX1) (T := TX1) (N := 4) (own := RX1) hx hb hts in_X1 hown hK hG_33 hvc_32 rfl (by decide) (hts _ q348) (fun _ h9 => h9) dX1_isDone_98 (fun x28 hvc_35 => ?_)
      clear hvc_32
      refine lv_iload_n hx hb dX1_isDone_101 rfl (lv_at hl_2 0 rfl) ?_
      refine gw_cVIN (As := [.int x1]) (rest := [])  ⟨hx, hb, hml, hown, hts⟩ (met_X2_loses l E G x28 x1 _ hvc_35.2) (cwV 1 hts (lw_V q1521 q1522 q1523 q97 q1524) rfl rfl rfl (by decide +kernel) ⟨Nat.le_of_ble_eq_true rfl, Nat.le_of_ble_eq_true rfl⟩) (gw_rc (q := (RX2, TX2, 11)) hK hG_33 hvc_35.1 rfl) (by show _ ≤ mc0; omega) (by show _ ≤ ms0; omega) (g_X.st E) hz hX hK hG_33 hS_34 rfl hl_2.1 rfl (Nat.le_of_ble_eq_true rfl) dX1_isDone_102 (fun x29 G30 H locs hvc_36 hG_37 hS_38 => ?_)
      clear hvc_35 hG_33 hS_34
      refine lv_if_lt (tgt := 112) hx hb dX1_isDone_105 (by decide) (fun h9 => ?_) (fun h9 => ?_)
      · replace hvc_36 := hvc_36.1 h9
        refine lv_iconst (v := nI 0) hx hb dX1_isDone_112 (by decide) ?_
        refine lv_goto (tgt := 241) hx hb dX1_isDone_113 (by decide) ?_
        exact g_iret hx hb hr hlocks (by show _ ≤ mc0; omega) (by show _ ≤ ms0; omega) hG_37 hS_38 rfl hvc_36 dX1_isDone_241
      · replace hvc_36 := hvc_36.2 h9
        refine lv_iconst (v := nI 1) hx hb dX1_isDone_108 (by decide) ?_
        refine lv_goto (tgt := 241) hx hb dX1_isDone_109 (by decide) ?_
        exact g_iret hx hb hr hlocks (by show _ ≤ mc0; omega) (by show _ ≤ ms0; omega) hG_37 hS_38 rfl hvc_36 dX1_isDone_241
  by_cases h114 : x2 = nI 114
  · replace hvc_3 := hvc_3.2.2.2.2.1 h114
    rw [h114]; refine lv_lookup (off := 137) (tgt := 146) hx hb dX1_isDone_9 (by decide) (by decide) (by decide) ?_
    refine lv_aload_n hx hb dX1_isDone_146 rfl (lv_at hl_2 1 rfl) ?_
    refine gw_gr (C := RX1) (T := TX1) (N := 4) (own := RX1) hx hb hts in_X1 hown hK hG hvc_3 rfl (by decide) (hts _ q348) (fun _ h9 => h9) dX1_isDone_147 (fun x31 hvc_39 => ?_)
    clear hvc_3
    refine lv_iload_n hx hb dX1_isDone_150 rfl (lv_at hl_2 0 rfl) ?_
    refine gw_cVIP (As := [.int x1]) (rest := [])  ⟨hx, hb, hml, hown, hts⟩ (met_X2_isUp l E G x31 x1 _ hvc_39.2) (cwV 1 hts (lw_V q1338 q833 q834 q97 q835) rfl rfl rfl (by decide +kernel) ⟨Nat.le_of_ble_eq_true rfl, Nat.le_of_ble_eq_true rfl⟩) (gw_rc (q := (RX2, TX2, 11)) hK hG hvc_39.1 rfl) (by show _ ≤ mc0; omega) (by show _ ≤ ms0; omega) (g_X.st E) hz hX hK hG hS rfl hl_2.1 rfl (Nat.le_of_ble_eq_true rfl) dX1_isDone_151 (fun x32 H locs hvc_40 hG_41 hS_42 => ?_)
    clear hvc_39 hG hS
    refine lv_if_ne (tgt := 172) hx hb dX1_isDone_154 (by decide) (fun h9 => ?_) (fun h9 => ?_)
    · replace hvc_40 := hvc_40.1 h9
      refine lv_iconst (v := nI 0) hx hb dX1_isDone_172 (by decide) ?_
      refine lv_goto (tgt := 241) hx hb dX1_isDone_173 (by decide) ?_
      exact g_iret hx hb hr hlocks (by show _ ≤ mc0; omega) (by show _ ≤ ms0; omega) hG_41 hS_42 rfl hvc_40 dX1_isDone_241
    · replace hvc_40 := hvc_40.2 h9
      refine lv_aload_n hx hb dX1_isDone_157 rfl (lv_at hl_2 1 rfl) ?_
      refine gw_gr (C := RX1) (T := TX1) (N := 4) (own := RX1) hx hb hts in_X1 hown hK hG_41 hvc_40 rfl (by decide) (hts _ q348) (fun _ h9 => h9) dX1_isDone_158 (fun x34 hvc_43 => ?_)
      clear hvc_40
      refine lv_iload_n hx hb dX1_isDone_161 rfl (lv_at hl_2 0 rfl) ?_
      obtain ⟨c37, t38, hc1, hs1, hvc_43⟩ := hvc_43
      refine gw_cVIA (As := [.int x1]) (rest := [])  ⟨hx, hb, hml, hown, hts⟩ (met_X2_recovers l E G x34 x1 c37 t38 _ hvc_43.2) (cwV 1 hts (lw_V q1544 q1275 q1276 q97 q1277) rfl rfl rfl (by decide +kernel) ⟨Nat.le_of_ble_eq_true rfl, Nat.le_of_ble_eq_true rfl⟩) (gw_rc (q := (RX2, TX2, 11)) hK hG_41 hvc_43.1 rfl) hc1 hs1 hMC hMS (Nat.le_refl _) (Nat.le_refl _) (g_X.st E) hz hX hK hG_41 hS_42 rfl hl_2.1 rfl (Nat.le_of_ble_eq_true rfl) dX1_isDone_162 (fun x35 G36 H locs ce sl hvc_44 hG_45 hS_46 hMC_47 hMS_48 => ?_)
      clear hvc_43 hG_41 hS_42 hMC hMS
      refine lv_if_lt (tgt := 172) hx hb dX1_isDone_165 (by decide) (fun h9 => ?_) (fun h9 => ?_)
      · replace hvc_44 := hvc_44.1 h9
        refine lv_iconst (v := nI 0) hx hb dX1_isDone_172 (by decide) ?_
        refine lv_goto (tgt := 241) hx hb dX1_isDone_173 (by decide) ?_
        exact g_iret hx hb hr hlocks (by show _ ≤ mc0; omega) (by show _ ≤ ms0; omega) hG_45 hS_46 rfl hvc_44 dX1_isDone_241
      · replace hvc_44 := hvc_44.2 h9
        refine lv_iconst (v := nI 1) hx hb dX1_isDone_168 (by decide) ?_
        refine lv_goto (tgt := 241) hx hb dX1_isDone_169 (by decide) ?_
        exact g_iret hx hb hr hlocks (by show _ ≤ mc0; omega) (by show _ ≤ ms0; omega) hG_45 hS_46 rfl hvc_44 dX1_isDone_241
  replace hvc_3 := hvc_3.2.2.2.2.2 h99 h100 h103 h108 h114
  refine lv_lookup (off := 197) (tgt := 206) hx hb dX1_isDone_9 (by decide) ((lv_osw h99 (by decide)).trans ((lv_osw h100 (by decide)).trans ((lv_osw h103 (by decide)).trans ((lv_osw h108 (by decide)).trans ((lv_osw h114 (by decide)).trans rfl))))) (by decide) ?_
  refine lv_aload_n hx hb dX1_isDone_206 rfl (lv_at hl_2 1 rfl) ?_
  refine gw_gr (C := RX1) (T := TX1) (N := 4) (own := RX1) hx hb hts in_X1 hown hK hG hvc_3 rfl (by decide) (hts _ q348) (fun _ h9 => h9) dX1_isDone_207 (fun x39 hvc_49 => ?_)
  clear hvc_3
  refine lv_aload_n hx hb dX1_isDone_210 rfl (lv_at hl_2 2 rfl) ?_
  refine gw_giN (C := RX9) (T := TX9) (N := 3) (own := RX1) hx hb hts in_X9 hown hK hG hvc_49 rfl (by decide) (hX.1 _ q1212 rfl) (fun _ h9 => h9) dX1_isDone_211 (fun x40 hvc_50 => ?_)
  clear hvc_49
  refine lv_iload_n hx hb dX1_isDone_214 rfl (lv_at hl_2 0 rfl) ?_
  refine gw_cVIP (As := [.int x40, .int x1]) (rest := [])  ⟨hx, hb, hml, hown, hts⟩ (met_X2_canAsk l E G x39 x40 x1 _ hvc_50.2) (cwV 2 hts (lw_V q1499 q1500 q1501 q97 q1502) rfl rfl rfl (by decide +kernel) ⟨Nat.le_of_ble_eq_true rfl, Nat.le_of_ble_eq_true rfl⟩) (gw_rc (q := (RX2, TX2, 11)) hK hG hvc_50.1 rfl) (by show _ ≤ mc0; omega) (by show _ ≤ ms0; omega) (g_X.st E) hz hX hK hG hS rfl hl_2.1 rfl (Nat.le_of_ble_eq_true rfl) dX1_isDone_215 (fun x41 H locs hvc_51 hG_52 hS_53 => ?_)
  clear hvc_50 hG hS
  refine lv_if_eq (tgt := 240) hx hb dX1_isDone_218 (by decide) (fun h9 => ?_) (fun h9 => ?_)
  · replace hvc_51 := hvc_51.1 h9
    refine lv_iconst (v := nI 0) hx hb dX1_isDone_240 (by decide) ?_
    exact g_iret hx hb hr hlocks (by show _ ≤ mc0; omega) (by show _ ≤ ms0; omega) hG_52 hS_53 rfl hvc_51 dX1_isDone_241
  · replace hvc_51 := hvc_51.2 h9
    refine lv_aload_n hx hb dX1_isDone_221 rfl (lv_at hl_2 1 rfl) ?_
    refine gw_gr (C := RX1) (T := TX1) (N := 4) (own := RX1) hx hb hts in_X1 hown hK hG_52 hvc_51 rfl (by decide) (hts _ q348) (fun _ h9 => h9) dX1_isDone_222 (fun x43 hvc_54 => ?_)
    clear hvc_51
    refine lv_aload_n hx hb dX1_isDone_225 rfl (lv_at hl_2 2 rfl) ?_
    refine gw_giN (C := RX9) (T := TX9) (N := 3) (own := RX1) hx hb hts in_X9 hown hK hG_52 hvc_54 rfl (by decide) (hX.1 _ q1212 rfl) (fun _ h9 => h9) dX1_isDone_226 (fun x44 hvc_55 => ?_)
    clear hvc_54
    refine lv_iload_n hx hb dX1_isDone_229 rfl (lv_at hl_2 0 rfl) ?_
    obtain ⟨c47, t48, hc1, hs1, hvc_55⟩ := hvc_55
    refine gw_cVIA (As := [.int x44, .int x1]) (rest := [])  ⟨hx, hb, hml, hown, hts⟩ (met_X2_asks l E G x43 x44 x1 c47 t48 _ hvc_55.2) (cwV 2 hts (lw_V q1503 q1504 q1505 q97 q1506) rfl rfl rfl (by decide +kernel) ⟨Nat.le_of_ble_eq_true rfl, Nat.le_of_ble_eq_true rfl⟩) (gw_rc (q := (RX2, TX2, 11)) hK hG_52 hvc_55.1 rfl) hc1 hs1 hMC hMS (Nat.le_refl _) (Nat.le_refl _) (g_X.st E) hz hX hK hG_52 hS_53 rfl hl_2.1 rfl (Nat.le_of_ble_eq_true rfl) dX1_isDone_230 (fun x45 G46 H locs ce sl hvc_56 hG_57 hS_58 hMC_59 hMS_60 => ?_)
    clear hvc_55 hG_52 hS_53 hMC hMS
    refine lv_if_lt (tgt := 240) hx hb dX1_isDone_233 (by decide) (fun h9 => ?_) (fun h9 => ?_)
    · replace hvc_56 := hvc_56.1 h9
      refine lv_iconst (v := nI 0) hx hb dX1_isDone_240 (by decide) ?_
      exact g_iret hx hb hr hlocks (by show _ ≤ mc0; omega) (by show _ ≤ ms0; omega) hG_57 hS_58 rfl hvc_56 dX1_isDone_241
    · replace hvc_56 := hvc_56.2 h9
      refine lv_iconst (v := nI 1) hx hb dX1_isDone_236 (by decide) ?_
      refine lv_goto (tgt := 241) hx hb dX1_isDone_237 (by decide) ?_
      exact g_iret hx hb hr hlocks (by show _ ≤ mc0; omega) (by show _ ≤ ms0; omega) hG_57 hS_58 rfl hvc_56 dX1_isDone_241
set_option maxHeartbeats 4000000 in
set_option maxRecDepth 100000 in
theorem met_X1_does (l : Launch) (E : g_E) (G : g_G) (o : Nat) (p1 : Nat) (mc0 ms0 : Nat) (post : Int32 → g_G → Prop) (hvc : wp_X1_does E G o p1 mc0 ms0 post) : g_MI E l yX1_does (ws_ yX1_does cX1_does 3 (Option.some Jvm.ClassFile.FieldType.boolean)) ({ frames := 15, cells := mc0, slots := ms0, locals := 371 } : Room) (g_X E) [.ref o, .ref p1] G (post) := by
  refine g_enter (by decide +kernel) (Nat.le_of_ble_eq_true rfl) ?_
  intro p e s m below meth c ls hx hb hr hts hown hlocks hml hin hz hX hK hG hS hl
  have hl : lv_has ls 3 [(0, .ref o), (1, .ref p1)] := hl
  have hown : s.vm.findClass RX1 = some m.cls := hown
  have hMC : 0 + mc0 ≤ mc0 := Nat.le_of_eq (Nat.zero_add _)
  have hMS : 0 + ms0 ≤ ms0 := Nat.le_of_eq (Nat.zero_add _)
  unfold wp_X1_does at hvc
  refine lv_aload_n hx hb dX1_does_0 rfl (lv_at hl 1 rfl) ?_
  refine gw_inst (v := (some p1)) (ci := 7) (cj := 8) hx hb hown (hts _ q1581) hK hG rfl rfl rfl hX.n1 hvc dX1_does_1 (fun x1 hvc_1 => ?_)
  clear hvc
  refine lv_if_eq (tgt := 42) hx hb dX1_does_4 (by decide) (fun h9 => ?_) (fun h9 => ?_)
  · replace hvc_1 := hvc_1.1 h9
    refine lv_aload_n hx hb dX1_does_42 rfl (lv_at hl 1 rfl) ?_
    refine gw_inst (v := (some p1)) (ci := 8) (cj := 7) hx hb hown (hts _ q1582) hK hG rfl rfl rfl hX.n2 hvc_1 dX1_does_43 (fun x2 hvc_2 => ?_)
    clear hvc_1
    refine lv_if_eq (tgt := 66) hx hb dX1_does_46 (by decide) (fun h9 => ?_) (fun h9 => ?_)
    · replace hvc_2 := hvc_2.1 h9
      refine lv_iconst (v := nI 0) hx hb dX1_does_66 (by decide) ?_
      exact g_iret hx hb hr hlocks (by show _ ≤ mc0; omega) (by show _ ≤ ms0; omega) hG hS rfl hvc_2 dX1_does_67
    · replace hvc_2 := hvc_2.2 h9
      refine lv_aload_n hx hb dX1_does_49 rfl (lv_at hl 1 rfl) ?_
      refine gw_castS (v := (some p1)) (ci := 8) hx hb hown (hts _ q1582) hK hG rfl rfl hvc_2 dX1_does_50 (fun z3 hy9 hvc_3 => ?_)
      clear hvc_2
      refine lv_astore_n (lv' := [(2, .ref z3), (0, .ref o), (1, .ref p1)]) hx hb dX1_does_53 rfl hl (by decide) rfl (fun ls hl_4 => ?_)
      clear hl
      refine lv_aload_n hx hb dX1_does_54 rfl (lv_at hl_4 1 rfl) ?_
      refine lv_aload_n hx hb dX1_does_55 rfl (lv_at hl_4 0 rfl) ?_
      obtain ⟨c6, t7, hc1, hs1, hvc_3⟩ := hvc_3
      refine gw_cVIA (As := [.ref z3]) (rest := [])  ⟨hx, hb, hml, hown, hts⟩ (met_X1_isDone l E G o z3 c6 t7 _ hvc_3.2) (cwV 1 hts (lw_V q1583 q1585 qs29 q90 q1586) rfl rfl rfl (by decide +kernel) ⟨Nat.le_of_ble_eq_true rfl, Nat.le_of_ble_eq_true rfl⟩) (gw_rc (q := (RX1, TX1, 4)) hK hG hvc_3.1 rfl) hc1 hs1 hMC hMS (Nat.le_refl _) (Nat.le_refl _) (g_X.st E) hz hX hK hG hS rfl hl_4.1 rfl (Nat.le_of_ble_eq_true rfl) dX1_does_56 (fun x4 G5 H locs ce sl hvc_5 hG_6 hS_7 hMC_8 hMS_9 => ?_)
      clear hvc_3 hG hS hMC hMS
      refine lv_if_eq (tgt := 66) hx hb dX1_does_59 (by decide) (fun h9 => ?_) (fun h9 => ?_)
      · replace hvc_5 := hvc_5.1 h9
        refine lv_iconst (v := nI 0) hx hb dX1_does_66 (by decide) ?_
        exact g_iret hx hb hr hlocks (by show _ ≤ mc0; omega) (by show _ ≤ ms0; omega) hG_6 hS_7 rfl hvc_5 dX1_does_67
      · replace hvc_5 := hvc_5.2 h9
        refine lv_iconst (v := nI 1) hx hb dX1_does_62 (by decide) ?_
        refine lv_goto (tgt := 67) hx hb dX1_does_63 (by decide) ?_
        exact g_iret hx hb hr hlocks (by show _ ≤ mc0; omega) (by show _ ≤ ms0; omega) hG_6 hS_7 rfl hvc_5 dX1_does_67
  · replace hvc_1 := hvc_1.2 h9
    refine lv_aload_n hx hb dX1_does_7 rfl (lv_at hl 1 rfl) ?_
    refine gw_castS (v := (some p1)) (ci := 7) hx hb hown (hts _ q1581) hK hG rfl rfl hvc_1 dX1_does_8 (fun z8 hy9 hvc_10 => ?_)
    clear hvc_1
    refine lv_astore_n (lv' := [(2, .ref z8), (0, .ref o), (1, .ref p1)]) hx hb dX1_does_11 rfl hl (by decide) rfl (fun ls hl_11 => ?_)
    clear hl
    refine lv_aload_n hx hb dX1_does_12 rfl (lv_at hl_11 1 rfl) ?_
    refine gw_gr (C := RX1) (T := TX1) (N := 4) (own := RX1) hx hb hts in_X1 hown hK hG hvc_10 rfl (by decide) (hts _ q348) (fun _ h9 => h9) dX1_does_13 (fun x9 hvc_12 => ?_)
    clear hvc_10
    refine gw_cVIP (As := []) (rest := [])  ⟨hx, hb, hml, hown, hts⟩ (met_X2_canBegin l E G x9 _ hvc_12.2) (cwV 0 hts (lw_V q1456 q1457 q1458 q97 q1459) rfl rfl rfl (by decide +kernel) ⟨Nat.le_of_ble_eq_true rfl, Nat.le_of_ble_eq_true rfl⟩) (gw_rc (q := (RX2, TX2, 11)) hK hG hvc_12.1 rfl) (by show _ ≤ mc0; omega) (by show _ ≤ ms0; omega) (g_X.st E) hz hX hK hG hS rfl hl_11.1 rfl (Nat.le_of_ble_eq_true rfl) dX1_does_16 (fun x10 H locs hvc_13 hG_14 hS_15 => ?_)
    clear hvc_12 hG hS
    refine lv_if_eq (tgt := 40) hx hb dX1_does_19 (by decide) (fun h9 => ?_) (fun h9 => ?_)
    · replace hvc_13 := hvc_13.1 h9
      refine lv_iconst (v := nI 0) hx hb dX1_does_40 (by decide) ?_
      exact g_iret hx hb hr hlocks (by show _ ≤ mc0; omega) (by show _ ≤ ms0; omega) hG_14 hS_15 rfl hvc_13 dX1_does_41
    · replace hvc_13 := hvc_13.2 h9
      refine lv_aload_n hx hb dX1_does_22 rfl (lv_at hl_11 1 rfl) ?_
      refine gw_gr (C := RX1) (T := TX1) (N := 4) (own := RX1) hx hb hts in_X1 hown hK hG_14 hvc_13 rfl (by decide) (hts _ q348) (fun _ h9 => h9) dX1_does_23 (fun x12 hvc_16 => ?_)
      clear hvc_13
      refine lv_aload_n hx hb dX1_does_26 rfl (lv_at hl_11 0 rfl) ?_
      refine gw_grN (C := RX8) (T := TX8) (N := 1) (own := RX1) hx hb hts in_X8 hown hK hG_14 hvc_16 rfl (by decide) (hX.1 _ q1191 rfl) (fun _ h9 => h9) dX1_does_27 (fun x13 hvc_17 => ?_)
      clear hvc_16
      obtain ⟨c16, t17, hc1, hs1, hvc_17⟩ := hvc_17
      refine gw_cVIA (As := [.ref x13]) (rest := [])  ⟨hx, hb, hml, hown, hts⟩ (met_X2_begins l E G x12 x13 c16 t17 _ hvc_17.2) (cwV 1 hts (lw_V q1467 q1468 q1469 q97 q1470) rfl rfl rfl (by decide +kernel) ⟨Nat.le_of_ble_eq_true rfl, Nat.le_of_ble_eq_true rfl⟩) (gw_rc (q := (RX2, TX2, 11)) hK hG_14 hvc_17.1 rfl) hc1 hs1 hMC hMS (Nat.le_refl _) (Nat.le_refl _) (g_X.st E) hz hX hK hG_14 hS_15 rfl hl_11.1 rfl (Nat.le_of_ble_eq_true rfl) dX1_does_30 (fun x14 G15 H locs ce sl hvc_18 hG_19 hS_20 hMC_21 hMS_22 => ?_)
      clear hvc_17 hG_14 hS_15 hMC hMS
      refine lv_if_lt (tgt := 40) hx hb dX1_does_33 (by decide) (fun h9 => ?_) (fun h9 => ?_)
      · replace hvc_18 := hvc_18.1 h9
        refine lv_iconst (v := nI 0) hx hb dX1_does_40 (by decide) ?_
        exact g_iret hx hb hr hlocks (by show _ ≤ mc0; omega) (by show _ ≤ ms0; omega) hG_19 hS_20 rfl hvc_18 dX1_does_41
      · replace hvc_18 := hvc_18.2 h9
        refine lv_iconst (v := nI 1) hx hb dX1_does_36 (by decide) ?_
        refine lv_goto (tgt := 41) hx hb dX1_does_37 (by decide) ?_
        exact g_iret hx hb hr hlocks (by show _ ≤ mc0; omega) (by show _ ≤ ms0; omega) hG_19 hS_20 rfl hvc_18 dX1_does_41
set_option maxHeartbeats 4000000 in
set_option maxRecDepth 100000 in
theorem met_X1_runCourse (l : Launch) (hfl : l.stackTraces = false) (E : g_E) (G : g_G) (o : Nat) (mc0 ms0 : Nat) (post : Int32 → g_G → Prop) (px : String → g_G → Prop) (hvc : wp_X1_runCourse E G o mc0 ms0 post px) : g_TI E l yX1_runCourse (ws_ yX1_runCourse cX1_runCourse 3 (Option.some Jvm.ClassFile.FieldType.int)) ({ frames := 23, cells := mc0, slots := ms0, locals := 511 } : Room) (g_Y E) [.ref o] G post px := by
  refine g_enterT (by decide +kernel) (Nat.le_of_ble_eq_true rfl) ?_
  intro p e s m below meth c ls hx hb hr hts hown hlocks hml hout hz hY hK hG hS hl
  have hX := hY.1
  have hl : lv_has ls 3 [(0, .ref o)] := hl
  have hown : s.vm.findClass RX1 = some m.cls := hown
  have hMC : 0 + mc0 ≤ mc0 := Nat.le_of_eq (Nat.zero_add _)
  have hMS : 0 + ms0 ≤ ms0 := Nat.le_of_eq (Nat.zero_add _)
  unfold wp_X1_runCourse at hvc
  refine gw_new (C := RX7) (T := TX7) (N := 4) (own := RX1) hx hb hts in_X7 tyX7 tyX7_ok hown (hts _ q1101) (hts _ q1102) (hts _ q124) hK hG hS hz hvc rfl (by decide) hMC hMS (Nat.le_refl _) (Nat.le_refl _) dX1_runCourse_0 (fun q1 G2 H ce sl hvc_1 hG_2 hS_3 hMC_4 hMS_5 => ?_)
  clear hvc hG hS hMC hMS
  refine lv_dup hx hb dX1_runCourse_3 rfl ?_
  refine lv_aload_n hx hb dX1_runCourse_4 rfl (lv_at hl 0 rfl) ?_
  obtain ⟨c5, t6, hc1, hs1, hvc_1⟩ := hvc_1
  refine gw_cNVA (As := [.ref o]) (rest := [.ref q1])  ⟨hx, hb, hml, hown, hts⟩ (met_X7_init l E G2 q1 o c5 t6 _ hvc_1) ⟨va_cnB 1 hts (lw_meth q1105) rfl rfl rfl (hX.1 _ q1103 rfl) (hts _ q124) (by decide +kernel) ⟨Nat.le_of_ble_eq_true rfl, Nat.le_of_ble_eq_true rfl⟩, rfl, hts _ q1104⟩ hc1 hs1 hMC_4 hMS_5 (Nat.le_refl _) (Nat.le_refl _) (g_X.st E) hz hX hK hG_2 hS_3 rfl hl.1 rfl (Nat.le_of_ble_eq_true rfl) dX1_runCourse_5 (fun G4 H locs ce sl hvc_6 hG_7 hS_8 hMC_9 hMS_10 => ?_)
  clear hvc_1 hG_2 hS_3 hMC_4 hMS_5
  obtain ⟨c9, t10, hc1, hs1, hvc_6⟩ := hvc_6
  refine gw_cVQA (As := []) (rest := [])  ⟨hx, hb, hml, hown, hts⟩ (met_X7_reads l E G4 q1 c9 t10 _ hvc_6.2) (cwV 0 hts (lw_V q1125 q1126 q1127 q124 q1128) rfl rfl rfl (by decide +kernel) ⟨Nat.le_of_ble_eq_true rfl, Nat.le_of_ble_eq_true rfl⟩) (gw_rc (q := (RX7, TX7, 4)) hK hG_7 hvc_6.1 rfl) hc1 hs1 hMC_9 hMS_10 (Nat.le_refl _) (Nat.le_refl _) (g_X.st E) hz hX hK hG_7 hS_8 rfl hl.1 rfl (Nat.le_of_ble_eq_true rfl) dX1_runCourse_8 (fun x7 G8 H locs ce sl hvc_11 hG_12 hS_13 hMC_14 hMS_15 => ?_)
  clear hvc_6 hG_7 hS_8 hMC_9 hMS_10
  refine gq_astore_n (lv' := [(1, va_rf x7), (0, .ref o)]) hx hb dX1_runCourse_11 rfl hl (by decide) rfl (fun ls hl_16 => ?_)
  clear hl
  refine gq_aload_n hx hb dX1_runCourse_12 rfl (lv_at hl_16 0 rfl) ?_
  obtain ⟨z11, rfl, hvc_11⟩ := hvc_11
  refine gw_giN (C := RX7) (T := TX7) (N := 4) (own := RX1) hx hb hts in_X7 hown hK hG_12 hvc_11 rfl (by decide) (hX.1 _ q1114 rfl) (fun _ h9 => h9) dX1_runCourse_13 (fun x12 hvc_17 => ?_)
  clear hvc_11
  obtain ⟨c15, t16, hc1, hs1, hvc_17⟩ := hvc_17
  refine gt_cSV (As := [.int x12]) (rest := [])  ⟨hx, hb, hml, hown, hts⟩ (met_X1_argument l hfl E G8 x12 c15 t16 _ _ hvc_17) (va_cwS 1 hts (lw_S q1450 q1451 q90 q1452) rfl rfl rfl (by decide +kernel) ⟨Nat.le_of_ble_eq_true rfl, Nat.le_of_ble_eq_true rfl⟩) hc1 hs1 hMC_14 hMS_15 (Nat.le_refl _) (Nat.le_refl _) (g_Y.st E) hz hY hK hG_12 hS_13 rfl hl_16.1 rfl (Nat.le_of_ble_eq_true rfl) dX1_runCourse_16 (fun X9 ce q9 G9 H9 l9 c9 s9 a1 a2 a3 a4 a5 a6 a7 a8 => gt_out hout hlocks (by show _ ≤ mc0; omega) (by show _ ≤ ms0; omega) a2 a3 a4 a5 a6 a1) (fun G14 H locs ce sl hvc_18 hG_19 hS_20 hMC_21 hMS_22 => ?_)
  clear hvc_17 hG_12 hS_13 hMC_14 hMS_15
  refine lv_aload_n hx hb dX1_runCourse_19 rfl (lv_at hl_16 1 rfl) ?_
  obtain ⟨c19, t20, hc1, hs1, hvc_18⟩ := hvc_18
  refine gw_cVVA (As := []) (rest := [])  ⟨hx, hb, hml, hown, hts⟩ (met_X1_saves l E G14 o c19 t20 _ hvc_18.2) (cwV 0 hts (lw_V q363 q365 qs3 q90 q366) rfl rfl rfl (by decide +kernel) ⟨Nat.le_of_ble_eq_true rfl, Nat.le_of_ble_eq_true rfl⟩) (gw_rc (q := (RX1, TX1, 4)) hK hG_19 hvc_18.1 rfl) hc1 hs1 hMC_21 hMS_22 (Nat.le_refl _) (Nat.le_refl _) (g_X.st E) hz hX hK hG_19 hS_20 rfl hl_16.1 rfl (Nat.le_of_ble_eq_true rfl) dX1_runCourse_20 (fun G18 H locs ce sl hvc_23 hG_24 hS_25 hMC_26 hMS_27 => ?_)
  clear hvc_18 hG_19 hS_20 hMC_21 hMS_22
  refine lv_aload_n hx hb dX1_runCourse_23 rfl (lv_at hl_16 1 rfl) ?_
  refine gw_gr (C := RX1) (T := TX1) (N := 4) (own := RX1) hx hb hts in_X1 hown hK hG_24 hvc_23 rfl (by decide) (hts _ q345) (fun _ h9 => h9) dX1_runCourse_24 (fun x21 hvc_28 => ?_)
  clear hvc_23
  refine lv_iconst (v := nI 0) hx hb dX1_runCourse_27 (by decide) ?_
  obtain ⟨c24, t25, hc1, hs1, hvc_28⟩ := hvc_28
  refine gw_cVVA (As := [.int (nI 0)]) (rest := [])  ⟨hx, hb, hml, hown, hts⟩ (met_J1_setLength l E G18 x21 (nI 0) c24 t25 _ hvc_28.2) (cwV 1 hts (lw_V q1029 q1030 q1031 q92 q1032) rfl rfl rfl (by decide +kernel) ⟨Nat.le_of_ble_eq_true rfl, Nat.le_of_ble_eq_true rfl⟩) (gw_rc (q := (RJ1, TJ1, 4)) hK hG_24 hvc_28.1 rfl) hc1 hs1 hMC_26 hMS_27 (Nat.le_refl _) (Nat.le_refl _) (g_X.st E) hz hX hK hG_24 hS_25 rfl hl_16.1 rfl (Nat.le_of_ble_eq_true rfl) dX1_runCourse_28 (fun G23 H locs ce sl hvc_29 hG_30 hS_31 hMC_32 hMS_33 => ?_)
  clear hvc_28 hG_24 hS_25 hMC_26 hMS_27
  refine lv_iconst (v := nI 0) hx hb dX1_runCourse_31 (by decide) ?_
  have lp33 : ∀ (n33 : Nat) (y0 : Nat) (y1 : Option Nat) (y2 : Int32) (G : g_G) (mc : Nat) (ms : Nat) (H : Heap) (locs : List Loc) (ls : Array Slot) (ce sl : Nat), wp_X1_runCourse_33 E post px n33 y0 y1 y2 G mc ms → g_H E G H → va_S (g_A E) s.heap H locs → lv_has ls 3 [(0, .ref y0), (1, va_rf y1), (2, .int y2)] → ce + mc ≤ mc0 → sl + ms ≤ ms0 → W p l e ({ frames := 23, cells := mc0, slots := ms0, locals := 511 } : Room) s m ([.ref o] : List Value).toArray below meth c H locs ce sl (vx_MQ below (va_Qi (post) (g_Bk E) (g_A E)) (g_XC E px) ([.ref o] : List Value).toArray s mc0 ms0 (g_A E)) (F0 m 33 ls []) := by
    clear hvc_29 hG_30 hS_31 hl_16 hMC_32 hMS_33
    intro n33
    induction n33 with
    | zero =>
      intro y0 y1 y2 G mc ms H locs ls ce sl hvc_34 hG_35 hS_36 hl_37 hMC_38 hMS_39
      exact False.elim hvc_34
    | succ n33 ih33 =>
      intro y0 y1 y2 G mc ms H locs ls ce sl hvc_40 hG_41 hS_42 hl_43 hMC_44 hMS_45
      refine lv_iload_n hx hb dX1_runCourse_33 rfl (lv_at hl_43 2 rfl) ?_
      refine gq_aload_n hx hb dX1_runCourse_34 rfl (lv_at hl_43 1 rfl) ?_
      obtain ⟨z26, rfl, hvc_40⟩ := hvc_40
      refine gw_grN (C := RX7) (T := TX7) (N := 4) (own := RX1) hx hb hts in_X7 hown hK hG_41 hvc_40 rfl (by decide) (hX.1 _ q1110 rfl) (fun _ h9 => h9) dX1_runCourse_35 (fun x27 hvc_46 => ?_)
      clear hvc_40
      refine gw_cFIP (As := []) (rest := [.int y2]) (hK.1 9 _ rfl).2  ⟨hx, hb, hml, hown, hts⟩ (met_J7_size l E G x27 _ hvc_46.2) (va_cwF 0 hts (lw_F q1229 q886 q888 q99 q890) rfl rfl rfl (hX.fw (List.mem_of_getElem? (i := 6) rfl)) (by decide +kernel) ⟨Nat.le_of_ble_eq_true rfl, Nat.le_of_ble_eq_true rfl⟩) (gw_rc (q := (RJ7, TJ7, 3)) hK hG_41 hvc_46.1 rfl) (by show _ ≤ mc0; omega) (by show _ ≤ ms0; omega) (g_St0 E) hz trivial hK hG_41 hS_42 rfl hl_43.1 rfl (Nat.le_of_ble_eq_true rfl) dX1_runCourse_38 (fun x28 H locs hvc_47 hG_48 hS_49 => ?_)
      clear hvc_46 hG_41 hS_42
      refine lv_icmp_ge (tgt := 72) hx hb dX1_runCourse_43 (by decide) (fun h9 => ?_) (fun h9 => ?_)
      · replace hvc_47 := hvc_47.1 h9
        refine lv_iload_n hx hb dX1_runCourse_72 rfl (lv_at hl_43 2 rfl) ?_
        exact vx_ret (g_iret hx hb hr hlocks (by show _ ≤ mc0; omega) (by show _ ≤ ms0; omega) hG_48 hS_49 rfl hvc_47 dX1_runCourse_73)
      · replace hvc_47 := hvc_47.2 h9
        refine lv_aload_n hx hb dX1_runCourse_46 rfl (lv_at hl_43 0 rfl) ?_
        refine lv_aload_n hx hb dX1_runCourse_47 rfl (lv_at hl_43 1 rfl) ?_
        refine gw_grN (C := RX7) (T := TX7) (N := 4) (own := RX1) hx hb hts in_X7 hown hK hG_48 hvc_47 rfl (by decide) (hX.1 _ q1110 rfl) (fun _ h9 => h9) dX1_runCourse_48 (fun x30 hvc_50 => ?_)
        clear hvc_47
        refine lv_iload_n hx hb dX1_runCourse_51 rfl (lv_at hl_43 2 rfl) ?_
        refine gw_cFQP (As := [.int y2]) (rest := [.ref y0]) (hK.1 9 _ rfl).2  ⟨hx, hb, hml, hown, hts⟩ (met_J7_get l E G x30 y2 _ hvc_50.2) (va_cwF 1 hts (lw_F q1311 q857 q859 q99 q861) rfl rfl rfl (hX.fw (List.mem_of_getElem? (i := 5) rfl)) (by decide +kernel) ⟨Nat.le_of_ble_eq_true rfl, Nat.le_of_ble_eq_true rfl⟩) (gw_rc (q := (RJ7, TJ7, 3)) hK hG_48 hvc_50.1 rfl) (by show _ ≤ mc0; omega) (by show _ ≤ ms0; omega) (g_St0 E) hz trivial hK hG_48 hS_49 rfl hl_43.1 rfl (Nat.le_of_ble_eq_true rfl) dX1_runCourse_52 (fun x31 H locs hvc_51 hG_52 hS_53 => ?_)
        clear hvc_50 hG_48 hS_49
        refine gw_castP (v := x31) hx hb hown (hts _ q1576) hK hG_52 (hX.1 _ q2290 rfl) (hX.1 _ q2291 rfl) hvc_51 dX1_runCourse_57 (fun z33 hy9 hvc_54 => ?_)
        clear hvc_51
        subst hy9
        obtain ⟨c36, t37, hc1, hs1, hvc_54⟩ := hvc_54
        refine gw_cVIA (As := [.ref z33]) (rest := [])  ⟨hx, hb, hml, hown, hts⟩ (met_X1_does l E G y0 z33 c36 t37 _ hvc_54.2) (cwV 1 hts (lw_V q1577 q1579 qs28 q90 q1580) rfl rfl rfl (by decide +kernel) ⟨Nat.le_of_ble_eq_true rfl, Nat.le_of_ble_eq_true rfl⟩) (gw_rc (q := (RX1, TX1, 4)) hK hG_52 hvc_54.1 rfl) hc1 hs1 hMC_44 hMS_45 (Nat.le_refl _) (Nat.le_refl _) (g_X.st E) hz hX hK hG_52 hS_53 rfl hl_43.1 rfl (Nat.le_of_ble_eq_true rfl) dX1_runCourse_60 (fun x34 G35 H locs ce sl hvc_55 hG_56 hS_57 hMC_58 hMS_59 => ?_)
        clear hvc_54 hG_52 hS_53 hMC_44 hMS_45
        refine lv_if_eq (tgt := 72) hx hb dX1_runCourse_63 (by decide) (fun h9 => ?_) (fun h9 => ?_)
        · replace hvc_55 := hvc_55.1 h9
          refine lv_iload_n hx hb dX1_runCourse_72 rfl (lv_at hl_43 2 rfl) ?_
          exact vx_ret (g_iret hx hb hr hlocks (by show _ ≤ mc0; omega) (by show _ ≤ ms0; omega) hG_56 hS_57 rfl hvc_55 dX1_runCourse_73)
        · replace hvc_55 := hvc_55.2 h9
          refine lv_iinc (k := 2) (v := y2 + (nI 1)) (lv' := [(2, .int (y2 + (nI 1))), (0, .ref y0), (1, .ref z26)]) hx hb dX1_runCourse_66 hl_43 rfl (congrArg (y2 + ·) (by decide : Int32.ofInt (1) = nI 1)) (by decide) rfl (fun ls hl_60 => ?_)
          clear hl_43
          refine lv_goto (tgt := 33) hx hb dX1_runCourse_69 (by decide) ?_
          exact ih33 y0 (some z26) (y2 + (nI 1)) G35 (mc - c36) (ms - t37) _ _ _ _ _ hvc_55 hG_56 hS_57 (lv_sub hl_60 [1, 2, 0] rfl) hMC_58 hMS_59
  refine lv_istore_n (lv' := [(2, .int (nI 0)), (1, .ref z11), (0, .ref o)]) hx hb dX1_runCourse_32 rfl hl_16 (by decide) rfl (fun ls hl_61 => ?_)
  clear hl_16
  obtain ⟨nf33, hvc_29⟩ := hvc_29
  exact lp33 nf33 o (some z11) (nI 0) G23 (mc0 - 1 - c5 - c9 - c15 - c19 - c24) (ms0 - 4 - t6 - t10 - t16 - t20 - t25) _ _ _ _ _ hvc_29 hG_30 hS_31 (lv_sub hl_61 [2, 1, 0] rfl) hMC_32 hMS_33
set_option maxHeartbeats 4000000 in
set_option maxRecDepth 100000 in
theorem met_X1_goBack (l : Launch) (hfl : l.stackTraces = false) (E : g_E) (G : g_G) (o : Nat) (mc0 ms0 : Nat) (post : Int32 → g_G → Prop) (px : String → g_G → Prop) (hvc : wp_X1_goBack E G o mc0 ms0 post px) : g_TI E l yX1_goBack (ws_ yX1_goBack cX1_goBack 1 (Option.some Jvm.ClassFile.FieldType.int)) ({ frames := 9, cells := mc0, slots := ms0, locals := 234 } : Room) (g_Y E) [.ref o] G post px := by
  refine g_enterT (by decide +kernel) (Nat.le_of_ble_eq_true rfl) ?_
  intro p e s m below meth c ls hx hb hr hts hown hlocks hml hout hz hY hK hG hS hl
  have hX := hY.1
  have hl : lv_has ls 1 [(0, .ref o)] := hl
  have hown : s.vm.findClass RX1 = some m.cls := hown
  have hMC : 0 + mc0 ≤ mc0 := Nat.le_of_eq (Nat.zero_add _)
  have hMS : 0 + ms0 ≤ ms0 := Nat.le_of_eq (Nat.zero_add _)
  unfold wp_X1_goBack at hvc
  refine lv_aload_n hx hb dX1_goBack_0 rfl (lv_at hl 0 rfl) ?_
  refine gw_gq (C := RX1) (T := TX1) (N := 4) (own := RX1) hx hb hts in_X1 hown hK hG hvc rfl (by decide) (hts _ q349) (fun _ h9 => h9) dX1_goBack_1 (fun x1 hvc_1 => ?_)
  clear hvc
  have jn12 : ∀ (y0 : Nat) (s0 : Int32) (G : g_G) (mc : Nat) (ms : Nat) (H : Heap) (locs : List Loc) (ls : Array Slot) (ce sl : Nat), wp_X1_goBack_12 E post px y0 s0 G mc ms → g_H E G H → va_S (g_A E) s.heap H locs → lv_has ls 1 [(0, .ref y0)] → ce + mc ≤ mc0 → sl + ms ≤ ms0 → W p l e ({ frames := 9, cells := mc0, slots := ms0, locals := 234 } : Room) s m ([.ref o] : List Value).toArray below meth c H locs ce sl (vx_MQ below (va_Qi (post) (g_Bk E) (g_A E)) (g_XC E px) ([.ref o] : List Value).toArray s mc0 ms0 (g_A E)) (F0 m 12 ls [.int s0]) := by
    clear hvc_1 hG hS hl hMC hMS
    intro y0 s0 G mc ms H locs ls ce sl hvc_2 hG_3 hS_4 hl_5 hMC_6 hMS_7
    obtain ⟨c4, t5, hc1, hs1, hvc_2⟩ := hvc_2
    refine gt_cSV (As := [.int s0]) (rest := [])  ⟨hx, hb, hml, hown, hts⟩ (met_X1_state l hfl E G s0 c4 t5 _ _ hvc_2) (va_cwS 1 hts (lw_S q1460 q1461 q90 q1462) rfl rfl rfl (by decide +kernel) ⟨Nat.le_of_ble_eq_true rfl, Nat.le_of_ble_eq_true rfl⟩) hc1 hs1 hMC_6 hMS_7 (Nat.le_refl _) (Nat.le_refl _) (g_Y.st E) hz hY hK hG_3 hS_4 rfl hl_5.1 rfl (Nat.le_of_ble_eq_true rfl) dX1_goBack_12 (fun X9 ce q9 G9 H9 l9 c9 s9 a1 a2 a3 a4 a5 a6 a7 a8 => gt_out hout hlocks (by show _ ≤ mc0; omega) (by show _ ≤ ms0; omega) a2 a3 a4 a5 a6 a1) (fun G3 H locs ce sl hvc_8 hG_9 hS_10 hMC_11 hMS_12 => ?_)
    clear hvc_2 hG_3 hS_4 hMC_6 hMS_7
    refine lv_aload_n hx hb dX1_goBack_15 rfl (lv_at hl_5 0 rfl) ?_
    obtain ⟨c8, t9, hc1, hs1, hvc_8⟩ := hvc_8
    refine gw_cVVA (As := []) (rest := [])  ⟨hx, hb, hml, hown, hts⟩ (met_X1_saves l E G3 y0 c8 t9 _ hvc_8.2) (cwV 0 hts (lw_V q363 q365 qs3 q90 q366) rfl rfl rfl (by decide +kernel) ⟨Nat.le_of_ble_eq_true rfl, Nat.le_of_ble_eq_true rfl⟩) (gw_rc (q := (RX1, TX1, 4)) hK hG_9 hvc_8.1 rfl) hc1 hs1 hMC_11 hMS_12 (Nat.le_refl _) (Nat.le_refl _) (g_X.st E) hz hX hK hG_9 hS_10 rfl hl_5.1 rfl (Nat.le_of_ble_eq_true rfl) dX1_goBack_16 (fun G7 H locs ce sl hvc_13 hG_14 hS_15 hMC_16 hMS_17 => ?_)
    clear hvc_8 hG_9 hS_10 hMC_11 hMS_12
    refine lv_aload_n hx hb dX1_goBack_19 rfl (lv_at hl_5 0 rfl) ?_
    refine gw_new (C := RX2) (T := TX2) (N := 11) (own := RX1) hx hb hts in_X2 tyX2 tyX2_ok hown (hts _ q191) (hts _ q192) (hts _ q97) hK hG_14 hS_15 hz hvc_13 rfl (by decide) hMC_16 hMS_17 (Nat.le_refl _) (Nat.le_refl _) dX1_goBack_20 (fun q10 G11 H ce sl hvc_18 hG_19 hS_20 hMC_21 hMS_22 => ?_)
    clear hvc_13 hG_14 hS_15 hMC_16 hMS_17
    refine lv_dup hx hb dX1_goBack_23 rfl ?_
    refine lv_aload_n hx hb dX1_goBack_24 rfl (lv_at hl_5 0 rfl) ?_
    refine gw_gq (C := RX1) (T := TX1) (N := 4) (own := RX1) hx hb hts in_X1 hown hK hG_19 hvc_18 rfl (by decide) (hts _ q349) (fun _ h9 => h9) dX1_goBack_25 (fun x12 hvc_23 => ?_)
    clear hvc_18
    obtain ⟨z13, rfl, hvc_23⟩ := hvc_23
    obtain ⟨c16, t17, hc1, hs1, hvc_23⟩ := hvc_23
    refine gw_cCVA (As := [.ref z13]) (rest := [.ref q10, .ref y0])  ⟨hx, hb, hml, hown, hts⟩ (met_X2_init_2 l E G11 q10 z13 c16 t17 _ hvc_23) (cwI 1 hts (lw_meth q390) rfl rfl rfl (hts _ q97) (hts _ q388) (hts _ q389) rfl (by decide +kernel) ⟨Nat.le_of_ble_eq_true rfl, Nat.le_of_ble_eq_true rfl⟩) hc1 hs1 hMC_21 hMS_22 (Nat.le_refl _) (Nat.le_refl _) (g_X.st E) hz hX hK hG_19 hS_20 rfl hl_5.1 rfl (Nat.le_of_ble_eq_true rfl) dX1_goBack_28 (fun G15 H locs ce sl hvc_24 hG_25 hS_26 hMC_27 hMS_28 => ?_)
    clear hvc_23 hG_19 hS_20 hMC_21 hMS_22
    refine gw_put (ty := .object "VoteLogs$Town") (C := RX1) (T := TX1) (N := 4) (own := RX1) hx hb hts in_X1 tyX1 tyX1_ok nmX1 hown hK hG_25 hS_26 hvc_24 rfl (by decide) (hts _ q348) (fun _ h9 => h9) rfl (by decide +kernel) rfl rfl dX1_goBack_31 (fun G18 H locs hvc_29 hG_30 hS_31 => ?_)
    clear hvc_24 hG_25 hS_26
    refine lv_aload_n hx hb dX1_goBack_34 rfl (lv_at hl_5 0 rfl) ?_
    refine gw_gr (C := RX1) (T := TX1) (N := 4) (own := RX1) hx hb hts in_X1 hown hK hG_30 hvc_29 rfl (by decide) (hts _ q348) (fun _ h9 => h9) dX1_goBack_35 (fun x19 hvc_32 => ?_)
    clear hvc_29
    refine gw_grN (C := RX2) (T := TX2) (N := 11) (own := RX1) hx hb hts in_X2 hown hK hG_30 hvc_32 rfl (by decide) (hX.1 _ q306 rfl) (fun _ h9 => h9) dX1_goBack_38 (fun x20 hvc_33 => ?_)
    clear hvc_32
    refine gw_cFIP (As := []) (rest := []) (hK.1 9 _ rfl).2  ⟨hx, hb, hml, hown, hts⟩ (met_J7_size l E G18 x20 _ hvc_33.2) (va_cwF 0 hts (lw_F q1229 q886 q888 q99 q890) rfl rfl rfl (hX.fw (List.mem_of_getElem? (i := 6) rfl)) (by decide +kernel) ⟨Nat.le_of_ble_eq_true rfl, Nat.le_of_ble_eq_true rfl⟩) (gw_rc (q := (RJ7, TJ7, 3)) hK hG_30 hvc_33.1 rfl) (by show _ ≤ mc0; omega) (by show _ ≤ ms0; omega) (g_St0 E) hz trivial hK hG_30 hS_31 rfl hl_5.1 rfl (Nat.le_of_ble_eq_true rfl) dX1_goBack_41 (fun x21 H locs hvc_34 hG_35 hS_36 => ?_)
    clear hvc_33 hG_30 hS_31
    exact vx_ret (g_iret hx hb hr hlocks (by show _ ≤ mc0; omega) (by show _ ≤ ms0; omega) hG_35 hS_36 rfl hvc_34 dX1_goBack_46)
  refine gq_ifnull (o := x1) (tgt := 11) hx hb dX1_goBack_4 (by decide) (fun h9 => ?_) (fun h9 => ?_)
  · replace hvc_1 := hvc_1.1 h9
    refine lv_iconst (v := nI 0) hx hb dX1_goBack_11 (by decide) ?_
    exact jn12 o (nI 0) G mc0 ms0 _ _ _ _ _ hvc_1 hG hS (lv_sub hl [0] rfl) hMC hMS
  · replace hvc_1 := hvc_1.2 h9
    refine lv_iconst (v := nI 1) hx hb dX1_goBack_7 (by decide) ?_
    refine lv_goto (tgt := 12) hx hb dX1_goBack_8 (by decide) ?_
    exact jn12 o (nI 1) G mc0 ms0 _ _ _ _ _ hvc_1 hG hS (lv_sub hl [0] rfl) hMC hMS
set_option maxHeartbeats 4000000 in
set_option maxRecDepth 100000 in
theorem met_X1_undo (l : Launch) (hfl : l.stackTraces = false) (E : g_E) (G : g_G) (o : Nat) (mc0 ms0 : Nat) (post : Int32 → g_G → Prop) (px : String → g_G → Prop) (hvc : wp_X1_undo E G o mc0 ms0 post px) : g_TI E l yX1_undo (ws_ yX1_undo cX1_undo 1 (Option.some Jvm.ClassFile.FieldType.int)) ({ frames := 7, cells := mc0, slots := ms0, locals := 116 } : Room) (g_Y E) [.ref o] G post px := by
  refine g_enterT (by decide +kernel) (Nat.le_of_ble_eq_true rfl) ?_
  intro p e s m below meth c ls hx hb hr hts hown hlocks hml hout hz hY hK hG hS hl
  have hX := hY.1
  have hl : lv_has ls 1 [(0, .ref o)] := hl
  have hown : s.vm.findClass RX1 = some m.cls := hown
  have hMC : 0 + mc0 ≤ mc0 := Nat.le_of_eq (Nat.zero_add _)
  have hMS : 0 + ms0 ≤ ms0 := Nat.le_of_eq (Nat.zero_add _)
  unfold wp_X1_undo at hvc
  refine lv_aload_n hx hb dX1_undo_0 rfl (lv_at hl 0 rfl) ?_
  refine gw_gr (C := RX1) (T := TX1) (N := 4) (own := RX1) hx hb hts in_X1 hown hK hG hvc rfl (by decide) (hts _ q347) (fun _ h9 => h9) dX1_undo_1 (fun x1 hvc_1 => ?_)
  clear hvc
  refine gw_cVIP (As := []) (rest := [])  ⟨hx, hb, hml, hown, hts⟩ (met_J5_isEmpty l E G x1 _ hvc_1.2) (cwV 0 hts (lw_V q1601 q1602 q1603 q96 q1604) rfl rfl rfl (by decide +kernel) ⟨Nat.le_of_ble_eq_true rfl, Nat.le_of_ble_eq_true rfl⟩) (gw_rc (q := (RJ5, TJ5, 3)) hK hG hvc_1.1 rfl) (by show _ ≤ mc0; omega) (by show _ ≤ ms0; omega) (g_St0 E) hz trivial hK hG hS rfl hl.1 rfl (Nat.le_of_ble_eq_true rfl) dX1_undo_4 (fun x2 H locs hvc_2 hG_3 hS_4 => ?_)
  clear hvc_1 hG hS
  have jn15 : ∀ (y0 : Nat) (s0 : Int32) (G : g_G) (mc : Nat) (ms : Nat) (H : Heap) (locs : List Loc) (ls : Array Slot) (ce sl : Nat), wp_X1_undo_15 E post px y0 s0 G mc ms → g_H E G H → va_S (g_A E) s.heap H locs → lv_has ls 1 [(0, .ref y0)] → ce + mc ≤ mc0 → sl + ms ≤ ms0 → W p l e ({ frames := 7, cells := mc0, slots := ms0, locals := 116 } : Room) s m ([.ref o] : List Value).toArray below meth c H locs ce sl (vx_MQ below (va_Qi (post) (g_Bk E) (g_A E)) (g_XC E px) ([.ref o] : List Value).toArray s mc0 ms0 (g_A E)) (F0 m 15 ls [.int s0]) := by
    clear hvc_2 hG_3 hS_4 hl hMC hMS
    intro y0 s0 G mc ms H locs ls ce sl hvc_5 hG_6 hS_7 hl_8 hMC_9 hMS_10
    obtain ⟨c6, t7, hc1, hs1, hvc_5⟩ := hvc_5
    refine gt_cSV (As := [.int s0]) (rest := [])  ⟨hx, hb, hml, hown, hts⟩ (met_X1_state l hfl E G s0 c6 t7 _ _ hvc_5) (va_cwS 1 hts (lw_S q1460 q1461 q90 q1462) rfl rfl rfl (by decide +kernel) ⟨Nat.le_of_ble_eq_true rfl, Nat.le_of_ble_eq_true rfl⟩) hc1 hs1 hMC_9 hMS_10 (Nat.le_refl _) (Nat.le_refl _) (g_Y.st E) hz hY hK hG_6 hS_7 rfl hl_8.1 rfl (Nat.le_of_ble_eq_true rfl) dX1_undo_15 (fun X9 ce q9 G9 H9 l9 c9 s9 a1 a2 a3 a4 a5 a6 a7 a8 => gt_out hout hlocks (by show _ ≤ mc0; omega) (by show _ ≤ ms0; omega) a2 a3 a4 a5 a6 a1) (fun G5 H locs ce sl hvc_11 hG_12 hS_13 hMC_14 hMS_15 => ?_)
    clear hvc_5 hG_6 hS_7 hMC_9 hMS_10
    refine lv_aload_n hx hb dX1_undo_18 rfl (lv_at hl_8 0 rfl) ?_
    refine lv_aload_n hx hb dX1_undo_19 rfl (lv_at hl_8 0 rfl) ?_
    refine gw_gr (C := RX1) (T := TX1) (N := 4) (own := RX1) hx hb hts in_X1 hown hK hG_12 hvc_11 rfl (by decide) (hts _ q347) (fun _ h9 => h9) dX1_undo_20 (fun x8 hvc_16 => ?_)
    clear hvc_11
    obtain ⟨c11, t12, hc1, hs1, hvc_16⟩ := hvc_16
    refine gw_cVQA (As := []) (rest := [.ref y0])  ⟨hx, hb, hml, hown, hts⟩ (met_J5_removeLast l E G5 x8 c11 t12 _ hvc_16.2) (cwV 0 hts (lw_V q1605 q1606 q1607 q96 q1608) rfl rfl rfl (by decide +kernel) ⟨Nat.le_of_ble_eq_true rfl, Nat.le_of_ble_eq_true rfl⟩) (gw_rc (q := (RJ5, TJ5, 3)) hK hG_12 hvc_16.1 rfl) hc1 hs1 hMC_14 hMS_15 (Nat.le_refl _) (Nat.le_refl _) (g_X.st E) hz hX hK hG_12 hS_13 rfl hl_8.1 rfl (Nat.le_of_ble_eq_true rfl) dX1_undo_23 (fun x9 G10 H locs ce sl hvc_17 hG_18 hS_19 hMC_20 hMS_21 => ?_)
    clear hvc_16 hG_12 hS_13 hMC_14 hMS_15
    refine gw_castS (v := x9) (ci := 1) hx hb hown (hts _ q191) hK hG_18 rfl rfl hvc_17 dX1_undo_26 (fun z13 hy9 hvc_22 => ?_)
    clear hvc_17
    subst hy9
    refine gw_put (ty := .object "VoteLogs$Town") (C := RX1) (T := TX1) (N := 4) (own := RX1) hx hb hts in_X1 tyX1 tyX1_ok nmX1 hown hK hG_18 hS_19 hvc_22 rfl (by decide) (hts _ q348) (fun _ h9 => h9) rfl (by decide +kernel) rfl rfl dX1_undo_29 (fun G14 H locs hvc_23 hG_24 hS_25 => ?_)
    clear hvc_22 hG_18 hS_19
    refine lv_aload_n hx hb dX1_undo_32 rfl (lv_at hl_8 0 rfl) ?_
    refine gw_gr (C := RX1) (T := TX1) (N := 4) (own := RX1) hx hb hts in_X1 hown hK hG_24 hvc_23 rfl (by decide) (hts _ q347) (fun _ h9 => h9) dX1_undo_33 (fun x15 hvc_26 => ?_)
    clear hvc_23
    refine gw_cVIP (As := []) (rest := [])  ⟨hx, hb, hml, hown, hts⟩ (met_J5_size l E G14 x15 _ hvc_26.2) (cwV 0 hts (lw_V q367 q368 q369 q96 q370) rfl rfl rfl (by decide +kernel) ⟨Nat.le_of_ble_eq_true rfl, Nat.le_of_ble_eq_true rfl⟩) (gw_rc (q := (RJ5, TJ5, 3)) hK hG_24 hvc_26.1 rfl) (by show _ ≤ mc0; omega) (by show _ ≤ ms0; omega) (g_X.st E) hz hX hK hG_24 hS_25 rfl hl_8.1 rfl (Nat.le_of_ble_eq_true rfl) dX1_undo_36 (fun x16 H locs hvc_27 hG_28 hS_29 => ?_)
    clear hvc_26 hG_24 hS_25
    exact vx_ret (g_iret hx hb hr hlocks (by show _ ≤ mc0; omega) (by show _ ≤ ms0; omega) hG_28 hS_29 rfl hvc_27 dX1_undo_39)
  refine lv_if_ne (tgt := 14) hx hb dX1_undo_7 (by decide) (fun h9 => ?_) (fun h9 => ?_)
  · replace hvc_2 := hvc_2.1 h9
    refine lv_iconst (v := nI 0) hx hb dX1_undo_14 (by decide) ?_
    exact jn15 o (nI 0) G mc0 ms0 _ _ _ _ _ hvc_2 hG_3 hS_4 (lv_sub hl [0] rfl) hMC hMS
  · replace hvc_2 := hvc_2.2 h9
    refine lv_iconst (v := nI 1) hx hb dX1_undo_10 (by decide) ?_
    refine lv_goto (tgt := 15) hx hb dX1_undo_11 (by decide) ?_
    exact jn15 o (nI 1) G mc0 ms0 _ _ _ _ _ hvc_2 hG_3 hS_4 (lv_sub hl [0] rfl) hMC hMS
set_option maxHeartbeats 4000000 in
set_option maxRecDepth 100000 in
theorem met_X1_transfer (l : Launch) (hfl : l.stackTraces = false) (E : g_E) (G : g_G) (o : Nat) (p1 : Int32) (mc0 ms0 : Nat) (post : Option Nat → g_G → Prop) (px : String → g_G → Prop) (hvc : wp_X1_transfer E G o p1 mc0 ms0 post px) : g_TQ E l yX1_transfer (ws_ yX1_transfer cX1_transfer 2 (Option.some (Jvm.ClassFile.FieldType.object "VoteLogs$Transfer"))) ({ frames := 7, cells := mc0, slots := ms0, locals := 117 } : Room) (g_Y E) [.ref o, .int p1] G post px := by
  refine g_enterT (by decide +kernel) (Nat.le_of_ble_eq_true rfl) ?_
  intro p e s m below meth c ls hx hb hr hts hown hlocks hml hout hz hY hK hG hS hl
  have hX := hY.1
  have hl : lv_has ls 2 [(0, .ref o), (1, .int p1)] := hl
  have hown : s.vm.findClass RX1 = some m.cls := hown
  have hMC : 0 + mc0 ≤ mc0 := Nat.le_of_eq (Nat.zero_add _)
  have hMS : 0 + ms0 ≤ ms0 := Nat.le_of_eq (Nat.zero_add _)
  unfold wp_X1_transfer at hvc
  refine lv_iload_n hx hb dX1_transfer_0 rfl (lv_at hl 1 rfl) ?_
  refine lv_aload_n hx hb dX1_transfer_1 rfl (lv_at hl 0 rfl) ?_
  refine gw_gr (C := RX1) (T := TX1) (N := 4) (own := RX1) hx hb hts in_X1 hown hK hG hvc rfl (by decide) (hts _ q348) (fun _ h9 => h9) dX1_transfer_2 (fun x1 hvc_1 => ?_)
  clear hvc
  refine gw_grN (C := RX2) (T := TX2) (N := 11) (own := RX1) hx hb hts in_X2 hown hK hG hvc_1 rfl (by decide) (hX.1 _ q302 rfl) (fun _ h9 => h9) dX1_transfer_5 (fun x2 hvc_2 => ?_)
  clear hvc_1
  refine gw_cFIP (As := []) (rest := [.int p1]) (hK.1 9 _ rfl).2  ⟨hx, hb, hml, hown, hts⟩ (met_J7_size l E G x2 _ hvc_2.2) (va_cwF 0 hts (lw_F q1229 q886 q888 q99 q890) rfl rfl rfl (hX.fw (List.mem_of_getElem? (i := 6) rfl)) (by decide +kernel) ⟨Nat.le_of_ble_eq_true rfl, Nat.le_of_ble_eq_true rfl⟩) (gw_rc (q := (RJ7, TJ7, 3)) hK hG hvc_2.1 rfl) (by show _ ≤ mc0; omega) (by show _ ≤ ms0; omega) (g_St0 E) hz trivial hK hG hS rfl hl.1 rfl (Nat.le_of_ble_eq_true rfl) dX1_transfer_8 (fun x3 H locs hvc_3 hG_4 hS_5 => ?_)
  clear hvc_2 hG hS
  obtain ⟨c7, t8, hc1, hs1, hvc_3⟩ := hvc_3
  refine gt_cSV (As := [.int p1, .int x3]) (rest := [])  ⟨hx, hb, hml, hown, hts⟩ (met_X1_index l hfl E G p1 x3 c7 t8 _ _ hvc_3) (va_cwS 2 hts (lw_S q1359 q1360 q90 q1361) rfl rfl rfl (by decide +kernel) ⟨Nat.le_of_ble_eq_true rfl, Nat.le_of_ble_eq_true rfl⟩) hc1 hs1 hMC hMS (Nat.le_refl _) (Nat.le_refl _) (g_Y.st E) hz hY hK hG_4 hS_5 rfl hl.1 rfl (Nat.le_of_ble_eq_true rfl) dX1_transfer_13 (fun X9 ce q9 G9 H9 l9 c9 s9 a1 a2 a3 a4 a5 a6 a7 a8 => gt_out hout hlocks (by show _ ≤ mc0; omega) (by show _ ≤ ms0; omega) a2 a3 a4 a5 a6 a1) (fun G6 H locs ce sl hvc_6 hG_7 hS_8 hMC_9 hMS_10 => ?_)
  clear hvc_3 hG_4 hS_5 hMC hMS
  refine lv_aload_n hx hb dX1_transfer_16 rfl (lv_at hl 0 rfl) ?_
  refine gw_gr (C := RX1) (T := TX1) (N := 4) (own := RX1) hx hb hts in_X1 hown hK hG_7 hvc_6 rfl (by decide) (hts _ q348) (fun _ h9 => h9) dX1_transfer_17 (fun x9 hvc_11 => ?_)
  clear hvc_6
  refine gw_grN (C := RX2) (T := TX2) (N := 11) (own := RX1) hx hb hts in_X2 hown hK hG_7 hvc_11 rfl (by decide) (hX.1 _ q302 rfl) (fun _ h9 => h9) dX1_transfer_20 (fun x10 hvc_12 => ?_)
  clear hvc_11
  refine lv_iload_n hx hb dX1_transfer_23 rfl (lv_at hl 1 rfl) ?_
  refine gw_cFQP (As := [.int p1]) (rest := []) (hK.1 9 _ rfl).2  ⟨hx, hb, hml, hown, hts⟩ (met_J7_get l E G6 x10 p1 _ hvc_12.2) (va_cwF 1 hts (lw_F q1311 q857 q859 q99 q861) rfl rfl rfl (hX.fw (List.mem_of_getElem? (i := 5) rfl)) (by decide +kernel) ⟨Nat.le_of_ble_eq_true rfl, Nat.le_of_ble_eq_true rfl⟩) (gw_rc (q := (RJ7, TJ7, 3)) hK hG_7 hvc_12.1 rfl) (by show _ ≤ mc0; omega) (by show _ ≤ ms0; omega) (g_St0 E) hz trivial hK hG_7 hS_8 rfl hl.1 rfl (Nat.le_of_ble_eq_true rfl) dX1_transfer_24 (fun x11 H locs hvc_13 hG_14 hS_15 => ?_)
  clear hvc_12 hG_7 hS_8
  refine gw_castS (v := x11) (ci := 3) hx hb hown (hts _ q1312) hK hG_14 rfl rfl hvc_13 dX1_transfer_29 (fun z13 hy9 hvc_16 => ?_)
  clear hvc_13
  subst hy9
  exact vx_ret (g_aret (v := (some z13)) hx hb hr (Or.inl ⟨_, rfl⟩) hlocks (by show _ ≤ mc0; omega) (by show _ ≤ ms0; omega) hG_14 hS_15 hvc_16 dX1_transfer_32)
set_option maxHeartbeats 4000000 in
set_option maxRecDepth 100000 in
theorem met_X1_partners (l : Launch) (hfl : l.stackTraces = false) (E : g_E) (G : g_G) (o : Nat) (p1 : Int32) (mc0 ms0 : Nat) (post : Int32 → g_G → Prop) (px : String → g_G → Prop) (hvc : wp_X1_partners E G o p1 mc0 ms0 post px) : g_TI E l yX1_partners (ws_ yX1_partners cX1_partners 2 (Option.some Jvm.ClassFile.FieldType.int)) ({ frames := 8, cells := mc0, slots := ms0, locals := 138 } : Room) (g_Y E) [.ref o, .int p1] G post px := by
  refine g_enterT (by decide +kernel) (Nat.le_of_ble_eq_true rfl) ?_
  intro p e s m below meth c ls hx hb hr hts hown hlocks hml hout hz hY hK hG hS hl
  have hX := hY.1
  have hl : lv_has ls 2 [(0, .ref o), (1, .int p1)] := hl
  have hown : s.vm.findClass RX1 = some m.cls := hown
  have hMC : 0 + mc0 ≤ mc0 := Nat.le_of_eq (Nat.zero_add _)
  have hMS : 0 + ms0 ≤ ms0 := Nat.le_of_eq (Nat.zero_add _)
  unfold wp_X1_partners at hvc
  refine lv_aload_n hx hb dX1_partners_0 rfl (lv_at hl 0 rfl) ?_
  refine lv_iload_n hx hb dX1_partners_1 rfl (lv_at hl 1 rfl) ?_
  obtain ⟨c3, t4, hc1, hs1, hvc⟩ := hvc
  refine gt_cVQ (As := [.int p1]) (rest := [])  ⟨hx, hb, hml, hown, hts⟩ (met_X1_transfer l hfl E G o p1 c3 t4 _ _ hvc.2) (cwV 1 hts (lw_V q1623 q1625 qs30 q90 q1626) rfl rfl rfl (by decide +kernel) ⟨Nat.le_of_ble_eq_true rfl, Nat.le_of_ble_eq_true rfl⟩) (gw_rc (q := (RX1, TX1, 4)) hK hG hvc.1 rfl) hc1 hs1 hMC hMS (Nat.le_refl _) (Nat.le_refl _) (g_Y.st E) hz hY hK hG hS rfl hl.1 rfl (Nat.le_of_ble_eq_true rfl) dX1_partners_2 (fun X9 ce q9 G9 H9 l9 c9 s9 a1 a2 a3 a4 a5 a6 a7 a8 => gt_out hout hlocks (by show _ ≤ mc0; omega) (by show _ ≤ ms0; omega) a2 a3 a4 a5 a6 a1) (fun x1 G2 H locs ce sl hvc_1 hG_2 hS_3 hMC_4 hMS_5 => ?_)
  clear hvc hG hS hMC hMS
  obtain ⟨z5, rfl, hvc_1⟩ := hvc_1
  refine gw_cVIP (As := []) (rest := [])  ⟨hx, hb, hml, hown, hts⟩ (met_X4_partners l E G2 z5 _ hvc_1.2) (cwV 0 hts (lw_V q1313 q965 q966 q117 q967) rfl rfl rfl (by decide +kernel) ⟨Nat.le_of_ble_eq_true rfl, Nat.le_of_ble_eq_true rfl⟩) (gw_rc (q := (RX4, TX4, 3)) hK hG_2 hvc_1.1 rfl) (by show _ ≤ mc0; omega) (by show _ ≤ ms0; omega) (g_St0 E) hz trivial hK hG_2 hS_3 rfl hl.1 rfl (Nat.le_of_ble_eq_true rfl) dX1_partners_5 (fun x6 H locs hvc_6 hG_7 hS_8 => ?_)
  clear hvc_1 hG_2 hS_3
  exact vx_ret (g_iret hx hb hr hlocks (by show _ ≤ mc0; omega) (by show _ ≤ ms0; omega) hG_7 hS_8 rfl hvc_6 dX1_partners_8)
set_option maxHeartbeats 4000000 in
set_option maxRecDepth 100000 in
theorem met_X1_share (l : Launch) (hfl : l.stackTraces = false) (E : g_E) (G : g_G) (o : Nat) (p1 : Int32) (p2 : Int32) (mc0 ms0 : Nat) (post : Int32 → g_G → Prop) (px : String → g_G → Prop) (hvc : wp_X1_share E G o p1 p2 mc0 ms0 post px) : g_TI E l yX1_share (ws_ yX1_share cX1_share 3 (Option.some Jvm.ClassFile.FieldType.int)) ({ frames := 8, cells := mc0, slots := ms0, locals := 139 } : Room) (g_Y E) [.ref o, .int p1, .int p2] G post px := by
  refine g_enterT (by decide +kernel) (Nat.le_of_ble_eq_true rfl) ?_
  intro p e s m below meth c ls hx hb hr hts hown hlocks hml hout hz hY hK hG hS hl
  have hX := hY.1
  have hl : lv_has ls 3 [(0, .ref o), (1, .int p1), (2, .int p2)] := hl
  have hown : s.vm.findClass RX1 = some m.cls := hown
  have hMC : 0 + mc0 ≤ mc0 := Nat.le_of_eq (Nat.zero_add _)
  have hMS : 0 + ms0 ≤ ms0 := Nat.le_of_eq (Nat.zero_add _)
  unfold wp_X1_share at hvc
  refine lv_aload_n hx hb dX1_share_0 rfl (lv_at hl 0 rfl) ?_
  refine lv_iload_n hx hb dX1_share_1 rfl (lv_at hl 2 rfl) ?_
  refine lv_iload_n hx hb dX1_share_2 rfl (lv_at hl 1 rfl) ?_
  obtain ⟨c3, t4, hc1, hs1, hvc⟩ := hvc
  refine gt_cVV (As := [.int p2, .int p1]) (rest := [])  ⟨hx, hb, hml, hown, hts⟩ (met_X1_isStoreOf l hfl E G o p2 p1 c3 t4 _ _ hvc.2) (cwV 2 hts (lw_V q1495 q1497 qs27 q90 q1498) rfl rfl rfl (by decide +kernel) ⟨Nat.le_of_ble_eq_true rfl, Nat.le_of_ble_eq_true rfl⟩) (gw_rc (q := (RX1, TX1, 4)) hK hG hvc.1 rfl) hc1 hs1 hMC hMS (Nat.le_refl _) (Nat.le_refl _) (g_Y.st E) hz hY hK hG hS rfl hl.1 rfl (Nat.le_of_ble_eq_true rfl) dX1_share_3 (fun X9 ce q9 G9 H9 l9 c9 s9 a1 a2 a3 a4 a5 a6 a7 a8 => gt_out hout hlocks (by show _ ≤ mc0; omega) (by show _ ≤ ms0; omega) a2 a3 a4 a5 a6 a1) (fun G2 H locs ce sl hvc_1 hG_2 hS_3 hMC_4 hMS_5 => ?_)
  clear hvc hG hS hMC hMS
  refine lv_aload_n hx hb dX1_share_6 rfl (lv_at hl 0 rfl) ?_
  refine gw_gr (C := RX1) (T := TX1) (N := 4) (own := RX1) hx hb hts in_X1 hown hK hG_2 hvc_1 rfl (by decide) (hts _ q348) (fun _ h9 => h9) dX1_share_7 (fun x5 hvc_6 => ?_)
  clear hvc_1
  refine gw_grN (C := RX2) (T := TX2) (N := 11) (own := RX1) hx hb hts in_X2 hown hK hG_2 hvc_6 rfl (by decide) (hX.1 _ q302 rfl) (fun _ h9 => h9) dX1_share_10 (fun x6 hvc_7 => ?_)
  clear hvc_6
  refine lv_iload_n hx hb dX1_share_13 rfl (lv_at hl 1 rfl) ?_
  refine gw_cFQP (As := [.int p1]) (rest := []) (hK.1 9 _ rfl).2  ⟨hx, hb, hml, hown, hts⟩ (met_J7_get l E G2 x6 p1 _ hvc_7.2) (va_cwF 1 hts (lw_F q1311 q857 q859 q99 q861) rfl rfl rfl (hX.fw (List.mem_of_getElem? (i := 5) rfl)) (by decide +kernel) ⟨Nat.le_of_ble_eq_true rfl, Nat.le_of_ble_eq_true rfl⟩) (gw_rc (q := (RJ7, TJ7, 3)) hK hG_2 hvc_7.1 rfl) (by show _ ≤ mc0; omega) (by show _ ≤ ms0; omega) (g_St0 E) hz trivial hK hG_2 hS_3 rfl hl.1 rfl (Nat.le_of_ble_eq_true rfl) dX1_share_14 (fun x7 H locs hvc_8 hG_9 hS_10 => ?_)
  clear hvc_7 hG_2 hS_3
  refine gw_castS (v := x7) (ci := 3) hx hb hown (hts _ q1312) hK hG_9 rfl rfl hvc_8 dX1_share_19 (fun z9 hy9 hvc_11 => ?_)
  clear hvc_8
  subst hy9
  refine lv_iload_n hx hb dX1_share_22 rfl (lv_at hl 2 rfl) ?_
  refine gw_cVIP (As := [.int p2]) (rest := [])  ⟨hx, hb, hml, hown, hts⟩ (met_X4_share l E G2 z9 p2 _ hvc_11.2) (cwV 1 hts (lw_V q1320 q868 q869 q117 q870) rfl rfl rfl (by decide +kernel) ⟨Nat.le_of_ble_eq_true rfl, Nat.le_of_ble_eq_true rfl⟩) (gw_rc (q := (RX4, TX4, 3)) hK hG_9 hvc_11.1 rfl) (by show _ ≤ mc0; omega) (by show _ ≤ ms0; omega) (g_X.st E) hz hX hK hG_9 hS_10 rfl hl.1 rfl (Nat.le_of_ble_eq_true rfl) dX1_share_23 (fun x10 H locs hvc_12 hG_13 hS_14 => ?_)
  clear hvc_11 hG_9 hS_10
  exact vx_ret (g_iret hx hb hr hlocks (by show _ ≤ mc0; omega) (by show _ ≤ ms0; omega) hG_13 hS_14 rfl hvc_12 dX1_share_26)
set_option maxHeartbeats 4000000 in
set_option maxRecDepth 100000 in
theorem met_X1_isUp (l : Launch) (hfl : l.stackTraces = false) (E : g_E) (G : g_G) (o : Nat) (p1 : Int32) (mc0 ms0 : Nat) (post : Int32 → g_G → Prop) (px : String → g_G → Prop) (hvc : wp_X1_isUp E G o p1 mc0 ms0 post px) : g_TI E l yX1_isUp (ws_ yX1_isUp cX1_isUp 2 (Option.some Jvm.ClassFile.FieldType.boolean)) ({ frames := 7, cells := mc0, slots := ms0, locals := 117 } : Room) (g_Y E) [.ref o, .int p1] G post px := by
  refine g_enterT (by decide +kernel) (Nat.le_of_ble_eq_true rfl) ?_
  intro p e s m below meth c ls hx hb hr hts hown hlocks hml hout hz hY hK hG hS hl
  have hX := hY.1
  have hl : lv_has ls 2 [(0, .ref o), (1, .int p1)] := hl
  have hown : s.vm.findClass RX1 = some m.cls := hown
  have hMC : 0 + mc0 ≤ mc0 := Nat.le_of_eq (Nat.zero_add _)
  have hMS : 0 + ms0 ≤ ms0 := Nat.le_of_eq (Nat.zero_add _)
  unfold wp_X1_isUp at hvc
  refine lv_iload_n hx hb dX1_isUp_0 rfl (lv_at hl 1 rfl) ?_
  refine lv_iconst (v := nI 5) hx hb dX1_isUp_1 (by decide) ?_
  obtain ⟨c3, t4, hc1, hs1, hvc⟩ := hvc
  refine gt_cSV (As := [.int p1, .int (nI 5)]) (rest := [])  ⟨hx, hb, hml, hown, hts⟩ (met_X1_index l hfl E G p1 (nI 5) c3 t4 _ _ hvc) (va_cwS 2 hts (lw_S q1359 q1360 q90 q1361) rfl rfl rfl (by decide +kernel) ⟨Nat.le_of_ble_eq_true rfl, Nat.le_of_ble_eq_true rfl⟩) hc1 hs1 hMC hMS (Nat.le_refl _) (Nat.le_refl _) (g_Y.st E) hz hY hK hG hS rfl hl.1 rfl (Nat.le_of_ble_eq_true rfl) dX1_isUp_2 (fun X9 ce q9 G9 H9 l9 c9 s9 a1 a2 a3 a4 a5 a6 a7 a8 => gt_out hout hlocks (by show _ ≤ mc0; omega) (by show _ ≤ ms0; omega) a2 a3 a4 a5 a6 a1) (fun G2 H locs ce sl hvc_1 hG_2 hS_3 hMC_4 hMS_5 => ?_)
  clear hvc hG hS hMC hMS
  refine lv_aload_n hx hb dX1_isUp_5 rfl (lv_at hl 0 rfl) ?_
  refine gw_gr (C := RX1) (T := TX1) (N := 4) (own := RX1) hx hb hts in_X1 hown hK hG_2 hvc_1 rfl (by decide) (hts _ q348) (fun _ h9 => h9) dX1_isUp_6 (fun x5 hvc_6 => ?_)
  clear hvc_1
  refine lv_iload_n hx hb dX1_isUp_9 rfl (lv_at hl 1 rfl) ?_
  refine gw_cVIP (As := [.int p1]) (rest := [])  ⟨hx, hb, hml, hown, hts⟩ (met_X2_isUp l E G2 x5 p1 _ hvc_6.2) (cwV 1 hts (lw_V q1338 q833 q834 q97 q835) rfl rfl rfl (by decide +kernel) ⟨Nat.le_of_ble_eq_true rfl, Nat.le_of_ble_eq_true rfl⟩) (gw_rc (q := (RX2, TX2, 11)) hK hG_2 hvc_6.1 rfl) (by show _ ≤ mc0; omega) (by show _ ≤ ms0; omega) (g_X.st E) hz hX hK hG_2 hS_3 rfl hl.1 rfl (Nat.le_of_ble_eq_true rfl) dX1_isUp_10 (fun x6 H locs hvc_7 hG_8 hS_9 => ?_)
  clear hvc_6 hG_2 hS_3
  exact vx_ret (g_iret hx hb hr hlocks (by show _ ≤ mc0; omega) (by show _ ≤ ms0; omega) hG_8 hS_9 hvc_7.1 hvc_7.2 dX1_isUp_13)
set_option maxHeartbeats 4000000 in
set_option maxRecDepth 100000 in
theorem met_X1_amount (l : Launch) (hfl : l.stackTraces = false) (E : g_E) (G : g_G) (o : Nat) (p1 : Int32) (mc0 ms0 : Nat) (post : Int32 → g_G → Prop) (px : String → g_G → Prop) (hvc : wp_X1_amount E G o p1 mc0 ms0 post px) : g_TI E l yX1_amount (ws_ yX1_amount cX1_amount 2 (Option.some Jvm.ClassFile.FieldType.int)) ({ frames := 7, cells := mc0, slots := ms0, locals := 117 } : Room) (g_Y E) [.ref o, .int p1] G post px := by
  refine g_enterT (by decide +kernel) (Nat.le_of_ble_eq_true rfl) ?_
  intro p e s m below meth c ls hx hb hr hts hown hlocks hml hout hz hY hK hG hS hl
  have hX := hY.1
  have hl : lv_has ls 2 [(0, .ref o), (1, .int p1)] := hl
  have hown : s.vm.findClass RX1 = some m.cls := hown
  have hMC : 0 + mc0 ≤ mc0 := Nat.le_of_eq (Nat.zero_add _)
  have hMS : 0 + ms0 ≤ ms0 := Nat.le_of_eq (Nat.zero_add _)
  unfold wp_X1_amount at hvc
  refine lv_iload_n hx hb dX1_amount_0 rfl (lv_at hl 1 rfl) ?_
  refine lv_iconst (v := nI 4) hx hb dX1_amount_1 (by decide) ?_
  obtain ⟨c3, t4, hc1, hs1, hvc⟩ := hvc
  refine gt_cSV (As := [.int p1, .int (nI 4)]) (rest := [])  ⟨hx, hb, hml, hown, hts⟩ (met_X1_index l hfl E G p1 (nI 4) c3 t4 _ _ hvc) (va_cwS 2 hts (lw_S q1359 q1360 q90 q1361) rfl rfl rfl (by decide +kernel) ⟨Nat.le_of_ble_eq_true rfl, Nat.le_of_ble_eq_true rfl⟩) hc1 hs1 hMC hMS (Nat.le_refl _) (Nat.le_refl _) (g_Y.st E) hz hY hK hG hS rfl hl.1 rfl (Nat.le_of_ble_eq_true rfl) dX1_amount_2 (fun X9 ce q9 G9 H9 l9 c9 s9 a1 a2 a3 a4 a5 a6 a7 a8 => gt_out hout hlocks (by show _ ≤ mc0; omega) (by show _ ≤ ms0; omega) a2 a3 a4 a5 a6 a1) (fun G2 H locs ce sl hvc_1 hG_2 hS_3 hMC_4 hMS_5 => ?_)
  clear hvc hG hS hMC hMS
  refine lv_aload_n hx hb dX1_amount_5 rfl (lv_at hl 0 rfl) ?_
  refine gw_gr (C := RX1) (T := TX1) (N := 4) (own := RX1) hx hb hts in_X1 hown hK hG_2 hvc_1 rfl (by decide) (hts _ q348) (fun _ h9 => h9) dX1_amount_6 (fun x5 hvc_6 => ?_)
  clear hvc_1
  refine gw_grN (C := RX2) (T := TX2) (N := 11) (own := RX1) hx hb hts in_X2 hown hK hG_2 hvc_6 rfl (by decide) (hX.1 _ q308 rfl) (fun _ h9 => h9) dX1_amount_9 (fun x6 hvc_7 => ?_)
  clear hvc_6
  refine lv_iload_n hx hb dX1_amount_12 rfl (lv_at hl 1 rfl) ?_
  refine gw_ild hx hb hK hG_2 hvc_7 dX1_amount_13 (fun x7 hvc_8 => ?_)
  clear hvc_7
  exact vx_ret (g_iret hx hb hr hlocks (by show _ ≤ mc0; omega) (by show _ ≤ ms0; omega) hG_2 hS_3 rfl hvc_8 dX1_amount_14)
set_option maxHeartbeats 4000000 in
set_option maxRecDepth 100000 in
theorem met_X1_amountByLog (l : Launch) (hfl : l.stackTraces = false) (E : g_E) (G : g_G) (o : Nat) (p1 : Int32) (mc0 ms0 : Nat) (post : Int32 → g_G → Prop) (px : String → g_G → Prop) (hvc : wp_X1_amountByLog E G o p1 mc0 ms0 post px) : g_TI E l yX1_amountByLog (ws_ yX1_amountByLog cX1_amountByLog 2 (Option.some Jvm.ClassFile.FieldType.int)) ({ frames := 7, cells := mc0, slots := ms0, locals := 117 } : Room) (g_Y E) [.ref o, .int p1] G post px := by
  refine g_enterT (by decide +kernel) (Nat.le_of_ble_eq_true rfl) ?_
  intro p e s m below meth c ls hx hb hr hts hown hlocks hml hout hz hY hK hG hS hl
  have hX := hY.1
  have hl : lv_has ls 2 [(0, .ref o), (1, .int p1)] := hl
  have hown : s.vm.findClass RX1 = some m.cls := hown
  have hMC : 0 + mc0 ≤ mc0 := Nat.le_of_eq (Nat.zero_add _)
  have hMS : 0 + ms0 ≤ ms0 := Nat.le_of_eq (Nat.zero_add _)
  unfold wp_X1_amountByLog at hvc
  refine lv_iload_n hx hb dX1_amountByLog_0 rfl (lv_at hl 1 rfl) ?_
  refine lv_iconst (v := nI 4) hx hb dX1_amountByLog_1 (by decide) ?_
  obtain ⟨c3, t4, hc1, hs1, hvc⟩ := hvc
  refine gt_cSV (As := [.int p1, .int (nI 4)]) (rest := [])  ⟨hx, hb, hml, hown, hts⟩ (met_X1_index l hfl E G p1 (nI 4) c3 t4 _ _ hvc) (va_cwS 2 hts (lw_S q1359 q1360 q90 q1361) rfl rfl rfl (by decide +kernel) ⟨Nat.le_of_ble_eq_true rfl, Nat.le_of_ble_eq_true rfl⟩) hc1 hs1 hMC hMS (Nat.le_refl _) (Nat.le_refl _) (g_Y.st E) hz hY hK hG hS rfl hl.1 rfl (Nat.le_of_ble_eq_true rfl) dX1_amountByLog_2 (fun X9 ce q9 G9 H9 l9 c9 s9 a1 a2 a3 a4 a5 a6 a7 a8 => gt_out hout hlocks (by show _ ≤ mc0; omega) (by show _ ≤ ms0; omega) a2 a3 a4 a5 a6 a1) (fun G2 H locs ce sl hvc_1 hG_2 hS_3 hMC_4 hMS_5 => ?_)
  clear hvc hG hS hMC hMS
  refine lv_aload_n hx hb dX1_amountByLog_5 rfl (lv_at hl 0 rfl) ?_
  refine gw_gr (C := RX1) (T := TX1) (N := 4) (own := RX1) hx hb hts in_X1 hown hK hG_2 hvc_1 rfl (by decide) (hts _ q348) (fun _ h9 => h9) dX1_amountByLog_6 (fun x5 hvc_6 => ?_)
  clear hvc_1
  refine lv_iload_n hx hb dX1_amountByLog_9 rfl (lv_at hl 1 rfl) ?_
  obtain ⟨c8, t9, hc1, hs1, hvc_6⟩ := hvc_6
  refine gw_cVIA (As := [.int p1]) (rest := [])  ⟨hx, hb, hml, hown, hts⟩ (met_X2_amountByLog l E G2 x5 p1 c8 t9 _ hvc_6.2) (cwV 1 hts (lw_V q1330 q1331 q1332 q97 q1333) rfl rfl rfl (by decide +kernel) ⟨Nat.le_of_ble_eq_true rfl, Nat.le_of_ble_eq_true rfl⟩) (gw_rc (q := (RX2, TX2, 11)) hK hG_2 hvc_6.1 rfl) hc1 hs1 hMC_4 hMS_5 (Nat.le_refl _) (Nat.le_refl _) (g_X.st E) hz hX hK hG_2 hS_3 rfl hl.1 rfl (Nat.le_of_ble_eq_true rfl) dX1_amountByLog_10 (fun x6 G7 H locs ce sl hvc_7 hG_8 hS_9 hMC_10 hMS_11 => ?_)
  clear hvc_6 hG_2 hS_3 hMC_4 hMS_5
  exact vx_ret (g_iret hx hb hr hlocks (by show _ ≤ mc0; omega) (by show _ ≤ ms0; omega) hG_8 hS_9 rfl hvc_7 dX1_amountByLog_13)
set_option maxHeartbeats 4000000 in
set_option maxRecDepth 100000 in
theorem met_X1_state_2 (l : Launch) (hfl : l.stackTraces = false) (E : g_E) (G : g_G) (o : Nat) (p1 : Int32) (p2 : Int32) (mc0 ms0 : Nat) (post : Int32 → g_G → Prop) (px : String → g_G → Prop) (hvc : wp_X1_state_2 E G o p1 p2 mc0 ms0 post px) : g_TI E l yX1_state_2 (ws_ yX1_state_2 cX1_state_2 3 (Option.some Jvm.ClassFile.FieldType.int)) ({ frames := 8, cells := mc0, slots := ms0, locals := 139 } : Room) (g_Y E) [.ref o, .int p1, .int p2] G post px := by
  refine g_enterT (by decide +kernel) (Nat.le_of_ble_eq_true rfl) ?_
  intro p e s m below meth c ls hx hb hr hts hown hlocks hml hout hz hY hK hG hS hl
  have hX := hY.1
  have hl : lv_has ls 3 [(0, .ref o), (1, .int p1), (2, .int p2)] := hl
  have hown : s.vm.findClass RX1 = some m.cls := hown
  have hMC : 0 + mc0 ≤ mc0 := Nat.le_of_eq (Nat.zero_add _)
  have hMS : 0 + ms0 ≤ ms0 := Nat.le_of_eq (Nat.zero_add _)
  unfold wp_X1_state_2 at hvc
  refine lv_aload_n hx hb dX1_state_2_0 rfl (lv_at hl 0 rfl) ?_
  refine lv_iload_n hx hb dX1_state_2_1 rfl (lv_at hl 1 rfl) ?_
  refine lv_iload_n hx hb dX1_state_2_2 rfl (lv_at hl 2 rfl) ?_
  obtain ⟨c3, t4, hc1, hs1, hvc⟩ := hvc
  refine gt_cVV (As := [.int p1, .int p2]) (rest := [])  ⟨hx, hb, hml, hown, hts⟩ (met_X1_isStoreOf l hfl E G o p1 p2 c3 t4 _ _ hvc.2) (cwV 2 hts (lw_V q1495 q1497 qs27 q90 q1498) rfl rfl rfl (by decide +kernel) ⟨Nat.le_of_ble_eq_true rfl, Nat.le_of_ble_eq_true rfl⟩) (gw_rc (q := (RX1, TX1, 4)) hK hG hvc.1 rfl) hc1 hs1 hMC hMS (Nat.le_refl _) (Nat.le_refl _) (g_Y.st E) hz hY hK hG hS rfl hl.1 rfl (Nat.le_of_ble_eq_true rfl) dX1_state_2_3 (fun X9 ce q9 G9 H9 l9 c9 s9 a1 a2 a3 a4 a5 a6 a7 a8 => gt_out hout hlocks (by show _ ≤ mc0; omega) (by show _ ≤ ms0; omega) a2 a3 a4 a5 a6 a1) (fun G2 H locs ce sl hvc_1 hG_2 hS_3 hMC_4 hMS_5 => ?_)
  clear hvc hG hS hMC hMS
  refine lv_aload_n hx hb dX1_state_2_6 rfl (lv_at hl 0 rfl) ?_
  refine gw_gr (C := RX1) (T := TX1) (N := 4) (own := RX1) hx hb hts in_X1 hown hK hG_2 hvc_1 rfl (by decide) (hts _ q348) (fun _ h9 => h9) dX1_state_2_7 (fun x5 hvc_6 => ?_)
  clear hvc_1
  refine lv_iload_n hx hb dX1_state_2_10 rfl (lv_at hl 1 rfl) ?_
  refine lv_iload_n hx hb dX1_state_2_11 rfl (lv_at hl 2 rfl) ?_
  refine gw_cVIP (As := [.int p1, .int p2]) (rest := [])  ⟨hx, hb, hml, hown, hts⟩ (met_X2_state l E G2 x5 p1 p2 _ hvc_6.2) (cwV 2 hts (lw_V q1321 q850 q851 q97 q852) rfl rfl rfl (by decide +kernel) ⟨Nat.le_of_ble_eq_true rfl, Nat.le_of_ble_eq_true rfl⟩) (gw_rc (q := (RX2, TX2, 11)) hK hG_2 hvc_6.1 rfl) (by show _ ≤ mc0; omega) (by show _ ≤ ms0; omega) (g_St0 E) hz trivial hK hG_2 hS_3 rfl hl.1 rfl (Nat.le_of_ble_eq_true rfl) dX1_state_2_12 (fun x6 H locs hvc_7 hG_8 hS_9 => ?_)
  clear hvc_6 hG_2 hS_3
  exact vx_ret (g_iret hx hb hr hlocks (by show _ ≤ mc0; omega) (by show _ ≤ ms0; omega) hG_8 hS_9 rfl hvc_7 dX1_state_2_15)
set_option maxHeartbeats 4000000 in
set_option maxRecDepth 100000 in
theorem met_X1_stateByLog (l : Launch) (hfl : l.stackTraces = false) (E : g_E) (G : g_G) (o : Nat) (p1 : Int32) (p2 : Int32) (mc0 ms0 : Nat) (post : Int32 → g_G → Prop) (px : String → g_G → Prop) (hvc : wp_X1_stateByLog E G o p1 p2 mc0 ms0 post px) : g_TI E l yX1_stateByLog (ws_ yX1_stateByLog cX1_stateByLog 3 (Option.some Jvm.ClassFile.FieldType.int)) ({ frames := 8, cells := mc0, slots := ms0, locals := 139 } : Room) (g_Y E) [.ref o, .int p1, .int p2] G post px := by
  refine g_enterT (by decide +kernel) (Nat.le_of_ble_eq_true rfl) ?_
  intro p e s m below meth c ls hx hb hr hts hown hlocks hml hout hz hY hK hG hS hl
  have hX := hY.1
  have hl : lv_has ls 3 [(0, .ref o), (1, .int p1), (2, .int p2)] := hl
  have hown : s.vm.findClass RX1 = some m.cls := hown
  have hMC : 0 + mc0 ≤ mc0 := Nat.le_of_eq (Nat.zero_add _)
  have hMS : 0 + ms0 ≤ ms0 := Nat.le_of_eq (Nat.zero_add _)
  unfold wp_X1_stateByLog at hvc
  refine lv_aload_n hx hb dX1_stateByLog_0 rfl (lv_at hl 0 rfl) ?_
  refine lv_iload_n hx hb dX1_stateByLog_1 rfl (lv_at hl 1 rfl) ?_
  refine lv_iload_n hx hb dX1_stateByLog_2 rfl (lv_at hl 2 rfl) ?_
  obtain ⟨c3, t4, hc1, hs1, hvc⟩ := hvc
  refine gt_cVV (As := [.int p1, .int p2]) (rest := [])  ⟨hx, hb, hml, hown, hts⟩ (met_X1_isStoreOf l hfl E G o p1 p2 c3 t4 _ _ hvc.2) (cwV 2 hts (lw_V q1495 q1497 qs27 q90 q1498) rfl rfl rfl (by decide +kernel) ⟨Nat.le_of_ble_eq_true rfl, Nat.le_of_ble_eq_true rfl⟩) (gw_rc (q := (RX1, TX1, 4)) hK hG hvc.1 rfl) hc1 hs1 hMC hMS (Nat.le_refl _) (Nat.le_refl _) (g_Y.st E) hz hY hK hG hS rfl hl.1 rfl (Nat.le_of_ble_eq_true rfl) dX1_stateByLog_3 (fun X9 ce q9 G9 H9 l9 c9 s9 a1 a2 a3 a4 a5 a6 a7 a8 => gt_out hout hlocks (by show _ ≤ mc0; omega) (by show _ ≤ ms0; omega) a2 a3 a4 a5 a6 a1) (fun G2 H locs ce sl hvc_1 hG_2 hS_3 hMC_4 hMS_5 => ?_)
  clear hvc hG hS hMC hMS
  refine lv_aload_n hx hb dX1_stateByLog_6 rfl (lv_at hl 0 rfl) ?_
  refine gw_gr (C := RX1) (T := TX1) (N := 4) (own := RX1) hx hb hts in_X1 hown hK hG_2 hvc_1 rfl (by decide) (hts _ q348) (fun _ h9 => h9) dX1_stateByLog_7 (fun x5 hvc_6 => ?_)
  clear hvc_1
  refine lv_iload_n hx hb dX1_stateByLog_10 rfl (lv_at hl 1 rfl) ?_
  refine lv_iload_n hx hb dX1_stateByLog_11 rfl (lv_at hl 2 rfl) ?_
  obtain ⟨c8, t9, hc1, hs1, hvc_6⟩ := hvc_6
  refine gw_cVIA (As := [.int p1, .int p2]) (rest := [])  ⟨hx, hb, hml, hown, hts⟩ (met_X2_stateByLog l E G2 x5 p1 p2 c8 t9 _ hvc_6.2) (cwV 2 hts (lw_V q1322 q1323 q1324 q97 q1325) rfl rfl rfl (by decide +kernel) ⟨Nat.le_of_ble_eq_true rfl, Nat.le_of_ble_eq_true rfl⟩) (gw_rc (q := (RX2, TX2, 11)) hK hG_2 hvc_6.1 rfl) hc1 hs1 hMC_4 hMS_5 (Nat.le_refl _) (Nat.le_refl _) (g_X.st E) hz hX hK hG_2 hS_3 rfl hl.1 rfl (Nat.le_of_ble_eq_true rfl) dX1_stateByLog_12 (fun x6 G7 H locs ce sl hvc_7 hG_8 hS_9 hMC_10 hMS_11 => ?_)
  clear hvc_6 hG_2 hS_3 hMC_4 hMS_5
  exact vx_ret (g_iret hx hb hr hlocks (by show _ ≤ mc0; omega) (by show _ ≤ ms0; omega) hG_8 hS_9 rfl hvc_7 dX1_stateByLog_15)
set_option maxHeartbeats 4000000 in
set_option maxRecDepth 100000 in
theorem met_X1_inDoubt (l : Launch) (hfl : l.stackTraces = false) (E : g_E) (G : g_G) (o : Nat) (p1 : Int32) (mc0 ms0 : Nat) (post : Int32 → g_G → Prop) (px : String → g_G → Prop) (hvc : wp_X1_inDoubt E G o p1 mc0 ms0 post px) : g_TI E l yX1_inDoubt (ws_ yX1_inDoubt cX1_inDoubt 2 (Option.some Jvm.ClassFile.FieldType.int)) ({ frames := 7, cells := mc0, slots := ms0, locals := 117 } : Room) (g_Y E) [.ref o, .int p1] G post px := by
  refine g_enterT (by decide +kernel) (Nat.le_of_ble_eq_true rfl) ?_
  intro p e s m below meth c ls hx hb hr hts hown hlocks hml hout hz hY hK hG hS hl
  have hX := hY.1
  have hl : lv_has ls 2 [(0, .ref o), (1, .int p1)] := hl
  have hown : s.vm.findClass RX1 = some m.cls := hown
  have hMC : 0 + mc0 ≤ mc0 := Nat.le_of_eq (Nat.zero_add _)
  have hMS : 0 + ms0 ≤ ms0 := Nat.le_of_eq (Nat.zero_add _)
  unfold wp_X1_inDoubt at hvc
  refine lv_iload_n hx hb dX1_inDoubt_0 rfl (lv_at hl 1 rfl) ?_
  refine lv_iconst (v := nI 4) hx hb dX1_inDoubt_1 (by decide) ?_
  obtain ⟨c3, t4, hc1, hs1, hvc⟩ := hvc
  refine gt_cSV (As := [.int p1, .int (nI 4)]) (rest := [])  ⟨hx, hb, hml, hown, hts⟩ (met_X1_index l hfl E G p1 (nI 4) c3 t4 _ _ hvc) (va_cwS 2 hts (lw_S q1359 q1360 q90 q1361) rfl rfl rfl (by decide +kernel) ⟨Nat.le_of_ble_eq_true rfl, Nat.le_of_ble_eq_true rfl⟩) hc1 hs1 hMC hMS (Nat.le_refl _) (Nat.le_refl _) (g_Y.st E) hz hY hK hG hS rfl hl.1 rfl (Nat.le_of_ble_eq_true rfl) dX1_inDoubt_2 (fun X9 ce q9 G9 H9 l9 c9 s9 a1 a2 a3 a4 a5 a6 a7 a8 => gt_out hout hlocks (by show _ ≤ mc0; omega) (by show _ ≤ ms0; omega) a2 a3 a4 a5 a6 a1) (fun G2 H locs ce sl hvc_1 hG_2 hS_3 hMC_4 hMS_5 => ?_)
  clear hvc hG hS hMC hMS
  refine lv_aload_n hx hb dX1_inDoubt_5 rfl (lv_at hl 0 rfl) ?_
  refine gw_gr (C := RX1) (T := TX1) (N := 4) (own := RX1) hx hb hts in_X1 hown hK hG_2 hvc_1 rfl (by decide) (hts _ q348) (fun _ h9 => h9) dX1_inDoubt_6 (fun x5 hvc_6 => ?_)
  clear hvc_1
  refine lv_iload_n hx hb dX1_inDoubt_9 rfl (lv_at hl 1 rfl) ?_
  refine gw_cVIP (As := [.int p1]) (rest := [])  ⟨hx, hb, hml, hown, hts⟩ (met_X2_inDoubt l E G2 x5 p1 _ hvc_6.2) (cwV 1 hts (lw_V q1334 q1335 q1336 q97 q1337) rfl rfl rfl (by decide +kernel) ⟨Nat.le_of_ble_eq_true rfl, Nat.le_of_ble_eq_true rfl⟩) (gw_rc (q := (RX2, TX2, 11)) hK hG_2 hvc_6.1 rfl) (by show _ ≤ mc0; omega) (by show _ ≤ ms0; omega) (g_X.st E) hz hX hK hG_2 hS_3 rfl hl.1 rfl (Nat.le_of_ble_eq_true rfl) dX1_inDoubt_10 (fun x6 H locs hvc_7 hG_8 hS_9 => ?_)
  clear hvc_6 hG_2 hS_3
  exact vx_ret (g_iret hx hb hr hlocks (by show _ ≤ mc0; omega) (by show _ ≤ ms0; omega) hG_8 hS_9 rfl hvc_7 dX1_inDoubt_13)
set_option maxHeartbeats 4000000 in
set_option maxRecDepth 100000 in
theorem met_X1_outcome (l : Launch) (hfl : l.stackTraces = false) (E : g_E) (G : g_G) (o : Nat) (p1 : Int32) (mc0 ms0 : Nat) (post : Int32 → g_G → Prop) (px : String → g_G → Prop) (hvc : wp_X1_outcome E G o p1 mc0 ms0 post px) : g_TI E l yX1_outcome (ws_ yX1_outcome cX1_outcome 2 (Option.some Jvm.ClassFile.FieldType.int)) ({ frames := 7, cells := mc0, slots := ms0, locals := 117 } : Room) (g_Y E) [.ref o, .int p1] G post px := by
  refine g_enterT (by decide +kernel) (Nat.le_of_ble_eq_true rfl) ?_
  intro p e s m below meth c ls hx hb hr hts hown hlocks hml hout hz hY hK hG hS hl
  have hX := hY.1
  have hl : lv_has ls 2 [(0, .ref o), (1, .int p1)] := hl
  have hown : s.vm.findClass RX1 = some m.cls := hown
  have hMC : 0 + mc0 ≤ mc0 := Nat.le_of_eq (Nat.zero_add _)
  have hMS : 0 + ms0 ≤ ms0 := Nat.le_of_eq (Nat.zero_add _)
  unfold wp_X1_outcome at hvc
  refine lv_iload_n hx hb dX1_outcome_0 rfl (lv_at hl 1 rfl) ?_
  refine lv_aload_n hx hb dX1_outcome_1 rfl (lv_at hl 0 rfl) ?_
  refine gw_gr (C := RX1) (T := TX1) (N := 4) (own := RX1) hx hb hts in_X1 hown hK hG hvc rfl (by decide) (hts _ q348) (fun _ h9 => h9) dX1_outcome_2 (fun x1 hvc_1 => ?_)
  clear hvc
  refine gw_grN (C := RX2) (T := TX2) (N := 11) (own := RX1) hx hb hts in_X2 hown hK hG hvc_1 rfl (by decide) (hX.1 _ q302 rfl) (fun _ h9 => h9) dX1_outcome_5 (fun x2 hvc_2 => ?_)
  clear hvc_1
  refine gw_cFIP (As := []) (rest := [.int p1]) (hK.1 9 _ rfl).2  ⟨hx, hb, hml, hown, hts⟩ (met_J7_size l E G x2 _ hvc_2.2) (va_cwF 0 hts (lw_F q1229 q886 q888 q99 q890) rfl rfl rfl (hX.fw (List.mem_of_getElem? (i := 6) rfl)) (by decide +kernel) ⟨Nat.le_of_ble_eq_true rfl, Nat.le_of_ble_eq_true rfl⟩) (gw_rc (q := (RJ7, TJ7, 3)) hK hG hvc_2.1 rfl) (by show _ ≤ mc0; omega) (by show _ ≤ ms0; omega) (g_St0 E) hz trivial hK hG hS rfl hl.1 rfl (Nat.le_of_ble_eq_true rfl) dX1_outcome_8 (fun x3 H locs hvc_3 hG_4 hS_5 => ?_)
  clear hvc_2 hG hS
  obtain ⟨c7, t8, hc1, hs1, hvc_3⟩ := hvc_3
  refine gt_cSV (As := [.int p1, .int x3]) (rest := [])  ⟨hx, hb, hml, hown, hts⟩ (met_X1_index l hfl E G p1 x3 c7 t8 _ _ hvc_3) (va_cwS 2 hts (lw_S q1359 q1360 q90 q1361) rfl rfl rfl (by decide +kernel) ⟨Nat.le_of_ble_eq_true rfl, Nat.le_of_ble_eq_true rfl⟩) hc1 hs1 hMC hMS (Nat.le_refl _) (Nat.le_refl _) (g_Y.st E) hz hY hK hG_4 hS_5 rfl hl.1 rfl (Nat.le_of_ble_eq_true rfl) dX1_outcome_13 (fun X9 ce q9 G9 H9 l9 c9 s9 a1 a2 a3 a4 a5 a6 a7 a8 => gt_out hout hlocks (by show _ ≤ mc0; omega) (by show _ ≤ ms0; omega) a2 a3 a4 a5 a6 a1) (fun G6 H locs ce sl hvc_6 hG_7 hS_8 hMC_9 hMS_10 => ?_)
  clear hvc_3 hG_4 hS_5 hMC hMS
  refine lv_aload_n hx hb dX1_outcome_16 rfl (lv_at hl 0 rfl) ?_
  refine gw_gr (C := RX1) (T := TX1) (N := 4) (own := RX1) hx hb hts in_X1 hown hK hG_7 hvc_6 rfl (by decide) (hts _ q348) (fun _ h9 => h9) dX1_outcome_17 (fun x9 hvc_11 => ?_)
  clear hvc_6
  refine lv_iload_n hx hb dX1_outcome_20 rfl (lv_at hl 1 rfl) ?_
  obtain ⟨c12, t13, hc1, hs1, hvc_11⟩ := hvc_11
  refine gw_cVIA (As := [.int p1]) (rest := [])  ⟨hx, hb, hml, hown, hts⟩ (met_X2_outcome l E G6 x9 p1 c12 t13 _ hvc_11.2) (cwV 1 hts (lw_V q1314 q957 q958 q97 q959) rfl rfl rfl (by decide +kernel) ⟨Nat.le_of_ble_eq_true rfl, Nat.le_of_ble_eq_true rfl⟩) (gw_rc (q := (RX2, TX2, 11)) hK hG_7 hvc_11.1 rfl) hc1 hs1 hMC_9 hMS_10 (Nat.le_refl _) (Nat.le_refl _) (g_X.st E) hz hX hK hG_7 hS_8 rfl hl.1 rfl (Nat.le_of_ble_eq_true rfl) dX1_outcome_21 (fun x10 G11 H locs ce sl hvc_12 hG_13 hS_14 hMC_15 hMS_16 => ?_)
  clear hvc_11 hG_7 hS_8 hMC_9 hMS_10
  exact vx_ret (g_iret hx hb hr hlocks (by show _ ≤ mc0; omega) (by show _ ≤ ms0; omega) hG_13 hS_14 rfl hvc_12 dX1_outcome_24)
set_option maxHeartbeats 4000000 in
set_option maxRecDepth 100000 in
theorem met_X1_outcomeByStores (l : Launch) (hfl : l.stackTraces = false) (E : g_E) (G : g_G) (o : Nat) (p1 : Int32) (mc0 ms0 : Nat) (post : Int32 → g_G → Prop) (px : String → g_G → Prop) (hvc : wp_X1_outcomeByStores E G o p1 mc0 ms0 post px) : g_TI E l yX1_outcomeByStores (ws_ yX1_outcomeByStores cX1_outcomeByStores 2 (Option.some Jvm.ClassFile.FieldType.int)) ({ frames := 7, cells := mc0, slots := ms0, locals := 117 } : Room) (g_Y E) [.ref o, .int p1] G post px := by
  refine g_enterT (by decide +kernel) (Nat.le_of_ble_eq_true rfl) ?_
  intro p e s m below meth c ls hx hb hr hts hown hlocks hml hout hz hY hK hG hS hl
  have hX := hY.1
  have hl : lv_has ls 2 [(0, .ref o), (1, .int p1)] := hl
  have hown : s.vm.findClass RX1 = some m.cls := hown
  have hMC : 0 + mc0 ≤ mc0 := Nat.le_of_eq (Nat.zero_add _)
  have hMS : 0 + ms0 ≤ ms0 := Nat.le_of_eq (Nat.zero_add _)
  unfold wp_X1_outcomeByStores at hvc
  refine lv_iload_n hx hb dX1_outcomeByStores_0 rfl (lv_at hl 1 rfl) ?_
  refine lv_aload_n hx hb dX1_outcomeByStores_1 rfl (lv_at hl 0 rfl) ?_
  refine gw_gr (C := RX1) (T := TX1) (N := 4) (own := RX1) hx hb hts in_X1 hown hK hG hvc rfl (by decide) (hts _ q348) (fun _ h9 => h9) dX1_outcomeByStores_2 (fun x1 hvc_1 => ?_)
  clear hvc
  refine gw_grN (C := RX2) (T := TX2) (N := 11) (own := RX1) hx hb hts in_X2 hown hK hG hvc_1 rfl (by decide) (hX.1 _ q302 rfl) (fun _ h9 => h9) dX1_outcomeByStores_5 (fun x2 hvc_2 => ?_)
  clear hvc_1
  refine gw_cFIP (As := []) (rest := [.int p1]) (hK.1 9 _ rfl).2  ⟨hx, hb, hml, hown, hts⟩ (met_J7_size l E G x2 _ hvc_2.2) (va_cwF 0 hts (lw_F q1229 q886 q888 q99 q890) rfl rfl rfl (hX.fw (List.mem_of_getElem? (i := 6) rfl)) (by decide +kernel) ⟨Nat.le_of_ble_eq_true rfl, Nat.le_of_ble_eq_true rfl⟩) (gw_rc (q := (RJ7, TJ7, 3)) hK hG hvc_2.1 rfl) (by show _ ≤ mc0; omega) (by show _ ≤ ms0; omega) (g_St0 E) hz trivial hK hG hS rfl hl.1 rfl (Nat.le_of_ble_eq_true rfl) dX1_outcomeByStores_8 (fun x3 H locs hvc_3 hG_4 hS_5 => ?_)
  clear hvc_2 hG hS
  obtain ⟨c7, t8, hc1, hs1, hvc_3⟩ := hvc_3
  refine gt_cSV (As := [.int p1, .int x3]) (rest := [])  ⟨hx, hb, hml, hown, hts⟩ (met_X1_index l hfl E G p1 x3 c7 t8 _ _ hvc_3) (va_cwS 2 hts (lw_S q1359 q1360 q90 q1361) rfl rfl rfl (by decide +kernel) ⟨Nat.le_of_ble_eq_true rfl, Nat.le_of_ble_eq_true rfl⟩) hc1 hs1 hMC hMS (Nat.le_refl _) (Nat.le_refl _) (g_Y.st E) hz hY hK hG_4 hS_5 rfl hl.1 rfl (Nat.le_of_ble_eq_true rfl) dX1_outcomeByStores_13 (fun X9 ce q9 G9 H9 l9 c9 s9 a1 a2 a3 a4 a5 a6 a7 a8 => gt_out hout hlocks (by show _ ≤ mc0; omega) (by show _ ≤ ms0; omega) a2 a3 a4 a5 a6 a1) (fun G6 H locs ce sl hvc_6 hG_7 hS_8 hMC_9 hMS_10 => ?_)
  clear hvc_3 hG_4 hS_5 hMC hMS
  refine lv_aload_n hx hb dX1_outcomeByStores_16 rfl (lv_at hl 0 rfl) ?_
  refine gw_gr (C := RX1) (T := TX1) (N := 4) (own := RX1) hx hb hts in_X1 hown hK hG_7 hvc_6 rfl (by decide) (hts _ q348) (fun _ h9 => h9) dX1_outcomeByStores_17 (fun x9 hvc_11 => ?_)
  clear hvc_6
  refine lv_iload_n hx hb dX1_outcomeByStores_20 rfl (lv_at hl 1 rfl) ?_
  refine gw_cVIP (As := [.int p1]) (rest := [])  ⟨hx, hb, hml, hown, hts⟩ (met_X2_outcomeByStores l E G6 x9 p1 _ hvc_11.2) (cwV 1 hts (lw_V q1315 q1316 q1317 q97 q1318) rfl rfl rfl (by decide +kernel) ⟨Nat.le_of_ble_eq_true rfl, Nat.le_of_ble_eq_true rfl⟩) (gw_rc (q := (RX2, TX2, 11)) hK hG_7 hvc_11.1 rfl) (by show _ ≤ mc0; omega) (by show _ ≤ ms0; omega) (g_St0 E) hz trivial hK hG_7 hS_8 rfl hl.1 rfl (Nat.le_of_ble_eq_true rfl) dX1_outcomeByStores_21 (fun x10 H locs hvc_12 hG_13 hS_14 => ?_)
  clear hvc_11 hG_7 hS_8
  exact vx_ret (g_iret hx hb hr hlocks (by show _ ≤ mc0; omega) (by show _ ≤ ms0; omega) hG_13 hS_14 rfl hvc_12 dX1_outcomeByStores_24)
set_option maxHeartbeats 4000000 in
set_option maxRecDepth 100000 in
theorem met_X1_hasEnded (l : Launch) (hfl : l.stackTraces = false) (E : g_E) (G : g_G) (o : Nat) (p1 : Int32) (mc0 ms0 : Nat) (post : Int32 → g_G → Prop) (px : String → g_G → Prop) (hvc : wp_X1_hasEnded E G o p1 mc0 ms0 post px) : g_TI E l yX1_hasEnded (ws_ yX1_hasEnded cX1_hasEnded 2 (Option.some Jvm.ClassFile.FieldType.boolean)) ({ frames := 7, cells := mc0, slots := ms0, locals := 117 } : Room) (g_Y E) [.ref o, .int p1] G post px := by
  refine g_enterT (by decide +kernel) (Nat.le_of_ble_eq_true rfl) ?_
  intro p e s m below meth c ls hx hb hr hts hown hlocks hml hout hz hY hK hG hS hl
  have hX := hY.1
  have hl : lv_has ls 2 [(0, .ref o), (1, .int p1)] := hl
  have hown : s.vm.findClass RX1 = some m.cls := hown
  have hMC : 0 + mc0 ≤ mc0 := Nat.le_of_eq (Nat.zero_add _)
  have hMS : 0 + ms0 ≤ ms0 := Nat.le_of_eq (Nat.zero_add _)
  unfold wp_X1_hasEnded at hvc
  refine lv_iload_n hx hb dX1_hasEnded_0 rfl (lv_at hl 1 rfl) ?_
  refine lv_aload_n hx hb dX1_hasEnded_1 rfl (lv_at hl 0 rfl) ?_
  refine gw_gr (C := RX1) (T := TX1) (N := 4) (own := RX1) hx hb hts in_X1 hown hK hG hvc rfl (by decide) (hts _ q348) (fun _ h9 => h9) dX1_hasEnded_2 (fun x1 hvc_1 => ?_)
  clear hvc
  refine gw_grN (C := RX2) (T := TX2) (N := 11) (own := RX1) hx hb hts in_X2 hown hK hG hvc_1 rfl (by decide) (hX.1 _ q302 rfl) (fun _ h9 => h9) dX1_hasEnded_5 (fun x2 hvc_2 => ?_)
  clear hvc_1
  refine gw_cFIP (As := []) (rest := [.int p1]) (hK.1 9 _ rfl).2  ⟨hx, hb, hml, hown, hts⟩ (met_J7_size l E G x2 _ hvc_2.2) (va_cwF 0 hts (lw_F q1229 q886 q888 q99 q890) rfl rfl rfl (hX.fw (List.mem_of_getElem? (i := 6) rfl)) (by decide +kernel) ⟨Nat.le_of_ble_eq_true rfl, Nat.le_of_ble_eq_true rfl⟩) (gw_rc (q := (RJ7, TJ7, 3)) hK hG hvc_2.1 rfl) (by show _ ≤ mc0; omega) (by show _ ≤ ms0; omega) (g_St0 E) hz trivial hK hG hS rfl hl.1 rfl (Nat.le_of_ble_eq_true rfl) dX1_hasEnded_8 (fun x3 H locs hvc_3 hG_4 hS_5 => ?_)
  clear hvc_2 hG hS
  obtain ⟨c7, t8, hc1, hs1, hvc_3⟩ := hvc_3
  refine gt_cSV (As := [.int p1, .int x3]) (rest := [])  ⟨hx, hb, hml, hown, hts⟩ (met_X1_index l hfl E G p1 x3 c7 t8 _ _ hvc_3) (va_cwS 2 hts (lw_S q1359 q1360 q90 q1361) rfl rfl rfl (by decide +kernel) ⟨Nat.le_of_ble_eq_true rfl, Nat.le_of_ble_eq_true rfl⟩) hc1 hs1 hMC hMS (Nat.le_refl _) (Nat.le_refl _) (g_Y.st E) hz hY hK hG_4 hS_5 rfl hl.1 rfl (Nat.le_of_ble_eq_true rfl) dX1_hasEnded_13 (fun X9 ce q9 G9 H9 l9 c9 s9 a1 a2 a3 a4 a5 a6 a7 a8 => gt_out hout hlocks (by show _ ≤ mc0; omega) (by show _ ≤ ms0; omega) a2 a3 a4 a5 a6 a1) (fun G6 H locs ce sl hvc_6 hG_7 hS_8 hMC_9 hMS_10 => ?_)
  clear hvc_3 hG_4 hS_5 hMC hMS
  refine lv_aload_n hx hb dX1_hasEnded_16 rfl (lv_at hl 0 rfl) ?_
  refine gw_gr (C := RX1) (T := TX1) (N := 4) (own := RX1) hx hb hts in_X1 hown hK hG_7 hvc_6 rfl (by decide) (hts _ q348) (fun _ h9 => h9) dX1_hasEnded_17 (fun x9 hvc_11 => ?_)
  clear hvc_6
  refine lv_iload_n hx hb dX1_hasEnded_20 rfl (lv_at hl 1 rfl) ?_
  obtain ⟨c12, t13, hc1, hs1, hvc_11⟩ := hvc_11
  refine gw_cVIA (As := [.int p1]) (rest := [])  ⟨hx, hb, hml, hown, hts⟩ (met_X2_hasEnded l E G6 x9 p1 c12 t13 _ hvc_11.2) (cwV 1 hts (lw_V q1319 q1014 q1015 q97 q1016) rfl rfl rfl (by decide +kernel) ⟨Nat.le_of_ble_eq_true rfl, Nat.le_of_ble_eq_true rfl⟩) (gw_rc (q := (RX2, TX2, 11)) hK hG_7 hvc_11.1 rfl) hc1 hs1 hMC_9 hMS_10 (Nat.le_refl _) (Nat.le_refl _) (g_X.st E) hz hX hK hG_7 hS_8 rfl hl.1 rfl (Nat.le_of_ble_eq_true rfl) dX1_hasEnded_21 (fun x10 G11 H locs ce sl hvc_12 hG_13 hS_14 hMC_15 hMS_16 => ?_)
  clear hvc_11 hG_7 hS_8 hMC_9 hMS_10
  exact vx_ret (g_iret hx hb hr hlocks (by show _ ≤ mc0; omega) (by show _ ≤ ms0; omega) hG_13 hS_14 hvc_12.1 hvc_12.2 dX1_hasEnded_24)
set_option maxHeartbeats 4000000 in
set_option maxRecDepth 100000 in
theorem met_X1_saidYes (l : Launch) (hfl : l.stackTraces = false) (E : g_E) (G : g_G) (o : Nat) (p1 : Int32) (mc0 ms0 : Nat) (post : Int32 → g_G → Prop) (px : String → g_G → Prop) (hvc : wp_X1_saidYes E G o p1 mc0 ms0 post px) : g_TI E l yX1_saidYes (ws_ yX1_saidYes cX1_saidYes 2 (Option.some Jvm.ClassFile.FieldType.int)) ({ frames := 7, cells := mc0, slots := ms0, locals := 117 } : Room) (g_Y E) [.ref o, .int p1] G post px := by
  refine g_enterT (by decide +kernel) (Nat.le_of_ble_eq_true rfl) ?_
  intro p e s m below meth c ls hx hb hr hts hown hlocks hml hout hz hY hK hG hS hl
  have hX := hY.1
  have hl : lv_has ls 2 [(0, .ref o), (1, .int p1)] := hl
  have hown : s.vm.findClass RX1 = some m.cls := hown
  have hMC : 0 + mc0 ≤ mc0 := Nat.le_of_eq (Nat.zero_add _)
  have hMS : 0 + ms0 ≤ ms0 := Nat.le_of_eq (Nat.zero_add _)
  unfold wp_X1_saidYes at hvc
  refine lv_iload_n hx hb dX1_saidYes_0 rfl (lv_at hl 1 rfl) ?_
  refine lv_aload_n hx hb dX1_saidYes_1 rfl (lv_at hl 0 rfl) ?_
  refine gw_gr (C := RX1) (T := TX1) (N := 4) (own := RX1) hx hb hts in_X1 hown hK hG hvc rfl (by decide) (hts _ q348) (fun _ h9 => h9) dX1_saidYes_2 (fun x1 hvc_1 => ?_)
  clear hvc
  refine gw_grN (C := RX2) (T := TX2) (N := 11) (own := RX1) hx hb hts in_X2 hown hK hG hvc_1 rfl (by decide) (hX.1 _ q302 rfl) (fun _ h9 => h9) dX1_saidYes_5 (fun x2 hvc_2 => ?_)
  clear hvc_1
  refine gw_cFIP (As := []) (rest := [.int p1]) (hK.1 9 _ rfl).2  ⟨hx, hb, hml, hown, hts⟩ (met_J7_size l E G x2 _ hvc_2.2) (va_cwF 0 hts (lw_F q1229 q886 q888 q99 q890) rfl rfl rfl (hX.fw (List.mem_of_getElem? (i := 6) rfl)) (by decide +kernel) ⟨Nat.le_of_ble_eq_true rfl, Nat.le_of_ble_eq_true rfl⟩) (gw_rc (q := (RJ7, TJ7, 3)) hK hG hvc_2.1 rfl) (by show _ ≤ mc0; omega) (by show _ ≤ ms0; omega) (g_St0 E) hz trivial hK hG hS rfl hl.1 rfl (Nat.le_of_ble_eq_true rfl) dX1_saidYes_8 (fun x3 H locs hvc_3 hG_4 hS_5 => ?_)
  clear hvc_2 hG hS
  obtain ⟨c7, t8, hc1, hs1, hvc_3⟩ := hvc_3
  refine gt_cSV (As := [.int p1, .int x3]) (rest := [])  ⟨hx, hb, hml, hown, hts⟩ (met_X1_index l hfl E G p1 x3 c7 t8 _ _ hvc_3) (va_cwS 2 hts (lw_S q1359 q1360 q90 q1361) rfl rfl rfl (by decide +kernel) ⟨Nat.le_of_ble_eq_true rfl, Nat.le_of_ble_eq_true rfl⟩) hc1 hs1 hMC hMS (Nat.le_refl _) (Nat.le_refl _) (g_Y.st E) hz hY hK hG_4 hS_5 rfl hl.1 rfl (Nat.le_of_ble_eq_true rfl) dX1_saidYes_13 (fun X9 ce q9 G9 H9 l9 c9 s9 a1 a2 a3 a4 a5 a6 a7 a8 => gt_out hout hlocks (by show _ ≤ mc0; omega) (by show _ ≤ ms0; omega) a2 a3 a4 a5 a6 a1) (fun G6 H locs ce sl hvc_6 hG_7 hS_8 hMC_9 hMS_10 => ?_)
  clear hvc_3 hG_4 hS_5 hMC hMS
  refine lv_aload_n hx hb dX1_saidYes_16 rfl (lv_at hl 0 rfl) ?_
  refine gw_gr (C := RX1) (T := TX1) (N := 4) (own := RX1) hx hb hts in_X1 hown hK hG_7 hvc_6 rfl (by decide) (hts _ q348) (fun _ h9 => h9) dX1_saidYes_17 (fun x9 hvc_11 => ?_)
  clear hvc_6
  refine gw_grN (C := RX2) (T := TX2) (N := 11) (own := RX1) hx hb hts in_X2 hown hK hG_7 hvc_11 rfl (by decide) (hX.1 _ q311 rfl) (fun _ h9 => h9) dX1_saidYes_20 (fun x10 hvc_12 => ?_)
  clear hvc_11
  refine lv_iload_n hx hb dX1_saidYes_23 rfl (lv_at hl 1 rfl) ?_
  refine gw_ild hx hb hK hG_7 hvc_12 dX1_saidYes_24 (fun x11 hvc_13 => ?_)
  clear hvc_12
  exact vx_ret (g_iret hx hb hr hlocks (by show _ ≤ mc0; omega) (by show _ ≤ ms0; omega) hG_7 hS_8 rfl hvc_13 dX1_saidYes_25)
set_option maxHeartbeats 4000000 in
set_option maxRecDepth 100000 in
theorem met_X1_saidDone (l : Launch) (hfl : l.stackTraces = false) (E : g_E) (G : g_G) (o : Nat) (p1 : Int32) (mc0 ms0 : Nat) (post : Int32 → g_G → Prop) (px : String → g_G → Prop) (hvc : wp_X1_saidDone E G o p1 mc0 ms0 post px) : g_TI E l yX1_saidDone (ws_ yX1_saidDone cX1_saidDone 2 (Option.some Jvm.ClassFile.FieldType.int)) ({ frames := 7, cells := mc0, slots := ms0, locals := 117 } : Room) (g_Y E) [.ref o, .int p1] G post px := by
  refine g_enterT (by decide +kernel) (Nat.le_of_ble_eq_true rfl) ?_
  intro p e s m below meth c ls hx hb hr hts hown hlocks hml hout hz hY hK hG hS hl
  have hX := hY.1
  have hl : lv_has ls 2 [(0, .ref o), (1, .int p1)] := hl
  have hown : s.vm.findClass RX1 = some m.cls := hown
  have hMC : 0 + mc0 ≤ mc0 := Nat.le_of_eq (Nat.zero_add _)
  have hMS : 0 + ms0 ≤ ms0 := Nat.le_of_eq (Nat.zero_add _)
  unfold wp_X1_saidDone at hvc
  refine lv_iload_n hx hb dX1_saidDone_0 rfl (lv_at hl 1 rfl) ?_
  refine lv_aload_n hx hb dX1_saidDone_1 rfl (lv_at hl 0 rfl) ?_
  refine gw_gr (C := RX1) (T := TX1) (N := 4) (own := RX1) hx hb hts in_X1 hown hK hG hvc rfl (by decide) (hts _ q348) (fun _ h9 => h9) dX1_saidDone_2 (fun x1 hvc_1 => ?_)
  clear hvc
  refine gw_grN (C := RX2) (T := TX2) (N := 11) (own := RX1) hx hb hts in_X2 hown hK hG hvc_1 rfl (by decide) (hX.1 _ q302 rfl) (fun _ h9 => h9) dX1_saidDone_5 (fun x2 hvc_2 => ?_)
  clear hvc_1
  refine gw_cFIP (As := []) (rest := [.int p1]) (hK.1 9 _ rfl).2  ⟨hx, hb, hml, hown, hts⟩ (met_J7_size l E G x2 _ hvc_2.2) (va_cwF 0 hts (lw_F q1229 q886 q888 q99 q890) rfl rfl rfl (hX.fw (List.mem_of_getElem? (i := 6) rfl)) (by decide +kernel) ⟨Nat.le_of_ble_eq_true rfl, Nat.le_of_ble_eq_true rfl⟩) (gw_rc (q := (RJ7, TJ7, 3)) hK hG hvc_2.1 rfl) (by show _ ≤ mc0; omega) (by show _ ≤ ms0; omega) (g_St0 E) hz trivial hK hG hS rfl hl.1 rfl (Nat.le_of_ble_eq_true rfl) dX1_saidDone_8 (fun x3 H locs hvc_3 hG_4 hS_5 => ?_)
  clear hvc_2 hG hS
  obtain ⟨c7, t8, hc1, hs1, hvc_3⟩ := hvc_3
  refine gt_cSV (As := [.int p1, .int x3]) (rest := [])  ⟨hx, hb, hml, hown, hts⟩ (met_X1_index l hfl E G p1 x3 c7 t8 _ _ hvc_3) (va_cwS 2 hts (lw_S q1359 q1360 q90 q1361) rfl rfl rfl (by decide +kernel) ⟨Nat.le_of_ble_eq_true rfl, Nat.le_of_ble_eq_true rfl⟩) hc1 hs1 hMC hMS (Nat.le_refl _) (Nat.le_refl _) (g_Y.st E) hz hY hK hG_4 hS_5 rfl hl.1 rfl (Nat.le_of_ble_eq_true rfl) dX1_saidDone_13 (fun X9 ce q9 G9 H9 l9 c9 s9 a1 a2 a3 a4 a5 a6 a7 a8 => gt_out hout hlocks (by show _ ≤ mc0; omega) (by show _ ≤ ms0; omega) a2 a3 a4 a5 a6 a1) (fun G6 H locs ce sl hvc_6 hG_7 hS_8 hMC_9 hMS_10 => ?_)
  clear hvc_3 hG_4 hS_5 hMC hMS
  refine lv_aload_n hx hb dX1_saidDone_16 rfl (lv_at hl 0 rfl) ?_
  refine gw_gr (C := RX1) (T := TX1) (N := 4) (own := RX1) hx hb hts in_X1 hown hK hG_7 hvc_6 rfl (by decide) (hts _ q348) (fun _ h9 => h9) dX1_saidDone_17 (fun x9 hvc_11 => ?_)
  clear hvc_6
  refine gw_grN (C := RX2) (T := TX2) (N := 11) (own := RX1) hx hb hts in_X2 hown hK hG_7 hvc_11 rfl (by decide) (hX.1 _ q313 rfl) (fun _ h9 => h9) dX1_saidDone_20 (fun x10 hvc_12 => ?_)
  clear hvc_11
  refine lv_iload_n hx hb dX1_saidDone_23 rfl (lv_at hl 1 rfl) ?_
  refine gw_ild hx hb hK hG_7 hvc_12 dX1_saidDone_24 (fun x11 hvc_13 => ?_)
  clear hvc_12
  exact vx_ret (g_iret hx hb hr hlocks (by show _ ≤ mc0; omega) (by show _ ≤ ms0; omega) hG_7 hS_8 rfl hvc_13 dX1_saidDone_25)
set_option maxHeartbeats 4000000 in
set_option maxRecDepth 100000 in
theorem met_X1_records (l : Launch) (hfl : l.stackTraces = false) (E : g_E) (G : g_G) (o : Nat) (p1 : Int32) (mc0 ms0 : Nat) (post : Int32 → g_G → Prop) (px : String → g_G → Prop) (hvc : wp_X1_records E G o p1 mc0 ms0 post px) : g_TI E l yX1_records (ws_ yX1_records cX1_records 2 (Option.some Jvm.ClassFile.FieldType.int)) ({ frames := 7, cells := mc0, slots := ms0, locals := 117 } : Room) (g_Y E) [.ref o, .int p1] G post px := by
  refine g_enterT (by decide +kernel) (Nat.le_of_ble_eq_true rfl) ?_
  intro p e s m below meth c ls hx hb hr hts hown hlocks hml hout hz hY hK hG hS hl
  have hX := hY.1
  have hl : lv_has ls 2 [(0, .ref o), (1, .int p1)] := hl
  have hown : s.vm.findClass RX1 = some m.cls := hown
  have hMC : 0 + mc0 ≤ mc0 := Nat.le_of_eq (Nat.zero_add _)
  have hMS : 0 + ms0 ≤ ms0 := Nat.le_of_eq (Nat.zero_add _)
  unfold wp_X1_records at hvc
  refine lv_iload_n hx hb dX1_records_0 rfl (lv_at hl 1 rfl) ?_
  refine lv_iconst (v := nI 5) hx hb dX1_records_1 (by decide) ?_
  obtain ⟨c3, t4, hc1, hs1, hvc⟩ := hvc
  refine gt_cSV (As := [.int p1, .int (nI 5)]) (rest := [])  ⟨hx, hb, hml, hown, hts⟩ (met_X1_index l hfl E G p1 (nI 5) c3 t4 _ _ hvc) (va_cwS 2 hts (lw_S q1359 q1360 q90 q1361) rfl rfl rfl (by decide +kernel) ⟨Nat.le_of_ble_eq_true rfl, Nat.le_of_ble_eq_true rfl⟩) hc1 hs1 hMC hMS (Nat.le_refl _) (Nat.le_refl _) (g_Y.st E) hz hY hK hG hS rfl hl.1 rfl (Nat.le_of_ble_eq_true rfl) dX1_records_2 (fun X9 ce q9 G9 H9 l9 c9 s9 a1 a2 a3 a4 a5 a6 a7 a8 => gt_out hout hlocks (by show _ ≤ mc0; omega) (by show _ ≤ ms0; omega) a2 a3 a4 a5 a6 a1) (fun G2 H locs ce sl hvc_1 hG_2 hS_3 hMC_4 hMS_5 => ?_)
  clear hvc hG hS hMC hMS
  refine lv_aload_n hx hb dX1_records_5 rfl (lv_at hl 0 rfl) ?_
  refine gw_gr (C := RX1) (T := TX1) (N := 4) (own := RX1) hx hb hts in_X1 hown hK hG_2 hvc_1 rfl (by decide) (hts _ q348) (fun _ h9 => h9) dX1_records_6 (fun x5 hvc_6 => ?_)
  clear hvc_1
  refine gw_grN (C := RX2) (T := TX2) (N := 11) (own := RX1) hx hb hts in_X2 hown hK hG_2 hvc_6 rfl (by decide) (hX.1 _ q304 rfl) (fun _ h9 => h9) dX1_records_9 (fun x6 hvc_7 => ?_)
  clear hvc_6
  refine lv_iload_n hx hb dX1_records_12 rfl (lv_at hl 1 rfl) ?_
  refine gw_cFQP (As := [.int p1]) (rest := []) (hK.1 9 _ rfl).2  ⟨hx, hb, hml, hown, hts⟩ (met_J7_get l E G2 x6 p1 _ hvc_7.2) (va_cwF 1 hts (lw_F q1311 q857 q859 q99 q861) rfl rfl rfl (hX.fw (List.mem_of_getElem? (i := 5) rfl)) (by decide +kernel) ⟨Nat.le_of_ble_eq_true rfl, Nat.le_of_ble_eq_true rfl⟩) (gw_rc (q := (RJ7, TJ7, 3)) hK hG_2 hvc_7.1 rfl) (by show _ ≤ mc0; omega) (by show _ ≤ ms0; omega) (g_St0 E) hz trivial hK hG_2 hS_3 rfl hl.1 rfl (Nat.le_of_ble_eq_true rfl) dX1_records_13 (fun x7 H locs hvc_8 hG_9 hS_10 => ?_)
  clear hvc_7 hG_2 hS_3
  refine gw_castY (v := x7) (ci := 9) hx hb hown (hts _ q1339) hK hG_9 rfl (hX.1 _ q227 rfl) hvc_8 dX1_records_18 (fun z9 hy9 hvc_11 => ?_)
  clear hvc_8
  subst hy9
  refine gw_cFIP (As := []) (rest := []) (hK.1 9 _ rfl).2  ⟨hx, hb, hml, hown, hts⟩ (met_J7_size l E G2 z9 _ hvc_11.2) (va_cwF 0 hts (lw_F q1229 q886 q888 q99 q890) rfl rfl rfl (hX.fw (List.mem_of_getElem? (i := 6) rfl)) (by decide +kernel) ⟨Nat.le_of_ble_eq_true rfl, Nat.le_of_ble_eq_true rfl⟩) (gw_rc (q := (RJ7, TJ7, 3)) hK hG_9 hvc_11.1 rfl) (by show _ ≤ mc0; omega) (by show _ ≤ ms0; omega) (g_St0 E) hz trivial hK hG_9 hS_10 rfl hl.1 rfl (Nat.le_of_ble_eq_true rfl) dX1_records_21 (fun x10 H locs hvc_12 hG_13 hS_14 => ?_)
  clear hvc_11 hG_9 hS_10
  exact vx_ret (g_iret hx hb hr hlocks (by show _ ≤ mc0; omega) (by show _ ≤ ms0; omega) hG_13 hS_14 rfl hvc_12 dX1_records_26)
set_option maxHeartbeats 4000000 in
set_option maxRecDepth 100000 in
theorem met_X1_entry (l : Launch) (hfl : l.stackTraces = false) (E : g_E) (G : g_G) (o : Nat) (p1 : Int32) (p2 : Int32) (mc0 ms0 : Nat) (post : Option Nat → g_G → Prop) (px : String → g_G → Prop) (hvc : wp_X1_entry E G o p1 p2 mc0 ms0 post px) : g_TQ E l yX1_entry (ws_ yX1_entry cX1_entry 4 (Option.some (Jvm.ClassFile.FieldType.object "VoteLogs$Entry"))) ({ frames := 7, cells := mc0, slots := ms0, locals := 117 } : Room) (g_Y E) [.ref o, .int p1, .int p2] G post px := by
  refine g_enterT (by decide +kernel) (Nat.le_of_ble_eq_true rfl) ?_
  intro p e s m below meth c ls hx hb hr hts hown hlocks hml hout hz hY hK hG hS hl
  have hX := hY.1
  have hl : lv_has ls 4 [(0, .ref o), (1, .int p1), (2, .int p2)] := hl
  have hown : s.vm.findClass RX1 = some m.cls := hown
  have hMC : 0 + mc0 ≤ mc0 := Nat.le_of_eq (Nat.zero_add _)
  have hMS : 0 + ms0 ≤ ms0 := Nat.le_of_eq (Nat.zero_add _)
  unfold wp_X1_entry at hvc
  refine lv_iload_n hx hb dX1_entry_0 rfl (lv_at hl 1 rfl) ?_
  refine lv_iconst (v := nI 5) hx hb dX1_entry_1 (by decide) ?_
  obtain ⟨c3, t4, hc1, hs1, hvc⟩ := hvc
  refine gt_cSV (As := [.int p1, .int (nI 5)]) (rest := [])  ⟨hx, hb, hml, hown, hts⟩ (met_X1_index l hfl E G p1 (nI 5) c3 t4 _ _ hvc) (va_cwS 2 hts (lw_S q1359 q1360 q90 q1361) rfl rfl rfl (by decide +kernel) ⟨Nat.le_of_ble_eq_true rfl, Nat.le_of_ble_eq_true rfl⟩) hc1 hs1 hMC hMS (Nat.le_refl _) (Nat.le_refl _) (g_Y.st E) hz hY hK hG hS rfl hl.1 rfl (Nat.le_of_ble_eq_true rfl) dX1_entry_2 (fun X9 ce q9 G9 H9 l9 c9 s9 a1 a2 a3 a4 a5 a6 a7 a8 => gt_out hout hlocks (by show _ ≤ mc0; omega) (by show _ ≤ ms0; omega) a2 a3 a4 a5 a6 a1) (fun G2 H locs ce sl hvc_1 hG_2 hS_3 hMC_4 hMS_5 => ?_)
  clear hvc hG hS hMC hMS
  refine lv_iload_n hx hb dX1_entry_5 rfl (lv_at hl 2 rfl) ?_
  refine lv_iconst (v := nI 0) hx hb dX1_entry_6 (by decide) ?_
  refine va_mmin hx hb (by rw [hml]; exact hl.1.symm) hown (hts _ q1358) (hts _ q294) (hts _ q101) (hts _ q295) (Nat.le_of_ble_eq_true rfl) (Nat.le_of_ble_eq_true rfl) (by show _ ≤ mc0; omega) (by show _ ≤ ms0; omega) dX1_entry_7 ?_
  refine lv_iconst (v := nI 1) hx hb dX1_entry_10 (by decide) ?_
  obtain ⟨c7, t8, hc1, hs1, hvc_1⟩ := hvc_1
  refine gt_cSV (As := [.int (if (nI 0) < p2 then (nI 0) else p2), .int (nI 1)]) (rest := [])  ⟨hx, hb, hml, hown, hts⟩ (met_X1_index l hfl E G2 (if (nI 0) < p2 then (nI 0) else p2) (nI 1) c7 t8 _ _ hvc_1) (va_cwS 2 hts (lw_S q1359 q1360 q90 q1361) rfl rfl rfl (by decide +kernel) ⟨Nat.le_of_ble_eq_true rfl, Nat.le_of_ble_eq_true rfl⟩) hc1 hs1 hMC_4 hMS_5 (Nat.le_refl _) (Nat.le_refl _) (g_Y.st E) hz hY hK hG_2 hS_3 rfl hl.1 rfl (Nat.le_of_ble_eq_true rfl) dX1_entry_11 (fun X9 ce q9 G9 H9 l9 c9 s9 a1 a2 a3 a4 a5 a6 a7 a8 => gt_out hout hlocks (by show _ ≤ mc0; omega) (by show _ ≤ ms0; omega) a2 a3 a4 a5 a6 a1) (fun G6 H locs ce sl hvc_6 hG_7 hS_8 hMC_9 hMS_10 => ?_)
  clear hvc_1 hG_2 hS_3 hMC_4 hMS_5
  refine lv_aload_n hx hb dX1_entry_14 rfl (lv_at hl 0 rfl) ?_
  refine gw_gr (C := RX1) (T := TX1) (N := 4) (own := RX1) hx hb hts in_X1 hown hK hG_7 hvc_6 rfl (by decide) (hts _ q348) (fun _ h9 => h9) dX1_entry_15 (fun x9 hvc_11 => ?_)
  clear hvc_6
  refine gw_grN (C := RX2) (T := TX2) (N := 11) (own := RX1) hx hb hts in_X2 hown hK hG_7 hvc_11 rfl (by decide) (hX.1 _ q304 rfl) (fun _ h9 => h9) dX1_entry_18 (fun x10 hvc_12 => ?_)
  clear hvc_11
  refine lv_iload_n hx hb dX1_entry_21 rfl (lv_at hl 1 rfl) ?_
  refine gw_cFQP (As := [.int p1]) (rest := []) (hK.1 9 _ rfl).2  ⟨hx, hb, hml, hown, hts⟩ (met_J7_get l E G6 x10 p1 _ hvc_12.2) (va_cwF 1 hts (lw_F q1311 q857 q859 q99 q861) rfl rfl rfl (hX.fw (List.mem_of_getElem? (i := 5) rfl)) (by decide +kernel) ⟨Nat.le_of_ble_eq_true rfl, Nat.le_of_ble_eq_true rfl⟩) (gw_rc (q := (RJ7, TJ7, 3)) hK hG_7 hvc_12.1 rfl) (by show _ ≤ mc0; omega) (by show _ ≤ ms0; omega) (g_St0 E) hz trivial hK hG_7 hS_8 rfl hl.1 rfl (Nat.le_of_ble_eq_true rfl) dX1_entry_22 (fun x11 H locs hvc_13 hG_14 hS_15 => ?_)
  clear hvc_12 hG_7 hS_8
  refine gw_castY (v := x11) (ci := 9) hx hb hown (hts _ q1339) hK hG_14 rfl (hX.1 _ q227 rfl) hvc_13 dX1_entry_27 (fun z13 hy9 hvc_16 => ?_)
  clear hvc_13
  subst hy9
  refine lv_astore_n (lv' := [(3, .ref z13), (0, .ref o), (1, .int p1), (2, .int p2)]) hx hb dX1_entry_30 rfl hl (by decide) rfl (fun ls hl_17 => ?_)
  clear hl
  refine lv_iload_n hx hb dX1_entry_31 rfl (lv_at hl_17 3 rfl) ?_
  refine lv_aload_n hx hb dX1_entry_32 rfl (lv_at hl_17 0 rfl) ?_
  refine gw_cFIP (As := []) (rest := [.int p2]) (hK.1 9 _ rfl).2  ⟨hx, hb, hml, hown, hts⟩ (met_J7_size l E G6 z13 _ hvc_16.2) (va_cwF 0 hts (lw_F q1229 q886 q888 q99 q890) rfl rfl rfl (hX.fw (List.mem_of_getElem? (i := 6) rfl)) (by decide +kernel) ⟨Nat.le_of_ble_eq_true rfl, Nat.le_of_ble_eq_true rfl⟩) (gw_rc (q := (RJ7, TJ7, 3)) hK hG_14 hvc_16.1 rfl) (by show _ ≤ mc0; omega) (by show _ ≤ ms0; omega) (g_St0 E) hz trivial hK hG_14 hS_15 rfl hl_17.1 rfl (Nat.le_of_ble_eq_true rfl) dX1_entry_33 (fun x14 H locs hvc_18 hG_19 hS_20 => ?_)
  clear hvc_16 hG_14 hS_15
  refine lv_icmp_ge (tgt := 54) hx hb dX1_entry_38 (by decide) (fun h9 => ?_) (fun h9 => ?_)
  · replace hvc_18 := hvc_18.1 h9
    refine lv_null hx hb dX1_entry_54 ?_
    exact vx_ret (g_aret (v := none) hx hb hr (Or.inl ⟨_, rfl⟩) hlocks (by show _ ≤ mc0; omega) (by show _ ≤ ms0; omega) hG_19 hS_20 hvc_18 dX1_entry_55)
  · replace hvc_18 := hvc_18.2 h9
    refine lv_aload_n hx hb dX1_entry_41 rfl (lv_at hl_17 0 rfl) ?_
    refine lv_iload_n hx hb dX1_entry_42 rfl (lv_at hl_17 3 rfl) ?_
    refine gw_cFQP (As := [.int p2]) (rest := []) (hK.1 9 _ rfl).2  ⟨hx, hb, hml, hown, hts⟩ (met_J7_get l E G6 z13 p2 _ hvc_18.2) (va_cwF 1 hts (lw_F q1311 q857 q859 q99 q861) rfl rfl rfl (hX.fw (List.mem_of_getElem? (i := 5) rfl)) (by decide +kernel) ⟨Nat.le_of_ble_eq_true rfl, Nat.le_of_ble_eq_true rfl⟩) (gw_rc (q := (RJ7, TJ7, 3)) hK hG_19 hvc_18.1 rfl) (by show _ ≤ mc0; omega) (by show _ ≤ ms0; omega) (g_St0 E) hz trivial hK hG_19 hS_20 rfl hl_17.1 rfl (Nat.le_of_ble_eq_true rfl) dX1_entry_43 (fun x16 H locs hvc_21 hG_22 hS_23 => ?_)
    clear hvc_18 hG_19 hS_20
    refine gw_castS (v := x16) (ci := 4) hx hb hown (hts _ q1346) hK hG_22 rfl rfl hvc_21 dX1_entry_48 (fun z18 hy9 hvc_24 => ?_)
    clear hvc_21
    subst hy9
    refine lv_goto (tgt := 55) hx hb dX1_entry_51 (by decide) ?_
    exact vx_ret (g_aret (v := (some z18)) hx hb hr (Or.inl ⟨_, rfl⟩) hlocks (by show _ ≤ mc0; omega) (by show _ ≤ ms0; omega) hG_22 hS_23 hvc_24 dX1_entry_55)
set_option maxHeartbeats 4000000 in
set_option maxRecDepth 100000 in
theorem met_X1_recordKind (l : Launch) (hfl : l.stackTraces = false) (E : g_E) (G : g_G) (o : Nat) (p1 : Int32) (p2 : Int32) (mc0 ms0 : Nat) (post : Int32 → g_G → Prop) (px : String → g_G → Prop) (hvc : wp_X1_recordKind E G o p1 p2 mc0 ms0 post px) : g_TI E l yX1_recordKind (ws_ yX1_recordKind cX1_recordKind 4 (Option.some Jvm.ClassFile.FieldType.int)) ({ frames := 8, cells := mc0, slots := ms0, locals := 140 } : Room) (g_Y E) [.ref o, .int p1, .int p2] G post px := by
  refine g_enterT (by decide +kernel) (Nat.le_of_ble_eq_true rfl) ?_
  intro p e s m below meth c ls hx hb hr hts hown hlocks hml hout hz hY hK hG hS hl
  have hX := hY.1
  have hl : lv_has ls 4 [(0, .ref o), (1, .int p1), (2, .int p2)] := hl
  have hown : s.vm.findClass RX1 = some m.cls := hown
  have hMC : 0 + mc0 ≤ mc0 := Nat.le_of_eq (Nat.zero_add _)
  have hMS : 0 + ms0 ≤ ms0 := Nat.le_of_eq (Nat.zero_add _)
  unfold wp_X1_recordKind at hvc
  refine lv_aload_n hx hb dX1_recordKind_0 rfl (lv_at hl 0 rfl) ?_
  refine lv_iload_n hx hb dX1_recordKind_1 rfl (lv_at hl 1 rfl) ?_
  refine lv_iload_n hx hb dX1_recordKind_2 rfl (lv_at hl 2 rfl) ?_
  obtain ⟨c3, t4, hc1, hs1, hvc⟩ := hvc
  refine gt_cVQ (As := [.int p1, .int p2]) (rest := [])  ⟨hx, hb, hml, hown, hts⟩ (met_X1_entry l hfl E G o p1 p2 c3 t4 _ _ hvc.2) (cwV 2 hts (lw_V q1725 q1727 qs31 q90 q1728) rfl rfl rfl (by decide +kernel) ⟨Nat.le_of_ble_eq_true rfl, Nat.le_of_ble_eq_true rfl⟩) (gw_rc (q := (RX1, TX1, 4)) hK hG hvc.1 rfl) hc1 hs1 hMC hMS (Nat.le_refl _) (Nat.le_refl _) (g_Y.st E) hz hY hK hG hS rfl hl.1 rfl (Nat.le_of_ble_eq_true rfl) dX1_recordKind_3 (fun X9 ce q9 G9 H9 l9 c9 s9 a1 a2 a3 a4 a5 a6 a7 a8 => gt_out hout hlocks (by show _ ≤ mc0; omega) (by show _ ≤ ms0; omega) a2 a3 a4 a5 a6 a1) (fun x1 G2 H locs ce sl hvc_1 hG_2 hS_3 hMC_4 hMS_5 => ?_)
  clear hvc hG hS hMC hMS
  refine gq_astore_n (lv' := [(3, va_rf x1), (0, .ref o), (1, .int p1), (2, .int p2)]) hx hb dX1_recordKind_6 rfl hl (by decide) rfl (fun ls hl_6 => ?_)
  clear hl
  refine gq_aload_n hx hb dX1_recordKind_7 rfl (lv_at hl_6 0 rfl) ?_
  refine gq_ifnonnull (o := x1) (tgt := 15) hx hb dX1_recordKind_8 (by decide) (fun h9 => ?_) (fun h9 => ?_)
  · replace hvc_1 := hvc_1.1 h9
    refine gq_aload_n hx hb dX1_recordKind_15 rfl (lv_at hl_6 0 rfl) ?_
    obtain ⟨z5, rfl, hvc_1⟩ := hvc_1
    refine gw_giN (C := RX5) (T := TX5) (N := 2) (own := RX1) hx hb hts in_X5 hown hK hG_2 hvc_1 rfl (by decide) (hX.1 _ q903 rfl) (fun _ h9 => h9) dX1_recordKind_16 (fun x6 hvc_7 => ?_)
    clear hvc_1
    exact vx_ret (g_iret hx hb hr hlocks (by show _ ≤ mc0; omega) (by show _ ≤ ms0; omega) hG_2 hS_3 rfl hvc_7 dX1_recordKind_19)
  · replace hvc_1 := hvc_1.2 h9
    refine lv_iconst (v := -nI 1) hx hb dX1_recordKind_11 (by decide) ?_
    refine lv_goto (tgt := 19) hx hb dX1_recordKind_12 (by decide) ?_
    exact vx_ret (g_iret hx hb hr hlocks (by show _ ≤ mc0; omega) (by show _ ≤ ms0; omega) hG_2 hS_3 rfl hvc_1 dX1_recordKind_19)
set_option maxHeartbeats 4000000 in
set_option maxRecDepth 100000 in
theorem met_X1_recordTransfer (l : Launch) (hfl : l.stackTraces = false) (E : g_E) (G : g_G) (o : Nat) (p1 : Int32) (p2 : Int32) (mc0 ms0 : Nat) (post : Int32 → g_G → Prop) (px : String → g_G → Prop) (hvc : wp_X1_recordTransfer E G o p1 p2 mc0 ms0 post px) : g_TI E l yX1_recordTransfer (ws_ yX1_recordTransfer cX1_recordTransfer 4 (Option.some Jvm.ClassFile.FieldType.int)) ({ frames := 8, cells := mc0, slots := ms0, locals := 140 } : Room) (g_Y E) [.ref o, .int p1, .int p2] G post px := by
  refine g_enterT (by decide +kernel) (Nat.le_of_ble_eq_true rfl) ?_
  intro p e s m below meth c ls hx hb hr hts hown hlocks hml hout hz hY hK hG hS hl
  have hX := hY.1
  have hl : lv_has ls 4 [(0, .ref o), (1, .int p1), (2, .int p2)] := hl
  have hown : s.vm.findClass RX1 = some m.cls := hown
  have hMC : 0 + mc0 ≤ mc0 := Nat.le_of_eq (Nat.zero_add _)
  have hMS : 0 + ms0 ≤ ms0 := Nat.le_of_eq (Nat.zero_add _)
  unfold wp_X1_recordTransfer at hvc
  refine lv_aload_n hx hb dX1_recordTransfer_0 rfl (lv_at hl 0 rfl) ?_
  refine lv_iload_n hx hb dX1_recordTransfer_1 rfl (lv_at hl 1 rfl) ?_
  refine lv_iload_n hx hb dX1_recordTransfer_2 rfl (lv_at hl 2 rfl) ?_
  obtain ⟨c3, t4, hc1, hs1, hvc⟩ := hvc
  refine gt_cVQ (As := [.int p1, .int p2]) (rest := [])  ⟨hx, hb, hml, hown, hts⟩ (met_X1_entry l hfl E G o p1 p2 c3 t4 _ _ hvc.2) (cwV 2 hts (lw_V q1725 q1727 qs31 q90 q1728) rfl rfl rfl (by decide +kernel) ⟨Nat.le_of_ble_eq_true rfl, Nat.le_of_ble_eq_true rfl⟩) (gw_rc (q := (RX1, TX1, 4)) hK hG hvc.1 rfl) hc1 hs1 hMC hMS (Nat.le_refl _) (Nat.le_refl _) (g_Y.st E) hz hY hK hG hS rfl hl.1 rfl (Nat.le_of_ble_eq_true rfl) dX1_recordTransfer_3 (fun X9 ce q9 G9 H9 l9 c9 s9 a1 a2 a3 a4 a5 a6 a7 a8 => gt_out hout hlocks (by show _ ≤ mc0; omega) (by show _ ≤ ms0; omega) a2 a3 a4 a5 a6 a1) (fun x1 G2 H locs ce sl hvc_1 hG_2 hS_3 hMC_4 hMS_5 => ?_)
  clear hvc hG hS hMC hMS
  refine gq_astore_n (lv' := [(3, va_rf x1), (0, .ref o), (1, .int p1), (2, .int p2)]) hx hb dX1_recordTransfer_6 rfl hl (by decide) rfl (fun ls hl_6 => ?_)
  clear hl
  refine gq_aload_n hx hb dX1_recordTransfer_7 rfl (lv_at hl_6 0 rfl) ?_
  refine gq_ifnonnull (o := x1) (tgt := 15) hx hb dX1_recordTransfer_8 (by decide) (fun h9 => ?_) (fun h9 => ?_)
  · replace hvc_1 := hvc_1.1 h9
    refine gq_aload_n hx hb dX1_recordTransfer_15 rfl (lv_at hl_6 0 rfl) ?_
    obtain ⟨z5, rfl, hvc_1⟩ := hvc_1
    refine gw_giN (C := RX5) (T := TX5) (N := 2) (own := RX1) hx hb hts in_X5 hown hK hG_2 hvc_1 rfl (by decide) (hX.1 _ q906 rfl) (fun _ h9 => h9) dX1_recordTransfer_16 (fun x6 hvc_7 => ?_)
    clear hvc_1
    exact vx_ret (g_iret hx hb hr hlocks (by show _ ≤ mc0; omega) (by show _ ≤ ms0; omega) hG_2 hS_3 rfl hvc_7 dX1_recordTransfer_19)
  · replace hvc_1 := hvc_1.2 h9
    refine lv_iconst (v := -nI 1) hx hb dX1_recordTransfer_11 (by decide) ?_
    refine lv_goto (tgt := 19) hx hb dX1_recordTransfer_12 (by decide) ?_
    exact vx_ret (g_iret hx hb hr hlocks (by show _ ≤ mc0; omega) (by show _ ≤ ms0; omega) hG_2 hS_3 rfl hvc_1 dX1_recordTransfer_19)
set_option maxHeartbeats 4000000 in
set_option maxRecDepth 100000 in
theorem met_X1_settled (l : Launch) (E : g_E) (G : g_G) (o : Nat) (mc0 ms0 : Nat) (post : Option Nat → g_G → Prop) (hvc : wp_X1_settled E G o mc0 ms0 post) : g_MQ E l yX1_settled (ws_ yX1_settled cX1_settled 2 (Option.some (Jvm.ClassFile.FieldType.object "VoteLogs$Town"))) ({ frames := 15, cells := mc0, slots := ms0, locals := 371 } : Room) (g_X E) [.ref o] G (post) := by
  refine g_enter (by decide +kernel) (Nat.le_of_ble_eq_true rfl) ?_
  intro p e s m below meth c ls hx hb hr hts hown hlocks hml hin hz hX hK hG hS hl
  have hl : lv_has ls 2 [(0, .ref o)] := hl
  have hown : s.vm.findClass RX1 = some m.cls := hown
  have hMC : 0 + mc0 ≤ mc0 := Nat.le_of_eq (Nat.zero_add _)
  have hMS : 0 + ms0 ≤ ms0 := Nat.le_of_eq (Nat.zero_add _)
  unfold wp_X1_settled at hvc
  refine gw_new (C := RX2) (T := TX2) (N := 11) (own := RX1) hx hb hts in_X2 tyX2 tyX2_ok hown (hts _ q191) (hts _ q192) (hts _ q97) hK hG hS hz hvc rfl (by decide) hMC hMS (Nat.le_refl _) (Nat.le_refl _) dX1_settled_0 (fun q1 G2 H ce sl hvc_1 hG_2 hS_3 hMC_4 hMS_5 => ?_)
  clear hvc hG hS hMC hMS
  refine lv_dup hx hb dX1_settled_3 rfl ?_
  refine lv_aload_n hx hb dX1_settled_4 rfl (lv_at hl 0 rfl) ?_
  refine gw_gr (C := RX1) (T := TX1) (N := 4) (own := RX1) hx hb hts in_X1 hown hK hG_2 hvc_1 rfl (by decide) (hts _ q348) (fun _ h9 => h9) dX1_settled_5 (fun x3 hvc_6 => ?_)
  clear hvc_1
  obtain ⟨c6, t7, hc1, hs1, hvc_6⟩ := hvc_6
  refine gw_cCVA (As := [.ref x3]) (rest := [.ref q1])  ⟨hx, hb, hml, hown, hts⟩ (met_X2_init_2 l E G2 q1 x3 c6 t7 _ hvc_6) (cwI 1 hts (lw_meth q390) rfl rfl rfl (hts _ q97) (hts _ q388) (hts _ q389) rfl (by decide +kernel) ⟨Nat.le_of_ble_eq_true rfl, Nat.le_of_ble_eq_true rfl⟩) hc1 hs1 hMC_4 hMS_5 (Nat.le_refl _) (Nat.le_refl _) (g_X.st E) hz hX hK hG_2 hS_3 rfl hl.1 rfl (Nat.le_of_ble_eq_true rfl) dX1_settled_8 (fun G5 H locs ce sl hvc_7 hG_8 hS_9 hMC_10 hMS_11 => ?_)
  clear hvc_6 hG_2 hS_3 hMC_4 hMS_5
  refine lv_astore_n (lv' := [(1, .ref q1), (0, .ref o)]) hx hb dX1_settled_11 rfl hl (by decide) rfl (fun ls hl_12 => ?_)
  clear hl
  refine lv_aload_n hx hb dX1_settled_12 rfl (lv_at hl_12 0 rfl) ?_
  obtain ⟨c10, t11, hc1, hs1, hvc_7⟩ := hvc_7
  refine gw_cVIA (As := []) (rest := [])  ⟨hx, hb, hml, hown, hts⟩ (met_X2_settles l E G5 q1 c10 t11 _ hvc_7.2) (cwV 0 hts (lw_V q1270 q1271 q1272 q97 q1273) rfl rfl rfl (by decide +kernel) ⟨Nat.le_of_ble_eq_true rfl, Nat.le_of_ble_eq_true rfl⟩) (gw_rc (q := (RX2, TX2, 11)) hK hG_8 hvc_7.1 rfl) hc1 hs1 hMC_10 hMS_11 (Nat.le_refl _) (Nat.le_refl _) (g_X.st E) hz hX hK hG_8 hS_9 rfl hl_12.1 rfl (Nat.le_of_ble_eq_true rfl) dX1_settled_13 (fun x8 G9 H locs ce sl hvc_13 hG_14 hS_15 hMC_16 hMS_17 => ?_)
  clear hvc_7 hG_8 hS_9 hMC_10 hMS_11
  refine lv_pop hx hb dX1_settled_16 rfl ?_
  refine lv_aload_n hx hb dX1_settled_17 rfl (lv_at hl_12 0 rfl) ?_
  exact g_aret (v := (some q1)) hx hb hr (Or.inl ⟨_, rfl⟩) hlocks (by show _ ≤ mc0; omega) (by show _ ≤ ms0; omega) hG_14 hS_15 hvc_13 dX1_settled_18
set_option maxHeartbeats 4000000 in
set_option maxRecDepth 100000 in
theorem met_X1_outcomeIfSettled (l : Launch) (hfl : l.stackTraces = false) (E : g_E) (G : g_G) (o : Nat) (p1 : Int32) (mc0 ms0 : Nat) (post : Int32 → g_G → Prop) (px : String → g_G → Prop) (hvc : wp_X1_outcomeIfSettled E G o p1 mc0 ms0 post px) : g_TI E l yX1_outcomeIfSettled (ws_ yX1_outcomeIfSettled cX1_outcomeIfSettled 2 (Option.some Jvm.ClassFile.FieldType.int)) ({ frames := 16, cells := mc0, slots := ms0, locals := 392 } : Room) (g_Y E) [.ref o, .int p1] G post px := by
  refine g_enterT (by decide +kernel) (Nat.le_of_ble_eq_true rfl) ?_
  intro p e s m below meth c ls hx hb hr hts hown hlocks hml hout hz hY hK hG hS hl
  have hX := hY.1
  have hl : lv_has ls 2 [(0, .ref o), (1, .int p1)] := hl
  have hown : s.vm.findClass RX1 = some m.cls := hown
  have hMC : 0 + mc0 ≤ mc0 := Nat.le_of_eq (Nat.zero_add _)
  have hMS : 0 + ms0 ≤ ms0 := Nat.le_of_eq (Nat.zero_add _)
  unfold wp_X1_outcomeIfSettled at hvc
  refine lv_iload_n hx hb dX1_outcomeIfSettled_0 rfl (lv_at hl 1 rfl) ?_
  refine lv_aload_n hx hb dX1_outcomeIfSettled_1 rfl (lv_at hl 0 rfl) ?_
  refine gw_gr (C := RX1) (T := TX1) (N := 4) (own := RX1) hx hb hts in_X1 hown hK hG hvc rfl (by decide) (hts _ q348) (fun _ h9 => h9) dX1_outcomeIfSettled_2 (fun x1 hvc_1 => ?_)
  clear hvc
  refine gw_grN (C := RX2) (T := TX2) (N := 11) (own := RX1) hx hb hts in_X2 hown hK hG hvc_1 rfl (by decide) (hX.1 _ q302 rfl) (fun _ h9 => h9) dX1_outcomeIfSettled_5 (fun x2 hvc_2 => ?_)
  clear hvc_1
  refine gw_cFIP (As := []) (rest := [.int p1]) (hK.1 9 _ rfl).2  ⟨hx, hb, hml, hown, hts⟩ (met_J7_size l E G x2 _ hvc_2.2) (va_cwF 0 hts (lw_F q1229 q886 q888 q99 q890) rfl rfl rfl (hX.fw (List.mem_of_getElem? (i := 6) rfl)) (by decide +kernel) ⟨Nat.le_of_ble_eq_true rfl, Nat.le_of_ble_eq_true rfl⟩) (gw_rc (q := (RJ7, TJ7, 3)) hK hG hvc_2.1 rfl) (by show _ ≤ mc0; omega) (by show _ ≤ ms0; omega) (g_St0 E) hz trivial hK hG hS rfl hl.1 rfl (Nat.le_of_ble_eq_true rfl) dX1_outcomeIfSettled_8 (fun x3 H locs hvc_3 hG_4 hS_5 => ?_)
  clear hvc_2 hG hS
  obtain ⟨c7, t8, hc1, hs1, hvc_3⟩ := hvc_3
  refine gt_cSV (As := [.int p1, .int x3]) (rest := [])  ⟨hx, hb, hml, hown, hts⟩ (met_X1_index l hfl E G p1 x3 c7 t8 _ _ hvc_3) (va_cwS 2 hts (lw_S q1359 q1360 q90 q1361) rfl rfl rfl (by decide +kernel) ⟨Nat.le_of_ble_eq_true rfl, Nat.le_of_ble_eq_true rfl⟩) hc1 hs1 hMC hMS (Nat.le_refl _) (Nat.le_refl _) (g_Y.st E) hz hY hK hG_4 hS_5 rfl hl.1 rfl (Nat.le_of_ble_eq_true rfl) dX1_outcomeIfSettled_13 (fun X9 ce q9 G9 H9 l9 c9 s9 a1 a2 a3 a4 a5 a6 a7 a8 => gt_out hout hlocks (by show _ ≤ mc0; omega) (by show _ ≤ ms0; omega) a2 a3 a4 a5 a6 a1) (fun G6 H locs ce sl hvc_6 hG_7 hS_8 hMC_9 hMS_10 => ?_)
  clear hvc_3 hG_4 hS_5 hMC hMS
  refine lv_aload_n hx hb dX1_outcomeIfSettled_16 rfl (lv_at hl 0 rfl) ?_
  obtain ⟨c11, t12, hc1, hs1, hvc_6⟩ := hvc_6
  refine gw_cVQA (As := []) (rest := [])  ⟨hx, hb, hml, hown, hts⟩ (met_X1_settled l E G6 o c11 t12 _ hvc_6.2) (cwV 0 hts (lw_V q1759 q1761 qs32 q90 q1762) rfl rfl rfl (by decide +kernel) ⟨Nat.le_of_ble_eq_true rfl, Nat.le_of_ble_eq_true rfl⟩) (gw_rc (q := (RX1, TX1, 4)) hK hG_7 hvc_6.1 rfl) hc1 hs1 hMC_9 hMS_10 (Nat.le_refl _) (Nat.le_refl _) (g_X.st E) hz hX hK hG_7 hS_8 rfl hl.1 rfl (Nat.le_of_ble_eq_true rfl) dX1_outcomeIfSettled_17 (fun x9 G10 H locs ce sl hvc_11 hG_12 hS_13 hMC_14 hMS_15 => ?_)
  clear hvc_6 hG_7 hS_8 hMC_9 hMS_10
  refine lv_iload_n hx hb dX1_outcomeIfSettled_20 rfl (lv_at hl 1 rfl) ?_
  obtain ⟨z13, rfl, hvc_11⟩ := hvc_11
  obtain ⟨c16, t17, hc1, hs1, hvc_11⟩ := hvc_11
  refine gw_cVIA (As := [.int p1]) (rest := [])  ⟨hx, hb, hml, hown, hts⟩ (met_X2_outcome l E G10 z13 p1 c16 t17 _ hvc_11.2) (cwV 1 hts (lw_V q1314 q957 q958 q97 q959) rfl rfl rfl (by decide +kernel) ⟨Nat.le_of_ble_eq_true rfl, Nat.le_of_ble_eq_true rfl⟩) (gw_rc (q := (RX2, TX2, 11)) hK hG_12 hvc_11.1 rfl) hc1 hs1 hMC_14 hMS_15 (Nat.le_refl _) (Nat.le_refl _) (g_X.st E) hz hX hK hG_12 hS_13 rfl hl.1 rfl (Nat.le_of_ble_eq_true rfl) dX1_outcomeIfSettled_21 (fun x14 G15 H locs ce sl hvc_16 hG_17 hS_18 hMC_19 hMS_20 => ?_)
  clear hvc_11 hG_12 hS_13 hMC_14 hMS_15
  exact vx_ret (g_iret hx hb hr hlocks (by show _ ≤ mc0; omega) (by show _ ≤ ms0; omega) hG_17 hS_18 rfl hvc_16 dX1_outcomeIfSettled_24)
set_option maxHeartbeats 4000000 in
set_option maxRecDepth 100000 in
theorem met_X1_amountIfSettled (l : Launch) (hfl : l.stackTraces = false) (E : g_E) (G : g_G) (o : Nat) (p1 : Int32) (mc0 ms0 : Nat) (post : Int32 → g_G → Prop) (px : String → g_G → Prop) (hvc : wp_X1_amountIfSettled E G o p1 mc0 ms0 post px) : g_TI E l yX1_amountIfSettled (ws_ yX1_amountIfSettled cX1_amountIfSettled 2 (Option.some Jvm.ClassFile.FieldType.int)) ({ frames := 16, cells := mc0, slots := ms0, locals := 392 } : Room) (g_Y E) [.ref o, .int p1] G post px := by
  refine g_enterT (by decide +kernel) (Nat.le_of_ble_eq_true rfl) ?_
  intro p e s m below meth c ls hx hb hr hts hown hlocks hml hout hz hY hK hG hS hl
  have hX := hY.1
  have hl : lv_has ls 2 [(0, .ref o), (1, .int p1)] := hl
  have hown : s.vm.findClass RX1 = some m.cls := hown
  have hMC : 0 + mc0 ≤ mc0 := Nat.le_of_eq (Nat.zero_add _)
  have hMS : 0 + ms0 ≤ ms0 := Nat.le_of_eq (Nat.zero_add _)
  unfold wp_X1_amountIfSettled at hvc
  refine lv_iload_n hx hb dX1_amountIfSettled_0 rfl (lv_at hl 1 rfl) ?_
  refine lv_iconst (v := nI 4) hx hb dX1_amountIfSettled_1 (by decide) ?_
  obtain ⟨c3, t4, hc1, hs1, hvc⟩ := hvc
  refine gt_cSV (As := [.int p1, .int (nI 4)]) (rest := [])  ⟨hx, hb, hml, hown, hts⟩ (met_X1_index l hfl E G p1 (nI 4) c3 t4 _ _ hvc) (va_cwS 2 hts (lw_S q1359 q1360 q90 q1361) rfl rfl rfl (by decide +kernel) ⟨Nat.le_of_ble_eq_true rfl, Nat.le_of_ble_eq_true rfl⟩) hc1 hs1 hMC hMS (Nat.le_refl _) (Nat.le_refl _) (g_Y.st E) hz hY hK hG hS rfl hl.1 rfl (Nat.le_of_ble_eq_true rfl) dX1_amountIfSettled_2 (fun X9 ce q9 G9 H9 l9 c9 s9 a1 a2 a3 a4 a5 a6 a7 a8 => gt_out hout hlocks (by show _ ≤ mc0; omega) (by show _ ≤ ms0; omega) a2 a3 a4 a5 a6 a1) (fun G2 H locs ce sl hvc_1 hG_2 hS_3 hMC_4 hMS_5 => ?_)
  clear hvc hG hS hMC hMS
  refine lv_aload_n hx hb dX1_amountIfSettled_5 rfl (lv_at hl 0 rfl) ?_
  obtain ⟨c7, t8, hc1, hs1, hvc_1⟩ := hvc_1
  refine gw_cVQA (As := []) (rest := [])  ⟨hx, hb, hml, hown, hts⟩ (met_X1_settled l E G2 o c7 t8 _ hvc_1.2) (cwV 0 hts (lw_V q1759 q1761 qs32 q90 q1762) rfl rfl rfl (by decide +kernel) ⟨Nat.le_of_ble_eq_true rfl, Nat.le_of_ble_eq_true rfl⟩) (gw_rc (q := (RX1, TX1, 4)) hK hG_2 hvc_1.1 rfl) hc1 hs1 hMC_4 hMS_5 (Nat.le_refl _) (Nat.le_refl _) (g_X.st E) hz hX hK hG_2 hS_3 rfl hl.1 rfl (Nat.le_of_ble_eq_true rfl) dX1_amountIfSettled_6 (fun x5 G6 H locs ce sl hvc_6 hG_7 hS_8 hMC_9 hMS_10 => ?_)
  clear hvc_1 hG_2 hS_3 hMC_4 hMS_5
  obtain ⟨z9, rfl, hvc_6⟩ := hvc_6
  refine gw_grN (C := RX2) (T := TX2) (N := 11) (own := RX1) hx hb hts in_X2 hown hK hG_7 hvc_6 rfl (by decide) (hX.1 _ q308 rfl) (fun _ h9 => h9) dX1_amountIfSettled_9 (fun x10 hvc_11 => ?_)
  clear hvc_6
  refine lv_iload_n hx hb dX1_amountIfSettled_12 rfl (lv_at hl 1 rfl) ?_
  refine gw_ild hx hb hK hG_7 hvc_11 dX1_amountIfSettled_13 (fun x11 hvc_12 => ?_)
  clear hvc_11
  exact vx_ret (g_iret hx hb hr hlocks (by show _ ≤ mc0; omega) (by show _ ≤ ms0; omega) hG_7 hS_8 rfl hvc_12 dX1_amountIfSettled_14)
set_option maxHeartbeats 4000000 in
set_option maxRecDepth 100000 in
theorem met_X1_greatestSize (l : Launch) (hfl : l.stackTraces = false) (E : g_E) (G : g_G) (o : Nat) (p1 : Int32) (p2 : Int32) (mc0 ms0 : Nat) (post : Int32 → g_G → Prop) (px : String → g_G → Prop) (hvc : wp_X1_greatestSize E G o p1 p2 mc0 ms0 post px) : g_TI E l yX1_greatestSize (ws_ yX1_greatestSize cX1_greatestSize 3 (Option.some Jvm.ClassFile.FieldType.int)) ({ frames := 8, cells := mc0, slots := ms0, locals := 139 } : Room) (g_Y E) [.ref o, .int p1, .int p2] G post px := by
  refine g_enterT (by decide +kernel) (Nat.le_of_ble_eq_true rfl) ?_
  intro p e s m below meth c ls hx hb hr hts hown hlocks hml hout hz hY hK hG hS hl
  have hX := hY.1
  have hl : lv_has ls 3 [(0, .ref o), (1, .int p1), (2, .int p2)] := hl
  have hown : s.vm.findClass RX1 = some m.cls := hown
  have hMC : 0 + mc0 ≤ mc0 := Nat.le_of_eq (Nat.zero_add _)
  have hMS : 0 + ms0 ≤ ms0 := Nat.le_of_eq (Nat.zero_add _)
  unfold wp_X1_greatestSize at hvc
  refine lv_iload_n hx hb dX1_greatestSize_0 rfl (lv_at hl 1 rfl) ?_
  refine lv_iload_n hx hb dX1_greatestSize_1 rfl (lv_at hl 2 rfl) ?_
  refine lv_iconst (v := nI 1) hx hb dX1_greatestSize_2 (by decide) ?_
  obtain ⟨c3, t4, hc1, hs1, hvc⟩ := hvc
  refine gt_cSV (As := [.int p1, .int p2, .int (nI 1)]) (rest := [])  ⟨hx, hb, hml, hown, hts⟩ (met_X1_areStores l hfl E G p1 p2 (nI 1) c3 t4 _ _ hvc) (va_cwS 3 hts (lw_S q1446 q1447 q90 q1448) rfl rfl rfl (by decide +kernel) ⟨Nat.le_of_ble_eq_true rfl, Nat.le_of_ble_eq_true rfl⟩) hc1 hs1 hMC hMS (Nat.le_refl _) (Nat.le_refl _) (g_Y.st E) hz hY hK hG hS rfl hl.1 rfl (Nat.le_of_ble_eq_true rfl) dX1_greatestSize_3 (fun X9 ce q9 G9 H9 l9 c9 s9 a1 a2 a3 a4 a5 a6 a7 a8 => gt_out hout hlocks (by show _ ≤ mc0; omega) (by show _ ≤ ms0; omega) a2 a3 a4 a5 a6 a1) (fun G2 H locs ce sl hvc_1 hG_2 hS_3 hMC_4 hMS_5 => ?_)
  clear hvc hG hS hMC hMS
  refine lv_aload_n hx hb dX1_greatestSize_6 rfl (lv_at hl 0 rfl) ?_
  refine gw_gr (C := RX1) (T := TX1) (N := 4) (own := RX1) hx hb hts in_X1 hown hK hG_2 hvc_1 rfl (by decide) (hts _ q348) (fun _ h9 => h9) dX1_greatestSize_7 (fun x5 hvc_6 => ?_)
  clear hvc_1
  refine lv_iload_n hx hb dX1_greatestSize_10 rfl (lv_at hl 1 rfl) ?_
  refine lv_iload_n hx hb dX1_greatestSize_11 rfl (lv_at hl 2 rfl) ?_
  refine gw_cVIP (As := [.int p1, .int p2]) (rest := [])  ⟨hx, hb, hml, hown, hts⟩ (met_X2_greatestSize l E G2 x5 p1 p2 _ hvc_6.2) (cwV 2 hts (lw_V q1402 q1403 q1404 q97 q1405) rfl rfl rfl (by decide +kernel) ⟨Nat.le_of_ble_eq_true rfl, Nat.le_of_ble_eq_true rfl⟩) (gw_rc (q := (RX2, TX2, 11)) hK hG_2 hvc_6.1 rfl) (by show _ ≤ mc0; omega) (by show _ ≤ ms0; omega) (g_X.st E) hz hX hK hG_2 hS_3 rfl hl.1 rfl (Nat.le_of_ble_eq_true rfl) dX1_greatestSize_12 (fun x6 H locs hvc_7 hG_8 hS_9 => ?_)
  clear hvc_6 hG_2 hS_3
  exact vx_ret (g_iret hx hb hr hlocks (by show _ ≤ mc0; omega) (by show _ ≤ ms0; omega) hG_8 hS_9 rfl hvc_7 dX1_greatestSize_15)
