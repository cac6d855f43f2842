/-! printed by tools/gen.py -/
set_option maxHeartbeats 4000000 in
set_option maxRecDepth 100000 in
theorem met_X2_delivers (l : Launch) (E : g_E) (G : g_G) (o : Nat) (p1 : Int32) (mc0 ms0 : Nat) (post : Int32 → g_G → Prop) (hvc : wp_X2_delivers E G o p1 mc0 ms0 post) : g_MI E l yX2_delivers (ws_ yX2_delivers cX2_delivers 4 (Option.some Jvm.ClassFile.FieldType.boolean)) ({ frames := 12, cells := mc0, slots := ms0, locals := 304 } : Room) (g_X E) [.ref o, .int p1] G (post) := by
  refine g_enter (by decide +kernel) (Nat.le_of_ble_eq_true rfl) ?_
  intro p e s m below meth c ls hx hb hr hts hown hlocks hml hin hz hX hK hG hS hl
  have hl : lv_has ls 4 [(0, .ref o), (1, .int p1)] := hl
  have hown : s.vm.findClass RX2 = some m.cls := hown
  have hMC : 0 + mc0 ≤ mc0 := Nat.le_of_eq (Nat.zero_add _)
  have hMS : 0 + ms0 ≤ ms0 := Nat.le_of_eq (Nat.zero_add _)
  unfold wp_X2_delivers at hvc
  refine lv_aload_n hx hb dX2_delivers_0 rfl (lv_at hl 0 rfl) ?_
  refine gw_gr (C := RX2) (T := TX2) (N := 11) (own := RX2) hx hb hts in_X2 hown hK hG hvc rfl (by decide) (hts _ q305) (fun _ h9 => h9) dX2_delivers_1 (fun x1 hvc_1 => ?_)
  clear hvc
  refine lv_iload_n hx hb dX2_delivers_4 rfl (lv_at hl 1 rfl) ?_
  refine gw_cFQN (As := [.int p1]) (rest := []) (hK.1 9 _ rfl).2  ⟨hx, hb, hml, hown, hts⟩ (met_J7_remove l E G x1 p1 _ hvc_1.2) (va_cwF 1 hts (lw_F q809 q812 q814 q99 q816) rfl rfl rfl (hX.fw (List.mem_of_getElem? (i := 4) rfl)) (by decide +kernel) ⟨Nat.le_of_ble_eq_true rfl, Nat.le_of_ble_eq_true rfl⟩) (gw_rc (q := (RJ7, TJ7, 3)) hK hG hvc_1.1 rfl) (by show _ ≤ mc0; omega) (by show _ ≤ ms0; omega) (g_X.st E) hz hX hK hG hS rfl hl.1 rfl (Nat.le_of_ble_eq_true rfl) dX2_delivers_5 (fun x2 G3 H locs hvc_2 hG_3 hS_4 => ?_)
  clear hvc_1 hG hS
  refine gw_castS (v := x2) (ci := 5) hx hb hown (hts _ q827) hK hG_3 rfl rfl hvc_2 dX2_delivers_10 (fun z4 hy9 hvc_5 => ?_)
  clear hvc_2
  subst hy9
  refine lv_astore_n (lv' := [(2, .ref z4), (0, .ref o), (1, .int p1)]) hx hb dX2_delivers_13 rfl hl (by decide) rfl (fun ls hl_6 => ?_)
  clear hl
  refine lv_aload_n hx hb dX2_delivers_14 rfl (lv_at hl_6 1 rfl) ?_
  refine lv_aload_n hx hb dX2_delivers_15 rfl (lv_at hl_6 0 rfl) ?_
  refine gw_cVIP (As := []) (rest := [.ref o])  ⟨hx, hb, hml, hown, hts⟩ (met_X6_receiver l E G3 z4 _ hvc_5.2) (cwV 0 hts (lw_V q828 q829 q830 q122 q831) rfl rfl rfl (by decide +kernel) ⟨Nat.le_of_ble_eq_true rfl, Nat.le_of_ble_eq_true rfl⟩) (gw_rc (q := (RX6, TX6, 3)) hK hG_3 hvc_5.1 rfl) (by show _ ≤ mc0; omega) (by show _ ≤ ms0; omega) (g_X.st E) hz hX hK hG_3 hS_4 rfl hl_6.1 rfl (Nat.le_of_ble_eq_true rfl) dX2_delivers_16 (fun x5 H locs hvc_7 hG_8 hS_9 => ?_)
  clear hvc_5 hG_3 hS_4
  refine gw_cVIP (As := [.int x5]) (rest := [])  ⟨hx, hb, hml, hown, hts⟩ (met_X2_isUp l E G3 o x5 _ hvc_7.2) (cwV 1 hts (lw_V q832 q833 q834 q97 q835) rfl rfl rfl (by decide +kernel) ⟨Nat.le_of_ble_eq_true rfl, Nat.le_of_ble_eq_true rfl⟩) (gw_rc (q := (RX2, TX2, 11)) hK hG_8 hvc_7.1 rfl) (by show _ ≤ mc0; omega) (by show _ ≤ ms0; omega) (g_X.st E) hz hX hK hG_8 hS_9 rfl hl_6.1 rfl (Nat.le_of_ble_eq_true rfl) dX2_delivers_19 (fun x7 H locs hvc_10 hG_11 hS_12 => ?_)
  clear hvc_7 hG_8 hS_9
  refine lv_istore_n (lv' := [(3, .int x7), (2, .ref z4), (0, .ref o), (1, .int p1)]) hx hb dX2_delivers_22 rfl hl_6 (by decide) rfl (fun ls hl_13 => ?_)
  clear hl_6
  refine lv_iload_n hx hb dX2_delivers_23 rfl (lv_at hl_13 0 rfl) ?_
  refine lv_if_eq (tgt := 49) hx hb dX2_delivers_24 (by decide) (fun h9 => ?_) (fun h9 => ?_)
  · replace hvc_10 := hvc_10.1 h9
    refine lv_aload_n hx hb dX2_delivers_49 rfl (lv_at hl_13 2 rfl) ?_
    refine lv_dup hx hb dX2_delivers_50 rfl ?_
    refine gw_gi (C := RX2) (T := TX2) (N := 11) (own := RX2) hx hb hts in_X2 hown hK hG_11 hvc_10 rfl (by decide) (hts _ q319) (fun _ h9 => h9) dX2_delivers_51 (fun x9 hvc_14 => ?_)
    clear hvc_10
    refine lv_iconst (v := nI 1) hx hb dX2_delivers_54 (by decide) ?_
    refine lv_iadd hx hb dX2_delivers_55 ?_
    refine gw_put (ty := .int) (C := RX2) (T := TX2) (N := 11) (own := RX2) hx hb hts in_X2 tyX2 tyX2_ok nmX2 hown hK hG_11 hS_12 hvc_14 rfl (by decide) (hts _ q319) (fun _ h9 => h9) rfl (by decide +kernel) rfl rfl dX2_delivers_56 (fun G10 H locs hvc_15 hG_16 hS_17 => ?_)
    clear hvc_14 hG_11 hS_12
    refine lv_iload_n hx hb dX2_delivers_59 rfl (lv_at hl_13 0 rfl) ?_
    exact g_iret hx hb hr hlocks (by show _ ≤ mc0; omega) (by show _ ≤ ms0; omega) hG_16 hS_17 hvc_15.1 hvc_15.2 dX2_delivers_60
  · replace hvc_10 := hvc_10.2 h9
    refine lv_aload_n hx hb dX2_delivers_27 rfl (lv_at hl_13 2 rfl) ?_
    refine lv_dup hx hb dX2_delivers_28 rfl ?_
    refine gw_gi (C := RX2) (T := TX2) (N := 11) (own := RX2) hx hb hts in_X2 hown hK hG_11 hvc_10 rfl (by decide) (hts _ q317) (fun _ h9 => h9) dX2_delivers_29 (fun x11 hvc_18 => ?_)
    clear hvc_10
    refine lv_iconst (v := nI 1) hx hb dX2_delivers_32 (by decide) ?_
    refine lv_iadd hx hb dX2_delivers_33 ?_
    refine gw_put (ty := .int) (C := RX2) (T := TX2) (N := 11) (own := RX2) hx hb hts in_X2 tyX2 tyX2_ok nmX2 hown hK hG_11 hS_12 hvc_18 rfl (by decide) (hts _ q317) (fun _ h9 => h9) rfl (by decide +kernel) rfl rfl dX2_delivers_34 (fun G12 H locs hvc_19 hG_20 hS_21 => ?_)
    clear hvc_18 hG_11 hS_12
    refine lv_aload_n hx hb dX2_delivers_37 rfl (lv_at hl_13 1 rfl) ?_
    refine gw_grN (C := RX6) (T := TX6) (N := 3) (own := RX2) hx hb hts in_X6 hown hK hG_20 hvc_19 rfl (by decide) (hX.1 _ q930 rfl) (fun _ h9 => h9) dX2_delivers_38 (fun x13 hvc_22 => ?_)
    clear hvc_19
    refine lv_aload_n hx hb dX2_delivers_41 rfl (lv_at hl_13 2 rfl) ?_
    refine lv_aload_n hx hb dX2_delivers_42 rfl (lv_at hl_13 1 rfl) ?_
    obtain ⟨c14, t15, hc1, hs1, hvc_22⟩ := hvc_22
    refine gw_comes (v := (some x13)) (rest := []) ⟨hx, hb, hml, hown, hts⟩ q839 hX hz hK hG_20 hS_21 hvc_22 hc1 hs1 hMC hMS (Nat.le_refl _) (Nat.le_refl _) (Nat.le_of_ble_eq_true rfl) (Nat.le_of_ble_eq_true rfl) hl_13.1 (Nat.le_of_ble_eq_true rfl) dX2_delivers_43 (fun G16 H locs ce sl hvc_23 hG_24 hS_25 hMC_26 hMS_27 => ?_)
    clear hvc_22 hG_20 hS_21 hMC hMS
    refine lv_goto (tgt := 59) hx hb dX2_delivers_46 (by decide) ?_
    refine lv_iload_n hx hb dX2_delivers_59 rfl (lv_at hl_13 0 rfl) ?_
    exact g_iret hx hb hr hlocks (by show _ ≤ mc0; omega) (by show _ ≤ ms0; omega) hG_24 hS_25 hvc_23.1 hvc_23.2 dX2_delivers_60
set_option maxHeartbeats 4000000 in
set_option maxRecDepth 100000 in
theorem met_X2_deliversFirst (l : Launch) (E : g_E) (G : g_G) (o : Nat) (p1 : Int32) (mc0 ms0 : Nat) (post : Int32 → g_G → Prop) (hvc : wp_X2_deliversFirst E G o p1 mc0 ms0 post) : g_MI E l yX2_deliversFirst (ws_ yX2_deliversFirst cX2_deliversFirst 3 (Option.some Jvm.ClassFile.FieldType.int)) ({ frames := 13, cells := mc0, slots := ms0, locals := 327 } : Room) (g_X E) [.ref o, .int p1] G (post) := by
  refine g_enter (by decide +kernel) (Nat.le_of_ble_eq_true rfl) ?_
  intro p e s m below meth c ls hx hb hr hts hown hlocks hml hin hz hX hK hG hS hl
  have hl : lv_has ls 3 [(0, .ref o), (1, .int p1)] := hl
  have hown : s.vm.findClass RX2 = some m.cls := hown
  have hMC : 0 + mc0 ≤ mc0 := Nat.le_of_eq (Nat.zero_add _)
  have hMS : 0 + ms0 ≤ ms0 := Nat.le_of_eq (Nat.zero_add _)
  unfold wp_X2_deliversFirst at hvc
  refine lv_iconst (v := nI 0) hx hb dX2_deliversFirst_0 (by decide) ?_
  have lp2 : ∀ (n2 : Nat) (y0 : Nat) (y1 : Int32) (y2 : Int32) (G : g_G) (mc : Nat) (ms : Nat) (H : Heap) (locs : List Loc) (ls : Array Slot) (ce sl : Nat), wp_X2_deliversFirst_2 E post n2 y0 y1 y2 G mc ms → g_H E G H → va_S (g_A E) s.heap H locs → lv_has ls 3 [(0, .ref y0), (1, .int y1), (2, .int y2)] → ce + mc ≤ mc0 → sl + ms ≤ ms0 → W p l e ({ frames := 13, cells := mc0, slots := ms0, locals := 327 } : Room) s m ([.ref o, .int p1] : List Value).toArray below meth c H locs ce sl (MQ below (va_Qi (post) (g_Bk E) (g_A E)) ([.ref o, .int p1] : List Value).toArray s mc0 ms0 (g_A E)) (F0 m 2 ls []) := by
    clear hvc hG hS hl hMC hMS
    intro n2
    induction n2 with
    | zero =>
      intro y0 y1 y2 G mc ms H locs ls ce sl hvc_1 hG_2 hS_3 hl_4 hMC_5 hMS_6
      exact False.elim hvc_1
    | succ n2 ih2 =>
      intro y0 y1 y2 G mc ms H locs ls ce sl hvc_7 hG_8 hS_9 hl_10 hMC_11 hMS_12
      refine lv_iload_n hx hb dX2_deliversFirst_2 rfl (lv_at hl_10 2 rfl) ?_
      refine lv_iload_n hx hb dX2_deliversFirst_3 rfl (lv_at hl_10 1 rfl) ?_
      refine lv_icmp_ge (tgt := 31) hx hb dX2_deliversFirst_4 (by decide) (fun h9 => ?_) (fun h9 => ?_)
      · replace hvc_7 := hvc_7.1 h9
        refine lv_iload_n hx hb dX2_deliversFirst_31 rfl (lv_at hl_10 2 rfl) ?_
        exact g_iret hx hb hr hlocks (by show _ ≤ mc0; omega) (by show _ ≤ ms0; omega) hG_8 hS_9 rfl hvc_7 dX2_deliversFirst_32
      · replace hvc_7 := hvc_7.2 h9
        refine lv_aload_n hx hb dX2_deliversFirst_7 rfl (lv_at hl_10 0 rfl) ?_
        refine gw_gr (C := RX2) (T := TX2) (N := 11) (own := RX2) hx hb hts in_X2 hown hK hG_8 hvc_7 rfl (by decide) (hts _ q305) (fun _ h9 => h9) dX2_deliversFirst_8 (fun x1 hvc_13 => ?_)
        clear hvc_7
        refine gw_cFIP (As := []) (rest := []) (hK.1 9 _ rfl).2  ⟨hx, hb, hml, hown, hts⟩ (met_J7_isEmpty l E G x1 _ hvc_13.2) (va_cwF 0 hts (lw_F q796 q799 q801 q99 q803) rfl rfl rfl (hX.fw (List.mem_of_getElem? (i := 3) rfl)) (by decide +kernel) ⟨Nat.le_of_ble_eq_true rfl, Nat.le_of_ble_eq_true rfl⟩) (gw_rc (q := (RJ7, TJ7, 3)) hK hG_8 hvc_13.1 rfl) (by show _ ≤ mc0; omega) (by show _ ≤ ms0; omega) (g_St0 E) hz trivial hK hG_8 hS_9 rfl hl_10.1 rfl (Nat.le_of_ble_eq_true rfl) dX2_deliversFirst_11 (fun x2 H locs hvc_14 hG_15 hS_16 => ?_)
        clear hvc_13 hG_8 hS_9
        refine lv_if_ne (tgt := 31) hx hb dX2_deliversFirst_16 (by decide) (fun h9 => ?_) (fun h9 => ?_)
        · replace hvc_14 := hvc_14.1 h9
          refine lv_iload_n hx hb dX2_deliversFirst_31 rfl (lv_at hl_10 2 rfl) ?_
          exact g_iret hx hb hr hlocks (by show _ ≤ mc0; omega) (by show _ ≤ ms0; omega) hG_15 hS_16 rfl hvc_14 dX2_deliversFirst_32
        · replace hvc_14 := hvc_14.2 h9
          refine lv_aload_n hx hb dX2_deliversFirst_19 rfl (lv_at hl_10 0 rfl) ?_
          refine lv_iconst (v := nI 0) hx hb dX2_deliversFirst_20 (by decide) ?_
          obtain ⟨c6, t7, hc1, hs1, hvc_14⟩ := hvc_14
          refine gw_cVIA (As := [.int (nI 0)]) (rest := [])  ⟨hx, hb, hml, hown, hts⟩ (met_X2_delivers l E G y0 (nI 0) c6 t7 _ hvc_14.2) (cwV 1 hts (lw_V q804 q805 q806 q97 q807) rfl rfl rfl (by decide +kernel) ⟨Nat.le_of_ble_eq_true rfl, Nat.le_of_ble_eq_true rfl⟩) (gw_rc (q := (RX2, TX2, 11)) hK hG_15 hvc_14.1 rfl) hc1 hs1 hMC_11 hMS_12 (Nat.le_refl _) (Nat.le_refl _) (g_X.st E) hz hX hK hG_15 hS_16 rfl hl_10.1 rfl (Nat.le_of_ble_eq_true rfl) dX2_deliversFirst_21 (fun x4 G5 H locs ce sl hvc_17 hG_18 hS_19 hMC_20 hMS_21 => ?_)
          clear hvc_14 hG_15 hS_16 hMC_11 hMS_12
          refine lv_pop hx hb dX2_deliversFirst_24 rfl ?_
          refine lv_iinc (k := 2) (v := y2 + (nI 1)) (lv' := [(2, .int (y2 + (nI 1))), (0, .ref y0), (1, .int y1)]) hx hb dX2_deliversFirst_25 hl_10 rfl (congrArg (y2 + ·) (by decide : Int32.ofInt (1) = nI 1)) (by decide) rfl (fun ls hl_22 => ?_)
          clear hl_10
          refine lv_goto (tgt := 2) hx hb dX2_deliversFirst_28 (by decide) ?_
          exact ih2 y0 y1 (y2 + (nI 1)) G5 (mc - c6) (ms - t7) _ _ _ _ _ hvc_17 hG_18 hS_19 (lv_sub hl_22 [1, 2, 0] rfl) hMC_20 hMS_21
  refine lv_istore_n (lv' := [(2, .int (nI 0)), (0, .ref o), (1, .int p1)]) hx hb dX2_deliversFirst_1 rfl hl (by decide) rfl (fun ls hl_23 => ?_)
  clear hl
  obtain ⟨nf2, hvc⟩ := hvc
  exact lp2 nf2 o p1 (nI 0) G mc0 ms0 _ _ _ _ _ hvc hG hS (lv_sub hl_23 [1, 2, 0] rfl) hMC hMS
set_option maxHeartbeats 4000000 in
set_option maxRecDepth 100000 in
theorem met_X2_total (l : Launch) (E : g_E) (G : g_G) (o : Nat) (post : Int32 → Prop) (hvc : wp_X2_total E G o post) : g_MI E l yX2_total (ws_ yX2_total cX2_total 1 (Option.some Jvm.ClassFile.FieldType.int)) ({ frames := 0, cells := 0, slots := 0, locals := 0 } : Room) (fun _ => True) [.ref o] G (fun v G9 => G9 = G ∧ post v) := by
  refine g_enter (by decide +kernel) (Nat.le_of_ble_eq_true rfl) ?_
  intro p e s m below meth c ls hx hb hr hts hown hlocks hml hin hz hX hK hG hS hl
  have hl : lv_has ls 1 [(0, .ref o)] := hl
  have hown : s.vm.findClass RX2 = some m.cls := hown
  unfold wp_X2_total at hvc
  refine lv_aload_n hx hb dX2_total_0 rfl (lv_at hl 0 rfl) ?_
  refine gw_gr (C := RX2) (T := TX2) (N := 11) (own := RX2) hx hb hts in_X2 hown hK hG hvc rfl (by decide) (hts _ q307) (fun _ h9 => h9) dX2_total_1 (fun x1 hvc_1 => ?_)
  clear hvc
  refine lv_iconst (v := nI 0) hx hb dX2_total_4 (by decide) ?_
  refine gw_ild hx hb hK hG hvc_1 dX2_total_5 (fun x2 hvc_2 => ?_)
  clear hvc_1
  refine lv_aload_n hx hb dX2_total_6 rfl (lv_at hl 0 rfl) ?_
  refine gw_gr (C := RX2) (T := TX2) (N := 11) (own := RX2) hx hb hts in_X2 hown hK hG hvc_2 rfl (by decide) (hts _ q307) (fun _ h9 => h9) dX2_total_7 (fun x3 hvc_3 => ?_)
  clear hvc_2
  refine lv_iconst (v := nI 1) hx hb dX2_total_10 (by decide) ?_
  refine gw_ild hx hb hK hG hvc_3 dX2_total_11 (fun x4 hvc_4 => ?_)
  clear hvc_3
  refine lv_iadd hx hb dX2_total_12 ?_
  refine lv_aload_n hx hb dX2_total_13 rfl (lv_at hl 0 rfl) ?_
  refine gw_gr (C := RX2) (T := TX2) (N := 11) (own := RX2) hx hb hts in_X2 hown hK hG hvc_4 rfl (by decide) (hts _ q307) (fun _ h9 => h9) dX2_total_14 (fun x5 hvc_5 => ?_)
  clear hvc_4
  refine lv_iconst (v := nI 2) hx hb dX2_total_17 (by decide) ?_
  refine gw_ild hx hb hK hG hvc_5 dX2_total_18 (fun x6 hvc_6 => ?_)
  clear hvc_5
  refine lv_iadd hx hb dX2_total_19 ?_
  refine lv_aload_n hx hb dX2_total_20 rfl (lv_at hl 0 rfl) ?_
  refine gw_gr (C := RX2) (T := TX2) (N := 11) (own := RX2) hx hb hts in_X2 hown hK hG hvc_6 rfl (by decide) (hts _ q307) (fun _ h9 => h9) dX2_total_21 (fun x7 hvc_7 => ?_)
  clear hvc_6
  refine lv_iconst (v := nI 3) hx hb dX2_total_24 (by decide) ?_
  refine gw_ild hx hb hK hG hvc_7 dX2_total_25 (fun x8 hvc_8 => ?_)
  clear hvc_7
  refine lv_iadd hx hb dX2_total_26 ?_
  exact g_iret hx hb hr hlocks (Nat.zero_le _) (Nat.zero_le _) hG hS rfl ⟨rfl, hvc_8⟩ dX2_total_27
set_option maxHeartbeats 4000000 in
set_option maxRecDepth 100000 in
theorem met_X2_onTheWay (l : Launch) (E : g_E) (G : g_G) (o : Nat) (mc0 ms0 : Nat) (post : Int32 → g_G → Prop) (hvc : wp_X2_onTheWay E G o mc0 ms0 post) : g_MI E l yX2_onTheWay (ws_ yX2_onTheWay cX2_onTheWay 4 (Option.some Jvm.ClassFile.FieldType.int)) ({ frames := 5, cells := mc0, slots := ms0, locals := 111 } : Room) (g_X E) [.ref o] G (post) := by
  refine g_enter (by decide +kernel) (Nat.le_of_ble_eq_true rfl) ?_
  intro p e s m below meth c ls hx hb hr hts hown hlocks hml hin hz hX hK hG hS hl
  have hl : lv_has ls 4 [(0, .ref o)] := hl
  have hown : s.vm.findClass RX2 = some m.cls := hown
  have hMC : 0 + mc0 ≤ mc0 := Nat.le_of_eq (Nat.zero_add _)
  have hMS : 0 + ms0 ≤ ms0 := Nat.le_of_eq (Nat.zero_add _)
  unfold wp_X2_onTheWay at hvc
  refine lv_iconst (v := nI 0) hx hb dX2_onTheWay_0 (by decide) ?_
  refine lv_istore_n (lv' := [(1, .int (nI 0)), (0, .ref o)]) hx hb dX2_onTheWay_1 rfl hl (by decide) rfl (fun ls hl_1 => ?_)
  clear hl
  refine lv_iconst (v := nI 0) hx hb dX2_onTheWay_2 (by decide) ?_
  have lp4 : ∀ (n4 : Nat) (y0 : Nat) (y1 : Int32) (y2 : Int32) (G : g_G) (mc : Nat) (ms : Nat) (H : Heap) (locs : List Loc) (ls : Array Slot) (ce sl : Nat), wp_X2_onTheWay_4 E post n4 y0 y1 y2 G mc ms → g_H E G H → va_S (g_A E) s.heap H locs → lv_has ls 4 [(0, .ref y0), (1, .int y1), (2, .int y2)] → ce + mc ≤ mc0 → sl + ms ≤ ms0 → W p l e ({ frames := 5, cells := mc0, slots := ms0, locals := 111 } : Room) s m ([.ref o] : List Value).toArray below meth c H locs ce sl (MQ below (va_Qi (post) (g_Bk E) (g_A E)) ([.ref o] : List Value).toArray s mc0 ms0 (g_A E)) (F0 m 4 ls []) := by
    clear hvc hG hS hl_1 hMC hMS
    intro n4
    induction n4 with
    | zero =>
      intro y0 y1 y2 G mc ms H locs ls ce sl hvc_2 hG_3 hS_4 hl_5 hMC_6 hMS_7
      exact False.elim hvc_2
    | succ n4 ih4 =>
      intro y0 y1 y2 G mc ms H locs ls ce sl hvc_8 hG_9 hS_10 hl_11 hMC_12 hMS_13
      refine lv_iload_n hx hb dX2_onTheWay_4 rfl (lv_at hl_11 2 rfl) ?_
      refine lv_aload_n hx hb dX2_onTheWay_5 rfl (lv_at hl_11 0 rfl) ?_
      refine gw_gr (C := RX2) (T := TX2) (N := 11) (own := RX2) hx hb hts in_X2 hown hK hG_9 hvc_8 rfl (by decide) (hts _ q301) (fun _ h9 => h9) dX2_onTheWay_6 (fun x1 hvc_14 => ?_)
      clear hvc_8
      refine gw_cFIP (As := []) (rest := [.int y2]) (hK.1 9 _ rfl).2  ⟨hx, hb, hml, hown, hts⟩ (met_J7_size l E G x1 _ hvc_14.2) (va_cwF 0 hts (lw_F q883 q886 q888 q99 q890) rfl rfl rfl (hX.fw (List.mem_of_getElem? (i := 6) rfl)) (by decide +kernel) ⟨Nat.le_of_ble_eq_true rfl, Nat.le_of_ble_eq_true rfl⟩) (gw_rc (q := (RJ7, TJ7, 3)) hK hG_9 hvc_14.1 rfl) (by show _ ≤ mc0; omega) (by show _ ≤ ms0; omega) (g_St0 E) hz trivial hK hG_9 hS_10 rfl hl_11.1 rfl (Nat.le_of_ble_eq_true rfl) dX2_onTheWay_9 (fun x2 H locs hvc_15 hG_16 hS_17 => ?_)
      clear hvc_14 hG_9 hS_10
      refine lv_iconst (v := nI 4) hx hb dX2_onTheWay_14 (by decide) ?_
      refine lv_imul hx hb dX2_onTheWay_15 ?_
      refine lv_icmp_ge (tgt := 88) hx hb dX2_onTheWay_16 (by decide) (fun h9 => ?_) (fun h9 => ?_)
      · replace hvc_15 := hvc_15.1 h9
        refine lv_iload_n hx hb dX2_onTheWay_88 rfl (lv_at hl_11 1 rfl) ?_
        exact g_iret hx hb hr hlocks (by show _ ≤ mc0; omega) (by show _ ≤ ms0; omega) hG_16 hS_17 rfl hvc_15 dX2_onTheWay_89
      · replace hvc_15 := hvc_15.2 h9
        refine lv_aload_n hx hb dX2_onTheWay_19 rfl (lv_at hl_11 0 rfl) ?_
        refine lv_iload_n hx hb dX2_onTheWay_20 rfl (lv_at hl_11 2 rfl) ?_
        refine lv_iconst (v := nI 4) hx hb dX2_onTheWay_21 (by decide) ?_
        refine lv_idiv hx hb dX2_onTheWay_22 (by decide) ?_
        obtain ⟨c6, t7, hc1, hs1, hvc_15⟩ := hvc_15
        refine gw_cVIA (As := [.int (y2 / (nI 4))]) (rest := [])  ⟨hx, hb, hml, hown, hts⟩ (met_X2_outcome l E G y0 (y2 / (nI 4)) c6 t7 _ hvc_15.2) (cwV 1 hts (lw_V q956 q957 q958 q97 q959) rfl rfl rfl (by decide +kernel) ⟨Nat.le_of_ble_eq_true rfl, Nat.le_of_ble_eq_true rfl⟩) (gw_rc (q := (RX2, TX2, 11)) hK hG_16 hvc_15.1 rfl) hc1 hs1 hMC_12 hMS_13 (Nat.le_refl _) (Nat.le_refl _) (g_X.st E) hz hX hK hG_16 hS_17 rfl hl_11.1 rfl (Nat.le_of_ble_eq_true rfl) dX2_onTheWay_23 (fun x4 G5 H locs ce sl hvc_18 hG_19 hS_20 hMC_21 hMS_22 => ?_)
        clear hvc_15 hG_16 hS_17 hMC_12 hMS_13
        refine lv_iconst (v := nI 1) hx hb dX2_onTheWay_26 (by decide) ?_
        have jn49 : ∀ (y0 : Nat) (y1 : Int32) (y2 : Int32) (s0 : Int32) (G : g_G) (mc : Nat) (ms : Nat) (H : Heap) (locs : List Loc) (ls : Array Slot) (ce sl : Nat), wp_X2_onTheWay_49 E post (wp_X2_onTheWay_4 E post n4) y0 y1 y2 s0 G mc ms → g_H E G H → va_S (g_A E) s.heap H locs → lv_has ls 4 [(0, .ref y0), (1, .int y1), (2, .int y2)] → ce + mc ≤ mc0 → sl + ms ≤ ms0 → W p l e ({ frames := 5, cells := mc0, slots := ms0, locals := 111 } : Room) s m ([.ref o] : List Value).toArray below meth c H locs ce sl (MQ below (va_Qi (post) (g_Bk E) (g_A E)) ([.ref o] : List Value).toArray s mc0 ms0 (g_A E)) (F0 m 49 ls [.int s0]) := by
          clear hvc_18 hG_19 hS_20 hl_11 hMC_21 hMS_22
          intro y0 y1 y2 s0 G mc ms H locs ls ce sl hvc_23 hG_24 hS_25 hl_26 hMC_27 hMS_28
          refine lv_istore_n (lv' := [(3, .int s0), (0, .ref y0), (1, .int y1), (2, .int y2)]) hx hb dX2_onTheWay_49 rfl hl_26 (by decide) rfl (fun ls hl_29 => ?_)
          clear hl_26
          refine lv_iload_n hx hb dX2_onTheWay_50 rfl (lv_at hl_29 2 rfl) ?_
          refine lv_iload_n hx hb dX2_onTheWay_51 rfl (lv_at hl_29 0 rfl) ?_
          have jn80 : ∀ (y0 : Nat) (y2 : Int32) (s0 : Int32) (s1 : Int32) (G : g_G) (mc : Nat) (ms : Nat) (H : Heap) (locs : List Loc) (ls : Array Slot) (ce sl : Nat), wp_X2_onTheWay_80 E post (wp_X2_onTheWay_4 E post n4) y0 y2 s0 s1 G mc ms → g_H E G H → va_S (g_A E) s.heap H locs → lv_has ls 4 [(0, .ref y0), (2, .int y2)] → ce + mc ≤ mc0 → sl + ms ≤ ms0 → W p l e ({ frames := 5, cells := mc0, slots := ms0, locals := 111 } : Room) s m ([.ref o] : List Value).toArray below meth c H locs ce sl (MQ below (va_Qi (post) (g_Bk E) (g_A E)) ([.ref o] : List Value).toArray s mc0 ms0 (g_A E)) (F0 m 80 ls [.int s0, .int s1]) := by
            clear hvc_23 hG_24 hS_25 hl_29 hMC_27 hMS_28
            intro y0 y2 s0 s1 G mc ms H locs ls ce sl hvc_30 hG_31 hS_32 hl_33 hMC_34 hMS_35
            refine lv_iadd hx hb dX2_onTheWay_80 ?_
            refine lv_istore_n (lv' := [(1, .int (s1 + s0)), (0, .ref y0), (2, .int y2)]) hx hb dX2_onTheWay_81 rfl hl_33 (by decide) rfl (fun ls hl_36 => ?_)
            clear hl_33
            refine lv_iinc (k := 2) (v := y2 + (nI 1)) (lv' := [(2, .int (y2 + (nI 1))), (1, .int (s1 + s0)), (0, .ref y0)]) hx hb dX2_onTheWay_82 hl_36 rfl (congrArg (y2 + ·) (by decide : Int32.ofInt (1) = nI 1)) (by decide) rfl (fun ls hl_37 => ?_)
            clear hl_36
            refine lv_goto (tgt := 4) hx hb dX2_onTheWay_85 (by decide) ?_
            exact ih4 y0 (s1 + s0) (y2 + (nI 1)) G mc ms _ _ _ _ _ hvc_30 hG_31 hS_32 (lv_sub hl_37 [2, 1, 0] rfl) hMC_34 hMS_35
          refine lv_if_eq (tgt := 79) hx hb dX2_onTheWay_52 (by decide) (fun h9 => ?_) (fun h9 => ?_)
          · replace hvc_23 := hvc_23.1 h9
            refine lv_iconst (v := nI 0) hx hb dX2_onTheWay_79 (by decide) ?_
            exact jn80 y0 y2 (nI 0) y1 G mc ms _ _ _ _ _ hvc_23 hG_24 hS_25 (lv_sub hl_29 [1, 3] rfl) hMC_27 hMS_28
          · replace hvc_23 := hvc_23.2 h9
            refine lv_aload_n hx hb dX2_onTheWay_55 rfl (lv_at hl_29 1 rfl) ?_
            refine gw_gr (C := RX2) (T := TX2) (N := 11) (own := RX2) hx hb hts in_X2 hown hK hG_24 hvc_23 rfl (by decide) (hts _ q301) (fun _ h9 => h9) dX2_onTheWay_56 (fun x8 hvc_38 => ?_)
            clear hvc_23
            refine lv_iload_n hx hb dX2_onTheWay_59 rfl (lv_at hl_29 3 rfl) ?_
            refine lv_iconst (v := nI 4) hx hb dX2_onTheWay_60 (by decide) ?_
            refine lv_idiv hx hb dX2_onTheWay_61 (by decide) ?_
            refine gw_cFQP (As := [.int (y2 / (nI 4))]) (rest := [.int y1]) (hK.1 9 _ rfl).2  ⟨hx, hb, hml, hown, hts⟩ (met_J7_get l E G x8 (y2 / (nI 4)) _ hvc_38.2) (va_cwF 1 hts (lw_F q854 q857 q859 q99 q861) rfl rfl rfl (hX.fw (List.mem_of_getElem? (i := 5) rfl)) (by decide +kernel) ⟨Nat.le_of_ble_eq_true rfl, Nat.le_of_ble_eq_true rfl⟩) (gw_rc (q := (RJ7, TJ7, 3)) hK hG_24 hvc_38.1 rfl) (by show _ ≤ mc0; omega) (by show _ ≤ ms0; omega) (g_St0 E) hz trivial hK hG_24 hS_25 rfl hl_29.1 rfl (Nat.le_of_ble_eq_true rfl) dX2_onTheWay_62 (fun x9 H locs hvc_39 hG_40 hS_41 => ?_)
            clear hvc_38 hG_24 hS_25
            refine gw_castS (v := x9) (ci := 3) hx hb hown (hts _ q866) hK hG_40 rfl rfl hvc_39 dX2_onTheWay_67 (fun z11 hy9 hvc_42 => ?_)
            clear hvc_39
            subst hy9
            refine lv_iload_n hx hb dX2_onTheWay_70 rfl (lv_at hl_29 3 rfl) ?_
            refine lv_iconst (v := nI 4) hx hb dX2_onTheWay_71 (by decide) ?_
            refine lv_irem hx hb dX2_onTheWay_72 (by decide) ?_
            refine gw_cVIP (As := [.int (y2 - y2 / (nI 4) * (nI 4))]) (rest := [.int y1])  ⟨hx, hb, hml, hown, hts⟩ (met_X4_share l E G z11 (y2 - y2 / (nI 4) * (nI 4)) _ hvc_42.2) (cwV 1 hts (lw_V q867 q868 q869 q117 q870) rfl rfl rfl (by decide +kernel) ⟨Nat.le_of_ble_eq_true rfl, Nat.le_of_ble_eq_true rfl⟩) (gw_rc (q := (RX4, TX4, 3)) hK hG_40 hvc_42.1 rfl) (by show _ ≤ mc0; omega) (by show _ ≤ ms0; omega) (g_X.st E) hz hX hK hG_40 hS_41 rfl hl_29.1 rfl (Nat.le_of_ble_eq_true rfl) dX2_onTheWay_73 (fun x12 H locs hvc_43 hG_44 hS_45 => ?_)
            clear hvc_42 hG_40 hS_41
            refine lv_goto (tgt := 80) hx hb dX2_onTheWay_76 (by decide) ?_
            exact jn80 y0 y2 x12 y1 G mc ms _ _ _ _ _ hvc_43 hG_44 hS_45 (lv_sub hl_29 [1, 3] rfl) hMC_27 hMS_28
        have jn48 : ∀ (y0 : Nat) (y1 : Int32) (y2 : Int32) (G : g_G) (mc : Nat) (ms : Nat) (H : Heap) (locs : List Loc) (ls : Array Slot) (ce sl : Nat), wp_X2_onTheWay_48 E post (wp_X2_onTheWay_49 E post (wp_X2_onTheWay_4 E post n4)) y0 y1 y2 G mc ms → g_H E G H → va_S (g_A E) s.heap H locs → lv_has ls 4 [(0, .ref y0), (1, .int y1), (2, .int y2)] → ce + mc ≤ mc0 → sl + ms ≤ ms0 → W p l e ({ frames := 5, cells := mc0, slots := ms0, locals := 111 } : Room) s m ([.ref o] : List Value).toArray below meth c H locs ce sl (MQ below (va_Qi (post) (g_Bk E) (g_A E)) ([.ref o] : List Value).toArray s mc0 ms0 (g_A E)) (F0 m 48 ls []) := by
          clear hvc_18 hG_19 hS_20 hl_11 hMC_21 hMS_22
          intro y0 y1 y2 G mc ms H locs ls ce sl hvc_46 hG_47 hS_48 hl_49 hMC_50 hMS_51
          refine lv_iconst (v := nI 0) hx hb dX2_onTheWay_48 (by decide) ?_
          exact jn49 y0 y1 y2 (nI 0) G mc ms _ _ _ _ _ hvc_46 hG_47 hS_48 (lv_sub hl_49 [0, 1, 2] rfl) hMC_50 hMS_51
        refine lv_icmp_ne (tgt := 48) hx hb dX2_onTheWay_27 (by decide) (fun h9 => ?_) (fun h9 => ?_)
        · replace hvc_18 := hvc_18.1 h9
          exact jn48 y0 y1 y2 G5 (mc - c6) (ms - t7) _ _ _ _ _ hvc_18 hG_19 hS_20 (lv_sub hl_11 [0, 1, 2] rfl) hMC_21 hMS_22
        · replace hvc_18 := hvc_18.2 h9
          refine lv_aload_n hx hb dX2_onTheWay_30 rfl (lv_at hl_11 0 rfl) ?_
          refine lv_iload_n hx hb dX2_onTheWay_31 rfl (lv_at hl_11 2 rfl) ?_
          refine lv_iconst (v := nI 4) hx hb dX2_onTheWay_32 (by decide) ?_
          refine lv_irem hx hb dX2_onTheWay_33 (by decide) ?_
          refine lv_iload_n hx hb dX2_onTheWay_34 rfl (lv_at hl_11 2 rfl) ?_
          refine lv_iconst (v := nI 4) hx hb dX2_onTheWay_35 (by decide) ?_
          refine lv_idiv hx hb dX2_onTheWay_36 (by decide) ?_
          refine gw_cVIP (As := [.int (y2 - y2 / (nI 4) * (nI 4)), .int (y2 / (nI 4))]) (rest := [])  ⟨hx, hb, hml, hown, hts⟩ (met_X2_state l E G5 y0 (y2 - y2 / (nI 4) * (nI 4)) (y2 / (nI 4)) _ hvc_18.2) (cwV 2 hts (lw_V q849 q850 q851 q97 q852) rfl rfl rfl (by decide +kernel) ⟨Nat.le_of_ble_eq_true rfl, Nat.le_of_ble_eq_true rfl⟩) (gw_rc (q := (RX2, TX2, 11)) hK hG_19 hvc_18.1 rfl) (by show _ ≤ mc0; omega) (by show _ ≤ ms0; omega) (g_St0 E) hz trivial hK hG_19 hS_20 rfl hl_11.1 rfl (Nat.le_of_ble_eq_true rfl) dX2_onTheWay_37 (fun x14 H locs hvc_52 hG_53 hS_54 => ?_)
          clear hvc_18 hG_19 hS_20
          refine lv_iconst (v := nI 2) hx hb dX2_onTheWay_40 (by decide) ?_
          refine lv_icmp_eq (tgt := 48) hx hb dX2_onTheWay_41 (by decide) (fun h9 => ?_) (fun h9 => ?_)
          · replace hvc_52 := hvc_52.1 h9
            exact jn48 y0 y1 y2 G5 (mc - c6) (ms - t7) _ _ _ _ _ hvc_52 hG_53 hS_54 (lv_sub hl_11 [0, 1, 2] rfl) hMC_21 hMS_22
          · replace hvc_52 := hvc_52.2 h9
            refine lv_iconst (v := nI 1) hx hb dX2_onTheWay_44 (by decide) ?_
            refine lv_goto (tgt := 49) hx hb dX2_onTheWay_45 (by decide) ?_
            exact jn49 y0 y1 y2 (nI 1) G5 (mc - c6) (ms - t7) _ _ _ _ _ hvc_52 hG_53 hS_54 (lv_sub hl_11 [0, 1, 2] rfl) hMC_21 hMS_22
  refine lv_istore_n (lv' := [(2, .int (nI 0)), (1, .int (nI 0)), (0, .ref o)]) hx hb dX2_onTheWay_3 rfl hl_1 (by decide) rfl (fun ls hl_55 => ?_)
  clear hl_1
  obtain ⟨nf4, hvc⟩ := hvc
  exact lp4 nf4 o (nI 0) (nI 0) G mc0 ms0 _ _ _ _ _ hvc hG hS (lv_sub hl_55 [2, 1, 0] rfl) hMC hMS
set_option maxHeartbeats 4000000 in
set_option maxRecDepth 100000 in
theorem met_X2_clerkRecovers (l : Launch) (E : g_E) (G : g_G) (o : Nat) (p1 : Int32) (mc0 ms0 : Nat) (post : g_G → Prop) (hvc : wp_X2_clerkRecovers E G o p1 mc0 ms0 post) : g_MV E l yX2_clerkRecovers (ws_ yX2_clerkRecovers cX2_clerkRecovers 2 (Option.none : Option Jvm.ClassFile.FieldType)) ({ frames := 10, cells := mc0, slots := ms0, locals := 260 } : Room) (g_X E) [.ref o, .int p1] G (post) := by
  refine g_enter (by decide +kernel) (Nat.le_of_ble_eq_true rfl) ?_
  intro p e s m below meth c ls hx hb hr hts hown hlocks hml hin hz hX hK hG hS hl
  have hl : lv_has ls 2 [(0, .ref o), (1, .int p1)] := hl
  have hown : s.vm.findClass RX2 = some m.cls := hown
  have hMC : 0 + mc0 ≤ mc0 := Nat.le_of_eq (Nat.zero_add _)
  have hMS : 0 + ms0 ≤ ms0 := Nat.le_of_eq (Nat.zero_add _)
  unfold wp_X2_clerkRecovers at hvc
  refine lv_aload_n hx hb dX2_clerkRecovers_0 rfl (lv_at hl 0 rfl) ?_
  refine lv_iload_n hx hb dX2_clerkRecovers_1 rfl (lv_at hl 1 rfl) ?_
  obtain ⟨c3, t4, hc1, hs1, hvc⟩ := hvc
  refine gw_cVIA (As := [.int p1]) (rest := [])  ⟨hx, hb, hml, hown, hts⟩ (met_X2_isUndecided l E G o p1 c3 t4 _ hvc.2) (cwV 1 hts (lw_V q952 q953 q954 q97 q955) rfl rfl rfl (by decide +kernel) ⟨Nat.le_of_ble_eq_true rfl, Nat.le_of_ble_eq_true rfl⟩) (gw_rc (q := (RX2, TX2, 11)) hK hG hvc.1 rfl) hc1 hs1 hMC hMS (Nat.le_refl _) (Nat.le_refl _) (g_X.st E) hz hX hK hG hS rfl hl.1 rfl (Nat.le_of_ble_eq_true rfl) dX2_clerkRecovers_2 (fun x1 G2 H locs ce sl hvc_1 hG_2 hS_3 hMC_4 hMS_5 => ?_)
  clear hvc hG hS hMC hMS
  refine lv_if_eq (tgt := 17) hx hb dX2_clerkRecovers_5 (by decide) (fun h9 => ?_) (fun h9 => ?_)
  · replace hvc_1 := hvc_1.1 h9
    refine lv_aload_n hx hb dX2_clerkRecovers_17 rfl (lv_at hl 0 rfl) ?_
    refine lv_iload_n hx hb dX2_clerkRecovers_18 rfl (lv_at hl 1 rfl) ?_
    obtain ⟨c7, t8, hc1, hs1, hvc_1⟩ := hvc_1
    refine gw_cVIA (As := [.int p1]) (rest := [])  ⟨hx, hb, hml, hown, hts⟩ (met_X2_hasEnded l E G2 o p1 c7 t8 _ hvc_1.2) (cwV 1 hts (lw_V q1013 q1014 q1015 q97 q1016) rfl rfl rfl (by decide +kernel) ⟨Nat.le_of_ble_eq_true rfl, Nat.le_of_ble_eq_true rfl⟩) (gw_rc (q := (RX2, TX2, 11)) hK hG_2 hvc_1.1 rfl) hc1 hs1 hMC_4 hMS_5 (Nat.le_refl _) (Nat.le_refl _) (g_X.st E) hz hX hK hG_2 hS_3 rfl hl.1 rfl (Nat.le_of_ble_eq_true rfl) dX2_clerkRecovers_19 (fun x5 G6 H locs ce sl hvc_6 hG_7 hS_8 hMC_9 hMS_10 => ?_)
    clear hvc_1 hG_2 hS_3 hMC_4 hMS_5
    refine lv_if_ne (tgt := 38) hx hb dX2_clerkRecovers_22 (by decide) (fun h9 => ?_) (fun h9 => ?_)
    · replace hvc_6 := hvc_6.1 h9
      exact g_vret hx hb hr hlocks (by show _ ≤ mc0; omega) (by show _ ≤ ms0; omega) hG_7 hS_8 hvc_6 dX2_clerkRecovers_38
    · replace hvc_6 := hvc_6.2 h9
      refine lv_aload_n hx hb dX2_clerkRecovers_25 rfl (lv_at hl 0 rfl) ?_
      refine lv_aload_n hx hb dX2_clerkRecovers_26 rfl (lv_at hl 0 rfl) ?_
      refine lv_iload_n hx hb dX2_clerkRecovers_27 rfl (lv_at hl 1 rfl) ?_
      obtain ⟨c11, t12, hc1, hs1, hvc_6⟩ := hvc_6
      refine gw_cVIA (As := [.int p1]) (rest := [.ref o])  ⟨hx, hb, hml, hown, hts⟩ (met_X2_outcome l E G6 o p1 c11 t12 _ hvc_6.2) (cwV 1 hts (lw_V q956 q957 q958 q97 q959) rfl rfl rfl (by decide +kernel) ⟨Nat.le_of_ble_eq_true rfl, Nat.le_of_ble_eq_true rfl⟩) (gw_rc (q := (RX2, TX2, 11)) hK hG_7 hvc_6.1 rfl) hc1 hs1 hMC_9 hMS_10 (Nat.le_refl _) (Nat.le_refl _) (g_X.st E) hz hX hK hG_7 hS_8 rfl hl.1 rfl (Nat.le_of_ble_eq_true rfl) dX2_clerkRecovers_28 (fun x9 G10 H locs ce sl hvc_11 hG_12 hS_13 hMC_14 hMS_15 => ?_)
      clear hvc_6 hG_7 hS_8 hMC_9 hMS_10
      refine gw_cSQP (As := [.int x9]) (rest := [.ref o])  ⟨hx, hb, hml, hown, hts⟩ (met_X2_tells l E G10 x9 _ hvc_11) (va_cwS 1 hts (lw_S q972 q973 q97 q974) rfl rfl rfl (by decide +kernel) ⟨Nat.le_of_ble_eq_true rfl, Nat.le_of_ble_eq_true rfl⟩) (by show _ ≤ mc0; omega) (by show _ ≤ ms0; omega) (g_X.st E) hz hX hK hG_12 hS_13 rfl hl.1 rfl (Nat.le_of_ble_eq_true rfl) dX2_clerkRecovers_31 (fun x13 H locs hvc_16 hG_17 hS_18 => ?_)
      clear hvc_11 hG_12 hS_13
      refine lv_iload_n hx hb dX2_clerkRecovers_34 rfl (lv_at hl 1 rfl) ?_
      obtain ⟨z15, rfl, hvc_16⟩ := hvc_16
      obtain ⟨c18, t19, hc1, hs1, hvc_16⟩ := hvc_16
      refine gw_cVVA (As := [.ref z15, .int p1]) (rest := [])  ⟨hx, hb, hml, hown, hts⟩ (met_X2_sendsToAll l E G10 o z15 p1 c18 t19 _ hvc_16.2) (cwV 2 hts (lw_V q979 q981 qs13 q97 q982) rfl rfl rfl (by decide +kernel) ⟨Nat.le_of_ble_eq_true rfl, Nat.le_of_ble_eq_true rfl⟩) (gw_rc (q := (RX2, TX2, 11)) hK hG_17 hvc_16.1 rfl) hc1 hs1 hMC_14 hMS_15 (Nat.le_refl _) (Nat.le_refl _) (g_X.st E) hz hX hK hG_17 hS_18 rfl hl.1 rfl (Nat.le_of_ble_eq_true rfl) dX2_clerkRecovers_35 (fun G17 H locs ce sl hvc_19 hG_20 hS_21 hMC_22 hMS_23 => ?_)
      clear hvc_16 hG_17 hS_18 hMC_14 hMS_15
      exact g_vret hx hb hr hlocks (by show _ ≤ mc0; omega) (by show _ ≤ ms0; omega) hG_20 hS_21 hvc_19 dX2_clerkRecovers_38
  · replace hvc_1 := hvc_1.2 h9
    refine lv_aload_n hx hb dX2_clerkRecovers_8 rfl (lv_at hl 0 rfl) ?_
    refine lv_iload_n hx hb dX2_clerkRecovers_9 rfl (lv_at hl 1 rfl) ?_
    refine lv_iconst (v := nI 2) hx hb dX2_clerkRecovers_10 (by decide) ?_
    obtain ⟨c22, t23, hc1, hs1, hvc_1⟩ := hvc_1
    refine gw_cVVA (As := [.int p1, .int (nI 2)]) (rest := [])  ⟨hx, hb, hml, hown, hts⟩ (met_X2_decides l E G2 o p1 (nI 2) c22 t23 _ hvc_1.2) (cwV 2 hts (lw_V q968 q970 qs12 q97 q971) rfl rfl rfl (by decide +kernel) ⟨Nat.le_of_ble_eq_true rfl, Nat.le_of_ble_eq_true rfl⟩) (gw_rc (q := (RX2, TX2, 11)) hK hG_2 hvc_1.1 rfl) hc1 hs1 hMC_4 hMS_5 (Nat.le_refl _) (Nat.le_refl _) (g_X.st E) hz hX hK hG_2 hS_3 rfl hl.1 rfl (Nat.le_of_ble_eq_true rfl) dX2_clerkRecovers_11 (fun G21 H locs ce sl hvc_24 hG_25 hS_26 hMC_27 hMS_28 => ?_)
    clear hvc_1 hG_2 hS_3 hMC_4 hMS_5
    refine lv_goto (tgt := 38) hx hb dX2_clerkRecovers_14 (by decide) ?_
    exact g_vret hx hb hr hlocks (by show _ ≤ mc0; omega) (by show _ ≤ ms0; omega) hG_25 hS_26 hvc_24 dX2_clerkRecovers_38
set_option maxHeartbeats 4000000 in
set_option maxRecDepth 100000 in
theorem met_X2_recovers (l : Launch) (E : g_E) (G : g_G) (o : Nat) (p1 : Int32) (mc0 ms0 : Nat) (post : Int32 → g_G → Prop) (hvc : wp_X2_recovers E G o p1 mc0 ms0 post) : g_MI E l yX2_recovers (ws_ yX2_recovers cX2_recovers 3 (Option.some Jvm.ClassFile.FieldType.int)) ({ frames := 11, cells := mc0, slots := ms0, locals := 281 } : Room) (g_X E) [.ref o, .int p1] G (post) := by
  refine g_enter (by decide +kernel) (Nat.le_of_ble_eq_true rfl) ?_
  intro p e s m below meth c ls hx hb hr hts hown hlocks hml hin hz hX hK hG hS hl
  have hl : lv_has ls 3 [(0, .ref o), (1, .int p1)] := hl
  have hown : s.vm.findClass RX2 = some m.cls := hown
  have hMC : 0 + mc0 ≤ mc0 := Nat.le_of_eq (Nat.zero_add _)
  have hMS : 0 + ms0 ≤ ms0 := Nat.le_of_eq (Nat.zero_add _)
  unfold wp_X2_recovers at hvc
  refine lv_aload_n hx hb dX2_recovers_0 rfl (lv_at hl 0 rfl) ?_
  refine lv_dup hx hb dX2_recovers_1 rfl ?_
  refine gw_gi (C := RX2) (T := TX2) (N := 11) (own := RX2) hx hb hts in_X2 hown hK hG hvc rfl (by decide) (hts _ q314) (fun _ h9 => h9) dX2_recovers_2 (fun x1 hvc_1 => ?_)
  clear hvc
  refine lv_iconst (v := nI 1) hx hb dX2_recovers_5 (by decide) ?_
  refine lv_iload_n hx hb dX2_recovers_6 rfl (lv_at hl 1 rfl) ?_
  refine lv_ishl hx hb dX2_recovers_7 ?_
  refine lv_ior hx hb dX2_recovers_8 ?_
  refine gw_put (ty := .int) (C := RX2) (T := TX2) (N := 11) (own := RX2) hx hb hts in_X2 tyX2 tyX2_ok nmX2 hown hK hG hS hvc_1 rfl (by decide) (hts _ q314) (fun _ h9 => h9) rfl (by decide +kernel) rfl rfl dX2_recovers_9 (fun G2 H locs hvc_2 hG_3 hS_4 => ?_)
  clear hvc_1 hG hS
  refine lv_iconst (v := nI 0) hx hb dX2_recovers_12 (by decide) ?_
  have lp14 : ∀ (n14 : Nat) (y0 : Nat) (y1 : Int32) (y2 : Int32) (G : g_G) (mc : Nat) (ms : Nat) (H : Heap) (locs : List Loc) (ls : Array Slot) (ce sl : Nat), wp_X2_recovers_14 E post n14 y0 y1 y2 G mc ms → g_H E G H → va_S (g_A E) s.heap H locs → lv_has ls 3 [(0, .ref y0), (1, .int y1), (2, .int y2)] → ce + mc ≤ mc0 → sl + ms ≤ ms0 → W p l e ({ frames := 11, cells := mc0, slots := ms0, locals := 281 } : Room) s m ([.ref o, .int p1] : List Value).toArray below meth c H locs ce sl (MQ below (va_Qi (post) (g_Bk E) (g_A E)) ([.ref o, .int p1] : List Value).toArray s mc0 ms0 (g_A E)) (F0 m 14 ls []) := by
    clear hvc_2 hG_3 hS_4 hl hMC hMS
    intro n14
    induction n14 with
    | zero =>
      intro y0 y1 y2 G mc ms H locs ls ce sl hvc_5 hG_6 hS_7 hl_8 hMC_9 hMS_10
      exact False.elim hvc_5
    | succ n14 ih14 =>
      intro y0 y1 y2 G mc ms H locs ls ce sl hvc_11 hG_12 hS_13 hl_14 hMC_15 hMS_16
      refine lv_iload_n hx hb dX2_recovers_14 rfl (lv_at hl_14 2 rfl) ?_
      refine lv_aload_n hx hb dX2_recovers_15 rfl (lv_at hl_14 0 rfl) ?_
      refine gw_gr (C := RX2) (T := TX2) (N := 11) (own := RX2) hx hb hts in_X2 hown hK hG_12 hvc_11 rfl (by decide) (hts _ q301) (fun _ h9 => h9) dX2_recovers_16 (fun x3 hvc_17 => ?_)
      clear hvc_11
      refine gw_cFIP (As := []) (rest := [.int y2]) (hK.1 9 _ rfl).2  ⟨hx, hb, hml, hown, hts⟩ (met_J7_size l E G x3 _ hvc_17.2) (va_cwF 0 hts (lw_F q883 q886 q888 q99 q890) rfl rfl rfl (hX.fw (List.mem_of_getElem? (i := 6) rfl)) (by decide +kernel) ⟨Nat.le_of_ble_eq_true rfl, Nat.le_of_ble_eq_true rfl⟩) (gw_rc (q := (RJ7, TJ7, 3)) hK hG_12 hvc_17.1 rfl) (by show _ ≤ mc0; omega) (by show _ ≤ ms0; omega) (g_St0 E) hz trivial hK hG_12 hS_13 rfl hl_14.1 rfl (Nat.le_of_ble_eq_true rfl) dX2_recovers_19 (fun x4 H locs hvc_18 hG_19 hS_20 => ?_)
      clear hvc_17 hG_12 hS_13
      refine lv_icmp_ge (tgt := 65) hx hb dX2_recovers_24 (by decide) (fun h9 => ?_) (fun h9 => ?_)
      · replace hvc_18 := hvc_18.1 h9
        refine lv_aload_n hx hb dX2_recovers_65 rfl (lv_at hl_14 0 rfl) ?_
        refine gw_gr (C := RX2) (T := TX2) (N := 11) (own := RX2) hx hb hts in_X2 hown hK hG_19 hvc_18 rfl (by decide) (hts _ q305) (fun _ h9 => h9) dX2_recovers_66 (fun x6 hvc_21 => ?_)
        clear hvc_18
        refine gw_cFIP (As := []) (rest := []) (hK.1 9 _ rfl).2  ⟨hx, hb, hml, hown, hts⟩ (met_J7_size l E G x6 _ hvc_21.2) (va_cwF 0 hts (lw_F q883 q886 q888 q99 q890) rfl rfl rfl (hX.fw (List.mem_of_getElem? (i := 6) rfl)) (by decide +kernel) ⟨Nat.le_of_ble_eq_true rfl, Nat.le_of_ble_eq_true rfl⟩) (gw_rc (q := (RJ7, TJ7, 3)) hK hG_19 hvc_21.1 rfl) (by show _ ≤ mc0; omega) (by show _ ≤ ms0; omega) (g_St0 E) hz trivial hK hG_19 hS_20 rfl hl_14.1 rfl (Nat.le_of_ble_eq_true rfl) dX2_recovers_69 (fun x7 H locs hvc_22 hG_23 hS_24 => ?_)
        clear hvc_21 hG_19 hS_20
        exact g_iret hx hb hr hlocks (by show _ ≤ mc0; omega) (by show _ ≤ ms0; omega) hG_23 hS_24 rfl hvc_22 dX2_recovers_74
      · replace hvc_18 := hvc_18.2 h9
        refine lv_iload_n hx hb dX2_recovers_27 rfl (lv_at hl_14 1 rfl) ?_
        refine lv_iconst (v := nI 4) hx hb dX2_recovers_28 (by decide) ?_
        have jn59 : ∀ (y0 : Nat) (y1 : Int32) (y2 : Int32) (G : g_G) (mc : Nat) (ms : Nat) (H : Heap) (locs : List Loc) (ls : Array Slot) (ce sl : Nat), wp_X2_recovers_59 E post (wp_X2_recovers_14 E post n14) y0 y1 y2 G mc ms → g_H E G H → va_S (g_A E) s.heap H locs → lv_has ls 3 [(0, .ref y0), (1, .int y1), (2, .int y2)] → ce + mc ≤ mc0 → sl + ms ≤ ms0 → W p l e ({ frames := 11, cells := mc0, slots := ms0, locals := 281 } : Room) s m ([.ref o, .int p1] : List Value).toArray below meth c H locs ce sl (MQ below (va_Qi (post) (g_Bk E) (g_A E)) ([.ref o, .int p1] : List Value).toArray s mc0 ms0 (g_A E)) (F0 m 59 ls []) := by
          clear hvc_18 hG_19 hS_20 hl_14 hMC_15 hMS_16
          intro y0 y1 y2 G mc ms H locs ls ce sl hvc_25 hG_26 hS_27 hl_28 hMC_29 hMS_30
          refine lv_iinc (k := 2) (v := y2 + (nI 1)) (lv' := [(2, .int (y2 + (nI 1))), (0, .ref y0), (1, .int y1)]) hx hb dX2_recovers_59 hl_28 rfl (congrArg (y2 + ·) (by decide : Int32.ofInt (1) = nI 1)) (by decide) rfl (fun ls hl_31 => ?_)
          clear hl_28
          refine lv_goto (tgt := 14) hx hb dX2_recovers_62 (by decide) ?_
          exact ih14 y0 y1 (y2 + (nI 1)) G mc ms _ _ _ _ _ hvc_25 hG_26 hS_27 (lv_sub hl_31 [1, 2, 0] rfl) hMC_29 hMS_30
        refine lv_icmp_ne (tgt := 40) hx hb dX2_recovers_29 (by decide) (fun h9 => ?_) (fun h9 => ?_)
        · replace hvc_18 := hvc_18.1 h9
          refine lv_aload_n hx hb dX2_recovers_40 rfl (lv_at hl_14 0 rfl) ?_
          refine lv_iload_n hx hb dX2_recovers_41 rfl (lv_at hl_14 1 rfl) ?_
          refine lv_iload_n hx hb dX2_recovers_42 rfl (lv_at hl_14 2 rfl) ?_
          refine gw_cVIP (As := [.int y1, .int y2]) (rest := [])  ⟨hx, hb, hml, hown, hts⟩ (met_X2_state l E G y0 y1 y2 _ hvc_18.2) (cwV 2 hts (lw_V q849 q850 q851 q97 q852) rfl rfl rfl (by decide +kernel) ⟨Nat.le_of_ble_eq_true rfl, Nat.le_of_ble_eq_true rfl⟩) (gw_rc (q := (RX2, TX2, 11)) hK hG_19 hvc_18.1 rfl) (by show _ ≤ mc0; omega) (by show _ ≤ ms0; omega) (g_St0 E) hz trivial hK hG_19 hS_20 rfl hl_14.1 rfl (Nat.le_of_ble_eq_true rfl) dX2_recovers_43 (fun x9 H locs hvc_32 hG_33 hS_34 => ?_)
          clear hvc_18 hG_19 hS_20
          refine lv_iconst (v := nI 1) hx hb dX2_recovers_46 (by decide) ?_
          refine lv_icmp_ne (tgt := 59) hx hb dX2_recovers_47 (by decide) (fun h9 => ?_) (fun h9 => ?_)
          · replace hvc_32 := hvc_32.1 h9
            exact jn59 y0 y1 y2 G mc ms _ _ _ _ _ hvc_32 hG_33 hS_34 (lv_sub hl_14 [0, 1, 2] rfl) hMC_15 hMS_16
          · replace hvc_32 := hvc_32.2 h9
            refine lv_aload_n hx hb dX2_recovers_50 rfl (lv_at hl_14 0 rfl) ?_
            refine va_gets (A := g_A E) hx hb (hX.kz 6 (by decide)) hS_34 hown (hts _ q1282) (fun _ h9 => h9) dX2_recovers_51 ?_
            refine lv_iload_n hx hb dX2_recovers_54 rfl (lv_at hl_14 2 rfl) ?_
            refine lv_iload_n hx hb dX2_recovers_55 rfl (lv_at hl_14 1 rfl) ?_
            obtain ⟨c13, t14, hc1, hs1, hvc_32⟩ := hvc_32
            refine gw_cVVA (As := [.ref (g_k E 6), .int y2, .int y1]) (rest := [])  ⟨hx, hb, hml, hown, hts⟩ (met_X2_sends l E G y0 (g_k E 6) y2 y1 c13 t14 _ hvc_32.2) (cwV 3 hts (lw_V q920 q922 qs11 q97 q923) rfl rfl rfl (by decide +kernel) ⟨Nat.le_of_ble_eq_true rfl, Nat.le_of_ble_eq_true rfl⟩) (gw_rc (q := (RX2, TX2, 11)) hK hG_33 hvc_32.1 rfl) hc1 hs1 hMC_15 hMS_16 (Nat.le_refl _) (Nat.le_refl _) (g_X.st E) hz hX hK hG_33 hS_34 rfl hl_14.1 rfl (Nat.le_of_ble_eq_true rfl) dX2_recovers_56 (fun G12 H locs ce sl hvc_35 hG_36 hS_37 hMC_38 hMS_39 => ?_)
            clear hvc_32 hG_33 hS_34 hMC_15 hMS_16
            exact jn59 y0 y1 y2 G12 (mc - c13) (ms - t14) _ _ _ _ _ hvc_35 hG_36 hS_37 (lv_sub hl_14 [0, 1, 2] rfl) hMC_38 hMS_39
        · replace hvc_18 := hvc_18.2 h9
          refine lv_aload_n hx hb dX2_recovers_32 rfl (lv_at hl_14 0 rfl) ?_
          refine lv_iload_n hx hb dX2_recovers_33 rfl (lv_at hl_14 2 rfl) ?_
          obtain ⟨c17, t18, hc1, hs1, hvc_18⟩ := hvc_18
          refine gw_cVVA (As := [.int y2]) (rest := [])  ⟨hx, hb, hml, hown, hts⟩ (met_X2_clerkRecovers l E G y0 y2 c17 t18 _ hvc_18.2) (cwV 1 hts (lw_V q1278 q1280 qs22 q97 q1281) rfl rfl rfl (by decide +kernel) ⟨Nat.le_of_ble_eq_true rfl, Nat.le_of_ble_eq_true rfl⟩) (gw_rc (q := (RX2, TX2, 11)) hK hG_19 hvc_18.1 rfl) hc1 hs1 hMC_15 hMS_16 (Nat.le_refl _) (Nat.le_refl _) (g_X.st E) hz hX hK hG_19 hS_20 rfl hl_14.1 rfl (Nat.le_of_ble_eq_true rfl) dX2_recovers_34 (fun G16 H locs ce sl hvc_40 hG_41 hS_42 hMC_43 hMS_44 => ?_)
          clear hvc_18 hG_19 hS_20 hMC_15 hMS_16
          refine lv_goto (tgt := 59) hx hb dX2_recovers_37 (by decide) ?_
          exact jn59 y0 y1 y2 G16 (mc - c17) (ms - t18) _ _ _ _ _ hvc_40 hG_41 hS_42 (lv_sub hl_14 [0, 1, 2] rfl) hMC_43 hMS_44
  refine lv_istore_n (lv' := [(2, .int (nI 0)), (0, .ref o), (1, .int p1)]) hx hb dX2_recovers_13 rfl hl (by decide) rfl (fun ls hl_45 => ?_)
  clear hl
  obtain ⟨nf14, hvc_2⟩ := hvc_2
  exact lp14 nf14 o p1 (nI 0) G2 mc0 ms0 _ _ _ _ _ hvc_2 hG_3 hS_4 (lv_sub hl_45 [1, 2, 0] rfl) hMC hMS
set_option maxHeartbeats 4000000 in
set_option maxRecDepth 100000 in
theorem met_X2_settles (l : Launch) (E : g_E) (G : g_G) (o : Nat) (mc0 ms0 : Nat) (post : Int32 → g_G → Prop) (hvc : wp_X2_settles E G o mc0 ms0 post) : g_MI E l yX2_settles (ws_ yX2_settles cX2_settles 3 (Option.some Jvm.ClassFile.FieldType.int)) ({ frames := 14, cells := mc0, slots := ms0, locals := 349 } : Room) (g_X E) [.ref o] G (post) := by
  refine g_enter (by decide +kernel) (Nat.le_of_ble_eq_true rfl) ?_
  intro p e s m below meth c ls hx hb hr hts hown hlocks hml hin hz hX hK hG hS hl
  have hl : lv_has ls 3 [(0, .ref o)] := hl
  have hown : s.vm.findClass RX2 = some m.cls := hown
  have hMC : 0 + mc0 ≤ mc0 := Nat.le_of_eq (Nat.zero_add _)
  have hMS : 0 + ms0 ≤ ms0 := Nat.le_of_eq (Nat.zero_add _)
  unfold wp_X2_settles at hvc
  refine lv_iconst (v := nI 0) hx hb dX2_settles_0 (by decide) ?_
  have lp2 : ∀ (n2 : Nat) (y0 : Nat) (y1 : Int32) (G : g_G) (mc : Nat) (ms : Nat) (H : Heap) (locs : List Loc) (ls : Array Slot) (ce sl : Nat), wp_X2_settles_2 E post n2 y0 y1 G mc ms → g_H E G H → va_S (g_A E) s.heap H locs → lv_has ls 3 [(0, .ref y0), (1, .int y1)] → ce + mc ≤ mc0 → sl + ms ≤ ms0 → W p l e ({ frames := 14, cells := mc0, slots := ms0, locals := 349 } : Room) s m ([.ref o] : List Value).toArray below meth c H locs ce sl (MQ below (va_Qi (post) (g_Bk E) (g_A E)) ([.ref o] : List Value).toArray s mc0 ms0 (g_A E)) (F0 m 2 ls []) := by
    clear hvc hG hS hl hMC hMS
    intro n2
    induction n2 with
    | zero =>
      intro y0 y1 G mc ms H locs ls ce sl hvc_1 hG_2 hS_3 hl_4 hMC_5 hMS_6
      exact False.elim hvc_1
    | succ n2 ih2 =>
      intro y0 y1 G mc ms H locs ls ce sl hvc_7 hG_8 hS_9 hl_10 hMC_11 hMS_12
      refine lv_iload_n hx hb dX2_settles_2 rfl (lv_at hl_10 1 rfl) ?_
      refine lv_iconst (v := nI 5) hx hb dX2_settles_3 (by decide) ?_
      refine lv_icmp_ge (tgt := 33) hx hb dX2_settles_4 (by decide) (fun h9 => ?_) (fun h9 => ?_)
      · replace hvc_7 := hvc_7.1 h9
        refine lv_aload_n hx hb dX2_settles_33 rfl (lv_at hl_10 0 rfl) ?_
        refine lv_ldc (v := nI 2147483647) hx hb hown (by exact hts _ q1284) dX2_settles_34 ?_
        obtain ⟨c3, t4, hc1, hs1, hvc_7⟩ := hvc_7
        refine gw_cVIA (As := [.int (nI 2147483647)]) (rest := [])  ⟨hx, hb, hml, hown, hts⟩ (met_X2_deliversFirst l E G y0 (nI 2147483647) c3 t4 _ hvc_7.2) (cwV 1 hts (lw_V q1285 q792 q793 q97 q794) rfl rfl rfl (by decide +kernel) ⟨Nat.le_of_ble_eq_true rfl, Nat.le_of_ble_eq_true rfl⟩) (gw_rc (q := (RX2, TX2, 11)) hK hG_8 hvc_7.1 rfl) hc1 hs1 hMC_11 hMS_12 (Nat.le_refl _) (Nat.le_refl _) (g_X.st E) hz hX hK hG_8 hS_9 rfl hl_10.1 rfl (Nat.le_of_ble_eq_true rfl) dX2_settles_36 (fun x1 G2 H locs ce sl hvc_13 hG_14 hS_15 hMC_16 hMS_17 => ?_)
        clear hvc_7 hG_8 hS_9 hMC_11 hMS_12
        exact g_iret hx hb hr hlocks (by show _ ≤ mc0; omega) (by show _ ≤ ms0; omega) hG_14 hS_15 rfl hvc_13 dX2_settles_39
      · replace hvc_7 := hvc_7.2 h9
        refine lv_iconst (v := nI 4) hx hb dX2_settles_7 (by decide) ?_
        refine lv_iload_n hx hb dX2_settles_8 rfl (lv_at hl_10 1 rfl) ?_
        refine lv_iadd hx hb dX2_settles_9 ?_
        refine lv_iconst (v := nI 5) hx hb dX2_settles_10 (by decide) ?_
        refine lv_irem hx hb dX2_settles_11 (by decide) ?_
        refine lv_istore_n (lv' := [(2, .int (((nI 4) + y1) - ((nI 4) + y1) / (nI 5) * (nI 5))), (0, .ref y0), (1, .int y1)]) hx hb dX2_settles_12 rfl hl_10 (by decide) rfl (fun ls hl_18 => ?_)
        clear hl_10
        refine lv_aload_n hx hb dX2_settles_13 rfl (lv_at hl_18 1 rfl) ?_
        refine lv_iload_n hx hb dX2_settles_14 rfl (lv_at hl_18 0 rfl) ?_
        refine gw_cVIP (As := [.int (((nI 4) + y1) - ((nI 4) + y1) / (nI 5) * (nI 5))]) (rest := [])  ⟨hx, hb, hml, hown, hts⟩ (met_X2_isUp l E G y0 (((nI 4) + y1) - ((nI 4) + y1) / (nI 5) * (nI 5)) _ hvc_7.2) (cwV 1 hts (lw_V q832 q833 q834 q97 q835) rfl rfl rfl (by decide +kernel) ⟨Nat.le_of_ble_eq_true rfl, Nat.le_of_ble_eq_true rfl⟩) (gw_rc (q := (RX2, TX2, 11)) hK hG_8 hvc_7.1 rfl) (by show _ ≤ mc0; omega) (by show _ ≤ ms0; omega) (g_X.st E) hz hX hK hG_8 hS_9 rfl hl_18.1 rfl (Nat.le_of_ble_eq_true rfl) dX2_settles_15 (fun x5 H locs hvc_19 hG_20 hS_21 => ?_)
        clear hvc_7 hG_8 hS_9
        have jn27 : ∀ (y0 : Nat) (y1 : Int32) (G : g_G) (mc : Nat) (ms : Nat) (H : Heap) (locs : List Loc) (ls : Array Slot) (ce sl : Nat), wp_X2_settles_27 E post (wp_X2_settles_2 E post n2) y0 y1 G mc ms → g_H E G H → va_S (g_A E) s.heap H locs → lv_has ls 3 [(0, .ref y0), (1, .int y1)] → ce + mc ≤ mc0 → sl + ms ≤ ms0 → W p l e ({ frames := 14, cells := mc0, slots := ms0, locals := 349 } : Room) s m ([.ref o] : List Value).toArray below meth c H locs ce sl (MQ below (va_Qi (post) (g_Bk E) (g_A E)) ([.ref o] : List Value).toArray s mc0 ms0 (g_A E)) (F0 m 27 ls []) := by
          clear hvc_19 hG_20 hS_21 hl_18 hMC_11 hMS_12
          intro y0 y1 G mc ms H locs ls ce sl hvc_22 hG_23 hS_24 hl_25 hMC_26 hMS_27
          refine lv_iinc (k := 1) (v := y1 + (nI 1)) (lv' := [(1, .int (y1 + (nI 1))), (0, .ref y0)]) hx hb dX2_settles_27 hl_25 rfl (congrArg (y1 + ·) (by decide : Int32.ofInt (1) = nI 1)) (by decide) rfl (fun ls hl_28 => ?_)
          clear hl_25
          refine lv_goto (tgt := 2) hx hb dX2_settles_30 (by decide) ?_
          exact ih2 y0 (y1 + (nI 1)) G mc ms _ _ _ _ _ hvc_22 hG_23 hS_24 (lv_sub hl_28 [1, 0] rfl) hMC_26 hMS_27
        refine lv_if_ne (tgt := 27) hx hb dX2_settles_18 (by decide) (fun h9 => ?_) (fun h9 => ?_)
        · replace hvc_19 := hvc_19.1 h9
          exact jn27 y0 y1 G mc ms _ _ _ _ _ hvc_19 hG_20 hS_21 (lv_sub hl_18 [1, 2] rfl) hMC_11 hMS_12
        · replace hvc_19 := hvc_19.2 h9
          refine lv_aload_n hx hb dX2_settles_21 rfl (lv_at hl_18 1 rfl) ?_
          refine lv_iload_n hx hb dX2_settles_22 rfl (lv_at hl_18 0 rfl) ?_
          obtain ⟨c9, t10, hc1, hs1, hvc_19⟩ := hvc_19
          refine gw_cVIA (As := [.int (((nI 4) + y1) - ((nI 4) + y1) / (nI 5) * (nI 5))]) (rest := [])  ⟨hx, hb, hml, hown, hts⟩ (met_X2_recovers l E G y0 (((nI 4) + y1) - ((nI 4) + y1) / (nI 5) * (nI 5)) c9 t10 _ hvc_19.2) (cwV 1 hts (lw_V q1274 q1275 q1276 q97 q1277) rfl rfl rfl (by decide +kernel) ⟨Nat.le_of_ble_eq_true rfl, Nat.le_of_ble_eq_true rfl⟩) (gw_rc (q := (RX2, TX2, 11)) hK hG_20 hvc_19.1 rfl) hc1 hs1 hMC_11 hMS_12 (Nat.le_refl _) (Nat.le_refl _) (g_X.st E) hz hX hK hG_20 hS_21 rfl hl_18.1 rfl (Nat.le_of_ble_eq_true rfl) dX2_settles_23 (fun x7 G8 H locs ce sl hvc_29 hG_30 hS_31 hMC_32 hMS_33 => ?_)
          clear hvc_19 hG_20 hS_21 hMC_11 hMS_12
          refine lv_pop hx hb dX2_settles_26 rfl ?_
          exact jn27 y0 y1 G8 (mc - c9) (ms - t10) _ _ _ _ _ hvc_29 hG_30 hS_31 (lv_sub hl_18 [1, 2] rfl) hMC_32 hMS_33
  refine lv_istore_n (lv' := [(1, .int (nI 0)), (0, .ref o)]) hx hb dX2_settles_1 rfl hl (by decide) rfl (fun ls hl_34 => ?_)
  clear hl
  obtain ⟨nf2, hvc⟩ := hvc
  exact lp2 nf2 o (nI 0) G mc0 ms0 _ _ _ _ _ hvc hG hS (lv_sub hl_34 [1, 0] rfl) hMC hMS
set_option maxHeartbeats 4000000 in
set_option maxRecDepth 100000 in
theorem met_X2_sizes (l : Launch) (E : g_E) (G : g_G) (o : Nat) (mc0 ms0 : Nat) (post : Int32 → g_G → Prop) (hvc : wp_X2_sizes E G o mc0 ms0 post) : g_MI E l yX2_sizes (ws_ yX2_sizes cX2_sizes 4 (Option.some Jvm.ClassFile.FieldType.int)) ({ frames := 3, cells := mc0, slots := ms0, locals := 53 } : Room) (g_X E) [.ref o] G (post) := by
  refine g_enter (by decide +kernel) (Nat.le_of_ble_eq_true rfl) ?_
  intro p e s m below meth c ls hx hb hr hts hown hlocks hml hin hz hX hK hG hS hl
  have hl : lv_has ls 4 [(0, .ref o)] := hl
  have hown : s.vm.findClass RX2 = some m.cls := hown
  have hMC : 0 + mc0 ≤ mc0 := Nat.le_of_eq (Nat.zero_add _)
  have hMS : 0 + ms0 ≤ ms0 := Nat.le_of_eq (Nat.zero_add _)
  unfold wp_X2_sizes at hvc
  refine lv_iconst (v := nI 0) hx hb dX2_sizes_0 (by decide) ?_
  refine lv_istore_n (lv' := [(1, .int (nI 0)), (0, .ref o)]) hx hb dX2_sizes_1 rfl hl (by decide) rfl (fun ls hl_1 => ?_)
  clear hl
  refine lv_aload_n hx hb dX2_sizes_2 rfl (lv_at hl_1 1 rfl) ?_
  refine gw_gr (C := RX2) (T := TX2) (N := 11) (own := RX2) hx hb hts in_X2 hown hK hG hvc rfl (by decide) (hts _ q301) (fun _ h9 => h9) dX2_sizes_3 (fun x1 hvc_2 => ?_)
  clear hvc
  obtain ⟨c4, t5, hc1, hs1, hvc_2⟩ := hvc_2
  refine gw_cFQA (As := []) (rest := []) (hK.1 9 _ rfl).2  ⟨hx, hb, hml, hown, hts⟩ (met_J7_iterator l E G x1 c4 t5 _ hvc_2.2) (va_cwF 0 hts (lw_F q688 q691 q693 q99 q695) rfl rfl rfl (hX.fw (List.mem_of_getElem? (i := 2) rfl)) (by decide +kernel) ⟨Nat.le_of_ble_eq_true rfl, Nat.le_of_ble_eq_true rfl⟩) (gw_rc (q := (RJ7, TJ7, 3)) hK hG hvc_2.1 rfl) hc1 hs1 hMC hMS (Nat.le_refl _) (Nat.le_refl _) (g_St0 E) hz trivial hK hG hS rfl hl_1.1 rfl (Nat.le_of_ble_eq_true rfl) dX2_sizes_6 (fun x2 G3 H locs ce sl hvc_3 hG_4 hS_5 hMC_6 hMS_7 => ?_)
  clear hvc_2 hG hS hMC hMS
  have lp12 : ∀ (n12 : Nat) (y1 : Int32) (y2 : Option Nat) (G : g_G) (mc : Nat) (ms : Nat) (H : Heap) (locs : List Loc) (ls : Array Slot) (ce sl : Nat), wp_X2_sizes_12 E post n12 y1 y2 G mc ms → g_H E G H → va_S (g_A E) s.heap H locs → lv_has ls 4 [(1, .int y1), (2, va_rf y2)] → ce + mc ≤ mc0 → sl + ms ≤ ms0 → W p l e ({ frames := 3, cells := mc0, slots := ms0, locals := 53 } : Room) s m ([.ref o] : List Value).toArray below meth c H locs ce sl (MQ below (va_Qi (post) (g_Bk E) (g_A E)) ([.ref o] : List Value).toArray s mc0 ms0 (g_A E)) (F0 m 12 ls []) := by
    clear hvc_3 hG_4 hS_5 hl_1 hMC_6 hMS_7
    intro n12
    induction n12 with
    | zero =>
      intro y1 y2 G mc ms H locs ls ce sl hvc_8 hG_9 hS_10 hl_11 hMC_12 hMS_13
      exact False.elim hvc_8
    | succ n12 ih12 =>
      intro y1 y2 G mc ms H locs ls ce sl hvc_14 hG_15 hS_16 hl_17 hMC_18 hMS_19
      refine gq_aload_n hx hb dX2_sizes_12 rfl (lv_at hl_17 1 rfl) ?_
      obtain ⟨z6, rfl, hvc_14⟩ := hvc_14
      refine gw_cFIP (As := []) (rest := []) (hK.1 10 _ rfl).2  ⟨hx, hb, hml, hown, hts⟩ (met_J21_hasNext l E G z6 _ hvc_14.2) (va_cwF 0 hts (lw_F q716 q720 q722 q116 q724) rfl rfl rfl (hX.fw (List.mem_of_getElem? (i := 8) rfl)) (by decide +kernel) ⟨Nat.le_of_ble_eq_true rfl, Nat.le_of_ble_eq_true rfl⟩) (gw_rc (q := (RJ21, TJ21, 4)) hK hG_15 hvc_14.1 rfl) (by show _ ≤ mc0; omega) (by show _ ≤ ms0; omega) (g_X.st E) hz hX hK hG_15 hS_16 rfl hl_17.1 rfl (Nat.le_of_ble_eq_true rfl) dX2_sizes_13 (fun x7 H locs hvc_20 hG_21 hS_22 => ?_)
      clear hvc_14 hG_15 hS_16
      refine lv_if_eq (tgt := 41) hx hb dX2_sizes_18 (by decide) (fun h9 => ?_) (fun h9 => ?_)
      · replace hvc_20 := hvc_20.1 h9
        refine lv_iload_n hx hb dX2_sizes_41 rfl (lv_at hl_17 0 rfl) ?_
        exact g_iret hx hb hr hlocks (by show _ ≤ mc0; omega) (by show _ ≤ ms0; omega) hG_21 hS_22 rfl hvc_20 dX2_sizes_42
      · replace hvc_20 := hvc_20.2 h9
        refine lv_aload_n hx hb dX2_sizes_21 rfl (lv_at hl_17 1 rfl) ?_
        obtain ⟨c11, t12, hc1, hs1, hvc_20⟩ := hvc_20
        refine gw_cFQA (As := []) (rest := []) (hK.1 10 _ rfl).2  ⟨hx, hb, hml, hown, hts⟩ (met_J21_next l E G z6 c11 t12 _ hvc_20.2) (va_cwF 0 hts (lw_F q726 q729 q731 q116 q733) rfl rfl rfl (hX.fw (List.mem_of_getElem? (i := 9) rfl)) (by decide +kernel) ⟨Nat.le_of_ble_eq_true rfl, Nat.le_of_ble_eq_true rfl⟩) (gw_rc (q := (RJ21, TJ21, 4)) hK hG_21 hvc_20.1 rfl) hc1 hs1 hMC_18 hMS_19 (Nat.le_refl _) (Nat.le_refl _) (g_X.st E) hz hX hK hG_21 hS_22 rfl hl_17.1 rfl (Nat.le_of_ble_eq_true rfl) dX2_sizes_22 (fun x9 G10 H locs ce sl hvc_23 hG_24 hS_25 hMC_26 hMS_27 => ?_)
        clear hvc_20 hG_21 hS_22 hMC_18 hMS_19
        refine gw_castS (v := x9) (ci := 3) hx hb hown (hts _ q866) hK hG_24 rfl rfl hvc_23 dX2_sizes_27 (fun z13 hy9 hvc_28 => ?_)
        clear hvc_23
        subst hy9
        refine lv_astore_n (lv' := [(3, .ref z13), (1, .int y1), (2, .ref z6)]) hx hb dX2_sizes_30 rfl hl_17 (by decide) rfl (fun ls hl_29 => ?_)
        clear hl_17
        refine lv_iload_n hx hb dX2_sizes_31 rfl (lv_at hl_29 1 rfl) ?_
        refine lv_aload_n hx hb dX2_sizes_32 rfl (lv_at hl_29 0 rfl) ?_
        refine gw_giN (C := RX4) (T := TX4) (N := 3) (own := RX2) hx hb hts in_X4 hown hK hG_24 hvc_28 rfl (by decide) (hX.1 _ q1178 rfl) (fun _ h9 => h9) dX2_sizes_33 (fun x14 hvc_30 => ?_)
        clear hvc_28
        refine lv_iadd hx hb dX2_sizes_36 ?_
        refine lv_istore_n (lv' := [(1, .int (y1 + x14)), (3, .ref z13), (2, .ref z6)]) hx hb dX2_sizes_37 rfl hl_29 (by decide) rfl (fun ls hl_31 => ?_)
        clear hl_29
        refine lv_goto (tgt := 12) hx hb dX2_sizes_38 (by decide) ?_
        exact ih12 (y1 + x14) (some z6) G10 (mc - c11) (ms - t12) _ _ _ _ _ hvc_30 hG_24 hS_25 (lv_sub hl_31 [0, 2] rfl) hMC_26 hMS_27
  refine gq_astore_n (lv' := [(2, va_rf x2), (1, .int (nI 0)), (0, .ref o)]) hx hb dX2_sizes_11 rfl hl_1 (by decide) rfl (fun ls hl_32 => ?_)
  clear hl_1
  obtain ⟨nf12, hvc_3⟩ := hvc_3
  exact lp12 nf12 (nI 0) x2 G3 (mc0 - c4) (ms0 - t5) _ _ _ _ _ hvc_3 hG_4 hS_5 (lv_sub hl_32 [1, 0] rfl) hMC_6 hMS_7
set_option maxHeartbeats 4000000 in
set_option maxRecDepth 100000 in
theorem met_X2_outcomeByStores (l : Launch) (E : g_E) (G : g_G) (o : Nat) (p1 : Int32) (post : Int32 → Prop) (hvc : wp_X2_outcomeByStores E G o p1 post) : g_MI E l yX2_outcomeByStores (ws_ yX2_outcomeByStores cX2_outcomeByStores 5 (Option.some Jvm.ClassFile.FieldType.int)) ({ frames := 1, cells := 0, slots := 0, locals := 22 } : Room) (fun _ => True) [.ref o, .int p1] G (fun v G9 => G9 = G ∧ post v) := by
  refine g_enter (by decide +kernel) (Nat.le_of_ble_eq_true rfl) ?_
  intro p e s m below meth c ls hx hb hr hts hown hlocks hml hin hz hX hK hG hS hl
  have hl : lv_has ls 5 [(0, .ref o), (1, .int p1)] := hl
  have hown : s.vm.findClass RX2 = some m.cls := hown
  unfold wp_X2_outcomeByStores at hvc
  refine lv_iconst (v := nI 0) hx hb dX2_outcomeByStores_0 (by decide) ?_
  refine lv_istore_n (lv' := [(2, .int (nI 0)), (0, .ref o), (1, .int p1)]) hx hb dX2_outcomeByStores_1 rfl hl (by decide) rfl (fun ls hl_1 => ?_)
  clear hl
  refine lv_iconst (v := nI 0) hx hb dX2_outcomeByStores_2 (by decide) ?_
  have lp4 : ∀ (n4 : Nat) (y0 : Nat) (y1 : Int32) (y2 : Int32) (y3 : Int32) (H : Heap) (locs : List Loc) (ls : Array Slot), wp_X2_outcomeByStores_4 E G post n4 y0 y1 y2 y3 → g_H E G H → va_S (g_A E) s.heap H locs → lv_has ls 5 [(0, .ref y0), (1, .int y1), (2, .int y2), (3, .int y3)] → W p l e ({ frames := 1, cells := 0, slots := 0, locals := 22 } : Room) s m ([.ref o, .int p1] : List Value).toArray below meth c H locs 0 0 (MQ below (va_Qi (fun v G9 => G9 = G ∧ post v) (g_Bk E) (g_A E)) ([.ref o, .int p1] : List Value).toArray s 0 0 (g_A E)) (F0 m 4 ls []) := by
    clear hvc hG hS hl_1
    intro n4
    induction n4 with
    | zero =>
      intro y0 y1 y2 y3 H locs ls hvc_2 hG_3 hS_4 hl_5
      exact False.elim hvc_2
    | succ n4 ih4 =>
      intro y0 y1 y2 y3 H locs ls hvc_6 hG_7 hS_8 hl_9
      refine lv_iload_n hx hb dX2_outcomeByStores_4 rfl (lv_at hl_9 3 rfl) ?_
      refine lv_iconst (v := nI 4) hx hb dX2_outcomeByStores_5 (by decide) ?_
      refine lv_icmp_ge (tgt := 47) hx hb dX2_outcomeByStores_6 (by decide) (fun h9 => ?_) (fun h9 => ?_)
      · replace hvc_6 := hvc_6.1 h9
        refine lv_iload_n hx hb dX2_outcomeByStores_47 rfl (lv_at hl_9 2 rfl) ?_
        exact g_iret hx hb hr hlocks (Nat.zero_le _) (Nat.zero_le _) hG_7 hS_8 rfl ⟨rfl, hvc_6⟩ dX2_outcomeByStores_48
      · replace hvc_6 := hvc_6.2 h9
        refine lv_aload_n hx hb dX2_outcomeByStores_9 rfl (lv_at hl_9 0 rfl) ?_
        refine lv_iload_n hx hb dX2_outcomeByStores_10 rfl (lv_at hl_9 3 rfl) ?_
        refine lv_iload_n hx hb dX2_outcomeByStores_11 rfl (lv_at hl_9 1 rfl) ?_
        refine gw_cVIP (As := [.int y3, .int y1]) (rest := [])  ⟨hx, hb, hml, hown, hts⟩ (met_X2_state l E G y0 y3 y1 _ hvc_6.2) (cwV 2 hts (lw_V q849 q850 q851 q97 q852) rfl rfl rfl (by decide +kernel) ⟨Nat.le_of_ble_eq_true rfl, Nat.le_of_ble_eq_true rfl⟩) (gw_rc (q := (RX2, TX2, 11)) hK hG_7 hvc_6.1 rfl) (Nat.zero_le _) (Nat.zero_le _) (g_St0 E) hz trivial hK hG_7 hS_8 rfl hl_9.1 rfl (Nat.le_of_ble_eq_true rfl) dX2_outcomeByStores_12 (fun x1 H locs hvc_10 hG_11 hS_12 => ?_)
        clear hvc_6 hG_7 hS_8
        refine lv_istore (lv' := [(4, .int x1), (0, .ref y0), (1, .int y1), (2, .int y2), (3, .int y3)]) hx hb dX2_outcomeByStores_15 hl_9 (by decide) rfl (fun ls hl_13 => ?_)
        clear hl_9
        refine lv_iload_n hx hb dX2_outcomeByStores_17 rfl (lv_at hl_13 3 rfl) ?_
        refine lv_iload hx hb dX2_outcomeByStores_18 (lv_at hl_13 0 rfl) ?_
        refine lv_iconst (v := nI 2) hx hb dX2_outcomeByStores_20 (by decide) ?_
        have jn39 : ∀ (y0 : Nat) (y1 : Int32) (y3 : Int32) (s0 : Int32) (s1 : Int32) (H : Heap) (locs : List Loc) (ls : Array Slot), wp_X2_outcomeByStores_39 E G post (wp_X2_outcomeByStores_4 E G post n4) y0 y1 y3 s0 s1 → g_H E G H → va_S (g_A E) s.heap H locs → lv_has ls 5 [(0, .ref y0), (1, .int y1), (3, .int y3)] → W p l e ({ frames := 1, cells := 0, slots := 0, locals := 22 } : Room) s m ([.ref o, .int p1] : List Value).toArray below meth c H locs 0 0 (MQ below (va_Qi (fun v G9 => G9 = G ∧ post v) (g_Bk E) (g_A E)) ([.ref o, .int p1] : List Value).toArray s 0 0 (g_A E)) (F0 m 39 ls [.int s0, .int s1]) := by
          clear hvc_10 hG_11 hS_12 hl_13
          intro y0 y1 y3 s0 s1 H locs ls hvc_14 hG_15 hS_16 hl_17
          refine lv_ior hx hb dX2_outcomeByStores_39 ?_
          refine lv_istore_n (lv' := [(2, .int (s1 ||| s0)), (0, .ref y0), (1, .int y1), (3, .int y3)]) hx hb dX2_outcomeByStores_40 rfl hl_17 (by decide) rfl (fun ls hl_18 => ?_)
          clear hl_17
          refine lv_iinc (k := 3) (v := y3 + (nI 1)) (lv' := [(3, .int (y3 + (nI 1))), (2, .int (s1 ||| s0)), (0, .ref y0), (1, .int y1)]) hx hb dX2_outcomeByStores_41 hl_18 rfl (congrArg (y3 + ·) (by decide : Int32.ofInt (1) = nI 1)) (by decide) rfl (fun ls hl_19 => ?_)
          clear hl_18
          refine lv_goto (tgt := 4) hx hb dX2_outcomeByStores_44 (by decide) ?_
          exact ih4 y0 y1 (s1 ||| s0) (y3 + (nI 1)) _ _ _ hvc_14 hG_15 hS_16 (lv_sub hl_19 [2, 3, 1, 0] rfl)
        refine lv_icmp_ne (tgt := 28) hx hb dX2_outcomeByStores_21 (by decide) (fun h9 => ?_) (fun h9 => ?_)
        · replace hvc_10 := hvc_10.1 h9
          refine lv_iload hx hb dX2_outcomeByStores_28 (lv_at hl_13 0 rfl) ?_
          refine lv_iconst (v := nI 3) hx hb dX2_outcomeByStores_30 (by decide) ?_
          refine lv_icmp_ne (tgt := 38) hx hb dX2_outcomeByStores_31 (by decide) (fun h9 => ?_) (fun h9 => ?_)
          · replace hvc_10 := hvc_10.1 h9
            refine lv_iconst (v := nI 0) hx hb dX2_outcomeByStores_38 (by decide) ?_
            exact jn39 y0 y1 y3 (nI 0) y2 _ _ _ hvc_10 hG_11 hS_12 (lv_sub hl_13 [1, 2, 4] rfl)
          · replace hvc_10 := hvc_10.2 h9
            refine lv_iconst (v := nI 2) hx hb dX2_outcomeByStores_34 (by decide) ?_
            refine lv_goto (tgt := 39) hx hb dX2_outcomeByStores_35 (by decide) ?_
            exact jn39 y0 y1 y3 (nI 2) y2 _ _ _ hvc_10 hG_11 hS_12 (lv_sub hl_13 [1, 2, 4] rfl)
        · replace hvc_10 := hvc_10.2 h9
          refine lv_iconst (v := nI 1) hx hb dX2_outcomeByStores_24 (by decide) ?_
          refine lv_goto (tgt := 39) hx hb dX2_outcomeByStores_25 (by decide) ?_
          exact jn39 y0 y1 y3 (nI 1) y2 _ _ _ hvc_10 hG_11 hS_12 (lv_sub hl_13 [1, 2, 4] rfl)
  refine lv_istore_n (lv' := [(3, .int (nI 0)), (2, .int (nI 0)), (0, .ref o), (1, .int p1)]) hx hb dX2_outcomeByStores_3 rfl hl_1 (by decide) rfl (fun ls hl_20 => ?_)
  clear hl_1
  obtain ⟨nf4, hvc⟩ := hvc
  exact lp4 nf4 o p1 (nI 0) (nI 0) _ _ _ hvc hG hS (lv_sub hl_20 [2, 3, 1, 0] rfl)
set_option maxHeartbeats 4000000 in
set_option maxRecDepth 100000 in
theorem met_X2_stateByLog (l : Launch) (E : g_E) (G : g_G) (o : Nat) (p1 : Int32) (p2 : Int32) (mc0 ms0 : Nat) (post : Int32 → g_G → Prop) (hvc : wp_X2_stateByLog E G o p1 p2 mc0 ms0 post) : g_MI E l yX2_stateByLog (ws_ yX2_stateByLog cX2_stateByLog 4 (Option.some Jvm.ClassFile.FieldType.int)) ({ frames := 4, cells := mc0, slots := ms0, locals := 90 } : Room) (g_X E) [.ref o, .int p1, .int p2] G (post) := by
  refine g_enter (by decide +kernel) (Nat.le_of_ble_eq_true rfl) ?_
  intro p e s m below meth c ls hx hb hr hts hown hlocks hml hin hz hX hK hG hS hl
  have hl : lv_has ls 4 [(0, .ref o), (1, .int p1), (2, .int p2)] := hl
  have hown : s.vm.findClass RX2 = some m.cls := hown
  have hMC : 0 + mc0 ≤ mc0 := Nat.le_of_eq (Nat.zero_add _)
  have hMS : 0 + ms0 ≤ ms0 := Nat.le_of_eq (Nat.zero_add _)
  unfold wp_X2_stateByLog at hvc
  refine lv_aload_n hx hb dX2_stateByLog_0 rfl (lv_at hl 0 rfl) ?_
  refine lv_iload_n hx hb dX2_stateByLog_1 rfl (lv_at hl 1 rfl) ?_
  refine lv_iload_n hx hb dX2_stateByLog_2 rfl (lv_at hl 2 rfl) ?_
  refine lv_iconst (v := nI 4) hx hb dX2_stateByLog_3 (by decide) ?_
  obtain ⟨c3, t4, hc1, hs1, hvc⟩ := hvc
  refine gw_cVIA (As := [.int p1, .int p2, .int (nI 4)]) (rest := [])  ⟨hx, hb, hml, hown, hts⟩ (met_X2_lastKind l E G o p1 p2 (nI 4) c3 t4 _ hvc.2) (cwV 3 hts (lw_V q960 q961 q962 q97 q963) rfl rfl rfl (by decide +kernel) ⟨Nat.le_of_ble_eq_true rfl, Nat.le_of_ble_eq_true rfl⟩) (gw_rc (q := (RX2, TX2, 11)) hK hG hvc.1 rfl) hc1 hs1 hMC hMS (Nat.le_refl _) (Nat.le_refl _) (g_X.st E) hz hX hK hG hS rfl hl.1 rfl (Nat.le_of_ble_eq_true rfl) dX2_stateByLog_4 (fun x1 G2 H locs ce sl hvc_1 hG_2 hS_3 hMC_4 hMS_5 => ?_)
  clear hvc hG hS hMC hMS
  refine lv_istore_n (lv' := [(3, .int x1), (0, .ref o), (1, .int p1), (2, .int p2)]) hx hb dX2_stateByLog_7 rfl hl (by decide) rfl (fun ls hl_6 => ?_)
  clear hl
  refine lv_iload_n hx hb dX2_stateByLog_8 rfl (lv_at hl_6 0 rfl) ?_
  refine lv_iconst (v := -nI 1) hx hb dX2_stateByLog_9 (by decide) ?_
  refine lv_icmp_ne (tgt := 17) hx hb dX2_stateByLog_10 (by decide) (fun h9 => ?_) (fun h9 => ?_)
  · replace hvc_1 := hvc_1.1 h9
    refine lv_iload_n hx hb dX2_stateByLog_17 rfl (lv_at hl_6 0 rfl) ?_
    refine lv_iconst (v := nI 4) hx hb dX2_stateByLog_18 (by decide) ?_
    refine lv_icmp_ne (tgt := 26) hx hb dX2_stateByLog_19 (by decide) (fun h9 => ?_) (fun h9 => ?_)
    · replace hvc_1 := hvc_1.1 h9
      refine lv_iload_n hx hb dX2_stateByLog_26 rfl (lv_at hl_6 0 rfl) ?_
      refine lv_iconst (v := nI 1) hx hb dX2_stateByLog_27 (by decide) ?_
      refine lv_icmp_ne (tgt := 35) hx hb dX2_stateByLog_28 (by decide) (fun h9 => ?_) (fun h9 => ?_)
      · replace hvc_1 := hvc_1.1 h9
        refine lv_iconst (v := nI 3) hx hb dX2_stateByLog_35 (by decide) ?_
        exact g_iret hx hb hr hlocks (by show _ ≤ mc0; omega) (by show _ ≤ ms0; omega) hG_2 hS_3 rfl hvc_1 dX2_stateByLog_36
      · replace hvc_1 := hvc_1.2 h9
        refine lv_iconst (v := nI 2) hx hb dX2_stateByLog_31 (by decide) ?_
        refine lv_goto (tgt := 36) hx hb dX2_stateByLog_32 (by decide) ?_
        exact g_iret hx hb hr hlocks (by show _ ≤ mc0; omega) (by show _ ≤ ms0; omega) hG_2 hS_3 rfl hvc_1 dX2_stateByLog_36
    · replace hvc_1 := hvc_1.2 h9
      refine lv_iconst (v := nI 1) hx hb dX2_stateByLog_22 (by decide) ?_
      refine lv_goto (tgt := 36) hx hb dX2_stateByLog_23 (by decide) ?_
      exact g_iret hx hb hr hlocks (by show _ ≤ mc0; omega) (by show _ ≤ ms0; omega) hG_2 hS_3 rfl hvc_1 dX2_stateByLog_36
  · replace hvc_1 := hvc_1.2 h9
    refine lv_iconst (v := nI 0) hx hb dX2_stateByLog_13 (by decide) ?_
    refine lv_goto (tgt := 36) hx hb dX2_stateByLog_14 (by decide) ?_
    exact g_iret hx hb hr hlocks (by show _ ≤ mc0; omega) (by show _ ≤ ms0; omega) hG_2 hS_3 rfl hvc_1 dX2_stateByLog_36
set_option maxHeartbeats 4000000 in
set_option maxRecDepth 100000 in
theorem met_X2_amountByLog (l : Launch) (E : g_E) (G : g_G) (o : Nat) (p1 : Int32) (mc0 ms0 : Nat) (post : Int32 → g_G → Prop) (hvc : wp_X2_amountByLog E G o p1 mc0 ms0 post) : g_MI E l yX2_amountByLog (ws_ yX2_amountByLog cX2_amountByLog 5 (Option.some Jvm.ClassFile.FieldType.int)) ({ frames := 3, cells := mc0, slots := ms0, locals := 64 } : Room) (g_X E) [.ref o, .int p1] G (post) := by
  refine g_enter (by decide +kernel) (Nat.le_of_ble_eq_true rfl) ?_
  intro p e s m below meth c ls hx hb hr hts hown hlocks hml hin hz hX hK hG hS hl
  have hl : lv_has ls 5 [(0, .ref o), (1, .int p1)] := hl
  have hown : s.vm.findClass RX2 = some m.cls := hown
  have hMC : 0 + mc0 ≤ mc0 := Nat.le_of_eq (Nat.zero_add _)
  have hMS : 0 + ms0 ≤ ms0 := Nat.le_of_eq (Nat.zero_add _)
  unfold wp_X2_amountByLog at hvc
  refine lv_bipush (v := nI 100) hx hb dX2_amountByLog_0 (by decide) ?_
  refine lv_istore_n (lv' := [(2, .int (nI 100)), (0, .ref o), (1, .int p1)]) hx hb dX2_amountByLog_2 rfl hl (by decide) rfl (fun ls hl_1 => ?_)
  clear hl
  refine lv_aload_n hx hb dX2_amountByLog_3 rfl (lv_at hl_1 1 rfl) ?_
  refine gw_gr (C := RX2) (T := TX2) (N := 11) (own := RX2) hx hb hts in_X2 hown hK hG hvc rfl (by decide) (hts _ q303) (fun _ h9 => h9) dX2_amountByLog_4 (fun x1 hvc_2 => ?_)
  clear hvc
  refine lv_iload_n hx hb dX2_amountByLog_7 rfl (lv_at hl_1 2 rfl) ?_
  refine gw_cFQP (As := [.int p1]) (rest := []) (hK.1 9 _ rfl).2  ⟨hx, hb, hml, hown, hts⟩ (met_J7_get l E G x1 p1 _ hvc_2.2) (va_cwF 1 hts (lw_F q854 q857 q859 q99 q861) rfl rfl rfl (hX.fw (List.mem_of_getElem? (i := 5) rfl)) (by decide +kernel) ⟨Nat.le_of_ble_eq_true rfl, Nat.le_of_ble_eq_true rfl⟩) (gw_rc (q := (RJ7, TJ7, 3)) hK hG hvc_2.1 rfl) (by show _ ≤ mc0; omega) (by show _ ≤ ms0; omega) (g_St0 E) hz trivial hK hG hS rfl hl_1.1 rfl (Nat.le_of_ble_eq_true rfl) dX2_amountByLog_8 (fun x2 H locs hvc_3 hG_4 hS_5 => ?_)
  clear hvc_2 hG hS
  refine gw_castY (v := x2) (ci := 9) hx hb hown (hts _ q738) hK hG_4 rfl (hX.1 _ q227 rfl) hvc_3 dX2_amountByLog_13 (fun z4 hy9 hvc_6 => ?_)
  clear hvc_3
  subst hy9
  obtain ⟨c7, t8, hc1, hs1, hvc_6⟩ := hvc_6
  refine gw_cFQA (As := []) (rest := []) (hK.1 9 _ rfl).2  ⟨hx, hb, hml, hown, hts⟩ (met_J7_iterator l E G z4 c7 t8 _ hvc_6.2) (va_cwF 0 hts (lw_F q688 q691 q693 q99 q695) rfl rfl rfl (hX.fw (List.mem_of_getElem? (i := 2) rfl)) (by decide +kernel) ⟨Nat.le_of_ble_eq_true rfl, Nat.le_of_ble_eq_true rfl⟩) (gw_rc (q := (RJ7, TJ7, 3)) hK hG_4 hvc_6.1 rfl) hc1 hs1 hMC hMS (Nat.le_refl _) (Nat.le_refl _) (g_St0 E) hz trivial hK hG_4 hS_5 rfl hl_1.1 rfl (Nat.le_of_ble_eq_true rfl) dX2_amountByLog_16 (fun x5 G6 H locs ce sl hvc_7 hG_8 hS_9 hMC_10 hMS_11 => ?_)
  clear hvc_6 hG_4 hS_5 hMC hMS
  have lp22 : ∀ (n22 : Nat) (y0 : Nat) (y1 : Int32) (y2 : Int32) (y3 : Option Nat) (G : g_G) (mc : Nat) (ms : Nat) (H : Heap) (locs : List Loc) (ls : Array Slot) (ce sl : Nat), wp_X2_amountByLog_22 E post n22 y0 y1 y2 y3 G mc ms → g_H E G H → va_S (g_A E) s.heap H locs → lv_has ls 5 [(0, .ref y0), (1, .int y1), (2, .int y2), (3, va_rf y3)] → ce + mc ≤ mc0 → sl + ms ≤ ms0 → W p l e ({ frames := 3, cells := mc0, slots := ms0, locals := 64 } : Room) s m ([.ref o, .int p1] : List Value).toArray below meth c H locs ce sl (MQ below (va_Qi (post) (g_Bk E) (g_A E)) ([.ref o, .int p1] : List Value).toArray s mc0 ms0 (g_A E)) (F0 m 22 ls []) := by
    clear hvc_7 hG_8 hS_9 hl_1 hMC_10 hMS_11
    intro n22
    induction n22 with
    | zero =>
      intro y0 y1 y2 y3 G mc ms H locs ls ce sl hvc_12 hG_13 hS_14 hl_15 hMC_16 hMS_17
      exact False.elim hvc_12
    | succ n22 ih22 =>
      intro y0 y1 y2 y3 G mc ms H locs ls ce sl hvc_18 hG_19 hS_20 hl_21 hMC_22 hMS_23
      refine gq_aload_n hx hb dX2_amountByLog_22 rfl (lv_at hl_21 3 rfl) ?_
      obtain ⟨z9, rfl, hvc_18⟩ := hvc_18
      refine gw_cFIP (As := []) (rest := []) (hK.1 10 _ rfl).2  ⟨hx, hb, hml, hown, hts⟩ (met_J21_hasNext l E G z9 _ hvc_18.2) (va_cwF 0 hts (lw_F q716 q720 q722 q116 q724) rfl rfl rfl (hX.fw (List.mem_of_getElem? (i := 8) rfl)) (by decide +kernel) ⟨Nat.le_of_ble_eq_true rfl, Nat.le_of_ble_eq_true rfl⟩) (gw_rc (q := (RJ21, TJ21, 4)) hK hG_19 hvc_18.1 rfl) (by show _ ≤ mc0; omega) (by show _ ≤ ms0; omega) (g_X.st E) hz hX hK hG_19 hS_20 rfl hl_21.1 rfl (Nat.le_of_ble_eq_true rfl) dX2_amountByLog_23 (fun x10 H locs hvc_24 hG_25 hS_26 => ?_)
      clear hvc_18 hG_19 hS_20
      refine lv_if_eq (tgt := 82) hx hb dX2_amountByLog_28 (by decide) (fun h9 => ?_) (fun h9 => ?_)
      · replace hvc_24 := hvc_24.1 h9
        refine lv_iload_n hx hb dX2_amountByLog_82 rfl (lv_at hl_21 2 rfl) ?_
        exact g_iret hx hb hr hlocks (by show _ ≤ mc0; omega) (by show _ ≤ ms0; omega) hG_25 hS_26 rfl hvc_24 dX2_amountByLog_83
      · replace hvc_24 := hvc_24.2 h9
        refine lv_aload_n hx hb dX2_amountByLog_31 rfl (lv_at hl_21 3 rfl) ?_
        obtain ⟨c14, t15, hc1, hs1, hvc_24⟩ := hvc_24
        refine gw_cFQA (As := []) (rest := []) (hK.1 10 _ rfl).2  ⟨hx, hb, hml, hown, hts⟩ (met_J21_next l E G z9 c14 t15 _ hvc_24.2) (va_cwF 0 hts (lw_F q726 q729 q731 q116 q733) rfl rfl rfl (hX.fw (List.mem_of_getElem? (i := 9) rfl)) (by decide +kernel) ⟨Nat.le_of_ble_eq_true rfl, Nat.le_of_ble_eq_true rfl⟩) (gw_rc (q := (RJ21, TJ21, 4)) hK hG_25 hvc_24.1 rfl) hc1 hs1 hMC_22 hMS_23 (Nat.le_refl _) (Nat.le_refl _) (g_X.st E) hz hX hK hG_25 hS_26 rfl hl_21.1 rfl (Nat.le_of_ble_eq_true rfl) dX2_amountByLog_32 (fun x12 G13 H locs ce sl hvc_27 hG_28 hS_29 hMC_30 hMS_31 => ?_)
        clear hvc_24 hG_25 hS_26 hMC_22 hMS_23
        refine gw_castS (v := x12) (ci := 4) hx hb hown (hts _ q895) hK hG_28 rfl rfl hvc_27 dX2_amountByLog_37 (fun z16 hy9 hvc_32 => ?_)
        clear hvc_27
        subst hy9
        refine lv_astore (lv' := [(4, .ref z16), (0, .ref y0), (1, .int y1), (2, .int y2), (3, .ref z9)]) hx hb dX2_amountByLog_40 hl_21 (by decide) rfl (fun ls hl_33 => ?_)
        clear hl_21
        refine lv_iload_n hx hb dX2_amountByLog_42 rfl (lv_at hl_33 3 rfl) ?_
        refine lv_aload hx hb dX2_amountByLog_43 (lv_at hl_33 0 rfl) ?_
        refine gw_giN (C := RX5) (T := TX5) (N := 2) (own := RX2) hx hb hts in_X5 hown hK hG_28 hvc_32 rfl (by decide) (hX.1 _ q902 rfl) (fun _ h9 => h9) dX2_amountByLog_45 (fun x17 hvc_34 => ?_)
        clear hvc_32
        refine lv_iconst (v := nI 1) hx hb dX2_amountByLog_48 (by decide) ?_
        have jn77 : ∀ (y0 : Nat) (y1 : Int32) (y3 : Option Nat) (s0 : Int32) (s1 : Int32) (G : g_G) (mc : Nat) (ms : Nat) (H : Heap) (locs : List Loc) (ls : Array Slot) (ce sl : Nat), wp_X2_amountByLog_77 E post (wp_X2_amountByLog_22 E post n22) y0 y1 y3 s0 s1 G mc ms → g_H E G H → va_S (g_A E) s.heap H locs → lv_has ls 5 [(0, .ref y0), (1, .int y1), (3, va_rf y3)] → ce + mc ≤ mc0 → sl + ms ≤ ms0 → W p l e ({ frames := 3, cells := mc0, slots := ms0, locals := 64 } : Room) s m ([.ref o, .int p1] : List Value).toArray below meth c H locs ce sl (MQ below (va_Qi (post) (g_Bk E) (g_A E)) ([.ref o, .int p1] : List Value).toArray s mc0 ms0 (g_A E)) (F0 m 77 ls [.int s0, .int s1]) := by
          clear hvc_34 hG_28 hS_29 hl_33 hMC_30 hMS_31
          intro y0 y1 y3 s0 s1 G mc ms H locs ls ce sl hvc_35 hG_36 hS_37 hl_38 hMC_39 hMS_40
          refine lv_iadd hx hb dX2_amountByLog_77 ?_
          refine lv_istore_n (lv' := [(2, .int (s1 + s0)), (0, .ref y0), (1, .int y1), (3, va_rf y3)]) hx hb dX2_amountByLog_78 rfl hl_38 (by decide) rfl (fun ls hl_41 => ?_)
          clear hl_38
          refine lv_goto (tgt := 22) hx hb dX2_amountByLog_79 (by decide) ?_
          exact ih22 y0 y1 (s1 + s0) y3 G mc ms _ _ _ _ _ hvc_35 hG_36 hS_37 (lv_sub hl_41 [1, 2, 0, 3] rfl) hMC_39 hMS_40
        refine lv_icmp_ne (tgt := 76) hx hb dX2_amountByLog_49 (by decide) (fun h9 => ?_) (fun h9 => ?_)
        · replace hvc_34 := hvc_34.1 h9
          refine lv_iconst (v := nI 0) hx hb dX2_amountByLog_76 (by decide) ?_
          exact jn77 y0 y1 (some z9) (nI 0) y2 G13 (mc - c14) (ms - t15) _ _ _ _ _ hvc_34 hG_28 hS_29 (lv_sub hl_33 [1, 2, 4] rfl) hMC_30 hMS_31
        · replace hvc_34 := hvc_34.2 h9
          refine lv_aload_n hx hb dX2_amountByLog_52 rfl (lv_at hl_33 1 rfl) ?_
          refine gw_gr (C := RX2) (T := TX2) (N := 11) (own := RX2) hx hb hts in_X2 hown hK hG_28 hvc_34 rfl (by decide) (hts _ q301) (fun _ h9 => h9) dX2_amountByLog_53 (fun x18 hvc_42 => ?_)
          clear hvc_34
          refine lv_aload hx hb dX2_amountByLog_56 (lv_at hl_33 0 rfl) ?_
          refine gw_giN (C := RX5) (T := TX5) (N := 2) (own := RX2) hx hb hts in_X5 hown hK hG_28 hvc_42 rfl (by decide) (hX.1 _ q905 rfl) (fun _ h9 => h9) dX2_amountByLog_58 (fun x19 hvc_43 => ?_)
          clear hvc_42
          refine gw_cFQP (As := [.int x19]) (rest := [.int y2]) (hK.1 9 _ rfl).2  ⟨hx, hb, hml, hown, hts⟩ (met_J7_get l E G13 x18 x19 _ hvc_43.2) (va_cwF 1 hts (lw_F q854 q857 q859 q99 q861) rfl rfl rfl (hX.fw (List.mem_of_getElem? (i := 5) rfl)) (by decide +kernel) ⟨Nat.le_of_ble_eq_true rfl, Nat.le_of_ble_eq_true rfl⟩) (gw_rc (q := (RJ7, TJ7, 3)) hK hG_28 hvc_43.1 rfl) (by show _ ≤ mc0; omega) (by show _ ≤ ms0; omega) (g_St0 E) hz trivial hK hG_28 hS_29 rfl hl_33.1 rfl (Nat.le_of_ble_eq_true rfl) dX2_amountByLog_61 (fun x20 H locs hvc_44 hG_45 hS_46 => ?_)
          clear hvc_43 hG_28 hS_29
          refine gw_castS (v := x20) (ci := 3) hx hb hown (hts _ q866) hK hG_45 rfl rfl hvc_44 dX2_amountByLog_66 (fun z22 hy9 hvc_47 => ?_)
          clear hvc_44
          subst hy9
          refine lv_iload_n hx hb dX2_amountByLog_69 rfl (lv_at hl_33 2 rfl) ?_
          refine gw_cVIP (As := [.int y1]) (rest := [.int y2])  ⟨hx, hb, hml, hown, hts⟩ (met_X4_share l E G13 z22 y1 _ hvc_47.2) (cwV 1 hts (lw_V q867 q868 q869 q117 q870) rfl rfl rfl (by decide +kernel) ⟨Nat.le_of_ble_eq_true rfl, Nat.le_of_ble_eq_true rfl⟩) (gw_rc (q := (RX4, TX4, 3)) hK hG_45 hvc_47.1 rfl) (by show _ ≤ mc0; omega) (by show _ ≤ ms0; omega) (g_X.st E) hz hX hK hG_45 hS_46 rfl hl_33.1 rfl (Nat.le_of_ble_eq_true rfl) dX2_amountByLog_70 (fun x23 H locs hvc_48 hG_49 hS_50 => ?_)
          clear hvc_47 hG_45 hS_46
          refine lv_goto (tgt := 77) hx hb dX2_amountByLog_73 (by decide) ?_
          exact jn77 y0 y1 (some z9) x23 y2 G13 (mc - c14) (ms - t15) _ _ _ _ _ hvc_48 hG_49 hS_50 (lv_sub hl_33 [1, 2, 4] rfl) hMC_30 hMS_31
  refine gq_astore_n (lv' := [(3, va_rf x5), (2, .int (nI 100)), (0, .ref o), (1, .int p1)]) hx hb dX2_amountByLog_21 rfl hl_1 (by decide) rfl (fun ls hl_51 => ?_)
  clear hl_1
  obtain ⟨nf22, hvc_7⟩ := hvc_7
  exact lp22 nf22 o p1 (nI 100) x5 G6 (mc0 - c7) (ms0 - t8) _ _ _ _ _ hvc_7 hG_8 hS_9 (lv_sub hl_51 [2, 3, 1, 0] rfl) hMC_10 hMS_11
set_option maxHeartbeats 4000000 in
set_option maxRecDepth 100000 in
theorem met_X2_inDoubt (l : Launch) (E : g_E) (G : g_G) (o : Nat) (p1 : Int32) (post : Int32 → Prop) (hvc : wp_X2_inDoubt E G o p1 post) : g_MI E l yX2_inDoubt (ws_ yX2_inDoubt cX2_inDoubt 4 (Option.some Jvm.ClassFile.FieldType.int)) ({ frames := 1, cells := 0, slots := 0, locals := 22 } : Room) (g_X E) [.ref o, .int p1] G (fun v G9 => G9 = G ∧ post v) := by
  refine g_enter (by decide +kernel) (Nat.le_of_ble_eq_true rfl) ?_
  intro p e s m below meth c ls hx hb hr hts hown hlocks hml hin hz hX hK hG hS hl
  have hl : lv_has ls 4 [(0, .ref o), (1, .int p1)] := hl
  have hown : s.vm.findClass RX2 = some m.cls := hown
  unfold wp_X2_inDoubt at hvc
  refine lv_iconst (v := nI 0) hx hb dX2_inDoubt_0 (by decide) ?_
  refine lv_istore_n (lv' := [(2, .int (nI 0)), (0, .ref o), (1, .int p1)]) hx hb dX2_inDoubt_1 rfl hl (by decide) rfl (fun ls hl_1 => ?_)
  clear hl
  refine lv_iconst (v := nI 0) hx hb dX2_inDoubt_2 (by decide) ?_
  have lp4 : ∀ (n4 : Nat) (y0 : Nat) (y1 : Int32) (y2 : Int32) (y3 : Int32) (H : Heap) (locs : List Loc) (ls : Array Slot), wp_X2_inDoubt_4 E G post n4 y0 y1 y2 y3 → g_H E G H → va_S (g_A E) s.heap H locs → lv_has ls 4 [(0, .ref y0), (1, .int y1), (2, .int y2), (3, .int y3)] → W p l e ({ frames := 1, cells := 0, slots := 0, locals := 22 } : Room) s m ([.ref o, .int p1] : List Value).toArray below meth c H locs 0 0 (MQ below (va_Qi (fun v G9 => G9 = G ∧ post v) (g_Bk E) (g_A E)) ([.ref o, .int p1] : List Value).toArray s 0 0 (g_A E)) (F0 m 4 ls []) := by
    clear hvc hG hS hl_1
    intro n4
    induction n4 with
    | zero =>
      intro y0 y1 y2 y3 H locs ls hvc_2 hG_3 hS_4 hl_5
      exact False.elim hvc_2
    | succ n4 ih4 =>
      intro y0 y1 y2 y3 H locs ls hvc_6 hG_7 hS_8 hl_9
      refine lv_iload_n hx hb dX2_inDoubt_4 rfl (lv_at hl_9 3 rfl) ?_
      refine lv_aload_n hx hb dX2_inDoubt_5 rfl (lv_at hl_9 0 rfl) ?_
      refine gw_gr (C := RX2) (T := TX2) (N := 11) (own := RX2) hx hb hts in_X2 hown hK hG_7 hvc_6 rfl (by decide) (hts _ q301) (fun _ h9 => h9) dX2_inDoubt_6 (fun x1 hvc_10 => ?_)
      clear hvc_6
      refine gw_cFIP (As := []) (rest := [.int y3]) (hK.1 9 _ rfl).2  ⟨hx, hb, hml, hown, hts⟩ (met_J7_size l E G x1 _ hvc_10.2) (va_cwF 0 hts (lw_F q883 q886 q888 q99 q890) rfl rfl rfl (hX.fw (List.mem_of_getElem? (i := 6) rfl)) (by decide +kernel) ⟨Nat.le_of_ble_eq_true rfl, Nat.le_of_ble_eq_true rfl⟩) (gw_rc (q := (RJ7, TJ7, 3)) hK hG_7 hvc_10.1 rfl) (Nat.zero_le _) (Nat.zero_le _) (g_St0 E) hz trivial hK hG_7 hS_8 rfl hl_9.1 rfl (Nat.le_of_ble_eq_true rfl) dX2_inDoubt_9 (fun x2 H locs hvc_11 hG_12 hS_13 => ?_)
      clear hvc_10 hG_7 hS_8
      refine lv_icmp_ge (tgt := 41) hx hb dX2_inDoubt_14 (by decide) (fun h9 => ?_) (fun h9 => ?_)
      · replace hvc_11 := hvc_11.1 h9
        refine lv_iload_n hx hb dX2_inDoubt_41 rfl (lv_at hl_9 2 rfl) ?_
        exact g_iret hx hb hr hlocks (Nat.zero_le _) (Nat.zero_le _) hG_12 hS_13 rfl ⟨rfl, hvc_11⟩ dX2_inDoubt_42
      · replace hvc_11 := hvc_11.2 h9
        refine lv_iload_n hx hb dX2_inDoubt_17 rfl (lv_at hl_9 2 rfl) ?_
        refine lv_aload_n hx hb dX2_inDoubt_18 rfl (lv_at hl_9 0 rfl) ?_
        refine lv_iload_n hx hb dX2_inDoubt_19 rfl (lv_at hl_9 1 rfl) ?_
        refine lv_iload_n hx hb dX2_inDoubt_20 rfl (lv_at hl_9 3 rfl) ?_
        refine gw_cVIP (As := [.int y1, .int y3]) (rest := [.int y2])  ⟨hx, hb, hml, hown, hts⟩ (met_X2_state l E G y0 y1 y3 _ hvc_11.2) (cwV 2 hts (lw_V q849 q850 q851 q97 q852) rfl rfl rfl (by decide +kernel) ⟨Nat.le_of_ble_eq_true rfl, Nat.le_of_ble_eq_true rfl⟩) (gw_rc (q := (RX2, TX2, 11)) hK hG_12 hvc_11.1 rfl) (Nat.zero_le _) (Nat.zero_le _) (g_St0 E) hz trivial hK hG_12 hS_13 rfl hl_9.1 rfl (Nat.le_of_ble_eq_true rfl) dX2_inDoubt_21 (fun x4 H locs hvc_14 hG_15 hS_16 => ?_)
        clear hvc_11 hG_12 hS_13
        refine lv_iconst (v := nI 1) hx hb dX2_inDoubt_24 (by decide) ?_
        have jn33 : ∀ (y0 : Nat) (y1 : Int32) (y3 : Int32) (s0 : Int32) (s1 : Int32) (H : Heap) (locs : List Loc) (ls : Array Slot), wp_X2_inDoubt_33 E G post (wp_X2_inDoubt_4 E G post n4) y0 y1 y3 s0 s1 → g_H E G H → va_S (g_A E) s.heap H locs → lv_has ls 4 [(0, .ref y0), (1, .int y1), (3, .int y3)] → W p l e ({ frames := 1, cells := 0, slots := 0, locals := 22 } : Room) s m ([.ref o, .int p1] : List Value).toArray below meth c H locs 0 0 (MQ below (va_Qi (fun v G9 => G9 = G ∧ post v) (g_Bk E) (g_A E)) ([.ref o, .int p1] : List Value).toArray s 0 0 (g_A E)) (F0 m 33 ls [.int s0, .int s1]) := by
          clear hvc_14 hG_15 hS_16 hl_9
          intro y0 y1 y3 s0 s1 H locs ls hvc_17 hG_18 hS_19 hl_20
          refine lv_iadd hx hb dX2_inDoubt_33 ?_
          refine lv_istore_n (lv' := [(2, .int (s1 + s0)), (0, .ref y0), (1, .int y1), (3, .int y3)]) hx hb dX2_inDoubt_34 rfl hl_20 (by decide) rfl (fun ls hl_21 => ?_)
          clear hl_20
          refine lv_iinc (k := 3) (v := y3 + (nI 1)) (lv' := [(3, .int (y3 + (nI 1))), (2, .int (s1 + s0)), (0, .ref y0), (1, .int y1)]) hx hb dX2_inDoubt_35 hl_21 rfl (congrArg (y3 + ·) (by decide : Int32.ofInt (1) = nI 1)) (by decide) rfl (fun ls hl_22 => ?_)
          clear hl_21
          refine lv_goto (tgt := 4) hx hb dX2_inDoubt_38 (by decide) ?_
          exact ih4 y0 y1 (s1 + s0) (y3 + (nI 1)) _ _ _ hvc_17 hG_18 hS_19 (lv_sub hl_22 [2, 3, 1, 0] rfl)
        refine lv_icmp_ne (tgt := 32) hx hb dX2_inDoubt_25 (by decide) (fun h9 => ?_) (fun h9 => ?_)
        · replace hvc_14 := hvc_14.1 h9
          refine lv_iconst (v := nI 0) hx hb dX2_inDoubt_32 (by decide) ?_
          exact jn33 y0 y1 y3 (nI 0) y2 _ _ _ hvc_14 hG_15 hS_16 (lv_sub hl_9 [0, 1, 3] rfl)
        · replace hvc_14 := hvc_14.2 h9
          refine lv_iconst (v := nI 1) hx hb dX2_inDoubt_28 (by decide) ?_
          refine lv_goto (tgt := 33) hx hb dX2_inDoubt_29 (by decide) ?_
          exact jn33 y0 y1 y3 (nI 1) y2 _ _ _ hvc_14 hG_15 hS_16 (lv_sub hl_9 [0, 1, 3] rfl)
  refine lv_istore_n (lv' := [(3, .int (nI 0)), (2, .int (nI 0)), (0, .ref o), (1, .int p1)]) hx hb dX2_inDoubt_3 rfl hl_1 (by decide) rfl (fun ls hl_23 => ?_)
  clear hl_1
  obtain ⟨nf4, hvc⟩ := hvc
  exact lp4 nf4 o p1 (nI 0) (nI 0) _ _ _ hvc hG hS (lv_sub hl_23 [2, 3, 1, 0] rfl)
set_option maxHeartbeats 4000000 in
set_option maxRecDepth 100000 in
theorem met_X2_allCanTake (l : Launch) (E : g_E) (G : g_G) (o : Nat) (p1 : Int32) (p2 : Int32) (p3 : Int32) (post : Int32 → Prop) (hvc : wp_X2_allCanTake E G o p1 p2 p3 post) : g_MI E l yX2_allCanTake (ws_ yX2_allCanTake cX2_allCanTake 6 (Option.some Jvm.ClassFile.FieldType.boolean)) ({ frames := 4, cells := 0, slots := 0, locals := 89 } : Room) (g_X E) [.ref o, .int p1, .int p2, .int p3] G (fun v G9 => G9 = G ∧ post v) := by
  refine g_enter (by decide +kernel) (Nat.le_of_ble_eq_true rfl) ?_
  intro p e s m below meth c ls hx hb hr hts hown hlocks hml hin hz hX hK hG hS hl
  have hl : lv_has ls 6 [(0, .ref o), (1, .int p1), (2, .int p2), (3, .int p3)] := hl
  have hown : s.vm.findClass RX2 = some m.cls := hown
  unfold wp_X2_allCanTake at hvc
  refine lv_aload_n hx hb dX2_allCanTake_0 rfl (lv_at hl 0 rfl) ?_
  refine lv_iload_n hx hb dX2_allCanTake_1 rfl (lv_at hl 1 rfl) ?_
  refine lv_iload_n hx hb dX2_allCanTake_2 rfl (lv_at hl 3 rfl) ?_
  refine lv_ineg hx hb dX2_allCanTake_3 ?_
  refine lv_iload_n hx hb dX2_allCanTake_4 rfl (lv_at hl 2 rfl) ?_
  refine gw_cSIP (As := [.int p2]) (rest := [.int (-p3), .int p1, .ref o])  ⟨hx, hb, hml, hown, hts⟩ (met_J18_bitCount l E G p2 _ hvc) (va_cwS 1 hts (lw_S q1410 q872 q113 q873) rfl rfl rfl (by decide +kernel) ⟨Nat.le_of_ble_eq_true rfl, Nat.le_of_ble_eq_true rfl⟩) (Nat.zero_le _) (Nat.zero_le _) (g_St0 E) hz trivial hK hG hS rfl hl.1 rfl (Nat.le_of_ble_eq_true rfl) dX2_allCanTake_5 (fun x1 H locs hvc_1 hG_2 hS_3 => ?_)
  clear hvc hG hS
  refine lv_imul hx hb dX2_allCanTake_8 ?_
  refine gw_cVIP (As := [.int p1, .int ((-p3) * x1)]) (rest := [])  ⟨hx, hb, hml, hown, hts⟩ (met_X2_canTake l E G o p1 ((-p3) * x1) _ hvc_1.2) (cwV 2 hts (lw_V q878 q879 q880 q97 q881) rfl rfl rfl (by decide +kernel) ⟨Nat.le_of_ble_eq_true rfl, Nat.le_of_ble_eq_true rfl⟩) (gw_rc (q := (RX2, TX2, 11)) hK hG_2 hvc_1.1 rfl) (Nat.zero_le _) (Nat.zero_le _) (g_X.st E) hz hX hK hG_2 hS_3 rfl hl.1 rfl (Nat.le_of_ble_eq_true rfl) dX2_allCanTake_9 (fun x3 H locs hvc_4 hG_5 hS_6 => ?_)
  clear hvc_1 hG_2 hS_3
  refine lv_istore (lv' := [(4, .int x3), (0, .ref o), (1, .int p1), (2, .int p2), (3, .int p3)]) hx hb dX2_allCanTake_12 hl (by decide) rfl (fun ls hl_7 => ?_)
  clear hl
  refine lv_iconst (v := nI 0) hx hb dX2_allCanTake_14 (by decide) ?_
  have lp17 : ∀ (n17 : Nat) (y0 : Nat) (y2 : Int32) (y3 : Int32) (y4 : Int32) (y5 : Int32) (H : Heap) (locs : List Loc) (ls : Array Slot), wp_X2_allCanTake_17 E G post n17 y0 y2 y3 y4 y5 → g_H E G H → va_S (g_A E) s.heap H locs → lv_has ls 6 [(0, .ref y0), (2, .int y2), (3, .int y3), (4, .int y4), (5, .int y5)] → W p l e ({ frames := 4, cells := 0, slots := 0, locals := 89 } : Room) s m ([.ref o, .int p1, .int p2, .int p3] : List Value).toArray below meth c H locs 0 0 (MQ below (va_Qi (fun v G9 => G9 = G ∧ post v) (g_Bk E) (g_A E)) ([.ref o, .int p1, .int p2, .int p3] : List Value).toArray s 0 0 (g_A E)) (F0 m 17 ls []) := by
    clear hvc_4 hG_5 hS_6 hl_7
    intro n17
    induction n17 with
    | zero =>
      intro y0 y2 y3 y4 y5 H locs ls hvc_8 hG_9 hS_10 hl_11
      exact False.elim hvc_8
    | succ n17 ih17 =>
      intro y0 y2 y3 y4 y5 H locs ls hvc_12 hG_13 hS_14 hl_15
      refine lv_iload hx hb dX2_allCanTake_17 (lv_at hl_15 4 rfl) ?_
      refine lv_iconst (v := nI 4) hx hb dX2_allCanTake_19 (by decide) ?_
      refine lv_icmp_ge (tgt := 60) hx hb dX2_allCanTake_20 (by decide) (fun h9 => ?_) (fun h9 => ?_)
      · replace hvc_12 := hvc_12.1 h9
        refine lv_iload hx hb dX2_allCanTake_60 (lv_at hl_15 3 rfl) ?_
        exact g_iret hx hb hr hlocks (Nat.zero_le _) (Nat.zero_le _) hG_13 hS_14 hvc_12.1 ⟨rfl, hvc_12.2⟩ dX2_allCanTake_62
      · replace hvc_12 := hvc_12.2 h9
        refine lv_iload hx hb dX2_allCanTake_23 (lv_at hl_15 3 rfl) ?_
        have jn52 : ∀ (y0 : Nat) (y2 : Int32) (y3 : Int32) (y5 : Int32) (s0 : Int32) (H : Heap) (locs : List Loc) (ls : Array Slot), wp_X2_allCanTake_52 E G post (wp_X2_allCanTake_17 E G post n17) y0 y2 y3 y5 s0 → g_H E G H → va_S (g_A E) s.heap H locs → lv_has ls 6 [(0, .ref y0), (2, .int y2), (3, .int y3), (5, .int y5)] → W p l e ({ frames := 4, cells := 0, slots := 0, locals := 89 } : Room) s m ([.ref o, .int p1, .int p2, .int p3] : List Value).toArray below meth c H locs 0 0 (MQ below (va_Qi (fun v G9 => G9 = G ∧ post v) (g_Bk E) (g_A E)) ([.ref o, .int p1, .int p2, .int p3] : List Value).toArray s 0 0 (g_A E)) (F0 m 52 ls [.int s0]) := by
          clear hvc_12 hG_13 hS_14 hl_15
          intro y0 y2 y3 y5 s0 H locs ls hvc_16 hG_17 hS_18 hl_19
          refine lv_istore (lv' := [(4, .int s0), (0, .ref y0), (2, .int y2), (3, .int y3), (5, .int y5)]) hx hb dX2_allCanTake_52 hl_19 (by decide) rfl (fun ls hl_20 => ?_)
          clear hl_19
          refine lv_iinc (k := 4) (v := y5 + (nI 1)) (lv' := [(5, .int (y5 + (nI 1))), (4, .int s0), (0, .ref y0), (2, .int y2), (3, .int y3)]) hx hb dX2_allCanTake_54 hl_20 rfl (congrArg (y5 + ·) (by decide : Int32.ofInt (1) = nI 1)) (by decide) rfl (fun ls hl_21 => ?_)
          clear hl_20
          refine lv_goto (tgt := 17) hx hb dX2_allCanTake_57 (by decide) ?_
          exact ih17 y0 y2 y3 s0 (y5 + (nI 1)) _ _ _ hvc_16 hG_17 hS_18 (lv_sub hl_21 [2, 3, 4, 1, 0] rfl)
        have jn51 : ∀ (y0 : Nat) (y2 : Int32) (y3 : Int32) (y5 : Int32) (H : Heap) (locs : List Loc) (ls : Array Slot), wp_X2_allCanTake_51 E G post (wp_X2_allCanTake_52 E G post (wp_X2_allCanTake_17 E G post n17)) y0 y2 y3 y5 → g_H E G H → va_S (g_A E) s.heap H locs → lv_has ls 6 [(0, .ref y0), (2, .int y2), (3, .int y3), (5, .int y5)] → W p l e ({ frames := 4, cells := 0, slots := 0, locals := 89 } : Room) s m ([.ref o, .int p1, .int p2, .int p3] : List Value).toArray below meth c H locs 0 0 (MQ below (va_Qi (fun v G9 => G9 = G ∧ post v) (g_Bk E) (g_A E)) ([.ref o, .int p1, .int p2, .int p3] : List Value).toArray s 0 0 (g_A E)) (F0 m 51 ls []) := by
          clear hvc_12 hG_13 hS_14 hl_15
          intro y0 y2 y3 y5 H locs ls hvc_22 hG_23 hS_24 hl_25
          refine lv_iconst (v := nI 0) hx hb dX2_allCanTake_51 (by decide) ?_
          exact jn52 y0 y2 y3 y5 (nI 0) _ _ _ hvc_22 hG_23 hS_24 (lv_sub hl_25 [0, 1, 2, 3] rfl)
        refine lv_if_eq (tgt := 51) hx hb dX2_allCanTake_25 (by decide) (fun h9 => ?_) (fun h9 => ?_)
        · replace hvc_12 := hvc_12.1 h9
          exact jn51 y0 y2 y3 y5 _ _ _ hvc_12 hG_13 hS_14 (lv_sub hl_15 [0, 1, 2, 4] rfl)
        · replace hvc_12 := hvc_12.2 h9
          refine lv_iload_n hx hb dX2_allCanTake_28 rfl (lv_at hl_15 1 rfl) ?_
          refine lv_iload hx hb dX2_allCanTake_29 (lv_at hl_15 4 rfl) ?_
          refine gw_cMIP (As := [.int y2, .int y5]) (rest := [])  ⟨hx, hb, hml, hown, hts⟩ (met_X1_has l E G y2 y5 _ hvc_12) ⟨va_cnB 2 hts (lw_meth q838) rfl rfl rfl (hX.1 _ q836 rfl) (hts _ q90) (by decide +kernel) ⟨Nat.le_of_ble_eq_true rfl, Nat.le_of_ble_eq_true rfl⟩, hts _ q837, trivial⟩ (Nat.zero_le _) (Nat.zero_le _) (g_St0 E) hz trivial hK hG_13 hS_14 rfl hl_15.1 rfl (Nat.le_of_ble_eq_true rfl) dX2_allCanTake_31 (fun x5 H locs hvc_26 hG_27 hS_28 => ?_)
          clear hvc_12 hG_13 hS_14
          have jn47 : ∀ (y0 : Nat) (y2 : Int32) (y3 : Int32) (y5 : Int32) (H : Heap) (locs : List Loc) (ls : Array Slot), wp_X2_allCanTake_47 E G post (wp_X2_allCanTake_52 E G post (wp_X2_allCanTake_17 E G post n17)) y0 y2 y3 y5 → g_H E G H → va_S (g_A E) s.heap H locs → lv_has ls 6 [(0, .ref y0), (2, .int y2), (3, .int y3), (5, .int y5)] → W p l e ({ frames := 4, cells := 0, slots := 0, locals := 89 } : Room) s m ([.ref o, .int p1, .int p2, .int p3] : List Value).toArray below meth c H locs 0 0 (MQ below (va_Qi (fun v G9 => G9 = G ∧ post v) (g_Bk E) (g_A E)) ([.ref o, .int p1, .int p2, .int p3] : List Value).toArray s 0 0 (g_A E)) (F0 m 47 ls []) := by
            clear hvc_26 hG_27 hS_28 hl_15
            intro y0 y2 y3 y5 H locs ls hvc_29 hG_30 hS_31 hl_32
            refine lv_iconst (v := nI 1) hx hb dX2_allCanTake_47 (by decide) ?_
            refine lv_goto (tgt := 52) hx hb dX2_allCanTake_48 (by decide) ?_
            exact jn52 y0 y2 y3 y5 (nI 1) _ _ _ hvc_29 hG_30 hS_31 (lv_sub hl_32 [0, 1, 2, 3] rfl)
          refine lv_if_eq (tgt := 47) hx hb dX2_allCanTake_34 (by decide) (fun h9 => ?_) (fun h9 => ?_)
          · replace hvc_26 := hvc_26.1 h9
            exact jn47 y0 y2 y3 y5 _ _ _ hvc_26 hG_27 hS_28 (lv_sub hl_15 [0, 1, 2, 4] rfl)
          · replace hvc_26 := hvc_26.2 h9
            refine lv_aload_n hx hb dX2_allCanTake_37 rfl (lv_at hl_15 0 rfl) ?_
            refine lv_iload hx hb dX2_allCanTake_38 (lv_at hl_15 4 rfl) ?_
            refine lv_iload_n hx hb dX2_allCanTake_40 rfl (lv_at hl_15 2 rfl) ?_
            refine gw_cVIP (As := [.int y5, .int y3]) (rest := [])  ⟨hx, hb, hml, hown, hts⟩ (met_X2_canTake l E G y0 y5 y3 _ hvc_26.2) (cwV 2 hts (lw_V q878 q879 q880 q97 q881) rfl rfl rfl (by decide +kernel) ⟨Nat.le_of_ble_eq_true rfl, Nat.le_of_ble_eq_true rfl⟩) (gw_rc (q := (RX2, TX2, 11)) hK hG_27 hvc_26.1 rfl) (Nat.zero_le _) (Nat.zero_le _) (g_X.st E) hz hX hK hG_27 hS_28 rfl hl_15.1 rfl (Nat.le_of_ble_eq_true rfl) dX2_allCanTake_41 (fun x7 H locs hvc_33 hG_34 hS_35 => ?_)
            clear hvc_26 hG_27 hS_28
            refine lv_if_eq (tgt := 51) hx hb dX2_allCanTake_44 (by decide) (fun h9 => ?_) (fun h9 => ?_)
            · replace hvc_33 := hvc_33.1 h9
              exact jn51 y0 y2 y3 y5 _ _ _ hvc_33 hG_34 hS_35 (lv_sub hl_15 [0, 1, 2, 4] rfl)
            · replace hvc_33 := hvc_33.2 h9
              exact jn47 y0 y2 y3 y5 _ _ _ hvc_33 hG_34 hS_35 (lv_sub hl_15 [0, 1, 2, 4] rfl)
  refine lv_istore (lv' := [(5, .int (nI 0)), (4, .int x3), (0, .ref o), (1, .int p1), (2, .int p2), (3, .int p3)]) hx hb dX2_allCanTake_15 hl_7 (by decide) rfl (fun ls hl_36 => ?_)
  clear hl_7
  obtain ⟨nf17, hvc_4⟩ := hvc_4
  exact lp17 nf17 o p2 p3 x3 (nI 0) _ _ _ hvc_4 hG_5 hS_6 (lv_sub hl_36 [2, 4, 5, 1, 0] rfl)
set_option maxHeartbeats 4000000 in
set_option maxRecDepth 100000 in
theorem met_X2_greatestSize (l : Launch) (E : g_E) (G : g_G) (o : Nat) (p1 : Int32) (p2 : Int32) (post : Int32 → Prop) (hvc : wp_X2_greatestSize E G o p1 p2 post) : g_MI E l yX2_greatestSize (ws_ yX2_greatestSize cX2_greatestSize 4 (Option.some Jvm.ClassFile.FieldType.int)) ({ frames := 5, cells := 0, slots := 0, locals := 114 } : Room) (g_X E) [.ref o, .int p1, .int p2] G (fun v G9 => G9 = G ∧ post v) := by
  refine g_enter (by decide +kernel) (Nat.le_of_ble_eq_true rfl) ?_
  intro p e s m below meth c ls hx hb hr hts hown hlocks hml hin hz hX hK hG hS hl
  have hl : lv_has ls 4 [(0, .ref o), (1, .int p1), (2, .int p2)] := hl
  have hown : s.vm.findClass RX2 = some m.cls := hown
  unfold wp_X2_greatestSize at hvc
  refine lv_bipush (v := nI 50) hx hb dX2_greatestSize_0 (by decide) ?_
  have lp3 : ∀ (n3 : Nat) (y0 : Nat) (y1 : Int32) (y2 : Int32) (y3 : Int32) (H : Heap) (locs : List Loc) (ls : Array Slot), wp_X2_greatestSize_3 E G post n3 y0 y1 y2 y3 → g_H E G H → va_S (g_A E) s.heap H locs → lv_has ls 4 [(0, .ref y0), (1, .int y1), (2, .int y2), (3, .int y3)] → W p l e ({ frames := 5, cells := 0, slots := 0, locals := 114 } : Room) s m ([.ref o, .int p1, .int p2] : List Value).toArray below meth c H locs 0 0 (MQ below (va_Qi (fun v G9 => G9 = G ∧ post v) (g_Bk E) (g_A E)) ([.ref o, .int p1, .int p2] : List Value).toArray s 0 0 (g_A E)) (F0 m 3 ls []) := by
    clear hvc hG hS hl
    intro n3
    induction n3 with
    | zero =>
      intro y0 y1 y2 y3 H locs ls hvc_1 hG_2 hS_3 hl_4
      exact False.elim hvc_1
    | succ n3 ih3 =>
      intro y0 y1 y2 y3 H locs ls hvc_5 hG_6 hS_7 hl_8
      refine lv_iload_n hx hb dX2_greatestSize_3 rfl (lv_at hl_8 3 rfl) ?_
      refine lv_if_le (tgt := 23) hx hb dX2_greatestSize_4 (by decide) (fun h9 => ?_) (fun h9 => ?_)
      · replace hvc_5 := hvc_5.1 h9
        refine lv_iload_n hx hb dX2_greatestSize_23 rfl (lv_at hl_8 3 rfl) ?_
        exact g_iret hx hb hr hlocks (Nat.zero_le _) (Nat.zero_le _) hG_6 hS_7 rfl ⟨rfl, hvc_5⟩ dX2_greatestSize_24
      · replace hvc_5 := hvc_5.2 h9
        refine lv_aload_n hx hb dX2_greatestSize_7 rfl (lv_at hl_8 0 rfl) ?_
        refine lv_iload_n hx hb dX2_greatestSize_8 rfl (lv_at hl_8 1 rfl) ?_
        refine lv_iload_n hx hb dX2_greatestSize_9 rfl (lv_at hl_8 2 rfl) ?_
        refine lv_iload_n hx hb dX2_greatestSize_10 rfl (lv_at hl_8 3 rfl) ?_
        refine gw_cVIP (As := [.int y1, .int y2, .int y3]) (rest := [])  ⟨hx, hb, hml, hown, hts⟩ (met_X2_allCanTake l E G y0 y1 y2 y3 _ hvc_5.2) (cwV 3 hts (lw_V q1406 q1408 qs26 q97 q1409) rfl rfl rfl (by decide +kernel) ⟨Nat.le_of_ble_eq_true rfl, Nat.le_of_ble_eq_true rfl⟩) (gw_rc (q := (RX2, TX2, 11)) hK hG_6 hvc_5.1 rfl) (Nat.zero_le _) (Nat.zero_le _) (g_X.st E) hz hX hK hG_6 hS_7 rfl hl_8.1 rfl (Nat.le_of_ble_eq_true rfl) dX2_greatestSize_11 (fun x1 H locs hvc_9 hG_10 hS_11 => ?_)
        clear hvc_5 hG_6 hS_7
        refine lv_if_ne (tgt := 23) hx hb dX2_greatestSize_14 (by decide) (fun h9 => ?_) (fun h9 => ?_)
        · replace hvc_9 := hvc_9.1 h9
          refine lv_iload_n hx hb dX2_greatestSize_23 rfl (lv_at hl_8 3 rfl) ?_
          exact g_iret hx hb hr hlocks (Nat.zero_le _) (Nat.zero_le _) hG_10 hS_11 rfl ⟨rfl, hvc_9⟩ dX2_greatestSize_24
        · replace hvc_9 := hvc_9.2 h9
          refine lv_iinc (k := 3) (v := y3 + (-nI 1)) (lv' := [(3, .int (y3 + (-nI 1))), (0, .ref y0), (1, .int y1), (2, .int y2)]) hx hb dX2_greatestSize_17 hl_8 rfl (congrArg (y3 + ·) (by decide : Int32.ofInt (-1) = -nI 1)) (by decide) rfl (fun ls hl_12 => ?_)
          clear hl_8
          refine lv_goto (tgt := 3) hx hb dX2_greatestSize_20 (by decide) ?_
          exact ih3 y0 y1 y2 (y3 + (-nI 1)) _ _ _ hvc_9 hG_10 hS_11 (lv_sub hl_12 [1, 2, 3, 0] rfl)
  refine lv_istore_n (lv' := [(3, .int (nI 50)), (0, .ref o), (1, .int p1), (2, .int p2)]) hx hb dX2_greatestSize_2 rfl hl (by decide) rfl (fun ls hl_13 => ?_)
  clear hl
  obtain ⟨nf3, hvc⟩ := hvc
  exact lp3 nf3 o p1 p2 (nI 50) _ _ _ hvc hG hS (lv_sub hl_13 [1, 2, 3, 0] rfl)
set_option maxHeartbeats 4000000 in
set_option maxRecDepth 100000 in
theorem met_X2_canBegin (l : Launch) (E : g_E) (G : g_G) (o : Nat) (post : Int32 → Prop) (hvc : wp_X2_canBegin E G o post) : g_MI E l yX2_canBegin (ws_ yX2_canBegin cX2_canBegin 1 (Option.some Jvm.ClassFile.FieldType.boolean)) ({ frames := 2, cells := 0, slots := 0, locals := 42 } : Room) (g_X E) [.ref o] G (fun v G9 => G9 = G ∧ post v) := by
  refine g_enter (by decide +kernel) (Nat.le_of_ble_eq_true rfl) ?_
  intro p e s m below meth c ls hx hb hr hts hown hlocks hml hin hz hX hK hG hS hl
  have hl : lv_has ls 1 [(0, .ref o)] := hl
  have hown : s.vm.findClass RX2 = some m.cls := hown
  unfold wp_X2_canBegin at hvc
  refine lv_aload_n hx hb dX2_canBegin_0 rfl (lv_at hl 0 rfl) ?_
  refine lv_iconst (v := nI 4) hx hb dX2_canBegin_1 (by decide) ?_
  refine gw_cVIP (As := [.int (nI 4)]) (rest := [])  ⟨hx, hb, hml, hown, hts⟩ (met_X2_isUp l E G o (nI 4) _ hvc.2) (cwV 1 hts (lw_V q832 q833 q834 q97 q835) rfl rfl rfl (by decide +kernel) ⟨Nat.le_of_ble_eq_true rfl, Nat.le_of_ble_eq_true rfl⟩) (gw_rc (q := (RX2, TX2, 11)) hK hG hvc.1 rfl) (Nat.zero_le _) (Nat.zero_le _) (g_X.st E) hz hX hK hG hS rfl hl.1 rfl (Nat.le_of_ble_eq_true rfl) dX2_canBegin_2 (fun x1 H locs hvc_1 hG_2 hS_3 => ?_)
  clear hvc hG hS
  refine lv_if_eq (tgt := 26) hx hb dX2_canBegin_5 (by decide) (fun h9 => ?_) (fun h9 => ?_)
  · replace hvc_1 := hvc_1.1 h9
    refine lv_iconst (v := nI 0) hx hb dX2_canBegin_26 (by decide) ?_
    exact g_iret hx hb hr hlocks (Nat.zero_le _) (Nat.zero_le _) hG_2 hS_3 rfl ⟨rfl, hvc_1⟩ dX2_canBegin_27
  · replace hvc_1 := hvc_1.2 h9
    refine lv_aload_n hx hb dX2_canBegin_8 rfl (lv_at hl 0 rfl) ?_
    refine gw_gr (C := RX2) (T := TX2) (N := 11) (own := RX2) hx hb hts in_X2 hown hK hG_2 hvc_1 rfl (by decide) (hts _ q301) (fun _ h9 => h9) dX2_canBegin_9 (fun x3 hvc_4 => ?_)
    clear hvc_1
    refine gw_cFIP (As := []) (rest := []) (hK.1 9 _ rfl).2  ⟨hx, hb, hml, hown, hts⟩ (met_J7_size l E G x3 _ hvc_4.2) (va_cwF 0 hts (lw_F q883 q886 q888 q99 q890) rfl rfl rfl (hX.fw (List.mem_of_getElem? (i := 6) rfl)) (by decide +kernel) ⟨Nat.le_of_ble_eq_true rfl, Nat.le_of_ble_eq_true rfl⟩) (gw_rc (q := (RJ7, TJ7, 3)) hK hG_2 hvc_4.1 rfl) (Nat.zero_le _) (Nat.zero_le _) (g_St0 E) hz trivial hK hG_2 hS_3 rfl hl.1 rfl (Nat.le_of_ble_eq_true rfl) dX2_canBegin_12 (fun x4 H locs hvc_5 hG_6 hS_7 => ?_)
    clear hvc_4 hG_2 hS_3
    refine lv_bipush (v := nI 8) hx hb dX2_canBegin_17 (by decide) ?_
    refine lv_icmp_ge (tgt := 26) hx hb dX2_canBegin_19 (by decide) (fun h9 => ?_) (fun h9 => ?_)
    · replace hvc_5 := hvc_5.1 h9
      refine lv_iconst (v := nI 0) hx hb dX2_canBegin_26 (by decide) ?_
      exact g_iret hx hb hr hlocks (Nat.zero_le _) (Nat.zero_le _) hG_6 hS_7 rfl ⟨rfl, hvc_5⟩ dX2_canBegin_27
    · replace hvc_5 := hvc_5.2 h9
      refine lv_iconst (v := nI 1) hx hb dX2_canBegin_22 (by decide) ?_
      refine lv_goto (tgt := 27) hx hb dX2_canBegin_23 (by decide) ?_
      exact g_iret hx hb hr hlocks (Nat.zero_le _) (Nat.zero_le _) hG_6 hS_7 rfl ⟨rfl, hvc_5⟩ dX2_canBegin_27
set_option maxHeartbeats 4000000 in
set_option maxRecDepth 100000 in
theorem met_X2_begins (l : Launch) (E : g_E) (G : g_G) (o : Nat) (p1 : Nat) (mc0 ms0 : Nat) (post : Int32 → g_G → Prop) (hvc : wp_X2_begins E G o p1 mc0 ms0 post) : g_MI E l yX2_begins (ws_ yX2_begins cX2_begins 3 (Option.some Jvm.ClassFile.FieldType.int)) ({ frames := 9, cells := mc0, slots := ms0, locals := 238 } : Room) (g_X E) [.ref o, .ref p1] G (post) := by
  refine g_enter (by decide +kernel) (Nat.le_of_ble_eq_true rfl) ?_
  intro p e s m below meth c ls hx hb hr hts hown hlocks hml hin hz hX hK hG hS hl
  have hl : lv_has ls 3 [(0, .ref o), (1, .ref p1)] := hl
  have hown : s.vm.findClass RX2 = some m.cls := hown
  have hMC : 0 + mc0 ≤ mc0 := Nat.le_of_eq (Nat.zero_add _)
  have hMS : 0 + ms0 ≤ ms0 := Nat.le_of_eq (Nat.zero_add _)
  unfold wp_X2_begins at hvc
  refine lv_aload_n hx hb dX2_begins_0 rfl (lv_at hl 0 rfl) ?_
  refine gw_gr (C := RX2) (T := TX2) (N := 11) (own := RX2) hx hb hts in_X2 hown hK hG hvc rfl (by decide) (hts _ q301) (fun _ h9 => h9) dX2_begins_1 (fun x1 hvc_1 => ?_)
  clear hvc
  refine gw_cFIP (As := []) (rest := []) (hK.1 9 _ rfl).2  ⟨hx, hb, hml, hown, hts⟩ (met_J7_size l E G x1 _ hvc_1.2) (va_cwF 0 hts (lw_F q883 q886 q888 q99 q890) rfl rfl rfl (hX.fw (List.mem_of_getElem? (i := 6) rfl)) (by decide +kernel) ⟨Nat.le_of_ble_eq_true rfl, Nat.le_of_ble_eq_true rfl⟩) (gw_rc (q := (RJ7, TJ7, 3)) hK hG hvc_1.1 rfl) (by show _ ≤ mc0; omega) (by show _ ≤ ms0; omega) (g_St0 E) hz trivial hK hG hS rfl hl.1 rfl (Nat.le_of_ble_eq_true rfl) dX2_begins_4 (fun x2 H locs hvc_2 hG_3 hS_4 => ?_)
  clear hvc_1 hG hS
  refine lv_istore_n (lv' := [(2, .int x2), (0, .ref o), (1, .ref p1)]) hx hb dX2_begins_9 rfl hl (by decide) rfl (fun ls hl_5 => ?_)
  clear hl
  refine lv_aload_n hx hb dX2_begins_10 rfl (lv_at hl_5 1 rfl) ?_
  refine gw_gr (C := RX2) (T := TX2) (N := 11) (own := RX2) hx hb hts in_X2 hown hK hG_3 hvc_2 rfl (by decide) (hts _ q301) (fun _ h9 => h9) dX2_begins_11 (fun x4 hvc_6 => ?_)
  clear hvc_2
  refine lv_aload_n hx hb dX2_begins_14 rfl (lv_at hl_5 2 rfl) ?_
  obtain ⟨c7, t8, hc1, hs1, hvc_6⟩ := hvc_6
  refine gw_cFIA (As := [.ref p1]) (rest := []) (hK.1 9 _ rfl).2  ⟨hx, hb, hml, hown, hts⟩ (met_J7_add l E G x4 p1 c7 t8 _ hvc_6.2) (va_cwF 1 hts (lw_F q224 q228 q230 q99 q232) rfl rfl rfl (hX.fw (List.mem_of_getElem? (i := 0) rfl)) (by decide +kernel) ⟨Nat.le_of_ble_eq_true rfl, Nat.le_of_ble_eq_true rfl⟩) (gw_rc (q := (RJ7, TJ7, 3)) hK hG_3 hvc_6.1 rfl) hc1 hs1 hMC hMS (Nat.le_refl _) (Nat.le_refl _) (g_X.st E) hz hX hK hG_3 hS_4 rfl hl_5.1 rfl (Nat.le_of_ble_eq_true rfl) dX2_begins_15 (fun x5 G6 H locs ce sl hvc_7 hG_8 hS_9 hMC_10 hMS_11 => ?_)
  clear hvc_6 hG_3 hS_4 hMC hMS
  refine lv_pop hx hb dX2_begins_20 rfl ?_
  refine lv_aload_n hx hb dX2_begins_21 rfl (lv_at hl_5 1 rfl) ?_
  refine lv_iconst (v := nI 4) hx hb dX2_begins_22 (by decide) ?_
  refine lv_iconst (v := nI 0) hx hb dX2_begins_23 (by decide) ?_
  refine lv_iload_n hx hb dX2_begins_24 rfl (lv_at hl_5 0 rfl) ?_
  obtain ⟨c11, t12, hc1, hs1, hvc_7⟩ := hvc_7
  refine gw_cVVA (As := [.int (nI 4), .int (nI 0), .int x2]) (rest := [])  ⟨hx, hb, hml, hown, hts⟩ (met_X2_writes l E G6 o (nI 4) (nI 0) x2 c11 t12 _ hvc_7.2) (cwV 3 hts (lw_V q891 q893 qs9 q97 q894) rfl rfl rfl (by decide +kernel) ⟨Nat.le_of_ble_eq_true rfl, Nat.le_of_ble_eq_true rfl⟩) (gw_rc (q := (RX2, TX2, 11)) hK hG_8 hvc_7.1 rfl) hc1 hs1 hMC_10 hMS_11 (Nat.le_refl _) (Nat.le_refl _) (g_X.st E) hz hX hK hG_8 hS_9 rfl hl_5.1 rfl (Nat.le_of_ble_eq_true rfl) dX2_begins_25 (fun G10 H locs ce sl hvc_12 hG_13 hS_14 hMC_15 hMS_16 => ?_)
  clear hvc_7 hG_8 hS_9 hMC_10 hMS_11
  refine lv_aload_n hx hb dX2_begins_28 rfl (lv_at hl_5 1 rfl) ?_
  refine va_gets (A := g_A E) hx hb (hX.kz 0 (by decide)) hS_14 hown (hts _ q1471) (fun _ h9 => h9) dX2_begins_29 ?_
  refine lv_iload_n hx hb dX2_begins_32 rfl (lv_at hl_5 0 rfl) ?_
  obtain ⟨c15, t16, hc1, hs1, hvc_12⟩ := hvc_12
  refine gw_cVVA (As := [.ref (g_k E 0), .int x2]) (rest := [])  ⟨hx, hb, hml, hown, hts⟩ (met_X2_sendsToAll l E G10 o (g_k E 0) x2 c15 t16 _ hvc_12.2) (cwV 2 hts (lw_V q979 q981 qs13 q97 q982) rfl rfl rfl (by decide +kernel) ⟨Nat.le_of_ble_eq_true rfl, Nat.le_of_ble_eq_true rfl⟩) (gw_rc (q := (RX2, TX2, 11)) hK hG_13 hvc_12.1 rfl) hc1 hs1 hMC_15 hMS_16 (Nat.le_refl _) (Nat.le_refl _) (g_X.st E) hz hX hK hG_13 hS_14 rfl hl_5.1 rfl (Nat.le_of_ble_eq_true rfl) dX2_begins_33 (fun G14 H locs ce sl hvc_17 hG_18 hS_19 hMC_20 hMS_21 => ?_)
  clear hvc_12 hG_13 hS_14 hMC_15 hMS_16
  refine lv_iload_n hx hb dX2_begins_36 rfl (lv_at hl_5 0 rfl) ?_
  exact g_iret hx hb hr hlocks (by show _ ≤ mc0; omega) (by show _ ≤ ms0; omega) hG_18 hS_19 rfl hvc_17 dX2_begins_37
set_option maxHeartbeats 4000000 in
set_option maxRecDepth 100000 in
theorem met_X2_canGiveUp (l : Launch) (E : g_E) (G : g_G) (o : Nat) (p1 : Int32) (mc0 ms0 : Nat) (post : Int32 → g_G → Prop) (hvc : wp_X2_canGiveUp E G o p1 mc0 ms0 post) : g_MI E l yX2_canGiveUp (ws_ yX2_canGiveUp cX2_canGiveUp 2 (Option.some Jvm.ClassFile.FieldType.boolean)) ({ frames := 6, cells := mc0, slots := ms0, locals := 132 } : Room) (g_X E) [.ref o, .int p1] G (post) := by
  refine g_enter (by decide +kernel) (Nat.le_of_ble_eq_true rfl) ?_
  intro p e s m below meth c ls hx hb hr hts hown hlocks hml hin hz hX hK hG hS hl
  have hl : lv_has ls 2 [(0, .ref o), (1, .int p1)] := hl
  have hown : s.vm.findClass RX2 = some m.cls := hown
  have hMC : 0 + mc0 ≤ mc0 := Nat.le_of_eq (Nat.zero_add _)
  have hMS : 0 + ms0 ≤ ms0 := Nat.le_of_eq (Nat.zero_add _)
  unfold wp_X2_canGiveUp at hvc
  refine lv_iload_n hx hb dX2_canGiveUp_0 rfl (lv_at hl 1 rfl) ?_
  refine lv_aload_n hx hb dX2_canGiveUp_1 rfl (lv_at hl 0 rfl) ?_
  refine gw_gr (C := RX2) (T := TX2) (N := 11) (own := RX2) hx hb hts in_X2 hown hK hG hvc rfl (by decide) (hts _ q301) (fun _ h9 => h9) dX2_canGiveUp_2 (fun x1 hvc_1 => ?_)
  clear hvc
  refine gw_cFIP (As := []) (rest := [.int p1]) (hK.1 9 _ rfl).2  ⟨hx, hb, hml, hown, hts⟩ (met_J7_size l E G x1 _ hvc_1.2) (va_cwF 0 hts (lw_F q883 q886 q888 q99 q890) rfl rfl rfl (hX.fw (List.mem_of_getElem? (i := 6) rfl)) (by decide +kernel) ⟨Nat.le_of_ble_eq_true rfl, Nat.le_of_ble_eq_true rfl⟩) (gw_rc (q := (RJ7, TJ7, 3)) hK hG hvc_1.1 rfl) (by show _ ≤ mc0; omega) (by show _ ≤ ms0; omega) (g_St0 E) hz trivial hK hG hS rfl hl.1 rfl (Nat.le_of_ble_eq_true rfl) dX2_canGiveUp_5 (fun x2 H locs hvc_2 hG_3 hS_4 => ?_)
  clear hvc_1 hG hS
  refine lv_icmp_ge (tgt := 33) hx hb dX2_canGiveUp_10 (by decide) (fun h9 => ?_) (fun h9 => ?_)
  · replace hvc_2 := hvc_2.1 h9
    refine lv_iconst (v := nI 0) hx hb dX2_canGiveUp_33 (by decide) ?_
    exact g_iret hx hb hr hlocks (by show _ ≤ mc0; omega) (by show _ ≤ ms0; omega) hG_3 hS_4 rfl hvc_2 dX2_canGiveUp_34
  · replace hvc_2 := hvc_2.2 h9
    refine lv_aload_n hx hb dX2_canGiveUp_13 rfl (lv_at hl 0 rfl) ?_
    refine lv_iconst (v := nI 4) hx hb dX2_canGiveUp_14 (by decide) ?_
    refine gw_cVIP (As := [.int (nI 4)]) (rest := [])  ⟨hx, hb, hml, hown, hts⟩ (met_X2_isUp l E G o (nI 4) _ hvc_2.2) (cwV 1 hts (lw_V q832 q833 q834 q97 q835) rfl rfl rfl (by decide +kernel) ⟨Nat.le_of_ble_eq_true rfl, Nat.le_of_ble_eq_true rfl⟩) (gw_rc (q := (RX2, TX2, 11)) hK hG_3 hvc_2.1 rfl) (by show _ ≤ mc0; omega) (by show _ ≤ ms0; omega) (g_X.st E) hz hX hK hG_3 hS_4 rfl hl.1 rfl (Nat.le_of_ble_eq_true rfl) dX2_canGiveUp_15 (fun x4 H locs hvc_5 hG_6 hS_7 => ?_)
    clear hvc_2 hG_3 hS_4
    refine lv_if_eq (tgt := 33) hx hb dX2_canGiveUp_18 (by decide) (fun h9 => ?_) (fun h9 => ?_)
    · replace hvc_5 := hvc_5.1 h9
      refine lv_iconst (v := nI 0) hx hb dX2_canGiveUp_33 (by decide) ?_
      exact g_iret hx hb hr hlocks (by show _ ≤ mc0; omega) (by show _ ≤ ms0; omega) hG_6 hS_7 rfl hvc_5 dX2_canGiveUp_34
    · replace hvc_5 := hvc_5.2 h9
      refine lv_aload_n hx hb dX2_canGiveUp_21 rfl (lv_at hl 0 rfl) ?_
      refine lv_iload_n hx hb dX2_canGiveUp_22 rfl (lv_at hl 1 rfl) ?_
      obtain ⟨c8, t9, hc1, hs1, hvc_5⟩ := hvc_5
      refine gw_cVIA (As := [.int p1]) (rest := [])  ⟨hx, hb, hml, hown, hts⟩ (met_X2_isUndecided l E G o p1 c8 t9 _ hvc_5.2) (cwV 1 hts (lw_V q952 q953 q954 q97 q955) rfl rfl rfl (by decide +kernel) ⟨Nat.le_of_ble_eq_true rfl, Nat.le_of_ble_eq_true rfl⟩) (gw_rc (q := (RX2, TX2, 11)) hK hG_6 hvc_5.1 rfl) hc1 hs1 hMC hMS (Nat.le_refl _) (Nat.le_refl _) (g_X.st E) hz hX hK hG_6 hS_7 rfl hl.1 rfl (Nat.le_of_ble_eq_true rfl) dX2_canGiveUp_23 (fun x6 G7 H locs ce sl hvc_8 hG_9 hS_10 hMC_11 hMS_12 => ?_)
      clear hvc_5 hG_6 hS_7 hMC hMS
      refine lv_if_eq (tgt := 33) hx hb dX2_canGiveUp_26 (by decide) (fun h9 => ?_) (fun h9 => ?_)
      · replace hvc_8 := hvc_8.1 h9
        refine lv_iconst (v := nI 0) hx hb dX2_canGiveUp_33 (by decide) ?_
        exact g_iret hx hb hr hlocks (by show _ ≤ mc0; omega) (by show _ ≤ ms0; omega) hG_9 hS_10 rfl hvc_8 dX2_canGiveUp_34
      · replace hvc_8 := hvc_8.2 h9
        refine lv_iconst (v := nI 1) hx hb dX2_canGiveUp_29 (by decide) ?_
        refine lv_goto (tgt := 34) hx hb dX2_canGiveUp_30 (by decide) ?_
        exact g_iret hx hb hr hlocks (by show _ ≤ mc0; omega) (by show _ ≤ ms0; omega) hG_9 hS_10 rfl hvc_8 dX2_canGiveUp_34
set_option maxHeartbeats 4000000 in
set_option maxRecDepth 100000 in
theorem met_X2_givesUp (l : Launch) (E : g_E) (G : g_G) (o : Nat) (p1 : Int32) (mc0 ms0 : Nat) (post : Int32 → g_G → Prop) (hvc : wp_X2_givesUp E G o p1 mc0 ms0 post) : g_MI E l yX2_givesUp (ws_ yX2_givesUp cX2_givesUp 2 (Option.some Jvm.ClassFile.FieldType.int)) ({ frames := 10, cells := mc0, slots := ms0, locals := 260 } : Room) (g_X E) [.ref o, .int p1] G (post) := by
  refine g_enter (by decide +kernel) (Nat.le_of_ble_eq_true rfl) ?_
  intro p e s m below meth c ls hx hb hr hts hown hlocks hml hin hz hX hK hG hS hl
  have hl : lv_has ls 2 [(0, .ref o), (1, .int p1)] := hl
  have hown : s.vm.findClass RX2 = some m.cls := hown
  have hMC : 0 + mc0 ≤ mc0 := Nat.le_of_eq (Nat.zero_add _)
  have hMS : 0 + ms0 ≤ ms0 := Nat.le_of_eq (Nat.zero_add _)
  unfold wp_X2_givesUp at hvc
  refine lv_aload_n hx hb dX2_givesUp_0 rfl (lv_at hl 0 rfl) ?_
  refine lv_iload_n hx hb dX2_givesUp_1 rfl (lv_at hl 1 rfl) ?_
  refine lv_iconst (v := nI 2) hx hb dX2_givesUp_2 (by decide) ?_
  obtain ⟨c3, t4, hc1, hs1, hvc⟩ := hvc
  refine gw_cVVA (As := [.int p1, .int (nI 2)]) (rest := [])  ⟨hx, hb, hml, hown, hts⟩ (met_X2_decides l E G o p1 (nI 2) c3 t4 _ hvc.2) (cwV 2 hts (lw_V q968 q970 qs12 q97 q971) rfl rfl rfl (by decide +kernel) ⟨Nat.le_of_ble_eq_true rfl, Nat.le_of_ble_eq_true rfl⟩) (gw_rc (q := (RX2, TX2, 11)) hK hG hvc.1 rfl) hc1 hs1 hMC hMS (Nat.le_refl _) (Nat.le_refl _) (g_X.st E) hz hX hK hG hS rfl hl.1 rfl (Nat.le_of_ble_eq_true rfl) dX2_givesUp_3 (fun G2 H locs ce sl hvc_1 hG_2 hS_3 hMC_4 hMS_5 => ?_)
  clear hvc hG hS hMC hMS
  refine lv_aload_n hx hb dX2_givesUp_6 rfl (lv_at hl 0 rfl) ?_
  refine gw_gr (C := RX2) (T := TX2) (N := 11) (own := RX2) hx hb hts in_X2 hown hK hG_2 hvc_1 rfl (by decide) (hts _ q305) (fun _ h9 => h9) dX2_givesUp_7 (fun x5 hvc_6 => ?_)
  clear hvc_1
  refine gw_cFIP (As := []) (rest := []) (hK.1 9 _ rfl).2  ⟨hx, hb, hml, hown, hts⟩ (met_J7_size l E G2 x5 _ hvc_6.2) (va_cwF 0 hts (lw_F q883 q886 q888 q99 q890) rfl rfl rfl (hX.fw (List.mem_of_getElem? (i := 6) rfl)) (by decide +kernel) ⟨Nat.le_of_ble_eq_true rfl, Nat.le_of_ble_eq_true rfl⟩) (gw_rc (q := (RJ7, TJ7, 3)) hK hG_2 hvc_6.1 rfl) (by show _ ≤ mc0; omega) (by show _ ≤ ms0; omega) (g_St0 E) hz trivial hK hG_2 hS_3 rfl hl.1 rfl (Nat.le_of_ble_eq_true rfl) dX2_givesUp_10 (fun x6 H locs hvc_7 hG_8 hS_9 => ?_)
  clear hvc_6 hG_2 hS_3
  exact g_iret hx hb hr hlocks (by show _ ≤ mc0; omega) (by show _ ≤ ms0; omega) hG_8 hS_9 rfl hvc_7 dX2_givesUp_15
set_option maxHeartbeats 4000000 in
set_option maxRecDepth 100000 in
theorem met_X2_canAsk (l : Launch) (E : g_E) (G : g_G) (o : Nat) (p1 : Int32) (p2 : Int32) (post : Int32 → Prop) (hvc : wp_X2_canAsk E G o p1 p2 post) : g_MI E l yX2_canAsk (ws_ yX2_canAsk cX2_canAsk 3 (Option.some Jvm.ClassFile.FieldType.boolean)) ({ frames := 2, cells := 0, slots := 0, locals := 42 } : Room) (g_X E) [.ref o, .int p1, .int p2] G (fun v G9 => G9 = G ∧ post v) := by
  refine g_enter (by decide +kernel) (Nat.le_of_ble_eq_true rfl) ?_
  intro p e s m below meth c ls hx hb hr hts hown hlocks hml hin hz hX hK hG hS hl
  have hl : lv_has ls 3 [(0, .ref o), (1, .int p1), (2, .int p2)] := hl
  have hown : s.vm.findClass RX2 = some m.cls := hown
  unfold wp_X2_canAsk at hvc
  refine lv_iload_n hx hb dX2_canAsk_0 rfl (lv_at hl 2 rfl) ?_
  refine lv_aload_n hx hb dX2_canAsk_1 rfl (lv_at hl 0 rfl) ?_
  refine gw_gr (C := RX2) (T := TX2) (N := 11) (own := RX2) hx hb hts in_X2 hown hK hG hvc rfl (by decide) (hts _ q301) (fun _ h9 => h9) dX2_canAsk_2 (fun x1 hvc_1 => ?_)
  clear hvc
  refine gw_cFIP (As := []) (rest := [.int p2]) (hK.1 9 _ rfl).2  ⟨hx, hb, hml, hown, hts⟩ (met_J7_size l E G x1 _ hvc_1.2) (va_cwF 0 hts (lw_F q883 q886 q888 q99 q890) rfl rfl rfl (hX.fw (List.mem_of_getElem? (i := 6) rfl)) (by decide +kernel) ⟨Nat.le_of_ble_eq_true rfl, Nat.le_of_ble_eq_true rfl⟩) (gw_rc (q := (RJ7, TJ7, 3)) hK hG hvc_1.1 rfl) (Nat.zero_le _) (Nat.zero_le _) (g_St0 E) hz trivial hK hG hS rfl hl.1 rfl (Nat.le_of_ble_eq_true rfl) dX2_canAsk_5 (fun x2 H locs hvc_2 hG_3 hS_4 => ?_)
  clear hvc_1 hG hS
  refine lv_icmp_ge (tgt := 35) hx hb dX2_canAsk_10 (by decide) (fun h9 => ?_) (fun h9 => ?_)
  · replace hvc_2 := hvc_2.1 h9
    refine lv_iconst (v := nI 0) hx hb dX2_canAsk_35 (by decide) ?_
    exact g_iret hx hb hr hlocks (Nat.zero_le _) (Nat.zero_le _) hG_3 hS_4 rfl ⟨rfl, hvc_2⟩ dX2_canAsk_36
  · replace hvc_2 := hvc_2.2 h9
    refine lv_aload_n hx hb dX2_canAsk_13 rfl (lv_at hl 0 rfl) ?_
    refine lv_iload_n hx hb dX2_canAsk_14 rfl (lv_at hl 1 rfl) ?_
    refine gw_cVIP (As := [.int p1]) (rest := [])  ⟨hx, hb, hml, hown, hts⟩ (met_X2_isUp l E G o p1 _ hvc_2.2) (cwV 1 hts (lw_V q832 q833 q834 q97 q835) rfl rfl rfl (by decide +kernel) ⟨Nat.le_of_ble_eq_true rfl, Nat.le_of_ble_eq_true rfl⟩) (gw_rc (q := (RX2, TX2, 11)) hK hG_3 hvc_2.1 rfl) (Nat.zero_le _) (Nat.zero_le _) (g_X.st E) hz hX hK hG_3 hS_4 rfl hl.1 rfl (Nat.le_of_ble_eq_true rfl) dX2_canAsk_15 (fun x4 H locs hvc_5 hG_6 hS_7 => ?_)
    clear hvc_2 hG_3 hS_4
    refine lv_if_eq (tgt := 35) hx hb dX2_canAsk_18 (by decide) (fun h9 => ?_) (fun h9 => ?_)
    · replace hvc_5 := hvc_5.1 h9
      refine lv_iconst (v := nI 0) hx hb dX2_canAsk_35 (by decide) ?_
      exact g_iret hx hb hr hlocks (Nat.zero_le _) (Nat.zero_le _) hG_6 hS_7 rfl ⟨rfl, hvc_5⟩ dX2_canAsk_36
    · replace hvc_5 := hvc_5.2 h9
      refine lv_aload_n hx hb dX2_canAsk_21 rfl (lv_at hl 0 rfl) ?_
      refine lv_iload_n hx hb dX2_canAsk_22 rfl (lv_at hl 1 rfl) ?_
      refine lv_iload_n hx hb dX2_canAsk_23 rfl (lv_at hl 2 rfl) ?_
      refine gw_cVIP (As := [.int p1, .int p2]) (rest := [])  ⟨hx, hb, hml, hown, hts⟩ (met_X2_state l E G o p1 p2 _ hvc_5.2) (cwV 2 hts (lw_V q849 q850 q851 q97 q852) rfl rfl rfl (by decide +kernel) ⟨Nat.le_of_ble_eq_true rfl, Nat.le_of_ble_eq_true rfl⟩) (gw_rc (q := (RX2, TX2, 11)) hK hG_6 hvc_5.1 rfl) (Nat.zero_le _) (Nat.zero_le _) (g_St0 E) hz trivial hK hG_6 hS_7 rfl hl.1 rfl (Nat.le_of_ble_eq_true rfl) dX2_canAsk_24 (fun x6 H locs hvc_8 hG_9 hS_10 => ?_)
      clear hvc_5 hG_6 hS_7
      refine lv_iconst (v := nI 1) hx hb dX2_canAsk_27 (by decide) ?_
      refine lv_icmp_ne (tgt := 35) hx hb dX2_canAsk_28 (by decide) (fun h9 => ?_) (fun h9 => ?_)
      · replace hvc_8 := hvc_8.1 h9
        refine lv_iconst (v := nI 0) hx hb dX2_canAsk_35 (by decide) ?_
        exact g_iret hx hb hr hlocks (Nat.zero_le _) (Nat.zero_le _) hG_9 hS_10 rfl ⟨rfl, hvc_8⟩ dX2_canAsk_36
      · replace hvc_8 := hvc_8.2 h9
        refine lv_iconst (v := nI 1) hx hb dX2_canAsk_31 (by decide) ?_
        refine lv_goto (tgt := 36) hx hb dX2_canAsk_32 (by decide) ?_
        exact g_iret hx hb hr hlocks (Nat.zero_le _) (Nat.zero_le _) hG_9 hS_10 rfl ⟨rfl, hvc_8⟩ dX2_canAsk_36
set_option maxHeartbeats 4000000 in
set_option maxRecDepth 100000 in
theorem met_X2_asks (l : Launch) (E : g_E) (G : g_G) (o : Nat) (p1 : Int32) (p2 : Int32) (mc0 ms0 : Nat) (post : Int32 → g_G → Prop) (hvc : wp_X2_asks E G o p1 p2 mc0 ms0 post) : g_MI E l yX2_asks (ws_ yX2_asks cX2_asks 3 (Option.some Jvm.ClassFile.FieldType.int)) ({ frames := 8, cells := mc0, slots := ms0, locals := 214 } : Room) (g_X E) [.ref o, .int p1, .int p2] G (post) := by
  refine g_enter (by decide +kernel) (Nat.le_of_ble_eq_true rfl) ?_
  intro p e s m below meth c ls hx hb hr hts hown hlocks hml hin hz hX hK hG hS hl
  have hl : lv_has ls 3 [(0, .ref o), (1, .int p1), (2, .int p2)] := hl
  have hown : s.vm.findClass RX2 = some m.cls := hown
  have hMC : 0 + mc0 ≤ mc0 := Nat.le_of_eq (Nat.zero_add _)
  have hMS : 0 + ms0 ≤ ms0 := Nat.le_of_eq (Nat.zero_add _)
  unfold wp_X2_asks at hvc
  refine lv_aload_n hx hb dX2_asks_0 rfl (lv_at hl 0 rfl) ?_
  refine va_gets (A := g_A E) hx hb (hX.kz 6 (by decide)) hS hown (hts _ q1282) (fun _ h9 => h9) dX2_asks_1 ?_
  refine lv_iload_n hx hb dX2_asks_4 rfl (lv_at hl 2 rfl) ?_
  refine lv_iload_n hx hb dX2_asks_5 rfl (lv_at hl 1 rfl) ?_
  obtain ⟨c3, t4, hc1, hs1, hvc⟩ := hvc
  refine gw_cVVA (As := [.ref (g_k E 6), .int p2, .int p1]) (rest := [])  ⟨hx, hb, hml, hown, hts⟩ (met_X2_sends l E G o (g_k E 6) p2 p1 c3 t4 _ hvc.2) (cwV 3 hts (lw_V q920 q922 qs11 q97 q923) rfl rfl rfl (by decide +kernel) ⟨Nat.le_of_ble_eq_true rfl, Nat.le_of_ble_eq_true rfl⟩) (gw_rc (q := (RX2, TX2, 11)) hK hG hvc.1 rfl) hc1 hs1 hMC hMS (Nat.le_refl _) (Nat.le_refl _) (g_X.st E) hz hX hK hG hS rfl hl.1 rfl (Nat.le_of_ble_eq_true rfl) dX2_asks_6 (fun G2 H locs ce sl hvc_1 hG_2 hS_3 hMC_4 hMS_5 => ?_)
  clear hvc hG hS hMC hMS
  refine lv_aload_n hx hb dX2_asks_9 rfl (lv_at hl 0 rfl) ?_
  refine gw_gr (C := RX2) (T := TX2) (N := 11) (own := RX2) hx hb hts in_X2 hown hK hG_2 hvc_1 rfl (by decide) (hts _ q305) (fun _ h9 => h9) dX2_asks_10 (fun x5 hvc_6 => ?_)
  clear hvc_1
  refine gw_cFIP (As := []) (rest := []) (hK.1 9 _ rfl).2  ⟨hx, hb, hml, hown, hts⟩ (met_J7_size l E G2 x5 _ hvc_6.2) (va_cwF 0 hts (lw_F q883 q886 q888 q99 q890) rfl rfl rfl (hX.fw (List.mem_of_getElem? (i := 6) rfl)) (by decide +kernel) ⟨Nat.le_of_ble_eq_true rfl, Nat.le_of_ble_eq_true rfl⟩) (gw_rc (q := (RJ7, TJ7, 3)) hK hG_2 hvc_6.1 rfl) (by show _ ≤ mc0; omega) (by show _ ≤ ms0; omega) (g_St0 E) hz trivial hK hG_2 hS_3 rfl hl.1 rfl (Nat.le_of_ble_eq_true rfl) dX2_asks_13 (fun x6 H locs hvc_7 hG_8 hS_9 => ?_)
  clear hvc_6 hG_2 hS_3
  exact g_iret hx hb hr hlocks (by show _ ≤ mc0; omega) (by show _ ≤ ms0; omega) hG_8 hS_9 rfl hvc_7 dX2_asks_18
set_option maxHeartbeats 4000000 in
set_option maxRecDepth 100000 in
theorem met_X2_loses (l : Launch) (E : g_E) (G : g_G) (o : Nat) (p1 : Int32) (post : Int32 → g_G → Prop) (hvc : wp_X2_loses E G o p1 post) : g_MI E l yX2_loses (ws_ yX2_loses cX2_loses 2 (Option.some Jvm.ClassFile.FieldType.int)) ({ frames := 3, cells := 0, slots := 0, locals := 106 } : Room) (g_X E) [.ref o, .int p1] G (post) := by
  refine g_enter (by decide +kernel) (Nat.le_of_ble_eq_true rfl) ?_
  intro p e s m below meth c ls hx hb hr hts hown hlocks hml hin hz hX hK hG hS hl
  have hl : lv_has ls 2 [(0, .ref o), (1, .int p1)] := hl
  have hown : s.vm.findClass RX2 = some m.cls := hown
  unfold wp_X2_loses at hvc
  refine lv_aload_n hx hb dX2_loses_0 rfl (lv_at hl 0 rfl) ?_
  refine lv_dup hx hb dX2_loses_1 rfl ?_
  refine gw_gi (C := RX2) (T := TX2) (N := 11) (own := RX2) hx hb hts in_X2 hown hK hG hvc rfl (by decide) (hts _ q319) (fun _ h9 => h9) dX2_loses_2 (fun x1 hvc_1 => ?_)
  clear hvc
  refine lv_iconst (v := nI 1) hx hb dX2_loses_5 (by decide) ?_
  refine lv_iadd hx hb dX2_loses_6 ?_
  refine gw_put (ty := .int) (C := RX2) (T := TX2) (N := 11) (own := RX2) hx hb hts in_X2 tyX2 tyX2_ok nmX2 hown hK hG hS hvc_1 rfl (by decide) (hts _ q319) (fun _ h9 => h9) rfl (by decide +kernel) rfl rfl dX2_loses_7 (fun G2 H locs hvc_2 hG_3 hS_4 => ?_)
  clear hvc_1 hG hS
  refine lv_aload_n hx hb dX2_loses_10 rfl (lv_at hl 0 rfl) ?_
  refine gw_gr (C := RX2) (T := TX2) (N := 11) (own := RX2) hx hb hts in_X2 hown hK hG_3 hvc_2 rfl (by decide) (hts _ q305) (fun _ h9 => h9) dX2_loses_11 (fun x3 hvc_5 => ?_)
  clear hvc_2
  refine lv_iload_n hx hb dX2_loses_14 rfl (lv_at hl 1 rfl) ?_
  refine gw_cFQN (As := [.int p1]) (rest := []) (hK.1 9 _ rfl).2  ⟨hx, hb, hml, hown, hts⟩ (met_J7_remove l E G2 x3 p1 _ hvc_5.2) (va_cwF 1 hts (lw_F q809 q812 q814 q99 q816) rfl rfl rfl (hX.fw (List.mem_of_getElem? (i := 4) rfl)) (by decide +kernel) ⟨Nat.le_of_ble_eq_true rfl, Nat.le_of_ble_eq_true rfl⟩) (gw_rc (q := (RJ7, TJ7, 3)) hK hG_3 hvc_5.1 rfl) (Nat.zero_le _) (Nat.zero_le _) (g_X.st E) hz hX hK hG_3 hS_4 rfl hl.1 rfl (Nat.le_of_ble_eq_true rfl) dX2_loses_15 (fun x4 G5 H locs hvc_6 hG_7 hS_8 => ?_)
  clear hvc_5 hG_3 hS_4
  refine gw_castS (v := x4) (ci := 5) hx hb hown (hts _ q827) hK hG_7 rfl rfl hvc_6 dX2_loses_20 (fun z6 hy9 hvc_9 => ?_)
  clear hvc_6
  subst hy9
  refine gw_grN (C := RX6) (T := TX6) (N := 3) (own := RX2) hx hb hts in_X6 hown hK hG_7 hvc_9 rfl (by decide) (hX.1 _ q930 rfl) (fun _ h9 => h9) dX2_loses_23 (fun x7 hvc_10 => ?_)
  clear hvc_9
  refine gw_ord (v := (some x7)) (rest := []) ⟨hx, hb, hml, hown, hts⟩ hX hz hK hG_7 hS_8 hvc_10 q1525 (Nat.zero_le _) (Nat.zero_le _) (Nat.le_of_ble_eq_true rfl) (Nat.le_of_ble_eq_true rfl) hl.1 (Nat.le_of_ble_eq_true rfl) dX2_loses_26 (fun x8 H locs hvc_11 hG_12 hS_13 => ?_)
  clear hvc_10 hG_7 hS_8
  exact g_iret hx hb hr hlocks (Nat.zero_le _) (Nat.zero_le _) hG_12 hS_13 rfl hvc_11 dX2_loses_29
set_option maxHeartbeats 4000000 in
set_option maxRecDepth 100000 in
theorem met_X2_crashes (l : Launch) (E : g_E) (G : g_G) (o : Nat) (p1 : Int32) (post : Int32 → g_G → Prop) (hvc : wp_X2_crashes E G o p1 post) : g_MI E l yX2_crashes (ws_ yX2_crashes cX2_crashes 3 (Option.some Jvm.ClassFile.FieldType.int)) ({ frames := 1, cells := 0, slots := 0, locals := 20 } : Room) (fun _ => True) [.ref o, .int p1] G (post) := by
  refine g_enter (by decide +kernel) (Nat.le_of_ble_eq_true rfl) ?_
  intro p e s m below meth c ls hx hb hr hts hown hlocks hml hin hz hX hK hG hS hl
  have hl : lv_has ls 3 [(0, .ref o), (1, .int p1)] := hl
  have hown : s.vm.findClass RX2 = some m.cls := hown
  unfold wp_X2_crashes at hvc
  refine lv_aload_n hx hb dX2_crashes_0 rfl (lv_at hl 0 rfl) ?_
  refine lv_dup hx hb dX2_crashes_1 rfl ?_
  refine gw_gi (C := RX2) (T := TX2) (N := 11) (own := RX2) hx hb hts in_X2 hown hK hG hvc rfl (by decide) (hts _ q314) (fun _ h9 => h9) dX2_crashes_2 (fun x1 hvc_1 => ?_)
  clear hvc
  refine lv_iconst (v := nI 1) hx hb dX2_crashes_5 (by decide) ?_
  refine lv_iload_n hx hb dX2_crashes_6 rfl (lv_at hl 1 rfl) ?_
  refine lv_ishl hx hb dX2_crashes_7 ?_
  refine lv_iconst (v := -nI 1) hx hb dX2_crashes_8 (by decide) ?_
  refine lv_ixor hx hb dX2_crashes_9 ?_
  refine lv_iand hx hb dX2_crashes_10 ?_
  refine gw_put (ty := .int) (C := RX2) (T := TX2) (N := 11) (own := RX2) hx hb hts in_X2 tyX2 tyX2_ok nmX2 hown hK hG hS hvc_1 rfl (by decide) (hts _ q314) (fun _ h9 => h9) rfl (by decide +kernel) rfl rfl dX2_crashes_11 (fun G2 H locs hvc_2 hG_3 hS_4 => ?_)
  clear hvc_1 hG hS
  refine lv_iconst (v := nI 0) hx hb dX2_crashes_14 (by decide) ?_
  have lp16 : ∀ (n16 : Nat) (y0 : Nat) (y1 : Int32) (y2 : Int32) (G : g_G) (H : Heap) (locs : List Loc) (ls : Array Slot), wp_X2_crashes_16 E post n16 y0 y1 y2 G → g_H E G H → va_S (g_A E) s.heap H locs → lv_has ls 3 [(0, .ref y0), (1, .int y1), (2, .int y2)] → W p l e ({ frames := 1, cells := 0, slots := 0, locals := 20 } : Room) s m ([.ref o, .int p1] : List Value).toArray below meth c H locs 0 0 (MQ below (va_Qi (post) (g_Bk E) (g_A E)) ([.ref o, .int p1] : List Value).toArray s 0 0 (g_A E)) (F0 m 16 ls []) := by
    clear hvc_2 hG_3 hS_4 hl
    intro n16
    induction n16 with
    | zero =>
      intro y0 y1 y2 G H locs ls hvc_5 hG_6 hS_7 hl_8
      exact False.elim hvc_5
    | succ n16 ih16 =>
      intro y0 y1 y2 G H locs ls hvc_9 hG_10 hS_11 hl_12
      refine lv_iload_n hx hb dX2_crashes_16 rfl (lv_at hl_12 2 rfl) ?_
      refine lv_bipush (v := nI 8) hx hb dX2_crashes_17 (by decide) ?_
      have jn47 : ∀ (y0 : Nat) (G : g_G) (H : Heap) (locs : List Loc) (ls : Array Slot), wp_X2_crashes_47 E post y0 G → g_H E G H → va_S (g_A E) s.heap H locs → lv_has ls 3 [(0, .ref y0)] → W p l e ({ frames := 1, cells := 0, slots := 0, locals := 20 } : Room) s m ([.ref o, .int p1] : List Value).toArray below meth c H locs 0 0 (MQ below (va_Qi (post) (g_Bk E) (g_A E)) ([.ref o, .int p1] : List Value).toArray s 0 0 (g_A E)) (F0 m 47 ls []) := by
        clear hvc_9 hG_10 hS_11 hl_12
        intro y0 G H locs ls hvc_13 hG_14 hS_15 hl_16
        refine lv_aload_n hx hb dX2_crashes_47 rfl (lv_at hl_16 0 rfl) ?_
        refine gw_gi (C := RX2) (T := TX2) (N := 11) (own := RX2) hx hb hts in_X2 hown hK hG_14 hvc_13 rfl (by decide) (hts _ q314) (fun _ h9 => h9) dX2_crashes_48 (fun x3 hvc_17 => ?_)
        clear hvc_13
        refine gw_cSIP (As := [.int x3]) (rest := [])  ⟨hx, hb, hml, hown, hts⟩ (met_J18_bitCount l E G x3 _ hvc_17) (va_cwS 1 hts (lw_S q1410 q872 q113 q873) rfl rfl rfl (by decide +kernel) ⟨Nat.le_of_ble_eq_true rfl, Nat.le_of_ble_eq_true rfl⟩) (Nat.zero_le _) (Nat.zero_le _) (g_St0 E) hz trivial hK hG_14 hS_15 rfl hl_16.1 rfl (Nat.le_of_ble_eq_true rfl) dX2_crashes_51 (fun x4 H locs hvc_18 hG_19 hS_20 => ?_)
        clear hvc_17 hG_14 hS_15
        exact g_iret hx hb hr hlocks (Nat.zero_le _) (Nat.zero_le _) hG_19 hS_20 rfl hvc_18 dX2_crashes_54
      refine lv_icmp_ge (tgt := 47) hx hb dX2_crashes_19 (by decide) (fun h9 => ?_) (fun h9 => ?_)
      · replace hvc_9 := hvc_9.1 h9
        exact jn47 y0 G _ _ _ hvc_9 hG_10 hS_11 (lv_sub hl_12 [0] rfl)
      · replace hvc_9 := hvc_9.2 h9
        refine lv_iload_n hx hb dX2_crashes_22 rfl (lv_at hl_12 1 rfl) ?_
        refine lv_iconst (v := nI 4) hx hb dX2_crashes_23 (by decide) ?_
        refine lv_icmp_ne (tgt := 47) hx hb dX2_crashes_24 (by decide) (fun h9 => ?_) (fun h9 => ?_)
        · replace hvc_9 := hvc_9.1 h9
          exact jn47 y0 G _ _ _ hvc_9 hG_10 hS_11 (lv_sub hl_12 [0] rfl)
        · replace hvc_9 := hvc_9.2 h9
          refine lv_aload_n hx hb dX2_crashes_27 rfl (lv_at hl_12 0 rfl) ?_
          refine gw_gr (C := RX2) (T := TX2) (N := 11) (own := RX2) hx hb hts in_X2 hown hK hG_10 hvc_9 rfl (by decide) (hts _ q310) (fun _ h9 => h9) dX2_crashes_28 (fun x6 hvc_21 => ?_)
          clear hvc_9
          refine lv_iload_n hx hb dX2_crashes_31 rfl (lv_at hl_12 2 rfl) ?_
          refine lv_iconst (v := nI 0) hx hb dX2_crashes_32 (by decide) ?_
          refine gw_ist hx hb hK hG_10 hS_11 hvc_21 dX2_crashes_33 (fun G7 H locs hvc_22 hG_23 hS_24 => ?_)
          clear hvc_21 hG_10 hS_11
          refine lv_aload_n hx hb dX2_crashes_34 rfl (lv_at hl_12 0 rfl) ?_
          refine gw_gr (C := RX2) (T := TX2) (N := 11) (own := RX2) hx hb hts in_X2 hown hK hG_23 hvc_22 rfl (by decide) (hts _ q312) (fun _ h9 => h9) dX2_crashes_35 (fun x8 hvc_25 => ?_)
          clear hvc_22
          refine lv_iload_n hx hb dX2_crashes_38 rfl (lv_at hl_12 2 rfl) ?_
          refine lv_iconst (v := nI 0) hx hb dX2_crashes_39 (by decide) ?_
          refine gw_ist hx hb hK hG_23 hS_24 hvc_25 dX2_crashes_40 (fun G9 H locs hvc_26 hG_27 hS_28 => ?_)
          clear hvc_25 hG_23 hS_24
          refine lv_iinc (k := 2) (v := y2 + (nI 1)) (lv' := [(2, .int (y2 + (nI 1))), (0, .ref y0), (1, .int y1)]) hx hb dX2_crashes_41 hl_12 rfl (congrArg (y2 + ·) (by decide : Int32.ofInt (1) = nI 1)) (by decide) rfl (fun ls hl_29 => ?_)
          clear hl_12
          refine lv_goto (tgt := 16) hx hb dX2_crashes_44 (by decide) ?_
          exact ih16 y0 y1 (y2 + (nI 1)) G9 _ _ _ hvc_26 hG_27 hS_28 (lv_sub hl_29 [1, 2, 0] rfl)
  refine lv_istore_n (lv' := [(2, .int (nI 0)), (0, .ref o), (1, .int p1)]) hx hb dX2_crashes_15 rfl hl (by decide) rfl (fun ls hl_30 => ?_)
  clear hl
  obtain ⟨nf16, hvc_2⟩ := hvc_2
  exact lp16 nf16 o p1 (nI 0) G2 _ _ _ hvc_2 hG_3 hS_4 (lv_sub hl_30 [1, 2, 0] rfl)
set_option maxHeartbeats 4000000 in
set_option maxRecDepth 100000 in
theorem met_X4_init (l : Launch) (E : g_E) (G : g_G) (o : Nat) (p1 : Int32) (p2 : Int32) (p3 : Int32) (post : g_G → Prop) (hvc : wp_X4_init E G o p1 p2 p3 post) : g_MV E l yX4_init (ws_ yX4_init cX4_init 4 (Option.none : Option Jvm.ClassFile.FieldType)) ({ frames := 1, cells := 0, slots := 0, locals := 12 } : Room) (fun _ => True) [.ref o, .int p1, .int p2, .int p3] G (post) := by
  refine g_enter (by decide +kernel) (Nat.le_of_ble_eq_true rfl) ?_
  intro p e s m below meth c ls hx hb hr hts hown hlocks hml hin hz hX hK hG hS hl
  have hl : lv_has ls 4 [(0, .ref o), (1, .int p1), (2, .int p2), (3, .int p3)] := hl
  have hown : s.vm.findClass RX4 = some m.cls := hown
  unfold wp_X4_init at hvc
  refine lv_aload_n hx hb dX4_init_0 rfl (lv_at hl 0 rfl) ?_
  refine W.objInit hx hb hown (hts _ q1174) (hts _ q135) (hts _ q136) rfl (by rw [hml]; exact hl.1) rfl dX4_init_1 (Nat.le_of_ble_eq_true rfl) (Nat.le_of_ble_eq_true rfl) ?_
  refine W.eq (g2 := F0 m 4 ls []) rfl ?_
  refine lv_aload_n hx hb dX4_init_4 rfl (lv_at hl 0 rfl) ?_
  refine lv_iload_n hx hb dX4_init_5 rfl (lv_at hl 1 rfl) ?_
  refine gw_putF (ty := .int) (C := RX4) (T := TX4) (N := 3) (own := RX4) hx hb hts in_X4 tyX4 tyX4_ok nmX4 hown hK hG hS hvc rfl (by decide) (hts _ q1175) (fun _ h9 => h9) rfl hin rfl (by decide +kernel) rfl rfl dX4_init_6 (fun G1 H locs hvc_1 hG_2 hS_3 => ?_)
  clear hvc hG hS
  refine lv_aload_n hx hb dX4_init_9 rfl (lv_at hl 0 rfl) ?_
  refine lv_iload_n hx hb dX4_init_10 rfl (lv_at hl 2 rfl) ?_
  refine gw_putF (ty := .int) (C := RX4) (T := TX4) (N := 3) (own := RX4) hx hb hts in_X4 tyX4 tyX4_ok nmX4 hown hK hG_2 hS_3 hvc_1 rfl (by decide) (hts _ q1176) (fun _ h9 => h9) rfl hin rfl (by decide +kernel) rfl rfl dX4_init_11 (fun G2 H locs hvc_4 hG_5 hS_6 => ?_)
  clear hvc_1 hG_2 hS_3
  refine lv_aload_n hx hb dX4_init_14 rfl (lv_at hl 0 rfl) ?_
  refine lv_iload_n hx hb dX4_init_15 rfl (lv_at hl 3 rfl) ?_
  refine gw_putF (ty := .int) (C := RX4) (T := TX4) (N := 3) (own := RX4) hx hb hts in_X4 tyX4 tyX4_ok nmX4 hown hK hG_5 hS_6 hvc_4 rfl (by decide) (hts _ q1177) (fun _ h9 => h9) rfl hin rfl (by decide +kernel) rfl rfl dX4_init_16 (fun G3 H locs hvc_7 hG_8 hS_9 => ?_)
  clear hvc_4 hG_5 hS_6
  exact g_vret hx hb hr hlocks (Nat.zero_le _) (Nat.zero_le _) hG_8 hS_9 hvc_7 dX4_init_19
set_option maxHeartbeats 4000000 in
set_option maxRecDepth 100000 in
theorem met_X8_init (l : Launch) (E : g_E) (G : g_G) (o : Nat) (p1 : Nat) (post : g_G → Prop) (hvc : wp_X8_init E G o p1 post) : g_MV E l yX8_init (ws_ yX8_init cX8_init 2 (Option.none : Option Jvm.ClassFile.FieldType)) ({ frames := 1, cells := 0, slots := 0, locals := 12 } : Room) (fun _ => True) [.ref o, .ref p1] G (post) := by
  refine g_enter (by decide +kernel) (Nat.le_of_ble_eq_true rfl) ?_
  intro p e s m below meth c ls hx hb hr hts hown hlocks hml hin hz hX hK hG hS hl
  have hl : lv_has ls 2 [(0, .ref o), (1, .ref p1)] := hl
  have hown : s.vm.findClass RX8 = some m.cls := hown
  unfold wp_X8_init at hvc
  refine lv_aload_n hx hb dX8_init_0 rfl (lv_at hl 0 rfl) ?_
  refine W.objInit hx hb hown (hts _ q1189) (hts _ q135) (hts _ q136) rfl (by rw [hml]; exact hl.1) rfl dX8_init_1 (Nat.le_of_ble_eq_true rfl) (Nat.le_of_ble_eq_true rfl) ?_
  refine W.eq (g2 := F0 m 4 ls []) rfl ?_
  refine lv_aload_n hx hb dX8_init_4 rfl (lv_at hl 0 rfl) ?_
  refine lv_aload_n hx hb dX8_init_5 rfl (lv_at hl 1 rfl) ?_
  refine gw_putF (ty := .object "VoteLogs$Transfer") (C := RX8) (T := TX8) (N := 1) (own := RX8) hx hb hts in_X8 tyX8 tyX8_ok nmX8 hown hK hG hS hvc rfl (by decide) (hts _ q1190) (fun _ h9 => h9) rfl hin rfl (by decide +kernel) rfl rfl dX8_init_6 (fun G1 H locs hvc_1 hG_2 hS_3 => ?_)
  clear hvc hG hS
  exact g_vret hx hb hr hlocks (Nat.zero_le _) (Nat.zero_le _) hG_2 hS_3 hvc_1 dX8_init_9
set_option maxHeartbeats 4000000 in
set_option maxRecDepth 100000 in
theorem met_X9_init (l : Launch) (E : g_E) (G : g_G) (o : Nat) (p1 : Int32) (p2 : Int32) (p3 : Int32) (post : g_G → Prop) (hvc : wp_X9_init E G o p1 p2 p3 post) : g_MV E l yX9_init (ws_ yX9_init cX9_init 4 (Option.none : Option Jvm.ClassFile.FieldType)) ({ frames := 1, cells := 0, slots := 0, locals := 12 } : Room) (fun _ => True) [.ref o, .int p1, .int p2, .int p3] G (post) := by
  refine g_enter (by decide +kernel) (Nat.le_of_ble_eq_true rfl) ?_
  intro p e s m below meth c ls hx hb hr hts hown hlocks hml hin hz hX hK hG hS hl
  have hl : lv_has ls 4 [(0, .ref o), (1, .int p1), (2, .int p2), (3, .int p3)] := hl
  have hown : s.vm.findClass RX9 = some m.cls := hown
  unfold wp_X9_init at hvc
  refine lv_aload_n hx hb dX9_init_0 rfl (lv_at hl 0 rfl) ?_
  refine W.objInit hx hb hown (hts _ q1206) (hts _ q135) (hts _ q136) rfl (by rw [hml]; exact hl.1) rfl dX9_init_1 (Nat.le_of_ble_eq_true rfl) (Nat.le_of_ble_eq_true rfl) ?_
  refine W.eq (g2 := F0 m 4 ls []) rfl ?_
  refine lv_aload_n hx hb dX9_init_4 rfl (lv_at hl 0 rfl) ?_
  refine lv_iload_n hx hb dX9_init_5 rfl (lv_at hl 1 rfl) ?_
  refine gw_putFn (C := RX9) (T := TX9) (N := 3) (own := RX9) hx hb hts in_X9 tyX9 tyX9_ok nmX9 hown hK hG hS hvc rfl (by decide) (hts _ q1207) (fun _ h9 => h9) rfl hin rfl (by decide +kernel) dX9_init_6 (fun G1 H locs hvc_1 hG_2 hS_3 => ?_)
  clear hvc hG hS
  refine lv_aload_n hx hb dX9_init_9 rfl (lv_at hl 0 rfl) ?_
  refine lv_iload_n hx hb dX9_init_10 rfl (lv_at hl 2 rfl) ?_
  refine gw_putF (ty := .int) (C := RX9) (T := TX9) (N := 3) (own := RX9) hx hb hts in_X9 tyX9 tyX9_ok nmX9 hown hK hG_2 hS_3 hvc_1 rfl (by decide) (hts _ q1209) (fun _ h9 => h9) rfl hin rfl (by decide +kernel) rfl rfl dX9_init_11 (fun G2 H locs hvc_4 hG_5 hS_6 => ?_)
  clear hvc_1 hG_2 hS_3
  refine lv_aload_n hx hb dX9_init_14 rfl (lv_at hl 0 rfl) ?_
  refine lv_iload_n hx hb dX9_init_15 rfl (lv_at hl 3 rfl) ?_
  refine gw_putF (ty := .int) (C := RX9) (T := TX9) (N := 3) (own := RX9) hx hb hts in_X9 tyX9 tyX9_ok nmX9 hown hK hG_5 hS_6 hvc_4 rfl (by decide) (hts _ q1211) (fun _ h9 => h9) rfl hin rfl (by decide +kernel) rfl rfl dX9_init_16 (fun G3 H locs hvc_7 hG_8 hS_9 => ?_)
  clear hvc_4 hG_5 hS_6
  exact g_vret hx hb hr hlocks (Nat.zero_le _) (Nat.zero_le _) hG_8 hS_9 hvc_7 dX9_init_19
