/-! printed by tools/gen.py -/
set_option maxHeartbeats 4000000 in
set_option maxRecDepth 100000 in
theorem met_X3_transfers (l : Launch) (E : g_E) (G : g_G) (o : Nat) (post : Int32 → g_G → Prop) (hvc : wp_X3_transfers E G o post) : g_MI E l yX3_transfers (ws_ yX3_transfers cX3_transfers 1 (Option.some Jvm.ClassFile.FieldType.int)) ({ frames := 0, cells := 0, slots := 0, locals := 0 } : Room) (fun _ => True) [.ref o] G (post) := by
  refine g_enter (by decide +kernel) (Nat.le_of_ble_eq_true rfl) ?_
  intro p e s m below meth c ls hx hb hr hts hown hlocks hml hin hz hX hK hG hS hl
  have hl : lv_has ls 1 [(0, .ref o)] := hl
  have hown : s.vm.findClass RX3 = some m.cls := hown
  unfold wp_X3_transfers at hvc
  refine lv_aload_n hx hb dX3_transfers_0 rfl (lv_at hl 0 rfl) ?_
  refine lv_iconst (v := nI 0) hx hb dX3_transfers_1 (by decide) ?_
  refine gw_put (ty := .int) (C := RX3) (T := TX3) (N := 13) (own := RX3) hx hb hts in_X3 tyX3 tyX3_ok nmX3 hown hK hG hS hvc rfl (by decide) (hts _ q1783) (fun _ h9 => h9) rfl (by decide +kernel) rfl rfl dX3_transfers_2 (fun G1 H locs hvc_1 hG_2 hS_3 => ?_)
  clear hvc hG hS
  refine lv_aload_n hx hb dX3_transfers_5 rfl (lv_at hl 0 rfl) ?_
  refine gw_gr (C := RX3) (T := TX3) (N := 13) (own := RX3) hx hb hts in_X3 hown hK hG_2 hvc_1 rfl (by decide) (hts _ q1784) (fun _ h9 => h9) dX3_transfers_6 (fun x2 hvc_4 => ?_)
  clear hvc_1
  refine lv_bipush (v := nI 9) hx hb dX3_transfers_9 (by decide) ?_
  refine gw_ild hx hb hK hG_2 hvc_4 dX3_transfers_11 (fun x3 hvc_5 => ?_)
  clear hvc_4
  exact g_iret hx hb hr hlocks (Nat.zero_le _) (Nat.zero_le _) hG_2 hS_3 rfl hvc_5 dX3_transfers_12
set_option maxHeartbeats 4000000 in
set_option maxRecDepth 100000 in
theorem met_X3_partners (l : Launch) (E : g_E) (G : g_G) (o : Nat) (p1 : Int32) (post : Int32 → g_G → Prop) (hvc : wp_X3_partners E G o p1 post) : g_MI E l yX3_partners (ws_ yX3_partners cX3_partners 2 (Option.some Jvm.ClassFile.FieldType.int)) ({ frames := 2, cells := 0, slots := 0, locals := 43 } : Room) (fun _ => True) [.ref o, .int p1] G (post) := by
  refine g_enter (by decide +kernel) (Nat.le_of_ble_eq_true rfl) ?_
  intro p e s m below meth c ls hx hb hr hts hown hlocks hml hin hz hX hK hG hS hl
  have hl : lv_has ls 2 [(0, .ref o), (1, .int p1)] := hl
  have hown : s.vm.findClass RX3 = some m.cls := hown
  unfold wp_X3_partners at hvc
  refine lv_aload_n hx hb dX3_partners_0 rfl (lv_at hl 0 rfl) ?_
  refine lv_iconst (v := nI 0) hx hb dX3_partners_1 (by decide) ?_
  refine gw_put (ty := .int) (C := RX3) (T := TX3) (N := 13) (own := RX3) hx hb hts in_X3 tyX3 tyX3_ok nmX3 hown hK hG hS hvc rfl (by decide) (hts _ q1783) (fun _ h9 => h9) rfl (by decide +kernel) rfl rfl dX3_partners_2 (fun G1 H locs hvc_1 hG_2 hS_3 => ?_)
  clear hvc hG hS
  refine lv_aload_n hx hb dX3_partners_5 rfl (lv_at hl 0 rfl) ?_
  refine lv_iload_n hx hb dX3_partners_6 rfl (lv_at hl 1 rfl) ?_
  refine gw_cVIP (As := [.int p1]) (rest := [])  ⟨hx, hb, hml, hown, hts⟩ (met_X3_isTransfer l E G1 o p1 _ hvc_1.2) (cwV 1 hts (lw_V q1884 q1886 qs43 q104 q1887) rfl rfl rfl (by decide +kernel) ⟨Nat.le_of_ble_eq_true rfl, Nat.le_of_ble_eq_true rfl⟩) (gw_rc (q := (RX3, TX3, 13)) hK hG_2 hvc_1.1 rfl) (Nat.zero_le _) (Nat.zero_le _) (g_St0 E) hz trivial hK hG_2 hS_3 rfl hl.1 rfl (Nat.le_of_ble_eq_true rfl) dX3_partners_7 (fun x2 H locs hvc_4 hG_5 hS_6 => ?_)
  clear hvc_1 hG_2 hS_3
  refine lv_if_eq (tgt := 21) hx hb dX3_partners_10 (by decide) (fun h9 => ?_) (fun h9 => ?_)
  · replace hvc_4 := hvc_4.1 h9
    refine lv_aload_n hx hb dX3_partners_21 rfl (lv_at hl 0 rfl) ?_
    refine lv_iconst (v := nI 1) hx hb dX3_partners_22 (by decide) ?_
    refine gw_cVIN (As := [.int (nI 1)]) (rest := [])  ⟨hx, hb, hml, hown, hts⟩ (met_X3_fails l E G1 o (nI 1) _ hvc_4.2) (cwV 1 hts (lw_V q1837 q1839 qs33 q104 q1840) rfl rfl rfl (by decide +kernel) ⟨Nat.le_of_ble_eq_true rfl, Nat.le_of_ble_eq_true rfl⟩) (gw_rc (q := (RX3, TX3, 13)) hK hG_5 hvc_4.1 rfl) (Nat.zero_le _) (Nat.zero_le _) (g_St0 E) hz trivial hK hG_5 hS_6 rfl hl.1 rfl (Nat.le_of_ble_eq_true rfl) dX3_partners_23 (fun x4 G5 H locs hvc_7 hG_8 hS_9 => ?_)
    clear hvc_4 hG_5 hS_6
    exact g_iret hx hb hr hlocks (Nat.zero_le _) (Nat.zero_le _) hG_8 hS_9 rfl hvc_7 dX3_partners_26
  · replace hvc_4 := hvc_4.2 h9
    refine lv_aload_n hx hb dX3_partners_13 rfl (lv_at hl 0 rfl) ?_
    refine lv_iload_n hx hb dX3_partners_14 rfl (lv_at hl 1 rfl) ?_
    refine gw_cVIP (As := [.int p1]) (rest := [])  ⟨hx, hb, hml, hown, hts⟩ (met_X3_all l E G1 o p1 _ hvc_4.2) (cwV 1 hts (lw_V q1868 q1870 qs40 q104 q1871) rfl rfl rfl (by decide +kernel) ⟨Nat.le_of_ble_eq_true rfl, Nat.le_of_ble_eq_true rfl⟩) (gw_rc (q := (RX3, TX3, 13)) hK hG_5 hvc_4.1 rfl) (Nat.zero_le _) (Nat.zero_le _) (g_St0 E) hz trivial hK hG_5 hS_6 rfl hl.1 rfl (Nat.le_of_ble_eq_true rfl) dX3_partners_15 (fun x6 H locs hvc_10 hG_11 hS_12 => ?_)
    clear hvc_4 hG_5 hS_6
    refine lv_goto (tgt := 26) hx hb dX3_partners_18 (by decide) ?_
    exact g_iret hx hb hr hlocks (Nat.zero_le _) (Nat.zero_le _) hG_11 hS_12 rfl hvc_10 dX3_partners_26
set_option maxHeartbeats 4000000 in
set_option maxRecDepth 100000 in
theorem met_X3_share (l : Launch) (E : g_E) (G : g_G) (o : Nat) (p1 : Int32) (p2 : Int32) (post : Int32 → g_G → Prop) (hvc : wp_X3_share E G o p1 p2 post) : g_MI E l yX3_share (ws_ yX3_share cX3_share 3 (Option.some Jvm.ClassFile.FieldType.int)) ({ frames := 3, cells := 0, slots := 0, locals := 68 } : Room) (fun _ => True) [.ref o, .int p1, .int p2] G (post) := by
  refine g_enter (by decide +kernel) (Nat.le_of_ble_eq_true rfl) ?_
  intro p e s m below meth c ls hx hb hr hts hown hlocks hml hin hz hX hK hG hS hl
  have hl : lv_has ls 3 [(0, .ref o), (1, .int p1), (2, .int p2)] := hl
  have hown : s.vm.findClass RX3 = some m.cls := hown
  unfold wp_X3_share at hvc
  refine lv_aload_n hx hb dX3_share_0 rfl (lv_at hl 0 rfl) ?_
  refine lv_iconst (v := nI 0) hx hb dX3_share_1 (by decide) ?_
  refine gw_put (ty := .int) (C := RX3) (T := TX3) (N := 13) (own := RX3) hx hb hts in_X3 tyX3 tyX3_ok nmX3 hown hK hG hS hvc rfl (by decide) (hts _ q1783) (fun _ h9 => h9) rfl (by decide +kernel) rfl rfl dX3_share_2 (fun G1 H locs hvc_1 hG_2 hS_3 => ?_)
  clear hvc hG hS
  refine lv_aload_n hx hb dX3_share_5 rfl (lv_at hl 0 rfl) ?_
  refine lv_iload_n hx hb dX3_share_6 rfl (lv_at hl 1 rfl) ?_
  refine gw_cVIP (As := [.int p1]) (rest := [])  ⟨hx, hb, hml, hown, hts⟩ (met_X3_isTransfer l E G1 o p1 _ hvc_1.2) (cwV 1 hts (lw_V q1884 q1886 qs43 q104 q1887) rfl rfl rfl (by decide +kernel) ⟨Nat.le_of_ble_eq_true rfl, Nat.le_of_ble_eq_true rfl⟩) (gw_rc (q := (RX3, TX3, 13)) hK hG_2 hvc_1.1 rfl) (Nat.zero_le _) (Nat.zero_le _) (g_St0 E) hz trivial hK hG_2 hS_3 rfl hl.1 rfl (Nat.le_of_ble_eq_true rfl) dX3_share_7 (fun x2 H locs hvc_4 hG_5 hS_6 => ?_)
  clear hvc_1 hG_2 hS_3
  have jn29 : ∀ (y0 : Nat) (G : g_G) (H : Heap) (locs : List Loc) (ls : Array Slot), wp_X3_share_29 E post y0 G → g_H E G H → va_S (g_A E) s.heap H locs → lv_has ls 3 [(0, .ref y0)] → W p l e ({ frames := 3, cells := 0, slots := 0, locals := 68 } : Room) s m ([.ref o, .int p1, .int p2] : List Value).toArray below meth c H locs 0 0 (MQ below (va_Qi (post) (g_Bk E) (g_A E)) ([.ref o, .int p1, .int p2] : List Value).toArray s 0 0 (g_A E)) (F0 m 29 ls []) := by
    clear hvc_4 hG_5 hS_6 hl
    intro y0 G H locs ls hvc_7 hG_8 hS_9 hl_10
    refine lv_aload_n hx hb dX3_share_29 rfl (lv_at hl_10 0 rfl) ?_
    refine lv_iconst (v := nI 1) hx hb dX3_share_30 (by decide) ?_
    refine gw_cVIN (As := [.int (nI 1)]) (rest := [])  ⟨hx, hb, hml, hown, hts⟩ (met_X3_fails l E G y0 (nI 1) _ hvc_7.2) (cwV 1 hts (lw_V q1837 q1839 qs33 q104 q1840) rfl rfl rfl (by decide +kernel) ⟨Nat.le_of_ble_eq_true rfl, Nat.le_of_ble_eq_true rfl⟩) (gw_rc (q := (RX3, TX3, 13)) hK hG_8 hvc_7.1 rfl) (Nat.zero_le _) (Nat.zero_le _) (g_St0 E) hz trivial hK hG_8 hS_9 rfl hl_10.1 rfl (Nat.le_of_ble_eq_true rfl) dX3_share_31 (fun x4 G5 H locs hvc_11 hG_12 hS_13 => ?_)
    clear hvc_7 hG_8 hS_9
    exact g_iret hx hb hr hlocks (Nat.zero_le _) (Nat.zero_le _) hG_12 hS_13 rfl hvc_11 dX3_share_34
  refine lv_if_eq (tgt := 29) hx hb dX3_share_10 (by decide) (fun h9 => ?_) (fun h9 => ?_)
  · replace hvc_4 := hvc_4.1 h9
    exact jn29 o G1 _ _ _ hvc_4 hG_5 hS_6 (lv_sub hl [0] rfl)
  · replace hvc_4 := hvc_4.2 h9
    refine lv_iload_n hx hb dX3_share_13 rfl (lv_at hl 2 rfl) ?_
    refine gw_cSIP (As := [.int p2]) (rest := [])  ⟨hx, hb, hml, hown, hts⟩ (met_X3_isStore l E G1 p2 _ hvc_4) (va_cwS 1 hts (lw_S q1831 q1832 q104 q1833) rfl rfl rfl (by decide +kernel) ⟨Nat.le_of_ble_eq_true rfl, Nat.le_of_ble_eq_true rfl⟩) (Nat.zero_le _) (Nat.zero_le _) (g_St0 E) hz trivial hK hG_5 hS_6 rfl hl.1 rfl (Nat.le_of_ble_eq_true rfl) dX3_share_14 (fun x6 H locs hvc_14 hG_15 hS_16 => ?_)
    clear hvc_4 hG_5 hS_6
    refine lv_if_eq (tgt := 29) hx hb dX3_share_17 (by decide) (fun h9 => ?_) (fun h9 => ?_)
    · replace hvc_14 := hvc_14.1 h9
      exact jn29 o G1 _ _ _ hvc_14 hG_15 hS_16 (lv_sub hl [0] rfl)
    · replace hvc_14 := hvc_14.2 h9
      refine lv_aload_n hx hb dX3_share_20 rfl (lv_at hl 0 rfl) ?_
      refine lv_iload_n hx hb dX3_share_21 rfl (lv_at hl 1 rfl) ?_
      refine lv_iload_n hx hb dX3_share_22 rfl (lv_at hl 2 rfl) ?_
      refine gw_cVIP (As := [.int p1, .int p2]) (rest := [])  ⟨hx, hb, hml, hown, hts⟩ (met_X3_shareIn l E G1 o p1 p2 _ hvc_14.2) (cwV 2 hts (lw_V q1935 q1937 qs53 q104 q1938) rfl rfl rfl (by decide +kernel) ⟨Nat.le_of_ble_eq_true rfl, Nat.le_of_ble_eq_true rfl⟩) (gw_rc (q := (RX3, TX3, 13)) hK hG_15 hvc_14.1 rfl) (Nat.zero_le _) (Nat.zero_le _) (g_St0 E) hz trivial hK hG_15 hS_16 rfl hl.1 rfl (Nat.le_of_ble_eq_true rfl) dX3_share_23 (fun x8 H locs hvc_17 hG_18 hS_19 => ?_)
      clear hvc_14 hG_15 hS_16
      refine lv_goto (tgt := 34) hx hb dX3_share_26 (by decide) ?_
      exact g_iret hx hb hr hlocks (Nat.zero_le _) (Nat.zero_le _) hG_18 hS_19 rfl hvc_17 dX3_share_34
set_option maxHeartbeats 4000000 in
set_option maxRecDepth 100000 in
theorem met_X3_isUp (l : Launch) (E : g_E) (G : g_G) (o : Nat) (p1 : Int32) (post : Int32 → g_G → Prop) (hvc : wp_X3_isUp E G o p1 post) : g_MI E l yX3_isUp (ws_ yX3_isUp cX3_isUp 2 (Option.some Jvm.ClassFile.FieldType.boolean)) ({ frames := 2, cells := 0, slots := 0, locals := 42 } : Room) (fun _ => True) [.ref o, .int p1] G (post) := by
  refine g_enter (by decide +kernel) (Nat.le_of_ble_eq_true rfl) ?_
  intro p e s m below meth c ls hx hb hr hts hown hlocks hml hin hz hX hK hG hS hl
  have hl : lv_has ls 2 [(0, .ref o), (1, .int p1)] := hl
  have hown : s.vm.findClass RX3 = some m.cls := hown
  unfold wp_X3_isUp at hvc
  refine lv_aload_n hx hb dX3_isUp_0 rfl (lv_at hl 0 rfl) ?_
  refine lv_iconst (v := nI 0) hx hb dX3_isUp_1 (by decide) ?_
  refine gw_put (ty := .int) (C := RX3) (T := TX3) (N := 13) (own := RX3) hx hb hts in_X3 tyX3 tyX3_ok nmX3 hown hK hG hS hvc rfl (by decide) (hts _ q1783) (fun _ h9 => h9) rfl (by decide +kernel) rfl rfl dX3_isUp_2 (fun G1 H locs hvc_1 hG_2 hS_3 => ?_)
  clear hvc hG hS
  refine lv_iload_n hx hb dX3_isUp_5 rfl (lv_at hl 1 rfl) ?_
  refine gw_cSIP (As := [.int p1]) (rest := [])  ⟨hx, hb, hml, hown, hts⟩ (met_X3_isSite l E G1 p1 _ hvc_1) (va_cwS 1 hts (lw_S q1982 q1983 q104 q1984) rfl rfl rfl (by decide +kernel) ⟨Nat.le_of_ble_eq_true rfl, Nat.le_of_ble_eq_true rfl⟩) (Nat.zero_le _) (Nat.zero_le _) (g_St0 E) hz trivial hK hG_2 hS_3 rfl hl.1 rfl (Nat.le_of_ble_eq_true rfl) dX3_isUp_6 (fun x2 H locs hvc_4 hG_5 hS_6 => ?_)
  clear hvc_1 hG_2 hS_3
  refine lv_if_eq (tgt := 32) hx hb dX3_isUp_9 (by decide) (fun h9 => ?_) (fun h9 => ?_)
  · replace hvc_4 := hvc_4.1 h9
    refine lv_aload_n hx hb dX3_isUp_32 rfl (lv_at hl 0 rfl) ?_
    refine lv_iconst (v := nI 1) hx hb dX3_isUp_33 (by decide) ?_
    refine gw_cVIN (As := [.int (nI 1)]) (rest := [])  ⟨hx, hb, hml, hown, hts⟩ (met_X3_fails l E G1 o (nI 1) _ hvc_4.2) (cwV 1 hts (lw_V q1837 q1839 qs33 q104 q1840) rfl rfl rfl (by decide +kernel) ⟨Nat.le_of_ble_eq_true rfl, Nat.le_of_ble_eq_true rfl⟩) (gw_rc (q := (RX3, TX3, 13)) hK hG_5 hvc_4.1 rfl) (Nat.zero_le _) (Nat.zero_le _) (g_St0 E) hz trivial hK hG_5 hS_6 rfl hl.1 rfl (Nat.le_of_ble_eq_true rfl) dX3_isUp_34 (fun x4 G5 H locs hvc_7 hG_8 hS_9 => ?_)
    clear hvc_4 hG_5 hS_6
    refine lv_if_le (tgt := 44) hx hb dX3_isUp_37 (by decide) (fun h9 => ?_) (fun h9 => ?_)
    · replace hvc_7 := hvc_7.1 h9
      refine lv_iconst (v := nI 0) hx hb dX3_isUp_44 (by decide) ?_
      exact g_iret hx hb hr hlocks (Nat.zero_le _) (Nat.zero_le _) hG_8 hS_9 rfl hvc_7 dX3_isUp_45
    · replace hvc_7 := hvc_7.2 h9
      refine lv_iconst (v := nI 1) hx hb dX3_isUp_40 (by decide) ?_
      refine lv_goto (tgt := 45) hx hb dX3_isUp_41 (by decide) ?_
      exact g_iret hx hb hr hlocks (Nat.zero_le _) (Nat.zero_le _) hG_8 hS_9 rfl hvc_7 dX3_isUp_45
  · replace hvc_4 := hvc_4.2 h9
    refine lv_aload_n hx hb dX3_isUp_12 rfl (lv_at hl 0 rfl) ?_
    refine gw_gr (C := RX3) (T := TX3) (N := 13) (own := RX3) hx hb hts in_X3 hown hK hG_5 hvc_4 rfl (by decide) (hts _ q1784) (fun _ h9 => h9) dX3_isUp_13 (fun x6 hvc_10 => ?_)
    clear hvc_4
    refine lv_iconst (v := nI 0) hx hb dX3_isUp_16 (by decide) ?_
    refine lv_iload_n hx hb dX3_isUp_17 rfl (lv_at hl 1 rfl) ?_
    refine lv_iadd hx hb dX3_isUp_18 ?_
    refine gw_ild hx hb hK hG_5 hvc_10 dX3_isUp_19 (fun x7 hvc_11 => ?_)
    clear hvc_10
    refine lv_iconst (v := nI 1) hx hb dX3_isUp_20 (by decide) ?_
    refine lv_icmp_ne (tgt := 28) hx hb dX3_isUp_21 (by decide) (fun h9 => ?_) (fun h9 => ?_)
    · replace hvc_11 := hvc_11.1 h9
      refine lv_iconst (v := nI 0) hx hb dX3_isUp_28 (by decide) ?_
      refine lv_goto (tgt := 45) hx hb dX3_isUp_29 (by decide) ?_
      exact g_iret hx hb hr hlocks (Nat.zero_le _) (Nat.zero_le _) hG_5 hS_6 rfl hvc_11 dX3_isUp_45
    · replace hvc_11 := hvc_11.2 h9
      refine lv_iconst (v := nI 1) hx hb dX3_isUp_24 (by decide) ?_
      refine lv_goto (tgt := 45) hx hb dX3_isUp_25 (by decide) ?_
      exact g_iret hx hb hr hlocks (Nat.zero_le _) (Nat.zero_le _) hG_5 hS_6 rfl hvc_11 dX3_isUp_45
set_option maxHeartbeats 4000000 in
set_option maxRecDepth 100000 in
theorem met_X3_amount (l : Launch) (E : g_E) (G : g_G) (o : Nat) (p1 : Int32) (post : Int32 → g_G → Prop) (hvc : wp_X3_amount E G o p1 post) : g_MI E l yX3_amount (ws_ yX3_amount cX3_amount 2 (Option.some Jvm.ClassFile.FieldType.int)) ({ frames := 2, cells := 0, slots := 0, locals := 42 } : Room) (fun _ => True) [.ref o, .int p1] G (post) := by
  refine g_enter (by decide +kernel) (Nat.le_of_ble_eq_true rfl) ?_
  intro p e s m below meth c ls hx hb hr hts hown hlocks hml hin hz hX hK hG hS hl
  have hl : lv_has ls 2 [(0, .ref o), (1, .int p1)] := hl
  have hown : s.vm.findClass RX3 = some m.cls := hown
  unfold wp_X3_amount at hvc
  refine lv_aload_n hx hb dX3_amount_0 rfl (lv_at hl 0 rfl) ?_
  refine lv_iconst (v := nI 0) hx hb dX3_amount_1 (by decide) ?_
  refine gw_put (ty := .int) (C := RX3) (T := TX3) (N := 13) (own := RX3) hx hb hts in_X3 tyX3 tyX3_ok nmX3 hown hK hG hS hvc rfl (by decide) (hts _ q1783) (fun _ h9 => h9) rfl (by decide +kernel) rfl rfl dX3_amount_2 (fun G1 H locs hvc_1 hG_2 hS_3 => ?_)
  clear hvc hG hS
  refine lv_iload_n hx hb dX3_amount_5 rfl (lv_at hl 1 rfl) ?_
  refine gw_cSIP (As := [.int p1]) (rest := [])  ⟨hx, hb, hml, hown, hts⟩ (met_X3_isStore l E G1 p1 _ hvc_1) (va_cwS 1 hts (lw_S q1831 q1832 q104 q1833) rfl rfl rfl (by decide +kernel) ⟨Nat.le_of_ble_eq_true rfl, Nat.le_of_ble_eq_true rfl⟩) (Nat.zero_le _) (Nat.zero_le _) (g_St0 E) hz trivial hK hG_2 hS_3 rfl hl.1 rfl (Nat.le_of_ble_eq_true rfl) dX3_amount_6 (fun x2 H locs hvc_4 hG_5 hS_6 => ?_)
  clear hvc_1 hG_2 hS_3
  refine lv_if_eq (tgt := 23) hx hb dX3_amount_9 (by decide) (fun h9 => ?_) (fun h9 => ?_)
  · replace hvc_4 := hvc_4.1 h9
    refine lv_aload_n hx hb dX3_amount_23 rfl (lv_at hl 0 rfl) ?_
    refine lv_iconst (v := nI 1) hx hb dX3_amount_24 (by decide) ?_
    refine gw_cVIN (As := [.int (nI 1)]) (rest := [])  ⟨hx, hb, hml, hown, hts⟩ (met_X3_fails l E G1 o (nI 1) _ hvc_4.2) (cwV 1 hts (lw_V q1837 q1839 qs33 q104 q1840) rfl rfl rfl (by decide +kernel) ⟨Nat.le_of_ble_eq_true rfl, Nat.le_of_ble_eq_true rfl⟩) (gw_rc (q := (RX3, TX3, 13)) hK hG_5 hvc_4.1 rfl) (Nat.zero_le _) (Nat.zero_le _) (g_St0 E) hz trivial hK hG_5 hS_6 rfl hl.1 rfl (Nat.le_of_ble_eq_true rfl) dX3_amount_25 (fun x4 G5 H locs hvc_7 hG_8 hS_9 => ?_)
    clear hvc_4 hG_5 hS_6
    exact g_iret hx hb hr hlocks (Nat.zero_le _) (Nat.zero_le _) hG_8 hS_9 rfl hvc_7 dX3_amount_28
  · replace hvc_4 := hvc_4.2 h9
    refine lv_aload_n hx hb dX3_amount_12 rfl (lv_at hl 0 rfl) ?_
    refine gw_gr (C := RX3) (T := TX3) (N := 13) (own := RX3) hx hb hts in_X3 hown hK hG_5 hvc_4 rfl (by decide) (hts _ q1784) (fun _ h9 => h9) dX3_amount_13 (fun x6 hvc_10 => ?_)
    clear hvc_4
    refine lv_iconst (v := nI 5) hx hb dX3_amount_16 (by decide) ?_
    refine lv_iload_n hx hb dX3_amount_17 rfl (lv_at hl 1 rfl) ?_
    refine lv_iadd hx hb dX3_amount_18 ?_
    refine gw_ild hx hb hK hG_5 hvc_10 dX3_amount_19 (fun x7 hvc_11 => ?_)
    clear hvc_10
    refine lv_goto (tgt := 28) hx hb dX3_amount_20 (by decide) ?_
    exact g_iret hx hb hr hlocks (Nat.zero_le _) (Nat.zero_le _) hG_5 hS_6 rfl hvc_11 dX3_amount_28
set_option maxHeartbeats 4000000 in
set_option maxRecDepth 100000 in
theorem met_X3_amountLogged (l : Launch) (E : g_E) (G : g_G) (o : Nat) (p1 : Int32) (post : Int32 → Prop) (hvc : wp_X3_amountLogged E G o p1 post) : g_MI E l yX3_amountLogged (ws_ yX3_amountLogged cX3_amountLogged 5 (Option.some Jvm.ClassFile.FieldType.int)) ({ frames := 3, cells := 0, slots := 0, locals := 68 } : Room) (fun _ => True) [.ref o, .int p1] G (fun v G9 => G9 = G ∧ post v) := by
  refine g_enter (by decide +kernel) (Nat.le_of_ble_eq_true rfl) ?_
  intro p e s m below meth c ls hx hb hr hts hown hlocks hml hin hz hX hK hG hS hl
  have hl : lv_has ls 5 [(0, .ref o), (1, .int p1)] := hl
  have hown : s.vm.findClass RX3 = some m.cls := hown
  unfold wp_X3_amountLogged at hvc
  refine lv_bipush (v := nI 100) hx hb dX3_amountLogged_0 (by decide) ?_
  refine lv_istore_n (lv' := [(2, .int (nI 100)), (0, .ref o), (1, .int p1)]) hx hb dX3_amountLogged_2 rfl hl (by decide) rfl (fun ls hl_1 => ?_)
  clear hl
  refine lv_iconst (v := nI 0) hx hb dX3_amountLogged_3 (by decide) ?_
  have lp5 : ∀ (n5 : Nat) (y0 : Nat) (y1 : Int32) (y2 : Int32) (y3 : Int32) (H : Heap) (locs : List Loc) (ls : Array Slot), wp_X3_amountLogged_5 E G post n5 y0 y1 y2 y3 → g_H E G H → va_S (g_A E) s.heap H locs → lv_has ls 5 [(0, .ref y0), (1, .int y1), (2, .int y2), (3, .int y3)] → W p l e ({ frames := 3, cells := 0, slots := 0, locals := 68 } : Room) s m ([.ref o, .int p1] : List Value).toArray below meth c H locs 0 0 (MQ below (va_Qi (fun v G9 => G9 = G ∧ post v) (g_Bk E) (g_A E)) ([.ref o, .int p1] : List Value).toArray s 0 0 (g_A E)) (F0 m 5 ls []) := by
    clear hvc hG hS hl_1
    intro n5
    induction n5 with
    | zero =>
      intro y0 y1 y2 y3 H locs ls hvc_2 hG_3 hS_4 hl_5
      exact False.elim hvc_2
    | succ n5 ih5 =>
      intro y0 y1 y2 y3 H locs ls hvc_6 hG_7 hS_8 hl_9
      refine lv_iload_n hx hb dX3_amountLogged_5 rfl (lv_at hl_9 3 rfl) ?_
      refine lv_aload_n hx hb dX3_amountLogged_6 rfl (lv_at hl_9 0 rfl) ?_
      refine gw_gr (C := RX3) (T := TX3) (N := 13) (own := RX3) hx hb hts in_X3 hown hK hG_7 hvc_6 rfl (by decide) (hts _ q1784) (fun _ h9 => h9) dX3_amountLogged_7 (fun x1 hvc_10 => ?_)
      clear hvc_6
      refine lv_bipush (v := nI 102) hx hb dX3_amountLogged_10 (by decide) ?_
      refine lv_iload_n hx hb dX3_amountLogged_12 rfl (lv_at hl_9 1 rfl) ?_
      refine lv_iadd hx hb dX3_amountLogged_13 ?_
      refine gw_ild hx hb hK hG_7 hvc_10 dX3_amountLogged_14 (fun x2 hvc_11 => ?_)
      clear hvc_10
      refine lv_icmp_ge (tgt := 66) hx hb dX3_amountLogged_15 (by decide) (fun h9 => ?_) (fun h9 => ?_)
      · replace hvc_11 := hvc_11.1 h9
        refine lv_iload_n hx hb dX3_amountLogged_66 rfl (lv_at hl_9 2 rfl) ?_
        exact g_iret hx hb hr hlocks (Nat.zero_le _) (Nat.zero_le _) hG_7 hS_8 rfl ⟨rfl, hvc_11⟩ dX3_amountLogged_67
      · replace hvc_11 := hvc_11.2 h9
        refine lv_aload_n hx hb dX3_amountLogged_18 rfl (lv_at hl_9 0 rfl) ?_
        refine gw_gr (C := RX3) (T := TX3) (N := 13) (own := RX3) hx hb hts in_X3 hown hK hG_7 hvc_11 rfl (by decide) (hts _ q1784) (fun _ h9 => h9) dX3_amountLogged_19 (fun x3 hvc_12 => ?_)
        clear hvc_11
        refine lv_bipush (v := nI 107) hx hb dX3_amountLogged_22 (by decide) ?_
        refine lv_bipush (v := nI 16) hx hb dX3_amountLogged_24 (by decide) ?_
        refine lv_iload_n hx hb dX3_amountLogged_26 rfl (lv_at hl_9 1 rfl) ?_
        refine lv_imul hx hb dX3_amountLogged_27 ?_
        refine lv_iadd hx hb dX3_amountLogged_28 ?_
        refine lv_iload_n hx hb dX3_amountLogged_29 rfl (lv_at hl_9 3 rfl) ?_
        refine lv_iadd hx hb dX3_amountLogged_30 ?_
        refine gw_ild hx hb hK hG_7 hvc_12 dX3_amountLogged_31 (fun x4 hvc_13 => ?_)
        clear hvc_12
        refine lv_istore (lv' := [(4, .int x4), (0, .ref y0), (1, .int y1), (2, .int y2), (3, .int y3)]) hx hb dX3_amountLogged_32 hl_9 (by decide) rfl (fun ls hl_14 => ?_)
        clear hl_9
        refine lv_iload_n hx hb dX3_amountLogged_34 rfl (lv_at hl_14 3 rfl) ?_
        refine lv_iload hx hb dX3_amountLogged_35 (lv_at hl_14 0 rfl) ?_
        refine lv_bipush (v := nI 8) hx hb dX3_amountLogged_37 (by decide) ?_
        refine lv_idiv hx hb dX3_amountLogged_39 (by decide) ?_
        refine lv_iconst (v := nI 1) hx hb dX3_amountLogged_40 (by decide) ?_
        have jn58 : ∀ (y0 : Nat) (y1 : Int32) (y3 : Int32) (s0 : Int32) (s1 : Int32) (H : Heap) (locs : List Loc) (ls : Array Slot), wp_X3_amountLogged_58 E G post (wp_X3_amountLogged_5 E G post n5) y0 y1 y3 s0 s1 → g_H E G H → va_S (g_A E) s.heap H locs → lv_has ls 5 [(0, .ref y0), (1, .int y1), (3, .int y3)] → W p l e ({ frames := 3, cells := 0, slots := 0, locals := 68 } : Room) s m ([.ref o, .int p1] : List Value).toArray below meth c H locs 0 0 (MQ below (va_Qi (fun v G9 => G9 = G ∧ post v) (g_Bk E) (g_A E)) ([.ref o, .int p1] : List Value).toArray s 0 0 (g_A E)) (F0 m 58 ls [.int s0, .int s1]) := by
          clear hvc_13 hG_7 hS_8 hl_14
          intro y0 y1 y3 s0 s1 H locs ls hvc_15 hG_16 hS_17 hl_18
          refine lv_iadd hx hb dX3_amountLogged_58 ?_
          refine lv_istore_n (lv' := [(2, .int (s1 + s0)), (0, .ref y0), (1, .int y1), (3, .int y3)]) hx hb dX3_amountLogged_59 rfl hl_18 (by decide) rfl (fun ls hl_19 => ?_)
          clear hl_18
          refine lv_iinc (k := 3) (v := y3 + (nI 1)) (lv' := [(3, .int (y3 + (nI 1))), (2, .int (s1 + s0)), (0, .ref y0), (1, .int y1)]) hx hb dX3_amountLogged_60 hl_19 rfl (congrArg (y3 + ·) (by decide : Int32.ofInt (1) = nI 1)) (by decide) rfl (fun ls hl_20 => ?_)
          clear hl_19
          refine lv_goto (tgt := 5) hx hb dX3_amountLogged_63 (by decide) ?_
          exact ih5 y0 y1 (s1 + s0) (y3 + (nI 1)) _ _ _ hvc_15 hG_16 hS_17 (lv_sub hl_20 [2, 3, 1, 0] rfl)
        refine lv_icmp_ne (tgt := 57) hx hb dX3_amountLogged_41 (by decide) (fun h9 => ?_) (fun h9 => ?_)
        · replace hvc_13 := hvc_13.1 h9
          refine lv_iconst (v := nI 0) hx hb dX3_amountLogged_57 (by decide) ?_
          exact jn58 y0 y1 y3 (nI 0) y2 _ _ _ hvc_13 hG_7 hS_8 (lv_sub hl_14 [1, 2, 4] rfl)
        · replace hvc_13 := hvc_13.2 h9
          refine lv_aload_n hx hb dX3_amountLogged_44 rfl (lv_at hl_14 1 rfl) ?_
          refine lv_iload hx hb dX3_amountLogged_45 (lv_at hl_14 0 rfl) ?_
          refine lv_bipush (v := nI 8) hx hb dX3_amountLogged_47 (by decide) ?_
          refine lv_irem hx hb dX3_amountLogged_49 (by decide) ?_
          refine lv_iload_n hx hb dX3_amountLogged_50 rfl (lv_at hl_14 2 rfl) ?_
          refine gw_cVIP (As := [.int (x4 - x4 / (nI 8) * (nI 8)), .int y1]) (rest := [.int y2])  ⟨hx, hb, hml, hown, hts⟩ (met_X3_shareIn l E G y0 (x4 - x4 / (nI 8) * (nI 8)) y1 _ hvc_13.2) (cwV 2 hts (lw_V q1935 q1937 qs53 q104 q1938) rfl rfl rfl (by decide +kernel) ⟨Nat.le_of_ble_eq_true rfl, Nat.le_of_ble_eq_true rfl⟩) (gw_rc (q := (RX3, TX3, 13)) hK hG_7 hvc_13.1 rfl) (Nat.zero_le _) (Nat.zero_le _) (g_St0 E) hz trivial hK hG_7 hS_8 rfl hl_14.1 rfl (Nat.le_of_ble_eq_true rfl) dX3_amountLogged_51 (fun x5 H locs hvc_21 hG_22 hS_23 => ?_)
          clear hvc_13 hG_7 hS_8
          refine lv_goto (tgt := 58) hx hb dX3_amountLogged_54 (by decide) ?_
          exact jn58 y0 y1 y3 x5 y2 _ _ _ hvc_21 hG_22 hS_23 (lv_sub hl_14 [1, 2, 4] rfl)
  refine lv_istore_n (lv' := [(3, .int (nI 0)), (2, .int (nI 100)), (0, .ref o), (1, .int p1)]) hx hb dX3_amountLogged_4 rfl hl_1 (by decide) rfl (fun ls hl_24 => ?_)
  clear hl_1
  obtain ⟨nf5, hvc⟩ := hvc
  exact lp5 nf5 o p1 (nI 100) (nI 0) _ _ _ hvc hG hS (lv_sub hl_24 [2, 3, 1, 0] rfl)
set_option maxHeartbeats 4000000 in
set_option maxRecDepth 100000 in
theorem met_X3_amountByLog (l : Launch) (E : g_E) (G : g_G) (o : Nat) (p1 : Int32) (post : Int32 → g_G → Prop) (hvc : wp_X3_amountByLog E G o p1 post) : g_MI E l yX3_amountByLog (ws_ yX3_amountByLog cX3_amountByLog 2 (Option.some Jvm.ClassFile.FieldType.int)) ({ frames := 4, cells := 0, slots := 0, locals := 92 } : Room) (fun _ => True) [.ref o, .int p1] G (post) := by
  refine g_enter (by decide +kernel) (Nat.le_of_ble_eq_true rfl) ?_
  intro p e s m below meth c ls hx hb hr hts hown hlocks hml hin hz hX hK hG hS hl
  have hl : lv_has ls 2 [(0, .ref o), (1, .int p1)] := hl
  have hown : s.vm.findClass RX3 = some m.cls := hown
  unfold wp_X3_amountByLog at hvc
  refine lv_aload_n hx hb dX3_amountByLog_0 rfl (lv_at hl 0 rfl) ?_
  refine lv_iconst (v := nI 0) hx hb dX3_amountByLog_1 (by decide) ?_
  refine gw_put (ty := .int) (C := RX3) (T := TX3) (N := 13) (own := RX3) hx hb hts in_X3 tyX3 tyX3_ok nmX3 hown hK hG hS hvc rfl (by decide) (hts _ q1783) (fun _ h9 => h9) rfl (by decide +kernel) rfl rfl dX3_amountByLog_2 (fun G1 H locs hvc_1 hG_2 hS_3 => ?_)
  clear hvc hG hS
  refine lv_iload_n hx hb dX3_amountByLog_5 rfl (lv_at hl 1 rfl) ?_
  refine gw_cSIP (As := [.int p1]) (rest := [])  ⟨hx, hb, hml, hown, hts⟩ (met_X3_isStore l E G1 p1 _ hvc_1) (va_cwS 1 hts (lw_S q1831 q1832 q104 q1833) rfl rfl rfl (by decide +kernel) ⟨Nat.le_of_ble_eq_true rfl, Nat.le_of_ble_eq_true rfl⟩) (Nat.zero_le _) (Nat.zero_le _) (g_St0 E) hz trivial hK hG_2 hS_3 rfl hl.1 rfl (Nat.le_of_ble_eq_true rfl) dX3_amountByLog_6 (fun x2 H locs hvc_4 hG_5 hS_6 => ?_)
  clear hvc_1 hG_2 hS_3
  refine lv_if_eq (tgt := 20) hx hb dX3_amountByLog_9 (by decide) (fun h9 => ?_) (fun h9 => ?_)
  · replace hvc_4 := hvc_4.1 h9
    refine lv_aload_n hx hb dX3_amountByLog_20 rfl (lv_at hl 0 rfl) ?_
    refine lv_iconst (v := nI 1) hx hb dX3_amountByLog_21 (by decide) ?_
    refine gw_cVIN (As := [.int (nI 1)]) (rest := [])  ⟨hx, hb, hml, hown, hts⟩ (met_X3_fails l E G1 o (nI 1) _ hvc_4.2) (cwV 1 hts (lw_V q1837 q1839 qs33 q104 q1840) rfl rfl rfl (by decide +kernel) ⟨Nat.le_of_ble_eq_true rfl, Nat.le_of_ble_eq_true rfl⟩) (gw_rc (q := (RX3, TX3, 13)) hK hG_5 hvc_4.1 rfl) (Nat.zero_le _) (Nat.zero_le _) (g_St0 E) hz trivial hK hG_5 hS_6 rfl hl.1 rfl (Nat.le_of_ble_eq_true rfl) dX3_amountByLog_22 (fun x4 G5 H locs hvc_7 hG_8 hS_9 => ?_)
    clear hvc_4 hG_5 hS_6
    exact g_iret hx hb hr hlocks (Nat.zero_le _) (Nat.zero_le _) hG_8 hS_9 rfl hvc_7 dX3_amountByLog_25
  · replace hvc_4 := hvc_4.2 h9
    refine lv_aload_n hx hb dX3_amountByLog_12 rfl (lv_at hl 0 rfl) ?_
    refine lv_iload_n hx hb dX3_amountByLog_13 rfl (lv_at hl 1 rfl) ?_
    refine gw_cVIP (As := [.int p1]) (rest := [])  ⟨hx, hb, hml, hown, hts⟩ (met_X3_amountLogged l E G1 o p1 _ hvc_4.2) (cwV 1 hts (lw_V q2077 q2079 qs69 q104 q2080) rfl rfl rfl (by decide +kernel) ⟨Nat.le_of_ble_eq_true rfl, Nat.le_of_ble_eq_true rfl⟩) (gw_rc (q := (RX3, TX3, 13)) hK hG_5 hvc_4.1 rfl) (Nat.zero_le _) (Nat.zero_le _) (g_St0 E) hz trivial hK hG_5 hS_6 rfl hl.1 rfl (Nat.le_of_ble_eq_true rfl) dX3_amountByLog_14 (fun x6 H locs hvc_10 hG_11 hS_12 => ?_)
    clear hvc_4 hG_5 hS_6
    refine lv_goto (tgt := 25) hx hb dX3_amountByLog_17 (by decide) ?_
    exact g_iret hx hb hr hlocks (Nat.zero_le _) (Nat.zero_le _) hG_11 hS_12 rfl hvc_10 dX3_amountByLog_25
set_option maxHeartbeats 4000000 in
set_option maxRecDepth 100000 in
theorem met_X3_state (l : Launch) (E : g_E) (G : g_G) (o : Nat) (p1 : Int32) (p2 : Int32) (post : Int32 → g_G → Prop) (hvc : wp_X3_state E G o p1 p2 post) : g_MI E l yX3_state (ws_ yX3_state cX3_state 3 (Option.some Jvm.ClassFile.FieldType.int)) ({ frames := 2, cells := 0, slots := 0, locals := 43 } : Room) (fun _ => True) [.ref o, .int p1, .int p2] G (post) := by
  refine g_enter (by decide +kernel) (Nat.le_of_ble_eq_true rfl) ?_
  intro p e s m below meth c ls hx hb hr hts hown hlocks hml hin hz hX hK hG hS hl
  have hl : lv_has ls 3 [(0, .ref o), (1, .int p1), (2, .int p2)] := hl
  have hown : s.vm.findClass RX3 = some m.cls := hown
  unfold wp_X3_state at hvc
  refine lv_aload_n hx hb dX3_state_0 rfl (lv_at hl 0 rfl) ?_
  refine lv_iconst (v := nI 0) hx hb dX3_state_1 (by decide) ?_
  refine gw_put (ty := .int) (C := RX3) (T := TX3) (N := 13) (own := RX3) hx hb hts in_X3 tyX3 tyX3_ok nmX3 hown hK hG hS hvc rfl (by decide) (hts _ q1783) (fun _ h9 => h9) rfl (by decide +kernel) rfl rfl dX3_state_2 (fun G1 H locs hvc_1 hG_2 hS_3 => ?_)
  clear hvc hG hS
  refine lv_iload_n hx hb dX3_state_5 rfl (lv_at hl 1 rfl) ?_
  refine gw_cSIP (As := [.int p1]) (rest := [])  ⟨hx, hb, hml, hown, hts⟩ (met_X3_isStore l E G1 p1 _ hvc_1) (va_cwS 1 hts (lw_S q1831 q1832 q104 q1833) rfl rfl rfl (by decide +kernel) ⟨Nat.le_of_ble_eq_true rfl, Nat.le_of_ble_eq_true rfl⟩) (Nat.zero_le _) (Nat.zero_le _) (g_St0 E) hz trivial hK hG_2 hS_3 rfl hl.1 rfl (Nat.le_of_ble_eq_true rfl) dX3_state_6 (fun x2 H locs hvc_4 hG_5 hS_6 => ?_)
  clear hvc_1 hG_2 hS_3
  have jn29 : ∀ (y0 : Nat) (G : g_G) (H : Heap) (locs : List Loc) (ls : Array Slot), wp_X3_state_29 E post y0 G → g_H E G H → va_S (g_A E) s.heap H locs → lv_has ls 3 [(0, .ref y0)] → W p l e ({ frames := 2, cells := 0, slots := 0, locals := 43 } : Room) s m ([.ref o, .int p1, .int p2] : List Value).toArray below meth c H locs 0 0 (MQ below (va_Qi (post) (g_Bk E) (g_A E)) ([.ref o, .int p1, .int p2] : List Value).toArray s 0 0 (g_A E)) (F0 m 29 ls []) := by
    clear hvc_4 hG_5 hS_6 hl
    intro y0 G H locs ls hvc_7 hG_8 hS_9 hl_10
    refine lv_aload_n hx hb dX3_state_29 rfl (lv_at hl_10 0 rfl) ?_
    refine lv_iconst (v := nI 1) hx hb dX3_state_30 (by decide) ?_
    refine gw_cVIN (As := [.int (nI 1)]) (rest := [])  ⟨hx, hb, hml, hown, hts⟩ (met_X3_fails l E G y0 (nI 1) _ hvc_7.2) (cwV 1 hts (lw_V q1837 q1839 qs33 q104 q1840) rfl rfl rfl (by decide +kernel) ⟨Nat.le_of_ble_eq_true rfl, Nat.le_of_ble_eq_true rfl⟩) (gw_rc (q := (RX3, TX3, 13)) hK hG_8 hvc_7.1 rfl) (Nat.zero_le _) (Nat.zero_le _) (g_St0 E) hz trivial hK hG_8 hS_9 rfl hl_10.1 rfl (Nat.le_of_ble_eq_true rfl) dX3_state_31 (fun x4 G5 H locs hvc_11 hG_12 hS_13 => ?_)
    clear hvc_7 hG_8 hS_9
    exact g_iret hx hb hr hlocks (Nat.zero_le _) (Nat.zero_le _) hG_12 hS_13 rfl hvc_11 dX3_state_34
  refine lv_if_eq (tgt := 29) hx hb dX3_state_9 (by decide) (fun h9 => ?_) (fun h9 => ?_)
  · replace hvc_4 := hvc_4.1 h9
    exact jn29 o G1 _ _ _ hvc_4 hG_5 hS_6 (lv_sub hl [0] rfl)
  · replace hvc_4 := hvc_4.2 h9
    refine lv_aload_n hx hb dX3_state_12 rfl (lv_at hl 0 rfl) ?_
    refine lv_iload_n hx hb dX3_state_13 rfl (lv_at hl 2 rfl) ?_
    refine gw_cVIP (As := [.int p2]) (rest := [])  ⟨hx, hb, hml, hown, hts⟩ (met_X3_isTransfer l E G1 o p2 _ hvc_4.2) (cwV 1 hts (lw_V q1884 q1886 qs43 q104 q1887) rfl rfl rfl (by decide +kernel) ⟨Nat.le_of_ble_eq_true rfl, Nat.le_of_ble_eq_true rfl⟩) (gw_rc (q := (RX3, TX3, 13)) hK hG_5 hvc_4.1 rfl) (Nat.zero_le _) (Nat.zero_le _) (g_St0 E) hz trivial hK hG_5 hS_6 rfl hl.1 rfl (Nat.le_of_ble_eq_true rfl) dX3_state_14 (fun x6 H locs hvc_14 hG_15 hS_16 => ?_)
    clear hvc_4 hG_5 hS_6
    refine lv_if_eq (tgt := 29) hx hb dX3_state_17 (by decide) (fun h9 => ?_) (fun h9 => ?_)
    · replace hvc_14 := hvc_14.1 h9
      exact jn29 o G1 _ _ _ hvc_14 hG_15 hS_16 (lv_sub hl [0] rfl)
    · replace hvc_14 := hvc_14.2 h9
      refine lv_aload_n hx hb dX3_state_20 rfl (lv_at hl 0 rfl) ?_
      refine lv_iload_n hx hb dX3_state_21 rfl (lv_at hl 1 rfl) ?_
      refine lv_iload_n hx hb dX3_state_22 rfl (lv_at hl 2 rfl) ?_
      refine gw_cVIP (As := [.int p1, .int p2]) (rest := [])  ⟨hx, hb, hml, hown, hts⟩ (met_X3_stateIn l E G1 o p1 p2 _ hvc_14.2) (cwV 2 hts (lw_V q1904 q1906 qs47 q104 q1907) rfl rfl rfl (by decide +kernel) ⟨Nat.le_of_ble_eq_true rfl, Nat.le_of_ble_eq_true rfl⟩) (gw_rc (q := (RX3, TX3, 13)) hK hG_15 hvc_14.1 rfl) (Nat.zero_le _) (Nat.zero_le _) (g_St0 E) hz trivial hK hG_15 hS_16 rfl hl.1 rfl (Nat.le_of_ble_eq_true rfl) dX3_state_23 (fun x8 H locs hvc_17 hG_18 hS_19 => ?_)
      clear hvc_14 hG_15 hS_16
      refine lv_goto (tgt := 34) hx hb dX3_state_26 (by decide) ?_
      exact g_iret hx hb hr hlocks (Nat.zero_le _) (Nat.zero_le _) hG_18 hS_19 rfl hvc_17 dX3_state_34
set_option maxHeartbeats 4000000 in
set_option maxRecDepth 100000 in
theorem met_X3_stateLogged (l : Launch) (E : g_E) (G : g_G) (o : Nat) (p1 : Int32) (p2 : Int32) (post : Int32 → Prop) (hvc : wp_X3_stateLogged E G o p1 p2 post) : g_MI E l yX3_stateLogged (ws_ yX3_stateLogged cX3_stateLogged 6 (Option.some Jvm.ClassFile.FieldType.int)) ({ frames := 0, cells := 0, slots := 0, locals := 0 } : Room) (fun _ => True) [.ref o, .int p1, .int p2] G (fun v G9 => G9 = G ∧ post v) := by
  refine g_enter (by decide +kernel) (Nat.le_of_ble_eq_true rfl) ?_
  intro p e s m below meth c ls hx hb hr hts hown hlocks hml hin hz hX hK hG hS hl
  have hl : lv_has ls 6 [(0, .ref o), (1, .int p1), (2, .int p2)] := hl
  have hown : s.vm.findClass RX3 = some m.cls := hown
  unfold wp_X3_stateLogged at hvc
  refine lv_iconst (v := nI 0) hx hb dX3_stateLogged_0 (by decide) ?_
  refine lv_istore_n (lv' := [(3, .int (nI 0)), (0, .ref o), (1, .int p1), (2, .int p2)]) hx hb dX3_stateLogged_1 rfl hl (by decide) rfl (fun ls hl_1 => ?_)
  clear hl
  refine lv_iconst (v := nI 0) hx hb dX3_stateLogged_2 (by decide) ?_
  have lp5 : ∀ (n5 : Nat) (y0 : Nat) (y1 : Int32) (y2 : Int32) (y3 : Int32) (y4 : Int32) (H : Heap) (locs : List Loc) (ls : Array Slot), wp_X3_stateLogged_5 E G post n5 y0 y1 y2 y3 y4 → g_H E G H → va_S (g_A E) s.heap H locs → lv_has ls 6 [(0, .ref y0), (1, .int y1), (2, .int y2), (3, .int y3), (4, .int y4)] → W p l e ({ frames := 0, cells := 0, slots := 0, locals := 0 } : Room) s m ([.ref o, .int p1, .int p2] : List Value).toArray below meth c H locs 0 0 (MQ below (va_Qi (fun v G9 => G9 = G ∧ post v) (g_Bk E) (g_A E)) ([.ref o, .int p1, .int p2] : List Value).toArray s 0 0 (g_A E)) (F0 m 5 ls []) := by
    clear hvc hG hS hl_1
    intro n5
    induction n5 with
    | zero =>
      intro y0 y1 y2 y3 y4 H locs ls hvc_2 hG_3 hS_4 hl_5
      exact False.elim hvc_2
    | succ n5 ih5 =>
      intro y0 y1 y2 y3 y4 H locs ls hvc_6 hG_7 hS_8 hl_9
      refine lv_iload hx hb dX3_stateLogged_5 (lv_at hl_9 4 rfl) ?_
      refine lv_aload_n hx hb dX3_stateLogged_7 rfl (lv_at hl_9 0 rfl) ?_
      refine gw_gr (C := RX3) (T := TX3) (N := 13) (own := RX3) hx hb hts in_X3 hown hK hG_7 hvc_6 rfl (by decide) (hts _ q1784) (fun _ h9 => h9) dX3_stateLogged_8 (fun x1 hvc_10 => ?_)
      clear hvc_6
      refine lv_bipush (v := nI 102) hx hb dX3_stateLogged_11 (by decide) ?_
      refine lv_iload_n hx hb dX3_stateLogged_13 rfl (lv_at hl_9 1 rfl) ?_
      refine lv_iadd hx hb dX3_stateLogged_14 ?_
      refine gw_ild hx hb hK hG_7 hvc_10 dX3_stateLogged_15 (fun x2 hvc_11 => ?_)
      clear hvc_10
      refine lv_icmp_ge (tgt := 76) hx hb dX3_stateLogged_16 (by decide) (fun h9 => ?_) (fun h9 => ?_)
      · replace hvc_11 := hvc_11.1 h9
        refine lv_iload_n hx hb dX3_stateLogged_76 rfl (lv_at hl_9 3 rfl) ?_
        exact g_iret hx hb hr hlocks (Nat.zero_le _) (Nat.zero_le _) hG_7 hS_8 rfl ⟨rfl, hvc_11⟩ dX3_stateLogged_77
      · replace hvc_11 := hvc_11.2 h9
        refine lv_aload_n hx hb dX3_stateLogged_19 rfl (lv_at hl_9 0 rfl) ?_
        refine gw_gr (C := RX3) (T := TX3) (N := 13) (own := RX3) hx hb hts in_X3 hown hK hG_7 hvc_11 rfl (by decide) (hts _ q1784) (fun _ h9 => h9) dX3_stateLogged_20 (fun x3 hvc_12 => ?_)
        clear hvc_11
        refine lv_bipush (v := nI 107) hx hb dX3_stateLogged_23 (by decide) ?_
        refine lv_bipush (v := nI 16) hx hb dX3_stateLogged_25 (by decide) ?_
        refine lv_iload_n hx hb dX3_stateLogged_27 rfl (lv_at hl_9 1 rfl) ?_
        refine lv_imul hx hb dX3_stateLogged_28 ?_
        refine lv_iadd hx hb dX3_stateLogged_29 ?_
        refine lv_iload hx hb dX3_stateLogged_30 (lv_at hl_9 4 rfl) ?_
        refine lv_iadd hx hb dX3_stateLogged_32 ?_
        refine gw_ild hx hb hK hG_7 hvc_12 dX3_stateLogged_33 (fun x4 hvc_13 => ?_)
        clear hvc_12
        refine lv_istore (lv' := [(5, .int x4), (0, .ref y0), (1, .int y1), (2, .int y2), (3, .int y3), (4, .int y4)]) hx hb dX3_stateLogged_34 hl_9 (by decide) rfl (fun ls hl_14 => ?_)
        clear hl_9
        refine lv_iload hx hb dX3_stateLogged_36 (lv_at hl_14 0 rfl) ?_
        refine lv_bipush (v := nI 8) hx hb dX3_stateLogged_38 (by decide) ?_
        refine lv_irem hx hb dX3_stateLogged_40 (by decide) ?_
        refine lv_iload_n hx hb dX3_stateLogged_41 rfl (lv_at hl_14 3 rfl) ?_
        have jn69 : ∀ (y0 : Nat) (y1 : Int32) (y2 : Int32) (y4 : Int32) (s0 : Int32) (H : Heap) (locs : List Loc) (ls : Array Slot), wp_X3_stateLogged_69 E G post (wp_X3_stateLogged_5 E G post n5) y0 y1 y2 y4 s0 → g_H E G H → va_S (g_A E) s.heap H locs → lv_has ls 6 [(0, .ref y0), (1, .int y1), (2, .int y2), (4, .int y4)] → W p l e ({ frames := 0, cells := 0, slots := 0, locals := 0 } : Room) s m ([.ref o, .int p1, .int p2] : List Value).toArray below meth c H locs 0 0 (MQ below (va_Qi (fun v G9 => G9 = G ∧ post v) (g_Bk E) (g_A E)) ([.ref o, .int p1, .int p2] : List Value).toArray s 0 0 (g_A E)) (F0 m 69 ls [.int s0]) := by
          clear hvc_13 hG_7 hS_8 hl_14
          intro y0 y1 y2 y4 s0 H locs ls hvc_15 hG_16 hS_17 hl_18
          refine lv_istore_n (lv' := [(3, .int s0), (0, .ref y0), (1, .int y1), (2, .int y2), (4, .int y4)]) hx hb dX3_stateLogged_69 rfl hl_18 (by decide) rfl (fun ls hl_19 => ?_)
          clear hl_18
          refine lv_iinc (k := 4) (v := y4 + (nI 1)) (lv' := [(4, .int (y4 + (nI 1))), (3, .int s0), (0, .ref y0), (1, .int y1), (2, .int y2)]) hx hb dX3_stateLogged_70 hl_19 rfl (congrArg (y4 + ·) (by decide : Int32.ofInt (1) = nI 1)) (by decide) rfl (fun ls hl_20 => ?_)
          clear hl_19
          refine lv_goto (tgt := 5) hx hb dX3_stateLogged_73 (by decide) ?_
          exact ih5 y0 y1 y2 s0 (y4 + (nI 1)) _ _ _ hvc_15 hG_16 hS_17 (lv_sub hl_20 [2, 3, 4, 1, 0] rfl)
        refine lv_icmp_eq (tgt := 49) hx hb dX3_stateLogged_42 (by decide) (fun h9 => ?_) (fun h9 => ?_)
        · replace hvc_13 := hvc_13.1 h9
          refine lv_iload hx hb dX3_stateLogged_49 (lv_at hl_14 0 rfl) ?_
          refine lv_bipush (v := nI 8) hx hb dX3_stateLogged_51 (by decide) ?_
          refine lv_idiv hx hb dX3_stateLogged_53 (by decide) ?_
          refine lv_iconst (v := nI 4) hx hb dX3_stateLogged_54 (by decide) ?_
          refine lv_icmp_ne (tgt := 62) hx hb dX3_stateLogged_55 (by decide) (fun h9 => ?_) (fun h9 => ?_)
          · replace hvc_13 := hvc_13.1 h9
            refine lv_iload hx hb dX3_stateLogged_62 (lv_at hl_14 0 rfl) ?_
            refine lv_bipush (v := nI 8) hx hb dX3_stateLogged_64 (by decide) ?_
            refine lv_idiv hx hb dX3_stateLogged_66 (by decide) ?_
            refine lv_iconst (v := nI 1) hx hb dX3_stateLogged_67 (by decide) ?_
            refine lv_iadd hx hb dX3_stateLogged_68 ?_
            exact jn69 y0 y1 y2 y4 ((x4 / (nI 8)) + (nI 1)) _ _ _ hvc_13 hG_7 hS_8 (lv_sub hl_14 [1, 2, 3, 5] rfl)
          · replace hvc_13 := hvc_13.2 h9
            refine lv_iconst (v := nI 1) hx hb dX3_stateLogged_58 (by decide) ?_
            refine lv_goto (tgt := 69) hx hb dX3_stateLogged_59 (by decide) ?_
            exact jn69 y0 y1 y2 y4 (nI 1) _ _ _ hvc_13 hG_7 hS_8 (lv_sub hl_14 [1, 2, 3, 5] rfl)
        · replace hvc_13 := hvc_13.2 h9
          refine lv_iload_n hx hb dX3_stateLogged_45 rfl (lv_at hl_14 4 rfl) ?_
          refine lv_goto (tgt := 69) hx hb dX3_stateLogged_46 (by decide) ?_
          exact jn69 y0 y1 y2 y4 y3 _ _ _ hvc_13 hG_7 hS_8 (lv_sub hl_14 [1, 2, 3, 5] rfl)
  refine lv_istore (lv' := [(4, .int (nI 0)), (3, .int (nI 0)), (0, .ref o), (1, .int p1), (2, .int p2)]) hx hb dX3_stateLogged_3 hl_1 (by decide) rfl (fun ls hl_21 => ?_)
  clear hl_1
  obtain ⟨nf5, hvc⟩ := hvc
  exact lp5 nf5 o p1 p2 (nI 0) (nI 0) _ _ _ hvc hG hS (lv_sub hl_21 [2, 3, 4, 1, 0] rfl)
set_option maxHeartbeats 4000000 in
set_option maxRecDepth 100000 in
theorem met_X3_stateByLog (l : Launch) (E : g_E) (G : g_G) (o : Nat) (p1 : Int32) (p2 : Int32) (post : Int32 → g_G → Prop) (hvc : wp_X3_stateByLog E G o p1 p2 post) : g_MI E l yX3_stateByLog (ws_ yX3_stateByLog cX3_stateByLog 3 (Option.some Jvm.ClassFile.FieldType.int)) ({ frames := 2, cells := 0, slots := 0, locals := 43 } : Room) (fun _ => True) [.ref o, .int p1, .int p2] G (post) := by
  refine g_enter (by decide +kernel) (Nat.le_of_ble_eq_true rfl) ?_
  intro p e s m below meth c ls hx hb hr hts hown hlocks hml hin hz hX hK hG hS hl
  have hl : lv_has ls 3 [(0, .ref o), (1, .int p1), (2, .int p2)] := hl
  have hown : s.vm.findClass RX3 = some m.cls := hown
  unfold wp_X3_stateByLog at hvc
  refine lv_aload_n hx hb dX3_stateByLog_0 rfl (lv_at hl 0 rfl) ?_
  refine lv_iconst (v := nI 0) hx hb dX3_stateByLog_1 (by decide) ?_
  refine gw_put (ty := .int) (C := RX3) (T := TX3) (N := 13) (own := RX3) hx hb hts in_X3 tyX3 tyX3_ok nmX3 hown hK hG hS hvc rfl (by decide) (hts _ q1783) (fun _ h9 => h9) rfl (by decide +kernel) rfl rfl dX3_stateByLog_2 (fun G1 H locs hvc_1 hG_2 hS_3 => ?_)
  clear hvc hG hS
  refine lv_iload_n hx hb dX3_stateByLog_5 rfl (lv_at hl 1 rfl) ?_
  refine gw_cSIP (As := [.int p1]) (rest := [])  ⟨hx, hb, hml, hown, hts⟩ (met_X3_isStore l E G1 p1 _ hvc_1) (va_cwS 1 hts (lw_S q1831 q1832 q104 q1833) rfl rfl rfl (by decide +kernel) ⟨Nat.le_of_ble_eq_true rfl, Nat.le_of_ble_eq_true rfl⟩) (Nat.zero_le _) (Nat.zero_le _) (g_St0 E) hz trivial hK hG_2 hS_3 rfl hl.1 rfl (Nat.le_of_ble_eq_true rfl) dX3_stateByLog_6 (fun x2 H locs hvc_4 hG_5 hS_6 => ?_)
  clear hvc_1 hG_2 hS_3
  have jn29 : ∀ (y0 : Nat) (G : g_G) (H : Heap) (locs : List Loc) (ls : Array Slot), wp_X3_stateByLog_29 E post y0 G → g_H E G H → va_S (g_A E) s.heap H locs → lv_has ls 3 [(0, .ref y0)] → W p l e ({ frames := 2, cells := 0, slots := 0, locals := 43 } : Room) s m ([.ref o, .int p1, .int p2] : List Value).toArray below meth c H locs 0 0 (MQ below (va_Qi (post) (g_Bk E) (g_A E)) ([.ref o, .int p1, .int p2] : List Value).toArray s 0 0 (g_A E)) (F0 m 29 ls []) := by
    clear hvc_4 hG_5 hS_6 hl
    intro y0 G H locs ls hvc_7 hG_8 hS_9 hl_10
    refine lv_aload_n hx hb dX3_stateByLog_29 rfl (lv_at hl_10 0 rfl) ?_
    refine lv_iconst (v := nI 1) hx hb dX3_stateByLog_30 (by decide) ?_
    refine gw_cVIN (As := [.int (nI 1)]) (rest := [])  ⟨hx, hb, hml, hown, hts⟩ (met_X3_fails l E G y0 (nI 1) _ hvc_7.2) (cwV 1 hts (lw_V q1837 q1839 qs33 q104 q1840) rfl rfl rfl (by decide +kernel) ⟨Nat.le_of_ble_eq_true rfl, Nat.le_of_ble_eq_true rfl⟩) (gw_rc (q := (RX3, TX3, 13)) hK hG_8 hvc_7.1 rfl) (Nat.zero_le _) (Nat.zero_le _) (g_St0 E) hz trivial hK hG_8 hS_9 rfl hl_10.1 rfl (Nat.le_of_ble_eq_true rfl) dX3_stateByLog_31 (fun x4 G5 H locs hvc_11 hG_12 hS_13 => ?_)
    clear hvc_7 hG_8 hS_9
    exact g_iret hx hb hr hlocks (Nat.zero_le _) (Nat.zero_le _) hG_12 hS_13 rfl hvc_11 dX3_stateByLog_34
  refine lv_if_eq (tgt := 29) hx hb dX3_stateByLog_9 (by decide) (fun h9 => ?_) (fun h9 => ?_)
  · replace hvc_4 := hvc_4.1 h9
    exact jn29 o G1 _ _ _ hvc_4 hG_5 hS_6 (lv_sub hl [0] rfl)
  · replace hvc_4 := hvc_4.2 h9
    refine lv_aload_n hx hb dX3_stateByLog_12 rfl (lv_at hl 0 rfl) ?_
    refine lv_iload_n hx hb dX3_stateByLog_13 rfl (lv_at hl 2 rfl) ?_
    refine gw_cVIP (As := [.int p2]) (rest := [])  ⟨hx, hb, hml, hown, hts⟩ (met_X3_isTransfer l E G1 o p2 _ hvc_4.2) (cwV 1 hts (lw_V q1884 q1886 qs43 q104 q1887) rfl rfl rfl (by decide +kernel) ⟨Nat.le_of_ble_eq_true rfl, Nat.le_of_ble_eq_true rfl⟩) (gw_rc (q := (RX3, TX3, 13)) hK hG_5 hvc_4.1 rfl) (Nat.zero_le _) (Nat.zero_le _) (g_St0 E) hz trivial hK hG_5 hS_6 rfl hl.1 rfl (Nat.le_of_ble_eq_true rfl) dX3_stateByLog_14 (fun x6 H locs hvc_14 hG_15 hS_16 => ?_)
    clear hvc_4 hG_5 hS_6
    refine lv_if_eq (tgt := 29) hx hb dX3_stateByLog_17 (by decide) (fun h9 => ?_) (fun h9 => ?_)
    · replace hvc_14 := hvc_14.1 h9
      exact jn29 o G1 _ _ _ hvc_14 hG_15 hS_16 (lv_sub hl [0] rfl)
    · replace hvc_14 := hvc_14.2 h9
      refine lv_aload_n hx hb dX3_stateByLog_20 rfl (lv_at hl 0 rfl) ?_
      refine lv_iload_n hx hb dX3_stateByLog_21 rfl (lv_at hl 1 rfl) ?_
      refine lv_iload_n hx hb dX3_stateByLog_22 rfl (lv_at hl 2 rfl) ?_
      refine gw_cVIP (As := [.int p1, .int p2]) (rest := [])  ⟨hx, hb, hml, hown, hts⟩ (met_X3_stateLogged l E G1 o p1 p2 _ hvc_14.2) (cwV 2 hts (lw_V q2089 q2091 qs70 q104 q2092) rfl rfl rfl (by decide +kernel) ⟨Nat.le_of_ble_eq_true rfl, Nat.le_of_ble_eq_true rfl⟩) (gw_rc (q := (RX3, TX3, 13)) hK hG_15 hvc_14.1 rfl) (Nat.zero_le _) (Nat.zero_le _) (g_St0 E) hz trivial hK hG_15 hS_16 rfl hl.1 rfl (Nat.le_of_ble_eq_true rfl) dX3_stateByLog_23 (fun x8 H locs hvc_17 hG_18 hS_19 => ?_)
      clear hvc_14 hG_15 hS_16
      refine lv_goto (tgt := 34) hx hb dX3_stateByLog_26 (by decide) ?_
      exact g_iret hx hb hr hlocks (Nat.zero_le _) (Nat.zero_le _) hG_18 hS_19 rfl hvc_17 dX3_stateByLog_34
set_option maxHeartbeats 4000000 in
set_option maxRecDepth 100000 in
theorem met_X3_doubts (l : Launch) (E : g_E) (G : g_G) (o : Nat) (p1 : Int32) (post : Int32 → Prop) (hvc : wp_X3_doubts E G o p1 post) : g_MI E l yX3_doubts (ws_ yX3_doubts cX3_doubts 4 (Option.some Jvm.ClassFile.FieldType.int)) ({ frames := 1, cells := 0, slots := 0, locals := 22 } : Room) (fun _ => True) [.ref o, .int p1] G (fun v G9 => G9 = G ∧ post v) := by
  refine g_enter (by decide +kernel) (Nat.le_of_ble_eq_true rfl) ?_
  intro p e s m below meth c ls hx hb hr hts hown hlocks hml hin hz hX hK hG hS hl
  have hl : lv_has ls 4 [(0, .ref o), (1, .int p1)] := hl
  have hown : s.vm.findClass RX3 = some m.cls := hown
  unfold wp_X3_doubts at hvc
  refine lv_iconst (v := nI 0) hx hb dX3_doubts_0 (by decide) ?_
  refine lv_istore_n (lv' := [(2, .int (nI 0)), (0, .ref o), (1, .int p1)]) hx hb dX3_doubts_1 rfl hl (by decide) rfl (fun ls hl_1 => ?_)
  clear hl
  refine lv_iconst (v := nI 0) hx hb dX3_doubts_2 (by decide) ?_
  have lp4 : ∀ (n4 : Nat) (y0 : Nat) (y1 : Int32) (y2 : Int32) (y3 : Int32) (H : Heap) (locs : List Loc) (ls : Array Slot), wp_X3_doubts_4 E G post n4 y0 y1 y2 y3 → g_H E G H → va_S (g_A E) s.heap H locs → lv_has ls 4 [(0, .ref y0), (1, .int y1), (2, .int y2), (3, .int y3)] → W p l e ({ frames := 1, cells := 0, slots := 0, locals := 22 } : Room) s m ([.ref o, .int p1] : List Value).toArray below meth c H locs 0 0 (MQ below (va_Qi (fun v G9 => G9 = G ∧ post v) (g_Bk E) (g_A E)) ([.ref o, .int p1] : List Value).toArray s 0 0 (g_A E)) (F0 m 4 ls []) := by
    clear hvc hG hS hl_1
    intro n4
    induction n4 with
    | zero =>
      intro y0 y1 y2 y3 H locs ls hvc_2 hG_3 hS_4 hl_5
      exact False.elim hvc_2
    | succ n4 ih4 =>
      intro y0 y1 y2 y3 H locs ls hvc_6 hG_7 hS_8 hl_9
      refine lv_iload_n hx hb dX3_doubts_4 rfl (lv_at hl_9 3 rfl) ?_
      refine lv_aload_n hx hb dX3_doubts_5 rfl (lv_at hl_9 0 rfl) ?_
      refine gw_gr (C := RX3) (T := TX3) (N := 13) (own := RX3) hx hb hts in_X3 hown hK hG_7 hvc_6 rfl (by decide) (hts _ q1784) (fun _ h9 => h9) dX3_doubts_6 (fun x1 hvc_10 => ?_)
      clear hvc_6
      refine lv_bipush (v := nI 9) hx hb dX3_doubts_9 (by decide) ?_
      refine gw_ild hx hb hK hG_7 hvc_10 dX3_doubts_11 (fun x2 hvc_11 => ?_)
      clear hvc_10
      refine lv_icmp_ge (tgt := 39) hx hb dX3_doubts_12 (by decide) (fun h9 => ?_) (fun h9 => ?_)
      · replace hvc_11 := hvc_11.1 h9
        refine lv_iload_n hx hb dX3_doubts_39 rfl (lv_at hl_9 2 rfl) ?_
        exact g_iret hx hb hr hlocks (Nat.zero_le _) (Nat.zero_le _) hG_7 hS_8 rfl ⟨rfl, hvc_11⟩ dX3_doubts_40
      · replace hvc_11 := hvc_11.2 h9
        refine lv_iload_n hx hb dX3_doubts_15 rfl (lv_at hl_9 2 rfl) ?_
        refine lv_aload_n hx hb dX3_doubts_16 rfl (lv_at hl_9 0 rfl) ?_
        refine lv_iload_n hx hb dX3_doubts_17 rfl (lv_at hl_9 1 rfl) ?_
        refine lv_iload_n hx hb dX3_doubts_18 rfl (lv_at hl_9 3 rfl) ?_
        refine gw_cVIP (As := [.int y1, .int y3]) (rest := [.int y2])  ⟨hx, hb, hml, hown, hts⟩ (met_X3_stateIn l E G y0 y1 y3 _ hvc_11.2) (cwV 2 hts (lw_V q1904 q1906 qs47 q104 q1907) rfl rfl rfl (by decide +kernel) ⟨Nat.le_of_ble_eq_true rfl, Nat.le_of_ble_eq_true rfl⟩) (gw_rc (q := (RX3, TX3, 13)) hK hG_7 hvc_11.1 rfl) (Nat.zero_le _) (Nat.zero_le _) (g_St0 E) hz trivial hK hG_7 hS_8 rfl hl_9.1 rfl (Nat.le_of_ble_eq_true rfl) dX3_doubts_19 (fun x3 H locs hvc_12 hG_13 hS_14 => ?_)
        clear hvc_11 hG_7 hS_8
        refine lv_iconst (v := nI 1) hx hb dX3_doubts_22 (by decide) ?_
        have jn31 : ∀ (y0 : Nat) (y1 : Int32) (y3 : Int32) (s0 : Int32) (s1 : Int32) (H : Heap) (locs : List Loc) (ls : Array Slot), wp_X3_doubts_31 E G post (wp_X3_doubts_4 E G post n4) y0 y1 y3 s0 s1 → g_H E G H → va_S (g_A E) s.heap H locs → lv_has ls 4 [(0, .ref y0), (1, .int y1), (3, .int y3)] → W p l e ({ frames := 1, cells := 0, slots := 0, locals := 22 } : Room) s m ([.ref o, .int p1] : List Value).toArray below meth c H locs 0 0 (MQ below (va_Qi (fun v G9 => G9 = G ∧ post v) (g_Bk E) (g_A E)) ([.ref o, .int p1] : List Value).toArray s 0 0 (g_A E)) (F0 m 31 ls [.int s0, .int s1]) := by
          clear hvc_12 hG_13 hS_14 hl_9
          intro y0 y1 y3 s0 s1 H locs ls hvc_15 hG_16 hS_17 hl_18
          refine lv_iadd hx hb dX3_doubts_31 ?_
          refine lv_istore_n (lv' := [(2, .int (s1 + s0)), (0, .ref y0), (1, .int y1), (3, .int y3)]) hx hb dX3_doubts_32 rfl hl_18 (by decide) rfl (fun ls hl_19 => ?_)
          clear hl_18
          refine lv_iinc (k := 3) (v := y3 + (nI 1)) (lv' := [(3, .int (y3 + (nI 1))), (2, .int (s1 + s0)), (0, .ref y0), (1, .int y1)]) hx hb dX3_doubts_33 hl_19 rfl (congrArg (y3 + ·) (by decide : Int32.ofInt (1) = nI 1)) (by decide) rfl (fun ls hl_20 => ?_)
          clear hl_19
          refine lv_goto (tgt := 4) hx hb dX3_doubts_36 (by decide) ?_
          exact ih4 y0 y1 (s1 + s0) (y3 + (nI 1)) _ _ _ hvc_15 hG_16 hS_17 (lv_sub hl_20 [2, 3, 1, 0] rfl)
        refine lv_icmp_ne (tgt := 30) hx hb dX3_doubts_23 (by decide) (fun h9 => ?_) (fun h9 => ?_)
        · replace hvc_12 := hvc_12.1 h9
          refine lv_iconst (v := nI 0) hx hb dX3_doubts_30 (by decide) ?_
          exact jn31 y0 y1 y3 (nI 0) y2 _ _ _ hvc_12 hG_13 hS_14 (lv_sub hl_9 [0, 1, 3] rfl)
        · replace hvc_12 := hvc_12.2 h9
          refine lv_iconst (v := nI 1) hx hb dX3_doubts_26 (by decide) ?_
          refine lv_goto (tgt := 31) hx hb dX3_doubts_27 (by decide) ?_
          exact jn31 y0 y1 y3 (nI 1) y2 _ _ _ hvc_12 hG_13 hS_14 (lv_sub hl_9 [0, 1, 3] rfl)
  refine lv_istore_n (lv' := [(3, .int (nI 0)), (2, .int (nI 0)), (0, .ref o), (1, .int p1)]) hx hb dX3_doubts_3 rfl hl_1 (by decide) rfl (fun ls hl_21 => ?_)
  clear hl_1
  obtain ⟨nf4, hvc⟩ := hvc
  exact lp4 nf4 o p1 (nI 0) (nI 0) _ _ _ hvc hG hS (lv_sub hl_21 [2, 3, 1, 0] rfl)
set_option maxHeartbeats 4000000 in
set_option maxRecDepth 100000 in
theorem met_X3_inDoubt (l : Launch) (E : g_E) (G : g_G) (o : Nat) (p1 : Int32) (post : Int32 → g_G → Prop) (hvc : wp_X3_inDoubt E G o p1 post) : g_MI E l yX3_inDoubt (ws_ yX3_inDoubt cX3_inDoubt 2 (Option.some Jvm.ClassFile.FieldType.int)) ({ frames := 2, cells := 0, slots := 0, locals := 45 } : Room) (fun _ => True) [.ref o, .int p1] G (post) := by
  refine g_enter (by decide +kernel) (Nat.le_of_ble_eq_true rfl) ?_
  intro p e s m below meth c ls hx hb hr hts hown hlocks hml hin hz hX hK hG hS hl
  have hl : lv_has ls 2 [(0, .ref o), (1, .int p1)] := hl
  have hown : s.vm.findClass RX3 = some m.cls := hown
  unfold wp_X3_inDoubt at hvc
  refine lv_aload_n hx hb dX3_inDoubt_0 rfl (lv_at hl 0 rfl) ?_
  refine lv_iconst (v := nI 0) hx hb dX3_inDoubt_1 (by decide) ?_
  refine gw_put (ty := .int) (C := RX3) (T := TX3) (N := 13) (own := RX3) hx hb hts in_X3 tyX3 tyX3_ok nmX3 hown hK hG hS hvc rfl (by decide) (hts _ q1783) (fun _ h9 => h9) rfl (by decide +kernel) rfl rfl dX3_inDoubt_2 (fun G1 H locs hvc_1 hG_2 hS_3 => ?_)
  clear hvc hG hS
  refine lv_iload_n hx hb dX3_inDoubt_5 rfl (lv_at hl 1 rfl) ?_
  refine gw_cSIP (As := [.int p1]) (rest := [])  ⟨hx, hb, hml, hown, hts⟩ (met_X3_isStore l E G1 p1 _ hvc_1) (va_cwS 1 hts (lw_S q1831 q1832 q104 q1833) rfl rfl rfl (by decide +kernel) ⟨Nat.le_of_ble_eq_true rfl, Nat.le_of_ble_eq_true rfl⟩) (Nat.zero_le _) (Nat.zero_le _) (g_St0 E) hz trivial hK hG_2 hS_3 rfl hl.1 rfl (Nat.le_of_ble_eq_true rfl) dX3_inDoubt_6 (fun x2 H locs hvc_4 hG_5 hS_6 => ?_)
  clear hvc_1 hG_2 hS_3
  refine lv_if_eq (tgt := 20) hx hb dX3_inDoubt_9 (by decide) (fun h9 => ?_) (fun h9 => ?_)
  · replace hvc_4 := hvc_4.1 h9
    refine lv_aload_n hx hb dX3_inDoubt_20 rfl (lv_at hl 0 rfl) ?_
    refine lv_iconst (v := nI 1) hx hb dX3_inDoubt_21 (by decide) ?_
    refine gw_cVIN (As := [.int (nI 1)]) (rest := [])  ⟨hx, hb, hml, hown, hts⟩ (met_X3_fails l E G1 o (nI 1) _ hvc_4.2) (cwV 1 hts (lw_V q1837 q1839 qs33 q104 q1840) rfl rfl rfl (by decide +kernel) ⟨Nat.le_of_ble_eq_true rfl, Nat.le_of_ble_eq_true rfl⟩) (gw_rc (q := (RX3, TX3, 13)) hK hG_5 hvc_4.1 rfl) (Nat.zero_le _) (Nat.zero_le _) (g_St0 E) hz trivial hK hG_5 hS_6 rfl hl.1 rfl (Nat.le_of_ble_eq_true rfl) dX3_inDoubt_22 (fun x4 G5 H locs hvc_7 hG_8 hS_9 => ?_)
    clear hvc_4 hG_5 hS_6
    exact g_iret hx hb hr hlocks (Nat.zero_le _) (Nat.zero_le _) hG_8 hS_9 rfl hvc_7 dX3_inDoubt_25
  · replace hvc_4 := hvc_4.2 h9
    refine lv_aload_n hx hb dX3_inDoubt_12 rfl (lv_at hl 0 rfl) ?_
    refine lv_iload_n hx hb dX3_inDoubt_13 rfl (lv_at hl 1 rfl) ?_
    refine gw_cVIP (As := [.int p1]) (rest := [])  ⟨hx, hb, hml, hown, hts⟩ (met_X3_doubts l E G1 o p1 _ hvc_4.2) (cwV 1 hts (lw_V q2097 q2099 qs71 q104 q2100) rfl rfl rfl (by decide +kernel) ⟨Nat.le_of_ble_eq_true rfl, Nat.le_of_ble_eq_true rfl⟩) (gw_rc (q := (RX3, TX3, 13)) hK hG_5 hvc_4.1 rfl) (Nat.zero_le _) (Nat.zero_le _) (g_St0 E) hz trivial hK hG_5 hS_6 rfl hl.1 rfl (Nat.le_of_ble_eq_true rfl) dX3_inDoubt_14 (fun x6 H locs hvc_10 hG_11 hS_12 => ?_)
    clear hvc_4 hG_5 hS_6
    refine lv_goto (tgt := 25) hx hb dX3_inDoubt_17 (by decide) ?_
    exact g_iret hx hb hr hlocks (Nat.zero_le _) (Nat.zero_le _) hG_11 hS_12 rfl hvc_10 dX3_inDoubt_25
set_option maxHeartbeats 4000000 in
set_option maxRecDepth 100000 in
theorem met_X3_outcome (l : Launch) (E : g_E) (G : g_G) (o : Nat) (p1 : Int32) (post : Int32 → g_G → Prop) (hvc : wp_X3_outcome E G o p1 post) : g_MI E l yX3_outcome (ws_ yX3_outcome cX3_outcome 2 (Option.some Jvm.ClassFile.FieldType.int)) ({ frames := 2, cells := 0, slots := 0, locals := 43 } : Room) (fun _ => True) [.ref o, .int p1] G (post) := by
  refine g_enter (by decide +kernel) (Nat.le_of_ble_eq_true rfl) ?_
  intro p e s m below meth c ls hx hb hr hts hown hlocks hml hin hz hX hK hG hS hl
  have hl : lv_has ls 2 [(0, .ref o), (1, .int p1)] := hl
  have hown : s.vm.findClass RX3 = some m.cls := hown
  unfold wp_X3_outcome at hvc
  refine lv_aload_n hx hb dX3_outcome_0 rfl (lv_at hl 0 rfl) ?_
  refine lv_iconst (v := nI 0) hx hb dX3_outcome_1 (by decide) ?_
  refine gw_put (ty := .int) (C := RX3) (T := TX3) (N := 13) (own := RX3) hx hb hts in_X3 tyX3 tyX3_ok nmX3 hown hK hG hS hvc rfl (by decide) (hts _ q1783) (fun _ h9 => h9) rfl (by decide +kernel) rfl rfl dX3_outcome_2 (fun G1 H locs hvc_1 hG_2 hS_3 => ?_)
  clear hvc hG hS
  refine lv_aload_n hx hb dX3_outcome_5 rfl (lv_at hl 0 rfl) ?_
  refine lv_iload_n hx hb dX3_outcome_6 rfl (lv_at hl 1 rfl) ?_
  refine gw_cVIP (As := [.int p1]) (rest := [])  ⟨hx, hb, hml, hown, hts⟩ (met_X3_isTransfer l E G1 o p1 _ hvc_1.2) (cwV 1 hts (lw_V q1884 q1886 qs43 q104 q1887) rfl rfl rfl (by decide +kernel) ⟨Nat.le_of_ble_eq_true rfl, Nat.le_of_ble_eq_true rfl⟩) (gw_rc (q := (RX3, TX3, 13)) hK hG_2 hvc_1.1 rfl) (Nat.zero_le _) (Nat.zero_le _) (g_St0 E) hz trivial hK hG_2 hS_3 rfl hl.1 rfl (Nat.le_of_ble_eq_true rfl) dX3_outcome_7 (fun x2 H locs hvc_4 hG_5 hS_6 => ?_)
  clear hvc_1 hG_2 hS_3
  refine lv_if_eq (tgt := 22) hx hb dX3_outcome_10 (by decide) (fun h9 => ?_) (fun h9 => ?_)
  · replace hvc_4 := hvc_4.1 h9
    refine lv_aload_n hx hb dX3_outcome_22 rfl (lv_at hl 0 rfl) ?_
    refine lv_iconst (v := nI 1) hx hb dX3_outcome_23 (by decide) ?_
    refine gw_cVIN (As := [.int (nI 1)]) (rest := [])  ⟨hx, hb, hml, hown, hts⟩ (met_X3_fails l E G1 o (nI 1) _ hvc_4.2) (cwV 1 hts (lw_V q1837 q1839 qs33 q104 q1840) rfl rfl rfl (by decide +kernel) ⟨Nat.le_of_ble_eq_true rfl, Nat.le_of_ble_eq_true rfl⟩) (gw_rc (q := (RX3, TX3, 13)) hK hG_5 hvc_4.1 rfl) (Nat.zero_le _) (Nat.zero_le _) (g_St0 E) hz trivial hK hG_5 hS_6 rfl hl.1 rfl (Nat.le_of_ble_eq_true rfl) dX3_outcome_24 (fun x4 G5 H locs hvc_7 hG_8 hS_9 => ?_)
    clear hvc_4 hG_5 hS_6
    exact g_iret hx hb hr hlocks (Nat.zero_le _) (Nat.zero_le _) hG_8 hS_9 rfl hvc_7 dX3_outcome_27
  · replace hvc_4 := hvc_4.2 h9
    refine lv_aload_n hx hb dX3_outcome_13 rfl (lv_at hl 0 rfl) ?_
    refine lv_iload_n hx hb dX3_outcome_14 rfl (lv_at hl 1 rfl) ?_
    refine lv_iconst (v := nI 5) hx hb dX3_outcome_15 (by decide) ?_
    refine gw_cVIP (As := [.int p1, .int (nI 5)]) (rest := [])  ⟨hx, hb, hml, hown, hts⟩ (met_X3_of l E G1 o p1 (nI 5) _ hvc_4.2) (cwV 2 hts (lw_V q1872 q1874 qs41 q104 q1875) rfl rfl rfl (by decide +kernel) ⟨Nat.le_of_ble_eq_true rfl, Nat.le_of_ble_eq_true rfl⟩) (gw_rc (q := (RX3, TX3, 13)) hK hG_5 hvc_4.1 rfl) (Nat.zero_le _) (Nat.zero_le _) (g_St0 E) hz trivial hK hG_5 hS_6 rfl hl.1 rfl (Nat.le_of_ble_eq_true rfl) dX3_outcome_16 (fun x6 H locs hvc_10 hG_11 hS_12 => ?_)
    clear hvc_4 hG_5 hS_6
    refine lv_goto (tgt := 27) hx hb dX3_outcome_19 (by decide) ?_
    exact g_iret hx hb hr hlocks (Nat.zero_le _) (Nat.zero_le _) hG_11 hS_12 rfl hvc_10 dX3_outcome_27
set_option maxHeartbeats 4000000 in
set_option maxRecDepth 100000 in
theorem met_X3_outcomeOf (l : Launch) (E : g_E) (G : g_G) (o : Nat) (p1 : Int32) (post : Int32 → Prop) (hvc : wp_X3_outcomeOf E G o p1 post) : g_MI E l yX3_outcomeOf (ws_ yX3_outcomeOf cX3_outcomeOf 4 (Option.some Jvm.ClassFile.FieldType.int)) ({ frames := 1, cells := 0, slots := 0, locals := 22 } : Room) (fun _ => True) [.ref o, .int p1] G (fun v G9 => G9 = G ∧ post v) := by
  refine g_enter (by decide +kernel) (Nat.le_of_ble_eq_true rfl) ?_
  intro p e s m below meth c ls hx hb hr hts hown hlocks hml hin hz hX hK hG hS hl
  have hl : lv_has ls 4 [(0, .ref o), (1, .int p1)] := hl
  have hown : s.vm.findClass RX3 = some m.cls := hown
  unfold wp_X3_outcomeOf at hvc
  refine lv_iconst (v := nI 0) hx hb dX3_outcomeOf_0 (by decide) ?_
  refine lv_istore_n (lv' := [(2, .int (nI 0)), (0, .ref o), (1, .int p1)]) hx hb dX3_outcomeOf_1 rfl hl (by decide) rfl (fun ls hl_1 => ?_)
  clear hl
  refine lv_iconst (v := nI 0) hx hb dX3_outcomeOf_2 (by decide) ?_
  have lp4 : ∀ (n4 : Nat) (y0 : Nat) (y1 : Int32) (y2 : Int32) (y3 : Int32) (H : Heap) (locs : List Loc) (ls : Array Slot), wp_X3_outcomeOf_4 E G post n4 y0 y1 y2 y3 → g_H E G H → va_S (g_A E) s.heap H locs → lv_has ls 4 [(0, .ref y0), (1, .int y1), (2, .int y2), (3, .int y3)] → W p l e ({ frames := 1, cells := 0, slots := 0, locals := 22 } : Room) s m ([.ref o, .int p1] : List Value).toArray below meth c H locs 0 0 (MQ below (va_Qi (fun v G9 => G9 = G ∧ post v) (g_Bk E) (g_A E)) ([.ref o, .int p1] : List Value).toArray s 0 0 (g_A E)) (F0 m 4 ls []) := by
    clear hvc hG hS hl_1
    intro n4
    induction n4 with
    | zero =>
      intro y0 y1 y2 y3 H locs ls hvc_2 hG_3 hS_4 hl_5
      exact False.elim hvc_2
    | succ n4 ih4 =>
      intro y0 y1 y2 y3 H locs ls hvc_6 hG_7 hS_8 hl_9
      refine lv_iload_n hx hb dX3_outcomeOf_4 rfl (lv_at hl_9 3 rfl) ?_
      refine lv_iconst (v := nI 4) hx hb dX3_outcomeOf_5 (by decide) ?_
      refine lv_icmp_ge (tgt := 47) hx hb dX3_outcomeOf_6 (by decide) (fun h9 => ?_) (fun h9 => ?_)
      · replace hvc_6 := hvc_6.1 h9
        refine lv_iload_n hx hb dX3_outcomeOf_47 rfl (lv_at hl_9 2 rfl) ?_
        exact g_iret hx hb hr hlocks (Nat.zero_le _) (Nat.zero_le _) hG_7 hS_8 rfl ⟨rfl, hvc_6⟩ dX3_outcomeOf_48
      · replace hvc_6 := hvc_6.2 h9
        refine lv_iload_n hx hb dX3_outcomeOf_9 rfl (lv_at hl_9 2 rfl) ?_
        refine lv_aload_n hx hb dX3_outcomeOf_10 rfl (lv_at hl_9 0 rfl) ?_
        refine lv_iload_n hx hb dX3_outcomeOf_11 rfl (lv_at hl_9 3 rfl) ?_
        refine lv_iload_n hx hb dX3_outcomeOf_12 rfl (lv_at hl_9 1 rfl) ?_
        refine gw_cVIP (As := [.int y3, .int y1]) (rest := [.int y2])  ⟨hx, hb, hml, hown, hts⟩ (met_X3_stateIn l E G y0 y3 y1 _ hvc_6.2) (cwV 2 hts (lw_V q1904 q1906 qs47 q104 q1907) rfl rfl rfl (by decide +kernel) ⟨Nat.le_of_ble_eq_true rfl, Nat.le_of_ble_eq_true rfl⟩) (gw_rc (q := (RX3, TX3, 13)) hK hG_7 hvc_6.1 rfl) (Nat.zero_le _) (Nat.zero_le _) (g_St0 E) hz trivial hK hG_7 hS_8 rfl hl_9.1 rfl (Nat.le_of_ble_eq_true rfl) dX3_outcomeOf_13 (fun x1 H locs hvc_10 hG_11 hS_12 => ?_)
        clear hvc_6 hG_7 hS_8
        refine lv_iconst (v := nI 2) hx hb dX3_outcomeOf_16 (by decide) ?_
        have jn39 : ∀ (y0 : Nat) (y1 : Int32) (y3 : Int32) (s0 : Int32) (s1 : Int32) (H : Heap) (locs : List Loc) (ls : Array Slot), wp_X3_outcomeOf_39 E G post (wp_X3_outcomeOf_4 E G post n4) y0 y1 y3 s0 s1 → g_H E G H → va_S (g_A E) s.heap H locs → lv_has ls 4 [(0, .ref y0), (1, .int y1), (3, .int y3)] → W p l e ({ frames := 1, cells := 0, slots := 0, locals := 22 } : Room) s m ([.ref o, .int p1] : List Value).toArray below meth c H locs 0 0 (MQ below (va_Qi (fun v G9 => G9 = G ∧ post v) (g_Bk E) (g_A E)) ([.ref o, .int p1] : List Value).toArray s 0 0 (g_A E)) (F0 m 39 ls [.int s0, .int s1]) := by
          clear hvc_10 hG_11 hS_12 hl_9
          intro y0 y1 y3 s0 s1 H locs ls hvc_13 hG_14 hS_15 hl_16
          refine lv_ior hx hb dX3_outcomeOf_39 ?_
          refine lv_istore_n (lv' := [(2, .int (s1 ||| s0)), (0, .ref y0), (1, .int y1), (3, .int y3)]) hx hb dX3_outcomeOf_40 rfl hl_16 (by decide) rfl (fun ls hl_17 => ?_)
          clear hl_16
          refine lv_iinc (k := 3) (v := y3 + (nI 1)) (lv' := [(3, .int (y3 + (nI 1))), (2, .int (s1 ||| s0)), (0, .ref y0), (1, .int y1)]) hx hb dX3_outcomeOf_41 hl_17 rfl (congrArg (y3 + ·) (by decide : Int32.ofInt (1) = nI 1)) (by decide) rfl (fun ls hl_18 => ?_)
          clear hl_17
          refine lv_goto (tgt := 4) hx hb dX3_outcomeOf_44 (by decide) ?_
          exact ih4 y0 y1 (s1 ||| s0) (y3 + (nI 1)) _ _ _ hvc_13 hG_14 hS_15 (lv_sub hl_18 [2, 3, 1, 0] rfl)
        refine lv_icmp_ne (tgt := 24) hx hb dX3_outcomeOf_17 (by decide) (fun h9 => ?_) (fun h9 => ?_)
        · replace hvc_10 := hvc_10.1 h9
          refine lv_aload_n hx hb dX3_outcomeOf_24 rfl (lv_at hl_9 0 rfl) ?_
          refine lv_iload_n hx hb dX3_outcomeOf_25 rfl (lv_at hl_9 3 rfl) ?_
          refine lv_iload_n hx hb dX3_outcomeOf_26 rfl (lv_at hl_9 1 rfl) ?_
          refine gw_cVIP (As := [.int y3, .int y1]) (rest := [.int y2])  ⟨hx, hb, hml, hown, hts⟩ (met_X3_stateIn l E G y0 y3 y1 _ hvc_10.2) (cwV 2 hts (lw_V q1904 q1906 qs47 q104 q1907) rfl rfl rfl (by decide +kernel) ⟨Nat.le_of_ble_eq_true rfl, Nat.le_of_ble_eq_true rfl⟩) (gw_rc (q := (RX3, TX3, 13)) hK hG_11 hvc_10.1 rfl) (Nat.zero_le _) (Nat.zero_le _) (g_St0 E) hz trivial hK hG_11 hS_12 rfl hl_9.1 rfl (Nat.le_of_ble_eq_true rfl) dX3_outcomeOf_27 (fun x3 H locs hvc_19 hG_20 hS_21 => ?_)
          clear hvc_10 hG_11 hS_12
          refine lv_iconst (v := nI 3) hx hb dX3_outcomeOf_30 (by decide) ?_
          refine lv_icmp_ne (tgt := 38) hx hb dX3_outcomeOf_31 (by decide) (fun h9 => ?_) (fun h9 => ?_)
          · replace hvc_19 := hvc_19.1 h9
            refine lv_iconst (v := nI 0) hx hb dX3_outcomeOf_38 (by decide) ?_
            exact jn39 y0 y1 y3 (nI 0) y2 _ _ _ hvc_19 hG_20 hS_21 (lv_sub hl_9 [0, 1, 3] rfl)
          · replace hvc_19 := hvc_19.2 h9
            refine lv_iconst (v := nI 2) hx hb dX3_outcomeOf_34 (by decide) ?_
            refine lv_goto (tgt := 39) hx hb dX3_outcomeOf_35 (by decide) ?_
            exact jn39 y0 y1 y3 (nI 2) y2 _ _ _ hvc_19 hG_20 hS_21 (lv_sub hl_9 [0, 1, 3] rfl)
        · replace hvc_10 := hvc_10.2 h9
          refine lv_iconst (v := nI 1) hx hb dX3_outcomeOf_20 (by decide) ?_
          refine lv_goto (tgt := 39) hx hb dX3_outcomeOf_21 (by decide) ?_
          exact jn39 y0 y1 y3 (nI 1) y2 _ _ _ hvc_10 hG_11 hS_12 (lv_sub hl_9 [0, 1, 3] rfl)
  refine lv_istore_n (lv' := [(3, .int (nI 0)), (2, .int (nI 0)), (0, .ref o), (1, .int p1)]) hx hb dX3_outcomeOf_3 rfl hl_1 (by decide) rfl (fun ls hl_22 => ?_)
  clear hl_1
  obtain ⟨nf4, hvc⟩ := hvc
  exact lp4 nf4 o p1 (nI 0) (nI 0) _ _ _ hvc hG hS (lv_sub hl_22 [2, 3, 1, 0] rfl)
set_option maxHeartbeats 4000000 in
set_option maxRecDepth 100000 in
theorem met_X3_outcomeByStores (l : Launch) (E : g_E) (G : g_G) (o : Nat) (p1 : Int32) (post : Int32 → g_G → Prop) (hvc : wp_X3_outcomeByStores E G o p1 post) : g_MI E l yX3_outcomeByStores (ws_ yX3_outcomeByStores cX3_outcomeByStores 2 (Option.some Jvm.ClassFile.FieldType.int)) ({ frames := 2, cells := 0, slots := 0, locals := 45 } : Room) (fun _ => True) [.ref o, .int p1] G (post) := by
  refine g_enter (by decide +kernel) (Nat.le_of_ble_eq_true rfl) ?_
  intro p e s m below meth c ls hx hb hr hts hown hlocks hml hin hz hX hK hG hS hl
  have hl : lv_has ls 2 [(0, .ref o), (1, .int p1)] := hl
  have hown : s.vm.findClass RX3 = some m.cls := hown
  unfold wp_X3_outcomeByStores at hvc
  refine lv_aload_n hx hb dX3_outcomeByStores_0 rfl (lv_at hl 0 rfl) ?_
  refine lv_iconst (v := nI 0) hx hb dX3_outcomeByStores_1 (by decide) ?_
  refine gw_put (ty := .int) (C := RX3) (T := TX3) (N := 13) (own := RX3) hx hb hts in_X3 tyX3 tyX3_ok nmX3 hown hK hG hS hvc rfl (by decide) (hts _ q1783) (fun _ h9 => h9) rfl (by decide +kernel) rfl rfl dX3_outcomeByStores_2 (fun G1 H locs hvc_1 hG_2 hS_3 => ?_)
  clear hvc hG hS
  refine lv_aload_n hx hb dX3_outcomeByStores_5 rfl (lv_at hl 0 rfl) ?_
  refine lv_iload_n hx hb dX3_outcomeByStores_6 rfl (lv_at hl 1 rfl) ?_
  refine gw_cVIP (As := [.int p1]) (rest := [])  ⟨hx, hb, hml, hown, hts⟩ (met_X3_isTransfer l E G1 o p1 _ hvc_1.2) (cwV 1 hts (lw_V q1884 q1886 qs43 q104 q1887) rfl rfl rfl (by decide +kernel) ⟨Nat.le_of_ble_eq_true rfl, Nat.le_of_ble_eq_true rfl⟩) (gw_rc (q := (RX3, TX3, 13)) hK hG_2 hvc_1.1 rfl) (Nat.zero_le _) (Nat.zero_le _) (g_St0 E) hz trivial hK hG_2 hS_3 rfl hl.1 rfl (Nat.le_of_ble_eq_true rfl) dX3_outcomeByStores_7 (fun x2 H locs hvc_4 hG_5 hS_6 => ?_)
  clear hvc_1 hG_2 hS_3
  refine lv_if_eq (tgt := 21) hx hb dX3_outcomeByStores_10 (by decide) (fun h9 => ?_) (fun h9 => ?_)
  · replace hvc_4 := hvc_4.1 h9
    refine lv_aload_n hx hb dX3_outcomeByStores_21 rfl (lv_at hl 0 rfl) ?_
    refine lv_iconst (v := nI 1) hx hb dX3_outcomeByStores_22 (by decide) ?_
    refine gw_cVIN (As := [.int (nI 1)]) (rest := [])  ⟨hx, hb, hml, hown, hts⟩ (met_X3_fails l E G1 o (nI 1) _ hvc_4.2) (cwV 1 hts (lw_V q1837 q1839 qs33 q104 q1840) rfl rfl rfl (by decide +kernel) ⟨Nat.le_of_ble_eq_true rfl, Nat.le_of_ble_eq_true rfl⟩) (gw_rc (q := (RX3, TX3, 13)) hK hG_5 hvc_4.1 rfl) (Nat.zero_le _) (Nat.zero_le _) (g_St0 E) hz trivial hK hG_5 hS_6 rfl hl.1 rfl (Nat.le_of_ble_eq_true rfl) dX3_outcomeByStores_23 (fun x4 G5 H locs hvc_7 hG_8 hS_9 => ?_)
    clear hvc_4 hG_5 hS_6
    exact g_iret hx hb hr hlocks (Nat.zero_le _) (Nat.zero_le _) hG_8 hS_9 rfl hvc_7 dX3_outcomeByStores_26
  · replace hvc_4 := hvc_4.2 h9
    refine lv_aload_n hx hb dX3_outcomeByStores_13 rfl (lv_at hl 0 rfl) ?_
    refine lv_iload_n hx hb dX3_outcomeByStores_14 rfl (lv_at hl 1 rfl) ?_
    refine gw_cVIP (As := [.int p1]) (rest := [])  ⟨hx, hb, hml, hown, hts⟩ (met_X3_outcomeOf l E G1 o p1 _ hvc_4.2) (cwV 1 hts (lw_V q2109 q2111 qs72 q104 q2112) rfl rfl rfl (by decide +kernel) ⟨Nat.le_of_ble_eq_true rfl, Nat.le_of_ble_eq_true rfl⟩) (gw_rc (q := (RX3, TX3, 13)) hK hG_5 hvc_4.1 rfl) (Nat.zero_le _) (Nat.zero_le _) (g_St0 E) hz trivial hK hG_5 hS_6 rfl hl.1 rfl (Nat.le_of_ble_eq_true rfl) dX3_outcomeByStores_15 (fun x6 H locs hvc_10 hG_11 hS_12 => ?_)
    clear hvc_4 hG_5 hS_6
    refine lv_goto (tgt := 26) hx hb dX3_outcomeByStores_18 (by decide) ?_
    exact g_iret hx hb hr hlocks (Nat.zero_le _) (Nat.zero_le _) hG_11 hS_12 rfl hvc_10 dX3_outcomeByStores_26
set_option maxHeartbeats 4000000 in
set_option maxRecDepth 100000 in
theorem met_X3_hasEnded (l : Launch) (E : g_E) (G : g_G) (o : Nat) (p1 : Int32) (post : Int32 → g_G → Prop) (hvc : wp_X3_hasEnded E G o p1 post) : g_MI E l yX3_hasEnded (ws_ yX3_hasEnded cX3_hasEnded 2 (Option.some Jvm.ClassFile.FieldType.boolean)) ({ frames := 2, cells := 0, slots := 0, locals := 43 } : Room) (fun _ => True) [.ref o, .int p1] G (post) := by
  refine g_enter (by decide +kernel) (Nat.le_of_ble_eq_true rfl) ?_
  intro p e s m below meth c ls hx hb hr hts hown hlocks hml hin hz hX hK hG hS hl
  have hl : lv_has ls 2 [(0, .ref o), (1, .int p1)] := hl
  have hown : s.vm.findClass RX3 = some m.cls := hown
  unfold wp_X3_hasEnded at hvc
  refine lv_aload_n hx hb dX3_hasEnded_0 rfl (lv_at hl 0 rfl) ?_
  refine lv_iconst (v := nI 0) hx hb dX3_hasEnded_1 (by decide) ?_
  refine gw_put (ty := .int) (C := RX3) (T := TX3) (N := 13) (own := RX3) hx hb hts in_X3 tyX3 tyX3_ok nmX3 hown hK hG hS hvc rfl (by decide) (hts _ q1783) (fun _ h9 => h9) rfl (by decide +kernel) rfl rfl dX3_hasEnded_2 (fun G1 H locs hvc_1 hG_2 hS_3 => ?_)
  clear hvc hG hS
  refine lv_aload_n hx hb dX3_hasEnded_5 rfl (lv_at hl 0 rfl) ?_
  refine lv_iload_n hx hb dX3_hasEnded_6 rfl (lv_at hl 1 rfl) ?_
  refine gw_cVIP (As := [.int p1]) (rest := [])  ⟨hx, hb, hml, hown, hts⟩ (met_X3_isTransfer l E G1 o p1 _ hvc_1.2) (cwV 1 hts (lw_V q1884 q1886 qs43 q104 q1887) rfl rfl rfl (by decide +kernel) ⟨Nat.le_of_ble_eq_true rfl, Nat.le_of_ble_eq_true rfl⟩) (gw_rc (q := (RX3, TX3, 13)) hK hG_2 hvc_1.1 rfl) (Nat.zero_le _) (Nat.zero_le _) (g_St0 E) hz trivial hK hG_2 hS_3 rfl hl.1 rfl (Nat.le_of_ble_eq_true rfl) dX3_hasEnded_7 (fun x2 H locs hvc_4 hG_5 hS_6 => ?_)
  clear hvc_1 hG_2 hS_3
  refine lv_if_eq (tgt := 32) hx hb dX3_hasEnded_10 (by decide) (fun h9 => ?_) (fun h9 => ?_)
  · replace hvc_4 := hvc_4.1 h9
    refine lv_aload_n hx hb dX3_hasEnded_32 rfl (lv_at hl 0 rfl) ?_
    refine lv_iconst (v := nI 1) hx hb dX3_hasEnded_33 (by decide) ?_
    refine gw_cVIN (As := [.int (nI 1)]) (rest := [])  ⟨hx, hb, hml, hown, hts⟩ (met_X3_fails l E G1 o (nI 1) _ hvc_4.2) (cwV 1 hts (lw_V q1837 q1839 qs33 q104 q1840) rfl rfl rfl (by decide +kernel) ⟨Nat.le_of_ble_eq_true rfl, Nat.le_of_ble_eq_true rfl⟩) (gw_rc (q := (RX3, TX3, 13)) hK hG_5 hvc_4.1 rfl) (Nat.zero_le _) (Nat.zero_le _) (g_St0 E) hz trivial hK hG_5 hS_6 rfl hl.1 rfl (Nat.le_of_ble_eq_true rfl) dX3_hasEnded_34 (fun x4 G5 H locs hvc_7 hG_8 hS_9 => ?_)
    clear hvc_4 hG_5 hS_6
    refine lv_if_le (tgt := 44) hx hb dX3_hasEnded_37 (by decide) (fun h9 => ?_) (fun h9 => ?_)
    · replace hvc_7 := hvc_7.1 h9
      refine lv_iconst (v := nI 0) hx hb dX3_hasEnded_44 (by decide) ?_
      exact g_iret hx hb hr hlocks (Nat.zero_le _) (Nat.zero_le _) hG_8 hS_9 rfl hvc_7 dX3_hasEnded_45
    · replace hvc_7 := hvc_7.2 h9
      refine lv_iconst (v := nI 1) hx hb dX3_hasEnded_40 (by decide) ?_
      refine lv_goto (tgt := 45) hx hb dX3_hasEnded_41 (by decide) ?_
      exact g_iret hx hb hr hlocks (Nat.zero_le _) (Nat.zero_le _) hG_8 hS_9 rfl hvc_7 dX3_hasEnded_45
  · replace hvc_4 := hvc_4.2 h9
    refine lv_aload_n hx hb dX3_hasEnded_13 rfl (lv_at hl 0 rfl) ?_
    refine lv_iload_n hx hb dX3_hasEnded_14 rfl (lv_at hl 1 rfl) ?_
    refine lv_bipush (v := nI 6) hx hb dX3_hasEnded_15 (by decide) ?_
    refine gw_cVIP (As := [.int p1, .int (nI 6)]) (rest := [])  ⟨hx, hb, hml, hown, hts⟩ (met_X3_of l E G1 o p1 (nI 6) _ hvc_4.2) (cwV 2 hts (lw_V q1872 q1874 qs41 q104 q1875) rfl rfl rfl (by decide +kernel) ⟨Nat.le_of_ble_eq_true rfl, Nat.le_of_ble_eq_true rfl⟩) (gw_rc (q := (RX3, TX3, 13)) hK hG_5 hvc_4.1 rfl) (Nat.zero_le _) (Nat.zero_le _) (g_St0 E) hz trivial hK hG_5 hS_6 rfl hl.1 rfl (Nat.le_of_ble_eq_true rfl) dX3_hasEnded_17 (fun x6 H locs hvc_10 hG_11 hS_12 => ?_)
    clear hvc_4 hG_5 hS_6
    refine lv_iconst (v := nI 1) hx hb dX3_hasEnded_20 (by decide) ?_
    refine lv_icmp_ne (tgt := 28) hx hb dX3_hasEnded_21 (by decide) (fun h9 => ?_) (fun h9 => ?_)
    · replace hvc_10 := hvc_10.1 h9
      refine lv_iconst (v := nI 0) hx hb dX3_hasEnded_28 (by decide) ?_
      refine lv_goto (tgt := 45) hx hb dX3_hasEnded_29 (by decide) ?_
      exact g_iret hx hb hr hlocks (Nat.zero_le _) (Nat.zero_le _) hG_11 hS_12 rfl hvc_10 dX3_hasEnded_45
    · replace hvc_10 := hvc_10.2 h9
      refine lv_iconst (v := nI 1) hx hb dX3_hasEnded_24 (by decide) ?_
      refine lv_goto (tgt := 45) hx hb dX3_hasEnded_25 (by decide) ?_
      exact g_iret hx hb hr hlocks (Nat.zero_le _) (Nat.zero_le _) hG_11 hS_12 rfl hvc_10 dX3_hasEnded_45
set_option maxHeartbeats 4000000 in
set_option maxRecDepth 100000 in
theorem met_X3_saidYes (l : Launch) (E : g_E) (G : g_G) (o : Nat) (p1 : Int32) (post : Int32 → g_G → Prop) (hvc : wp_X3_saidYes E G o p1 post) : g_MI E l yX3_saidYes (ws_ yX3_saidYes cX3_saidYes 2 (Option.some Jvm.ClassFile.FieldType.int)) ({ frames := 2, cells := 0, slots := 0, locals := 43 } : Room) (fun _ => True) [.ref o, .int p1] G (post) := by
  refine g_enter (by decide +kernel) (Nat.le_of_ble_eq_true rfl) ?_
  intro p e s m below meth c ls hx hb hr hts hown hlocks hml hin hz hX hK hG hS hl
  have hl : lv_has ls 2 [(0, .ref o), (1, .int p1)] := hl
  have hown : s.vm.findClass RX3 = some m.cls := hown
  unfold wp_X3_saidYes at hvc
  refine lv_aload_n hx hb dX3_saidYes_0 rfl (lv_at hl 0 rfl) ?_
  refine lv_iconst (v := nI 0) hx hb dX3_saidYes_1 (by decide) ?_
  refine gw_put (ty := .int) (C := RX3) (T := TX3) (N := 13) (own := RX3) hx hb hts in_X3 tyX3 tyX3_ok nmX3 hown hK hG hS hvc rfl (by decide) (hts _ q1783) (fun _ h9 => h9) rfl (by decide +kernel) rfl rfl dX3_saidYes_2 (fun G1 H locs hvc_1 hG_2 hS_3 => ?_)
  clear hvc hG hS
  refine lv_aload_n hx hb dX3_saidYes_5 rfl (lv_at hl 0 rfl) ?_
  refine lv_iload_n hx hb dX3_saidYes_6 rfl (lv_at hl 1 rfl) ?_
  refine gw_cVIP (As := [.int p1]) (rest := [])  ⟨hx, hb, hml, hown, hts⟩ (met_X3_isTransfer l E G1 o p1 _ hvc_1.2) (cwV 1 hts (lw_V q1884 q1886 qs43 q104 q1887) rfl rfl rfl (by decide +kernel) ⟨Nat.le_of_ble_eq_true rfl, Nat.le_of_ble_eq_true rfl⟩) (gw_rc (q := (RX3, TX3, 13)) hK hG_2 hvc_1.1 rfl) (Nat.zero_le _) (Nat.zero_le _) (g_St0 E) hz trivial hK hG_2 hS_3 rfl hl.1 rfl (Nat.le_of_ble_eq_true rfl) dX3_saidYes_7 (fun x2 H locs hvc_4 hG_5 hS_6 => ?_)
  clear hvc_1 hG_2 hS_3
  refine lv_if_eq (tgt := 22) hx hb dX3_saidYes_10 (by decide) (fun h9 => ?_) (fun h9 => ?_)
  · replace hvc_4 := hvc_4.1 h9
    refine lv_aload_n hx hb dX3_saidYes_22 rfl (lv_at hl 0 rfl) ?_
    refine lv_iconst (v := nI 1) hx hb dX3_saidYes_23 (by decide) ?_
    refine gw_cVIN (As := [.int (nI 1)]) (rest := [])  ⟨hx, hb, hml, hown, hts⟩ (met_X3_fails l E G1 o (nI 1) _ hvc_4.2) (cwV 1 hts (lw_V q1837 q1839 qs33 q104 q1840) rfl rfl rfl (by decide +kernel) ⟨Nat.le_of_ble_eq_true rfl, Nat.le_of_ble_eq_true rfl⟩) (gw_rc (q := (RX3, TX3, 13)) hK hG_5 hvc_4.1 rfl) (Nat.zero_le _) (Nat.zero_le _) (g_St0 E) hz trivial hK hG_5 hS_6 rfl hl.1 rfl (Nat.le_of_ble_eq_true rfl) dX3_saidYes_24 (fun x4 G5 H locs hvc_7 hG_8 hS_9 => ?_)
    clear hvc_4 hG_5 hS_6
    exact g_iret hx hb hr hlocks (Nat.zero_le _) (Nat.zero_le _) hG_8 hS_9 rfl hvc_7 dX3_saidYes_27
  · replace hvc_4 := hvc_4.2 h9
    refine lv_aload_n hx hb dX3_saidYes_13 rfl (lv_at hl 0 rfl) ?_
    refine lv_iload_n hx hb dX3_saidYes_14 rfl (lv_at hl 1 rfl) ?_
    refine lv_iconst (v := nI 3) hx hb dX3_saidYes_15 (by decide) ?_
    refine gw_cVIP (As := [.int p1, .int (nI 3)]) (rest := [])  ⟨hx, hb, hml, hown, hts⟩ (met_X3_of l E G1 o p1 (nI 3) _ hvc_4.2) (cwV 2 hts (lw_V q1872 q1874 qs41 q104 q1875) rfl rfl rfl (by decide +kernel) ⟨Nat.le_of_ble_eq_true rfl, Nat.le_of_ble_eq_true rfl⟩) (gw_rc (q := (RX3, TX3, 13)) hK hG_5 hvc_4.1 rfl) (Nat.zero_le _) (Nat.zero_le _) (g_St0 E) hz trivial hK hG_5 hS_6 rfl hl.1 rfl (Nat.le_of_ble_eq_true rfl) dX3_saidYes_16 (fun x6 H locs hvc_10 hG_11 hS_12 => ?_)
    clear hvc_4 hG_5 hS_6
    refine lv_goto (tgt := 27) hx hb dX3_saidYes_19 (by decide) ?_
    exact g_iret hx hb hr hlocks (Nat.zero_le _) (Nat.zero_le _) hG_11 hS_12 rfl hvc_10 dX3_saidYes_27
set_option maxHeartbeats 4000000 in
set_option maxRecDepth 100000 in
theorem met_X3_saidDone (l : Launch) (E : g_E) (G : g_G) (o : Nat) (p1 : Int32) (post : Int32 → g_G → Prop) (hvc : wp_X3_saidDone E G o p1 post) : g_MI E l yX3_saidDone (ws_ yX3_saidDone cX3_saidDone 2 (Option.some Jvm.ClassFile.FieldType.int)) ({ frames := 2, cells := 0, slots := 0, locals := 43 } : Room) (fun _ => True) [.ref o, .int p1] G (post) := by
  refine g_enter (by decide +kernel) (Nat.le_of_ble_eq_true rfl) ?_
  intro p e s m below meth c ls hx hb hr hts hown hlocks hml hin hz hX hK hG hS hl
  have hl : lv_has ls 2 [(0, .ref o), (1, .int p1)] := hl
  have hown : s.vm.findClass RX3 = some m.cls := hown
  unfold wp_X3_saidDone at hvc
  refine lv_aload_n hx hb dX3_saidDone_0 rfl (lv_at hl 0 rfl) ?_
  refine lv_iconst (v := nI 0) hx hb dX3_saidDone_1 (by decide) ?_
  refine gw_put (ty := .int) (C := RX3) (T := TX3) (N := 13) (own := RX3) hx hb hts in_X3 tyX3 tyX3_ok nmX3 hown hK hG hS hvc rfl (by decide) (hts _ q1783) (fun _ h9 => h9) rfl (by decide +kernel) rfl rfl dX3_saidDone_2 (fun G1 H locs hvc_1 hG_2 hS_3 => ?_)
  clear hvc hG hS
  refine lv_aload_n hx hb dX3_saidDone_5 rfl (lv_at hl 0 rfl) ?_
  refine lv_iload_n hx hb dX3_saidDone_6 rfl (lv_at hl 1 rfl) ?_
  refine gw_cVIP (As := [.int p1]) (rest := [])  ⟨hx, hb, hml, hown, hts⟩ (met_X3_isTransfer l E G1 o p1 _ hvc_1.2) (cwV 1 hts (lw_V q1884 q1886 qs43 q104 q1887) rfl rfl rfl (by decide +kernel) ⟨Nat.le_of_ble_eq_true rfl, Nat.le_of_ble_eq_true rfl⟩) (gw_rc (q := (RX3, TX3, 13)) hK hG_2 hvc_1.1 rfl) (Nat.zero_le _) (Nat.zero_le _) (g_St0 E) hz trivial hK hG_2 hS_3 rfl hl.1 rfl (Nat.le_of_ble_eq_true rfl) dX3_saidDone_7 (fun x2 H locs hvc_4 hG_5 hS_6 => ?_)
  clear hvc_1 hG_2 hS_3
  refine lv_if_eq (tgt := 22) hx hb dX3_saidDone_10 (by decide) (fun h9 => ?_) (fun h9 => ?_)
  · replace hvc_4 := hvc_4.1 h9
    refine lv_aload_n hx hb dX3_saidDone_22 rfl (lv_at hl 0 rfl) ?_
    refine lv_iconst (v := nI 1) hx hb dX3_saidDone_23 (by decide) ?_
    refine gw_cVIN (As := [.int (nI 1)]) (rest := [])  ⟨hx, hb, hml, hown, hts⟩ (met_X3_fails l E G1 o (nI 1) _ hvc_4.2) (cwV 1 hts (lw_V q1837 q1839 qs33 q104 q1840) rfl rfl rfl (by decide +kernel) ⟨Nat.le_of_ble_eq_true rfl, Nat.le_of_ble_eq_true rfl⟩) (gw_rc (q := (RX3, TX3, 13)) hK hG_5 hvc_4.1 rfl) (Nat.zero_le _) (Nat.zero_le _) (g_St0 E) hz trivial hK hG_5 hS_6 rfl hl.1 rfl (Nat.le_of_ble_eq_true rfl) dX3_saidDone_24 (fun x4 G5 H locs hvc_7 hG_8 hS_9 => ?_)
    clear hvc_4 hG_5 hS_6
    exact g_iret hx hb hr hlocks (Nat.zero_le _) (Nat.zero_le _) hG_8 hS_9 rfl hvc_7 dX3_saidDone_27
  · replace hvc_4 := hvc_4.2 h9
    refine lv_aload_n hx hb dX3_saidDone_13 rfl (lv_at hl 0 rfl) ?_
    refine lv_iload_n hx hb dX3_saidDone_14 rfl (lv_at hl 1 rfl) ?_
    refine lv_iconst (v := nI 4) hx hb dX3_saidDone_15 (by decide) ?_
    refine gw_cVIP (As := [.int p1, .int (nI 4)]) (rest := [])  ⟨hx, hb, hml, hown, hts⟩ (met_X3_of l E G1 o p1 (nI 4) _ hvc_4.2) (cwV 2 hts (lw_V q1872 q1874 qs41 q104 q1875) rfl rfl rfl (by decide +kernel) ⟨Nat.le_of_ble_eq_true rfl, Nat.le_of_ble_eq_true rfl⟩) (gw_rc (q := (RX3, TX3, 13)) hK hG_5 hvc_4.1 rfl) (Nat.zero_le _) (Nat.zero_le _) (g_St0 E) hz trivial hK hG_5 hS_6 rfl hl.1 rfl (Nat.le_of_ble_eq_true rfl) dX3_saidDone_16 (fun x6 H locs hvc_10 hG_11 hS_12 => ?_)
    clear hvc_4 hG_5 hS_6
    refine lv_goto (tgt := 27) hx hb dX3_saidDone_19 (by decide) ?_
    exact g_iret hx hb hr hlocks (Nat.zero_le _) (Nat.zero_le _) hG_11 hS_12 rfl hvc_10 dX3_saidDone_27
set_option maxHeartbeats 4000000 in
set_option maxRecDepth 100000 in
theorem met_X3_totalOf (l : Launch) (E : g_E) (G : g_G) (o : Nat) (post : Int32 → Prop) (hvc : wp_X3_totalOf E G o post) : g_MI E l yX3_totalOf (ws_ yX3_totalOf cX3_totalOf 1 (Option.some Jvm.ClassFile.FieldType.int)) ({ frames := 0, cells := 0, slots := 0, locals := 0 } : Room) (fun _ => True) [.ref o] G (fun v G9 => G9 = G ∧ post v) := by
  refine g_enter (by decide +kernel) (Nat.le_of_ble_eq_true rfl) ?_
  intro p e s m below meth c ls hx hb hr hts hown hlocks hml hin hz hX hK hG hS hl
  have hl : lv_has ls 1 [(0, .ref o)] := hl
  have hown : s.vm.findClass RX3 = some m.cls := hown
  unfold wp_X3_totalOf at hvc
  refine lv_aload_n hx hb dX3_totalOf_0 rfl (lv_at hl 0 rfl) ?_
  refine gw_gr (C := RX3) (T := TX3) (N := 13) (own := RX3) hx hb hts in_X3 hown hK hG hvc rfl (by decide) (hts _ q1784) (fun _ h9 => h9) dX3_totalOf_1 (fun x1 hvc_1 => ?_)
  clear hvc
  refine lv_iconst (v := nI 5) hx hb dX3_totalOf_4 (by decide) ?_
  refine gw_ild hx hb hK hG hvc_1 dX3_totalOf_5 (fun x2 hvc_2 => ?_)
  clear hvc_1
  refine lv_aload_n hx hb dX3_totalOf_6 rfl (lv_at hl 0 rfl) ?_
  refine gw_gr (C := RX3) (T := TX3) (N := 13) (own := RX3) hx hb hts in_X3 hown hK hG hvc_2 rfl (by decide) (hts _ q1784) (fun _ h9 => h9) dX3_totalOf_7 (fun x3 hvc_3 => ?_)
  clear hvc_2
  refine lv_bipush (v := nI 6) hx hb dX3_totalOf_10 (by decide) ?_
  refine gw_ild hx hb hK hG hvc_3 dX3_totalOf_12 (fun x4 hvc_4 => ?_)
  clear hvc_3
  refine lv_iadd hx hb dX3_totalOf_13 ?_
  refine lv_aload_n hx hb dX3_totalOf_14 rfl (lv_at hl 0 rfl) ?_
  refine gw_gr (C := RX3) (T := TX3) (N := 13) (own := RX3) hx hb hts in_X3 hown hK hG hvc_4 rfl (by decide) (hts _ q1784) (fun _ h9 => h9) dX3_totalOf_15 (fun x5 hvc_5 => ?_)
  clear hvc_4
  refine lv_bipush (v := nI 7) hx hb dX3_totalOf_18 (by decide) ?_
  refine gw_ild hx hb hK hG hvc_5 dX3_totalOf_20 (fun x6 hvc_6 => ?_)
  clear hvc_5
  refine lv_iadd hx hb dX3_totalOf_21 ?_
  refine lv_aload_n hx hb dX3_totalOf_22 rfl (lv_at hl 0 rfl) ?_
  refine gw_gr (C := RX3) (T := TX3) (N := 13) (own := RX3) hx hb hts in_X3 hown hK hG hvc_6 rfl (by decide) (hts _ q1784) (fun _ h9 => h9) dX3_totalOf_23 (fun x7 hvc_7 => ?_)
  clear hvc_6
  refine lv_bipush (v := nI 8) hx hb dX3_totalOf_26 (by decide) ?_
  refine gw_ild hx hb hK hG hvc_7 dX3_totalOf_28 (fun x8 hvc_8 => ?_)
  clear hvc_7
  refine lv_iadd hx hb dX3_totalOf_29 ?_
  exact g_iret hx hb hr hlocks (Nat.zero_le _) (Nat.zero_le _) hG hS rfl ⟨rfl, hvc_8⟩ dX3_totalOf_30
set_option maxHeartbeats 4000000 in
set_option maxRecDepth 100000 in
theorem met_X3_total (l : Launch) (E : g_E) (G : g_G) (o : Nat) (post : Int32 → g_G → Prop) (hvc : wp_X3_total E G o post) : g_MI E l yX3_total (ws_ yX3_total cX3_total 1 (Option.some Jvm.ClassFile.FieldType.int)) ({ frames := 1, cells := 0, slots := 0, locals := 20 } : Room) (fun _ => True) [.ref o] G (post) := by
  refine g_enter (by decide +kernel) (Nat.le_of_ble_eq_true rfl) ?_
  intro p e s m below meth c ls hx hb hr hts hown hlocks hml hin hz hX hK hG hS hl
  have hl : lv_has ls 1 [(0, .ref o)] := hl
  have hown : s.vm.findClass RX3 = some m.cls := hown
  unfold wp_X3_total at hvc
  refine lv_aload_n hx hb dX3_total_0 rfl (lv_at hl 0 rfl) ?_
  refine lv_iconst (v := nI 0) hx hb dX3_total_1 (by decide) ?_
  refine gw_put (ty := .int) (C := RX3) (T := TX3) (N := 13) (own := RX3) hx hb hts in_X3 tyX3 tyX3_ok nmX3 hown hK hG hS hvc rfl (by decide) (hts _ q1783) (fun _ h9 => h9) rfl (by decide +kernel) rfl rfl dX3_total_2 (fun G1 H locs hvc_1 hG_2 hS_3 => ?_)
  clear hvc hG hS
  refine lv_aload_n hx hb dX3_total_5 rfl (lv_at hl 0 rfl) ?_
  refine gw_cVIP (As := []) (rest := [])  ⟨hx, hb, hml, hown, hts⟩ (met_X3_totalOf l E G1 o _ hvc_1.2) (cwV 0 hts (lw_V q2129 q2131 qs73 q104 q2132) rfl rfl rfl (by decide +kernel) ⟨Nat.le_of_ble_eq_true rfl, Nat.le_of_ble_eq_true rfl⟩) (gw_rc (q := (RX3, TX3, 13)) hK hG_2 hvc_1.1 rfl) (Nat.zero_le _) (Nat.zero_le _) (g_St0 E) hz trivial hK hG_2 hS_3 rfl hl.1 rfl (Nat.le_of_ble_eq_true rfl) dX3_total_6 (fun x2 H locs hvc_4 hG_5 hS_6 => ?_)
  clear hvc_1 hG_2 hS_3
  exact g_iret hx hb hr hlocks (Nat.zero_le _) (Nat.zero_le _) hG_5 hS_6 rfl hvc_4 dX3_total_9
set_option maxHeartbeats 4000000 in
set_option maxRecDepth 100000 in
theorem met_X3_away (l : Launch) (E : g_E) (G : g_G) (o : Nat) (post : Int32 → Prop) (hvc : wp_X3_away E G o post) : g_MI E l yX3_away (ws_ yX3_away cX3_away 4 (Option.some Jvm.ClassFile.FieldType.int)) ({ frames := 3, cells := 0, slots := 0, locals := 68 } : Room) (fun _ => True) [.ref o] G (fun v G9 => G9 = G ∧ post v) := by
  refine g_enter (by decide +kernel) (Nat.le_of_ble_eq_true rfl) ?_
  intro p e s m below meth c ls hx hb hr hts hown hlocks hml hin hz hX hK hG hS hl
  have hl : lv_has ls 4 [(0, .ref o)] := hl
  have hown : s.vm.findClass RX3 = some m.cls := hown
  unfold wp_X3_away at hvc
  refine lv_iconst (v := nI 0) hx hb dX3_away_0 (by decide) ?_
  refine lv_istore_n (lv' := [(1, .int (nI 0)), (0, .ref o)]) hx hb dX3_away_1 rfl hl (by decide) rfl (fun ls hl_1 => ?_)
  clear hl
  refine lv_iconst (v := nI 0) hx hb dX3_away_2 (by decide) ?_
  have lp4 : ∀ (n4 : Nat) (y0 : Nat) (y1 : Int32) (y2 : Int32) (H : Heap) (locs : List Loc) (ls : Array Slot), wp_X3_away_4 E G post n4 y0 y1 y2 → g_H E G H → va_S (g_A E) s.heap H locs → lv_has ls 4 [(0, .ref y0), (1, .int y1), (2, .int y2)] → W p l e ({ frames := 3, cells := 0, slots := 0, locals := 68 } : Room) s m ([.ref o] : List Value).toArray below meth c H locs 0 0 (MQ below (va_Qi (fun v G9 => G9 = G ∧ post v) (g_Bk E) (g_A E)) ([.ref o] : List Value).toArray s 0 0 (g_A E)) (F0 m 4 ls []) := by
    clear hvc hG hS hl_1
    intro n4
    induction n4 with
    | zero =>
      intro y0 y1 y2 H locs ls hvc_2 hG_3 hS_4 hl_5
      exact False.elim hvc_2
    | succ n4 ih4 =>
      intro y0 y1 y2 H locs ls hvc_6 hG_7 hS_8 hl_9
      refine lv_iload_n hx hb dX3_away_4 rfl (lv_at hl_9 2 rfl) ?_
      refine lv_aload_n hx hb dX3_away_5 rfl (lv_at hl_9 0 rfl) ?_
      refine gw_gr (C := RX3) (T := TX3) (N := 13) (own := RX3) hx hb hts in_X3 hown hK hG_7 hvc_6 rfl (by decide) (hts _ q1784) (fun _ h9 => h9) dX3_away_6 (fun x1 hvc_10 => ?_)
      clear hvc_6
      refine lv_bipush (v := nI 9) hx hb dX3_away_9 (by decide) ?_
      refine gw_ild hx hb hK hG_7 hvc_10 dX3_away_11 (fun x2 hvc_11 => ?_)
      clear hvc_10
      refine lv_icmp_ge (tgt := 67) hx hb dX3_away_12 (by decide) (fun h9 => ?_) (fun h9 => ?_)
      · replace hvc_11 := hvc_11.1 h9
        refine lv_iload_n hx hb dX3_away_67 rfl (lv_at hl_9 1 rfl) ?_
        exact g_iret hx hb hr hlocks (Nat.zero_le _) (Nat.zero_le _) hG_7 hS_8 rfl ⟨rfl, hvc_11⟩ dX3_away_68
      · replace hvc_11 := hvc_11.2 h9
        refine lv_iconst (v := nI 0) hx hb dX3_away_15 (by decide) ?_
        have lp17 : ∀ (n17 : Nat) (y0 : Nat) (y1 : Int32) (y2 : Int32) (y3 : Int32) (H : Heap) (locs : List Loc) (ls : Array Slot), wp_X3_away_17 E G post (wp_X3_away_4 E G post n4) n17 y0 y1 y2 y3 → g_H E G H → va_S (g_A E) s.heap H locs → lv_has ls 4 [(0, .ref y0), (1, .int y1), (2, .int y2), (3, .int y3)] → W p l e ({ frames := 3, cells := 0, slots := 0, locals := 68 } : Room) s m ([.ref o] : List Value).toArray below meth c H locs 0 0 (MQ below (va_Qi (fun v G9 => G9 = G ∧ post v) (g_Bk E) (g_A E)) ([.ref o] : List Value).toArray s 0 0 (g_A E)) (F0 m 17 ls []) := by
          clear hvc_11 hG_7 hS_8 hl_9
          intro n17
          induction n17 with
          | zero =>
            intro y0 y1 y2 y3 H locs ls hvc_12 hG_13 hS_14 hl_15
            exact False.elim hvc_12
          | succ n17 ih17 =>
            intro y0 y1 y2 y3 H locs ls hvc_16 hG_17 hS_18 hl_19
            refine lv_iload_n hx hb dX3_away_17 rfl (lv_at hl_19 3 rfl) ?_
            refine lv_iconst (v := nI 4) hx hb dX3_away_18 (by decide) ?_
            refine lv_icmp_ge (tgt := 61) hx hb dX3_away_19 (by decide) (fun h9 => ?_) (fun h9 => ?_)
            · replace hvc_16 := hvc_16.1 h9
              refine lv_iinc (k := 2) (v := y2 + (nI 1)) (lv' := [(2, .int (y2 + (nI 1))), (0, .ref y0), (1, .int y1), (3, .int y3)]) hx hb dX3_away_61 hl_19 rfl (congrArg (y2 + ·) (by decide : Int32.ofInt (1) = nI 1)) (by decide) rfl (fun ls hl_20 => ?_)
              clear hl_19
              refine lv_goto (tgt := 4) hx hb dX3_away_64 (by decide) ?_
              exact ih4 y0 y1 (y2 + (nI 1)) _ _ _ hvc_16 hG_17 hS_18 (lv_sub hl_20 [1, 2, 0] rfl)
            · replace hvc_16 := hvc_16.2 h9
              refine lv_iload_n hx hb dX3_away_22 rfl (lv_at hl_19 1 rfl) ?_
              refine lv_aload_n hx hb dX3_away_23 rfl (lv_at hl_19 0 rfl) ?_
              refine lv_iload_n hx hb dX3_away_24 rfl (lv_at hl_19 2 rfl) ?_
              refine lv_iconst (v := nI 5) hx hb dX3_away_25 (by decide) ?_
              refine gw_cVIP (As := [.int y2, .int (nI 5)]) (rest := [.int y1])  ⟨hx, hb, hml, hown, hts⟩ (met_X3_of l E G y0 y2 (nI 5) _ hvc_16.2) (cwV 2 hts (lw_V q1872 q1874 qs41 q104 q1875) rfl rfl rfl (by decide +kernel) ⟨Nat.le_of_ble_eq_true rfl, Nat.le_of_ble_eq_true rfl⟩) (gw_rc (q := (RX3, TX3, 13)) hK hG_17 hvc_16.1 rfl) (Nat.zero_le _) (Nat.zero_le _) (g_St0 E) hz trivial hK hG_17 hS_18 rfl hl_19.1 rfl (Nat.le_of_ble_eq_true rfl) dX3_away_26 (fun x3 H locs hvc_21 hG_22 hS_23 => ?_)
              clear hvc_16 hG_17 hS_18
              refine lv_iconst (v := nI 1) hx hb dX3_away_29 (by decide) ?_
              have jn53 : ∀ (y0 : Nat) (y2 : Int32) (y3 : Int32) (s0 : Int32) (s1 : Int32) (H : Heap) (locs : List Loc) (ls : Array Slot), wp_X3_away_53 E G post (wp_X3_away_17 E G post (wp_X3_away_4 E G post n4) n17) y0 y2 y3 s0 s1 → g_H E G H → va_S (g_A E) s.heap H locs → lv_has ls 4 [(0, .ref y0), (2, .int y2), (3, .int y3)] → W p l e ({ frames := 3, cells := 0, slots := 0, locals := 68 } : Room) s m ([.ref o] : List Value).toArray below meth c H locs 0 0 (MQ below (va_Qi (fun v G9 => G9 = G ∧ post v) (g_Bk E) (g_A E)) ([.ref o] : List Value).toArray s 0 0 (g_A E)) (F0 m 53 ls [.int s0, .int s1]) := by
                clear hvc_21 hG_22 hS_23 hl_19
                intro y0 y2 y3 s0 s1 H locs ls hvc_24 hG_25 hS_26 hl_27
                refine lv_iadd hx hb dX3_away_53 ?_
                refine lv_istore_n (lv' := [(1, .int (s1 + s0)), (0, .ref y0), (2, .int y2), (3, .int y3)]) hx hb dX3_away_54 rfl hl_27 (by decide) rfl (fun ls hl_28 => ?_)
                clear hl_27
                refine lv_iinc (k := 3) (v := y3 + (nI 1)) (lv' := [(3, .int (y3 + (nI 1))), (1, .int (s1 + s0)), (0, .ref y0), (2, .int y2)]) hx hb dX3_away_55 hl_28 rfl (congrArg (y3 + ·) (by decide : Int32.ofInt (1) = nI 1)) (by decide) rfl (fun ls hl_29 => ?_)
                clear hl_28
                refine lv_goto (tgt := 17) hx hb dX3_away_58 (by decide) ?_
                exact ih17 y0 (s1 + s0) y2 (y3 + (nI 1)) _ _ _ hvc_24 hG_25 hS_26 (lv_sub hl_29 [2, 1, 3, 0] rfl)
              have jn52 : ∀ (y0 : Nat) (y2 : Int32) (y3 : Int32) (s0 : Int32) (H : Heap) (locs : List Loc) (ls : Array Slot), wp_X3_away_52 E G post (wp_X3_away_53 E G post (wp_X3_away_17 E G post (wp_X3_away_4 E G post n4) n17)) y0 y2 y3 s0 → g_H E G H → va_S (g_A E) s.heap H locs → lv_has ls 4 [(0, .ref y0), (2, .int y2), (3, .int y3)] → W p l e ({ frames := 3, cells := 0, slots := 0, locals := 68 } : Room) s m ([.ref o] : List Value).toArray below meth c H locs 0 0 (MQ below (va_Qi (fun v G9 => G9 = G ∧ post v) (g_Bk E) (g_A E)) ([.ref o] : List Value).toArray s 0 0 (g_A E)) (F0 m 52 ls [.int s0]) := by
                clear hvc_21 hG_22 hS_23 hl_19
                intro y0 y2 y3 s0 H locs ls hvc_30 hG_31 hS_32 hl_33
                refine lv_iconst (v := nI 0) hx hb dX3_away_52 (by decide) ?_
                exact jn53 y0 y2 y3 (nI 0) s0 _ _ _ hvc_30 hG_31 hS_32 (lv_sub hl_33 [0, 1, 2] rfl)
              refine lv_icmp_ne (tgt := 52) hx hb dX3_away_30 (by decide) (fun h9 => ?_) (fun h9 => ?_)
              · replace hvc_21 := hvc_21.1 h9
                exact jn52 y0 y2 y3 y1 _ _ _ hvc_21 hG_22 hS_23 (lv_sub hl_19 [0, 2, 3] rfl)
              · replace hvc_21 := hvc_21.2 h9
                refine lv_aload_n hx hb dX3_away_33 rfl (lv_at hl_19 0 rfl) ?_
                refine lv_iload_n hx hb dX3_away_34 rfl (lv_at hl_19 3 rfl) ?_
                refine lv_iload_n hx hb dX3_away_35 rfl (lv_at hl_19 2 rfl) ?_
                refine gw_cVIP (As := [.int y3, .int y2]) (rest := [.int y1])  ⟨hx, hb, hml, hown, hts⟩ (met_X3_stateIn l E G y0 y3 y2 _ hvc_21.2) (cwV 2 hts (lw_V q1904 q1906 qs47 q104 q1907) rfl rfl rfl (by decide +kernel) ⟨Nat.le_of_ble_eq_true rfl, Nat.le_of_ble_eq_true rfl⟩) (gw_rc (q := (RX3, TX3, 13)) hK hG_22 hvc_21.1 rfl) (Nat.zero_le _) (Nat.zero_le _) (g_St0 E) hz trivial hK hG_22 hS_23 rfl hl_19.1 rfl (Nat.le_of_ble_eq_true rfl) dX3_away_36 (fun x5 H locs hvc_34 hG_35 hS_36 => ?_)
                clear hvc_21 hG_22 hS_23
                refine lv_iconst (v := nI 2) hx hb dX3_away_39 (by decide) ?_
                refine lv_icmp_eq (tgt := 52) hx hb dX3_away_40 (by decide) (fun h9 => ?_) (fun h9 => ?_)
                · replace hvc_34 := hvc_34.1 h9
                  exact jn52 y0 y2 y3 y1 _ _ _ hvc_34 hG_35 hS_36 (lv_sub hl_19 [0, 2, 3] rfl)
                · replace hvc_34 := hvc_34.2 h9
                  refine lv_aload_n hx hb dX3_away_43 rfl (lv_at hl_19 0 rfl) ?_
                  refine lv_iload_n hx hb dX3_away_44 rfl (lv_at hl_19 2 rfl) ?_
                  refine lv_iload_n hx hb dX3_away_45 rfl (lv_at hl_19 3 rfl) ?_
                  refine gw_cVIP (As := [.int y2, .int y3]) (rest := [.int y1])  ⟨hx, hb, hml, hown, hts⟩ (met_X3_shareIn l E G y0 y2 y3 _ hvc_34.2) (cwV 2 hts (lw_V q1935 q1937 qs53 q104 q1938) rfl rfl rfl (by decide +kernel) ⟨Nat.le_of_ble_eq_true rfl, Nat.le_of_ble_eq_true rfl⟩) (gw_rc (q := (RX3, TX3, 13)) hK hG_35 hvc_34.1 rfl) (Nat.zero_le _) (Nat.zero_le _) (g_St0 E) hz trivial hK hG_35 hS_36 rfl hl_19.1 rfl (Nat.le_of_ble_eq_true rfl) dX3_away_46 (fun x7 H locs hvc_37 hG_38 hS_39 => ?_)
                  clear hvc_34 hG_35 hS_36
                  refine lv_goto (tgt := 53) hx hb dX3_away_49 (by decide) ?_
                  exact jn53 y0 y2 y3 x7 y1 _ _ _ hvc_37 hG_38 hS_39 (lv_sub hl_19 [0, 2, 3] rfl)
        refine lv_istore_n (lv' := [(3, .int (nI 0)), (0, .ref y0), (1, .int y1), (2, .int y2)]) hx hb dX3_away_16 rfl hl_9 (by decide) rfl (fun ls hl_40 => ?_)
        clear hl_9
        obtain ⟨nf17, hvc_11⟩ := hvc_11
        exact lp17 nf17 y0 y1 y2 (nI 0) _ _ _ hvc_11 hG_7 hS_8 (lv_sub hl_40 [1, 2, 3, 0] rfl)
  refine lv_istore_n (lv' := [(2, .int (nI 0)), (1, .int (nI 0)), (0, .ref o)]) hx hb dX3_away_3 rfl hl_1 (by decide) rfl (fun ls hl_41 => ?_)
  clear hl_1
  obtain ⟨nf4, hvc⟩ := hvc
  exact lp4 nf4 o (nI 0) (nI 0) _ _ _ hvc hG hS (lv_sub hl_41 [2, 1, 0] rfl)
set_option maxHeartbeats 4000000 in
set_option maxRecDepth 100000 in
theorem met_X3_onTheWay (l : Launch) (E : g_E) (G : g_G) (o : Nat) (post : Int32 → g_G → Prop) (hvc : wp_X3_onTheWay E G o post) : g_MI E l yX3_onTheWay (ws_ yX3_onTheWay cX3_onTheWay 1 (Option.some Jvm.ClassFile.FieldType.int)) ({ frames := 4, cells := 0, slots := 0, locals := 91 } : Room) (fun _ => True) [.ref o] G (post) := by
  refine g_enter (by decide +kernel) (Nat.le_of_ble_eq_true rfl) ?_
  intro p e s m below meth c ls hx hb hr hts hown hlocks hml hin hz hX hK hG hS hl
  have hl : lv_has ls 1 [(0, .ref o)] := hl
  have hown : s.vm.findClass RX3 = some m.cls := hown
  unfold wp_X3_onTheWay at hvc
  refine lv_aload_n hx hb dX3_onTheWay_0 rfl (lv_at hl 0 rfl) ?_
  refine lv_iconst (v := nI 0) hx hb dX3_onTheWay_1 (by decide) ?_
  refine gw_put (ty := .int) (C := RX3) (T := TX3) (N := 13) (own := RX3) hx hb hts in_X3 tyX3 tyX3_ok nmX3 hown hK hG hS hvc rfl (by decide) (hts _ q1783) (fun _ h9 => h9) rfl (by decide +kernel) rfl rfl dX3_onTheWay_2 (fun G1 H locs hvc_1 hG_2 hS_3 => ?_)
  clear hvc hG hS
  refine lv_aload_n hx hb dX3_onTheWay_5 rfl (lv_at hl 0 rfl) ?_
  refine gw_cVIP (As := []) (rest := [])  ⟨hx, hb, hml, hown, hts⟩ (met_X3_away l E G1 o _ hvc_1.2) (cwV 0 hts (lw_V q2137 q2139 qs74 q104 q2140) rfl rfl rfl (by decide +kernel) ⟨Nat.le_of_ble_eq_true rfl, Nat.le_of_ble_eq_true rfl⟩) (gw_rc (q := (RX3, TX3, 13)) hK hG_2 hvc_1.1 rfl) (Nat.zero_le _) (Nat.zero_le _) (g_St0 E) hz trivial hK hG_2 hS_3 rfl hl.1 rfl (Nat.le_of_ble_eq_true rfl) dX3_onTheWay_6 (fun x2 H locs hvc_4 hG_5 hS_6 => ?_)
  clear hvc_1 hG_2 hS_3
  exact g_iret hx hb hr hlocks (Nat.zero_le _) (Nat.zero_le _) hG_5 hS_6 rfl hvc_4 dX3_onTheWay_9
set_option maxHeartbeats 4000000 in
set_option maxRecDepth 100000 in
theorem met_X3_records (l : Launch) (E : g_E) (G : g_G) (o : Nat) (p1 : Int32) (post : Int32 → g_G → Prop) (hvc : wp_X3_records E G o p1 post) : g_MI E l yX3_records (ws_ yX3_records cX3_records 2 (Option.some Jvm.ClassFile.FieldType.int)) ({ frames := 2, cells := 0, slots := 0, locals := 42 } : Room) (fun _ => True) [.ref o, .int p1] G (post) := by
  refine g_enter (by decide +kernel) (Nat.le_of_ble_eq_true rfl) ?_
  intro p e s m below meth c ls hx hb hr hts hown hlocks hml hin hz hX hK hG hS hl
  have hl : lv_has ls 2 [(0, .ref o), (1, .int p1)] := hl
  have hown : s.vm.findClass RX3 = some m.cls := hown
  unfold wp_X3_records at hvc
  refine lv_aload_n hx hb dX3_records_0 rfl (lv_at hl 0 rfl) ?_
  refine lv_iconst (v := nI 0) hx hb dX3_records_1 (by decide) ?_
  refine gw_put (ty := .int) (C := RX3) (T := TX3) (N := 13) (own := RX3) hx hb hts in_X3 tyX3 tyX3_ok nmX3 hown hK hG hS hvc rfl (by decide) (hts _ q1783) (fun _ h9 => h9) rfl (by decide +kernel) rfl rfl dX3_records_2 (fun G1 H locs hvc_1 hG_2 hS_3 => ?_)
  clear hvc hG hS
  refine lv_iload_n hx hb dX3_records_5 rfl (lv_at hl 1 rfl) ?_
  refine gw_cSIP (As := [.int p1]) (rest := [])  ⟨hx, hb, hml, hown, hts⟩ (met_X3_isSite l E G1 p1 _ hvc_1) (va_cwS 1 hts (lw_S q1982 q1983 q104 q1984) rfl rfl rfl (by decide +kernel) ⟨Nat.le_of_ble_eq_true rfl, Nat.le_of_ble_eq_true rfl⟩) (Nat.zero_le _) (Nat.zero_le _) (g_St0 E) hz trivial hK hG_2 hS_3 rfl hl.1 rfl (Nat.le_of_ble_eq_true rfl) dX3_records_6 (fun x2 H locs hvc_4 hG_5 hS_6 => ?_)
  clear hvc_1 hG_2 hS_3
  refine lv_if_eq (tgt := 24) hx hb dX3_records_9 (by decide) (fun h9 => ?_) (fun h9 => ?_)
  · replace hvc_4 := hvc_4.1 h9
    refine lv_aload_n hx hb dX3_records_24 rfl (lv_at hl 0 rfl) ?_
    refine lv_iconst (v := nI 1) hx hb dX3_records_25 (by decide) ?_
    refine gw_cVIN (As := [.int (nI 1)]) (rest := [])  ⟨hx, hb, hml, hown, hts⟩ (met_X3_fails l E G1 o (nI 1) _ hvc_4.2) (cwV 1 hts (lw_V q1837 q1839 qs33 q104 q1840) rfl rfl rfl (by decide +kernel) ⟨Nat.le_of_ble_eq_true rfl, Nat.le_of_ble_eq_true rfl⟩) (gw_rc (q := (RX3, TX3, 13)) hK hG_5 hvc_4.1 rfl) (Nat.zero_le _) (Nat.zero_le _) (g_St0 E) hz trivial hK hG_5 hS_6 rfl hl.1 rfl (Nat.le_of_ble_eq_true rfl) dX3_records_26 (fun x4 G5 H locs hvc_7 hG_8 hS_9 => ?_)
    clear hvc_4 hG_5 hS_6
    exact g_iret hx hb hr hlocks (Nat.zero_le _) (Nat.zero_le _) hG_8 hS_9 rfl hvc_7 dX3_records_29
  · replace hvc_4 := hvc_4.2 h9
    refine lv_aload_n hx hb dX3_records_12 rfl (lv_at hl 0 rfl) ?_
    refine gw_gr (C := RX3) (T := TX3) (N := 13) (own := RX3) hx hb hts in_X3 hown hK hG_5 hvc_4 rfl (by decide) (hts _ q1784) (fun _ h9 => h9) dX3_records_13 (fun x6 hvc_10 => ?_)
    clear hvc_4
    refine lv_bipush (v := nI 102) hx hb dX3_records_16 (by decide) ?_
    refine lv_iload_n hx hb dX3_records_18 rfl (lv_at hl 1 rfl) ?_
    refine lv_iadd hx hb dX3_records_19 ?_
    refine gw_ild hx hb hK hG_5 hvc_10 dX3_records_20 (fun x7 hvc_11 => ?_)
    clear hvc_10
    refine lv_goto (tgt := 29) hx hb dX3_records_21 (by decide) ?_
    exact g_iret hx hb hr hlocks (Nat.zero_le _) (Nat.zero_le _) hG_5 hS_6 rfl hvc_11 dX3_records_29
set_option maxHeartbeats 4000000 in
set_option maxRecDepth 100000 in
theorem met_X3_record (l : Launch) (E : g_E) (G : g_G) (o : Nat) (p1 : Int32) (p2 : Int32) (post : Int32 → Prop) (hvc : wp_X3_record E G o p1 p2 post) : g_MI E l yX3_record (ws_ yX3_record cX3_record 3 (Option.some Jvm.ClassFile.FieldType.int)) ({ frames := 0, cells := 0, slots := 0, locals := 0 } : Room) (fun _ => True) [.ref o, .int p1, .int p2] G (fun v G9 => G9 = G ∧ post v) := by
  refine g_enter (by decide +kernel) (Nat.le_of_ble_eq_true rfl) ?_
  intro p e s m below meth c ls hx hb hr hts hown hlocks hml hin hz hX hK hG hS hl
  have hl : lv_has ls 3 [(0, .ref o), (1, .int p1), (2, .int p2)] := hl
  have hown : s.vm.findClass RX3 = some m.cls := hown
  unfold wp_X3_record at hvc
  refine lv_iload_n hx hb dX3_record_0 rfl (lv_at hl 2 rfl) ?_
  refine lv_aload_n hx hb dX3_record_1 rfl (lv_at hl 0 rfl) ?_
  refine gw_gr (C := RX3) (T := TX3) (N := 13) (own := RX3) hx hb hts in_X3 hown hK hG hvc rfl (by decide) (hts _ q1784) (fun _ h9 => h9) dX3_record_2 (fun x1 hvc_1 => ?_)
  clear hvc
  refine lv_bipush (v := nI 102) hx hb dX3_record_5 (by decide) ?_
  refine lv_iload_n hx hb dX3_record_7 rfl (lv_at hl 1 rfl) ?_
  refine lv_iadd hx hb dX3_record_8 ?_
  refine gw_ild hx hb hK hG hvc_1 dX3_record_9 (fun x2 hvc_2 => ?_)
  clear hvc_1
  refine lv_icmp_ge (tgt := 30) hx hb dX3_record_10 (by decide) (fun h9 => ?_) (fun h9 => ?_)
  · replace hvc_2 := hvc_2.1 h9
    refine lv_iconst (v := -nI 1) hx hb dX3_record_30 (by decide) ?_
    exact g_iret hx hb hr hlocks (Nat.zero_le _) (Nat.zero_le _) hG hS rfl ⟨rfl, hvc_2⟩ dX3_record_31
  · replace hvc_2 := hvc_2.2 h9
    refine lv_aload_n hx hb dX3_record_13 rfl (lv_at hl 0 rfl) ?_
    refine gw_gr (C := RX3) (T := TX3) (N := 13) (own := RX3) hx hb hts in_X3 hown hK hG hvc_2 rfl (by decide) (hts _ q1784) (fun _ h9 => h9) dX3_record_14 (fun x3 hvc_3 => ?_)
    clear hvc_2
    refine lv_bipush (v := nI 107) hx hb dX3_record_17 (by decide) ?_
    refine lv_bipush (v := nI 16) hx hb dX3_record_19 (by decide) ?_
    refine lv_iload_n hx hb dX3_record_21 rfl (lv_at hl 1 rfl) ?_
    refine lv_imul hx hb dX3_record_22 ?_
    refine lv_iadd hx hb dX3_record_23 ?_
    refine lv_iload_n hx hb dX3_record_24 rfl (lv_at hl 2 rfl) ?_
    refine lv_iadd hx hb dX3_record_25 ?_
    refine gw_ild hx hb hK hG hvc_3 dX3_record_26 (fun x4 hvc_4 => ?_)
    clear hvc_3
    refine lv_goto (tgt := 31) hx hb dX3_record_27 (by decide) ?_
    exact g_iret hx hb hr hlocks (Nat.zero_le _) (Nat.zero_le _) hG hS rfl ⟨rfl, hvc_4⟩ dX3_record_31
set_option maxHeartbeats 4000000 in
set_option maxRecDepth 100000 in
theorem met_X3_recordKind (l : Launch) (E : g_E) (G : g_G) (o : Nat) (p1 : Int32) (p2 : Int32) (post : Int32 → g_G → Prop) (hvc : wp_X3_recordKind E G o p1 p2 post) : g_MI E l yX3_recordKind (ws_ yX3_recordKind cX3_recordKind 3 (Option.some Jvm.ClassFile.FieldType.int)) ({ frames := 2, cells := 0, slots := 0, locals := 42 } : Room) (fun _ => True) [.ref o, .int p1, .int p2] G (post) := by
  refine g_enter (by decide +kernel) (Nat.le_of_ble_eq_true rfl) ?_
  intro p e s m below meth c ls hx hb hr hts hown hlocks hml hin hz hX hK hG hS hl
  have hl : lv_has ls 3 [(0, .ref o), (1, .int p1), (2, .int p2)] := hl
  have hown : s.vm.findClass RX3 = some m.cls := hown
  unfold wp_X3_recordKind at hvc
  refine lv_aload_n hx hb dX3_recordKind_0 rfl (lv_at hl 0 rfl) ?_
  refine lv_iconst (v := nI 0) hx hb dX3_recordKind_1 (by decide) ?_
  refine gw_put (ty := .int) (C := RX3) (T := TX3) (N := 13) (own := RX3) hx hb hts in_X3 tyX3 tyX3_ok nmX3 hown hK hG hS hvc rfl (by decide) (hts _ q1783) (fun _ h9 => h9) rfl (by decide +kernel) rfl rfl dX3_recordKind_2 (fun G1 H locs hvc_1 hG_2 hS_3 => ?_)
  clear hvc hG hS
  refine lv_iload_n hx hb dX3_recordKind_5 rfl (lv_at hl 1 rfl) ?_
  refine gw_cSIP (As := [.int p1]) (rest := [])  ⟨hx, hb, hml, hown, hts⟩ (met_X3_isSite l E G1 p1 _ hvc_1) (va_cwS 1 hts (lw_S q1982 q1983 q104 q1984) rfl rfl rfl (by decide +kernel) ⟨Nat.le_of_ble_eq_true rfl, Nat.le_of_ble_eq_true rfl⟩) (Nat.zero_le _) (Nat.zero_le _) (g_St0 E) hz trivial hK hG_2 hS_3 rfl hl.1 rfl (Nat.le_of_ble_eq_true rfl) dX3_recordKind_6 (fun x2 H locs hvc_4 hG_5 hS_6 => ?_)
  clear hvc_1 hG_2 hS_3
  have jn16 : ∀ (y0 : Nat) (G : g_G) (H : Heap) (locs : List Loc) (ls : Array Slot), wp_X3_recordKind_16 E post y0 G → g_H E G H → va_S (g_A E) s.heap H locs → lv_has ls 3 [(0, .ref y0)] → W p l e ({ frames := 2, cells := 0, slots := 0, locals := 42 } : Room) s m ([.ref o, .int p1, .int p2] : List Value).toArray below meth c H locs 0 0 (MQ below (va_Qi (post) (g_Bk E) (g_A E)) ([.ref o, .int p1, .int p2] : List Value).toArray s 0 0 (g_A E)) (F0 m 16 ls []) := by
    clear hvc_4 hG_5 hS_6 hl
    intro y0 G H locs ls hvc_7 hG_8 hS_9 hl_10
    refine lv_aload_n hx hb dX3_recordKind_16 rfl (lv_at hl_10 0 rfl) ?_
    refine lv_iconst (v := nI 1) hx hb dX3_recordKind_17 (by decide) ?_
    refine gw_cVIN (As := [.int (nI 1)]) (rest := [])  ⟨hx, hb, hml, hown, hts⟩ (met_X3_fails l E G y0 (nI 1) _ hvc_7.2) (cwV 1 hts (lw_V q1837 q1839 qs33 q104 q1840) rfl rfl rfl (by decide +kernel) ⟨Nat.le_of_ble_eq_true rfl, Nat.le_of_ble_eq_true rfl⟩) (gw_rc (q := (RX3, TX3, 13)) hK hG_8 hvc_7.1 rfl) (Nat.zero_le _) (Nat.zero_le _) (g_St0 E) hz trivial hK hG_8 hS_9 rfl hl_10.1 rfl (Nat.le_of_ble_eq_true rfl) dX3_recordKind_18 (fun x4 G5 H locs hvc_11 hG_12 hS_13 => ?_)
    clear hvc_7 hG_8 hS_9
    exact g_iret hx hb hr hlocks (Nat.zero_le _) (Nat.zero_le _) hG_12 hS_13 rfl hvc_11 dX3_recordKind_21
  refine lv_if_eq (tgt := 16) hx hb dX3_recordKind_9 (by decide) (fun h9 => ?_) (fun h9 => ?_)
  · replace hvc_4 := hvc_4.1 h9
    exact jn16 o G1 _ _ _ hvc_4 hG_5 hS_6 (lv_sub hl [0] rfl)
  · replace hvc_4 := hvc_4.2 h9
    refine lv_iload_n hx hb dX3_recordKind_12 rfl (lv_at hl 2 rfl) ?_
    refine lv_if_ge (tgt := 22) hx hb dX3_recordKind_13 (by decide) (fun h9 => ?_) (fun h9 => ?_)
    · replace hvc_4 := hvc_4.1 h9
      refine lv_aload_n hx hb dX3_recordKind_22 rfl (lv_at hl 0 rfl) ?_
      refine lv_iload_n hx hb dX3_recordKind_23 rfl (lv_at hl 1 rfl) ?_
      refine lv_iload_n hx hb dX3_recordKind_24 rfl (lv_at hl 2 rfl) ?_
      refine gw_cVIP (As := [.int p1, .int p2]) (rest := [])  ⟨hx, hb, hml, hown, hts⟩ (met_X3_record l E G1 o p1 p2 _ hvc_4.2) (cwV 2 hts (lw_V q2149 q2151 qs75 q104 q2152) rfl rfl rfl (by decide +kernel) ⟨Nat.le_of_ble_eq_true rfl, Nat.le_of_ble_eq_true rfl⟩) (gw_rc (q := (RX3, TX3, 13)) hK hG_5 hvc_4.1 rfl) (Nat.zero_le _) (Nat.zero_le _) (g_St0 E) hz trivial hK hG_5 hS_6 rfl hl.1 rfl (Nat.le_of_ble_eq_true rfl) dX3_recordKind_25 (fun x6 H locs hvc_14 hG_15 hS_16 => ?_)
      clear hvc_4 hG_5 hS_6
      refine lv_iconst (v := -nI 1) hx hb dX3_recordKind_28 (by decide) ?_
      refine lv_icmp_ne (tgt := 36) hx hb dX3_recordKind_29 (by decide) (fun h9 => ?_) (fun h9 => ?_)
      · replace hvc_14 := hvc_14.1 h9
        refine lv_aload_n hx hb dX3_recordKind_36 rfl (lv_at hl 0 rfl) ?_
        refine lv_iload_n hx hb dX3_recordKind_37 rfl (lv_at hl 1 rfl) ?_
        refine lv_iload_n hx hb dX3_recordKind_38 rfl (lv_at hl 2 rfl) ?_
        refine gw_cVIP (As := [.int p1, .int p2]) (rest := [])  ⟨hx, hb, hml, hown, hts⟩ (met_X3_record l E G1 o p1 p2 _ hvc_14.2) (cwV 2 hts (lw_V q2149 q2151 qs75 q104 q2152) rfl rfl rfl (by decide +kernel) ⟨Nat.le_of_ble_eq_true rfl, Nat.le_of_ble_eq_true rfl⟩) (gw_rc (q := (RX3, TX3, 13)) hK hG_15 hvc_14.1 rfl) (Nat.zero_le _) (Nat.zero_le _) (g_St0 E) hz trivial hK hG_15 hS_16 rfl hl.1 rfl (Nat.le_of_ble_eq_true rfl) dX3_recordKind_39 (fun x8 H locs hvc_17 hG_18 hS_19 => ?_)
        clear hvc_14 hG_15 hS_16
        refine lv_bipush (v := nI 8) hx hb dX3_recordKind_42 (by decide) ?_
        refine lv_idiv hx hb dX3_recordKind_44 (by decide) ?_
        exact g_iret hx hb hr hlocks (Nat.zero_le _) (Nat.zero_le _) hG_18 hS_19 rfl hvc_17 dX3_recordKind_45
      · replace hvc_14 := hvc_14.2 h9
        refine lv_iconst (v := -nI 1) hx hb dX3_recordKind_32 (by decide) ?_
        refine lv_goto (tgt := 45) hx hb dX3_recordKind_33 (by decide) ?_
        exact g_iret hx hb hr hlocks (Nat.zero_le _) (Nat.zero_le _) hG_15 hS_16 rfl hvc_14 dX3_recordKind_45
    · replace hvc_4 := hvc_4.2 h9
      exact jn16 o G1 _ _ _ hvc_4 hG_5 hS_6 (lv_sub hl [0] rfl)
set_option maxHeartbeats 4000000 in
set_option maxRecDepth 100000 in
theorem met_X3_recordTransfer (l : Launch) (E : g_E) (G : g_G) (o : Nat) (p1 : Int32) (p2 : Int32) (post : Int32 → g_G → Prop) (hvc : wp_X3_recordTransfer E G o p1 p2 post) : g_MI E l yX3_recordTransfer (ws_ yX3_recordTransfer cX3_recordTransfer 3 (Option.some Jvm.ClassFile.FieldType.int)) ({ frames := 2, cells := 0, slots := 0, locals := 42 } : Room) (fun _ => True) [.ref o, .int p1, .int p2] G (post) := by
  refine g_enter (by decide +kernel) (Nat.le_of_ble_eq_true rfl) ?_
  intro p e s m below meth c ls hx hb hr hts hown hlocks hml hin hz hX hK hG hS hl
  have hl : lv_has ls 3 [(0, .ref o), (1, .int p1), (2, .int p2)] := hl
  have hown : s.vm.findClass RX3 = some m.cls := hown
  unfold wp_X3_recordTransfer at hvc
  refine lv_aload_n hx hb dX3_recordTransfer_0 rfl (lv_at hl 0 rfl) ?_
  refine lv_iconst (v := nI 0) hx hb dX3_recordTransfer_1 (by decide) ?_
  refine gw_put (ty := .int) (C := RX3) (T := TX3) (N := 13) (own := RX3) hx hb hts in_X3 tyX3 tyX3_ok nmX3 hown hK hG hS hvc rfl (by decide) (hts _ q1783) (fun _ h9 => h9) rfl (by decide +kernel) rfl rfl dX3_recordTransfer_2 (fun G1 H locs hvc_1 hG_2 hS_3 => ?_)
  clear hvc hG hS
  refine lv_iload_n hx hb dX3_recordTransfer_5 rfl (lv_at hl 1 rfl) ?_
  refine gw_cSIP (As := [.int p1]) (rest := [])  ⟨hx, hb, hml, hown, hts⟩ (met_X3_isSite l E G1 p1 _ hvc_1) (va_cwS 1 hts (lw_S q1982 q1983 q104 q1984) rfl rfl rfl (by decide +kernel) ⟨Nat.le_of_ble_eq_true rfl, Nat.le_of_ble_eq_true rfl⟩) (Nat.zero_le _) (Nat.zero_le _) (g_St0 E) hz trivial hK hG_2 hS_3 rfl hl.1 rfl (Nat.le_of_ble_eq_true rfl) dX3_recordTransfer_6 (fun x2 H locs hvc_4 hG_5 hS_6 => ?_)
  clear hvc_1 hG_2 hS_3
  have jn16 : ∀ (y0 : Nat) (G : g_G) (H : Heap) (locs : List Loc) (ls : Array Slot), wp_X3_recordTransfer_16 E post y0 G → g_H E G H → va_S (g_A E) s.heap H locs → lv_has ls 3 [(0, .ref y0)] → W p l e ({ frames := 2, cells := 0, slots := 0, locals := 42 } : Room) s m ([.ref o, .int p1, .int p2] : List Value).toArray below meth c H locs 0 0 (MQ below (va_Qi (post) (g_Bk E) (g_A E)) ([.ref o, .int p1, .int p2] : List Value).toArray s 0 0 (g_A E)) (F0 m 16 ls []) := by
    clear hvc_4 hG_5 hS_6 hl
    intro y0 G H locs ls hvc_7 hG_8 hS_9 hl_10
    refine lv_aload_n hx hb dX3_recordTransfer_16 rfl (lv_at hl_10 0 rfl) ?_
    refine lv_iconst (v := nI 1) hx hb dX3_recordTransfer_17 (by decide) ?_
    refine gw_cVIN (As := [.int (nI 1)]) (rest := [])  ⟨hx, hb, hml, hown, hts⟩ (met_X3_fails l E G y0 (nI 1) _ hvc_7.2) (cwV 1 hts (lw_V q1837 q1839 qs33 q104 q1840) rfl rfl rfl (by decide +kernel) ⟨Nat.le_of_ble_eq_true rfl, Nat.le_of_ble_eq_true rfl⟩) (gw_rc (q := (RX3, TX3, 13)) hK hG_8 hvc_7.1 rfl) (Nat.zero_le _) (Nat.zero_le _) (g_St0 E) hz trivial hK hG_8 hS_9 rfl hl_10.1 rfl (Nat.le_of_ble_eq_true rfl) dX3_recordTransfer_18 (fun x4 G5 H locs hvc_11 hG_12 hS_13 => ?_)
    clear hvc_7 hG_8 hS_9
    exact g_iret hx hb hr hlocks (Nat.zero_le _) (Nat.zero_le _) hG_12 hS_13 rfl hvc_11 dX3_recordTransfer_21
  refine lv_if_eq (tgt := 16) hx hb dX3_recordTransfer_9 (by decide) (fun h9 => ?_) (fun h9 => ?_)
  · replace hvc_4 := hvc_4.1 h9
    exact jn16 o G1 _ _ _ hvc_4 hG_5 hS_6 (lv_sub hl [0] rfl)
  · replace hvc_4 := hvc_4.2 h9
    refine lv_iload_n hx hb dX3_recordTransfer_12 rfl (lv_at hl 2 rfl) ?_
    refine lv_if_ge (tgt := 22) hx hb dX3_recordTransfer_13 (by decide) (fun h9 => ?_) (fun h9 => ?_)
    · replace hvc_4 := hvc_4.1 h9
      refine lv_aload_n hx hb dX3_recordTransfer_22 rfl (lv_at hl 0 rfl) ?_
      refine lv_iload_n hx hb dX3_recordTransfer_23 rfl (lv_at hl 1 rfl) ?_
      refine lv_iload_n hx hb dX3_recordTransfer_24 rfl (lv_at hl 2 rfl) ?_
      refine gw_cVIP (As := [.int p1, .int p2]) (rest := [])  ⟨hx, hb, hml, hown, hts⟩ (met_X3_record l E G1 o p1 p2 _ hvc_4.2) (cwV 2 hts (lw_V q2149 q2151 qs75 q104 q2152) rfl rfl rfl (by decide +kernel) ⟨Nat.le_of_ble_eq_true rfl, Nat.le_of_ble_eq_true rfl⟩) (gw_rc (q := (RX3, TX3, 13)) hK hG_5 hvc_4.1 rfl) (Nat.zero_le _) (Nat.zero_le _) (g_St0 E) hz trivial hK hG_5 hS_6 rfl hl.1 rfl (Nat.le_of_ble_eq_true rfl) dX3_recordTransfer_25 (fun x6 H locs hvc_14 hG_15 hS_16 => ?_)
      clear hvc_4 hG_5 hS_6
      refine lv_iconst (v := -nI 1) hx hb dX3_recordTransfer_28 (by decide) ?_
      refine lv_icmp_ne (tgt := 36) hx hb dX3_recordTransfer_29 (by decide) (fun h9 => ?_) (fun h9 => ?_)
      · replace hvc_14 := hvc_14.1 h9
        refine lv_aload_n hx hb dX3_recordTransfer_36 rfl (lv_at hl 0 rfl) ?_
        refine lv_iload_n hx hb dX3_recordTransfer_37 rfl (lv_at hl 1 rfl) ?_
        refine lv_iload_n hx hb dX3_recordTransfer_38 rfl (lv_at hl 2 rfl) ?_
        refine gw_cVIP (As := [.int p1, .int p2]) (rest := [])  ⟨hx, hb, hml, hown, hts⟩ (met_X3_record l E G1 o p1 p2 _ hvc_14.2) (cwV 2 hts (lw_V q2149 q2151 qs75 q104 q2152) rfl rfl rfl (by decide +kernel) ⟨Nat.le_of_ble_eq_true rfl, Nat.le_of_ble_eq_true rfl⟩) (gw_rc (q := (RX3, TX3, 13)) hK hG_15 hvc_14.1 rfl) (Nat.zero_le _) (Nat.zero_le _) (g_St0 E) hz trivial hK hG_15 hS_16 rfl hl.1 rfl (Nat.le_of_ble_eq_true rfl) dX3_recordTransfer_39 (fun x8 H locs hvc_17 hG_18 hS_19 => ?_)
        clear hvc_14 hG_15 hS_16
        refine lv_bipush (v := nI 8) hx hb dX3_recordTransfer_42 (by decide) ?_
        refine lv_irem hx hb dX3_recordTransfer_44 (by decide) ?_
        exact g_iret hx hb hr hlocks (Nat.zero_le _) (Nat.zero_le _) hG_18 hS_19 rfl hvc_17 dX3_recordTransfer_45
      · replace hvc_14 := hvc_14.2 h9
        refine lv_iconst (v := -nI 1) hx hb dX3_recordTransfer_32 (by decide) ?_
        refine lv_goto (tgt := 45) hx hb dX3_recordTransfer_33 (by decide) ?_
        exact g_iret hx hb hr hlocks (Nat.zero_le _) (Nat.zero_le _) hG_15 hS_16 rfl hvc_14 dX3_recordTransfer_45
    · replace hvc_4 := hvc_4.2 h9
      exact jn16 o G1 _ _ _ hvc_4 hG_5 hS_6 (lv_sub hl [0] rfl)
set_option maxHeartbeats 4000000 in
set_option maxRecDepth 100000 in
theorem met_X3_waiting (l : Launch) (E : g_E) (G : g_G) (o : Nat) (post : Int32 → g_G → Prop) (hvc : wp_X3_waiting E G o post) : g_MI E l yX3_waiting (ws_ yX3_waiting cX3_waiting 1 (Option.some Jvm.ClassFile.FieldType.int)) ({ frames := 0, cells := 0, slots := 0, locals := 0 } : Room) (fun _ => True) [.ref o] G (post) := by
  refine g_enter (by decide +kernel) (Nat.le_of_ble_eq_true rfl) ?_
  intro p e s m below meth c ls hx hb hr hts hown hlocks hml hin hz hX hK hG hS hl
  have hl : lv_has ls 1 [(0, .ref o)] := hl
  have hown : s.vm.findClass RX3 = some m.cls := hown
  unfold wp_X3_waiting at hvc
  refine lv_aload_n hx hb dX3_waiting_0 rfl (lv_at hl 0 rfl) ?_
  refine lv_iconst (v := nI 0) hx hb dX3_waiting_1 (by decide) ?_
  refine gw_put (ty := .int) (C := RX3) (T := TX3) (N := 13) (own := RX3) hx hb hts in_X3 tyX3 tyX3_ok nmX3 hown hK hG hS hvc rfl (by decide) (hts _ q1783) (fun _ h9 => h9) rfl (by decide +kernel) rfl rfl dX3_waiting_2 (fun G1 H locs hvc_1 hG_2 hS_3 => ?_)
  clear hvc hG hS
  refine lv_aload_n hx hb dX3_waiting_5 rfl (lv_at hl 0 rfl) ?_
  refine gw_gr (C := RX3) (T := TX3) (N := 13) (own := RX3) hx hb hts in_X3 hown hK hG_2 hvc_1 rfl (by decide) (hts _ q1784) (fun _ h9 => h9) dX3_waiting_6 (fun x2 hvc_4 => ?_)
  clear hvc_1
  refine lv_bipush (v := nI 13) hx hb dX3_waiting_9 (by decide) ?_
  refine gw_ild hx hb hK hG_2 hvc_4 dX3_waiting_11 (fun x3 hvc_5 => ?_)
  clear hvc_4
  exact g_iret hx hb hr hlocks (Nat.zero_le _) (Nat.zero_le _) hG_2 hS_3 rfl hvc_5 dX3_waiting_12
set_option maxHeartbeats 4000000 in
set_option maxRecDepth 100000 in
theorem met_X3_kindOf (l : Launch) (E : g_E) (G : g_G) (o : Nat) (p1 : Int32) (post : Int32 → g_G → Prop) (hvc : wp_X3_kindOf E G o p1 post) : g_MI E l yX3_kindOf (ws_ yX3_kindOf cX3_kindOf 2 (Option.some Jvm.ClassFile.FieldType.int)) ({ frames := 2, cells := 0, slots := 0, locals := 43 } : Room) (fun _ => True) [.ref o, .int p1] G (post) := by
  refine g_enter (by decide +kernel) (Nat.le_of_ble_eq_true rfl) ?_
  intro p e s m below meth c ls hx hb hr hts hown hlocks hml hin hz hX hK hG hS hl
  have hl : lv_has ls 2 [(0, .ref o), (1, .int p1)] := hl
  have hown : s.vm.findClass RX3 = some m.cls := hown
  unfold wp_X3_kindOf at hvc
  refine lv_aload_n hx hb dX3_kindOf_0 rfl (lv_at hl 0 rfl) ?_
  refine lv_iconst (v := nI 0) hx hb dX3_kindOf_1 (by decide) ?_
  refine gw_put (ty := .int) (C := RX3) (T := TX3) (N := 13) (own := RX3) hx hb hts in_X3 tyX3 tyX3_ok nmX3 hown hK hG hS hvc rfl (by decide) (hts _ q1783) (fun _ h9 => h9) rfl (by decide +kernel) rfl rfl dX3_kindOf_2 (fun G1 H locs hvc_1 hG_2 hS_3 => ?_)
  clear hvc hG hS
  refine lv_iload_n hx hb dX3_kindOf_5 rfl (lv_at hl 1 rfl) ?_
  refine lv_if_ge (tgt := 15) hx hb dX3_kindOf_6 (by decide) (fun h9 => ?_) (fun h9 => ?_)
  · replace hvc_1 := hvc_1.1 h9
    refine lv_aload_n hx hb dX3_kindOf_15 rfl (lv_at hl 0 rfl) ?_
    refine lv_iload_n hx hb dX3_kindOf_16 rfl (lv_at hl 1 rfl) ?_
    refine gw_cVIP (As := [.int p1]) (rest := [])  ⟨hx, hb, hml, hown, hts⟩ (met_X3_isMessage l E G1 o p1 _ hvc_1.2) (cwV 1 hts (lw_V q1912 q1914 qs48 q104 q1915) rfl rfl rfl (by decide +kernel) ⟨Nat.le_of_ble_eq_true rfl, Nat.le_of_ble_eq_true rfl⟩) (gw_rc (q := (RX3, TX3, 13)) hK hG_2 hvc_1.1 rfl) (Nat.zero_le _) (Nat.zero_le _) (g_St0 E) hz trivial hK hG_2 hS_3 rfl hl.1 rfl (Nat.le_of_ble_eq_true rfl) dX3_kindOf_17 (fun x2 H locs hvc_4 hG_5 hS_6 => ?_)
    clear hvc_1 hG_2 hS_3
    refine lv_if_eq (tgt := 39) hx hb dX3_kindOf_20 (by decide) (fun h9 => ?_) (fun h9 => ?_)
    · replace hvc_4 := hvc_4.1 h9
      refine lv_iconst (v := -nI 1) hx hb dX3_kindOf_39 (by decide) ?_
      exact g_iret hx hb hr hlocks (Nat.zero_le _) (Nat.zero_le _) hG_5 hS_6 rfl hvc_4 dX3_kindOf_40
    · replace hvc_4 := hvc_4.2 h9
      refine lv_aload_n hx hb dX3_kindOf_23 rfl (lv_at hl 0 rfl) ?_
      refine gw_gr (C := RX3) (T := TX3) (N := 13) (own := RX3) hx hb hts in_X3 hown hK hG_5 hvc_4 rfl (by decide) (hts _ q1784) (fun _ h9 => h9) dX3_kindOf_24 (fun x4 hvc_7 => ?_)
      clear hvc_4
      refine lv_sipush (v := nI 195) hx hb dX3_kindOf_27 (by decide) ?_
      refine lv_iload_n hx hb dX3_kindOf_30 rfl (lv_at hl 1 rfl) ?_
      refine lv_iadd hx hb dX3_kindOf_31 ?_
      refine gw_ild hx hb hK hG_5 hvc_7 dX3_kindOf_32 (fun x5 hvc_8 => ?_)
      clear hvc_7
      refine lv_bipush (v := nI 32) hx hb dX3_kindOf_33 (by decide) ?_
      refine lv_idiv hx hb dX3_kindOf_35 (by decide) ?_
      refine lv_goto (tgt := 40) hx hb dX3_kindOf_36 (by decide) ?_
      exact g_iret hx hb hr hlocks (Nat.zero_le _) (Nat.zero_le _) hG_5 hS_6 rfl hvc_8 dX3_kindOf_40
  · replace hvc_1 := hvc_1.2 h9
    refine lv_aload_n hx hb dX3_kindOf_9 rfl (lv_at hl 0 rfl) ?_
    refine lv_iconst (v := nI 1) hx hb dX3_kindOf_10 (by decide) ?_
    refine gw_cVIN (As := [.int (nI 1)]) (rest := [])  ⟨hx, hb, hml, hown, hts⟩ (met_X3_fails l E G1 o (nI 1) _ hvc_1.2) (cwV 1 hts (lw_V q1837 q1839 qs33 q104 q1840) rfl rfl rfl (by decide +kernel) ⟨Nat.le_of_ble_eq_true rfl, Nat.le_of_ble_eq_true rfl⟩) (gw_rc (q := (RX3, TX3, 13)) hK hG_2 hvc_1.1 rfl) (Nat.zero_le _) (Nat.zero_le _) (g_St0 E) hz trivial hK hG_2 hS_3 rfl hl.1 rfl (Nat.le_of_ble_eq_true rfl) dX3_kindOf_11 (fun x6 G7 H locs hvc_9 hG_10 hS_11 => ?_)
    clear hvc_1 hG_2 hS_3
    exact g_iret hx hb hr hlocks (Nat.zero_le _) (Nat.zero_le _) hG_10 hS_11 rfl hvc_9 dX3_kindOf_14
set_option maxHeartbeats 4000000 in
set_option maxRecDepth 100000 in
theorem met_X3_transferOf (l : Launch) (E : g_E) (G : g_G) (o : Nat) (p1 : Int32) (post : Int32 → g_G → Prop) (hvc : wp_X3_transferOf E G o p1 post) : g_MI E l yX3_transferOf (ws_ yX3_transferOf cX3_transferOf 2 (Option.some Jvm.ClassFile.FieldType.int)) ({ frames := 2, cells := 0, slots := 0, locals := 43 } : Room) (fun _ => True) [.ref o, .int p1] G (post) := by
  refine g_enter (by decide +kernel) (Nat.le_of_ble_eq_true rfl) ?_
  intro p e s m below meth c ls hx hb hr hts hown hlocks hml hin hz hX hK hG hS hl
  have hl : lv_has ls 2 [(0, .ref o), (1, .int p1)] := hl
  have hown : s.vm.findClass RX3 = some m.cls := hown
  unfold wp_X3_transferOf at hvc
  refine lv_aload_n hx hb dX3_transferOf_0 rfl (lv_at hl 0 rfl) ?_
  refine lv_iconst (v := nI 0) hx hb dX3_transferOf_1 (by decide) ?_
  refine gw_put (ty := .int) (C := RX3) (T := TX3) (N := 13) (own := RX3) hx hb hts in_X3 tyX3 tyX3_ok nmX3 hown hK hG hS hvc rfl (by decide) (hts _ q1783) (fun _ h9 => h9) rfl (by decide +kernel) rfl rfl dX3_transferOf_2 (fun G1 H locs hvc_1 hG_2 hS_3 => ?_)
  clear hvc hG hS
  refine lv_iload_n hx hb dX3_transferOf_5 rfl (lv_at hl 1 rfl) ?_
  refine lv_if_ge (tgt := 15) hx hb dX3_transferOf_6 (by decide) (fun h9 => ?_) (fun h9 => ?_)
  · replace hvc_1 := hvc_1.1 h9
    refine lv_aload_n hx hb dX3_transferOf_15 rfl (lv_at hl 0 rfl) ?_
    refine lv_iload_n hx hb dX3_transferOf_16 rfl (lv_at hl 1 rfl) ?_
    refine gw_cVIP (As := [.int p1]) (rest := [])  ⟨hx, hb, hml, hown, hts⟩ (met_X3_isMessage l E G1 o p1 _ hvc_1.2) (cwV 1 hts (lw_V q1912 q1914 qs48 q104 q1915) rfl rfl rfl (by decide +kernel) ⟨Nat.le_of_ble_eq_true rfl, Nat.le_of_ble_eq_true rfl⟩) (gw_rc (q := (RX3, TX3, 13)) hK hG_2 hvc_1.1 rfl) (Nat.zero_le _) (Nat.zero_le _) (g_St0 E) hz trivial hK hG_2 hS_3 rfl hl.1 rfl (Nat.le_of_ble_eq_true rfl) dX3_transferOf_17 (fun x2 H locs hvc_4 hG_5 hS_6 => ?_)
    clear hvc_1 hG_2 hS_3
    refine lv_if_eq (tgt := 41) hx hb dX3_transferOf_20 (by decide) (fun h9 => ?_) (fun h9 => ?_)
    · replace hvc_4 := hvc_4.1 h9
      refine lv_iconst (v := -nI 1) hx hb dX3_transferOf_41 (by decide) ?_
      exact g_iret hx hb hr hlocks (Nat.zero_le _) (Nat.zero_le _) hG_5 hS_6 rfl hvc_4 dX3_transferOf_42
    · replace hvc_4 := hvc_4.2 h9
      refine lv_aload_n hx hb dX3_transferOf_23 rfl (lv_at hl 0 rfl) ?_
      refine gw_gr (C := RX3) (T := TX3) (N := 13) (own := RX3) hx hb hts in_X3 hown hK hG_5 hvc_4 rfl (by decide) (hts _ q1784) (fun _ h9 => h9) dX3_transferOf_24 (fun x4 hvc_7 => ?_)
      clear hvc_4
      refine lv_sipush (v := nI 195) hx hb dX3_transferOf_27 (by decide) ?_
      refine lv_iload_n hx hb dX3_transferOf_30 rfl (lv_at hl 1 rfl) ?_
      refine lv_iadd hx hb dX3_transferOf_31 ?_
      refine gw_ild hx hb hK hG_5 hvc_7 dX3_transferOf_32 (fun x5 hvc_8 => ?_)
      clear hvc_7
      refine lv_iconst (v := nI 4) hx hb dX3_transferOf_33 (by decide) ?_
      refine lv_idiv hx hb dX3_transferOf_34 (by decide) ?_
      refine lv_bipush (v := nI 8) hx hb dX3_transferOf_35 (by decide) ?_
      refine lv_irem hx hb dX3_transferOf_37 (by decide) ?_
      refine lv_goto (tgt := 42) hx hb dX3_transferOf_38 (by decide) ?_
      exact g_iret hx hb hr hlocks (Nat.zero_le _) (Nat.zero_le _) hG_5 hS_6 rfl hvc_8 dX3_transferOf_42
  · replace hvc_1 := hvc_1.2 h9
    refine lv_aload_n hx hb dX3_transferOf_9 rfl (lv_at hl 0 rfl) ?_
    refine lv_iconst (v := nI 1) hx hb dX3_transferOf_10 (by decide) ?_
    refine gw_cVIN (As := [.int (nI 1)]) (rest := [])  ⟨hx, hb, hml, hown, hts⟩ (met_X3_fails l E G1 o (nI 1) _ hvc_1.2) (cwV 1 hts (lw_V q1837 q1839 qs33 q104 q1840) rfl rfl rfl (by decide +kernel) ⟨Nat.le_of_ble_eq_true rfl, Nat.le_of_ble_eq_true rfl⟩) (gw_rc (q := (RX3, TX3, 13)) hK hG_2 hvc_1.1 rfl) (Nat.zero_le _) (Nat.zero_le _) (g_St0 E) hz trivial hK hG_2 hS_3 rfl hl.1 rfl (Nat.le_of_ble_eq_true rfl) dX3_transferOf_11 (fun x6 G7 H locs hvc_9 hG_10 hS_11 => ?_)
    clear hvc_1 hG_2 hS_3
    exact g_iret hx hb hr hlocks (Nat.zero_le _) (Nat.zero_le _) hG_10 hS_11 rfl hvc_9 dX3_transferOf_14
set_option maxHeartbeats 4000000 in
set_option maxRecDepth 100000 in
theorem met_X3_storeOf (l : Launch) (E : g_E) (G : g_G) (o : Nat) (p1 : Int32) (post : Int32 → g_G → Prop) (hvc : wp_X3_storeOf E G o p1 post) : g_MI E l yX3_storeOf (ws_ yX3_storeOf cX3_storeOf 2 (Option.some Jvm.ClassFile.FieldType.int)) ({ frames := 2, cells := 0, slots := 0, locals := 43 } : Room) (fun _ => True) [.ref o, .int p1] G (post) := by
  refine g_enter (by decide +kernel) (Nat.le_of_ble_eq_true rfl) ?_
  intro p e s m below meth c ls hx hb hr hts hown hlocks hml hin hz hX hK hG hS hl
  have hl : lv_has ls 2 [(0, .ref o), (1, .int p1)] := hl
  have hown : s.vm.findClass RX3 = some m.cls := hown
  unfold wp_X3_storeOf at hvc
  refine lv_aload_n hx hb dX3_storeOf_0 rfl (lv_at hl 0 rfl) ?_
  refine lv_iconst (v := nI 0) hx hb dX3_storeOf_1 (by decide) ?_
  refine gw_put (ty := .int) (C := RX3) (T := TX3) (N := 13) (own := RX3) hx hb hts in_X3 tyX3 tyX3_ok nmX3 hown hK hG hS hvc rfl (by decide) (hts _ q1783) (fun _ h9 => h9) rfl (by decide +kernel) rfl rfl dX3_storeOf_2 (fun G1 H locs hvc_1 hG_2 hS_3 => ?_)
  clear hvc hG hS
  refine lv_iload_n hx hb dX3_storeOf_5 rfl (lv_at hl 1 rfl) ?_
  refine lv_if_ge (tgt := 15) hx hb dX3_storeOf_6 (by decide) (fun h9 => ?_) (fun h9 => ?_)
  · replace hvc_1 := hvc_1.1 h9
    refine lv_aload_n hx hb dX3_storeOf_15 rfl (lv_at hl 0 rfl) ?_
    refine lv_iload_n hx hb dX3_storeOf_16 rfl (lv_at hl 1 rfl) ?_
    refine gw_cVIP (As := [.int p1]) (rest := [])  ⟨hx, hb, hml, hown, hts⟩ (met_X3_isMessage l E G1 o p1 _ hvc_1.2) (cwV 1 hts (lw_V q1912 q1914 qs48 q104 q1915) rfl rfl rfl (by decide +kernel) ⟨Nat.le_of_ble_eq_true rfl, Nat.le_of_ble_eq_true rfl⟩) (gw_rc (q := (RX3, TX3, 13)) hK hG_2 hvc_1.1 rfl) (Nat.zero_le _) (Nat.zero_le _) (g_St0 E) hz trivial hK hG_2 hS_3 rfl hl.1 rfl (Nat.le_of_ble_eq_true rfl) dX3_storeOf_17 (fun x2 H locs hvc_4 hG_5 hS_6 => ?_)
    clear hvc_1 hG_2 hS_3
    refine lv_if_eq (tgt := 38) hx hb dX3_storeOf_20 (by decide) (fun h9 => ?_) (fun h9 => ?_)
    · replace hvc_4 := hvc_4.1 h9
      refine lv_iconst (v := -nI 1) hx hb dX3_storeOf_38 (by decide) ?_
      exact g_iret hx hb hr hlocks (Nat.zero_le _) (Nat.zero_le _) hG_5 hS_6 rfl hvc_4 dX3_storeOf_39
    · replace hvc_4 := hvc_4.2 h9
      refine lv_aload_n hx hb dX3_storeOf_23 rfl (lv_at hl 0 rfl) ?_
      refine gw_gr (C := RX3) (T := TX3) (N := 13) (own := RX3) hx hb hts in_X3 hown hK hG_5 hvc_4 rfl (by decide) (hts _ q1784) (fun _ h9 => h9) dX3_storeOf_24 (fun x4 hvc_7 => ?_)
      clear hvc_4
      refine lv_sipush (v := nI 195) hx hb dX3_storeOf_27 (by decide) ?_
      refine lv_iload_n hx hb dX3_storeOf_30 rfl (lv_at hl 1 rfl) ?_
      refine lv_iadd hx hb dX3_storeOf_31 ?_
      refine gw_ild hx hb hK hG_5 hvc_7 dX3_storeOf_32 (fun x5 hvc_8 => ?_)
      clear hvc_7
      refine lv_iconst (v := nI 4) hx hb dX3_storeOf_33 (by decide) ?_
      refine lv_irem hx hb dX3_storeOf_34 (by decide) ?_
      refine lv_goto (tgt := 39) hx hb dX3_storeOf_35 (by decide) ?_
      exact g_iret hx hb hr hlocks (Nat.zero_le _) (Nat.zero_le _) hG_5 hS_6 rfl hvc_8 dX3_storeOf_39
  · replace hvc_1 := hvc_1.2 h9
    refine lv_aload_n hx hb dX3_storeOf_9 rfl (lv_at hl 0 rfl) ?_
    refine lv_iconst (v := nI 1) hx hb dX3_storeOf_10 (by decide) ?_
    refine gw_cVIN (As := [.int (nI 1)]) (rest := [])  ⟨hx, hb, hml, hown, hts⟩ (met_X3_fails l E G1 o (nI 1) _ hvc_1.2) (cwV 1 hts (lw_V q1837 q1839 qs33 q104 q1840) rfl rfl rfl (by decide +kernel) ⟨Nat.le_of_ble_eq_true rfl, Nat.le_of_ble_eq_true rfl⟩) (gw_rc (q := (RX3, TX3, 13)) hK hG_2 hvc_1.1 rfl) (Nat.zero_le _) (Nat.zero_le _) (g_St0 E) hz trivial hK hG_2 hS_3 rfl hl.1 rfl (Nat.le_of_ble_eq_true rfl) dX3_storeOf_11 (fun x6 G7 H locs hvc_9 hG_10 hS_11 => ?_)
    clear hvc_1 hG_2 hS_3
    exact g_iret hx hb hr hlocks (Nat.zero_le _) (Nat.zero_le _) hG_10 hS_11 rfl hvc_9 dX3_storeOf_14
