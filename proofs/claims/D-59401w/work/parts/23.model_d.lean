/-! printed by tools/gen.py -/
set_option maxHeartbeats 4000000 in
set_option maxRecDepth 100000 in
theorem met_X3_sent (l : Launch) (E : g_E) (G : g_G) (o : Nat) (post : Int32 → g_G → Prop) (hvc : wp_X3_sent E G o post) : g_MI E l yX3_sent (ws_ yX3_sent cX3_sent 1 (Option.some Jvm.ClassFile.FieldType.int)) ({ frames := 0, cells := 0, slots := 0, locals := 0 } : Room) (fun _ => True) [.ref o] G (post) := by
  refine g_enter (by decide +kernel) (Nat.le_of_ble_eq_true rfl) ?_
  intro p e s m below meth c ls hx hb hr hts hown hlocks hml hin hz hX hK hG hS hl
  have hl : lv_has ls 1 [(0, .ref o)] := hl
  have hown : s.vm.findClass RX3 = some m.cls := hown
  unfold wp_X3_sent at hvc
  refine lv_aload_n hx hb dX3_sent_0 rfl (lv_at hl 0 rfl) ?_
  refine lv_iconst (v := nI 0) hx hb dX3_sent_1 (by decide) ?_
  refine gw_put (ty := .int) (C := RX3) (T := TX3) (N := 13) (own := RX3) hx hb hts in_X3 tyX3 tyX3_ok nmX3 hown hK hG hS hvc rfl (by decide) (hts _ q1783) (fun _ h9 => h9) rfl (by decide +kernel) rfl rfl dX3_sent_2 (fun G1 H locs hvc_1 hG_2 hS_3 => ?_)
  clear hvc hG hS
  refine lv_aload_n hx hb dX3_sent_5 rfl (lv_at hl 0 rfl) ?_
  refine gw_gr (C := RX3) (T := TX3) (N := 13) (own := RX3) hx hb hts in_X3 hown hK hG_2 hvc_1 rfl (by decide) (hts _ q1784) (fun _ h9 => h9) dX3_sent_6 (fun x2 hvc_4 => ?_)
  clear hvc_1
  refine lv_bipush (v := nI 10) hx hb dX3_sent_9 (by decide) ?_
  refine gw_ild hx hb hK hG_2 hvc_4 dX3_sent_11 (fun x3 hvc_5 => ?_)
  clear hvc_4
  exact g_iret hx hb hr hlocks (Nat.zero_le _) (Nat.zero_le _) hG_2 hS_3 rfl hvc_5 dX3_sent_12
set_option maxHeartbeats 4000000 in
set_option maxRecDepth 100000 in
theorem met_X3_sentOf (l : Launch) (E : g_E) (G : g_G) (o : Nat) (post : Int32 → Prop) (hvc : wp_X3_sentOf E G o post) : g_MI E l yX3_sentOf (ws_ yX3_sentOf cX3_sentOf 1 (Option.some Jvm.ClassFile.FieldType.int)) ({ frames := 0, cells := 0, slots := 0, locals := 0 } : Room) (fun _ => True) [.ref o] G (fun v G9 => G9 = G ∧ post v) := by
  refine g_enter (by decide +kernel) (Nat.le_of_ble_eq_true rfl) ?_
  intro p e s m below meth c ls hx hb hr hts hown hlocks hml hin hz hX hK hG hS hl
  have hl : lv_has ls 1 [(0, .ref o)] := hl
  have hown : s.vm.findClass RX3 = some m.cls := hown
  unfold wp_X3_sentOf at hvc
  refine lv_aload_n hx hb dX3_sentOf_0 rfl (lv_at hl 0 rfl) ?_
  refine gw_gr (C := RX3) (T := TX3) (N := 13) (own := RX3) hx hb hts in_X3 hown hK hG hvc rfl (by decide) (hts _ q1784) (fun _ h9 => h9) dX3_sentOf_1 (fun x1 hvc_1 => ?_)
  clear hvc
  refine lv_bipush (v := nI 11) hx hb dX3_sentOf_4 (by decide) ?_
  refine gw_ild hx hb hK hG hvc_1 dX3_sentOf_6 (fun x2 hvc_2 => ?_)
  clear hvc_1
  refine lv_aload_n hx hb dX3_sentOf_7 rfl (lv_at hl 0 rfl) ?_
  refine gw_gr (C := RX3) (T := TX3) (N := 13) (own := RX3) hx hb hts in_X3 hown hK hG hvc_2 rfl (by decide) (hts _ q1784) (fun _ h9 => h9) dX3_sentOf_8 (fun x3 hvc_3 => ?_)
  clear hvc_2
  refine lv_bipush (v := nI 12) hx hb dX3_sentOf_11 (by decide) ?_
  refine gw_ild hx hb hK hG hvc_3 dX3_sentOf_13 (fun x4 hvc_4 => ?_)
  clear hvc_3
  refine lv_iadd hx hb dX3_sentOf_14 ?_
  refine lv_aload_n hx hb dX3_sentOf_15 rfl (lv_at hl 0 rfl) ?_
  refine gw_gr (C := RX3) (T := TX3) (N := 13) (own := RX3) hx hb hts in_X3 hown hK hG hvc_4 rfl (by decide) (hts _ q1784) (fun _ h9 => h9) dX3_sentOf_16 (fun x5 hvc_5 => ?_)
  clear hvc_4
  refine lv_bipush (v := nI 13) hx hb dX3_sentOf_19 (by decide) ?_
  refine gw_ild hx hb hK hG hvc_5 dX3_sentOf_21 (fun x6 hvc_6 => ?_)
  clear hvc_5
  refine lv_iadd hx hb dX3_sentOf_22 ?_
  exact g_iret hx hb hr hlocks (Nat.zero_le _) (Nat.zero_le _) hG hS rfl ⟨rfl, hvc_6⟩ dX3_sentOf_23
set_option maxHeartbeats 4000000 in
set_option maxRecDepth 100000 in
theorem met_X3_sentByAccount (l : Launch) (E : g_E) (G : g_G) (o : Nat) (post : Int32 → g_G → Prop) (hvc : wp_X3_sentByAccount E G o post) : g_MI E l yX3_sentByAccount (ws_ yX3_sentByAccount cX3_sentByAccount 1 (Option.some Jvm.ClassFile.FieldType.int)) ({ frames := 1, cells := 0, slots := 0, locals := 20 } : Room) (fun _ => True) [.ref o] G (post) := by
  refine g_enter (by decide +kernel) (Nat.le_of_ble_eq_true rfl) ?_
  intro p e s m below meth c ls hx hb hr hts hown hlocks hml hin hz hX hK hG hS hl
  have hl : lv_has ls 1 [(0, .ref o)] := hl
  have hown : s.vm.findClass RX3 = some m.cls := hown
  unfold wp_X3_sentByAccount at hvc
  refine lv_aload_n hx hb dX3_sentByAccount_0 rfl (lv_at hl 0 rfl) ?_
  refine lv_iconst (v := nI 0) hx hb dX3_sentByAccount_1 (by decide) ?_
  refine gw_put (ty := .int) (C := RX3) (T := TX3) (N := 13) (own := RX3) hx hb hts in_X3 tyX3 tyX3_ok nmX3 hown hK hG hS hvc rfl (by decide) (hts _ q1783) (fun _ h9 => h9) rfl (by decide +kernel) rfl rfl dX3_sentByAccount_2 (fun G1 H locs hvc_1 hG_2 hS_3 => ?_)
  clear hvc hG hS
  refine lv_aload_n hx hb dX3_sentByAccount_5 rfl (lv_at hl 0 rfl) ?_
  refine gw_cVIP (As := []) (rest := [])  ⟨hx, hb, hml, hown, hts⟩ (met_X3_sentOf l E G1 o _ hvc_1.2) (cwV 0 hts (lw_V q2181 q2183 qs76 q104 q2184) rfl rfl rfl (by decide +kernel) ⟨Nat.le_of_ble_eq_true rfl, Nat.le_of_ble_eq_true rfl⟩) (gw_rc (q := (RX3, TX3, 13)) hK hG_2 hvc_1.1 rfl) (Nat.zero_le _) (Nat.zero_le _) (g_St0 E) hz trivial hK hG_2 hS_3 rfl hl.1 rfl (Nat.le_of_ble_eq_true rfl) dX3_sentByAccount_6 (fun x2 H locs hvc_4 hG_5 hS_6 => ?_)
  clear hvc_1 hG_2 hS_3
  exact g_iret hx hb hr hlocks (Nat.zero_le _) (Nat.zero_le _) hG_5 hS_6 rfl hvc_4 dX3_sentByAccount_9
set_option maxHeartbeats 4000000 in
set_option maxRecDepth 100000 in
theorem met_X3_lost (l : Launch) (E : g_E) (G : g_G) (o : Nat) (post : Int32 → g_G → Prop) (hvc : wp_X3_lost E G o post) : g_MI E l yX3_lost (ws_ yX3_lost cX3_lost 1 (Option.some Jvm.ClassFile.FieldType.int)) ({ frames := 0, cells := 0, slots := 0, locals := 0 } : Room) (fun _ => True) [.ref o] G (post) := by
  refine g_enter (by decide +kernel) (Nat.le_of_ble_eq_true rfl) ?_
  intro p e s m below meth c ls hx hb hr hts hown hlocks hml hin hz hX hK hG hS hl
  have hl : lv_has ls 1 [(0, .ref o)] := hl
  have hown : s.vm.findClass RX3 = some m.cls := hown
  unfold wp_X3_lost at hvc
  refine lv_aload_n hx hb dX3_lost_0 rfl (lv_at hl 0 rfl) ?_
  refine lv_iconst (v := nI 0) hx hb dX3_lost_1 (by decide) ?_
  refine gw_put (ty := .int) (C := RX3) (T := TX3) (N := 13) (own := RX3) hx hb hts in_X3 tyX3 tyX3_ok nmX3 hown hK hG hS hvc rfl (by decide) (hts _ q1783) (fun _ h9 => h9) rfl (by decide +kernel) rfl rfl dX3_lost_2 (fun G1 H locs hvc_1 hG_2 hS_3 => ?_)
  clear hvc hG hS
  refine lv_aload_n hx hb dX3_lost_5 rfl (lv_at hl 0 rfl) ?_
  refine gw_gr (C := RX3) (T := TX3) (N := 13) (own := RX3) hx hb hts in_X3 hown hK hG_2 hvc_1 rfl (by decide) (hts _ q1784) (fun _ h9 => h9) dX3_lost_6 (fun x2 hvc_4 => ?_)
  clear hvc_1
  refine lv_bipush (v := nI 12) hx hb dX3_lost_9 (by decide) ?_
  refine gw_ild hx hb hK hG_2 hvc_4 dX3_lost_11 (fun x3 hvc_5 => ?_)
  clear hvc_4
  exact g_iret hx hb hr hlocks (Nat.zero_le _) (Nat.zero_le _) hG_2 hS_3 rfl hvc_5 dX3_lost_12
set_option maxHeartbeats 4000000 in
set_option maxRecDepth 100000 in
theorem met_X3_putAside (l : Launch) (E : g_E) (G : g_G) (o : Nat) (post : g_G → Prop) (hvc : wp_X3_putAside E G o post) : g_MV E l yX3_putAside (ws_ yX3_putAside cX3_putAside 2 (Option.none : Option Jvm.ClassFile.FieldType)) ({ frames := 0, cells := 0, slots := 0, locals := 0 } : Room) (fun _ => True) [.ref o] G (post) := by
  refine g_enter (by decide +kernel) (Nat.le_of_ble_eq_true rfl) ?_
  intro p e s m below meth c ls hx hb hr hts hown hlocks hml hin hz hX hK hG hS hl
  have hl : lv_has ls 2 [(0, .ref o)] := hl
  have hown : s.vm.findClass RX3 = some m.cls := hown
  unfold wp_X3_putAside at hvc
  refine lv_iconst (v := nI 0) hx hb dX3_putAside_0 (by decide) ?_
  have lp2 : ∀ (n2 : Nat) (y0 : Nat) (y1 : Int32) (G : g_G) (H : Heap) (locs : List Loc) (ls : Array Slot), wp_X3_putAside_2 E post n2 y0 y1 G → g_H E G H → va_S (g_A E) s.heap H locs → lv_has ls 2 [(0, .ref y0), (1, .int y1)] → W p l e ({ frames := 0, cells := 0, slots := 0, locals := 0 } : Room) s m ([.ref o] : List Value).toArray below meth c H locs 0 0 (MQ below (va_Qv (post) (g_Bk E) (g_A E)) ([.ref o] : List Value).toArray s 0 0 (g_A E)) (F0 m 2 ls []) := by
    clear hvc hG hS hl
    intro n2
    induction n2 with
    | zero =>
      intro y0 y1 G H locs ls hvc_1 hG_2 hS_3 hl_4
      exact False.elim hvc_1
    | succ n2 ih2 =>
      intro y0 y1 G H locs ls hvc_5 hG_6 hS_7 hl_8
      refine lv_iload_n hx hb dX3_putAside_2 rfl (lv_at hl_8 1 rfl) ?_
      refine lv_sipush (v := nI 256) hx hb dX3_putAside_3 (by decide) ?_
      refine lv_icmp_ge (tgt := 27) hx hb dX3_putAside_6 (by decide) (fun h9 => ?_) (fun h9 => ?_)
      · replace hvc_5 := hvc_5.1 h9
        exact g_vret hx hb hr hlocks (Nat.zero_le _) (Nat.zero_le _) hG_6 hS_7 hvc_5 dX3_putAside_27
      · replace hvc_5 := hvc_5.2 h9
        refine lv_aload_n hx hb dX3_putAside_9 rfl (lv_at hl_8 0 rfl) ?_
        refine gw_gr (C := RX3) (T := TX3) (N := 13) (own := RX3) hx hb hts in_X3 hown hK hG_6 hvc_5 rfl (by decide) (hts _ q1785) (fun _ h9 => h9) dX3_putAside_10 (fun x1 hvc_9 => ?_)
        clear hvc_5
        refine lv_iload_n hx hb dX3_putAside_13 rfl (lv_at hl_8 1 rfl) ?_
        refine lv_aload_n hx hb dX3_putAside_14 rfl (lv_at hl_8 0 rfl) ?_
        refine gw_gr (C := RX3) (T := TX3) (N := 13) (own := RX3) hx hb hts in_X3 hown hK hG_6 hvc_9 rfl (by decide) (hts _ q1784) (fun _ h9 => h9) dX3_putAside_15 (fun x2 hvc_10 => ?_)
        clear hvc_9
        refine lv_iload_n hx hb dX3_putAside_18 rfl (lv_at hl_8 1 rfl) ?_
        refine gw_ild hx hb hK hG_6 hvc_10 dX3_putAside_19 (fun x3 hvc_11 => ?_)
        clear hvc_10
        refine gw_ist hx hb hK hG_6 hS_7 hvc_11 dX3_putAside_20 (fun G4 H locs hvc_12 hG_13 hS_14 => ?_)
        clear hvc_11 hG_6 hS_7
        refine lv_iinc (k := 1) (v := y1 + (nI 1)) (lv' := [(1, .int (y1 + (nI 1))), (0, .ref y0)]) hx hb dX3_putAside_21 hl_8 rfl (congrArg (y1 + ·) (by decide : Int32.ofInt (1) = nI 1)) (by decide) rfl (fun ls hl_15 => ?_)
        clear hl_8
        refine lv_goto (tgt := 2) hx hb dX3_putAside_24 (by decide) ?_
        exact ih2 y0 (y1 + (nI 1)) G4 _ _ _ hvc_12 hG_13 hS_14 (lv_sub hl_15 [1, 0] rfl)
  refine lv_istore_n (lv' := [(1, .int (nI 0)), (0, .ref o)]) hx hb dX3_putAside_1 rfl hl (by decide) rfl (fun ls hl_16 => ?_)
  clear hl
  obtain ⟨nf2, hvc⟩ := hvc
  exact lp2 nf2 o (nI 0) G _ _ _ hvc hG hS (lv_sub hl_16 [1, 0] rfl)
set_option maxHeartbeats 4000000 in
set_option maxRecDepth 100000 in
theorem met_X3_takeBack (l : Launch) (E : g_E) (G : g_G) (o : Nat) (post : g_G → Prop) (hvc : wp_X3_takeBack E G o post) : g_MV E l yX3_takeBack (ws_ yX3_takeBack cX3_takeBack 2 (Option.none : Option Jvm.ClassFile.FieldType)) ({ frames := 0, cells := 0, slots := 0, locals := 0 } : Room) (fun _ => True) [.ref o] G (post) := by
  refine g_enter (by decide +kernel) (Nat.le_of_ble_eq_true rfl) ?_
  intro p e s m below meth c ls hx hb hr hts hown hlocks hml hin hz hX hK hG hS hl
  have hl : lv_has ls 2 [(0, .ref o)] := hl
  have hown : s.vm.findClass RX3 = some m.cls := hown
  unfold wp_X3_takeBack at hvc
  refine lv_iconst (v := nI 0) hx hb dX3_takeBack_0 (by decide) ?_
  have lp2 : ∀ (n2 : Nat) (y0 : Nat) (y1 : Int32) (G : g_G) (H : Heap) (locs : List Loc) (ls : Array Slot), wp_X3_takeBack_2 E post n2 y0 y1 G → g_H E G H → va_S (g_A E) s.heap H locs → lv_has ls 2 [(0, .ref y0), (1, .int y1)] → W p l e ({ frames := 0, cells := 0, slots := 0, locals := 0 } : Room) s m ([.ref o] : List Value).toArray below meth c H locs 0 0 (MQ below (va_Qv (post) (g_Bk E) (g_A E)) ([.ref o] : List Value).toArray s 0 0 (g_A E)) (F0 m 2 ls []) := by
    clear hvc hG hS hl
    intro n2
    induction n2 with
    | zero =>
      intro y0 y1 G H locs ls hvc_1 hG_2 hS_3 hl_4
      exact False.elim hvc_1
    | succ n2 ih2 =>
      intro y0 y1 G H locs ls hvc_5 hG_6 hS_7 hl_8
      refine lv_iload_n hx hb dX3_takeBack_2 rfl (lv_at hl_8 1 rfl) ?_
      refine lv_sipush (v := nI 256) hx hb dX3_takeBack_3 (by decide) ?_
      refine lv_icmp_ge (tgt := 27) hx hb dX3_takeBack_6 (by decide) (fun h9 => ?_) (fun h9 => ?_)
      · replace hvc_5 := hvc_5.1 h9
        exact g_vret hx hb hr hlocks (Nat.zero_le _) (Nat.zero_le _) hG_6 hS_7 hvc_5 dX3_takeBack_27
      · replace hvc_5 := hvc_5.2 h9
        refine lv_aload_n hx hb dX3_takeBack_9 rfl (lv_at hl_8 0 rfl) ?_
        refine gw_gr (C := RX3) (T := TX3) (N := 13) (own := RX3) hx hb hts in_X3 hown hK hG_6 hvc_5 rfl (by decide) (hts _ q1784) (fun _ h9 => h9) dX3_takeBack_10 (fun x1 hvc_9 => ?_)
        clear hvc_5
        refine lv_iload_n hx hb dX3_takeBack_13 rfl (lv_at hl_8 1 rfl) ?_
        refine lv_aload_n hx hb dX3_takeBack_14 rfl (lv_at hl_8 0 rfl) ?_
        refine gw_gr (C := RX3) (T := TX3) (N := 13) (own := RX3) hx hb hts in_X3 hown hK hG_6 hvc_9 rfl (by decide) (hts _ q1785) (fun _ h9 => h9) dX3_takeBack_15 (fun x2 hvc_10 => ?_)
        clear hvc_9
        refine lv_iload_n hx hb dX3_takeBack_18 rfl (lv_at hl_8 1 rfl) ?_
        refine gw_ild hx hb hK hG_6 hvc_10 dX3_takeBack_19 (fun x3 hvc_11 => ?_)
        clear hvc_10
        refine gw_ist hx hb hK hG_6 hS_7 hvc_11 dX3_takeBack_20 (fun G4 H locs hvc_12 hG_13 hS_14 => ?_)
        clear hvc_11 hG_6 hS_7
        refine lv_iinc (k := 1) (v := y1 + (nI 1)) (lv' := [(1, .int (y1 + (nI 1))), (0, .ref y0)]) hx hb dX3_takeBack_21 hl_8 rfl (congrArg (y1 + ·) (by decide : Int32.ofInt (1) = nI 1)) (by decide) rfl (fun ls hl_15 => ?_)
        clear hl_8
        refine lv_goto (tgt := 2) hx hb dX3_takeBack_24 (by decide) ?_
        exact ih2 y0 (y1 + (nI 1)) G4 _ _ _ hvc_12 hG_13 hS_14 (lv_sub hl_15 [1, 0] rfl)
  refine lv_istore_n (lv' := [(1, .int (nI 0)), (0, .ref o)]) hx hb dX3_takeBack_1 rfl hl (by decide) rfl (fun ls hl_16 => ?_)
  clear hl
  obtain ⟨nf2, hvc⟩ := hvc
  exact lp2 nf2 o (nI 0) G _ _ _ hvc hG hS (lv_sub hl_16 [1, 0] rfl)
set_option maxHeartbeats 4000000 in
set_option maxRecDepth 100000 in
theorem met_X3_sendsBy (l : Launch) (E : g_E) (G : g_G) (o : Nat) (p1 : Int32) (post : Int32 → g_G → Prop) (hvc : wp_X3_sendsBy E G o p1 post) : g_MI E l yX3_sendsBy (ws_ yX3_sendsBy cX3_sendsBy 4 (Option.some Jvm.ClassFile.FieldType.int)) ({ frames := 6, cells := 0, slots := 0, locals := 140 } : Room) (fun _ => True) [.ref o, .int p1] G (post) := by
  refine g_enter (by decide +kernel) (Nat.le_of_ble_eq_true rfl) ?_
  intro p e s m below meth c ls hx hb hr hts hown hlocks hml hin hz hX hK hG hS hl
  have hl : lv_has ls 4 [(0, .ref o), (1, .int p1)] := hl
  have hown : s.vm.findClass RX3 = some m.cls := hown
  unfold wp_X3_sendsBy at hvc
  refine lv_aload_n hx hb dX3_sendsBy_0 rfl (lv_at hl 0 rfl) ?_
  refine lv_iload_n hx hb dX3_sendsBy_1 rfl (lv_at hl 1 rfl) ?_
  refine gw_cVIP (As := [.int p1]) (rest := [])  ⟨hx, hb, hml, hown, hts⟩ (met_X3_isUpFor l E G o p1 _ hvc.2) (cwV 1 hts (lw_V q1920 q1922 qs50 q104 q1923) rfl rfl rfl (by decide +kernel) ⟨Nat.le_of_ble_eq_true rfl, Nat.le_of_ble_eq_true rfl⟩) (gw_rc (q := (RX3, TX3, 13)) hK hG hvc.1 rfl) (Nat.zero_le _) (Nat.zero_le _) (g_St0 E) hz trivial hK hG hS rfl hl.1 rfl (Nat.le_of_ble_eq_true rfl) dX3_sendsBy_2 (fun x1 H locs hvc_1 hG_2 hS_3 => ?_)
  clear hvc hG hS
  refine lv_if_ne (tgt := 10) hx hb dX3_sendsBy_5 (by decide) (fun h9 => ?_) (fun h9 => ?_)
  · replace hvc_1 := hvc_1.1 h9
    refine lv_aload_n hx hb dX3_sendsBy_10 rfl (lv_at hl 0 rfl) ?_
    refine gw_cVVN (As := []) (rest := [])  ⟨hx, hb, hml, hown, hts⟩ (met_X3_putAside l E G o _ hvc_1.2) (cwV 0 hts (lw_V q2197 q2199 qs78 q104 q2200) rfl rfl rfl (by decide +kernel) ⟨Nat.le_of_ble_eq_true rfl, Nat.le_of_ble_eq_true rfl⟩) (gw_rc (q := (RX3, TX3, 13)) hK hG_2 hvc_1.1 rfl) (Nat.zero_le _) (Nat.zero_le _) (g_St0 E) hz trivial hK hG_2 hS_3 rfl hl.1 rfl (Nat.le_of_ble_eq_true rfl) dX3_sendsBy_11 (fun G4 H locs hvc_4 hG_5 hS_6 => ?_)
    clear hvc_1 hG_2 hS_3
    refine lv_aload_n hx hb dX3_sendsBy_14 rfl (lv_at hl 0 rfl) ?_
    refine gw_gr (C := RX3) (T := TX3) (N := 13) (own := RX3) hx hb hts in_X3 hown hK hG_5 hvc_4 rfl (by decide) (hts _ q1784) (fun _ h9 => h9) dX3_sendsBy_15 (fun x5 hvc_7 => ?_)
    clear hvc_4
    refine lv_bipush (v := nI 10) hx hb dX3_sendsBy_18 (by decide) ?_
    refine gw_ild hx hb hK hG_5 hvc_7 dX3_sendsBy_20 (fun x6 hvc_8 => ?_)
    clear hvc_7
    refine lv_istore_n (lv' := [(2, .int x6), (0, .ref o), (1, .int p1)]) hx hb dX3_sendsBy_21 rfl hl (by decide) rfl (fun ls hl_9 => ?_)
    clear hl
    refine lv_aload_n hx hb dX3_sendsBy_22 rfl (lv_at hl_9 1 rfl) ?_
    refine lv_iload_n hx hb dX3_sendsBy_23 rfl (lv_at hl_9 2 rfl) ?_
    refine gw_cVIN (As := [.int p1]) (rest := [])  ⟨hx, hb, hml, hown, hts⟩ (met_X3_delivers l E G4 o p1 _ hvc_8.2) (cwV 1 hts (lw_V q1916 q1918 qs49 q104 q1919) rfl rfl rfl (by decide +kernel) ⟨Nat.le_of_ble_eq_true rfl, Nat.le_of_ble_eq_true rfl⟩) (gw_rc (q := (RX3, TX3, 13)) hK hG_5 hvc_8.1 rfl) (Nat.zero_le _) (Nat.zero_le _) (g_St0 E) hz trivial hK hG_5 hS_6 rfl hl_9.1 rfl (Nat.le_of_ble_eq_true rfl) dX3_sendsBy_24 (fun x7 G8 H locs hvc_10 hG_11 hS_12 => ?_)
    clear hvc_8 hG_5 hS_6
    refine lv_pop hx hb dX3_sendsBy_27 rfl ?_
    refine lv_aload_n hx hb dX3_sendsBy_28 rfl (lv_at hl_9 1 rfl) ?_
    refine gw_gr (C := RX3) (T := TX3) (N := 13) (own := RX3) hx hb hts in_X3 hown hK hG_11 hvc_10 rfl (by decide) (hts _ q1784) (fun _ h9 => h9) dX3_sendsBy_29 (fun x9 hvc_13 => ?_)
    clear hvc_10
    refine lv_bipush (v := nI 10) hx hb dX3_sendsBy_32 (by decide) ?_
    refine gw_ild hx hb hK hG_11 hvc_13 dX3_sendsBy_34 (fun x10 hvc_14 => ?_)
    clear hvc_13
    refine lv_iload_n hx hb dX3_sendsBy_35 rfl (lv_at hl_9 0 rfl) ?_
    refine lv_isub hx hb dX3_sendsBy_36 ?_
    refine lv_istore_n (lv' := [(3, .int (x10 - x6)), (2, .int x6), (0, .ref o), (1, .int p1)]) hx hb dX3_sendsBy_37 rfl hl_9 (by decide) rfl (fun ls hl_15 => ?_)
    clear hl_9
    refine lv_aload_n hx hb dX3_sendsBy_38 rfl (lv_at hl_15 2 rfl) ?_
    refine gw_cVVN (As := []) (rest := [])  ⟨hx, hb, hml, hown, hts⟩ (met_X3_takeBack l E G8 o _ hvc_14.2) (cwV 0 hts (lw_V q2201 q2203 qs79 q104 q2204) rfl rfl rfl (by decide +kernel) ⟨Nat.le_of_ble_eq_true rfl, Nat.le_of_ble_eq_true rfl⟩) (gw_rc (q := (RX3, TX3, 13)) hK hG_11 hvc_14.1 rfl) (Nat.zero_le _) (Nat.zero_le _) (g_St0 E) hz trivial hK hG_11 hS_12 rfl hl_15.1 rfl (Nat.le_of_ble_eq_true rfl) dX3_sendsBy_39 (fun G12 H locs hvc_16 hG_17 hS_18 => ?_)
    clear hvc_14 hG_11 hS_12
    refine lv_iload_n hx hb dX3_sendsBy_42 rfl (lv_at hl_15 0 rfl) ?_
    exact g_iret hx hb hr hlocks (Nat.zero_le _) (Nat.zero_le _) hG_17 hS_18 rfl hvc_16 dX3_sendsBy_43
  · replace hvc_1 := hvc_1.2 h9
    refine lv_iconst (v := -nI 1) hx hb dX3_sendsBy_8 (by decide) ?_
    exact g_iret hx hb hr hlocks (Nat.zero_le _) (Nat.zero_le _) hG_2 hS_3 rfl hvc_1 dX3_sendsBy_9
set_option maxHeartbeats 4000000 in
set_option maxRecDepth 100000 in
theorem met_X3_wouldSend (l : Launch) (E : g_E) (G : g_G) (o : Nat) (p1 : Int32) (post : Int32 → g_G → Prop) (hvc : wp_X3_wouldSend E G o p1 post) : g_MI E l yX3_wouldSend (ws_ yX3_wouldSend cX3_wouldSend 2 (Option.some Jvm.ClassFile.FieldType.int)) ({ frames := 7, cells := 0, slots := 0, locals := 163 } : Room) (fun _ => True) [.ref o, .int p1] G (post) := by
  refine g_enter (by decide +kernel) (Nat.le_of_ble_eq_true rfl) ?_
  intro p e s m below meth c ls hx hb hr hts hown hlocks hml hin hz hX hK hG hS hl
  have hl : lv_has ls 2 [(0, .ref o), (1, .int p1)] := hl
  have hown : s.vm.findClass RX3 = some m.cls := hown
  unfold wp_X3_wouldSend at hvc
  refine lv_aload_n hx hb dX3_wouldSend_0 rfl (lv_at hl 0 rfl) ?_
  refine lv_iconst (v := nI 0) hx hb dX3_wouldSend_1 (by decide) ?_
  refine gw_put (ty := .int) (C := RX3) (T := TX3) (N := 13) (own := RX3) hx hb hts in_X3 tyX3 tyX3_ok nmX3 hown hK hG hS hvc rfl (by decide) (hts _ q1783) (fun _ h9 => h9) rfl (by decide +kernel) rfl rfl dX3_wouldSend_2 (fun G1 H locs hvc_1 hG_2 hS_3 => ?_)
  clear hvc hG hS
  refine lv_aload_n hx hb dX3_wouldSend_5 rfl (lv_at hl 0 rfl) ?_
  refine lv_iload_n hx hb dX3_wouldSend_6 rfl (lv_at hl 1 rfl) ?_
  refine gw_cVIP (As := [.int p1]) (rest := [])  ⟨hx, hb, hml, hown, hts⟩ (met_X3_isMessage l E G1 o p1 _ hvc_1.2) (cwV 1 hts (lw_V q1912 q1914 qs48 q104 q1915) rfl rfl rfl (by decide +kernel) ⟨Nat.le_of_ble_eq_true rfl, Nat.le_of_ble_eq_true rfl⟩) (gw_rc (q := (RX3, TX3, 13)) hK hG_2 hvc_1.1 rfl) (Nat.zero_le _) (Nat.zero_le _) (g_St0 E) hz trivial hK hG_2 hS_3 rfl hl.1 rfl (Nat.le_of_ble_eq_true rfl) dX3_wouldSend_7 (fun x2 H locs hvc_4 hG_5 hS_6 => ?_)
  clear hvc_1 hG_2 hS_3
  refine lv_if_eq (tgt := 21) hx hb dX3_wouldSend_10 (by decide) (fun h9 => ?_) (fun h9 => ?_)
  · replace hvc_4 := hvc_4.1 h9
    refine lv_aload_n hx hb dX3_wouldSend_21 rfl (lv_at hl 0 rfl) ?_
    refine lv_iconst (v := nI 1) hx hb dX3_wouldSend_22 (by decide) ?_
    refine gw_cVIN (As := [.int (nI 1)]) (rest := [])  ⟨hx, hb, hml, hown, hts⟩ (met_X3_fails l E G1 o (nI 1) _ hvc_4.2) (cwV 1 hts (lw_V q1837 q1839 qs33 q104 q1840) rfl rfl rfl (by decide +kernel) ⟨Nat.le_of_ble_eq_true rfl, Nat.le_of_ble_eq_true rfl⟩) (gw_rc (q := (RX3, TX3, 13)) hK hG_5 hvc_4.1 rfl) (Nat.zero_le _) (Nat.zero_le _) (g_St0 E) hz trivial hK hG_5 hS_6 rfl hl.1 rfl (Nat.le_of_ble_eq_true rfl) dX3_wouldSend_23 (fun x4 G5 H locs hvc_7 hG_8 hS_9 => ?_)
    clear hvc_4 hG_5 hS_6
    exact g_iret hx hb hr hlocks (Nat.zero_le _) (Nat.zero_le _) hG_8 hS_9 rfl hvc_7 dX3_wouldSend_26
  · replace hvc_4 := hvc_4.2 h9
    refine lv_aload_n hx hb dX3_wouldSend_13 rfl (lv_at hl 0 rfl) ?_
    refine lv_iload_n hx hb dX3_wouldSend_14 rfl (lv_at hl 1 rfl) ?_
    refine gw_cVIN (As := [.int p1]) (rest := [])  ⟨hx, hb, hml, hown, hts⟩ (met_X3_sendsBy l E G1 o p1 _ hvc_4.2) (cwV 1 hts (lw_V q2193 q2195 qs77 q104 q2196) rfl rfl rfl (by decide +kernel) ⟨Nat.le_of_ble_eq_true rfl, Nat.le_of_ble_eq_true rfl⟩) (gw_rc (q := (RX3, TX3, 13)) hK hG_5 hvc_4.1 rfl) (Nat.zero_le _) (Nat.zero_le _) (g_St0 E) hz trivial hK hG_5 hS_6 rfl hl.1 rfl (Nat.le_of_ble_eq_true rfl) dX3_wouldSend_15 (fun x6 G7 H locs hvc_10 hG_11 hS_12 => ?_)
    clear hvc_4 hG_5 hS_6
    refine lv_goto (tgt := 26) hx hb dX3_wouldSend_18 (by decide) ?_
    exact g_iret hx hb hr hlocks (Nat.zero_le _) (Nat.zero_le _) hG_11 hS_12 rfl hvc_10 dX3_wouldSend_26
set_option maxHeartbeats 4000000 in
set_option maxRecDepth 100000 in
theorem met_X3_settles (l : Launch) (E : g_E) (G : g_G) (o : Nat) (post : Int32 → g_G → Prop) (hvc : wp_X3_settles E G o post) : g_MI E l yX3_settles (ws_ yX3_settles cX3_settles 2 (Option.some Jvm.ClassFile.FieldType.int)) ({ frames := 8, cells := 0, slots := 0, locals := 182 } : Room) (fun _ => True) [.ref o] G (post) := by
  refine g_enter (by decide +kernel) (Nat.le_of_ble_eq_true rfl) ?_
  intro p e s m below meth c ls hx hb hr hts hown hlocks hml hin hz hX hK hG hS hl
  have hl : lv_has ls 2 [(0, .ref o)] := hl
  have hown : s.vm.findClass RX3 = some m.cls := hown
  unfold wp_X3_settles at hvc
  refine lv_aload_n hx hb dX3_settles_0 rfl (lv_at hl 0 rfl) ?_
  refine gw_cVVN (As := []) (rest := [])  ⟨hx, hb, hml, hown, hts⟩ (met_X3_putAside l E G o _ hvc.2) (cwV 0 hts (lw_V q2197 q2199 qs78 q104 q2200) rfl rfl rfl (by decide +kernel) ⟨Nat.le_of_ble_eq_true rfl, Nat.le_of_ble_eq_true rfl⟩) (gw_rc (q := (RX3, TX3, 13)) hK hG hvc.1 rfl) (Nat.zero_le _) (Nat.zero_le _) (g_St0 E) hz trivial hK hG hS rfl hl.1 rfl (Nat.le_of_ble_eq_true rfl) dX3_settles_1 (fun G2 H locs hvc_1 hG_2 hS_3 => ?_)
  clear hvc hG hS
  refine lv_aload_n hx hb dX3_settles_4 rfl (lv_at hl 0 rfl) ?_
  refine gw_gr (C := RX3) (T := TX3) (N := 13) (own := RX3) hx hb hts in_X3 hown hK hG_2 hvc_1 rfl (by decide) (hts _ q1784) (fun _ h9 => h9) dX3_settles_5 (fun x3 hvc_4 => ?_)
  clear hvc_1
  refine lv_iconst (v := nI 4) hx hb dX3_settles_8 (by decide) ?_
  refine gw_ild hx hb hK hG_2 hvc_4 dX3_settles_9 (fun x4 hvc_5 => ?_)
  clear hvc_4
  have jn18 : ∀ (y0 : Nat) (G : g_G) (H : Heap) (locs : List Loc) (ls : Array Slot), wp_X3_settles_18 E post y0 G → g_H E G H → va_S (g_A E) s.heap H locs → lv_has ls 2 [(0, .ref y0)] → W p l e ({ frames := 8, cells := 0, slots := 0, locals := 182 } : Room) s m ([.ref o] : List Value).toArray below meth c H locs 0 0 (MQ below (va_Qi (post) (g_Bk E) (g_A E)) ([.ref o] : List Value).toArray s 0 0 (g_A E)) (F0 m 18 ls []) := by
    clear hvc_5 hG_2 hS_3 hl
    intro y0 G H locs ls hvc_6 hG_7 hS_8 hl_9
    refine lv_iconst (v := nI 0) hx hb dX3_settles_18 (by decide) ?_
    have lp20 : ∀ (n20 : Nat) (y0 : Nat) (y1 : Int32) (G : g_G) (H : Heap) (locs : List Loc) (ls : Array Slot), wp_X3_settles_20 E post n20 y0 y1 G → g_H E G H → va_S (g_A E) s.heap H locs → lv_has ls 2 [(0, .ref y0), (1, .int y1)] → W p l e ({ frames := 8, cells := 0, slots := 0, locals := 182 } : Room) s m ([.ref o] : List Value).toArray below meth c H locs 0 0 (MQ below (va_Qi (post) (g_Bk E) (g_A E)) ([.ref o] : List Value).toArray s 0 0 (g_A E)) (F0 m 20 ls []) := by
      clear hvc_6 hG_7 hS_8 hl_9
      intro n20
      induction n20 with
      | zero =>
        intro y0 y1 G H locs ls hvc_10 hG_11 hS_12 hl_13
        exact False.elim hvc_10
      | succ n20 ih20 =>
        intro y0 y1 G H locs ls hvc_14 hG_15 hS_16 hl_17
        refine lv_iload_n hx hb dX3_settles_20 rfl (lv_at hl_17 1 rfl) ?_
        refine lv_iconst (v := nI 4) hx hb dX3_settles_21 (by decide) ?_
        refine lv_icmp_ge (tgt := 47) hx hb dX3_settles_22 (by decide) (fun h9 => ?_) (fun h9 => ?_)
        · replace hvc_14 := hvc_14.1 h9
          refine lv_aload_n hx hb dX3_settles_47 rfl (lv_at hl_17 0 rfl) ?_
          refine gw_cVIN (As := []) (rest := [])  ⟨hx, hb, hml, hown, hts⟩ (met_X3_deliversAll l E G y0 _ hvc_14.2) (cwV 0 hts (lw_V q1961 q1963 qs57 q104 q1964) rfl rfl rfl (by decide +kernel) ⟨Nat.le_of_ble_eq_true rfl, Nat.le_of_ble_eq_true rfl⟩) (gw_rc (q := (RX3, TX3, 13)) hK hG_15 hvc_14.1 rfl) (Nat.zero_le _) (Nat.zero_le _) (g_St0 E) hz trivial hK hG_15 hS_16 rfl hl_17.1 rfl (Nat.le_of_ble_eq_true rfl) dX3_settles_48 (fun x5 G6 H locs hvc_18 hG_19 hS_20 => ?_)
          clear hvc_14 hG_15 hS_16
          exact g_iret hx hb hr hlocks (Nat.zero_le _) (Nat.zero_le _) hG_19 hS_20 rfl hvc_18 dX3_settles_51
        · replace hvc_14 := hvc_14.2 h9
          refine lv_aload_n hx hb dX3_settles_25 rfl (lv_at hl_17 0 rfl) ?_
          refine gw_gr (C := RX3) (T := TX3) (N := 13) (own := RX3) hx hb hts in_X3 hown hK hG_15 hvc_14 rfl (by decide) (hts _ q1784) (fun _ h9 => h9) dX3_settles_26 (fun x7 hvc_21 => ?_)
          clear hvc_14
          refine lv_iconst (v := nI 0) hx hb dX3_settles_29 (by decide) ?_
          refine lv_iload_n hx hb dX3_settles_30 rfl (lv_at hl_17 1 rfl) ?_
          refine lv_iadd hx hb dX3_settles_31 ?_
          refine gw_ild hx hb hK hG_15 hvc_21 dX3_settles_32 (fun x8 hvc_22 => ?_)
          clear hvc_21
          have jn41 : ∀ (y0 : Nat) (y1 : Int32) (G : g_G) (H : Heap) (locs : List Loc) (ls : Array Slot), wp_X3_settles_41 E post (wp_X3_settles_20 E post n20) y0 y1 G → g_H E G H → va_S (g_A E) s.heap H locs → lv_has ls 2 [(0, .ref y0), (1, .int y1)] → W p l e ({ frames := 8, cells := 0, slots := 0, locals := 182 } : Room) s m ([.ref o] : List Value).toArray below meth c H locs 0 0 (MQ below (va_Qi (post) (g_Bk E) (g_A E)) ([.ref o] : List Value).toArray s 0 0 (g_A E)) (F0 m 41 ls []) := by
            clear hvc_22 hG_15 hS_16 hl_17
            intro y0 y1 G H locs ls hvc_23 hG_24 hS_25 hl_26
            refine lv_iinc (k := 1) (v := y1 + (nI 1)) (lv' := [(1, .int (y1 + (nI 1))), (0, .ref y0)]) hx hb dX3_settles_41 hl_26 rfl (congrArg (y1 + ·) (by decide : Int32.ofInt (1) = nI 1)) (by decide) rfl (fun ls hl_27 => ?_)
            clear hl_26
            refine lv_goto (tgt := 20) hx hb dX3_settles_44 (by decide) ?_
            exact ih20 y0 (y1 + (nI 1)) G _ _ _ hvc_23 hG_24 hS_25 (lv_sub hl_27 [1, 0] rfl)
          refine lv_if_ne (tgt := 41) hx hb dX3_settles_33 (by decide) (fun h9 => ?_) (fun h9 => ?_)
          · replace hvc_22 := hvc_22.1 h9
            exact jn41 y0 y1 G _ _ _ hvc_22 hG_15 hS_16 (lv_sub hl_17 [0, 1] rfl)
          · replace hvc_22 := hvc_22.2 h9
            refine lv_aload_n hx hb dX3_settles_36 rfl (lv_at hl_17 0 rfl) ?_
            refine lv_iload_n hx hb dX3_settles_37 rfl (lv_at hl_17 1 rfl) ?_
            refine gw_cVVN (As := [.int y1]) (rest := [])  ⟨hx, hb, hml, hown, hts⟩ (met_X3_recovers l E G y0 y1 _ hvc_22.2) (cwV 1 hts (lw_V q1993 q1995 qs61 q104 q1996) rfl rfl rfl (by decide +kernel) ⟨Nat.le_of_ble_eq_true rfl, Nat.le_of_ble_eq_true rfl⟩) (gw_rc (q := (RX3, TX3, 13)) hK hG_15 hvc_22.1 rfl) (Nat.zero_le _) (Nat.zero_le _) (g_St0 E) hz trivial hK hG_15 hS_16 rfl hl_17.1 rfl (Nat.le_of_ble_eq_true rfl) dX3_settles_38 (fun G10 H locs hvc_28 hG_29 hS_30 => ?_)
            clear hvc_22 hG_15 hS_16
            exact jn41 y0 y1 G10 _ _ _ hvc_28 hG_29 hS_30 (lv_sub hl_17 [0, 1] rfl)
    refine lv_istore_n (lv' := [(1, .int (nI 0)), (0, .ref y0)]) hx hb dX3_settles_19 rfl hl_9 (by decide) rfl (fun ls hl_31 => ?_)
    clear hl_9
    obtain ⟨nf20, hvc_6⟩ := hvc_6
    exact lp20 nf20 y0 (nI 0) G _ _ _ hvc_6 hG_7 hS_8 (lv_sub hl_31 [1, 0] rfl)
  refine lv_if_ne (tgt := 18) hx hb dX3_settles_10 (by decide) (fun h9 => ?_) (fun h9 => ?_)
  · replace hvc_5 := hvc_5.1 h9
    exact jn18 o G2 _ _ _ hvc_5 hG_2 hS_3 (lv_sub hl [0] rfl)
  · replace hvc_5 := hvc_5.2 h9
    refine lv_aload_n hx hb dX3_settles_13 rfl (lv_at hl 0 rfl) ?_
    refine lv_iconst (v := nI 4) hx hb dX3_settles_14 (by decide) ?_
    refine gw_cVVN (As := [.int (nI 4)]) (rest := [])  ⟨hx, hb, hml, hown, hts⟩ (met_X3_recovers l E G2 o (nI 4) _ hvc_5.2) (cwV 1 hts (lw_V q1993 q1995 qs61 q104 q1996) rfl rfl rfl (by decide +kernel) ⟨Nat.le_of_ble_eq_true rfl, Nat.le_of_ble_eq_true rfl⟩) (gw_rc (q := (RX3, TX3, 13)) hK hG_2 hvc_5.1 rfl) (Nat.zero_le _) (Nat.zero_le _) (g_St0 E) hz trivial hK hG_2 hS_3 rfl hl.1 rfl (Nat.le_of_ble_eq_true rfl) dX3_settles_15 (fun G12 H locs hvc_32 hG_33 hS_34 => ?_)
    clear hvc_5 hG_2 hS_3
    exact jn18 o G12 _ _ _ hvc_32 hG_33 hS_34 (lv_sub hl [0] rfl)
set_option maxHeartbeats 4000000 in
set_option maxRecDepth 100000 in
theorem met_X3_settledMany (l : Launch) (E : g_E) (G : g_G) (o : Nat) (post : Int32 → g_G → Prop) (hvc : wp_X3_settledMany E G o post) : g_MI E l yX3_settledMany (ws_ yX3_settledMany cX3_settledMany 2 (Option.some Jvm.ClassFile.FieldType.int)) ({ frames := 9, cells := 0, slots := 0, locals := 203 } : Room) (fun _ => True) [.ref o] G (post) := by
  refine g_enter (by decide +kernel) (Nat.le_of_ble_eq_true rfl) ?_
  intro p e s m below meth c ls hx hb hr hts hown hlocks hml hin hz hX hK hG hS hl
  have hl : lv_has ls 2 [(0, .ref o)] := hl
  have hown : s.vm.findClass RX3 = some m.cls := hown
  unfold wp_X3_settledMany at hvc
  refine lv_aload_n hx hb dX3_settledMany_0 rfl (lv_at hl 0 rfl) ?_
  refine gw_cVIN (As := []) (rest := [])  ⟨hx, hb, hml, hown, hts⟩ (met_X3_settles l E G o _ hvc.2) (cwV 0 hts (lw_V q2213 q2215 qs81 q104 q2216) rfl rfl rfl (by decide +kernel) ⟨Nat.le_of_ble_eq_true rfl, Nat.le_of_ble_eq_true rfl⟩) (gw_rc (q := (RX3, TX3, 13)) hK hG hvc.1 rfl) (Nat.zero_le _) (Nat.zero_le _) (g_St0 E) hz trivial hK hG hS rfl hl.1 rfl (Nat.le_of_ble_eq_true rfl) dX3_settledMany_1 (fun x1 G2 H locs hvc_1 hG_2 hS_3 => ?_)
  clear hvc hG hS
  refine lv_istore_n (lv' := [(1, .int x1), (0, .ref o)]) hx hb dX3_settledMany_4 rfl hl (by decide) rfl (fun ls hl_4 => ?_)
  clear hl
  refine lv_aload_n hx hb dX3_settledMany_5 rfl (lv_at hl_4 1 rfl) ?_
  refine gw_cVVN (As := []) (rest := [])  ⟨hx, hb, hml, hown, hts⟩ (met_X3_takeBack l E G2 o _ hvc_1.2) (cwV 0 hts (lw_V q2201 q2203 qs79 q104 q2204) rfl rfl rfl (by decide +kernel) ⟨Nat.le_of_ble_eq_true rfl, Nat.le_of_ble_eq_true rfl⟩) (gw_rc (q := (RX3, TX3, 13)) hK hG_2 hvc_1.1 rfl) (Nat.zero_le _) (Nat.zero_le _) (g_St0 E) hz trivial hK hG_2 hS_3 rfl hl_4.1 rfl (Nat.le_of_ble_eq_true rfl) dX3_settledMany_6 (fun G4 H locs hvc_5 hG_6 hS_7 => ?_)
  clear hvc_1 hG_2 hS_3
  refine lv_iload_n hx hb dX3_settledMany_9 rfl (lv_at hl_4 0 rfl) ?_
  exact g_iret hx hb hr hlocks (Nat.zero_le _) (Nat.zero_le _) hG_6 hS_7 rfl hvc_5 dX3_settledMany_10
set_option maxHeartbeats 4000000 in
set_option maxRecDepth 100000 in
theorem met_X3_messagesToSettle (l : Launch) (E : g_E) (G : g_G) (o : Nat) (post : Int32 → g_G → Prop) (hvc : wp_X3_messagesToSettle E G o post) : g_MI E l yX3_messagesToSettle (ws_ yX3_messagesToSettle cX3_messagesToSettle 1 (Option.some Jvm.ClassFile.FieldType.int)) ({ frames := 10, cells := 0, slots := 0, locals := 224 } : Room) (fun _ => True) [.ref o] G (post) := by
  refine g_enter (by decide +kernel) (Nat.le_of_ble_eq_true rfl) ?_
  intro p e s m below meth c ls hx hb hr hts hown hlocks hml hin hz hX hK hG hS hl
  have hl : lv_has ls 1 [(0, .ref o)] := hl
  have hown : s.vm.findClass RX3 = some m.cls := hown
  unfold wp_X3_messagesToSettle at hvc
  refine lv_aload_n hx hb dX3_messagesToSettle_0 rfl (lv_at hl 0 rfl) ?_
  refine lv_iconst (v := nI 0) hx hb dX3_messagesToSettle_1 (by decide) ?_
  refine gw_put (ty := .int) (C := RX3) (T := TX3) (N := 13) (own := RX3) hx hb hts in_X3 tyX3 tyX3_ok nmX3 hown hK hG hS hvc rfl (by decide) (hts _ q1783) (fun _ h9 => h9) rfl (by decide +kernel) rfl rfl dX3_messagesToSettle_2 (fun G1 H locs hvc_1 hG_2 hS_3 => ?_)
  clear hvc hG hS
  refine lv_aload_n hx hb dX3_messagesToSettle_5 rfl (lv_at hl 0 rfl) ?_
  refine gw_cVIN (As := []) (rest := [])  ⟨hx, hb, hml, hown, hts⟩ (met_X3_settledMany l E G1 o _ hvc_1.2) (cwV 0 hts (lw_V q2209 q2211 qs80 q104 q2212) rfl rfl rfl (by decide +kernel) ⟨Nat.le_of_ble_eq_true rfl, Nat.le_of_ble_eq_true rfl⟩) (gw_rc (q := (RX3, TX3, 13)) hK hG_2 hvc_1.1 rfl) (Nat.zero_le _) (Nat.zero_le _) (g_St0 E) hz trivial hK hG_2 hS_3 rfl hl.1 rfl (Nat.le_of_ble_eq_true rfl) dX3_messagesToSettle_6 (fun x2 G3 H locs hvc_4 hG_5 hS_6 => ?_)
  clear hvc_1 hG_2 hS_3
  exact g_iret hx hb hr hlocks (Nat.zero_le _) (Nat.zero_le _) hG_5 hS_6 rfl hvc_4 dX3_messagesToSettle_9
set_option maxHeartbeats 4000000 in
set_option maxRecDepth 100000 in
theorem met_X3_settledOutcome (l : Launch) (E : g_E) (G : g_G) (o : Nat) (p1 : Int32) (post : Int32 → g_G → Prop) (hvc : wp_X3_settledOutcome E G o p1 post) : g_MI E l yX3_settledOutcome (ws_ yX3_settledOutcome cX3_settledOutcome 3 (Option.some Jvm.ClassFile.FieldType.int)) ({ frames := 9, cells := 0, slots := 0, locals := 203 } : Room) (fun _ => True) [.ref o, .int p1] G (post) := by
  refine g_enter (by decide +kernel) (Nat.le_of_ble_eq_true rfl) ?_
  intro p e s m below meth c ls hx hb hr hts hown hlocks hml hin hz hX hK hG hS hl
  have hl : lv_has ls 3 [(0, .ref o), (1, .int p1)] := hl
  have hown : s.vm.findClass RX3 = some m.cls := hown
  unfold wp_X3_settledOutcome at hvc
  refine lv_aload_n hx hb dX3_settledOutcome_0 rfl (lv_at hl 0 rfl) ?_
  refine gw_cVIN (As := []) (rest := [])  ⟨hx, hb, hml, hown, hts⟩ (met_X3_settles l E G o _ hvc.2) (cwV 0 hts (lw_V q2213 q2215 qs81 q104 q2216) rfl rfl rfl (by decide +kernel) ⟨Nat.le_of_ble_eq_true rfl, Nat.le_of_ble_eq_true rfl⟩) (gw_rc (q := (RX3, TX3, 13)) hK hG hvc.1 rfl) (Nat.zero_le _) (Nat.zero_le _) (g_St0 E) hz trivial hK hG hS rfl hl.1 rfl (Nat.le_of_ble_eq_true rfl) dX3_settledOutcome_1 (fun x1 G2 H locs hvc_1 hG_2 hS_3 => ?_)
  clear hvc hG hS
  refine lv_pop hx hb dX3_settledOutcome_4 rfl ?_
  refine lv_aload_n hx hb dX3_settledOutcome_5 rfl (lv_at hl 0 rfl) ?_
  refine lv_iload_n hx hb dX3_settledOutcome_6 rfl (lv_at hl 1 rfl) ?_
  refine lv_iconst (v := nI 5) hx hb dX3_settledOutcome_7 (by decide) ?_
  refine gw_cVIP (As := [.int p1, .int (nI 5)]) (rest := [])  ⟨hx, hb, hml, hown, hts⟩ (met_X3_of l E G2 o p1 (nI 5) _ hvc_1.2) (cwV 2 hts (lw_V q1872 q1874 qs41 q104 q1875) rfl rfl rfl (by decide +kernel) ⟨Nat.le_of_ble_eq_true rfl, Nat.le_of_ble_eq_true rfl⟩) (gw_rc (q := (RX3, TX3, 13)) hK hG_2 hvc_1.1 rfl) (Nat.zero_le _) (Nat.zero_le _) (g_St0 E) hz trivial hK hG_2 hS_3 rfl hl.1 rfl (Nat.le_of_ble_eq_true rfl) dX3_settledOutcome_8 (fun x3 H locs hvc_4 hG_5 hS_6 => ?_)
  clear hvc_1 hG_2 hS_3
  refine lv_istore_n (lv' := [(2, .int x3), (0, .ref o), (1, .int p1)]) hx hb dX3_settledOutcome_11 rfl hl (by decide) rfl (fun ls hl_7 => ?_)
  clear hl
  refine lv_aload_n hx hb dX3_settledOutcome_12 rfl (lv_at hl_7 1 rfl) ?_
  refine gw_cVVN (As := []) (rest := [])  ⟨hx, hb, hml, hown, hts⟩ (met_X3_takeBack l E G2 o _ hvc_4.2) (cwV 0 hts (lw_V q2201 q2203 qs79 q104 q2204) rfl rfl rfl (by decide +kernel) ⟨Nat.le_of_ble_eq_true rfl, Nat.le_of_ble_eq_true rfl⟩) (gw_rc (q := (RX3, TX3, 13)) hK hG_5 hvc_4.1 rfl) (Nat.zero_le _) (Nat.zero_le _) (g_St0 E) hz trivial hK hG_5 hS_6 rfl hl_7.1 rfl (Nat.le_of_ble_eq_true rfl) dX3_settledOutcome_13 (fun G6 H locs hvc_8 hG_9 hS_10 => ?_)
  clear hvc_4 hG_5 hS_6
  refine lv_iload_n hx hb dX3_settledOutcome_16 rfl (lv_at hl_7 0 rfl) ?_
  exact g_iret hx hb hr hlocks (Nat.zero_le _) (Nat.zero_le _) hG_9 hS_10 rfl hvc_8 dX3_settledOutcome_17
set_option maxHeartbeats 4000000 in
set_option maxRecDepth 100000 in
theorem met_X3_outcomeIfSettled (l : Launch) (E : g_E) (G : g_G) (o : Nat) (p1 : Int32) (post : Int32 → g_G → Prop) (hvc : wp_X3_outcomeIfSettled E G o p1 post) : g_MI E l yX3_outcomeIfSettled (ws_ yX3_outcomeIfSettled cX3_outcomeIfSettled 2 (Option.some Jvm.ClassFile.FieldType.int)) ({ frames := 10, cells := 0, slots := 0, locals := 225 } : Room) (fun _ => True) [.ref o, .int p1] G (post) := by
  refine g_enter (by decide +kernel) (Nat.le_of_ble_eq_true rfl) ?_
  intro p e s m below meth c ls hx hb hr hts hown hlocks hml hin hz hX hK hG hS hl
  have hl : lv_has ls 2 [(0, .ref o), (1, .int p1)] := hl
  have hown : s.vm.findClass RX3 = some m.cls := hown
  unfold wp_X3_outcomeIfSettled at hvc
  refine lv_aload_n hx hb dX3_outcomeIfSettled_0 rfl (lv_at hl 0 rfl) ?_
  refine lv_iconst (v := nI 0) hx hb dX3_outcomeIfSettled_1 (by decide) ?_
  refine gw_put (ty := .int) (C := RX3) (T := TX3) (N := 13) (own := RX3) hx hb hts in_X3 tyX3 tyX3_ok nmX3 hown hK hG hS hvc rfl (by decide) (hts _ q1783) (fun _ h9 => h9) rfl (by decide +kernel) rfl rfl dX3_outcomeIfSettled_2 (fun G1 H locs hvc_1 hG_2 hS_3 => ?_)
  clear hvc hG hS
  refine lv_aload_n hx hb dX3_outcomeIfSettled_5 rfl (lv_at hl 0 rfl) ?_
  refine lv_iload_n hx hb dX3_outcomeIfSettled_6 rfl (lv_at hl 1 rfl) ?_
  refine gw_cVIP (As := [.int p1]) (rest := [])  ⟨hx, hb, hml, hown, hts⟩ (met_X3_isTransfer l E G1 o p1 _ hvc_1.2) (cwV 1 hts (lw_V q1884 q1886 qs43 q104 q1887) rfl rfl rfl (by decide +kernel) ⟨Nat.le_of_ble_eq_true rfl, Nat.le_of_ble_eq_true rfl⟩) (gw_rc (q := (RX3, TX3, 13)) hK hG_2 hvc_1.1 rfl) (Nat.zero_le _) (Nat.zero_le _) (g_St0 E) hz trivial hK hG_2 hS_3 rfl hl.1 rfl (Nat.le_of_ble_eq_true rfl) dX3_outcomeIfSettled_7 (fun x2 H locs hvc_4 hG_5 hS_6 => ?_)
  clear hvc_1 hG_2 hS_3
  refine lv_if_eq (tgt := 21) hx hb dX3_outcomeIfSettled_10 (by decide) (fun h9 => ?_) (fun h9 => ?_)
  · replace hvc_4 := hvc_4.1 h9
    refine lv_aload_n hx hb dX3_outcomeIfSettled_21 rfl (lv_at hl 0 rfl) ?_
    refine lv_iconst (v := nI 1) hx hb dX3_outcomeIfSettled_22 (by decide) ?_
    refine gw_cVIN (As := [.int (nI 1)]) (rest := [])  ⟨hx, hb, hml, hown, hts⟩ (met_X3_fails l E G1 o (nI 1) _ hvc_4.2) (cwV 1 hts (lw_V q1837 q1839 qs33 q104 q1840) rfl rfl rfl (by decide +kernel) ⟨Nat.le_of_ble_eq_true rfl, Nat.le_of_ble_eq_true rfl⟩) (gw_rc (q := (RX3, TX3, 13)) hK hG_5 hvc_4.1 rfl) (Nat.zero_le _) (Nat.zero_le _) (g_St0 E) hz trivial hK hG_5 hS_6 rfl hl.1 rfl (Nat.le_of_ble_eq_true rfl) dX3_outcomeIfSettled_23 (fun x4 G5 H locs hvc_7 hG_8 hS_9 => ?_)
    clear hvc_4 hG_5 hS_6
    exact g_iret hx hb hr hlocks (Nat.zero_le _) (Nat.zero_le _) hG_8 hS_9 rfl hvc_7 dX3_outcomeIfSettled_26
  · replace hvc_4 := hvc_4.2 h9
    refine lv_aload_n hx hb dX3_outcomeIfSettled_13 rfl (lv_at hl 0 rfl) ?_
    refine lv_iload_n hx hb dX3_outcomeIfSettled_14 rfl (lv_at hl 1 rfl) ?_
    refine gw_cVIN (As := [.int p1]) (rest := [])  ⟨hx, hb, hml, hown, hts⟩ (met_X3_settledOutcome l E G1 o p1 _ hvc_4.2) (cwV 1 hts (lw_V q2221 q2223 qs82 q104 q2224) rfl rfl rfl (by decide +kernel) ⟨Nat.le_of_ble_eq_true rfl, Nat.le_of_ble_eq_true rfl⟩) (gw_rc (q := (RX3, TX3, 13)) hK hG_5 hvc_4.1 rfl) (Nat.zero_le _) (Nat.zero_le _) (g_St0 E) hz trivial hK hG_5 hS_6 rfl hl.1 rfl (Nat.le_of_ble_eq_true rfl) dX3_outcomeIfSettled_15 (fun x6 G7 H locs hvc_10 hG_11 hS_12 => ?_)
    clear hvc_4 hG_5 hS_6
    refine lv_goto (tgt := 26) hx hb dX3_outcomeIfSettled_18 (by decide) ?_
    exact g_iret hx hb hr hlocks (Nat.zero_le _) (Nat.zero_le _) hG_11 hS_12 rfl hvc_10 dX3_outcomeIfSettled_26
set_option maxHeartbeats 4000000 in
set_option maxRecDepth 100000 in
theorem met_X3_settledAmount (l : Launch) (E : g_E) (G : g_G) (o : Nat) (p1 : Int32) (post : Int32 → g_G → Prop) (hvc : wp_X3_settledAmount E G o p1 post) : g_MI E l yX3_settledAmount (ws_ yX3_settledAmount cX3_settledAmount 3 (Option.some Jvm.ClassFile.FieldType.int)) ({ frames := 9, cells := 0, slots := 0, locals := 203 } : Room) (fun _ => True) [.ref o, .int p1] G (post) := by
  refine g_enter (by decide +kernel) (Nat.le_of_ble_eq_true rfl) ?_
  intro p e s m below meth c ls hx hb hr hts hown hlocks hml hin hz hX hK hG hS hl
  have hl : lv_has ls 3 [(0, .ref o), (1, .int p1)] := hl
  have hown : s.vm.findClass RX3 = some m.cls := hown
  unfold wp_X3_settledAmount at hvc
  refine lv_aload_n hx hb dX3_settledAmount_0 rfl (lv_at hl 0 rfl) ?_
  refine gw_cVIN (As := []) (rest := [])  ⟨hx, hb, hml, hown, hts⟩ (met_X3_settles l E G o _ hvc.2) (cwV 0 hts (lw_V q2213 q2215 qs81 q104 q2216) rfl rfl rfl (by decide +kernel) ⟨Nat.le_of_ble_eq_true rfl, Nat.le_of_ble_eq_true rfl⟩) (gw_rc (q := (RX3, TX3, 13)) hK hG hvc.1 rfl) (Nat.zero_le _) (Nat.zero_le _) (g_St0 E) hz trivial hK hG hS rfl hl.1 rfl (Nat.le_of_ble_eq_true rfl) dX3_settledAmount_1 (fun x1 G2 H locs hvc_1 hG_2 hS_3 => ?_)
  clear hvc hG hS
  refine lv_pop hx hb dX3_settledAmount_4 rfl ?_
  refine lv_aload_n hx hb dX3_settledAmount_5 rfl (lv_at hl 0 rfl) ?_
  refine gw_gr (C := RX3) (T := TX3) (N := 13) (own := RX3) hx hb hts in_X3 hown hK hG_2 hvc_1 rfl (by decide) (hts _ q1784) (fun _ h9 => h9) dX3_settledAmount_6 (fun x3 hvc_4 => ?_)
  clear hvc_1
  refine lv_iconst (v := nI 5) hx hb dX3_settledAmount_9 (by decide) ?_
  refine lv_iload_n hx hb dX3_settledAmount_10 rfl (lv_at hl 1 rfl) ?_
  refine lv_iadd hx hb dX3_settledAmount_11 ?_
  refine gw_ild hx hb hK hG_2 hvc_4 dX3_settledAmount_12 (fun x4 hvc_5 => ?_)
  clear hvc_4
  refine lv_istore_n (lv' := [(2, .int x4), (0, .ref o), (1, .int p1)]) hx hb dX3_settledAmount_13 rfl hl (by decide) rfl (fun ls hl_6 => ?_)
  clear hl
  refine lv_aload_n hx hb dX3_settledAmount_14 rfl (lv_at hl_6 1 rfl) ?_
  refine gw_cVVN (As := []) (rest := [])  ⟨hx, hb, hml, hown, hts⟩ (met_X3_takeBack l E G2 o _ hvc_5.2) (cwV 0 hts (lw_V q2201 q2203 qs79 q104 q2204) rfl rfl rfl (by decide +kernel) ⟨Nat.le_of_ble_eq_true rfl, Nat.le_of_ble_eq_true rfl⟩) (gw_rc (q := (RX3, TX3, 13)) hK hG_2 hvc_5.1 rfl) (Nat.zero_le _) (Nat.zero_le _) (g_St0 E) hz trivial hK hG_2 hS_3 rfl hl_6.1 rfl (Nat.le_of_ble_eq_true rfl) dX3_settledAmount_15 (fun G6 H locs hvc_7 hG_8 hS_9 => ?_)
  clear hvc_5 hG_2 hS_3
  refine lv_iload_n hx hb dX3_settledAmount_18 rfl (lv_at hl_6 0 rfl) ?_
  exact g_iret hx hb hr hlocks (Nat.zero_le _) (Nat.zero_le _) hG_8 hS_9 rfl hvc_7 dX3_settledAmount_19
set_option maxHeartbeats 4000000 in
set_option maxRecDepth 100000 in
theorem met_X3_amountIfSettled (l : Launch) (E : g_E) (G : g_G) (o : Nat) (p1 : Int32) (post : Int32 → g_G → Prop) (hvc : wp_X3_amountIfSettled E G o p1 post) : g_MI E l yX3_amountIfSettled (ws_ yX3_amountIfSettled cX3_amountIfSettled 2 (Option.some Jvm.ClassFile.FieldType.int)) ({ frames := 10, cells := 0, slots := 0, locals := 225 } : Room) (fun _ => True) [.ref o, .int p1] G (post) := by
  refine g_enter (by decide +kernel) (Nat.le_of_ble_eq_true rfl) ?_
  intro p e s m below meth c ls hx hb hr hts hown hlocks hml hin hz hX hK hG hS hl
  have hl : lv_has ls 2 [(0, .ref o), (1, .int p1)] := hl
  have hown : s.vm.findClass RX3 = some m.cls := hown
  unfold wp_X3_amountIfSettled at hvc
  refine lv_aload_n hx hb dX3_amountIfSettled_0 rfl (lv_at hl 0 rfl) ?_
  refine lv_iconst (v := nI 0) hx hb dX3_amountIfSettled_1 (by decide) ?_
  refine gw_put (ty := .int) (C := RX3) (T := TX3) (N := 13) (own := RX3) hx hb hts in_X3 tyX3 tyX3_ok nmX3 hown hK hG hS hvc rfl (by decide) (hts _ q1783) (fun _ h9 => h9) rfl (by decide +kernel) rfl rfl dX3_amountIfSettled_2 (fun G1 H locs hvc_1 hG_2 hS_3 => ?_)
  clear hvc hG hS
  refine lv_iload_n hx hb dX3_amountIfSettled_5 rfl (lv_at hl 1 rfl) ?_
  refine gw_cSIP (As := [.int p1]) (rest := [])  ⟨hx, hb, hml, hown, hts⟩ (met_X3_isStore l E G1 p1 _ hvc_1) (va_cwS 1 hts (lw_S q1831 q1832 q104 q1833) rfl rfl rfl (by decide +kernel) ⟨Nat.le_of_ble_eq_true rfl, Nat.le_of_ble_eq_true rfl⟩) (Nat.zero_le _) (Nat.zero_le _) (g_St0 E) hz trivial hK hG_2 hS_3 rfl hl.1 rfl (Nat.le_of_ble_eq_true rfl) dX3_amountIfSettled_6 (fun x2 H locs hvc_4 hG_5 hS_6 => ?_)
  clear hvc_1 hG_2 hS_3
  refine lv_if_eq (tgt := 20) hx hb dX3_amountIfSettled_9 (by decide) (fun h9 => ?_) (fun h9 => ?_)
  · replace hvc_4 := hvc_4.1 h9
    refine lv_aload_n hx hb dX3_amountIfSettled_20 rfl (lv_at hl 0 rfl) ?_
    refine lv_iconst (v := nI 1) hx hb dX3_amountIfSettled_21 (by decide) ?_
    refine gw_cVIN (As := [.int (nI 1)]) (rest := [])  ⟨hx, hb, hml, hown, hts⟩ (met_X3_fails l E G1 o (nI 1) _ hvc_4.2) (cwV 1 hts (lw_V q1837 q1839 qs33 q104 q1840) rfl rfl rfl (by decide +kernel) ⟨Nat.le_of_ble_eq_true rfl, Nat.le_of_ble_eq_true rfl⟩) (gw_rc (q := (RX3, TX3, 13)) hK hG_5 hvc_4.1 rfl) (Nat.zero_le _) (Nat.zero_le _) (g_St0 E) hz trivial hK hG_5 hS_6 rfl hl.1 rfl (Nat.le_of_ble_eq_true rfl) dX3_amountIfSettled_22 (fun x4 G5 H locs hvc_7 hG_8 hS_9 => ?_)
    clear hvc_4 hG_5 hS_6
    exact g_iret hx hb hr hlocks (Nat.zero_le _) (Nat.zero_le _) hG_8 hS_9 rfl hvc_7 dX3_amountIfSettled_25
  · replace hvc_4 := hvc_4.2 h9
    refine lv_aload_n hx hb dX3_amountIfSettled_12 rfl (lv_at hl 0 rfl) ?_
    refine lv_iload_n hx hb dX3_amountIfSettled_13 rfl (lv_at hl 1 rfl) ?_
    refine gw_cVIN (As := [.int p1]) (rest := [])  ⟨hx, hb, hml, hown, hts⟩ (met_X3_settledAmount l E G1 o p1 _ hvc_4.2) (cwV 1 hts (lw_V q2229 q2231 qs83 q104 q2232) rfl rfl rfl (by decide +kernel) ⟨Nat.le_of_ble_eq_true rfl, Nat.le_of_ble_eq_true rfl⟩) (gw_rc (q := (RX3, TX3, 13)) hK hG_5 hvc_4.1 rfl) (Nat.zero_le _) (Nat.zero_le _) (g_St0 E) hz trivial hK hG_5 hS_6 rfl hl.1 rfl (Nat.le_of_ble_eq_true rfl) dX3_amountIfSettled_14 (fun x6 G7 H locs hvc_10 hG_11 hS_12 => ?_)
    clear hvc_4 hG_5 hS_6
    refine lv_goto (tgt := 25) hx hb dX3_amountIfSettled_17 (by decide) ?_
    exact g_iret hx hb hr hlocks (Nat.zero_le _) (Nat.zero_le _) hG_11 hS_12 rfl hvc_10 dX3_amountIfSettled_25
set_option maxHeartbeats 4000000 in
set_option maxRecDepth 100000 in
theorem met_X3_greatest (l : Launch) (E : g_E) (G : g_G) (o : Nat) (p1 : Int32) (p2 : Int32) (post : Int32 → Prop) (hvc : wp_X3_greatest E G o p1 p2 post) : g_MI E l yX3_greatest (ws_ yX3_greatest cX3_greatest 8 (Option.some Jvm.ClassFile.FieldType.int)) ({ frames := 4, cells := 0, slots := 0, locals := 93 } : Room) (fun _ => True) [.ref o, .int p1, .int p2] G (fun v G9 => G9 = G ∧ post v) := by
  refine g_enter (by decide +kernel) (Nat.le_of_ble_eq_true rfl) ?_
  intro p e s m below meth c ls hx hb hr hts hown hlocks hml hin hz hX hK hG hS hl
  have hl : lv_has ls 8 [(0, .ref o), (1, .int p1), (2, .int p2)] := hl
  have hown : s.vm.findClass RX3 = some m.cls := hown
  unfold wp_X3_greatest at hvc
  refine lv_iconst (v := nI 0) hx hb dX3_greatest_0 (by decide) ?_
  refine lv_istore_n (lv' := [(3, .int (nI 0)), (0, .ref o), (1, .int p1), (2, .int p2)]) hx hb dX3_greatest_1 rfl hl (by decide) rfl (fun ls hl_1 => ?_)
  clear hl
  refine lv_iconst (v := nI 1) hx hb dX3_greatest_2 (by decide) ?_
  have lp5 : ∀ (n5 : Nat) (y0 : Nat) (y1 : Int32) (y2 : Int32) (y3 : Int32) (y4 : Int32) (H : Heap) (locs : List Loc) (ls : Array Slot), wp_X3_greatest_5 E G post n5 y0 y1 y2 y3 y4 → g_H E G H → va_S (g_A E) s.heap H locs → lv_has ls 8 [(0, .ref y0), (1, .int y1), (2, .int y2), (3, .int y3), (4, .int y4)] → W p l e ({ frames := 4, cells := 0, slots := 0, locals := 93 } : Room) s m ([.ref o, .int p1, .int p2] : List Value).toArray below meth c H locs 0 0 (MQ below (va_Qi (fun v G9 => G9 = G ∧ post v) (g_Bk E) (g_A E)) ([.ref o, .int p1, .int p2] : List Value).toArray s 0 0 (g_A E)) (F0 m 5 ls []) := by
    clear hvc hG hS hl_1
    intro n5
    induction n5 with
    | zero =>
      intro y0 y1 y2 y3 y4 H locs ls hvc_2 hG_3 hS_4 hl_5
      exact False.elim hvc_2
    | succ n5 ih5 =>
      intro y0 y1 y2 y3 y4 H locs ls hvc_6 hG_7 hS_8 hl_9
      refine lv_iload hx hb dX3_greatest_5 (lv_at hl_9 4 rfl) ?_
      refine lv_bipush (v := nI 51) hx hb dX3_greatest_7 (by decide) ?_
      refine lv_icmp_ge (tgt := 87) hx hb dX3_greatest_9 (by decide) (fun h9 => ?_) (fun h9 => ?_)
      · replace hvc_6 := hvc_6.1 h9
        refine lv_iload_n hx hb dX3_greatest_87 rfl (lv_at hl_9 3 rfl) ?_
        exact g_iret hx hb hr hlocks (Nat.zero_le _) (Nat.zero_le _) hG_7 hS_8 rfl ⟨rfl, hvc_6⟩ dX3_greatest_88
      · replace hvc_6 := hvc_6.2 h9
        refine lv_iconst (v := nI 1) hx hb dX3_greatest_12 (by decide) ?_
        refine lv_istore (lv' := [(5, .int (nI 1)), (0, .ref y0), (1, .int y1), (2, .int y2), (3, .int y3), (4, .int y4)]) hx hb dX3_greatest_13 hl_9 (by decide) rfl (fun ls hl_10 => ?_)
        clear hl_9
        refine lv_iconst (v := nI 0) hx hb dX3_greatest_15 (by decide) ?_
        have lp18 : ∀ (n18 : Nat) (y0 : Nat) (y1 : Int32) (y2 : Int32) (y3 : Int32) (y4 : Int32) (y5 : Int32) (y6 : Int32) (H : Heap) (locs : List Loc) (ls : Array Slot), wp_X3_greatest_18 E G post (wp_X3_greatest_5 E G post n5) n18 y0 y1 y2 y3 y4 y5 y6 → g_H E G H → va_S (g_A E) s.heap H locs → lv_has ls 8 [(0, .ref y0), (1, .int y1), (2, .int y2), (3, .int y3), (4, .int y4), (5, .int y5), (6, .int y6)] → W p l e ({ frames := 4, cells := 0, slots := 0, locals := 93 } : Room) s m ([.ref o, .int p1, .int p2] : List Value).toArray below meth c H locs 0 0 (MQ below (va_Qi (fun v G9 => G9 = G ∧ post v) (g_Bk E) (g_A E)) ([.ref o, .int p1, .int p2] : List Value).toArray s 0 0 (g_A E)) (F0 m 18 ls []) := by
          clear hvc_6 hG_7 hS_8 hl_10
          intro n18
          induction n18 with
          | zero =>
            intro y0 y1 y2 y3 y4 y5 y6 H locs ls hvc_11 hG_12 hS_13 hl_14
            exact False.elim hvc_11
          | succ n18 ih18 =>
            intro y0 y1 y2 y3 y4 y5 y6 H locs ls hvc_15 hG_16 hS_17 hl_18
            refine lv_iload hx hb dX3_greatest_18 (lv_at hl_18 6 rfl) ?_
            refine lv_iconst (v := nI 4) hx hb dX3_greatest_20 (by decide) ?_
            refine lv_icmp_ge (tgt := 69) hx hb dX3_greatest_21 (by decide) (fun h9 => ?_) (fun h9 => ?_)
            · replace hvc_15 := hvc_15.1 h9
              refine lv_iload hx hb dX3_greatest_69 (lv_at hl_18 5 rfl) ?_
              have jn80 : ∀ (y0 : Nat) (y1 : Int32) (y2 : Int32) (y4 : Int32) (s0 : Int32) (H : Heap) (locs : List Loc) (ls : Array Slot), wp_X3_greatest_80 E G post (wp_X3_greatest_5 E G post n5) y0 y1 y2 y4 s0 → g_H E G H → va_S (g_A E) s.heap H locs → lv_has ls 8 [(0, .ref y0), (1, .int y1), (2, .int y2), (4, .int y4)] → W p l e ({ frames := 4, cells := 0, slots := 0, locals := 93 } : Room) s m ([.ref o, .int p1, .int p2] : List Value).toArray below meth c H locs 0 0 (MQ below (va_Qi (fun v G9 => G9 = G ∧ post v) (g_Bk E) (g_A E)) ([.ref o, .int p1, .int p2] : List Value).toArray s 0 0 (g_A E)) (F0 m 80 ls [.int s0]) := by
                clear hvc_15 hG_16 hS_17 hl_18
                intro y0 y1 y2 y4 s0 H locs ls hvc_19 hG_20 hS_21 hl_22
                refine lv_istore_n (lv' := [(3, .int s0), (0, .ref y0), (1, .int y1), (2, .int y2), (4, .int y4)]) hx hb dX3_greatest_80 rfl hl_22 (by decide) rfl (fun ls hl_23 => ?_)
                clear hl_22
                refine lv_iinc (k := 4) (v := y4 + (nI 1)) (lv' := [(4, .int (y4 + (nI 1))), (3, .int s0), (0, .ref y0), (1, .int y1), (2, .int y2)]) hx hb dX3_greatest_81 hl_23 rfl (congrArg (y4 + ·) (by decide : Int32.ofInt (1) = nI 1)) (by decide) rfl (fun ls hl_24 => ?_)
                clear hl_23
                refine lv_goto (tgt := 5) hx hb dX3_greatest_84 (by decide) ?_
                exact ih5 y0 y1 y2 s0 (y4 + (nI 1)) _ _ _ hvc_19 hG_20 hS_21 (lv_sub hl_24 [2, 3, 4, 1, 0] rfl)
              refine lv_if_eq (tgt := 79) hx hb dX3_greatest_71 (by decide) (fun h9 => ?_) (fun h9 => ?_)
              · replace hvc_15 := hvc_15.1 h9
                refine lv_iload_n hx hb dX3_greatest_79 rfl (lv_at hl_18 3 rfl) ?_
                exact jn80 y0 y1 y2 y4 y3 _ _ _ hvc_15 hG_16 hS_17 (lv_sub hl_18 [0, 1, 2, 4] rfl)
              · replace hvc_15 := hvc_15.2 h9
                refine lv_iload hx hb dX3_greatest_74 (lv_at hl_18 4 rfl) ?_
                refine lv_goto (tgt := 80) hx hb dX3_greatest_76 (by decide) ?_
                exact jn80 y0 y1 y2 y4 y4 _ _ _ hvc_15 hG_16 hS_17 (lv_sub hl_18 [0, 1, 2, 4] rfl)
            · replace hvc_15 := hvc_15.2 h9
              refine lv_iload_n hx hb dX3_greatest_24 rfl (lv_at hl_18 1 rfl) ?_
              refine lv_iload_n hx hb dX3_greatest_25 rfl (lv_at hl_18 2 rfl) ?_
              refine lv_iload hx hb dX3_greatest_26 (lv_at hl_18 4 rfl) ?_
              refine lv_iload hx hb dX3_greatest_28 (lv_at hl_18 6 rfl) ?_
              refine gw_cSIP (As := [.int y1, .int y2, .int y4, .int y6]) (rest := [])  ⟨hx, hb, hml, hown, hts⟩ (met_X3_shareOf l E G y1 y2 y4 y6 _ hvc_15) (va_cwS 4 hts (lw_S q1939 q1940 q104 q1941) rfl rfl rfl (by decide +kernel) ⟨Nat.le_of_ble_eq_true rfl, Nat.le_of_ble_eq_true rfl⟩) (Nat.zero_le _) (Nat.zero_le _) (g_St0 E) hz trivial hK hG_16 hS_17 rfl hl_18.1 rfl (Nat.le_of_ble_eq_true rfl) dX3_greatest_30 (fun x1 H locs hvc_25 hG_26 hS_27 => ?_)
              clear hvc_15 hG_16 hS_17
              refine lv_istore (lv' := [(7, .int x1), (0, .ref y0), (1, .int y1), (2, .int y2), (3, .int y3), (4, .int y4), (5, .int y5), (6, .int y6)]) hx hb dX3_greatest_33 hl_18 (by decide) rfl (fun ls hl_28 => ?_)
              clear hl_18
              refine lv_iload hx hb dX3_greatest_35 (lv_at hl_28 6 rfl) ?_
              have jn61 : ∀ (y0 : Nat) (y1 : Int32) (y2 : Int32) (y3 : Int32) (y4 : Int32) (y6 : Int32) (s0 : Int32) (H : Heap) (locs : List Loc) (ls : Array Slot), wp_X3_greatest_61 E G post (wp_X3_greatest_18 E G post (wp_X3_greatest_5 E G post n5) n18) y0 y1 y2 y3 y4 y6 s0 → g_H E G H → va_S (g_A E) s.heap H locs → lv_has ls 8 [(0, .ref y0), (1, .int y1), (2, .int y2), (3, .int y3), (4, .int y4), (6, .int y6)] → W p l e ({ frames := 4, cells := 0, slots := 0, locals := 93 } : Room) s m ([.ref o, .int p1, .int p2] : List Value).toArray below meth c H locs 0 0 (MQ below (va_Qi (fun v G9 => G9 = G ∧ post v) (g_Bk E) (g_A E)) ([.ref o, .int p1, .int p2] : List Value).toArray s 0 0 (g_A E)) (F0 m 61 ls [.int s0]) := by
                clear hvc_25 hG_26 hS_27 hl_28
                intro y0 y1 y2 y3 y4 y6 s0 H locs ls hvc_29 hG_30 hS_31 hl_32
                refine lv_istore (lv' := [(5, .int s0), (0, .ref y0), (1, .int y1), (2, .int y2), (3, .int y3), (4, .int y4), (6, .int y6)]) hx hb dX3_greatest_61 hl_32 (by decide) rfl (fun ls hl_33 => ?_)
                clear hl_32
                refine lv_iinc (k := 6) (v := y6 + (nI 1)) (lv' := [(6, .int (y6 + (nI 1))), (5, .int s0), (0, .ref y0), (1, .int y1), (2, .int y2), (3, .int y3), (4, .int y4)]) hx hb dX3_greatest_63 hl_33 rfl (congrArg (y6 + ·) (by decide : Int32.ofInt (1) = nI 1)) (by decide) rfl (fun ls hl_34 => ?_)
                clear hl_33
                refine lv_goto (tgt := 18) hx hb dX3_greatest_66 (by decide) ?_
                exact ih18 y0 y1 y2 y3 y4 s0 (y6 + (nI 1)) _ _ _ hvc_29 hG_30 hS_31 (lv_sub hl_34 [2, 3, 4, 5, 6, 1, 0] rfl)
              have jn60 : ∀ (y0 : Nat) (y1 : Int32) (y2 : Int32) (y3 : Int32) (y4 : Int32) (y6 : Int32) (H : Heap) (locs : List Loc) (ls : Array Slot), wp_X3_greatest_60 E G post (wp_X3_greatest_61 E G post (wp_X3_greatest_18 E G post (wp_X3_greatest_5 E G post n5) n18)) y0 y1 y2 y3 y4 y6 → g_H E G H → va_S (g_A E) s.heap H locs → lv_has ls 8 [(0, .ref y0), (1, .int y1), (2, .int y2), (3, .int y3), (4, .int y4), (6, .int y6)] → W p l e ({ frames := 4, cells := 0, slots := 0, locals := 93 } : Room) s m ([.ref o, .int p1, .int p2] : List Value).toArray below meth c H locs 0 0 (MQ below (va_Qi (fun v G9 => G9 = G ∧ post v) (g_Bk E) (g_A E)) ([.ref o, .int p1, .int p2] : List Value).toArray s 0 0 (g_A E)) (F0 m 60 ls []) := by
                clear hvc_25 hG_26 hS_27 hl_28
                intro y0 y1 y2 y3 y4 y6 H locs ls hvc_35 hG_36 hS_37 hl_38
                refine lv_iconst (v := nI 0) hx hb dX3_greatest_60 (by decide) ?_
                exact jn61 y0 y1 y2 y3 y4 y6 (nI 0) _ _ _ hvc_35 hG_36 hS_37 (lv_sub hl_38 [0, 1, 2, 3, 4, 5] rfl)
              refine lv_if_eq (tgt := 60) hx hb dX3_greatest_37 (by decide) (fun h9 => ?_) (fun h9 => ?_)
              · replace hvc_25 := hvc_25.1 h9
                exact jn60 y0 y1 y2 y3 y4 y6 _ _ _ hvc_25 hG_26 hS_27 (lv_sub hl_28 [1, 2, 3, 4, 5, 7] rfl)
              · replace hvc_25 := hvc_25.2 h9
                refine lv_iload hx hb dX3_greatest_40 (lv_at hl_28 0 rfl) ?_
                have jn56 : ∀ (y0 : Nat) (y1 : Int32) (y2 : Int32) (y3 : Int32) (y4 : Int32) (y6 : Int32) (H : Heap) (locs : List Loc) (ls : Array Slot), wp_X3_greatest_56 E G post (wp_X3_greatest_61 E G post (wp_X3_greatest_18 E G post (wp_X3_greatest_5 E G post n5) n18)) y0 y1 y2 y3 y4 y6 → g_H E G H → va_S (g_A E) s.heap H locs → lv_has ls 8 [(0, .ref y0), (1, .int y1), (2, .int y2), (3, .int y3), (4, .int y4), (6, .int y6)] → W p l e ({ frames := 4, cells := 0, slots := 0, locals := 93 } : Room) s m ([.ref o, .int p1, .int p2] : List Value).toArray below meth c H locs 0 0 (MQ below (va_Qi (fun v G9 => G9 = G ∧ post v) (g_Bk E) (g_A E)) ([.ref o, .int p1, .int p2] : List Value).toArray s 0 0 (g_A E)) (F0 m 56 ls []) := by
                  clear hvc_25 hG_26 hS_27 hl_28
                  intro y0 y1 y2 y3 y4 y6 H locs ls hvc_39 hG_40 hS_41 hl_42
                  refine lv_iconst (v := nI 1) hx hb dX3_greatest_56 (by decide) ?_
                  refine lv_goto (tgt := 61) hx hb dX3_greatest_57 (by decide) ?_
                  exact jn61 y0 y1 y2 y3 y4 y6 (nI 1) _ _ _ hvc_39 hG_40 hS_41 (lv_sub hl_42 [0, 1, 2, 3, 4, 5] rfl)
                refine lv_if_eq (tgt := 56) hx hb dX3_greatest_42 (by decide) (fun h9 => ?_) (fun h9 => ?_)
                · replace hvc_25 := hvc_25.1 h9
                  exact jn56 y0 y1 y2 y3 y4 y6 _ _ _ hvc_25 hG_26 hS_27 (lv_sub hl_28 [1, 2, 3, 4, 5, 7] rfl)
                · replace hvc_25 := hvc_25.2 h9
                  refine lv_aload_n hx hb dX3_greatest_45 rfl (lv_at hl_28 1 rfl) ?_
                  refine lv_iload hx hb dX3_greatest_46 (lv_at hl_28 7 rfl) ?_
                  refine lv_iload hx hb dX3_greatest_48 (lv_at hl_28 0 rfl) ?_
                  refine gw_cVIP (As := [.int y6, .int x1]) (rest := [])  ⟨hx, hb, hml, hown, hts⟩ (met_X3_canTake l E G y0 y6 x1 _ hvc_25.2) (cwV 2 hts (lw_V q1945 q1947 qs54 q104 q1948) rfl rfl rfl (by decide +kernel) ⟨Nat.le_of_ble_eq_true rfl, Nat.le_of_ble_eq_true rfl⟩) (gw_rc (q := (RX3, TX3, 13)) hK hG_26 hvc_25.1 rfl) (Nat.zero_le _) (Nat.zero_le _) (g_St0 E) hz trivial hK hG_26 hS_27 rfl hl_28.1 rfl (Nat.le_of_ble_eq_true rfl) dX3_greatest_50 (fun x3 H locs hvc_43 hG_44 hS_45 => ?_)
                  clear hvc_25 hG_26 hS_27
                  refine lv_if_eq (tgt := 60) hx hb dX3_greatest_53 (by decide) (fun h9 => ?_) (fun h9 => ?_)
                  · replace hvc_43 := hvc_43.1 h9
                    exact jn60 y0 y1 y2 y3 y4 y6 _ _ _ hvc_43 hG_44 hS_45 (lv_sub hl_28 [1, 2, 3, 4, 5, 7] rfl)
                  · replace hvc_43 := hvc_43.2 h9
                    exact jn56 y0 y1 y2 y3 y4 y6 _ _ _ hvc_43 hG_44 hS_45 (lv_sub hl_28 [1, 2, 3, 4, 5, 7] rfl)
        refine lv_istore (lv' := [(6, .int (nI 0)), (5, .int (nI 1)), (0, .ref y0), (1, .int y1), (2, .int y2), (3, .int y3), (4, .int y4)]) hx hb dX3_greatest_16 hl_10 (by decide) rfl (fun ls hl_46 => ?_)
        clear hl_10
        obtain ⟨nf18, hvc_6⟩ := hvc_6
        exact lp18 nf18 y0 y1 y2 y3 y4 (nI 1) (nI 0) _ _ _ hvc_6 hG_7 hS_8 (lv_sub hl_46 [2, 3, 4, 5, 6, 1, 0] rfl)
  refine lv_istore (lv' := [(4, .int (nI 1)), (3, .int (nI 0)), (0, .ref o), (1, .int p1), (2, .int p2)]) hx hb dX3_greatest_3 hl_1 (by decide) rfl (fun ls hl_47 => ?_)
  clear hl_1
  obtain ⟨nf5, hvc⟩ := hvc
  exact lp5 nf5 o p1 p2 (nI 0) (nI 1) _ _ _ hvc hG hS (lv_sub hl_47 [2, 3, 4, 1, 0] rfl)
set_option maxHeartbeats 4000000 in
set_option maxRecDepth 100000 in
theorem met_X3_greatestSize (l : Launch) (E : g_E) (G : g_G) (o : Nat) (p1 : Int32) (p2 : Int32) (post : Int32 → g_G → Prop) (hvc : wp_X3_greatestSize E G o p1 p2 post) : g_MI E l yX3_greatestSize (ws_ yX3_greatestSize cX3_greatestSize 3 (Option.some Jvm.ClassFile.FieldType.int)) ({ frames := 5, cells := 0, slots := 0, locals := 120 } : Room) (fun _ => True) [.ref o, .int p1, .int p2] G (post) := by
  refine g_enter (by decide +kernel) (Nat.le_of_ble_eq_true rfl) ?_
  intro p e s m below meth c ls hx hb hr hts hown hlocks hml hin hz hX hK hG hS hl
  have hl : lv_has ls 3 [(0, .ref o), (1, .int p1), (2, .int p2)] := hl
  have hown : s.vm.findClass RX3 = some m.cls := hown
  unfold wp_X3_greatestSize at hvc
  refine lv_aload_n hx hb dX3_greatestSize_0 rfl (lv_at hl 0 rfl) ?_
  refine lv_iconst (v := nI 0) hx hb dX3_greatestSize_1 (by decide) ?_
  refine gw_put (ty := .int) (C := RX3) (T := TX3) (N := 13) (own := RX3) hx hb hts in_X3 tyX3 tyX3_ok nmX3 hown hK hG hS hvc rfl (by decide) (hts _ q1783) (fun _ h9 => h9) rfl (by decide +kernel) rfl rfl dX3_greatestSize_2 (fun G1 H locs hvc_1 hG_2 hS_3 => ?_)
  clear hvc hG hS
  refine lv_iload_n hx hb dX3_greatestSize_5 rfl (lv_at hl 1 rfl) ?_
  refine gw_cSIP (As := [.int p1]) (rest := [])  ⟨hx, hb, hml, hown, hts⟩ (met_X3_isStore l E G1 p1 _ hvc_1) (va_cwS 1 hts (lw_S q1831 q1832 q104 q1833) rfl rfl rfl (by decide +kernel) ⟨Nat.le_of_ble_eq_true rfl, Nat.le_of_ble_eq_true rfl⟩) (Nat.zero_le _) (Nat.zero_le _) (g_St0 E) hz trivial hK hG_2 hS_3 rfl hl.1 rfl (Nat.le_of_ble_eq_true rfl) dX3_greatestSize_6 (fun x2 H locs hvc_4 hG_5 hS_6 => ?_)
  clear hvc_1 hG_2 hS_3
  refine lv_if_ne (tgt := 18) hx hb dX3_greatestSize_9 (by decide) (fun h9 => ?_) (fun h9 => ?_)
  · replace hvc_4 := hvc_4.1 h9
    refine lv_iload_n hx hb dX3_greatestSize_18 rfl (lv_at hl 1 rfl) ?_
    refine lv_iload_n hx hb dX3_greatestSize_19 rfl (lv_at hl 2 rfl) ?_
    refine gw_cSIP (As := [.int p1, .int p2]) (rest := [])  ⟨hx, hb, hml, hown, hts⟩ (met_X3_areStores l E G1 p1 p2 _ hvc_4) (va_cwS 2 hts (lw_S q1841 q1842 q104 q1843) rfl rfl rfl (by decide +kernel) ⟨Nat.le_of_ble_eq_true rfl, Nat.le_of_ble_eq_true rfl⟩) (Nat.zero_le _) (Nat.zero_le _) (g_St0 E) hz trivial hK hG_5 hS_6 rfl hl.1 rfl (Nat.le_of_ble_eq_true rfl) dX3_greatestSize_20 (fun x4 H locs hvc_7 hG_8 hS_9 => ?_)
    clear hvc_4 hG_5 hS_6
    refine lv_if_eq (tgt := 35) hx hb dX3_greatestSize_23 (by decide) (fun h9 => ?_) (fun h9 => ?_)
    · replace hvc_7 := hvc_7.1 h9
      refine lv_aload_n hx hb dX3_greatestSize_35 rfl (lv_at hl 0 rfl) ?_
      refine lv_iconst (v := nI 2) hx hb dX3_greatestSize_36 (by decide) ?_
      refine gw_cVIN (As := [.int (nI 2)]) (rest := [])  ⟨hx, hb, hml, hown, hts⟩ (met_X3_fails l E G1 o (nI 2) _ hvc_7.2) (cwV 1 hts (lw_V q1837 q1839 qs33 q104 q1840) rfl rfl rfl (by decide +kernel) ⟨Nat.le_of_ble_eq_true rfl, Nat.le_of_ble_eq_true rfl⟩) (gw_rc (q := (RX3, TX3, 13)) hK hG_8 hvc_7.1 rfl) (Nat.zero_le _) (Nat.zero_le _) (g_St0 E) hz trivial hK hG_8 hS_9 rfl hl.1 rfl (Nat.le_of_ble_eq_true rfl) dX3_greatestSize_37 (fun x6 G7 H locs hvc_10 hG_11 hS_12 => ?_)
      clear hvc_7 hG_8 hS_9
      exact g_iret hx hb hr hlocks (Nat.zero_le _) (Nat.zero_le _) hG_11 hS_12 rfl hvc_10 dX3_greatestSize_40
    · replace hvc_7 := hvc_7.2 h9
      refine lv_aload_n hx hb dX3_greatestSize_26 rfl (lv_at hl 0 rfl) ?_
      refine lv_iload_n hx hb dX3_greatestSize_27 rfl (lv_at hl 1 rfl) ?_
      refine lv_iload_n hx hb dX3_greatestSize_28 rfl (lv_at hl 2 rfl) ?_
      refine gw_cVIP (As := [.int p1, .int p2]) (rest := [])  ⟨hx, hb, hml, hown, hts⟩ (met_X3_greatest l E G1 o p1 p2 _ hvc_7.2) (cwV 2 hts (lw_V q2237 q2239 qs84 q104 q2240) rfl rfl rfl (by decide +kernel) ⟨Nat.le_of_ble_eq_true rfl, Nat.le_of_ble_eq_true rfl⟩) (gw_rc (q := (RX3, TX3, 13)) hK hG_8 hvc_7.1 rfl) (Nat.zero_le _) (Nat.zero_le _) (g_St0 E) hz trivial hK hG_8 hS_9 rfl hl.1 rfl (Nat.le_of_ble_eq_true rfl) dX3_greatestSize_29 (fun x8 H locs hvc_13 hG_14 hS_15 => ?_)
      clear hvc_7 hG_8 hS_9
      refine lv_goto (tgt := 40) hx hb dX3_greatestSize_32 (by decide) ?_
      exact g_iret hx hb hr hlocks (Nat.zero_le _) (Nat.zero_le _) hG_14 hS_15 rfl hvc_13 dX3_greatestSize_40
  · replace hvc_4 := hvc_4.2 h9
    refine lv_aload_n hx hb dX3_greatestSize_12 rfl (lv_at hl 0 rfl) ?_
    refine lv_iconst (v := nI 1) hx hb dX3_greatestSize_13 (by decide) ?_
    refine gw_cVIN (As := [.int (nI 1)]) (rest := [])  ⟨hx, hb, hml, hown, hts⟩ (met_X3_fails l E G1 o (nI 1) _ hvc_4.2) (cwV 1 hts (lw_V q1837 q1839 qs33 q104 q1840) rfl rfl rfl (by decide +kernel) ⟨Nat.le_of_ble_eq_true rfl, Nat.le_of_ble_eq_true rfl⟩) (gw_rc (q := (RX3, TX3, 13)) hK hG_5 hvc_4.1 rfl) (Nat.zero_le _) (Nat.zero_le _) (g_St0 E) hz trivial hK hG_5 hS_6 rfl hl.1 rfl (Nat.le_of_ble_eq_true rfl) dX3_greatestSize_14 (fun x10 G11 H locs hvc_16 hG_17 hS_18 => ?_)
    clear hvc_4 hG_5 hS_6
    exact g_iret hx hb hr hlocks (Nat.zero_le _) (Nat.zero_le _) hG_17 hS_18 rfl hvc_16 dX3_greatestSize_17
set_option maxHeartbeats 4000000 in
set_option maxRecDepth 100000 in
theorem met_X3_shareLost (l : Launch) (E : g_E) (G : g_G) (o : Nat) (post : UInt64 → Prop) (hvc : wp_X3_shareLost E G o post) : g_MD E l yX3_shareLost (ws_ yX3_shareLost cX3_shareLost 1 (Option.some Jvm.ClassFile.FieldType.double)) ({ frames := 0, cells := 0, slots := 0, locals := 0 } : Room) (fun _ => True) [.ref o] G (fun v G9 => G9 = G ∧ post v) := by
  refine g_enter (by decide +kernel) (Nat.le_of_ble_eq_true rfl) ?_
  intro p e s m below meth c ls hx hb hr hts hown hlocks hml hin hz hX hK hG hS hl
  have hl : lv_has ls 1 [(0, .ref o)] := hl
  have hown : s.vm.findClass RX3 = some m.cls := hown
  unfold wp_X3_shareLost at hvc
  refine lv_aload_n hx hb dX3_shareLost_0 rfl (lv_at hl 0 rfl) ?_
  refine gw_gr (C := RX3) (T := TX3) (N := 13) (own := RX3) hx hb hts in_X3 hown hK hG hvc rfl (by decide) (hts _ q1784) (fun _ h9 => h9) dX3_shareLost_1 (fun x1 hvc_1 => ?_)
  clear hvc
  refine lv_bipush (v := nI 10) hx hb dX3_shareLost_4 (by decide) ?_
  refine gw_ild hx hb hK hG hvc_1 dX3_shareLost_6 (fun x2 hvc_2 => ?_)
  clear hvc_1
  refine lv_if_ne (tgt := 14) hx hb dX3_shareLost_7 (by decide) (fun h9 => ?_) (fun h9 => ?_)
  · replace hvc_2 := hvc_2.1 h9
    refine lv_aload_n hx hb dX3_shareLost_14 rfl (lv_at hl 0 rfl) ?_
    refine gw_gr (C := RX3) (T := TX3) (N := 13) (own := RX3) hx hb hts in_X3 hown hK hG hvc_2 rfl (by decide) (hts _ q1784) (fun _ h9 => h9) dX3_shareLost_15 (fun x3 hvc_3 => ?_)
    clear hvc_2
    refine lv_bipush (v := nI 12) hx hb dX3_shareLost_18 (by decide) ?_
    refine gw_ild hx hb hK hG hvc_3 dX3_shareLost_20 (fun x4 hvc_4 => ?_)
    clear hvc_3
    refine lv_i2d hx hb dX3_shareLost_21 ?_
    refine lv_aload_n hx hb dX3_shareLost_22 rfl (lv_at hl 0 rfl) ?_
    refine gw_gr (C := RX3) (T := TX3) (N := 13) (own := RX3) hx hb hts in_X3 hown hK hG hvc_4 rfl (by decide) (hts _ q1784) (fun _ h9 => h9) dX3_shareLost_23 (fun x5 hvc_5 => ?_)
    clear hvc_4
    refine lv_bipush (v := nI 10) hx hb dX3_shareLost_26 (by decide) ?_
    refine gw_ild hx hb hK hG hvc_5 dX3_shareLost_28 (fun x6 hvc_6 => ?_)
    clear hvc_5
    refine lv_i2d hx hb dX3_shareLost_29 ?_
    refine lv_ddiv hx hb dX3_shareLost_30 hvc_6.1 ?_
    replace hvc_6 := hvc_6.2
    exact g_dret hx hb hr hlocks (Nat.zero_le _) (Nat.zero_le _) hG hS ⟨rfl, hvc_6⟩ dX3_shareLost_31
  · replace hvc_2 := hvc_2.2 h9
    refine lv_dconst0 hx hb dX3_shareLost_10 ?_
    refine lv_goto (tgt := 31) hx hb dX3_shareLost_11 (by decide) ?_
    exact g_dret hx hb hr hlocks (Nat.zero_le _) (Nat.zero_le _) hG hS ⟨rfl, hvc_2⟩ dX3_shareLost_31
set_option maxHeartbeats 4000000 in
set_option maxRecDepth 100000 in
theorem met_X3_lostShare (l : Launch) (E : g_E) (G : g_G) (o : Nat) (post : UInt64 → g_G → Prop) (hvc : wp_X3_lostShare E G o post) : g_MD E l yX3_lostShare (ws_ yX3_lostShare cX3_lostShare 1 (Option.some Jvm.ClassFile.FieldType.double)) ({ frames := 1, cells := 0, slots := 0, locals := 20 } : Room) (fun _ => True) [.ref o] G (post) := by
  refine g_enter (by decide +kernel) (Nat.le_of_ble_eq_true rfl) ?_
  intro p e s m below meth c ls hx hb hr hts hown hlocks hml hin hz hX hK hG hS hl
  have hl : lv_has ls 1 [(0, .ref o)] := hl
  have hown : s.vm.findClass RX3 = some m.cls := hown
  unfold wp_X3_lostShare at hvc
  refine lv_aload_n hx hb dX3_lostShare_0 rfl (lv_at hl 0 rfl) ?_
  refine lv_iconst (v := nI 0) hx hb dX3_lostShare_1 (by decide) ?_
  refine gw_put (ty := .int) (C := RX3) (T := TX3) (N := 13) (own := RX3) hx hb hts in_X3 tyX3 tyX3_ok nmX3 hown hK hG hS hvc rfl (by decide) (hts _ q1783) (fun _ h9 => h9) rfl (by decide +kernel) rfl rfl dX3_lostShare_2 (fun G1 H locs hvc_1 hG_2 hS_3 => ?_)
  clear hvc hG hS
  refine lv_aload_n hx hb dX3_lostShare_5 rfl (lv_at hl 0 rfl) ?_
  refine gw_cVDP (As := []) (rest := [])  ⟨hx, hb, hml, hown, hts⟩ (met_X3_shareLost l E G1 o _ hvc_1.2) (cwV 0 hts (lw_V q2245 q2247 qs85 q104 q2248) rfl rfl rfl (by decide +kernel) ⟨Nat.le_of_ble_eq_true rfl, Nat.le_of_ble_eq_true rfl⟩) (gw_rc (q := (RX3, TX3, 13)) hK hG_2 hvc_1.1 rfl) (Nat.zero_le _) (Nat.zero_le _) (g_St0 E) hz trivial hK hG_2 hS_3 rfl hl.1 rfl (Nat.le_of_ble_eq_true rfl) dX3_lostShare_6 (fun x2 H locs hvc_4 hG_5 hS_6 => ?_)
  clear hvc_1 hG_2 hS_3
  exact g_dret hx hb hr hlocks (Nat.zero_le _) (Nat.zero_le _) hG_5 hS_6 hvc_4 dX3_lostShare_9
set_option maxHeartbeats 4000000 in
set_option maxRecDepth 100000 in
theorem met_X3_mean (l : Launch) (E : g_E) (G : g_G) (o : Nat) (post : UInt32 → Prop) (hvc : wp_X3_mean E G o post) : g_MF E l yX3_mean (ws_ yX3_mean cX3_mean 3 (Option.some Jvm.ClassFile.FieldType.float)) ({ frames := 1, cells := 0, slots := 0, locals := 22 } : Room) (fun _ => True) [.ref o] G (fun v G9 => G9 = G ∧ post v) := by
  refine g_enter (by decide +kernel) (Nat.le_of_ble_eq_true rfl) ?_
  intro p e s m below meth c ls hx hb hr hts hown hlocks hml hin hz hX hK hG hS hl
  have hl : lv_has ls 3 [(0, .ref o)] := hl
  have hown : s.vm.findClass RX3 = some m.cls := hown
  unfold wp_X3_mean at hvc
  refine lv_iconst (v := nI 0) hx hb dX3_mean_0 (by decide) ?_
  refine lv_istore_n (lv' := [(1, .int (nI 0)), (0, .ref o)]) hx hb dX3_mean_1 rfl hl (by decide) rfl (fun ls hl_1 => ?_)
  clear hl
  refine lv_iconst (v := nI 0) hx hb dX3_mean_2 (by decide) ?_
  have lp4 : ∀ (n4 : Nat) (y0 : Nat) (y1 : Int32) (y2 : Int32) (H : Heap) (locs : List Loc) (ls : Array Slot), wp_X3_mean_4 E G post n4 y0 y1 y2 → g_H E G H → va_S (g_A E) s.heap H locs → lv_has ls 3 [(0, .ref y0), (1, .int y1), (2, .int y2)] → W p l e ({ frames := 1, cells := 0, slots := 0, locals := 22 } : Room) s m ([.ref o] : List Value).toArray below meth c H locs 0 0 (MQ below (va_Qf (fun v G9 => G9 = G ∧ post v) (g_Bk E) (g_A E)) ([.ref o] : List Value).toArray s 0 0 (g_A E)) (F0 m 4 ls []) := by
    clear hvc hG hS hl_1
    intro n4
    induction n4 with
    | zero =>
      intro y0 y1 y2 H locs ls hvc_2 hG_3 hS_4 hl_5
      exact False.elim hvc_2
    | succ n4 ih4 =>
      intro y0 y1 y2 H locs ls hvc_6 hG_7 hS_8 hl_9
      refine lv_iload_n hx hb dX3_mean_4 rfl (lv_at hl_9 2 rfl) ?_
      refine lv_aload_n hx hb dX3_mean_5 rfl (lv_at hl_9 0 rfl) ?_
      refine gw_gr (C := RX3) (T := TX3) (N := 13) (own := RX3) hx hb hts in_X3 hown hK hG_7 hvc_6 rfl (by decide) (hts _ q1784) (fun _ h9 => h9) dX3_mean_6 (fun x1 hvc_10 => ?_)
      clear hvc_6
      refine lv_bipush (v := nI 9) hx hb dX3_mean_9 (by decide) ?_
      refine gw_ild hx hb hK hG_7 hvc_10 dX3_mean_11 (fun x2 hvc_11 => ?_)
      clear hvc_10
      refine lv_icmp_ge (tgt := 30) hx hb dX3_mean_12 (by decide) (fun h9 => ?_) (fun h9 => ?_)
      · replace hvc_11 := hvc_11.1 h9
        refine lv_aload_n hx hb dX3_mean_30 rfl (lv_at hl_9 0 rfl) ?_
        refine gw_gr (C := RX3) (T := TX3) (N := 13) (own := RX3) hx hb hts in_X3 hown hK hG_7 hvc_11 rfl (by decide) (hts _ q1784) (fun _ h9 => h9) dX3_mean_31 (fun x3 hvc_12 => ?_)
        clear hvc_11
        refine lv_bipush (v := nI 9) hx hb dX3_mean_34 (by decide) ?_
        refine gw_ild hx hb hK hG_7 hvc_12 dX3_mean_36 (fun x4 hvc_13 => ?_)
        clear hvc_12
        refine lv_if_ne (tgt := 44) hx hb dX3_mean_37 (by decide) (fun h9 => ?_) (fun h9 => ?_)
        · replace hvc_13 := hvc_13.1 h9
          refine lv_iload_n hx hb dX3_mean_44 rfl (lv_at hl_9 1 rfl) ?_
          refine lv_i2f hx hb dX3_mean_45 ?_
          refine lv_aload_n hx hb dX3_mean_46 rfl (lv_at hl_9 0 rfl) ?_
          refine gw_gr (C := RX3) (T := TX3) (N := 13) (own := RX3) hx hb hts in_X3 hown hK hG_7 hvc_13 rfl (by decide) (hts _ q1784) (fun _ h9 => h9) dX3_mean_47 (fun x5 hvc_14 => ?_)
          clear hvc_13
          refine lv_bipush (v := nI 9) hx hb dX3_mean_50 (by decide) ?_
          refine gw_ild hx hb hK hG_7 hvc_14 dX3_mean_52 (fun x6 hvc_15 => ?_)
          clear hvc_14
          refine lv_i2f hx hb dX3_mean_53 ?_
          refine lv_fdiv hx hb dX3_mean_54 hvc_15.1 ?_
          replace hvc_15 := hvc_15.2
          exact g_fret hx hb hr hlocks (Nat.zero_le _) (Nat.zero_le _) hG_7 hS_8 ⟨rfl, hvc_15⟩ dX3_mean_55
        · replace hvc_13 := hvc_13.2 h9
          refine lv_fconst0 hx hb dX3_mean_40 ?_
          refine lv_goto (tgt := 55) hx hb dX3_mean_41 (by decide) ?_
          exact g_fret hx hb hr hlocks (Nat.zero_le _) (Nat.zero_le _) hG_7 hS_8 ⟨rfl, hvc_13⟩ dX3_mean_55
      · replace hvc_11 := hvc_11.2 h9
        refine lv_iload_n hx hb dX3_mean_15 rfl (lv_at hl_9 1 rfl) ?_
        refine lv_aload_n hx hb dX3_mean_16 rfl (lv_at hl_9 0 rfl) ?_
        refine lv_iload_n hx hb dX3_mean_17 rfl (lv_at hl_9 2 rfl) ?_
        refine lv_iconst (v := nI 2) hx hb dX3_mean_18 (by decide) ?_
        refine gw_cVIP (As := [.int y2, .int (nI 2)]) (rest := [.int y1])  ⟨hx, hb, hml, hown, hts⟩ (met_X3_of l E G y0 y2 (nI 2) _ hvc_11.2) (cwV 2 hts (lw_V q1872 q1874 qs41 q104 q1875) rfl rfl rfl (by decide +kernel) ⟨Nat.le_of_ble_eq_true rfl, Nat.le_of_ble_eq_true rfl⟩) (gw_rc (q := (RX3, TX3, 13)) hK hG_7 hvc_11.1 rfl) (Nat.zero_le _) (Nat.zero_le _) (g_St0 E) hz trivial hK hG_7 hS_8 rfl hl_9.1 rfl (Nat.le_of_ble_eq_true rfl) dX3_mean_19 (fun x7 H locs hvc_16 hG_17 hS_18 => ?_)
        clear hvc_11 hG_7 hS_8
        refine lv_iadd hx hb dX3_mean_22 ?_
        refine lv_istore_n (lv' := [(1, .int (y1 + x7)), (0, .ref y0), (2, .int y2)]) hx hb dX3_mean_23 rfl hl_9 (by decide) rfl (fun ls hl_19 => ?_)
        clear hl_9
        refine lv_iinc (k := 2) (v := y2 + (nI 1)) (lv' := [(2, .int (y2 + (nI 1))), (1, .int (y1 + x7)), (0, .ref y0)]) hx hb dX3_mean_24 hl_19 rfl (congrArg (y2 + ·) (by decide : Int32.ofInt (1) = nI 1)) (by decide) rfl (fun ls hl_20 => ?_)
        clear hl_19
        refine lv_goto (tgt := 4) hx hb dX3_mean_27 (by decide) ?_
        exact ih4 y0 (y1 + x7) (y2 + (nI 1)) _ _ _ hvc_16 hG_17 hS_18 (lv_sub hl_20 [2, 1, 0] rfl)
  refine lv_istore_n (lv' := [(2, .int (nI 0)), (1, .int (nI 0)), (0, .ref o)]) hx hb dX3_mean_3 rfl hl_1 (by decide) rfl (fun ls hl_21 => ?_)
  clear hl_1
  obtain ⟨nf4, hvc⟩ := hvc
  exact lp4 nf4 o (nI 0) (nI 0) _ _ _ hvc hG hS (lv_sub hl_21 [2, 1, 0] rfl)
set_option maxHeartbeats 4000000 in
set_option maxRecDepth 100000 in
theorem met_X3_meanSize (l : Launch) (E : g_E) (G : g_G) (o : Nat) (post : UInt32 → g_G → Prop) (hvc : wp_X3_meanSize E G o post) : g_MF E l yX3_meanSize (ws_ yX3_meanSize cX3_meanSize 1 (Option.some Jvm.ClassFile.FieldType.float)) ({ frames := 2, cells := 0, slots := 0, locals := 44 } : Room) (fun _ => True) [.ref o] G (post) := by
  refine g_enter (by decide +kernel) (Nat.le_of_ble_eq_true rfl) ?_
  intro p e s m below meth c ls hx hb hr hts hown hlocks hml hin hz hX hK hG hS hl
  have hl : lv_has ls 1 [(0, .ref o)] := hl
  have hown : s.vm.findClass RX3 = some m.cls := hown
  unfold wp_X3_meanSize at hvc
  refine lv_aload_n hx hb dX3_meanSize_0 rfl (lv_at hl 0 rfl) ?_
  refine lv_iconst (v := nI 0) hx hb dX3_meanSize_1 (by decide) ?_
  refine gw_put (ty := .int) (C := RX3) (T := TX3) (N := 13) (own := RX3) hx hb hts in_X3 tyX3 tyX3_ok nmX3 hown hK hG hS hvc rfl (by decide) (hts _ q1783) (fun _ h9 => h9) rfl (by decide +kernel) rfl rfl dX3_meanSize_2 (fun G1 H locs hvc_1 hG_2 hS_3 => ?_)
  clear hvc hG hS
  refine lv_aload_n hx hb dX3_meanSize_5 rfl (lv_at hl 0 rfl) ?_
  refine gw_cVFP (As := []) (rest := [])  ⟨hx, hb, hml, hown, hts⟩ (met_X3_mean l E G1 o _ hvc_1.2) (cwV 0 hts (lw_V q2253 q2255 qs86 q104 q2256) rfl rfl rfl (by decide +kernel) ⟨Nat.le_of_ble_eq_true rfl, Nat.le_of_ble_eq_true rfl⟩) (gw_rc (q := (RX3, TX3, 13)) hK hG_2 hvc_1.1 rfl) (Nat.zero_le _) (Nat.zero_le _) (g_St0 E) hz trivial hK hG_2 hS_3 rfl hl.1 rfl (Nat.le_of_ble_eq_true rfl) dX3_meanSize_6 (fun x2 H locs hvc_4 hG_5 hS_6 => ?_)
  clear hvc_1 hG_2 hS_3
  exact g_fret hx hb hr hlocks (Nat.zero_le _) (Nat.zero_le _) hG_5 hS_6 hvc_4 dX3_meanSize_9
set_option maxHeartbeats 4000000 in
set_option maxRecDepth 100000 in
theorem met_X3_digestTransfer (l : Launch) (E : g_E) (G : g_G) (o : Nat) (p1 : Int64) (p2 : Int32) (post : Int64 → g_G → Prop) (hvc : wp_X3_digestTransfer E G o p1 p2 post) : g_ML E l yX3_digestTransfer (ws_ yX3_digestTransfer cX3_digestTransfer 7 (Option.some Jvm.ClassFile.FieldType.long)) ({ frames := 10, cells := 0, slots := 0, locals := 225 } : Room) (fun _ => True) [.ref o, .long p1, .int p2] G (post) := by
  refine g_enter (by decide +kernel) (Nat.le_of_ble_eq_true rfl) ?_
  intro p e s m below meth c ls hx hb hr hts hown hlocks hml hin hz hX hK hG hS hl
  have hl : lv_has ls 7 [(0, .ref o), (1, .long p1), (3, .int p2)] := hl
  have hown : s.vm.findClass RX3 = some m.cls := hown
  unfold wp_X3_digestTransfer at hvc
  refine lv_ldc2 (v := lN 31) hx hb hown (by exact hts _ q2262) dX3_digestTransfer_0 ?_
  refine lv_ldc2 (v := lN 31) hx hb hown (by exact hts _ q2262) dX3_digestTransfer_3 ?_
  refine lv_ldc2 (v := lN 31) hx hb hown (by exact hts _ q2262) dX3_digestTransfer_6 ?_
  refine lv_lload_n hx hb dX3_digestTransfer_9 rfl (lv_at hl 1 rfl) ?_
  refine lv_lmul hx hb dX3_digestTransfer_10 ?_
  refine lv_aload_n hx hb dX3_digestTransfer_11 rfl (lv_at hl 0 rfl) ?_
  refine lv_iload_n hx hb dX3_digestTransfer_12 rfl (lv_at hl 2 rfl) ?_
  refine gw_cVIP (As := [.int p2]) (rest := [.long ((lN 31) * p1), .long (lN 31), .long (lN 31)])  ⟨hx, hb, hml, hown, hts⟩ (met_X3_all l E G o p2 _ hvc.2) (cwV 1 hts (lw_V q1868 q1870 qs40 q104 q1871) rfl rfl rfl (by decide +kernel) ⟨Nat.le_of_ble_eq_true rfl, Nat.le_of_ble_eq_true rfl⟩) (gw_rc (q := (RX3, TX3, 13)) hK hG hvc.1 rfl) (Nat.zero_le _) (Nat.zero_le _) (g_St0 E) hz trivial hK hG hS rfl hl.1 rfl (Nat.le_of_ble_eq_true rfl) dX3_digestTransfer_13 (fun x1 H locs hvc_1 hG_2 hS_3 => ?_)
  clear hvc hG hS
  refine lv_i2l (v := x1.toInt64) hx hb dX3_digestTransfer_16 rfl ?_
  refine lv_ladd hx hb dX3_digestTransfer_17 ?_
  refine lv_lmul hx hb dX3_digestTransfer_18 ?_
  refine lv_aload_n hx hb dX3_digestTransfer_19 rfl (lv_at hl 0 rfl) ?_
  refine lv_iload_n hx hb dX3_digestTransfer_20 rfl (lv_at hl 2 rfl) ?_
  refine lv_iconst (v := nI 5) hx hb dX3_digestTransfer_21 (by decide) ?_
  refine gw_cVIP (As := [.int p2, .int (nI 5)]) (rest := [.long ((lN 31) * (((lN 31) * p1) + x1.toInt64)), .long (lN 31)])  ⟨hx, hb, hml, hown, hts⟩ (met_X3_of l E G o p2 (nI 5) _ hvc_1.2) (cwV 2 hts (lw_V q1872 q1874 qs41 q104 q1875) rfl rfl rfl (by decide +kernel) ⟨Nat.le_of_ble_eq_true rfl, Nat.le_of_ble_eq_true rfl⟩) (gw_rc (q := (RX3, TX3, 13)) hK hG_2 hvc_1.1 rfl) (Nat.zero_le _) (Nat.zero_le _) (g_St0 E) hz trivial hK hG_2 hS_3 rfl hl.1 rfl (Nat.le_of_ble_eq_true rfl) dX3_digestTransfer_22 (fun x3 H locs hvc_4 hG_5 hS_6 => ?_)
  clear hvc_1 hG_2 hS_3
  refine lv_i2l (v := x3.toInt64) hx hb dX3_digestTransfer_25 rfl ?_
  refine lv_ladd hx hb dX3_digestTransfer_26 ?_
  refine lv_lmul hx hb dX3_digestTransfer_27 ?_
  refine lv_aload_n hx hb dX3_digestTransfer_28 rfl (lv_at hl 0 rfl) ?_
  refine lv_iload_n hx hb dX3_digestTransfer_29 rfl (lv_at hl 2 rfl) ?_
  refine gw_cVIP (As := [.int p2]) (rest := [.long ((lN 31) * (((lN 31) * (((lN 31) * p1) + x1.toInt64)) + x3.toInt64))])  ⟨hx, hb, hml, hown, hts⟩ (met_X3_outcomeOf l E G o p2 _ hvc_4.2) (cwV 1 hts (lw_V q2109 q2111 qs72 q104 q2112) rfl rfl rfl (by decide +kernel) ⟨Nat.le_of_ble_eq_true rfl, Nat.le_of_ble_eq_true rfl⟩) (gw_rc (q := (RX3, TX3, 13)) hK hG_5 hvc_4.1 rfl) (Nat.zero_le _) (Nat.zero_le _) (g_St0 E) hz trivial hK hG_5 hS_6 rfl hl.1 rfl (Nat.le_of_ble_eq_true rfl) dX3_digestTransfer_30 (fun x5 H locs hvc_7 hG_8 hS_9 => ?_)
  clear hvc_4 hG_5 hS_6
  refine lv_i2l (v := x5.toInt64) hx hb dX3_digestTransfer_33 rfl ?_
  refine lv_ladd hx hb dX3_digestTransfer_34 ?_
  refine lv_lstore (lv' := [(4, .long (((lN 31) * (((lN 31) * (((lN 31) * p1) + x1.toInt64)) + x3.toInt64)) + x5.toInt64)), (0, .ref o), (1, .long p1), (3, .int p2)]) hx hb dX3_digestTransfer_35 hl (by decide) rfl (fun ls hl_10 => ?_)
  clear hl
  refine lv_ldc2 (v := lN 31) hx hb hown (by exact hts _ q2262) dX3_digestTransfer_37 ?_
  refine lv_ldc2 (v := lN 31) hx hb hown (by exact hts _ q2262) dX3_digestTransfer_40 ?_
  refine lv_ldc2 (v := lN 31) hx hb hown (by exact hts _ q2262) dX3_digestTransfer_43 ?_
  refine lv_lload hx hb dX3_digestTransfer_46 (lv_at hl_10 0 rfl) ?_
  refine lv_lmul hx hb dX3_digestTransfer_48 ?_
  refine lv_aload_n hx hb dX3_digestTransfer_49 rfl (lv_at hl_10 1 rfl) ?_
  refine lv_iload_n hx hb dX3_digestTransfer_50 rfl (lv_at hl_10 3 rfl) ?_
  refine lv_bipush (v := nI 6) hx hb dX3_digestTransfer_51 (by decide) ?_
  refine gw_cVIP (As := [.int p2, .int (nI 6)]) (rest := [.long ((lN 31) * (((lN 31) * (((lN 31) * (((lN 31) * p1) + x1.toInt64)) + x3.toInt64)) + x5.toInt64)), .long (lN 31), .long (lN 31)])  ⟨hx, hb, hml, hown, hts⟩ (met_X3_of l E G o p2 (nI 6) _ hvc_7.2) (cwV 2 hts (lw_V q1872 q1874 qs41 q104 q1875) rfl rfl rfl (by decide +kernel) ⟨Nat.le_of_ble_eq_true rfl, Nat.le_of_ble_eq_true rfl⟩) (gw_rc (q := (RX3, TX3, 13)) hK hG_8 hvc_7.1 rfl) (Nat.zero_le _) (Nat.zero_le _) (g_St0 E) hz trivial hK hG_8 hS_9 rfl hl_10.1 rfl (Nat.le_of_ble_eq_true rfl) dX3_digestTransfer_53 (fun x7 H locs hvc_11 hG_12 hS_13 => ?_)
  clear hvc_7 hG_8 hS_9
  refine lv_i2l (v := x7.toInt64) hx hb dX3_digestTransfer_56 rfl ?_
  refine lv_ladd hx hb dX3_digestTransfer_57 ?_
  refine lv_lmul hx hb dX3_digestTransfer_58 ?_
  refine lv_aload_n hx hb dX3_digestTransfer_59 rfl (lv_at hl_10 1 rfl) ?_
  refine lv_iload_n hx hb dX3_digestTransfer_60 rfl (lv_at hl_10 3 rfl) ?_
  refine lv_iconst (v := nI 3) hx hb dX3_digestTransfer_61 (by decide) ?_
  refine gw_cVIP (As := [.int p2, .int (nI 3)]) (rest := [.long ((lN 31) * (((lN 31) * (((lN 31) * (((lN 31) * (((lN 31) * p1) + x1.toInt64)) + x3.toInt64)) + x5.toInt64)) + x7.toInt64)), .long (lN 31)])  ⟨hx, hb, hml, hown, hts⟩ (met_X3_of l E G o p2 (nI 3) _ hvc_11.2) (cwV 2 hts (lw_V q1872 q1874 qs41 q104 q1875) rfl rfl rfl (by decide +kernel) ⟨Nat.le_of_ble_eq_true rfl, Nat.le_of_ble_eq_true rfl⟩) (gw_rc (q := (RX3, TX3, 13)) hK hG_12 hvc_11.1 rfl) (Nat.zero_le _) (Nat.zero_le _) (g_St0 E) hz trivial hK hG_12 hS_13 rfl hl_10.1 rfl (Nat.le_of_ble_eq_true rfl) dX3_digestTransfer_62 (fun x9 H locs hvc_14 hG_15 hS_16 => ?_)
  clear hvc_11 hG_12 hS_13
  refine lv_i2l (v := x9.toInt64) hx hb dX3_digestTransfer_65 rfl ?_
  refine lv_ladd hx hb dX3_digestTransfer_66 ?_
  refine lv_lmul hx hb dX3_digestTransfer_67 ?_
  refine lv_aload_n hx hb dX3_digestTransfer_68 rfl (lv_at hl_10 1 rfl) ?_
  refine lv_iload_n hx hb dX3_digestTransfer_69 rfl (lv_at hl_10 3 rfl) ?_
  refine lv_iconst (v := nI 4) hx hb dX3_digestTransfer_70 (by decide) ?_
  refine gw_cVIP (As := [.int p2, .int (nI 4)]) (rest := [.long ((lN 31) * (((lN 31) * (((lN 31) * (((lN 31) * (((lN 31) * (((lN 31) * p1) + x1.toInt64)) + x3.toInt64)) + x5.toInt64)) + x7.toInt64)) + x9.toInt64))])  ⟨hx, hb, hml, hown, hts⟩ (met_X3_of l E G o p2 (nI 4) _ hvc_14.2) (cwV 2 hts (lw_V q1872 q1874 qs41 q104 q1875) rfl rfl rfl (by decide +kernel) ⟨Nat.le_of_ble_eq_true rfl, Nat.le_of_ble_eq_true rfl⟩) (gw_rc (q := (RX3, TX3, 13)) hK hG_15 hvc_14.1 rfl) (Nat.zero_le _) (Nat.zero_le _) (g_St0 E) hz trivial hK hG_15 hS_16 rfl hl_10.1 rfl (Nat.le_of_ble_eq_true rfl) dX3_digestTransfer_71 (fun x11 H locs hvc_17 hG_18 hS_19 => ?_)
  clear hvc_14 hG_15 hS_16
  refine lv_i2l (v := x11.toInt64) hx hb dX3_digestTransfer_74 rfl ?_
  refine lv_ladd hx hb dX3_digestTransfer_75 ?_
  refine lv_lstore (lv' := [(4, .long (((lN 31) * (((lN 31) * (((lN 31) * (((lN 31) * (((lN 31) * (((lN 31) * p1) + x1.toInt64)) + x3.toInt64)) + x5.toInt64)) + x7.toInt64)) + x9.toInt64)) + x11.toInt64)), (0, .ref o), (1, .long p1), (3, .int p2)]) hx hb dX3_digestTransfer_76 hl_10 (by decide) rfl (fun ls hl_20 => ?_)
  clear hl_10
  refine lv_ldc2 (v := lN 31) hx hb hown (by exact hts _ q2262) dX3_digestTransfer_78 ?_
  refine lv_lload hx hb dX3_digestTransfer_81 (lv_at hl_20 0 rfl) ?_
  refine lv_lmul hx hb dX3_digestTransfer_83 ?_
  refine lv_aload_n hx hb dX3_digestTransfer_84 rfl (lv_at hl_20 1 rfl) ?_
  refine lv_iload_n hx hb dX3_digestTransfer_85 rfl (lv_at hl_20 3 rfl) ?_
  refine gw_cVIN (As := [.int p2]) (rest := [.long ((lN 31) * (((lN 31) * (((lN 31) * (((lN 31) * (((lN 31) * (((lN 31) * (((lN 31) * p1) + x1.toInt64)) + x3.toInt64)) + x5.toInt64)) + x7.toInt64)) + x9.toInt64)) + x11.toInt64))])  ⟨hx, hb, hml, hown, hts⟩ (met_X3_settledOutcome l E G o p2 _ hvc_17.2) (cwV 1 hts (lw_V q2221 q2223 qs82 q104 q2224) rfl rfl rfl (by decide +kernel) ⟨Nat.le_of_ble_eq_true rfl, Nat.le_of_ble_eq_true rfl⟩) (gw_rc (q := (RX3, TX3, 13)) hK hG_18 hvc_17.1 rfl) (Nat.zero_le _) (Nat.zero_le _) (g_St0 E) hz trivial hK hG_18 hS_19 rfl hl_20.1 rfl (Nat.le_of_ble_eq_true rfl) dX3_digestTransfer_86 (fun x13 G14 H locs hvc_21 hG_22 hS_23 => ?_)
  clear hvc_17 hG_18 hS_19
  refine lv_i2l (v := x13.toInt64) hx hb dX3_digestTransfer_89 rfl ?_
  refine lv_ladd hx hb dX3_digestTransfer_90 ?_
  refine lv_lstore (lv' := [(4, .long (((lN 31) * (((lN 31) * (((lN 31) * (((lN 31) * (((lN 31) * (((lN 31) * (((lN 31) * p1) + x1.toInt64)) + x3.toInt64)) + x5.toInt64)) + x7.toInt64)) + x9.toInt64)) + x11.toInt64)) + x13.toInt64)), (0, .ref o), (1, .long p1), (3, .int p2)]) hx hb dX3_digestTransfer_91 hl_20 (by decide) rfl (fun ls hl_24 => ?_)
  clear hl_20
  refine lv_iconst (v := nI 0) hx hb dX3_digestTransfer_93 (by decide) ?_
  have lp96 : ∀ (n96 : Nat) (y0 : Nat) (y3 : Int32) (y4 : Int64) (y6 : Int32) (G : g_G) (H : Heap) (locs : List Loc) (ls : Array Slot), wp_X3_digestTransfer_96 E post n96 y0 y3 y4 y6 G → g_H E G H → va_S (g_A E) s.heap H locs → lv_has ls 7 [(0, .ref y0), (3, .int y3), (4, .long y4), (6, .int y6)] → W p l e ({ frames := 10, cells := 0, slots := 0, locals := 225 } : Room) s m ([.ref o, .long p1, .int p2] : List Value).toArray below meth c H locs 0 0 (MQ below (va_Ql (post) (g_Bk E) (g_A E)) ([.ref o, .long p1, .int p2] : List Value).toArray s 0 0 (g_A E)) (F0 m 96 ls []) := by
    clear hvc_21 hG_22 hS_23 hl_24
    intro n96
    induction n96 with
    | zero =>
      intro y0 y3 y4 y6 G H locs ls hvc_25 hG_26 hS_27 hl_28
      exact False.elim hvc_25
    | succ n96 ih96 =>
      intro y0 y3 y4 y6 G H locs ls hvc_29 hG_30 hS_31 hl_32
      refine lv_iload hx hb dX3_digestTransfer_96 (lv_at hl_32 3 rfl) ?_
      refine lv_iconst (v := nI 4) hx hb dX3_digestTransfer_98 (by decide) ?_
      refine lv_icmp_ge (tgt := 151) hx hb dX3_digestTransfer_99 (by decide) (fun h9 => ?_) (fun h9 => ?_)
      · replace hvc_29 := hvc_29.1 h9
        refine lv_lload hx hb dX3_digestTransfer_151 (lv_at hl_32 2 rfl) ?_
        exact g_lret hx hb hr hlocks (Nat.zero_le _) (Nat.zero_le _) hG_30 hS_31 hvc_29 dX3_digestTransfer_153
      · replace hvc_29 := hvc_29.2 h9
        refine lv_ldc2 (v := lN 31) hx hb hown (by exact hts _ q2262) dX3_digestTransfer_102 ?_
        refine lv_ldc2 (v := lN 31) hx hb hown (by exact hts _ q2262) dX3_digestTransfer_105 ?_
        refine lv_ldc2 (v := lN 31) hx hb hown (by exact hts _ q2262) dX3_digestTransfer_108 ?_
        refine lv_lload hx hb dX3_digestTransfer_111 (lv_at hl_32 2 rfl) ?_
        refine lv_lmul hx hb dX3_digestTransfer_113 ?_
        refine lv_aload_n hx hb dX3_digestTransfer_114 rfl (lv_at hl_32 0 rfl) ?_
        refine lv_iload_n hx hb dX3_digestTransfer_115 rfl (lv_at hl_32 1 rfl) ?_
        refine lv_iload hx hb dX3_digestTransfer_116 (lv_at hl_32 3 rfl) ?_
        refine gw_cVIP (As := [.int y3, .int y6]) (rest := [.long ((lN 31) * y4), .long (lN 31), .long (lN 31)])  ⟨hx, hb, hml, hown, hts⟩ (met_X3_shareIn l E G y0 y3 y6 _ hvc_29.2) (cwV 2 hts (lw_V q1935 q1937 qs53 q104 q1938) rfl rfl rfl (by decide +kernel) ⟨Nat.le_of_ble_eq_true rfl, Nat.le_of_ble_eq_true rfl⟩) (gw_rc (q := (RX3, TX3, 13)) hK hG_30 hvc_29.1 rfl) (Nat.zero_le _) (Nat.zero_le _) (g_St0 E) hz trivial hK hG_30 hS_31 rfl hl_32.1 rfl (Nat.le_of_ble_eq_true rfl) dX3_digestTransfer_118 (fun x15 H locs hvc_33 hG_34 hS_35 => ?_)
        clear hvc_29 hG_30 hS_31
        refine lv_i2l (v := x15.toInt64) hx hb dX3_digestTransfer_121 rfl ?_
        refine lv_ladd hx hb dX3_digestTransfer_122 ?_
        refine lv_lmul hx hb dX3_digestTransfer_123 ?_
        refine lv_aload_n hx hb dX3_digestTransfer_124 rfl (lv_at hl_32 0 rfl) ?_
        refine lv_iload hx hb dX3_digestTransfer_125 (lv_at hl_32 3 rfl) ?_
        refine lv_iload_n hx hb dX3_digestTransfer_127 rfl (lv_at hl_32 1 rfl) ?_
        refine gw_cVIP (As := [.int y6, .int y3]) (rest := [.long ((lN 31) * (((lN 31) * y4) + x15.toInt64)), .long (lN 31)])  ⟨hx, hb, hml, hown, hts⟩ (met_X3_stateIn l E G y0 y6 y3 _ hvc_33.2) (cwV 2 hts (lw_V q1904 q1906 qs47 q104 q1907) rfl rfl rfl (by decide +kernel) ⟨Nat.le_of_ble_eq_true rfl, Nat.le_of_ble_eq_true rfl⟩) (gw_rc (q := (RX3, TX3, 13)) hK hG_34 hvc_33.1 rfl) (Nat.zero_le _) (Nat.zero_le _) (g_St0 E) hz trivial hK hG_34 hS_35 rfl hl_32.1 rfl (Nat.le_of_ble_eq_true rfl) dX3_digestTransfer_128 (fun x17 H locs hvc_36 hG_37 hS_38 => ?_)
        clear hvc_33 hG_34 hS_35
        refine lv_i2l (v := x17.toInt64) hx hb dX3_digestTransfer_131 rfl ?_
        refine lv_ladd hx hb dX3_digestTransfer_132 ?_
        refine lv_lmul hx hb dX3_digestTransfer_133 ?_
        refine lv_aload_n hx hb dX3_digestTransfer_134 rfl (lv_at hl_32 0 rfl) ?_
        refine lv_iload hx hb dX3_digestTransfer_135 (lv_at hl_32 3 rfl) ?_
        refine lv_iload_n hx hb dX3_digestTransfer_137 rfl (lv_at hl_32 1 rfl) ?_
        refine gw_cVIP (As := [.int y6, .int y3]) (rest := [.long ((lN 31) * (((lN 31) * (((lN 31) * y4) + x15.toInt64)) + x17.toInt64))])  ⟨hx, hb, hml, hown, hts⟩ (met_X3_stateLogged l E G y0 y6 y3 _ hvc_36.2) (cwV 2 hts (lw_V q2089 q2091 qs70 q104 q2092) rfl rfl rfl (by decide +kernel) ⟨Nat.le_of_ble_eq_true rfl, Nat.le_of_ble_eq_true rfl⟩) (gw_rc (q := (RX3, TX3, 13)) hK hG_37 hvc_36.1 rfl) (Nat.zero_le _) (Nat.zero_le _) (g_St0 E) hz trivial hK hG_37 hS_38 rfl hl_32.1 rfl (Nat.le_of_ble_eq_true rfl) dX3_digestTransfer_138 (fun x19 H locs hvc_39 hG_40 hS_41 => ?_)
        clear hvc_36 hG_37 hS_38
        refine lv_i2l (v := x19.toInt64) hx hb dX3_digestTransfer_141 rfl ?_
        refine lv_ladd hx hb dX3_digestTransfer_142 ?_
        refine lv_lstore (lv' := [(4, .long (((lN 31) * (((lN 31) * (((lN 31) * y4) + x15.toInt64)) + x17.toInt64)) + x19.toInt64)), (0, .ref y0), (3, .int y3), (6, .int y6)]) hx hb dX3_digestTransfer_143 hl_32 (by decide) rfl (fun ls hl_42 => ?_)
        clear hl_32
        refine lv_iinc (k := 3) (v := y6 + (nI 1)) (lv' := [(6, .int (y6 + (nI 1))), (4, .long (((lN 31) * (((lN 31) * (((lN 31) * y4) + x15.toInt64)) + x17.toInt64)) + x19.toInt64)), (0, .ref y0), (3, .int y3)]) hx hb dX3_digestTransfer_145 hl_42 rfl (congrArg (y6 + ·) (by decide : Int32.ofInt (1) = nI 1)) (by decide) rfl (fun ls hl_43 => ?_)
        clear hl_42
        refine lv_goto (tgt := 96) hx hb dX3_digestTransfer_148 (by decide) ?_
        exact ih96 y0 y3 (((lN 31) * (((lN 31) * (((lN 31) * y4) + x15.toInt64)) + x17.toInt64)) + x19.toInt64) (y6 + (nI 1)) G _ _ _ hvc_39 hG_40 hS_41 (lv_sub hl_43 [2, 3, 1, 0] rfl)
  refine lv_istore (lv' := [(6, .int (nI 0)), (4, .long (((lN 31) * (((lN 31) * (((lN 31) * (((lN 31) * (((lN 31) * (((lN 31) * (((lN 31) * p1) + x1.toInt64)) + x3.toInt64)) + x5.toInt64)) + x7.toInt64)) + x9.toInt64)) + x11.toInt64)) + x13.toInt64)), (0, .ref o), (1, .long p1), (3, .int p2)]) hx hb dX3_digestTransfer_94 hl_24 (by decide) rfl (fun ls hl_44 => ?_)
  clear hl_24
  obtain ⟨nf96, hvc_21⟩ := hvc_21
  exact lp96 nf96 o p2 (((lN 31) * (((lN 31) * (((lN 31) * (((lN 31) * (((lN 31) * (((lN 31) * (((lN 31) * p1) + x1.toInt64)) + x3.toInt64)) + x5.toInt64)) + x7.toInt64)) + x9.toInt64)) + x11.toInt64)) + x13.toInt64) (nI 0) G14 _ _ _ hvc_21 hG_22 hS_23 (lv_sub hl_44 [2, 4, 1, 0] rfl)
set_option maxHeartbeats 4000000 in
set_option maxRecDepth 100000 in
theorem met_X3_digestSite (l : Launch) (E : g_E) (G : g_G) (o : Nat) (p1 : Int64) (p2 : Int32) (post : Int64 → Prop) (hvc : wp_X3_digestSite E G o p1 p2 post) : g_ML E l yX3_digestSite (ws_ yX3_digestSite cX3_digestSite 7 (Option.some Jvm.ClassFile.FieldType.long)) ({ frames := 1, cells := 0, slots := 0, locals := 22 } : Room) (fun _ => True) [.ref o, .long p1, .int p2] G (fun v G9 => G9 = G ∧ post v) := by
  refine g_enter (by decide +kernel) (Nat.le_of_ble_eq_true rfl) ?_
  intro p e s m below meth c ls hx hb hr hts hown hlocks hml hin hz hX hK hG hS hl
  have hl : lv_has ls 7 [(0, .ref o), (1, .long p1), (3, .int p2)] := hl
  have hown : s.vm.findClass RX3 = some m.cls := hown
  unfold wp_X3_digestSite at hvc
  refine lv_ldc2 (v := lN 31) hx hb hown (by exact hts _ q2262) dX3_digestSite_0 ?_
  refine lv_ldc2 (v := lN 31) hx hb hown (by exact hts _ q2262) dX3_digestSite_3 ?_
  refine lv_lload_n hx hb dX3_digestSite_6 rfl (lv_at hl 1 rfl) ?_
  refine lv_lmul hx hb dX3_digestSite_7 ?_
  refine lv_aload_n hx hb dX3_digestSite_8 rfl (lv_at hl 0 rfl) ?_
  refine gw_gr (C := RX3) (T := TX3) (N := 13) (own := RX3) hx hb hts in_X3 hown hK hG hvc rfl (by decide) (hts _ q1784) (fun _ h9 => h9) dX3_digestSite_9 (fun x1 hvc_1 => ?_)
  clear hvc
  refine lv_iconst (v := nI 0) hx hb dX3_digestSite_12 (by decide) ?_
  refine lv_iload_n hx hb dX3_digestSite_13 rfl (lv_at hl 2 rfl) ?_
  refine lv_iadd hx hb dX3_digestSite_14 ?_
  refine gw_ild hx hb hK hG hvc_1 dX3_digestSite_15 (fun x2 hvc_2 => ?_)
  clear hvc_1
  refine lv_i2l (v := x2.toInt64) hx hb dX3_digestSite_16 rfl ?_
  refine lv_ladd hx hb dX3_digestSite_17 ?_
  refine lv_lmul hx hb dX3_digestSite_18 ?_
  refine lv_aload_n hx hb dX3_digestSite_19 rfl (lv_at hl 0 rfl) ?_
  refine gw_gr (C := RX3) (T := TX3) (N := 13) (own := RX3) hx hb hts in_X3 hown hK hG hvc_2 rfl (by decide) (hts _ q1784) (fun _ h9 => h9) dX3_digestSite_20 (fun x3 hvc_3 => ?_)
  clear hvc_2
  refine lv_bipush (v := nI 102) hx hb dX3_digestSite_23 (by decide) ?_
  refine lv_iload_n hx hb dX3_digestSite_25 rfl (lv_at hl 2 rfl) ?_
  refine lv_iadd hx hb dX3_digestSite_26 ?_
  refine gw_ild hx hb hK hG hvc_3 dX3_digestSite_27 (fun x4 hvc_4 => ?_)
  clear hvc_3
  refine lv_i2l (v := x4.toInt64) hx hb dX3_digestSite_28 rfl ?_
  refine lv_ladd hx hb dX3_digestSite_29 ?_
  refine lv_lstore (lv' := [(4, .long (((lN 31) * (((lN 31) * p1) + x2.toInt64)) + x4.toInt64)), (0, .ref o), (1, .long p1), (3, .int p2)]) hx hb dX3_digestSite_30 hl (by decide) rfl (fun ls hl_5 => ?_)
  clear hl
  refine lv_iconst (v := nI 0) hx hb dX3_digestSite_32 (by decide) ?_
  have lp35 : ∀ (n35 : Nat) (y0 : Nat) (y3 : Int32) (y4 : Int64) (y6 : Int32) (H : Heap) (locs : List Loc) (ls : Array Slot), wp_X3_digestSite_35 E G post n35 y0 y3 y4 y6 → g_H E G H → va_S (g_A E) s.heap H locs → lv_has ls 7 [(0, .ref y0), (3, .int y3), (4, .long y4), (6, .int y6)] → W p l e ({ frames := 1, cells := 0, slots := 0, locals := 22 } : Room) s m ([.ref o, .long p1, .int p2] : List Value).toArray below meth c H locs 0 0 (MQ below (va_Ql (fun v G9 => G9 = G ∧ post v) (g_Bk E) (g_A E)) ([.ref o, .long p1, .int p2] : List Value).toArray s 0 0 (g_A E)) (F0 m 35 ls []) := by
    clear hvc_4 hG hS hl_5
    intro n35
    induction n35 with
    | zero =>
      intro y0 y3 y4 y6 H locs ls hvc_6 hG_7 hS_8 hl_9
      exact False.elim hvc_6
    | succ n35 ih35 =>
      intro y0 y3 y4 y6 H locs ls hvc_10 hG_11 hS_12 hl_13
      refine lv_iload hx hb dX3_digestSite_35 (lv_at hl_13 3 rfl) ?_
      refine lv_aload_n hx hb dX3_digestSite_37 rfl (lv_at hl_13 0 rfl) ?_
      refine gw_gr (C := RX3) (T := TX3) (N := 13) (own := RX3) hx hb hts in_X3 hown hK hG_11 hvc_10 rfl (by decide) (hts _ q1784) (fun _ h9 => h9) dX3_digestSite_38 (fun x5 hvc_14 => ?_)
      clear hvc_10
      refine lv_bipush (v := nI 102) hx hb dX3_digestSite_41 (by decide) ?_
      refine lv_iload_n hx hb dX3_digestSite_43 rfl (lv_at hl_13 1 rfl) ?_
      refine lv_iadd hx hb dX3_digestSite_44 ?_
      refine gw_ild hx hb hK hG_11 hvc_14 dX3_digestSite_45 (fun x6 hvc_15 => ?_)
      clear hvc_14
      refine lv_icmp_ge (tgt := 91) hx hb dX3_digestSite_46 (by decide) (fun h9 => ?_) (fun h9 => ?_)
      · replace hvc_15 := hvc_15.1 h9
        refine lv_lload hx hb dX3_digestSite_91 (lv_at hl_13 2 rfl) ?_
        exact g_lret hx hb hr hlocks (Nat.zero_le _) (Nat.zero_le _) hG_11 hS_12 ⟨rfl, hvc_15⟩ dX3_digestSite_93
      · replace hvc_15 := hvc_15.2 h9
        refine lv_ldc2 (v := lN 31) hx hb hown (by exact hts _ q2262) dX3_digestSite_49 ?_
        refine lv_ldc2 (v := lN 31) hx hb hown (by exact hts _ q2262) dX3_digestSite_52 ?_
        refine lv_lload hx hb dX3_digestSite_55 (lv_at hl_13 2 rfl) ?_
        refine lv_lmul hx hb dX3_digestSite_57 ?_
        refine lv_aload_n hx hb dX3_digestSite_58 rfl (lv_at hl_13 0 rfl) ?_
        refine lv_iload_n hx hb dX3_digestSite_59 rfl (lv_at hl_13 1 rfl) ?_
        refine lv_iload hx hb dX3_digestSite_60 (lv_at hl_13 3 rfl) ?_
        refine gw_cVIP (As := [.int y3, .int y6]) (rest := [.long ((lN 31) * y4), .long (lN 31)])  ⟨hx, hb, hml, hown, hts⟩ (met_X3_record l E G y0 y3 y6 _ hvc_15.2) (cwV 2 hts (lw_V q2149 q2151 qs75 q104 q2152) rfl rfl rfl (by decide +kernel) ⟨Nat.le_of_ble_eq_true rfl, Nat.le_of_ble_eq_true rfl⟩) (gw_rc (q := (RX3, TX3, 13)) hK hG_11 hvc_15.1 rfl) (Nat.zero_le _) (Nat.zero_le _) (g_St0 E) hz trivial hK hG_11 hS_12 rfl hl_13.1 rfl (Nat.le_of_ble_eq_true rfl) dX3_digestSite_62 (fun x7 H locs hvc_16 hG_17 hS_18 => ?_)
        clear hvc_15 hG_11 hS_12
        refine lv_bipush (v := nI 8) hx hb dX3_digestSite_65 (by decide) ?_
        refine lv_idiv hx hb dX3_digestSite_67 (by decide) ?_
        refine lv_i2l (v := (x7 / (nI 8)).toInt64) hx hb dX3_digestSite_68 rfl ?_
        refine lv_ladd hx hb dX3_digestSite_69 ?_
        refine lv_lmul hx hb dX3_digestSite_70 ?_
        refine lv_aload_n hx hb dX3_digestSite_71 rfl (lv_at hl_13 0 rfl) ?_
        refine lv_iload_n hx hb dX3_digestSite_72 rfl (lv_at hl_13 1 rfl) ?_
        refine lv_iload hx hb dX3_digestSite_73 (lv_at hl_13 3 rfl) ?_
        refine gw_cVIP (As := [.int y3, .int y6]) (rest := [.long ((lN 31) * (((lN 31) * y4) + ((x7 / (nI 8)).toInt64)))])  ⟨hx, hb, hml, hown, hts⟩ (met_X3_record l E G y0 y3 y6 _ hvc_16.2) (cwV 2 hts (lw_V q2149 q2151 qs75 q104 q2152) rfl rfl rfl (by decide +kernel) ⟨Nat.le_of_ble_eq_true rfl, Nat.le_of_ble_eq_true rfl⟩) (gw_rc (q := (RX3, TX3, 13)) hK hG_17 hvc_16.1 rfl) (Nat.zero_le _) (Nat.zero_le _) (g_St0 E) hz trivial hK hG_17 hS_18 rfl hl_13.1 rfl (Nat.le_of_ble_eq_true rfl) dX3_digestSite_75 (fun x9 H locs hvc_19 hG_20 hS_21 => ?_)
        clear hvc_16 hG_17 hS_18
        refine lv_bipush (v := nI 8) hx hb dX3_digestSite_78 (by decide) ?_
        refine lv_irem hx hb dX3_digestSite_80 (by decide) ?_
        refine lv_i2l (v := (x9 - x9 / (nI 8) * (nI 8)).toInt64) hx hb dX3_digestSite_81 rfl ?_
        refine lv_ladd hx hb dX3_digestSite_82 ?_
        refine lv_lstore (lv' := [(4, .long (((lN 31) * (((lN 31) * y4) + ((x7 / (nI 8)).toInt64))) + ((x9 - x9 / (nI 8) * (nI 8)).toInt64))), (0, .ref y0), (3, .int y3), (6, .int y6)]) hx hb dX3_digestSite_83 hl_13 (by decide) rfl (fun ls hl_22 => ?_)
        clear hl_13
        refine lv_iinc (k := 3) (v := y6 + (nI 1)) (lv' := [(6, .int (y6 + (nI 1))), (4, .long (((lN 31) * (((lN 31) * y4) + ((x7 / (nI 8)).toInt64))) + ((x9 - x9 / (nI 8) * (nI 8)).toInt64))), (0, .ref y0), (3, .int y3)]) hx hb dX3_digestSite_85 hl_22 rfl (congrArg (y6 + ·) (by decide : Int32.ofInt (1) = nI 1)) (by decide) rfl (fun ls hl_23 => ?_)
        clear hl_22
        refine lv_goto (tgt := 35) hx hb dX3_digestSite_88 (by decide) ?_
        exact ih35 y0 y3 (((lN 31) * (((lN 31) * y4) + ((x7 / (nI 8)).toInt64))) + ((x9 - x9 / (nI 8) * (nI 8)).toInt64)) (y6 + (nI 1)) _ _ _ hvc_19 hG_20 hS_21 (lv_sub hl_23 [2, 3, 1, 0] rfl)
  refine lv_istore (lv' := [(6, .int (nI 0)), (4, .long (((lN 31) * (((lN 31) * p1) + x2.toInt64)) + x4.toInt64)), (0, .ref o), (1, .long p1), (3, .int p2)]) hx hb dX3_digestSite_33 hl_5 (by decide) rfl (fun ls hl_24 => ?_)
  clear hl_5
  obtain ⟨nf35, hvc_4⟩ := hvc_4
  exact lp35 nf35 o p2 (((lN 31) * (((lN 31) * p1) + x2.toInt64)) + x4.toInt64) (nI 0) _ _ _ hvc_4 hG hS (lv_sub hl_24 [2, 4, 1, 0] rfl)
set_option maxHeartbeats 4000000 in
set_option maxRecDepth 100000 in
theorem met_X3_digest (l : Launch) (E : g_E) (G : g_G) (o : Nat) (post : Int64 → g_G → Prop) (hvc : wp_X3_digest E G o post) : g_ML E l yX3_digest (ws_ yX3_digest cX3_digest 5 (Option.some Jvm.ClassFile.FieldType.long)) ({ frames := 11, cells := 0, slots := 0, locals := 251 } : Room) (fun _ => True) [.ref o] G (post) := by
  refine g_enter (by decide +kernel) (Nat.le_of_ble_eq_true rfl) ?_
  intro p e s m below meth c ls hx hb hr hts hown hlocks hml hin hz hX hK hG hS hl
  have hl : lv_has ls 5 [(0, .ref o)] := hl
  have hown : s.vm.findClass RX3 = some m.cls := hown
  unfold wp_X3_digest at hvc
  refine lv_aload_n hx hb dX3_digest_0 rfl (lv_at hl 0 rfl) ?_
  refine lv_iconst (v := nI 0) hx hb dX3_digest_1 (by decide) ?_
  refine gw_put (ty := .int) (C := RX3) (T := TX3) (N := 13) (own := RX3) hx hb hts in_X3 tyX3 tyX3_ok nmX3 hown hK hG hS hvc rfl (by decide) (hts _ q1783) (fun _ h9 => h9) rfl (by decide +kernel) rfl rfl dX3_digest_2 (fun G1 H locs hvc_1 hG_2 hS_3 => ?_)
  clear hvc hG hS
  refine lv_ldc2 (v := lN 4219) hx hb hown (by exact hts _ q2261) dX3_digest_5 ?_
  refine lv_lstore_n (lv' := [(1, .long (lN 4219)), (0, .ref o)]) hx hb dX3_digest_8 rfl hl (by decide) rfl (fun ls hl_4 => ?_)
  clear hl
  refine lv_ldc2 (v := lN 31) hx hb hown (by exact hts _ q2262) dX3_digest_9 ?_
  refine lv_lload_n hx hb dX3_digest_12 rfl (lv_at hl_4 0 rfl) ?_
  refine lv_lmul hx hb dX3_digest_13 ?_
  refine lv_aload_n hx hb dX3_digest_14 rfl (lv_at hl_4 1 rfl) ?_
  refine gw_gr (C := RX3) (T := TX3) (N := 13) (own := RX3) hx hb hts in_X3 hown hK hG_2 hvc_1 rfl (by decide) (hts _ q1784) (fun _ h9 => h9) dX3_digest_15 (fun x2 hvc_5 => ?_)
  clear hvc_1
  refine lv_bipush (v := nI 9) hx hb dX3_digest_18 (by decide) ?_
  refine gw_ild hx hb hK hG_2 hvc_5 dX3_digest_20 (fun x3 hvc_6 => ?_)
  clear hvc_5
  refine lv_i2l (v := x3.toInt64) hx hb dX3_digest_21 rfl ?_
  refine lv_ladd hx hb dX3_digest_22 ?_
  refine lv_lstore_n (lv' := [(1, .long (((lN 31) * (lN 4219)) + x3.toInt64)), (0, .ref o)]) hx hb dX3_digest_23 rfl hl_4 (by decide) rfl (fun ls hl_7 => ?_)
  clear hl_4
  refine lv_iconst (v := nI 0) hx hb dX3_digest_24 (by decide) ?_
  have lp26 : ∀ (n26 : Nat) (y0 : Nat) (y1 : Int64) (y3 : Int32) (G : g_G) (H : Heap) (locs : List Loc) (ls : Array Slot), wp_X3_digest_26 E post n26 y0 y1 y3 G → g_H E G H → va_S (g_A E) s.heap H locs → lv_has ls 5 [(0, .ref y0), (1, .long y1), (3, .int y3)] → W p l e ({ frames := 11, cells := 0, slots := 0, locals := 251 } : Room) s m ([.ref o] : List Value).toArray below meth c H locs 0 0 (MQ below (va_Ql (post) (g_Bk E) (g_A E)) ([.ref o] : List Value).toArray s 0 0 (g_A E)) (F0 m 26 ls []) := by
    clear hvc_6 hG_2 hS_3 hl_7
    intro n26
    induction n26 with
    | zero =>
      intro y0 y1 y3 G H locs ls hvc_8 hG_9 hS_10 hl_11
      exact False.elim hvc_8
    | succ n26 ih26 =>
      intro y0 y1 y3 G H locs ls hvc_12 hG_13 hS_14 hl_15
      refine lv_iload_n hx hb dX3_digest_26 rfl (lv_at hl_15 2 rfl) ?_
      refine lv_aload_n hx hb dX3_digest_27 rfl (lv_at hl_15 0 rfl) ?_
      refine gw_gr (C := RX3) (T := TX3) (N := 13) (own := RX3) hx hb hts in_X3 hown hK hG_13 hvc_12 rfl (by decide) (hts _ q1784) (fun _ h9 => h9) dX3_digest_28 (fun x4 hvc_16 => ?_)
      clear hvc_12
      refine lv_bipush (v := nI 9) hx hb dX3_digest_31 (by decide) ?_
      refine gw_ild hx hb hK hG_13 hvc_16 dX3_digest_33 (fun x5 hvc_17 => ?_)
      clear hvc_16
      refine lv_icmp_ge (tgt := 50) hx hb dX3_digest_34 (by decide) (fun h9 => ?_) (fun h9 => ?_)
      · replace hvc_17 := hvc_17.1 h9
        refine lv_iconst (v := nI 0) hx hb dX3_digest_50 (by decide) ?_
        have lp52 : ∀ (n52 : Nat) (y0 : Nat) (y1 : Int64) (y3 : Int32) (G : g_G) (H : Heap) (locs : List Loc) (ls : Array Slot), wp_X3_digest_52 E post n52 y0 y1 y3 G → g_H E G H → va_S (g_A E) s.heap H locs → lv_has ls 5 [(0, .ref y0), (1, .long y1), (3, .int y3)] → W p l e ({ frames := 11, cells := 0, slots := 0, locals := 251 } : Room) s m ([.ref o] : List Value).toArray below meth c H locs 0 0 (MQ below (va_Ql (post) (g_Bk E) (g_A E)) ([.ref o] : List Value).toArray s 0 0 (g_A E)) (F0 m 52 ls []) := by
          clear hvc_17 hG_13 hS_14 hl_15
          intro n52
          induction n52 with
          | zero =>
            intro y0 y1 y3 G H locs ls hvc_18 hG_19 hS_20 hl_21
            exact False.elim hvc_18
          | succ n52 ih52 =>
            intro y0 y1 y3 G H locs ls hvc_22 hG_23 hS_24 hl_25
            refine lv_iload_n hx hb dX3_digest_52 rfl (lv_at hl_25 2 rfl) ?_
            refine lv_iconst (v := nI 4) hx hb dX3_digest_53 (by decide) ?_
            refine lv_icmp_ge (tgt := 114) hx hb dX3_digest_54 (by decide) (fun h9 => ?_) (fun h9 => ?_)
            · replace hvc_22 := hvc_22.1 h9
              refine lv_iconst (v := nI 0) hx hb dX3_digest_114 (by decide) ?_
              have lp116 : ∀ (n116 : Nat) (y0 : Nat) (y1 : Int64) (y3 : Int32) (G : g_G) (H : Heap) (locs : List Loc) (ls : Array Slot), wp_X3_digest_116 E post n116 y0 y1 y3 G → g_H E G H → va_S (g_A E) s.heap H locs → lv_has ls 5 [(0, .ref y0), (1, .long y1), (3, .int y3)] → W p l e ({ frames := 11, cells := 0, slots := 0, locals := 251 } : Room) s m ([.ref o] : List Value).toArray below meth c H locs 0 0 (MQ below (va_Ql (post) (g_Bk E) (g_A E)) ([.ref o] : List Value).toArray s 0 0 (g_A E)) (F0 m 116 ls []) := by
                clear hvc_22 hG_23 hS_24 hl_25
                intro n116
                induction n116 with
                | zero =>
                  intro y0 y1 y3 G H locs ls hvc_26 hG_27 hS_28 hl_29
                  exact False.elim hvc_26
                | succ n116 ih116 =>
                  intro y0 y1 y3 G H locs ls hvc_30 hG_31 hS_32 hl_33
                  refine lv_iload_n hx hb dX3_digest_116 rfl (lv_at hl_33 2 rfl) ?_
                  refine lv_iconst (v := nI 5) hx hb dX3_digest_117 (by decide) ?_
                  refine lv_icmp_ge (tgt := 134) hx hb dX3_digest_118 (by decide) (fun h9 => ?_) (fun h9 => ?_)
                  · replace hvc_30 := hvc_30.1 h9
                    refine lv_ldc2 (v := lN 31) hx hb hown (by exact hts _ q2262) dX3_digest_134 ?_
                    refine lv_ldc2 (v := lN 31) hx hb hown (by exact hts _ q2262) dX3_digest_137 ?_
                    refine lv_ldc2 (v := lN 31) hx hb hown (by exact hts _ q2262) dX3_digest_140 ?_
                    refine lv_lload_n hx hb dX3_digest_143 rfl (lv_at hl_33 1 rfl) ?_
                    refine lv_lmul hx hb dX3_digest_144 ?_
                    refine lv_aload_n hx hb dX3_digest_145 rfl (lv_at hl_33 0 rfl) ?_
                    refine gw_cVIP (As := []) (rest := [.long ((lN 31) * y1), .long (lN 31), .long (lN 31)])  ⟨hx, hb, hml, hown, hts⟩ (met_X3_totalOf l E G y0 _ hvc_30.2) (cwV 0 hts (lw_V q2129 q2131 qs73 q104 q2132) rfl rfl rfl (by decide +kernel) ⟨Nat.le_of_ble_eq_true rfl, Nat.le_of_ble_eq_true rfl⟩) (gw_rc (q := (RX3, TX3, 13)) hK hG_31 hvc_30.1 rfl) (Nat.zero_le _) (Nat.zero_le _) (g_St0 E) hz trivial hK hG_31 hS_32 rfl hl_33.1 rfl (Nat.le_of_ble_eq_true rfl) dX3_digest_146 (fun x6 H locs hvc_34 hG_35 hS_36 => ?_)
                    clear hvc_30 hG_31 hS_32
                    refine lv_i2l (v := x6.toInt64) hx hb dX3_digest_149 rfl ?_
                    refine lv_ladd hx hb dX3_digest_150 ?_
                    refine lv_lmul hx hb dX3_digest_151 ?_
                    refine lv_aload_n hx hb dX3_digest_152 rfl (lv_at hl_33 0 rfl) ?_
                    refine gw_cVIP (As := []) (rest := [.long ((lN 31) * (((lN 31) * y1) + x6.toInt64)), .long (lN 31)])  ⟨hx, hb, hml, hown, hts⟩ (met_X3_away l E G y0 _ hvc_34.2) (cwV 0 hts (lw_V q2137 q2139 qs74 q104 q2140) rfl rfl rfl (by decide +kernel) ⟨Nat.le_of_ble_eq_true rfl, Nat.le_of_ble_eq_true rfl⟩) (gw_rc (q := (RX3, TX3, 13)) hK hG_35 hvc_34.1 rfl) (Nat.zero_le _) (Nat.zero_le _) (g_St0 E) hz trivial hK hG_35 hS_36 rfl hl_33.1 rfl (Nat.le_of_ble_eq_true rfl) dX3_digest_153 (fun x8 H locs hvc_37 hG_38 hS_39 => ?_)
                    clear hvc_34 hG_35 hS_36
                    refine lv_i2l (v := x8.toInt64) hx hb dX3_digest_156 rfl ?_
                    refine lv_ladd hx hb dX3_digest_157 ?_
                    refine lv_lmul hx hb dX3_digest_158 ?_
                    refine lv_aload_n hx hb dX3_digest_159 rfl (lv_at hl_33 0 rfl) ?_
                    refine gw_gr (C := RX3) (T := TX3) (N := 13) (own := RX3) hx hb hts in_X3 hown hK hG_38 hvc_37 rfl (by decide) (hts _ q1784) (fun _ h9 => h9) dX3_digest_160 (fun x10 hvc_40 => ?_)
                    clear hvc_37
                    refine lv_bipush (v := nI 13) hx hb dX3_digest_163 (by decide) ?_
                    refine gw_ild hx hb hK hG_38 hvc_40 dX3_digest_165 (fun x11 hvc_41 => ?_)
                    clear hvc_40
                    refine lv_i2l (v := x11.toInt64) hx hb dX3_digest_166 rfl ?_
                    refine lv_ladd hx hb dX3_digest_167 ?_
                    refine lv_lstore_n (lv' := [(1, .long (((lN 31) * (((lN 31) * (((lN 31) * y1) + x6.toInt64)) + x8.toInt64)) + x11.toInt64)), (0, .ref y0), (3, .int y3)]) hx hb dX3_digest_168 rfl hl_33 (by decide) rfl (fun ls hl_42 => ?_)
                    clear hl_33
                    refine lv_iconst (v := nI 0) hx hb dX3_digest_169 (by decide) ?_
                    have lp171 : ∀ (n171 : Nat) (y0 : Nat) (y1 : Int64) (y3 : Int32) (G : g_G) (H : Heap) (locs : List Loc) (ls : Array Slot), wp_X3_digest_171 E post n171 y0 y1 y3 G → g_H E G H → va_S (g_A E) s.heap H locs → lv_has ls 5 [(0, .ref y0), (1, .long y1), (3, .int y3)] → W p l e ({ frames := 11, cells := 0, slots := 0, locals := 251 } : Room) s m ([.ref o] : List Value).toArray below meth c H locs 0 0 (MQ below (va_Ql (post) (g_Bk E) (g_A E)) ([.ref o] : List Value).toArray s 0 0 (g_A E)) (F0 m 171 ls []) := by
                      clear hvc_41 hG_38 hS_39 hl_42
                      intro n171
                      induction n171 with
                      | zero =>
                        intro y0 y1 y3 G H locs ls hvc_43 hG_44 hS_45 hl_46
                        exact False.elim hvc_43
                      | succ n171 ih171 =>
                        intro y0 y1 y3 G H locs ls hvc_47 hG_48 hS_49 hl_50
                        refine lv_iload_n hx hb dX3_digest_171 rfl (lv_at hl_50 2 rfl) ?_
                        refine lv_aload_n hx hb dX3_digest_172 rfl (lv_at hl_50 0 rfl) ?_
                        refine gw_gr (C := RX3) (T := TX3) (N := 13) (own := RX3) hx hb hts in_X3 hown hK hG_48 hvc_47 rfl (by decide) (hts _ q1784) (fun _ h9 => h9) dX3_digest_173 (fun x12 hvc_51 => ?_)
                        clear hvc_47
                        refine lv_bipush (v := nI 13) hx hb dX3_digest_176 (by decide) ?_
                        refine gw_ild hx hb hK hG_48 hvc_51 dX3_digest_178 (fun x13 hvc_52 => ?_)
                        clear hvc_51
                        refine lv_icmp_ge (tgt := 247) hx hb dX3_digest_179 (by decide) (fun h9 => ?_) (fun h9 => ?_)
                        · replace hvc_52 := hvc_52.1 h9
                          refine lv_ldc2 (v := lN 31) hx hb hown (by exact hts _ q2262) dX3_digest_247 ?_
                          refine lv_ldc2 (v := lN 31) hx hb hown (by exact hts _ q2262) dX3_digest_250 ?_
                          refine lv_ldc2 (v := lN 31) hx hb hown (by exact hts _ q2262) dX3_digest_253 ?_
                          refine lv_lload_n hx hb dX3_digest_256 rfl (lv_at hl_50 1 rfl) ?_
                          refine lv_lmul hx hb dX3_digest_257 ?_
                          refine lv_aload_n hx hb dX3_digest_258 rfl (lv_at hl_50 0 rfl) ?_
                          refine gw_gr (C := RX3) (T := TX3) (N := 13) (own := RX3) hx hb hts in_X3 hown hK hG_48 hvc_52 rfl (by decide) (hts _ q1784) (fun _ h9 => h9) dX3_digest_259 (fun x14 hvc_53 => ?_)
                          clear hvc_52
                          refine lv_bipush (v := nI 10) hx hb dX3_digest_262 (by decide) ?_
                          refine gw_ild hx hb hK hG_48 hvc_53 dX3_digest_264 (fun x15 hvc_54 => ?_)
                          clear hvc_53
                          refine lv_i2l (v := x15.toInt64) hx hb dX3_digest_265 rfl ?_
                          refine lv_ladd hx hb dX3_digest_266 ?_
                          refine lv_lmul hx hb dX3_digest_267 ?_
                          refine lv_aload_n hx hb dX3_digest_268 rfl (lv_at hl_50 0 rfl) ?_
                          refine gw_cVIP (As := []) (rest := [.long ((lN 31) * (((lN 31) * y1) + x15.toInt64)), .long (lN 31)])  ⟨hx, hb, hml, hown, hts⟩ (met_X3_sentOf l E G y0 _ hvc_54.2) (cwV 0 hts (lw_V q2181 q2183 qs76 q104 q2184) rfl rfl rfl (by decide +kernel) ⟨Nat.le_of_ble_eq_true rfl, Nat.le_of_ble_eq_true rfl⟩) (gw_rc (q := (RX3, TX3, 13)) hK hG_48 hvc_54.1 rfl) (Nat.zero_le _) (Nat.zero_le _) (g_St0 E) hz trivial hK hG_48 hS_49 rfl hl_50.1 rfl (Nat.le_of_ble_eq_true rfl) dX3_digest_269 (fun x16 H locs hvc_55 hG_56 hS_57 => ?_)
                          clear hvc_54 hG_48 hS_49
                          refine lv_i2l (v := x16.toInt64) hx hb dX3_digest_272 rfl ?_
                          refine lv_ladd hx hb dX3_digest_273 ?_
                          refine lv_lmul hx hb dX3_digest_274 ?_
                          refine lv_aload_n hx hb dX3_digest_275 rfl (lv_at hl_50 0 rfl) ?_
                          refine gw_gr (C := RX3) (T := TX3) (N := 13) (own := RX3) hx hb hts in_X3 hown hK hG_56 hvc_55 rfl (by decide) (hts _ q1784) (fun _ h9 => h9) dX3_digest_276 (fun x18 hvc_58 => ?_)
                          clear hvc_55
                          refine lv_bipush (v := nI 12) hx hb dX3_digest_279 (by decide) ?_
                          refine gw_ild hx hb hK hG_56 hvc_58 dX3_digest_281 (fun x19 hvc_59 => ?_)
                          clear hvc_58
                          refine lv_i2l (v := x19.toInt64) hx hb dX3_digest_282 rfl ?_
                          refine lv_ladd hx hb dX3_digest_283 ?_
                          refine lv_lstore_n (lv' := [(1, .long (((lN 31) * (((lN 31) * (((lN 31) * y1) + x15.toInt64)) + x16.toInt64)) + x19.toInt64)), (0, .ref y0), (3, .int y3)]) hx hb dX3_digest_284 rfl hl_50 (by decide) rfl (fun ls hl_60 => ?_)
                          clear hl_50
                          refine lv_ldc2 (v := lN 31) hx hb hown (by exact hts _ q2262) dX3_digest_285 ?_
                          refine lv_ldc2 (v := lN 31) hx hb hown (by exact hts _ q2262) dX3_digest_288 ?_
                          refine lv_ldc2 (v := lN 31) hx hb hown (by exact hts _ q2262) dX3_digest_291 ?_
                          refine lv_lload_n hx hb dX3_digest_294 rfl (lv_at hl_60 0 rfl) ?_
                          refine lv_lmul hx hb dX3_digest_295 ?_
                          refine lv_aload_n hx hb dX3_digest_296 rfl (lv_at hl_60 1 rfl) ?_
                          refine gw_cVIN (As := []) (rest := [.long ((lN 31) * (((lN 31) * (((lN 31) * (((lN 31) * y1) + x15.toInt64)) + x16.toInt64)) + x19.toInt64)), .long (lN 31), .long (lN 31)])  ⟨hx, hb, hml, hown, hts⟩ (met_X3_settledMany l E G y0 _ hvc_59.2) (cwV 0 hts (lw_V q2209 q2211 qs80 q104 q2212) rfl rfl rfl (by decide +kernel) ⟨Nat.le_of_ble_eq_true rfl, Nat.le_of_ble_eq_true rfl⟩) (gw_rc (q := (RX3, TX3, 13)) hK hG_56 hvc_59.1 rfl) (Nat.zero_le _) (Nat.zero_le _) (g_St0 E) hz trivial hK hG_56 hS_57 rfl hl_60.1 rfl (Nat.le_of_ble_eq_true rfl) dX3_digest_297 (fun x20 G21 H locs hvc_61 hG_62 hS_63 => ?_)
                          clear hvc_59 hG_56 hS_57
                          refine lv_i2l (v := x20.toInt64) hx hb dX3_digest_300 rfl ?_
                          refine lv_ladd hx hb dX3_digest_301 ?_
                          refine lv_lmul hx hb dX3_digest_302 ?_
                          refine lv_aload_n hx hb dX3_digest_303 rfl (lv_at hl_60 1 rfl) ?_
                          refine lv_iconst (v := nI 0) hx hb dX3_digest_304 (by decide) ?_
                          refine lv_bipush (v := nI 14) hx hb dX3_digest_305 (by decide) ?_
                          refine gw_cVIP (As := [.int (nI 0), .int (nI 14)]) (rest := [.long ((lN 31) * (((lN 31) * (((lN 31) * (((lN 31) * (((lN 31) * y1) + x15.toInt64)) + x16.toInt64)) + x19.toInt64)) + x20.toInt64)), .long (lN 31)])  ⟨hx, hb, hml, hown, hts⟩ (met_X3_greatest l E G21 y0 (nI 0) (nI 14) _ hvc_61.2) (cwV 2 hts (lw_V q2237 q2239 qs84 q104 q2240) rfl rfl rfl (by decide +kernel) ⟨Nat.le_of_ble_eq_true rfl, Nat.le_of_ble_eq_true rfl⟩) (gw_rc (q := (RX3, TX3, 13)) hK hG_62 hvc_61.1 rfl) (Nat.zero_le _) (Nat.zero_le _) (g_St0 E) hz trivial hK hG_62 hS_63 rfl hl_60.1 rfl (Nat.le_of_ble_eq_true rfl) dX3_digest_307 (fun x22 H locs hvc_64 hG_65 hS_66 => ?_)
                          clear hvc_61 hG_62 hS_63
                          refine lv_i2l (v := x22.toInt64) hx hb dX3_digest_310 rfl ?_
                          refine lv_ladd hx hb dX3_digest_311 ?_
                          refine lv_lmul hx hb dX3_digest_312 ?_
                          refine lv_aload_n hx hb dX3_digest_313 rfl (lv_at hl_60 1 rfl) ?_
                          refine gw_gi (C := RX3) (T := TX3) (N := 13) (own := RX3) hx hb hts in_X3 hown hK hG_65 hvc_64 rfl (by decide) (hts _ q1787) (fun _ h9 => h9) dX3_digest_314 (fun x24 hvc_67 => ?_)
                          clear hvc_64
                          refine lv_i2l (v := x24.toInt64) hx hb dX3_digest_317 rfl ?_
                          refine lv_ladd hx hb dX3_digest_318 ?_
                          refine lv_lstore_n (lv' := [(1, .long (((lN 31) * (((lN 31) * (((lN 31) * (((lN 31) * (((lN 31) * (((lN 31) * y1) + x15.toInt64)) + x16.toInt64)) + x19.toInt64)) + x20.toInt64)) + x22.toInt64)) + x24.toInt64)), (0, .ref y0), (3, .int y3)]) hx hb dX3_digest_319 rfl hl_60 (by decide) rfl (fun ls hl_68 => ?_)
                          clear hl_60
                          refine lv_ldc2 (v := lN 31) hx hb hown (by exact hts _ q2262) dX3_digest_320 ?_
                          refine lv_lload_n hx hb dX3_digest_323 rfl (lv_at hl_68 0 rfl) ?_
                          refine lv_lmul hx hb dX3_digest_324 ?_
                          refine lv_aload_n hx hb dX3_digest_325 rfl (lv_at hl_68 1 rfl) ?_
                          refine gw_cVDP (As := []) (rest := [.long ((lN 31) * (((lN 31) * (((lN 31) * (((lN 31) * (((lN 31) * (((lN 31) * (((lN 31) * y1) + x15.toInt64)) + x16.toInt64)) + x19.toInt64)) + x20.toInt64)) + x22.toInt64)) + x24.toInt64))])  ⟨hx, hb, hml, hown, hts⟩ (met_X3_shareLost l E G21 y0 _ hvc_67.2) (cwV 0 hts (lw_V q2245 q2247 qs85 q104 q2248) rfl rfl rfl (by decide +kernel) ⟨Nat.le_of_ble_eq_true rfl, Nat.le_of_ble_eq_true rfl⟩) (gw_rc (q := (RX3, TX3, 13)) hK hG_65 hvc_67.1 rfl) (Nat.zero_le _) (Nat.zero_le _) (g_St0 E) hz trivial hK hG_65 hS_66 rfl hl_68.1 rfl (Nat.le_of_ble_eq_true rfl) dX3_digest_326 (fun x25 H locs hvc_69 hG_70 hS_71 => ?_)
                          clear hvc_67 hG_65 hS_66
                          refine gw_cSLP (As := [.double x25]) (rest := [.long ((lN 31) * (((lN 31) * (((lN 31) * (((lN 31) * (((lN 31) * (((lN 31) * (((lN 31) * y1) + x15.toInt64)) + x16.toInt64)) + x19.toInt64)) + x20.toInt64)) + x22.toInt64)) + x24.toInt64))])  ⟨hx, hb, hml, hown, hts⟩ (met_J25_doubleToLongBits l E G21 x25 _ hvc_69) (va_cwS 1 hts (lw_S q2271 q1413 q127 q1414) rfl rfl rfl (by decide +kernel) ⟨Nat.le_of_ble_eq_true rfl, Nat.le_of_ble_eq_true rfl⟩) (Nat.zero_le _) (Nat.zero_le _) (g_St0 E) hz trivial hK hG_70 hS_71 rfl hl_68.1 rfl (Nat.le_of_ble_eq_true rfl) dX3_digest_329 (fun x27 H locs hvc_72 hG_73 hS_74 => ?_)
                          clear hvc_69 hG_70 hS_71
                          refine lv_ladd hx hb dX3_digest_332 ?_
                          refine lv_lstore_n (lv' := [(1, .long (((lN 31) * (((lN 31) * (((lN 31) * (((lN 31) * (((lN 31) * (((lN 31) * (((lN 31) * y1) + x15.toInt64)) + x16.toInt64)) + x19.toInt64)) + x20.toInt64)) + x22.toInt64)) + x24.toInt64)) + x27)), (0, .ref y0), (3, .int y3)]) hx hb dX3_digest_333 rfl hl_68 (by decide) rfl (fun ls hl_75 => ?_)
                          clear hl_68
                          refine lv_ldc2 (v := lN 31) hx hb hown (by exact hts _ q2262) dX3_digest_334 ?_
                          refine lv_lload_n hx hb dX3_digest_337 rfl (lv_at hl_75 0 rfl) ?_
                          refine lv_lmul hx hb dX3_digest_338 ?_
                          refine lv_aload_n hx hb dX3_digest_339 rfl (lv_at hl_75 1 rfl) ?_
                          refine gw_cVFP (As := []) (rest := [.long ((lN 31) * (((lN 31) * (((lN 31) * (((lN 31) * (((lN 31) * (((lN 31) * (((lN 31) * (((lN 31) * y1) + x15.toInt64)) + x16.toInt64)) + x19.toInt64)) + x20.toInt64)) + x22.toInt64)) + x24.toInt64)) + x27))])  ⟨hx, hb, hml, hown, hts⟩ (met_X3_mean l E G21 y0 _ hvc_72.2) (cwV 0 hts (lw_V q2253 q2255 qs86 q104 q2256) rfl rfl rfl (by decide +kernel) ⟨Nat.le_of_ble_eq_true rfl, Nat.le_of_ble_eq_true rfl⟩) (gw_rc (q := (RX3, TX3, 13)) hK hG_73 hvc_72.1 rfl) (Nat.zero_le _) (Nat.zero_le _) (g_St0 E) hz trivial hK hG_73 hS_74 rfl hl_75.1 rfl (Nat.le_of_ble_eq_true rfl) dX3_digest_340 (fun x29 H locs hvc_76 hG_77 hS_78 => ?_)
                          clear hvc_72 hG_73 hS_74
                          refine gw_cSIP (As := [.float x29]) (rest := [.long ((lN 31) * (((lN 31) * (((lN 31) * (((lN 31) * (((lN 31) * (((lN 31) * (((lN 31) * (((lN 31) * y1) + x15.toInt64)) + x16.toInt64)) + x19.toInt64)) + x20.toInt64)) + x22.toInt64)) + x24.toInt64)) + x27))])  ⟨hx, hb, hml, hown, hts⟩ (met_J26_floatToIntBits l E G21 x29 _ hvc_76) (va_cwS 1 hts (lw_S q2272 q1424 q128 q1425) rfl rfl rfl (by decide +kernel) ⟨Nat.le_of_ble_eq_true rfl, Nat.le_of_ble_eq_true rfl⟩) (Nat.zero_le _) (Nat.zero_le _) (g_St0 E) hz trivial hK hG_77 hS_78 rfl hl_75.1 rfl (Nat.le_of_ble_eq_true rfl) dX3_digest_343 (fun x31 H locs hvc_79 hG_80 hS_81 => ?_)
                          clear hvc_76 hG_77 hS_78
                          refine lv_i2l (v := x31.toInt64) hx hb dX3_digest_346 rfl ?_
                          refine lv_ladd hx hb dX3_digest_347 ?_
                          refine lv_lstore_n (lv' := [(1, .long (((lN 31) * (((lN 31) * (((lN 31) * (((lN 31) * (((lN 31) * (((lN 31) * (((lN 31) * (((lN 31) * y1) + x15.toInt64)) + x16.toInt64)) + x19.toInt64)) + x20.toInt64)) + x22.toInt64)) + x24.toInt64)) + x27)) + x31.toInt64)), (0, .ref y0), (3, .int y3)]) hx hb dX3_digest_348 rfl hl_75 (by decide) rfl (fun ls hl_82 => ?_)
                          clear hl_75
                          refine lv_ldc2 (v := lN 31) hx hb hown (by exact hts _ q2262) dX3_digest_349 ?_
                          refine lv_ldc2 (v := lN 31) hx hb hown (by exact hts _ q2262) dX3_digest_352 ?_
                          refine lv_lload_n hx hb dX3_digest_355 rfl (lv_at hl_82 0 rfl) ?_
                          refine lv_lmul hx hb dX3_digest_356 ?_
                          refine lv_aload_n hx hb dX3_digest_357 rfl (lv_at hl_82 1 rfl) ?_
                          refine gw_gi (C := RX3) (T := TX3) (N := 13) (own := RX3) hx hb hts in_X3 hown hK hG_80 hvc_79 rfl (by decide) (hts _ q1789) (fun _ h9 => h9) dX3_digest_358 (fun x33 hvc_83 => ?_)
                          clear hvc_79
                          have jn369 : ∀ (y0 : Nat) (s0 : Int32) (s1 : Int64) (s2 : Int64) (G : g_G) (H : Heap) (locs : List Loc) (ls : Array Slot), wp_X3_digest_369 E post y0 s0 s1 s2 G → g_H E G H → va_S (g_A E) s.heap H locs → lv_has ls 5 [(0, .ref y0)] → W p l e ({ frames := 11, cells := 0, slots := 0, locals := 251 } : Room) s m ([.ref o] : List Value).toArray below meth c H locs 0 0 (MQ below (va_Ql (post) (g_Bk E) (g_A E)) ([.ref o] : List Value).toArray s 0 0 (g_A E)) (F0 m 369 ls [.int s0, .long s1, .long s2]) := by
                            clear hvc_83 hG_80 hS_81 hl_82
                            intro y0 s0 s1 s2 G H locs ls hvc_84 hG_85 hS_86 hl_87
                            refine lv_i2l (v := s0.toInt64) hx hb dX3_digest_369 rfl ?_
                            refine lv_ladd hx hb dX3_digest_370 ?_
                            refine lv_lmul hx hb dX3_digest_371 ?_
                            refine lv_aload_n hx hb dX3_digest_372 rfl (lv_at hl_87 0 rfl) ?_
                            refine gw_gi (C := RX3) (T := TX3) (N := 13) (own := RX3) hx hb hts in_X3 hown hK hG_85 hvc_84 rfl (by decide) (hts _ q1791) (fun _ h9 => h9) dX3_digest_373 (fun x34 hvc_88 => ?_)
                            clear hvc_84
                            refine lv_i2l (v := x34.toInt64) hx hb dX3_digest_376 rfl ?_
                            refine lv_ladd hx hb dX3_digest_377 ?_
                            refine lv_lstore_n (lv' := [(1, .long ((s2 * (s1 + s0.toInt64)) + x34.toInt64)), (0, .ref y0)]) hx hb dX3_digest_378 rfl hl_87 (by decide) rfl (fun ls hl_89 => ?_)
                            clear hl_87
                            refine lv_iconst (v := nI 0) hx hb dX3_digest_379 (by decide) ?_
                            have lp381 : ∀ (n381 : Nat) (y0 : Nat) (y1 : Int64) (y3 : Int32) (G : g_G) (H : Heap) (locs : List Loc) (ls : Array Slot), wp_X3_digest_381 E post n381 y0 y1 y3 G → g_H E G H → va_S (g_A E) s.heap H locs → lv_has ls 5 [(0, .ref y0), (1, .long y1), (3, .int y3)] → W p l e ({ frames := 11, cells := 0, slots := 0, locals := 251 } : Room) s m ([.ref o] : List Value).toArray below meth c H locs 0 0 (MQ below (va_Ql (post) (g_Bk E) (g_A E)) ([.ref o] : List Value).toArray s 0 0 (g_A E)) (F0 m 381 ls []) := by
                              clear hvc_88 hG_85 hS_86 hl_89
                              intro n381
                              induction n381 with
                              | zero =>
                                intro y0 y1 y3 G H locs ls hvc_90 hG_91 hS_92 hl_93
                                exact False.elim hvc_90
                              | succ n381 ih381 =>
                                intro y0 y1 y3 G H locs ls hvc_94 hG_95 hS_96 hl_97
                                refine lv_iload_n hx hb dX3_digest_381 rfl (lv_at hl_97 2 rfl) ?_
                                refine lv_aload_n hx hb dX3_digest_382 rfl (lv_at hl_97 0 rfl) ?_
                                refine gw_gi (C := RX3) (T := TX3) (N := 13) (own := RX3) hx hb hts in_X3 hown hK hG_95 hvc_94 rfl (by decide) (hts _ q1791) (fun _ h9 => h9) dX3_digest_383 (fun x35 hvc_98 => ?_)
                                clear hvc_94
                                refine lv_icmp_ge (tgt := 409) hx hb dX3_digest_386 (by decide) (fun h9 => ?_) (fun h9 => ?_)
                                · replace hvc_98 := hvc_98.1 h9
                                  refine lv_lload_n hx hb dX3_digest_409 rfl (lv_at hl_97 1 rfl) ?_
                                  exact g_lret hx hb hr hlocks (Nat.zero_le _) (Nat.zero_le _) hG_95 hS_96 hvc_98 dX3_digest_410
                                · replace hvc_98 := hvc_98.2 h9
                                  refine lv_ldc2 (v := lN 31) hx hb hown (by exact hts _ q2262) dX3_digest_389 ?_
                                  refine lv_lload_n hx hb dX3_digest_392 rfl (lv_at hl_97 1 rfl) ?_
                                  refine lv_lmul hx hb dX3_digest_393 ?_
                                  refine lv_aload_n hx hb dX3_digest_394 rfl (lv_at hl_97 0 rfl) ?_
                                  refine gw_gr (C := RX3) (T := TX3) (N := 13) (own := RX3) hx hb hts in_X3 hown hK hG_95 hvc_98 rfl (by decide) (hts _ q1790) (fun _ h9 => h9) dX3_digest_395 (fun x36 hvc_99 => ?_)
                                  clear hvc_98
                                  refine lv_iload_n hx hb dX3_digest_398 rfl (lv_at hl_97 2 rfl) ?_
                                  refine gw_ild hx hb hK hG_95 hvc_99 dX3_digest_399 (fun x37 hvc_100 => ?_)
                                  clear hvc_99
                                  refine lv_i2l (v := x37.toInt64) hx hb dX3_digest_400 rfl ?_
                                  refine lv_ladd hx hb dX3_digest_401 ?_
                                  refine lv_lstore_n (lv' := [(1, .long (((lN 31) * y1) + x37.toInt64)), (0, .ref y0), (3, .int y3)]) hx hb dX3_digest_402 rfl hl_97 (by decide) rfl (fun ls hl_101 => ?_)
                                  clear hl_97
                                  refine lv_iinc (k := 2) (v := y3 + (nI 1)) (lv' := [(3, .int (y3 + (nI 1))), (1, .long (((lN 31) * y1) + x37.toInt64)), (0, .ref y0)]) hx hb dX3_digest_403 hl_101 rfl (congrArg (y3 + ·) (by decide : Int32.ofInt (1) = nI 1)) (by decide) rfl (fun ls hl_102 => ?_)
                                  clear hl_101
                                  refine lv_goto (tgt := 381) hx hb dX3_digest_406 (by decide) ?_
                                  exact ih381 y0 (((lN 31) * y1) + x37.toInt64) (y3 + (nI 1)) G _ _ _ hvc_100 hG_95 hS_96 (lv_sub hl_102 [2, 1, 0] rfl)
                            refine lv_istore_n (lv' := [(3, .int (nI 0)), (1, .long ((s2 * (s1 + s0.toInt64)) + x34.toInt64)), (0, .ref y0)]) hx hb dX3_digest_380 rfl hl_89 (by decide) rfl (fun ls hl_103 => ?_)
                            clear hl_89
                            obtain ⟨nf381, hvc_88⟩ := hvc_88
                            exact lp381 nf381 y0 ((s2 * (s1 + s0.toInt64)) + x34.toInt64) (nI 0) G _ _ _ hvc_88 hG_85 hS_86 (lv_sub hl_103 [2, 1, 0] rfl)
                          refine lv_if_eq (tgt := 368) hx hb dX3_digest_361 (by decide) (fun h9 => ?_) (fun h9 => ?_)
                          · replace hvc_83 := hvc_83.1 h9
                            refine lv_iconst (v := nI 0) hx hb dX3_digest_368 (by decide) ?_
                            exact jn369 y0 (nI 0) ((lN 31) * (((lN 31) * (((lN 31) * (((lN 31) * (((lN 31) * (((lN 31) * (((lN 31) * (((lN 31) * (((lN 31) * y1) + x15.toInt64)) + x16.toInt64)) + x19.toInt64)) + x20.toInt64)) + x22.toInt64)) + x24.toInt64)) + x27)) + x31.toInt64)) (lN 31) G21 _ _ _ hvc_83 hG_80 hS_81 (lv_sub hl_82 [1] rfl)
                          · replace hvc_83 := hvc_83.2 h9
                            refine lv_iconst (v := nI 1) hx hb dX3_digest_364 (by decide) ?_
                            refine lv_goto (tgt := 369) hx hb dX3_digest_365 (by decide) ?_
                            exact jn369 y0 (nI 1) ((lN 31) * (((lN 31) * (((lN 31) * (((lN 31) * (((lN 31) * (((lN 31) * (((lN 31) * (((lN 31) * (((lN 31) * y1) + x15.toInt64)) + x16.toInt64)) + x19.toInt64)) + x20.toInt64)) + x22.toInt64)) + x24.toInt64)) + x27)) + x31.toInt64)) (lN 31) G21 _ _ _ hvc_83 hG_80 hS_81 (lv_sub hl_82 [1] rfl)
                        · replace hvc_52 := hvc_52.2 h9
                          refine lv_aload_n hx hb dX3_digest_182 rfl (lv_at hl_50 0 rfl) ?_
                          refine gw_gr (C := RX3) (T := TX3) (N := 13) (own := RX3) hx hb hts in_X3 hown hK hG_48 hvc_52 rfl (by decide) (hts _ q1784) (fun _ h9 => h9) dX3_digest_183 (fun x38 hvc_104 => ?_)
                          clear hvc_52
                          refine lv_sipush (v := nI 195) hx hb dX3_digest_186 (by decide) ?_
                          refine lv_iload_n hx hb dX3_digest_189 rfl (lv_at hl_50 2 rfl) ?_
                          refine lv_iadd hx hb dX3_digest_190 ?_
                          refine gw_ild hx hb hK hG_48 hvc_104 dX3_digest_191 (fun x39 hvc_105 => ?_)
                          clear hvc_104
                          refine lv_istore (lv' := [(4, .int x39), (0, .ref y0), (1, .long y1), (3, .int y3)]) hx hb dX3_digest_192 hl_50 (by decide) rfl (fun ls hl_106 => ?_)
                          clear hl_50
                          refine lv_ldc2 (v := lN 31) hx hb hown (by exact hts _ q2262) dX3_digest_194 ?_
                          refine lv_ldc2 (v := lN 31) hx hb hown (by exact hts _ q2262) dX3_digest_197 ?_
                          refine lv_ldc2 (v := lN 31) hx hb hown (by exact hts _ q2262) dX3_digest_200 ?_
                          refine lv_ldc2 (v := lN 31) hx hb hown (by exact hts _ q2262) dX3_digest_203 ?_
                          refine lv_lload_n hx hb dX3_digest_206 rfl (lv_at hl_106 2 rfl) ?_
                          refine lv_lmul hx hb dX3_digest_207 ?_
                          refine lv_iload hx hb dX3_digest_208 (lv_at hl_106 0 rfl) ?_
                          refine lv_bipush (v := nI 32) hx hb dX3_digest_210 (by decide) ?_
                          refine lv_idiv hx hb dX3_digest_212 (by decide) ?_
                          refine lv_i2l (v := (x39 / (nI 32)).toInt64) hx hb dX3_digest_213 rfl ?_
                          refine lv_ladd hx hb dX3_digest_214 ?_
                          refine lv_lmul hx hb dX3_digest_215 ?_
                          refine lv_iload hx hb dX3_digest_216 (lv_at hl_106 0 rfl) ?_
                          refine lv_iconst (v := nI 4) hx hb dX3_digest_218 (by decide) ?_
                          refine lv_idiv hx hb dX3_digest_219 (by decide) ?_
                          refine lv_bipush (v := nI 8) hx hb dX3_digest_220 (by decide) ?_
                          refine lv_irem hx hb dX3_digest_222 (by decide) ?_
                          refine lv_i2l (v := ((x39 / (nI 4)) - (x39 / (nI 4)) / (nI 8) * (nI 8)).toInt64) hx hb dX3_digest_223 rfl ?_
                          refine lv_ladd hx hb dX3_digest_224 ?_
                          refine lv_lmul hx hb dX3_digest_225 ?_
                          refine lv_iload hx hb dX3_digest_226 (lv_at hl_106 0 rfl) ?_
                          refine lv_iconst (v := nI 4) hx hb dX3_digest_228 (by decide) ?_
                          refine lv_irem hx hb dX3_digest_229 (by decide) ?_
                          refine lv_i2l (v := (x39 - x39 / (nI 4) * (nI 4)).toInt64) hx hb dX3_digest_230 rfl ?_
                          refine lv_ladd hx hb dX3_digest_231 ?_
                          refine lv_lmul hx hb dX3_digest_232 ?_
                          refine lv_aload_n hx hb dX3_digest_233 rfl (lv_at hl_106 1 rfl) ?_
                          refine lv_iload_n hx hb dX3_digest_234 rfl (lv_at hl_106 3 rfl) ?_
                          refine gw_cVIN (As := [.int y3]) (rest := [.long ((lN 31) * (((lN 31) * (((lN 31) * (((lN 31) * y1) + ((x39 / (nI 32)).toInt64))) + (((x39 / (nI 4)) - (x39 / (nI 4)) / (nI 8) * (nI 8)).toInt64))) + ((x39 - x39 / (nI 4) * (nI 4)).toInt64)))])  ⟨hx, hb, hml, hown, hts⟩ (met_X3_sendsBy l E G y0 y3 _ hvc_105.2) (cwV 1 hts (lw_V q2193 q2195 qs77 q104 q2196) rfl rfl rfl (by decide +kernel) ⟨Nat.le_of_ble_eq_true rfl, Nat.le_of_ble_eq_true rfl⟩) (gw_rc (q := (RX3, TX3, 13)) hK hG_48 hvc_105.1 rfl) (Nat.zero_le _) (Nat.zero_le _) (g_St0 E) hz trivial hK hG_48 hS_49 rfl hl_106.1 rfl (Nat.le_of_ble_eq_true rfl) dX3_digest_235 (fun x40 G41 H locs hvc_107 hG_108 hS_109 => ?_)
                          clear hvc_105 hG_48 hS_49
                          refine lv_i2l (v := x40.toInt64) hx hb dX3_digest_238 rfl ?_
                          refine lv_ladd hx hb dX3_digest_239 ?_
                          refine lv_lstore_n (lv' := [(1, .long (((lN 31) * (((lN 31) * (((lN 31) * (((lN 31) * y1) + ((x39 / (nI 32)).toInt64))) + (((x39 / (nI 4)) - (x39 / (nI 4)) / (nI 8) * (nI 8)).toInt64))) + ((x39 - x39 / (nI 4) * (nI 4)).toInt64))) + x40.toInt64)), (4, .int x39), (0, .ref y0), (3, .int y3)]) hx hb dX3_digest_240 rfl hl_106 (by decide) rfl (fun ls hl_110 => ?_)
                          clear hl_106
                          refine lv_iinc (k := 3) (v := y3 + (nI 1)) (lv' := [(3, .int (y3 + (nI 1))), (1, .long (((lN 31) * (((lN 31) * (((lN 31) * (((lN 31) * y1) + ((x39 / (nI 32)).toInt64))) + (((x39 / (nI 4)) - (x39 / (nI 4)) / (nI 8) * (nI 8)).toInt64))) + ((x39 - x39 / (nI 4) * (nI 4)).toInt64))) + x40.toInt64)), (4, .int x39), (0, .ref y0)]) hx hb dX3_digest_241 hl_110 rfl (congrArg (y3 + ·) (by decide : Int32.ofInt (1) = nI 1)) (by decide) rfl (fun ls hl_111 => ?_)
                          clear hl_110
                          refine lv_goto (tgt := 171) hx hb dX3_digest_244 (by decide) ?_
                          exact ih171 y0 (((lN 31) * (((lN 31) * (((lN 31) * (((lN 31) * y1) + ((x39 / (nI 32)).toInt64))) + (((x39 / (nI 4)) - (x39 / (nI 4)) / (nI 8) * (nI 8)).toInt64))) + ((x39 - x39 / (nI 4) * (nI 4)).toInt64))) + x40.toInt64) (y3 + (nI 1)) G41 _ _ _ hvc_107 hG_108 hS_109 (lv_sub hl_111 [3, 1, 0] rfl)
                    refine lv_istore_n (lv' := [(3, .int (nI 0)), (1, .long (((lN 31) * (((lN 31) * (((lN 31) * y1) + x6.toInt64)) + x8.toInt64)) + x11.toInt64)), (0, .ref y0)]) hx hb dX3_digest_170 rfl hl_42 (by decide) rfl (fun ls hl_112 => ?_)
                    clear hl_42
                    obtain ⟨nf171, hvc_41⟩ := hvc_41
                    exact lp171 nf171 y0 (((lN 31) * (((lN 31) * (((lN 31) * y1) + x6.toInt64)) + x8.toInt64)) + x11.toInt64) (nI 0) G _ _ _ hvc_41 hG_38 hS_39 (lv_sub hl_112 [2, 1, 0] rfl)
                  · replace hvc_30 := hvc_30.2 h9
                    refine lv_aload_n hx hb dX3_digest_121 rfl (lv_at hl_33 0 rfl) ?_
                    refine lv_lload_n hx hb dX3_digest_122 rfl (lv_at hl_33 1 rfl) ?_
                    refine lv_iload_n hx hb dX3_digest_123 rfl (lv_at hl_33 2 rfl) ?_
                    refine gw_cVLP (As := [.long y1, .int y3]) (rest := [])  ⟨hx, hb, hml, hown, hts⟩ (met_X3_digestSite l E G y0 y1 y3 _ hvc_30.2) (cwV 2 hts (lw_V q2267 q2269 qs88 q104 q2270) rfl rfl rfl (by decide +kernel) ⟨Nat.le_of_ble_eq_true rfl, Nat.le_of_ble_eq_true rfl⟩) (gw_rc (q := (RX3, TX3, 13)) hK hG_31 hvc_30.1 rfl) (Nat.zero_le _) (Nat.zero_le _) (g_St0 E) hz trivial hK hG_31 hS_32 rfl hl_33.1 rfl (Nat.le_of_ble_eq_true rfl) dX3_digest_124 (fun x42 H locs hvc_113 hG_114 hS_115 => ?_)
                    clear hvc_30 hG_31 hS_32
                    refine lv_lstore_n (lv' := [(1, .long x42), (0, .ref y0), (3, .int y3)]) hx hb dX3_digest_127 rfl hl_33 (by decide) rfl (fun ls hl_116 => ?_)
                    clear hl_33
                    refine lv_iinc (k := 2) (v := y3 + (nI 1)) (lv' := [(3, .int (y3 + (nI 1))), (1, .long x42), (0, .ref y0)]) hx hb dX3_digest_128 hl_116 rfl (congrArg (y3 + ·) (by decide : Int32.ofInt (1) = nI 1)) (by decide) rfl (fun ls hl_117 => ?_)
                    clear hl_116
                    refine lv_goto (tgt := 116) hx hb dX3_digest_131 (by decide) ?_
                    exact ih116 y0 x42 (y3 + (nI 1)) G _ _ _ hvc_113 hG_114 hS_115 (lv_sub hl_117 [2, 1, 0] rfl)
              refine lv_istore_n (lv' := [(3, .int (nI 0)), (0, .ref y0), (1, .long y1)]) hx hb dX3_digest_115 rfl hl_25 (by decide) rfl (fun ls hl_118 => ?_)
              clear hl_25
              obtain ⟨nf116, hvc_22⟩ := hvc_22
              exact lp116 nf116 y0 y1 (nI 0) G _ _ _ hvc_22 hG_23 hS_24 (lv_sub hl_118 [1, 2, 0] rfl)
            · replace hvc_22 := hvc_22.2 h9
              refine lv_ldc2 (v := lN 31) hx hb hown (by exact hts _ q2262) dX3_digest_57 ?_
              refine lv_ldc2 (v := lN 31) hx hb hown (by exact hts _ q2262) dX3_digest_60 ?_
              refine lv_lload_n hx hb dX3_digest_63 rfl (lv_at hl_25 1 rfl) ?_
              refine lv_lmul hx hb dX3_digest_64 ?_
              refine lv_aload_n hx hb dX3_digest_65 rfl (lv_at hl_25 0 rfl) ?_
              refine gw_gr (C := RX3) (T := TX3) (N := 13) (own := RX3) hx hb hts in_X3 hown hK hG_23 hvc_22 rfl (by decide) (hts _ q1784) (fun _ h9 => h9) dX3_digest_66 (fun x44 hvc_119 => ?_)
              clear hvc_22
              refine lv_iconst (v := nI 5) hx hb dX3_digest_69 (by decide) ?_
              refine lv_iload_n hx hb dX3_digest_70 rfl (lv_at hl_25 2 rfl) ?_
              refine lv_iadd hx hb dX3_digest_71 ?_
              refine gw_ild hx hb hK hG_23 hvc_119 dX3_digest_72 (fun x45 hvc_120 => ?_)
              clear hvc_119
              refine lv_i2l (v := x45.toInt64) hx hb dX3_digest_73 rfl ?_
              refine lv_ladd hx hb dX3_digest_74 ?_
              refine lv_lmul hx hb dX3_digest_75 ?_
              refine lv_aload_n hx hb dX3_digest_76 rfl (lv_at hl_25 0 rfl) ?_
              refine lv_iload_n hx hb dX3_digest_77 rfl (lv_at hl_25 2 rfl) ?_
              refine gw_cVIP (As := [.int y3]) (rest := [.long ((lN 31) * (((lN 31) * y1) + x45.toInt64))])  ⟨hx, hb, hml, hown, hts⟩ (met_X3_amountLogged l E G y0 y3 _ hvc_120.2) (cwV 1 hts (lw_V q2077 q2079 qs69 q104 q2080) rfl rfl rfl (by decide +kernel) ⟨Nat.le_of_ble_eq_true rfl, Nat.le_of_ble_eq_true rfl⟩) (gw_rc (q := (RX3, TX3, 13)) hK hG_23 hvc_120.1 rfl) (Nat.zero_le _) (Nat.zero_le _) (g_St0 E) hz trivial hK hG_23 hS_24 rfl hl_25.1 rfl (Nat.le_of_ble_eq_true rfl) dX3_digest_78 (fun x46 H locs hvc_121 hG_122 hS_123 => ?_)
              clear hvc_120 hG_23 hS_24
              refine lv_i2l (v := x46.toInt64) hx hb dX3_digest_81 rfl ?_
              refine lv_ladd hx hb dX3_digest_82 ?_
              refine lv_lstore_n (lv' := [(1, .long (((lN 31) * (((lN 31) * y1) + x45.toInt64)) + x46.toInt64)), (0, .ref y0), (3, .int y3)]) hx hb dX3_digest_83 rfl hl_25 (by decide) rfl (fun ls hl_124 => ?_)
              clear hl_25
              refine lv_ldc2 (v := lN 31) hx hb hown (by exact hts _ q2262) dX3_digest_84 ?_
              refine lv_ldc2 (v := lN 31) hx hb hown (by exact hts _ q2262) dX3_digest_87 ?_
              refine lv_lload_n hx hb dX3_digest_90 rfl (lv_at hl_124 0 rfl) ?_
              refine lv_lmul hx hb dX3_digest_91 ?_
              refine lv_aload_n hx hb dX3_digest_92 rfl (lv_at hl_124 1 rfl) ?_
              refine lv_iload_n hx hb dX3_digest_93 rfl (lv_at hl_124 2 rfl) ?_
              refine gw_cVIP (As := [.int y3]) (rest := [.long ((lN 31) * (((lN 31) * (((lN 31) * y1) + x45.toInt64)) + x46.toInt64)), .long (lN 31)])  ⟨hx, hb, hml, hown, hts⟩ (met_X3_doubts l E G y0 y3 _ hvc_121.2) (cwV 1 hts (lw_V q2097 q2099 qs71 q104 q2100) rfl rfl rfl (by decide +kernel) ⟨Nat.le_of_ble_eq_true rfl, Nat.le_of_ble_eq_true rfl⟩) (gw_rc (q := (RX3, TX3, 13)) hK hG_122 hvc_121.1 rfl) (Nat.zero_le _) (Nat.zero_le _) (g_St0 E) hz trivial hK hG_122 hS_123 rfl hl_124.1 rfl (Nat.le_of_ble_eq_true rfl) dX3_digest_94 (fun x48 H locs hvc_125 hG_126 hS_127 => ?_)
              clear hvc_121 hG_122 hS_123
              refine lv_i2l (v := x48.toInt64) hx hb dX3_digest_97 rfl ?_
              refine lv_ladd hx hb dX3_digest_98 ?_
              refine lv_lmul hx hb dX3_digest_99 ?_
              refine lv_aload_n hx hb dX3_digest_100 rfl (lv_at hl_124 1 rfl) ?_
              refine lv_iload_n hx hb dX3_digest_101 rfl (lv_at hl_124 2 rfl) ?_
              refine gw_cVIN (As := [.int y3]) (rest := [.long ((lN 31) * (((lN 31) * (((lN 31) * (((lN 31) * y1) + x45.toInt64)) + x46.toInt64)) + x48.toInt64))])  ⟨hx, hb, hml, hown, hts⟩ (met_X3_settledAmount l E G y0 y3 _ hvc_125.2) (cwV 1 hts (lw_V q2229 q2231 qs83 q104 q2232) rfl rfl rfl (by decide +kernel) ⟨Nat.le_of_ble_eq_true rfl, Nat.le_of_ble_eq_true rfl⟩) (gw_rc (q := (RX3, TX3, 13)) hK hG_126 hvc_125.1 rfl) (Nat.zero_le _) (Nat.zero_le _) (g_St0 E) hz trivial hK hG_126 hS_127 rfl hl_124.1 rfl (Nat.le_of_ble_eq_true rfl) dX3_digest_102 (fun x50 G51 H locs hvc_128 hG_129 hS_130 => ?_)
              clear hvc_125 hG_126 hS_127
              refine lv_i2l (v := x50.toInt64) hx hb dX3_digest_105 rfl ?_
              refine lv_ladd hx hb dX3_digest_106 ?_
              refine lv_lstore_n (lv' := [(1, .long (((lN 31) * (((lN 31) * (((lN 31) * (((lN 31) * y1) + x45.toInt64)) + x46.toInt64)) + x48.toInt64)) + x50.toInt64)), (0, .ref y0), (3, .int y3)]) hx hb dX3_digest_107 rfl hl_124 (by decide) rfl (fun ls hl_131 => ?_)
              clear hl_124
              refine lv_iinc (k := 2) (v := y3 + (nI 1)) (lv' := [(3, .int (y3 + (nI 1))), (1, .long (((lN 31) * (((lN 31) * (((lN 31) * (((lN 31) * y1) + x45.toInt64)) + x46.toInt64)) + x48.toInt64)) + x50.toInt64)), (0, .ref y0)]) hx hb dX3_digest_108 hl_131 rfl (congrArg (y3 + ·) (by decide : Int32.ofInt (1) = nI 1)) (by decide) rfl (fun ls hl_132 => ?_)
              clear hl_131
              refine lv_goto (tgt := 52) hx hb dX3_digest_111 (by decide) ?_
              exact ih52 y0 (((lN 31) * (((lN 31) * (((lN 31) * (((lN 31) * y1) + x45.toInt64)) + x46.toInt64)) + x48.toInt64)) + x50.toInt64) (y3 + (nI 1)) G51 _ _ _ hvc_128 hG_129 hS_130 (lv_sub hl_132 [2, 1, 0] rfl)
        refine lv_istore_n (lv' := [(3, .int (nI 0)), (0, .ref y0), (1, .long y1)]) hx hb dX3_digest_51 rfl hl_15 (by decide) rfl (fun ls hl_133 => ?_)
        clear hl_15
        obtain ⟨nf52, hvc_17⟩ := hvc_17
        exact lp52 nf52 y0 y1 (nI 0) G _ _ _ hvc_17 hG_13 hS_14 (lv_sub hl_133 [1, 2, 0] rfl)
      · replace hvc_17 := hvc_17.2 h9
        refine lv_aload_n hx hb dX3_digest_37 rfl (lv_at hl_15 0 rfl) ?_
        refine lv_lload_n hx hb dX3_digest_38 rfl (lv_at hl_15 1 rfl) ?_
        refine lv_iload_n hx hb dX3_digest_39 rfl (lv_at hl_15 2 rfl) ?_
        refine gw_cVLN (As := [.long y1, .int y3]) (rest := [])  ⟨hx, hb, hml, hown, hts⟩ (met_X3_digestTransfer l E G y0 y1 y3 _ hvc_17.2) (cwV 2 hts (lw_V q2263 q2265 qs87 q104 q2266) rfl rfl rfl (by decide +kernel) ⟨Nat.le_of_ble_eq_true rfl, Nat.le_of_ble_eq_true rfl⟩) (gw_rc (q := (RX3, TX3, 13)) hK hG_13 hvc_17.1 rfl) (Nat.zero_le _) (Nat.zero_le _) (g_St0 E) hz trivial hK hG_13 hS_14 rfl hl_15.1 rfl (Nat.le_of_ble_eq_true rfl) dX3_digest_40 (fun x52 G53 H locs hvc_134 hG_135 hS_136 => ?_)
        clear hvc_17 hG_13 hS_14
        refine lv_lstore_n (lv' := [(1, .long x52), (0, .ref y0), (3, .int y3)]) hx hb dX3_digest_43 rfl hl_15 (by decide) rfl (fun ls hl_137 => ?_)
        clear hl_15
        refine lv_iinc (k := 2) (v := y3 + (nI 1)) (lv' := [(3, .int (y3 + (nI 1))), (1, .long x52), (0, .ref y0)]) hx hb dX3_digest_44 hl_137 rfl (congrArg (y3 + ·) (by decide : Int32.ofInt (1) = nI 1)) (by decide) rfl (fun ls hl_138 => ?_)
        clear hl_137
        refine lv_goto (tgt := 26) hx hb dX3_digest_47 (by decide) ?_
        exact ih26 y0 x52 (y3 + (nI 1)) G53 _ _ _ hvc_134 hG_135 hS_136 (lv_sub hl_138 [2, 1, 0] rfl)
  refine lv_istore_n (lv' := [(3, .int (nI 0)), (1, .long (((lN 31) * (lN 4219)) + x3.toInt64)), (0, .ref o)]) hx hb dX3_digest_25 rfl hl_7 (by decide) rfl (fun ls hl_139 => ?_)
  clear hl_7
  obtain ⟨nf26, hvc_6⟩ := hvc_6
  exact lp26 nf26 o (((lN 31) * (lN 4219)) + x3.toInt64) (nI 0) G1 _ _ _ hvc_6 hG_2 hS_3 (lv_sub hl_139 [2, 1, 0] rfl)
