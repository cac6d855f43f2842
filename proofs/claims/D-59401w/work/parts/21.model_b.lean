/-! printed by tools/gen.py -/
set_option maxHeartbeats 4000000 in
set_option maxRecDepth 100000 in
theorem met_X3_canTake (l : Launch) (E : g_E) (G : g_G) (o : Nat) (p1 : Int32) (p2 : Int32) (post : Int32 → Prop) (hvc : wp_X3_canTake E G o p1 p2 post) : g_MI E l yX3_canTake (ws_ yX3_canTake cX3_canTake 6 (Option.some Jvm.ClassFile.FieldType.boolean)) ({ frames := 3, cells := 0, slots := 0, locals := 68 } : Room) (fun _ => True) [.ref o, .int p1, .int p2] G (fun v G9 => G9 = G ∧ post v) := by
  refine g_enter (by decide +kernel) (Nat.le_of_ble_eq_true rfl) ?_
  intro p e s m below meth c ls hx hb hr hts hown hlocks hml hin hz hX hK hG hS hl
  have hl : lv_has ls 6 [(0, .ref o), (1, .int p1), (2, .int p2)] := hl
  have hown : s.vm.findClass RX3 = some m.cls := hown
  unfold wp_X3_canTake at hvc
  refine lv_aload_n hx hb dX3_canTake_0 rfl (lv_at hl 0 rfl) ?_
  refine gw_gr (C := RX3) (T := TX3) (N := 13) (own := RX3) hx hb hts in_X3 hown hK hG hvc rfl (by decide) (hts _ q1784) (fun _ h9 => h9) dX3_canTake_1 (fun x1 hvc_1 => ?_)
  clear hvc
  refine lv_iconst (v := nI 5) hx hb dX3_canTake_4 (by decide) ?_
  refine lv_iload_n hx hb dX3_canTake_5 rfl (lv_at hl 1 rfl) ?_
  refine lv_iadd hx hb dX3_canTake_6 ?_
  refine gw_ild hx hb hK hG hvc_1 dX3_canTake_7 (fun x2 hvc_2 => ?_)
  clear hvc_1
  refine lv_iload_n hx hb dX3_canTake_8 rfl (lv_at hl 2 rfl) ?_
  refine lv_iadd hx hb dX3_canTake_9 ?_
  refine lv_istore_n (lv' := [(3, .int (x2 + p2)), (0, .ref o), (1, .int p1), (2, .int p2)]) hx hb dX3_canTake_10 rfl hl (by decide) rfl (fun ls hl_3 => ?_)
  clear hl
  refine lv_iconst (v := nI 0) hx hb dX3_canTake_11 (by decide) ?_
  have lp14 : ∀ (n14 : Nat) (y0 : Nat) (y1 : Int32) (y2 : Int32) (y3 : Int32) (y4 : Int32) (H : Heap) (locs : List Loc) (ls : Array Slot), wp_X3_canTake_14 E G post n14 y0 y1 y2 y3 y4 → g_H E G H → va_S (g_A E) s.heap H locs → lv_has ls 6 [(0, .ref y0), (1, .int y1), (2, .int y2), (3, .int y3), (4, .int y4)] → W p l e ({ frames := 3, cells := 0, slots := 0, locals := 68 } : Room) s m ([.ref o, .int p1, .int p2] : List Value).toArray below meth c H locs 0 0 (MQ below (va_Qi (fun v G9 => G9 = G ∧ post v) (g_Bk E) (g_A E)) ([.ref o, .int p1, .int p2] : List Value).toArray s 0 0 (g_A E)) (F0 m 14 ls []) := by
    clear hvc_2 hG hS hl_3
    intro n14
    induction n14 with
    | zero =>
      intro y0 y1 y2 y3 y4 H locs ls hvc_4 hG_5 hS_6 hl_7
      exact False.elim hvc_4
    | succ n14 ih14 =>
      intro y0 y1 y2 y3 y4 H locs ls hvc_8 hG_9 hS_10 hl_11
      refine lv_iload hx hb dX3_canTake_14 (lv_at hl_11 4 rfl) ?_
      refine lv_aload_n hx hb dX3_canTake_16 rfl (lv_at hl_11 0 rfl) ?_
      refine gw_gr (C := RX3) (T := TX3) (N := 13) (own := RX3) hx hb hts in_X3 hown hK hG_9 hvc_8 rfl (by decide) (hts _ q1784) (fun _ h9 => h9) dX3_canTake_17 (fun x3 hvc_12 => ?_)
      clear hvc_8
      refine lv_bipush (v := nI 9) hx hb dX3_canTake_20 (by decide) ?_
      refine gw_ild hx hb hK hG_9 hvc_12 dX3_canTake_22 (fun x4 hvc_13 => ?_)
      clear hvc_12
      refine lv_icmp_ge (tgt := 83) hx hb dX3_canTake_23 (by decide) (fun h9 => ?_) (fun h9 => ?_)
      · replace hvc_13 := hvc_13.1 h9
        refine lv_iload_n hx hb dX3_canTake_83 rfl (lv_at hl_11 3 rfl) ?_
        refine lv_iconst (v := nI 0) hx hb dX3_canTake_84 (by decide) ?_
        refine lv_sipush (v := nI 999) hx hb dX3_canTake_85 (by decide) ?_
        refine gw_cSIP (As := [.int y3, .int (nI 0), .int (nI 999)]) (rest := [])  ⟨hx, hb, hml, hown, hts⟩ (met_X3_in l E G y3 (nI 0) (nI 999) _ hvc_13) (va_cwS 3 hts (lw_S q1834 q1835 q104 q1836) rfl rfl rfl (by decide +kernel) ⟨Nat.le_of_ble_eq_true rfl, Nat.le_of_ble_eq_true rfl⟩) (Nat.zero_le _) (Nat.zero_le _) (g_St0 E) hz trivial hK hG_9 hS_10 rfl hl_11.1 rfl (Nat.le_of_ble_eq_true rfl) dX3_canTake_88 (fun x5 H locs hvc_14 hG_15 hS_16 => ?_)
        clear hvc_13 hG_9 hS_10
        exact g_iret hx hb hr hlocks (Nat.zero_le _) (Nat.zero_le _) hG_15 hS_16 hvc_14.1 ⟨rfl, hvc_14.2⟩ dX3_canTake_91
      · replace hvc_13 := hvc_13.2 h9
        refine lv_aload_n hx hb dX3_canTake_26 rfl (lv_at hl_11 0 rfl) ?_
        refine lv_iload_n hx hb dX3_canTake_27 rfl (lv_at hl_11 1 rfl) ?_
        refine lv_iload hx hb dX3_canTake_28 (lv_at hl_11 4 rfl) ?_
        refine gw_cVIP (As := [.int y1, .int y4]) (rest := [])  ⟨hx, hb, hml, hown, hts⟩ (met_X3_stateIn l E G y0 y1 y4 _ hvc_13.2) (cwV 2 hts (lw_V q1904 q1906 qs47 q104 q1907) rfl rfl rfl (by decide +kernel) ⟨Nat.le_of_ble_eq_true rfl, Nat.le_of_ble_eq_true rfl⟩) (gw_rc (q := (RX3, TX3, 13)) hK hG_9 hvc_13.1 rfl) (Nat.zero_le _) (Nat.zero_le _) (g_St0 E) hz trivial hK hG_9 hS_10 rfl hl_11.1 rfl (Nat.le_of_ble_eq_true rfl) dX3_canTake_30 (fun x7 H locs hvc_17 hG_18 hS_19 => ?_)
        clear hvc_13 hG_9 hS_10
        refine lv_iconst (v := nI 1) hx hb dX3_canTake_33 (by decide) ?_
        have jn48 : ∀ (y0 : Nat) (y1 : Int32) (y2 : Int32) (y3 : Int32) (y4 : Int32) (s0 : Int32) (H : Heap) (locs : List Loc) (ls : Array Slot), wp_X3_canTake_48 E G post (wp_X3_canTake_14 E G post n14) y0 y1 y2 y3 y4 s0 → g_H E G H → va_S (g_A E) s.heap H locs → lv_has ls 6 [(0, .ref y0), (1, .int y1), (2, .int y2), (3, .int y3), (4, .int y4)] → W p l e ({ frames := 3, cells := 0, slots := 0, locals := 68 } : Room) s m ([.ref o, .int p1, .int p2] : List Value).toArray below meth c H locs 0 0 (MQ below (va_Qi (fun v G9 => G9 = G ∧ post v) (g_Bk E) (g_A E)) ([.ref o, .int p1, .int p2] : List Value).toArray s 0 0 (g_A E)) (F0 m 48 ls [.int s0]) := by
          clear hvc_17 hG_18 hS_19 hl_11
          intro y0 y1 y2 y3 y4 s0 H locs ls hvc_20 hG_21 hS_22 hl_23
          refine lv_istore (lv' := [(5, .int s0), (0, .ref y0), (1, .int y1), (2, .int y2), (3, .int y3), (4, .int y4)]) hx hb dX3_canTake_48 hl_23 (by decide) rfl (fun ls hl_24 => ?_)
          clear hl_23
          refine lv_iload_n hx hb dX3_canTake_50 rfl (lv_at hl_24 4 rfl) ?_
          refine lv_iload_n hx hb dX3_canTake_51 rfl (lv_at hl_24 3 rfl) ?_
          have jn75 : ∀ (y0 : Nat) (y1 : Int32) (y2 : Int32) (y4 : Int32) (s0 : Int32) (s1 : Int32) (H : Heap) (locs : List Loc) (ls : Array Slot), wp_X3_canTake_75 E G post (wp_X3_canTake_14 E G post n14) y0 y1 y2 y4 s0 s1 → g_H E G H → va_S (g_A E) s.heap H locs → lv_has ls 6 [(0, .ref y0), (1, .int y1), (2, .int y2), (4, .int y4)] → W p l e ({ frames := 3, cells := 0, slots := 0, locals := 68 } : Room) s m ([.ref o, .int p1, .int p2] : List Value).toArray below meth c H locs 0 0 (MQ below (va_Qi (fun v G9 => G9 = G ∧ post v) (g_Bk E) (g_A E)) ([.ref o, .int p1, .int p2] : List Value).toArray s 0 0 (g_A E)) (F0 m 75 ls [.int s0, .int s1]) := by
            clear hvc_20 hG_21 hS_22 hl_24
            intro y0 y1 y2 y4 s0 s1 H locs ls hvc_25 hG_26 hS_27 hl_28
            refine lv_iadd hx hb dX3_canTake_75 ?_
            refine lv_istore_n (lv' := [(3, .int (s1 + s0)), (0, .ref y0), (1, .int y1), (2, .int y2), (4, .int y4)]) hx hb dX3_canTake_76 rfl hl_28 (by decide) rfl (fun ls hl_29 => ?_)
            clear hl_28
            refine lv_iinc (k := 4) (v := y4 + (nI 1)) (lv' := [(4, .int (y4 + (nI 1))), (3, .int (s1 + s0)), (0, .ref y0), (1, .int y1), (2, .int y2)]) hx hb dX3_canTake_77 hl_29 rfl (congrArg (y4 + ·) (by decide : Int32.ofInt (1) = nI 1)) (by decide) rfl (fun ls hl_30 => ?_)
            clear hl_29
            refine lv_goto (tgt := 14) hx hb dX3_canTake_80 (by decide) ?_
            exact ih14 y0 y1 y2 (s1 + s0) (y4 + (nI 1)) _ _ _ hvc_25 hG_26 hS_27 (lv_sub hl_30 [2, 3, 4, 1, 0] rfl)
          have jn69 : ∀ (y0 : Nat) (y1 : Int32) (y2 : Int32) (y4 : Int32) (y5 : Int32) (s0 : Int32) (H : Heap) (locs : List Loc) (ls : Array Slot), wp_X3_canTake_69 E G post (wp_X3_canTake_75 E G post (wp_X3_canTake_14 E G post n14)) y0 y1 y2 y4 y5 s0 → g_H E G H → va_S (g_A E) s.heap H locs → lv_has ls 6 [(0, .ref y0), (1, .int y1), (2, .int y2), (4, .int y4), (5, .int y5)] → W p l e ({ frames := 3, cells := 0, slots := 0, locals := 68 } : Room) s m ([.ref o, .int p1, .int p2] : List Value).toArray below meth c H locs 0 0 (MQ below (va_Qi (fun v G9 => G9 = G ∧ post v) (g_Bk E) (g_A E)) ([.ref o, .int p1, .int p2] : List Value).toArray s 0 0 (g_A E)) (F0 m 69 ls [.int s0]) := by
            clear hvc_20 hG_21 hS_22 hl_24
            intro y0 y1 y2 y4 y5 s0 H locs ls hvc_31 hG_32 hS_33 hl_34
            refine lv_iload hx hb dX3_canTake_69 (lv_at hl_34 4 rfl) ?_
            refine lv_goto (tgt := 75) hx hb dX3_canTake_71 (by decide) ?_
            exact jn75 y0 y1 y2 y4 y5 s0 _ _ _ hvc_31 hG_32 hS_33 (lv_sub hl_34 [0, 1, 2, 3] rfl)
          have jn60 : ∀ (y0 : Nat) (y1 : Int32) (y2 : Int32) (y4 : Int32) (y5 : Int32) (s0 : Int32) (H : Heap) (locs : List Loc) (ls : Array Slot), wp_X3_canTake_60 E G post (wp_X3_canTake_69 E G post (wp_X3_canTake_75 E G post (wp_X3_canTake_14 E G post n14))) (wp_X3_canTake_75 E G post (wp_X3_canTake_14 E G post n14)) y0 y1 y2 y4 y5 s0 → g_H E G H → va_S (g_A E) s.heap H locs → lv_has ls 6 [(0, .ref y0), (1, .int y1), (2, .int y2), (4, .int y4), (5, .int y5)] → W p l e ({ frames := 3, cells := 0, slots := 0, locals := 68 } : Room) s m ([.ref o, .int p1, .int p2] : List Value).toArray below meth c H locs 0 0 (MQ below (va_Qi (fun v G9 => G9 = G ∧ post v) (g_Bk E) (g_A E)) ([.ref o, .int p1, .int p2] : List Value).toArray s 0 0 (g_A E)) (F0 m 60 ls [.int s0]) := by
            clear hvc_20 hG_21 hS_22 hl_24
            intro y0 y1 y2 y4 y5 s0 H locs ls hvc_35 hG_36 hS_37 hl_38
            refine lv_iload_n hx hb dX3_canTake_60 rfl (lv_at hl_38 2 rfl) ?_
            have jn74 : ∀ (y0 : Nat) (y1 : Int32) (y2 : Int32) (y4 : Int32) (s0 : Int32) (H : Heap) (locs : List Loc) (ls : Array Slot), wp_X3_canTake_74 E G post (wp_X3_canTake_75 E G post (wp_X3_canTake_14 E G post n14)) y0 y1 y2 y4 s0 → g_H E G H → va_S (g_A E) s.heap H locs → lv_has ls 6 [(0, .ref y0), (1, .int y1), (2, .int y2), (4, .int y4)] → W p l e ({ frames := 3, cells := 0, slots := 0, locals := 68 } : Room) s m ([.ref o, .int p1, .int p2] : List Value).toArray below meth c H locs 0 0 (MQ below (va_Qi (fun v G9 => G9 = G ∧ post v) (g_Bk E) (g_A E)) ([.ref o, .int p1, .int p2] : List Value).toArray s 0 0 (g_A E)) (F0 m 74 ls [.int s0]) := by
              clear hvc_35 hG_36 hS_37 hl_38
              intro y0 y1 y2 y4 s0 H locs ls hvc_39 hG_40 hS_41 hl_42
              refine lv_iconst (v := nI 0) hx hb dX3_canTake_74 (by decide) ?_
              exact jn75 y0 y1 y2 y4 (nI 0) s0 _ _ _ hvc_39 hG_40 hS_41 (lv_sub hl_42 [0, 1, 2, 3] rfl)
            refine lv_if_le (tgt := 74) hx hb dX3_canTake_61 (by decide) (fun h9 => ?_) (fun h9 => ?_)
            · replace hvc_35 := hvc_35.1 h9
              exact jn74 y0 y1 y2 y4 s0 _ _ _ hvc_35 hG_36 hS_37 (lv_sub hl_38 [0, 1, 2, 3] rfl)
            · replace hvc_35 := hvc_35.2 h9
              refine lv_iload hx hb dX3_canTake_64 (lv_at hl_38 4 rfl) ?_
              refine lv_if_le (tgt := 74) hx hb dX3_canTake_66 (by decide) (fun h9 => ?_) (fun h9 => ?_)
              · replace hvc_35 := hvc_35.1 h9
                exact jn74 y0 y1 y2 y4 s0 _ _ _ hvc_35 hG_36 hS_37 (lv_sub hl_38 [0, 1, 2, 3] rfl)
              · replace hvc_35 := hvc_35.2 h9
                exact jn69 y0 y1 y2 y4 y5 s0 _ _ _ hvc_35 hG_36 hS_37 (lv_sub hl_38 [0, 1, 2, 3, 4] rfl)
          refine lv_if_ge (tgt := 60) hx hb dX3_canTake_52 (by decide) (fun h9 => ?_) (fun h9 => ?_)
          · replace hvc_20 := hvc_20.1 h9
            exact jn60 y0 y1 y2 y4 s0 y3 _ _ _ hvc_20 hG_21 hS_22 (lv_sub hl_24 [1, 2, 3, 5, 0] rfl)
          · replace hvc_20 := hvc_20.2 h9
            refine lv_iload hx hb dX3_canTake_55 (lv_at hl_24 0 rfl) ?_
            refine lv_if_lt (tgt := 69) hx hb dX3_canTake_57 (by decide) (fun h9 => ?_) (fun h9 => ?_)
            · replace hvc_20 := hvc_20.1 h9
              exact jn69 y0 y1 y2 y4 s0 y3 _ _ _ hvc_20 hG_21 hS_22 (lv_sub hl_24 [1, 2, 3, 5, 0] rfl)
            · replace hvc_20 := hvc_20.2 h9
              exact jn60 y0 y1 y2 y4 s0 y3 _ _ _ hvc_20 hG_21 hS_22 (lv_sub hl_24 [1, 2, 3, 5, 0] rfl)
        refine lv_icmp_ne (tgt := 47) hx hb dX3_canTake_34 (by decide) (fun h9 => ?_) (fun h9 => ?_)
        · replace hvc_17 := hvc_17.1 h9
          refine lv_iconst (v := nI 0) hx hb dX3_canTake_47 (by decide) ?_
          exact jn48 y0 y1 y2 y3 y4 (nI 0) _ _ _ hvc_17 hG_18 hS_19 (lv_sub hl_11 [0, 1, 2, 3, 4] rfl)
        · replace hvc_17 := hvc_17.2 h9
          refine lv_aload_n hx hb dX3_canTake_37 rfl (lv_at hl_11 0 rfl) ?_
          refine lv_iload hx hb dX3_canTake_38 (lv_at hl_11 4 rfl) ?_
          refine lv_iload_n hx hb dX3_canTake_40 rfl (lv_at hl_11 1 rfl) ?_
          refine gw_cVIP (As := [.int y4, .int y1]) (rest := [])  ⟨hx, hb, hml, hown, hts⟩ (met_X3_shareIn l E G y0 y4 y1 _ hvc_17.2) (cwV 2 hts (lw_V q1935 q1937 qs53 q104 q1938) rfl rfl rfl (by decide +kernel) ⟨Nat.le_of_ble_eq_true rfl, Nat.le_of_ble_eq_true rfl⟩) (gw_rc (q := (RX3, TX3, 13)) hK hG_18 hvc_17.1 rfl) (Nat.zero_le _) (Nat.zero_le _) (g_St0 E) hz trivial hK hG_18 hS_19 rfl hl_11.1 rfl (Nat.le_of_ble_eq_true rfl) dX3_canTake_41 (fun x9 H locs hvc_43 hG_44 hS_45 => ?_)
          clear hvc_17 hG_18 hS_19
          refine lv_goto (tgt := 48) hx hb dX3_canTake_44 (by decide) ?_
          exact jn48 y0 y1 y2 y3 y4 x9 _ _ _ hvc_43 hG_44 hS_45 (lv_sub hl_11 [0, 1, 2, 3, 4] rfl)
  refine lv_istore (lv' := [(4, .int (nI 0)), (3, .int (x2 + p2)), (0, .ref o), (1, .int p1), (2, .int p2)]) hx hb dX3_canTake_12 hl_3 (by decide) rfl (fun ls hl_46 => ?_)
  clear hl_3
  obtain ⟨nf14, hvc_2⟩ := hvc_2
  exact lp14 nf14 o p1 p2 (x2 + p2) (nI 0) _ _ _ hvc_2 hG hS (lv_sub hl_46 [2, 3, 4, 1, 0] rfl)
set_option maxHeartbeats 4000000 in
set_option maxRecDepth 100000 in
theorem met_X3_becomes (l : Launch) (E : g_E) (G : g_G) (o : Nat) (p1 : Int32) (p2 : Int32) (p3 : Int32) (post : g_G → Prop) (hvc : wp_X3_becomes E G o p1 p2 p3 post) : g_MV E l yX3_becomes (ws_ yX3_becomes cX3_becomes 4 (Option.none : Option Jvm.ClassFile.FieldType)) ({ frames := 3, cells := 0, slots := 0, locals := 68 } : Room) (fun _ => True) [.ref o, .int p1, .int p2, .int p3] G (post) := by
  refine g_enter (by decide +kernel) (Nat.le_of_ble_eq_true rfl) ?_
  intro p e s m below meth c ls hx hb hr hts hown hlocks hml hin hz hX hK hG hS hl
  have hl : lv_has ls 4 [(0, .ref o), (1, .int p1), (2, .int p2), (3, .int p3)] := hl
  have hown : s.vm.findClass RX3 = some m.cls := hown
  unfold wp_X3_becomes at hvc
  refine lv_aload_n hx hb dX3_becomes_0 rfl (lv_at hl 0 rfl) ?_
  refine gw_gr (C := RX3) (T := TX3) (N := 13) (own := RX3) hx hb hts in_X3 hown hK hG hvc rfl (by decide) (hts _ q1784) (fun _ h9 => h9) dX3_becomes_1 (fun x1 hvc_1 => ?_)
  clear hvc
  refine lv_bipush (v := nI 70) hx hb dX3_becomes_4 (by decide) ?_
  refine lv_bipush (v := nI 8) hx hb dX3_becomes_6 (by decide) ?_
  refine lv_iload_n hx hb dX3_becomes_8 rfl (lv_at hl 1 rfl) ?_
  refine lv_imul hx hb dX3_becomes_9 ?_
  refine lv_iadd hx hb dX3_becomes_10 ?_
  refine lv_iload_n hx hb dX3_becomes_11 rfl (lv_at hl 2 rfl) ?_
  refine lv_iadd hx hb dX3_becomes_12 ?_
  refine lv_iload_n hx hb dX3_becomes_13 rfl (lv_at hl 3 rfl) ?_
  refine gw_ist hx hb hK hG hS hvc_1 dX3_becomes_14 (fun G2 H locs hvc_2 hG_3 hS_4 => ?_)
  clear hvc_1 hG hS
  refine lv_aload_n hx hb dX3_becomes_15 rfl (lv_at hl 0 rfl) ?_
  refine lv_iload_n hx hb dX3_becomes_16 rfl (lv_at hl 1 rfl) ?_
  refine lv_iload_n hx hb dX3_becomes_17 rfl (lv_at hl 3 rfl) ?_
  refine lv_iconst (v := nI 1) hx hb dX3_becomes_18 (by decide) ?_
  have jn29 : ∀ (y0 : Nat) (y1 : Int32) (y2 : Int32) (y3 : Int32) (s0 : Int32) (s1 : Int32) (s2 : Nat) (G : g_G) (H : Heap) (locs : List Loc) (ls : Array Slot), wp_X3_becomes_29 E post y0 y1 y2 y3 s0 s1 s2 G → g_H E G H → va_S (g_A E) s.heap H locs → lv_has ls 4 [(0, .ref y0), (1, .int y1), (2, .int y2), (3, .int y3)] → W p l e ({ frames := 3, cells := 0, slots := 0, locals := 68 } : Room) s m ([.ref o, .int p1, .int p2, .int p3] : List Value).toArray below meth c H locs 0 0 (MQ below (va_Qv (post) (g_Bk E) (g_A E)) ([.ref o, .int p1, .int p2, .int p3] : List Value).toArray s 0 0 (g_A E)) (F0 m 29 ls [.int s0, .int s1, .ref s2]) := by
    clear hvc_2 hG_3 hS_4 hl
    intro y0 y1 y2 y3 s0 s1 s2 G H locs ls hvc_5 hG_6 hS_7 hl_8
    refine lv_iload_n hx hb dX3_becomes_29 rfl (lv_at hl_8 2 rfl) ?_
    refine gw_cVVN (As := [.int s1, .int s0, .int y2]) (rest := [])  ⟨hx, hb, hml, hown, hts⟩ (met_X3_writes l E G s2 s1 s0 y2 _ hvc_5.2) (cwV 3 hts (lw_V q1860 q1862 qs38 q104 q1863) rfl rfl rfl (by decide +kernel) ⟨Nat.le_of_ble_eq_true rfl, Nat.le_of_ble_eq_true rfl⟩) (gw_rc (q := (RX3, TX3, 13)) hK hG_6 hvc_5.1 rfl) (Nat.zero_le _) (Nat.zero_le _) (g_St0 E) hz trivial hK hG_6 hS_7 rfl hl_8.1 rfl (Nat.le_of_ble_eq_true rfl) dX3_becomes_30 (fun G4 H locs hvc_9 hG_10 hS_11 => ?_)
    clear hvc_5 hG_6 hS_7
    refine lv_aload_n hx hb dX3_becomes_33 rfl (lv_at hl_8 0 rfl) ?_
    refine gw_gr (C := RX3) (T := TX3) (N := 13) (own := RX3) hx hb hts in_X3 hown hK hG_10 hvc_9 rfl (by decide) (hts _ q1784) (fun _ h9 => h9) dX3_becomes_34 (fun x5 hvc_12 => ?_)
    clear hvc_9
    refine lv_iconst (v := nI 5) hx hb dX3_becomes_37 (by decide) ?_
    refine lv_iload_n hx hb dX3_becomes_38 rfl (lv_at hl_8 1 rfl) ?_
    refine lv_iadd hx hb dX3_becomes_39 ?_
    refine lv_dup2_11 hx hb dX3_becomes_40 rfl rfl ?_
    refine gw_ild hx hb hK hG_10 hvc_12 dX3_becomes_41 (fun x6 hvc_13 => ?_)
    clear hvc_12
    refine lv_iload_n hx hb dX3_becomes_42 rfl (lv_at hl_8 3 rfl) ?_
    refine lv_iconst (v := nI 2) hx hb dX3_becomes_43 (by decide) ?_
    refine lv_icmp_ne (tgt := 56) hx hb dX3_becomes_44 (by decide) (fun h9 => ?_) (fun h9 => ?_)
    · replace hvc_13 := hvc_13.1 h9
      refine lv_iconst (v := nI 0) hx hb dX3_becomes_56 (by decide) ?_
      refine lv_iadd hx hb dX3_becomes_57 ?_
      refine gw_ist hx hb hK hG_10 hS_11 hvc_13 dX3_becomes_58 (fun G7 H locs hvc_14 hG_15 hS_16 => ?_)
      clear hvc_13 hG_10 hS_11
      exact g_vret hx hb hr hlocks (Nat.zero_le _) (Nat.zero_le _) hG_15 hS_16 hvc_14 dX3_becomes_59
    · replace hvc_13 := hvc_13.2 h9
      refine lv_aload_n hx hb dX3_becomes_47 rfl (lv_at hl_8 0 rfl) ?_
      refine lv_iload_n hx hb dX3_becomes_48 rfl (lv_at hl_8 2 rfl) ?_
      refine lv_iload_n hx hb dX3_becomes_49 rfl (lv_at hl_8 1 rfl) ?_
      refine gw_cVIP (As := [.int y2, .int y1]) (rest := [.int x6, .int ((nI 5) + y1), .ref x5])  ⟨hx, hb, hml, hown, hts⟩ (met_X3_shareIn l E G4 y0 y2 y1 _ hvc_13.2) (cwV 2 hts (lw_V q1935 q1937 qs53 q104 q1938) rfl rfl rfl (by decide +kernel) ⟨Nat.le_of_ble_eq_true rfl, Nat.le_of_ble_eq_true rfl⟩) (gw_rc (q := (RX3, TX3, 13)) hK hG_10 hvc_13.1 rfl) (Nat.zero_le _) (Nat.zero_le _) (g_St0 E) hz trivial hK hG_10 hS_11 rfl hl_8.1 rfl (Nat.le_of_ble_eq_true rfl) dX3_becomes_50 (fun x8 H locs hvc_17 hG_18 hS_19 => ?_)
      clear hvc_13 hG_10 hS_11
      refine lv_goto (tgt := 57) hx hb dX3_becomes_53 (by decide) ?_
      refine lv_iadd hx hb dX3_becomes_57 ?_
      refine gw_ist hx hb hK hG_18 hS_19 hvc_17 dX3_becomes_58 (fun G10 H locs hvc_20 hG_21 hS_22 => ?_)
      clear hvc_17 hG_18 hS_19
      exact g_vret hx hb hr hlocks (Nat.zero_le _) (Nat.zero_le _) hG_21 hS_22 hvc_20 dX3_becomes_59
  refine lv_icmp_ne (tgt := 26) hx hb dX3_becomes_19 (by decide) (fun h9 => ?_) (fun h9 => ?_)
  · replace hvc_2 := hvc_2.1 h9
    refine lv_iload_n hx hb dX3_becomes_26 rfl (lv_at hl 3 rfl) ?_
    refine lv_iconst (v := nI 1) hx hb dX3_becomes_27 (by decide) ?_
    refine lv_isub hx hb dX3_becomes_28 ?_
    exact jn29 o p1 p2 p3 (p3 - (nI 1)) p1 o G2 _ _ _ hvc_2 hG_3 hS_4 (lv_sub hl [0, 1, 2, 3] rfl)
  · replace hvc_2 := hvc_2.2 h9
    refine lv_iconst (v := nI 4) hx hb dX3_becomes_22 (by decide) ?_
    refine lv_goto (tgt := 29) hx hb dX3_becomes_23 (by decide) ?_
    exact jn29 o p1 p2 p3 (nI 4) p1 o G2 _ _ _ hvc_2 hG_3 hS_4 (lv_sub hl [0, 1, 2, 3] rfl)
set_option maxHeartbeats 4000000 in
set_option maxRecDepth 100000 in
theorem met_X3_atStore (l : Launch) (E : g_E) (G : g_G) (o : Nat) (p1 : Int32) (p2 : Int32) (p3 : Int32) (post : g_G → Prop) (hvc : wp_X3_atStore E G o p1 p2 p3 post) : g_MV E l yX3_atStore (ws_ yX3_atStore cX3_atStore 5 (Option.none : Option Jvm.ClassFile.FieldType)) ({ frames := 4, cells := 0, slots := 0, locals := 93 } : Room) (fun _ => True) [.ref o, .int p1, .int p2, .int p3] G (post) := by
  refine g_enter (by decide +kernel) (Nat.le_of_ble_eq_true rfl) ?_
  intro p e s m below meth c ls hx hb hr hts hown hlocks hml hin hz hX hK hG hS hl
  have hl : lv_has ls 5 [(0, .ref o), (1, .int p1), (2, .int p2), (3, .int p3)] := hl
  have hown : s.vm.findClass RX3 = some m.cls := hown
  unfold wp_X3_atStore at hvc
  refine lv_aload_n hx hb dX3_atStore_0 rfl (lv_at hl 0 rfl) ?_
  refine lv_iload_n hx hb dX3_atStore_1 rfl (lv_at hl 3 rfl) ?_
  refine lv_iload_n hx hb dX3_atStore_2 rfl (lv_at hl 2 rfl) ?_
  refine gw_cVIP (As := [.int p3, .int p2]) (rest := [])  ⟨hx, hb, hml, hown, hts⟩ (met_X3_stateIn l E G o p3 p2 _ hvc.2) (cwV 2 hts (lw_V q1904 q1906 qs47 q104 q1907) rfl rfl rfl (by decide +kernel) ⟨Nat.le_of_ble_eq_true rfl, Nat.le_of_ble_eq_true rfl⟩) (gw_rc (q := (RX3, TX3, 13)) hK hG hvc.1 rfl) (Nat.zero_le _) (Nat.zero_le _) (g_St0 E) hz trivial hK hG hS rfl hl.1 rfl (Nat.le_of_ble_eq_true rfl) dX3_atStore_3 (fun x1 H locs hvc_1 hG_2 hS_3 => ?_)
  clear hvc hG hS
  refine lv_istore (lv' := [(4, .int x1), (0, .ref o), (1, .int p1), (2, .int p2), (3, .int p3)]) hx hb dX3_atStore_6 hl (by decide) rfl (fun ls hl_4 => ?_)
  clear hl
  refine lv_iload_n hx hb dX3_atStore_8 rfl (lv_at hl_4 2 rfl) ?_
  refine lv_if_ne (tgt := 66) hx hb dX3_atStore_9 (by decide) (fun h9 => ?_) (fun h9 => ?_)
  · replace hvc_1 := hvc_1.1 h9
    refine lv_iload_n hx hb dX3_atStore_66 rfl (lv_at hl_4 2 rfl) ?_
    refine lv_iconst (v := nI 3) hx hb dX3_atStore_67 (by decide) ?_
    refine lv_icmp_ne (tgt := 106) hx hb dX3_atStore_68 (by decide) (fun h9 => ?_) (fun h9 => ?_)
    · replace hvc_1 := hvc_1.1 h9
      refine lv_iload hx hb dX3_atStore_106 (lv_at hl_4 0 rfl) ?_
      refine lv_iconst (v := nI 2) hx hb dX3_atStore_108 (by decide) ?_
      have jn119 : ∀ (y0 : Nat) (y2 : Int32) (y3 : Int32) (y4 : Int32) (G : g_G) (H : Heap) (locs : List Loc) (ls : Array Slot), wp_X3_atStore_119 E post y0 y2 y3 y4 G → g_H E G H → va_S (g_A E) s.heap H locs → lv_has ls 5 [(0, .ref y0), (2, .int y2), (3, .int y3), (4, .int y4)] → W p l e ({ frames := 4, cells := 0, slots := 0, locals := 93 } : Room) s m ([.ref o, .int p1, .int p2, .int p3] : List Value).toArray below meth c H locs 0 0 (MQ below (va_Qv (post) (g_Bk E) (g_A E)) ([.ref o, .int p1, .int p2, .int p3] : List Value).toArray s 0 0 (g_A E)) (F0 m 119 ls []) := by
        clear hvc_1 hG_2 hS_3 hl_4
        intro y0 y2 y3 y4 G H locs ls hvc_5 hG_6 hS_7 hl_8
        refine lv_iload hx hb dX3_atStore_119 (lv_at hl_8 3 rfl) ?_
        refine lv_iconst (v := nI 2) hx hb dX3_atStore_121 (by decide) ?_
        refine lv_icmp_eq (tgt := 132) hx hb dX3_atStore_122 (by decide) (fun h9 => ?_) (fun h9 => ?_)
        · replace hvc_5 := hvc_5.1 h9
          exact g_vret hx hb hr hlocks (Nat.zero_le _) (Nat.zero_le _) hG_6 hS_7 hvc_5 dX3_atStore_132
        · replace hvc_5 := hvc_5.2 h9
          refine lv_aload_n hx hb dX3_atStore_125 rfl (lv_at hl_8 0 rfl) ?_
          refine lv_iconst (v := nI 5) hx hb dX3_atStore_126 (by decide) ?_
          refine lv_iload_n hx hb dX3_atStore_127 rfl (lv_at hl_8 1 rfl) ?_
          refine lv_iload_n hx hb dX3_atStore_128 rfl (lv_at hl_8 2 rfl) ?_
          refine gw_cVVN (As := [.int (nI 5), .int y2, .int y3]) (rest := [])  ⟨hx, hb, hml, hown, hts⟩ (met_X3_sends l E G y0 (nI 5) y2 y3 _ hvc_5.2) (cwV 3 hts (lw_V q1876 q1878 qs42 q104 q1879) rfl rfl rfl (by decide +kernel) ⟨Nat.le_of_ble_eq_true rfl, Nat.le_of_ble_eq_true rfl⟩) (gw_rc (q := (RX3, TX3, 13)) hK hG_6 hvc_5.1 rfl) (Nat.zero_le _) (Nat.zero_le _) (g_St0 E) hz trivial hK hG_6 hS_7 rfl hl_8.1 rfl (Nat.le_of_ble_eq_true rfl) dX3_atStore_129 (fun G4 H locs hvc_9 hG_10 hS_11 => ?_)
          clear hvc_5 hG_6 hS_7
          exact g_vret hx hb hr hlocks (Nat.zero_le _) (Nat.zero_le _) hG_10 hS_11 hvc_9 dX3_atStore_132
      refine lv_icmp_ge (tgt := 119) hx hb dX3_atStore_109 (by decide) (fun h9 => ?_) (fun h9 => ?_)
      · replace hvc_1 := hvc_1.1 h9
        exact jn119 o p2 p3 x1 G _ _ _ hvc_1 hG_2 hS_3 (lv_sub hl_4 [1, 3, 4, 0] rfl)
      · replace hvc_1 := hvc_1.2 h9
        refine lv_aload_n hx hb dX3_atStore_112 rfl (lv_at hl_4 1 rfl) ?_
        refine lv_iload_n hx hb dX3_atStore_113 rfl (lv_at hl_4 4 rfl) ?_
        refine lv_iload_n hx hb dX3_atStore_114 rfl (lv_at hl_4 3 rfl) ?_
        refine lv_iconst (v := nI 3) hx hb dX3_atStore_115 (by decide) ?_
        refine gw_cVVN (As := [.int p3, .int p2, .int (nI 3)]) (rest := [])  ⟨hx, hb, hml, hown, hts⟩ (met_X3_becomes l E G o p3 p2 (nI 3) _ hvc_1.2) (cwV 3 hts (lw_V q1949 q1951 qs55 q104 q1952) rfl rfl rfl (by decide +kernel) ⟨Nat.le_of_ble_eq_true rfl, Nat.le_of_ble_eq_true rfl⟩) (gw_rc (q := (RX3, TX3, 13)) hK hG_2 hvc_1.1 rfl) (Nat.zero_le _) (Nat.zero_le _) (g_St0 E) hz trivial hK hG_2 hS_3 rfl hl_4.1 rfl (Nat.le_of_ble_eq_true rfl) dX3_atStore_116 (fun G6 H locs hvc_12 hG_13 hS_14 => ?_)
        clear hvc_1 hG_2 hS_3
        exact jn119 o p2 p3 x1 G6 _ _ _ hvc_12 hG_13 hS_14 (lv_sub hl_4 [1, 3, 4, 0] rfl)
    · replace hvc_1 := hvc_1.2 h9
      refine lv_iload hx hb dX3_atStore_71 (lv_at hl_4 0 rfl) ?_
      refine lv_iconst (v := nI 1) hx hb dX3_atStore_73 (by decide) ?_
      have jn84 : ∀ (y0 : Nat) (y2 : Int32) (y3 : Int32) (y4 : Int32) (G : g_G) (H : Heap) (locs : List Loc) (ls : Array Slot), wp_X3_atStore_84 E post y0 y2 y3 y4 G → g_H E G H → va_S (g_A E) s.heap H locs → lv_has ls 5 [(0, .ref y0), (2, .int y2), (3, .int y3), (4, .int y4)] → W p l e ({ frames := 4, cells := 0, slots := 0, locals := 93 } : Room) s m ([.ref o, .int p1, .int p2, .int p3] : List Value).toArray below meth c H locs 0 0 (MQ below (va_Qv (post) (g_Bk E) (g_A E)) ([.ref o, .int p1, .int p2, .int p3] : List Value).toArray s 0 0 (g_A E)) (F0 m 84 ls []) := by
        clear hvc_1 hG_2 hS_3 hl_4
        intro y0 y2 y3 y4 G H locs ls hvc_15 hG_16 hS_17 hl_18
        refine lv_iload hx hb dX3_atStore_84 (lv_at hl_18 3 rfl) ?_
        refine lv_iconst (v := nI 1) hx hb dX3_atStore_86 (by decide) ?_
        have jn96 : ∀ (y0 : Nat) (y2 : Int32) (y3 : Int32) (G : g_G) (H : Heap) (locs : List Loc) (ls : Array Slot), wp_X3_atStore_96 E post y0 y2 y3 G → g_H E G H → va_S (g_A E) s.heap H locs → lv_has ls 5 [(0, .ref y0), (2, .int y2), (3, .int y3)] → W p l e ({ frames := 4, cells := 0, slots := 0, locals := 93 } : Room) s m ([.ref o, .int p1, .int p2, .int p3] : List Value).toArray below meth c H locs 0 0 (MQ below (va_Qv (post) (g_Bk E) (g_A E)) ([.ref o, .int p1, .int p2, .int p3] : List Value).toArray s 0 0 (g_A E)) (F0 m 96 ls []) := by
          clear hvc_15 hG_16 hS_17 hl_18
          intro y0 y2 y3 G H locs ls hvc_19 hG_20 hS_21 hl_22
          refine lv_aload_n hx hb dX3_atStore_96 rfl (lv_at hl_22 0 rfl) ?_
          refine lv_iconst (v := nI 5) hx hb dX3_atStore_97 (by decide) ?_
          refine lv_iload_n hx hb dX3_atStore_98 rfl (lv_at hl_22 1 rfl) ?_
          refine lv_iload_n hx hb dX3_atStore_99 rfl (lv_at hl_22 2 rfl) ?_
          refine gw_cVVN (As := [.int (nI 5), .int y2, .int y3]) (rest := [])  ⟨hx, hb, hml, hown, hts⟩ (met_X3_sends l E G y0 (nI 5) y2 y3 _ hvc_19.2) (cwV 3 hts (lw_V q1876 q1878 qs42 q104 q1879) rfl rfl rfl (by decide +kernel) ⟨Nat.le_of_ble_eq_true rfl, Nat.le_of_ble_eq_true rfl⟩) (gw_rc (q := (RX3, TX3, 13)) hK hG_20 hvc_19.1 rfl) (Nat.zero_le _) (Nat.zero_le _) (g_St0 E) hz trivial hK hG_20 hS_21 rfl hl_22.1 rfl (Nat.le_of_ble_eq_true rfl) dX3_atStore_100 (fun G8 H locs hvc_23 hG_24 hS_25 => ?_)
          clear hvc_19 hG_20 hS_21
          refine lv_goto (tgt := 132) hx hb dX3_atStore_103 (by decide) ?_
          exact g_vret hx hb hr hlocks (Nat.zero_le _) (Nat.zero_le _) hG_24 hS_25 hvc_23 dX3_atStore_132
        refine lv_icmp_eq (tgt := 96) hx hb dX3_atStore_87 (by decide) (fun h9 => ?_) (fun h9 => ?_)
        · replace hvc_15 := hvc_15.1 h9
          exact jn96 y0 y2 y3 G _ _ _ hvc_15 hG_16 hS_17 (lv_sub hl_18 [0, 1, 2] rfl)
        · replace hvc_15 := hvc_15.2 h9
          refine lv_iload hx hb dX3_atStore_90 (lv_at hl_18 3 rfl) ?_
          refine lv_iconst (v := nI 2) hx hb dX3_atStore_92 (by decide) ?_
          refine lv_icmp_ne (tgt := 132) hx hb dX3_atStore_93 (by decide) (fun h9 => ?_) (fun h9 => ?_)
          · replace hvc_15 := hvc_15.1 h9
            exact g_vret hx hb hr hlocks (Nat.zero_le _) (Nat.zero_le _) hG_16 hS_17 hvc_15 dX3_atStore_132
          · replace hvc_15 := hvc_15.2 h9
            exact jn96 y0 y2 y3 G _ _ _ hvc_15 hG_16 hS_17 (lv_sub hl_18 [0, 1, 2] rfl)
      refine lv_icmp_ne (tgt := 84) hx hb dX3_atStore_74 (by decide) (fun h9 => ?_) (fun h9 => ?_)
      · replace hvc_1 := hvc_1.1 h9
        exact jn84 o p2 p3 x1 G _ _ _ hvc_1 hG_2 hS_3 (lv_sub hl_4 [1, 3, 4, 0] rfl)
      · replace hvc_1 := hvc_1.2 h9
        refine lv_aload_n hx hb dX3_atStore_77 rfl (lv_at hl_4 1 rfl) ?_
        refine lv_iload_n hx hb dX3_atStore_78 rfl (lv_at hl_4 4 rfl) ?_
        refine lv_iload_n hx hb dX3_atStore_79 rfl (lv_at hl_4 3 rfl) ?_
        refine lv_iconst (v := nI 2) hx hb dX3_atStore_80 (by decide) ?_
        refine gw_cVVN (As := [.int p3, .int p2, .int (nI 2)]) (rest := [])  ⟨hx, hb, hml, hown, hts⟩ (met_X3_becomes l E G o p3 p2 (nI 2) _ hvc_1.2) (cwV 3 hts (lw_V q1949 q1951 qs55 q104 q1952) rfl rfl rfl (by decide +kernel) ⟨Nat.le_of_ble_eq_true rfl, Nat.le_of_ble_eq_true rfl⟩) (gw_rc (q := (RX3, TX3, 13)) hK hG_2 hvc_1.1 rfl) (Nat.zero_le _) (Nat.zero_le _) (g_St0 E) hz trivial hK hG_2 hS_3 rfl hl_4.1 rfl (Nat.le_of_ble_eq_true rfl) dX3_atStore_81 (fun G10 H locs hvc_26 hG_27 hS_28 => ?_)
        clear hvc_1 hG_2 hS_3
        exact jn84 o p2 p3 x1 G10 _ _ _ hvc_26 hG_27 hS_28 (lv_sub hl_4 [1, 3, 4, 0] rfl)
  · replace hvc_1 := hvc_1.2 h9
    refine lv_iload hx hb dX3_atStore_12 (lv_at hl_4 0 rfl) ?_
    have jn46 : ∀ (y0 : Nat) (y2 : Int32) (y3 : Int32) (y4 : Int32) (G : g_G) (H : Heap) (locs : List Loc) (ls : Array Slot), wp_X3_atStore_46 E post y0 y2 y3 y4 G → g_H E G H → va_S (g_A E) s.heap H locs → lv_has ls 5 [(0, .ref y0), (2, .int y2), (3, .int y3), (4, .int y4)] → W p l e ({ frames := 4, cells := 0, slots := 0, locals := 93 } : Room) s m ([.ref o, .int p1, .int p2, .int p3] : List Value).toArray below meth c H locs 0 0 (MQ below (va_Qv (post) (g_Bk E) (g_A E)) ([.ref o, .int p1, .int p2, .int p3] : List Value).toArray s 0 0 (g_A E)) (F0 m 46 ls []) := by
      clear hvc_1 hG_2 hS_3 hl_4
      intro y0 y2 y3 y4 G H locs ls hvc_29 hG_30 hS_31 hl_32
      refine lv_aload_n hx hb dX3_atStore_46 rfl (lv_at hl_32 0 rfl) ?_
      refine lv_iload hx hb dX3_atStore_47 (lv_at hl_32 3 rfl) ?_
      refine lv_iconst (v := nI 3) hx hb dX3_atStore_49 (by decide) ?_
      have jn58 : ∀ (y2 : Int32) (y3 : Int32) (s0 : Int32) (s1 : Nat) (G : g_G) (H : Heap) (locs : List Loc) (ls : Array Slot), wp_X3_atStore_58 E post y2 y3 s0 s1 G → g_H E G H → va_S (g_A E) s.heap H locs → lv_has ls 5 [(2, .int y2), (3, .int y3)] → W p l e ({ frames := 4, cells := 0, slots := 0, locals := 93 } : Room) s m ([.ref o, .int p1, .int p2, .int p3] : List Value).toArray below meth c H locs 0 0 (MQ below (va_Qv (post) (g_Bk E) (g_A E)) ([.ref o, .int p1, .int p2, .int p3] : List Value).toArray s 0 0 (g_A E)) (F0 m 58 ls [.int s0, .ref s1]) := by
        clear hvc_29 hG_30 hS_31 hl_32
        intro y2 y3 s0 s1 G H locs ls hvc_33 hG_34 hS_35 hl_36
        refine lv_iload_n hx hb dX3_atStore_58 rfl (lv_at hl_36 0 rfl) ?_
        refine lv_iload_n hx hb dX3_atStore_59 rfl (lv_at hl_36 1 rfl) ?_
        refine gw_cVVN (As := [.int s0, .int y2, .int y3]) (rest := [])  ⟨hx, hb, hml, hown, hts⟩ (met_X3_sends l E G s1 s0 y2 y3 _ hvc_33.2) (cwV 3 hts (lw_V q1876 q1878 qs42 q104 q1879) rfl rfl rfl (by decide +kernel) ⟨Nat.le_of_ble_eq_true rfl, Nat.le_of_ble_eq_true rfl⟩) (gw_rc (q := (RX3, TX3, 13)) hK hG_34 hvc_33.1 rfl) (Nat.zero_le _) (Nat.zero_le _) (g_St0 E) hz trivial hK hG_34 hS_35 rfl hl_36.1 rfl (Nat.le_of_ble_eq_true rfl) dX3_atStore_60 (fun G12 H locs hvc_37 hG_38 hS_39 => ?_)
        clear hvc_33 hG_34 hS_35
        refine lv_goto (tgt := 132) hx hb dX3_atStore_63 (by decide) ?_
        exact g_vret hx hb hr hlocks (Nat.zero_le _) (Nat.zero_le _) hG_38 hS_39 hvc_37 dX3_atStore_132
      refine lv_icmp_ne (tgt := 57) hx hb dX3_atStore_50 (by decide) (fun h9 => ?_) (fun h9 => ?_)
      · replace hvc_29 := hvc_29.1 h9
        refine lv_iconst (v := nI 1) hx hb dX3_atStore_57 (by decide) ?_
        exact jn58 y2 y3 (nI 1) y0 G _ _ _ hvc_29 hG_30 hS_31 (lv_sub hl_32 [1, 2] rfl)
      · replace hvc_29 := hvc_29.2 h9
        refine lv_iconst (v := nI 2) hx hb dX3_atStore_53 (by decide) ?_
        refine lv_goto (tgt := 58) hx hb dX3_atStore_54 (by decide) ?_
        exact jn58 y2 y3 (nI 2) y0 G _ _ _ hvc_29 hG_30 hS_31 (lv_sub hl_32 [1, 2] rfl)
    refine lv_if_ne (tgt := 46) hx hb dX3_atStore_14 (by decide) (fun h9 => ?_) (fun h9 => ?_)
    · replace hvc_1 := hvc_1.1 h9
      exact jn46 o p2 p3 x1 G _ _ _ hvc_1 hG_2 hS_3 (lv_sub hl_4 [1, 3, 4, 0] rfl)
    · replace hvc_1 := hvc_1.2 h9
      refine lv_aload_n hx hb dX3_atStore_17 rfl (lv_at hl_4 1 rfl) ?_
      refine lv_iload_n hx hb dX3_atStore_18 rfl (lv_at hl_4 4 rfl) ?_
      refine lv_aload_n hx hb dX3_atStore_19 rfl (lv_at hl_4 1 rfl) ?_
      refine lv_iload_n hx hb dX3_atStore_20 rfl (lv_at hl_4 3 rfl) ?_
      refine lv_iload_n hx hb dX3_atStore_21 rfl (lv_at hl_4 4 rfl) ?_
      refine gw_cVIP (As := [.int p2, .int p3]) (rest := [.int p3, .ref o])  ⟨hx, hb, hml, hown, hts⟩ (met_X3_shareIn l E G o p2 p3 _ hvc_1.2) (cwV 2 hts (lw_V q1935 q1937 qs53 q104 q1938) rfl rfl rfl (by decide +kernel) ⟨Nat.le_of_ble_eq_true rfl, Nat.le_of_ble_eq_true rfl⟩) (gw_rc (q := (RX3, TX3, 13)) hK hG_2 hvc_1.1 rfl) (Nat.zero_le _) (Nat.zero_le _) (g_St0 E) hz trivial hK hG_2 hS_3 rfl hl_4.1 rfl (Nat.le_of_ble_eq_true rfl) dX3_atStore_22 (fun x13 H locs hvc_40 hG_41 hS_42 => ?_)
      clear hvc_1 hG_2 hS_3
      refine gw_cVIP (As := [.int p3, .int x13]) (rest := [])  ⟨hx, hb, hml, hown, hts⟩ (met_X3_canTake l E G o p3 x13 _ hvc_40.2) (cwV 2 hts (lw_V q1945 q1947 qs54 q104 q1948) rfl rfl rfl (by decide +kernel) ⟨Nat.le_of_ble_eq_true rfl, Nat.le_of_ble_eq_true rfl⟩) (gw_rc (q := (RX3, TX3, 13)) hK hG_41 hvc_40.1 rfl) (Nat.zero_le _) (Nat.zero_le _) (g_St0 E) hz trivial hK hG_41 hS_42 rfl hl_4.1 rfl (Nat.le_of_ble_eq_true rfl) dX3_atStore_25 (fun x15 H locs hvc_43 hG_44 hS_45 => ?_)
      clear hvc_40 hG_41 hS_42
      have jn36 : ∀ (y0 : Nat) (y2 : Int32) (y3 : Int32) (s0 : Int32) (G : g_G) (H : Heap) (locs : List Loc) (ls : Array Slot), wp_X3_atStore_36 E post (wp_X3_atStore_46 E post) y0 y2 y3 s0 G → g_H E G H → va_S (g_A E) s.heap H locs → lv_has ls 5 [(0, .ref y0), (2, .int y2), (3, .int y3)] → W p l e ({ frames := 4, cells := 0, slots := 0, locals := 93 } : Room) s m ([.ref o, .int p1, .int p2, .int p3] : List Value).toArray below meth c H locs 0 0 (MQ below (va_Qv (post) (g_Bk E) (g_A E)) ([.ref o, .int p1, .int p2, .int p3] : List Value).toArray s 0 0 (g_A E)) (F0 m 36 ls [.int s0]) := by
        clear hvc_43 hG_44 hS_45 hl_4
        intro y0 y2 y3 s0 G H locs ls hvc_46 hG_47 hS_48 hl_49
        refine lv_istore (lv' := [(4, .int s0), (0, .ref y0), (2, .int y2), (3, .int y3)]) hx hb dX3_atStore_36 hl_49 (by decide) rfl (fun ls hl_50 => ?_)
        clear hl_49
        refine lv_aload_n hx hb dX3_atStore_38 rfl (lv_at hl_50 1 rfl) ?_
        refine lv_iload_n hx hb dX3_atStore_39 rfl (lv_at hl_50 3 rfl) ?_
        refine lv_iload_n hx hb dX3_atStore_40 rfl (lv_at hl_50 2 rfl) ?_
        refine lv_iload hx hb dX3_atStore_41 (lv_at hl_50 0 rfl) ?_
        refine gw_cVVN (As := [.int y3, .int y2, .int s0]) (rest := [])  ⟨hx, hb, hml, hown, hts⟩ (met_X3_becomes l E G y0 y3 y2 s0 _ hvc_46.2) (cwV 3 hts (lw_V q1949 q1951 qs55 q104 q1952) rfl rfl rfl (by decide +kernel) ⟨Nat.le_of_ble_eq_true rfl, Nat.le_of_ble_eq_true rfl⟩) (gw_rc (q := (RX3, TX3, 13)) hK hG_47 hvc_46.1 rfl) (Nat.zero_le _) (Nat.zero_le _) (g_St0 E) hz trivial hK hG_47 hS_48 rfl hl_50.1 rfl (Nat.le_of_ble_eq_true rfl) dX3_atStore_43 (fun G18 H locs hvc_51 hG_52 hS_53 => ?_)
        clear hvc_46 hG_47 hS_48
        exact jn46 y0 y2 y3 s0 G18 _ _ _ hvc_51 hG_52 hS_53 (lv_sub hl_50 [1, 2, 3, 0] rfl)
      refine lv_if_eq (tgt := 35) hx hb dX3_atStore_28 (by decide) (fun h9 => ?_) (fun h9 => ?_)
      · replace hvc_43 := hvc_43.1 h9
        refine lv_iconst (v := nI 3) hx hb dX3_atStore_35 (by decide) ?_
        exact jn36 o p2 p3 (nI 3) G _ _ _ hvc_43 hG_44 hS_45 (lv_sub hl_4 [1, 3, 4] rfl)
      · replace hvc_43 := hvc_43.2 h9
        refine lv_iconst (v := nI 1) hx hb dX3_atStore_31 (by decide) ?_
        refine lv_goto (tgt := 36) hx hb dX3_atStore_32 (by decide) ?_
        exact jn36 o p2 p3 (nI 1) G _ _ _ hvc_43 hG_44 hS_45 (lv_sub hl_4 [1, 3, 4] rfl)
set_option maxHeartbeats 4000000 in
set_option maxRecDepth 100000 in
theorem met_X3_atClerk (l : Launch) (E : g_E) (G : g_G) (o : Nat) (p1 : Int32) (p2 : Int32) (p3 : Int32) (post : g_G → Prop) (hvc : wp_X3_atClerk E G o p1 p2 p3 post) : g_MV E l yX3_atClerk (ws_ yX3_atClerk cX3_atClerk 5 (Option.none : Option Jvm.ClassFile.FieldType)) ({ frames := 4, cells := 0, slots := 0, locals := 88 } : Room) (fun _ => True) [.ref o, .int p1, .int p2, .int p3] G (post) := by
  refine g_enter (by decide +kernel) (Nat.le_of_ble_eq_true rfl) ?_
  intro p e s m below meth c ls hx hb hr hts hown hlocks hml hin hz hX hK hG hS hl
  have hl : lv_has ls 5 [(0, .ref o), (1, .int p1), (2, .int p2), (3, .int p3)] := hl
  have hown : s.vm.findClass RX3 = some m.cls := hown
  unfold wp_X3_atClerk at hvc
  refine lv_aload_n hx hb dX3_atClerk_0 rfl (lv_at hl 0 rfl) ?_
  refine lv_iload_n hx hb dX3_atClerk_1 rfl (lv_at hl 2 rfl) ?_
  refine lv_iconst (v := nI 5) hx hb dX3_atClerk_2 (by decide) ?_
  refine gw_cVIP (As := [.int p2, .int (nI 5)]) (rest := [])  ⟨hx, hb, hml, hown, hts⟩ (met_X3_of l E G o p2 (nI 5) _ hvc.2) (cwV 2 hts (lw_V q1872 q1874 qs41 q104 q1875) rfl rfl rfl (by decide +kernel) ⟨Nat.le_of_ble_eq_true rfl, Nat.le_of_ble_eq_true rfl⟩) (gw_rc (q := (RX3, TX3, 13)) hK hG hvc.1 rfl) (Nat.zero_le _) (Nat.zero_le _) (g_St0 E) hz trivial hK hG hS rfl hl.1 rfl (Nat.le_of_ble_eq_true rfl) dX3_atClerk_3 (fun x1 H locs hvc_1 hG_2 hS_3 => ?_)
  clear hvc hG hS
  have jn14 : ∀ (y0 : Nat) (y1 : Int32) (y2 : Int32) (y3 : Int32) (s0 : Int32) (G : g_G) (H : Heap) (locs : List Loc) (ls : Array Slot), wp_X3_atClerk_14 E post y0 y1 y2 y3 s0 G → g_H E G H → va_S (g_A E) s.heap H locs → lv_has ls 5 [(0, .ref y0), (1, .int y1), (2, .int y2), (3, .int y3)] → W p l e ({ frames := 4, cells := 0, slots := 0, locals := 88 } : Room) s m ([.ref o, .int p1, .int p2, .int p3] : List Value).toArray below meth c H locs 0 0 (MQ below (va_Qv (post) (g_Bk E) (g_A E)) ([.ref o, .int p1, .int p2, .int p3] : List Value).toArray s 0 0 (g_A E)) (F0 m 14 ls [.int s0]) := by
    clear hvc_1 hG_2 hS_3 hl
    intro y0 y1 y2 y3 s0 G H locs ls hvc_4 hG_5 hS_6 hl_7
    refine lv_istore (lv' := [(4, .int s0), (0, .ref y0), (1, .int y1), (2, .int y2), (3, .int y3)]) hx hb dX3_atClerk_14 hl_7 (by decide) rfl (fun ls hl_8 => ?_)
    clear hl_7
    refine lv_iload_n hx hb dX3_atClerk_16 rfl (lv_at hl_8 2 rfl) ?_
    refine lv_iconst (v := nI 1) hx hb dX3_atClerk_17 (by decide) ?_
    have jn65 : ∀ (y0 : Nat) (y1 : Int32) (y2 : Int32) (y3 : Int32) (y4 : Int32) (G : g_G) (H : Heap) (locs : List Loc) (ls : Array Slot), wp_X3_atClerk_65 E post y0 y1 y2 y3 y4 G → g_H E G H → va_S (g_A E) s.heap H locs → lv_has ls 5 [(0, .ref y0), (1, .int y1), (2, .int y2), (3, .int y3), (4, .int y4)] → W p l e ({ frames := 4, cells := 0, slots := 0, locals := 88 } : Room) s m ([.ref o, .int p1, .int p2, .int p3] : List Value).toArray below meth c H locs 0 0 (MQ below (va_Qv (post) (g_Bk E) (g_A E)) ([.ref o, .int p1, .int p2, .int p3] : List Value).toArray s 0 0 (g_A E)) (F0 m 65 ls []) := by
      clear hvc_4 hG_5 hS_6 hl_8
      intro y0 y1 y2 y3 y4 G H locs ls hvc_9 hG_10 hS_11 hl_12
      refine lv_iload_n hx hb dX3_atClerk_65 rfl (lv_at hl_12 1 rfl) ?_
      refine lv_iconst (v := nI 2) hx hb dX3_atClerk_66 (by decide) ?_
      have jn84 : ∀ (y0 : Nat) (y1 : Int32) (y2 : Int32) (y3 : Int32) (y4 : Int32) (G : g_G) (H : Heap) (locs : List Loc) (ls : Array Slot), wp_X3_atClerk_84 E post y0 y1 y2 y3 y4 G → g_H E G H → va_S (g_A E) s.heap H locs → lv_has ls 5 [(0, .ref y0), (1, .int y1), (2, .int y2), (3, .int y3), (4, .int y4)] → W p l e ({ frames := 4, cells := 0, slots := 0, locals := 88 } : Room) s m ([.ref o, .int p1, .int p2, .int p3] : List Value).toArray below meth c H locs 0 0 (MQ below (va_Qv (post) (g_Bk E) (g_A E)) ([.ref o, .int p1, .int p2, .int p3] : List Value).toArray s 0 0 (g_A E)) (F0 m 84 ls []) := by
        clear hvc_9 hG_10 hS_11 hl_12
        intro y0 y1 y2 y3 y4 G H locs ls hvc_13 hG_14 hS_15 hl_16
        refine lv_iload_n hx hb dX3_atClerk_84 rfl (lv_at hl_16 1 rfl) ?_
        refine lv_iconst (v := nI 5) hx hb dX3_atClerk_85 (by decide) ?_
        refine lv_icmp_ne (tgt := 147) hx hb dX3_atClerk_86 (by decide) (fun h9 => ?_) (fun h9 => ?_)
        · replace hvc_13 := hvc_13.1 h9
          refine lv_iload_n hx hb dX3_atClerk_147 rfl (lv_at hl_16 1 rfl) ?_
          refine lv_bipush (v := nI 6) hx hb dX3_atClerk_148 (by decide) ?_
          refine lv_icmp_ne (tgt := 172) hx hb dX3_atClerk_150 (by decide) (fun h9 => ?_) (fun h9 => ?_)
          · replace hvc_13 := hvc_13.1 h9
            exact g_vret hx hb hr hlocks (Nat.zero_le _) (Nat.zero_le _) hG_14 hS_15 hvc_13 dX3_atClerk_172
          · replace hvc_13 := hvc_13.2 h9
            refine lv_iload hx hb dX3_atClerk_153 (lv_at hl_16 4 rfl) ?_
            refine lv_if_ne (tgt := 172) hx hb dX3_atClerk_155 (by decide) (fun h9 => ?_) (fun h9 => ?_)
            · replace hvc_13 := hvc_13.1 h9
              exact g_vret hx hb hr hlocks (Nat.zero_le _) (Nat.zero_le _) hG_14 hS_15 hvc_13 dX3_atClerk_172
            · replace hvc_13 := hvc_13.2 h9
              refine lv_aload_n hx hb dX3_atClerk_158 rfl (lv_at hl_16 0 rfl) ?_
              refine lv_iconst (v := nI 2) hx hb dX3_atClerk_159 (by decide) ?_
              refine lv_aload_n hx hb dX3_atClerk_160 rfl (lv_at hl_16 0 rfl) ?_
              refine lv_iload_n hx hb dX3_atClerk_161 rfl (lv_at hl_16 2 rfl) ?_
              refine lv_iconst (v := nI 5) hx hb dX3_atClerk_162 (by decide) ?_
              refine gw_cVIP (As := [.int y2, .int (nI 5)]) (rest := [.int (nI 2), .ref y0])  ⟨hx, hb, hml, hown, hts⟩ (met_X3_of l E G y0 y2 (nI 5) _ hvc_13.2) (cwV 2 hts (lw_V q1872 q1874 qs41 q104 q1875) rfl rfl rfl (by decide +kernel) ⟨Nat.le_of_ble_eq_true rfl, Nat.le_of_ble_eq_true rfl⟩) (gw_rc (q := (RX3, TX3, 13)) hK hG_14 hvc_13.1 rfl) (Nat.zero_le _) (Nat.zero_le _) (g_St0 E) hz trivial hK hG_14 hS_15 rfl hl_16.1 rfl (Nat.le_of_ble_eq_true rfl) dX3_atClerk_163 (fun x3 H locs hvc_17 hG_18 hS_19 => ?_)
              clear hvc_13 hG_14 hS_15
              refine lv_iadd hx hb dX3_atClerk_166 ?_
              refine lv_iload_n hx hb dX3_atClerk_167 rfl (lv_at hl_16 2 rfl) ?_
              refine lv_iload_n hx hb dX3_atClerk_168 rfl (lv_at hl_16 3 rfl) ?_
              refine gw_cVVN (As := [.int ((nI 2) + x3), .int y2, .int y3]) (rest := [])  ⟨hx, hb, hml, hown, hts⟩ (met_X3_sends l E G y0 ((nI 2) + x3) y2 y3 _ hvc_17.2) (cwV 3 hts (lw_V q1876 q1878 qs42 q104 q1879) rfl rfl rfl (by decide +kernel) ⟨Nat.le_of_ble_eq_true rfl, Nat.le_of_ble_eq_true rfl⟩) (gw_rc (q := (RX3, TX3, 13)) hK hG_18 hvc_17.1 rfl) (Nat.zero_le _) (Nat.zero_le _) (g_St0 E) hz trivial hK hG_18 hS_19 rfl hl_16.1 rfl (Nat.le_of_ble_eq_true rfl) dX3_atClerk_169 (fun G6 H locs hvc_20 hG_21 hS_22 => ?_)
              clear hvc_17 hG_18 hS_19
              exact g_vret hx hb hr hlocks (Nat.zero_le _) (Nat.zero_le _) hG_21 hS_22 hvc_20 dX3_atClerk_172
        · replace hvc_13 := hvc_13.2 h9
          refine lv_aload_n hx hb dX3_atClerk_89 rfl (lv_at hl_16 0 rfl) ?_
          refine lv_iload_n hx hb dX3_atClerk_90 rfl (lv_at hl_16 2 rfl) ?_
          refine lv_iconst (v := nI 4) hx hb dX3_atClerk_91 (by decide) ?_
          refine lv_aload_n hx hb dX3_atClerk_92 rfl (lv_at hl_16 0 rfl) ?_
          refine lv_iload_n hx hb dX3_atClerk_93 rfl (lv_at hl_16 2 rfl) ?_
          refine lv_iconst (v := nI 4) hx hb dX3_atClerk_94 (by decide) ?_
          refine gw_cVIP (As := [.int y2, .int (nI 4)]) (rest := [.int (nI 4), .int y2, .ref y0])  ⟨hx, hb, hml, hown, hts⟩ (met_X3_of l E G y0 y2 (nI 4) _ hvc_13.2) (cwV 2 hts (lw_V q1872 q1874 qs41 q104 q1875) rfl rfl rfl (by decide +kernel) ⟨Nat.le_of_ble_eq_true rfl, Nat.le_of_ble_eq_true rfl⟩) (gw_rc (q := (RX3, TX3, 13)) hK hG_14 hvc_13.1 rfl) (Nat.zero_le _) (Nat.zero_le _) (g_St0 E) hz trivial hK hG_14 hS_15 rfl hl_16.1 rfl (Nat.le_of_ble_eq_true rfl) dX3_atClerk_95 (fun x7 H locs hvc_23 hG_24 hS_25 => ?_)
          clear hvc_13 hG_14 hS_15
          refine lv_iconst (v := nI 1) hx hb dX3_atClerk_98 (by decide) ?_
          refine lv_iload_n hx hb dX3_atClerk_99 rfl (lv_at hl_16 3 rfl) ?_
          refine lv_ishl hx hb dX3_atClerk_100 ?_
          refine lv_ior hx hb dX3_atClerk_101 ?_
          refine gw_cVVN (As := [.int y2, .int (nI 4), .int (x7 ||| ((nI 1) <<< (y3 &&& 31)))]) (rest := [])  ⟨hx, hb, hml, hown, hts⟩ (met_X3_lay l E G y0 y2 (nI 4) (x7 ||| ((nI 1) <<< (y3 &&& 31))) _ hvc_23.2) (cwV 3 hts (lw_V q1856 q1858 qs37 q104 q1859) rfl rfl rfl (by decide +kernel) ⟨Nat.le_of_ble_eq_true rfl, Nat.le_of_ble_eq_true rfl⟩) (gw_rc (q := (RX3, TX3, 13)) hK hG_24 hvc_23.1 rfl) (Nat.zero_le _) (Nat.zero_le _) (g_St0 E) hz trivial hK hG_24 hS_25 rfl hl_16.1 rfl (Nat.le_of_ble_eq_true rfl) dX3_atClerk_102 (fun G10 H locs hvc_26 hG_27 hS_28 => ?_)
          clear hvc_23 hG_24 hS_25
          refine lv_aload_n hx hb dX3_atClerk_105 rfl (lv_at hl_16 0 rfl) ?_
          refine lv_iload_n hx hb dX3_atClerk_106 rfl (lv_at hl_16 2 rfl) ?_
          refine lv_iconst (v := nI 4) hx hb dX3_atClerk_107 (by decide) ?_
          refine gw_cVIP (As := [.int y2, .int (nI 4)]) (rest := [])  ⟨hx, hb, hml, hown, hts⟩ (met_X3_of l E G10 y0 y2 (nI 4) _ hvc_26.2) (cwV 2 hts (lw_V q1872 q1874 qs41 q104 q1875) rfl rfl rfl (by decide +kernel) ⟨Nat.le_of_ble_eq_true rfl, Nat.le_of_ble_eq_true rfl⟩) (gw_rc (q := (RX3, TX3, 13)) hK hG_27 hvc_26.1 rfl) (Nat.zero_le _) (Nat.zero_le _) (g_St0 E) hz trivial hK hG_27 hS_28 rfl hl_16.1 rfl (Nat.le_of_ble_eq_true rfl) dX3_atClerk_108 (fun x11 H locs hvc_29 hG_30 hS_31 => ?_)
          clear hvc_26 hG_27 hS_28
          refine lv_aload_n hx hb dX3_atClerk_111 rfl (lv_at hl_16 0 rfl) ?_
          refine lv_iload_n hx hb dX3_atClerk_112 rfl (lv_at hl_16 2 rfl) ?_
          refine gw_cVIP (As := [.int y2]) (rest := [.int x11])  ⟨hx, hb, hml, hown, hts⟩ (met_X3_all l E G10 y0 y2 _ hvc_29.2) (cwV 1 hts (lw_V q1868 q1870 qs40 q104 q1871) rfl rfl rfl (by decide +kernel) ⟨Nat.le_of_ble_eq_true rfl, Nat.le_of_ble_eq_true rfl⟩) (gw_rc (q := (RX3, TX3, 13)) hK hG_30 hvc_29.1 rfl) (Nat.zero_le _) (Nat.zero_le _) (g_St0 E) hz trivial hK hG_30 hS_31 rfl hl_16.1 rfl (Nat.le_of_ble_eq_true rfl) dX3_atClerk_113 (fun x13 H locs hvc_32 hG_33 hS_34 => ?_)
          clear hvc_29 hG_30 hS_31
          refine lv_icmp_ne (tgt := 172) hx hb dX3_atClerk_116 (by decide) (fun h9 => ?_) (fun h9 => ?_)
          · replace hvc_32 := hvc_32.1 h9
            exact g_vret hx hb hr hlocks (Nat.zero_le _) (Nat.zero_le _) hG_33 hS_34 hvc_32 dX3_atClerk_172
          · replace hvc_32 := hvc_32.2 h9
            refine lv_aload_n hx hb dX3_atClerk_119 rfl (lv_at hl_16 0 rfl) ?_
            refine lv_iload_n hx hb dX3_atClerk_120 rfl (lv_at hl_16 2 rfl) ?_
            refine lv_bipush (v := nI 6) hx hb dX3_atClerk_121 (by decide) ?_
            refine gw_cVIP (As := [.int y2, .int (nI 6)]) (rest := [])  ⟨hx, hb, hml, hown, hts⟩ (met_X3_of l E G10 y0 y2 (nI 6) _ hvc_32.2) (cwV 2 hts (lw_V q1872 q1874 qs41 q104 q1875) rfl rfl rfl (by decide +kernel) ⟨Nat.le_of_ble_eq_true rfl, Nat.le_of_ble_eq_true rfl⟩) (gw_rc (q := (RX3, TX3, 13)) hK hG_33 hvc_32.1 rfl) (Nat.zero_le _) (Nat.zero_le _) (g_St0 E) hz trivial hK hG_33 hS_34 rfl hl_16.1 rfl (Nat.le_of_ble_eq_true rfl) dX3_atClerk_123 (fun x15 H locs hvc_35 hG_36 hS_37 => ?_)
            clear hvc_32 hG_33 hS_34
            refine lv_if_ne (tgt := 172) hx hb dX3_atClerk_126 (by decide) (fun h9 => ?_) (fun h9 => ?_)
            · replace hvc_35 := hvc_35.1 h9
              exact g_vret hx hb hr hlocks (Nat.zero_le _) (Nat.zero_le _) hG_36 hS_37 hvc_35 dX3_atClerk_172
            · replace hvc_35 := hvc_35.2 h9
              refine lv_aload_n hx hb dX3_atClerk_129 rfl (lv_at hl_16 0 rfl) ?_
              refine lv_iload_n hx hb dX3_atClerk_130 rfl (lv_at hl_16 2 rfl) ?_
              refine lv_bipush (v := nI 6) hx hb dX3_atClerk_131 (by decide) ?_
              refine lv_iconst (v := nI 1) hx hb dX3_atClerk_133 (by decide) ?_
              refine gw_cVVN (As := [.int y2, .int (nI 6), .int (nI 1)]) (rest := [])  ⟨hx, hb, hml, hown, hts⟩ (met_X3_lay l E G10 y0 y2 (nI 6) (nI 1) _ hvc_35.2) (cwV 3 hts (lw_V q1856 q1858 qs37 q104 q1859) rfl rfl rfl (by decide +kernel) ⟨Nat.le_of_ble_eq_true rfl, Nat.le_of_ble_eq_true rfl⟩) (gw_rc (q := (RX3, TX3, 13)) hK hG_36 hvc_35.1 rfl) (Nat.zero_le _) (Nat.zero_le _) (g_St0 E) hz trivial hK hG_36 hS_37 rfl hl_16.1 rfl (Nat.le_of_ble_eq_true rfl) dX3_atClerk_134 (fun G18 H locs hvc_38 hG_39 hS_40 => ?_)
              clear hvc_35 hG_36 hS_37
              refine lv_aload_n hx hb dX3_atClerk_137 rfl (lv_at hl_16 0 rfl) ?_
              refine lv_iconst (v := nI 4) hx hb dX3_atClerk_138 (by decide) ?_
              refine lv_iconst (v := nI 3) hx hb dX3_atClerk_139 (by decide) ?_
              refine lv_iload_n hx hb dX3_atClerk_140 rfl (lv_at hl_16 2 rfl) ?_
              refine gw_cVVN (As := [.int (nI 4), .int (nI 3), .int y2]) (rest := [])  ⟨hx, hb, hml, hown, hts⟩ (met_X3_writes l E G18 y0 (nI 4) (nI 3) y2 _ hvc_38.2) (cwV 3 hts (lw_V q1860 q1862 qs38 q104 q1863) rfl rfl rfl (by decide +kernel) ⟨Nat.le_of_ble_eq_true rfl, Nat.le_of_ble_eq_true rfl⟩) (gw_rc (q := (RX3, TX3, 13)) hK hG_39 hvc_38.1 rfl) (Nat.zero_le _) (Nat.zero_le _) (g_St0 E) hz trivial hK hG_39 hS_40 rfl hl_16.1 rfl (Nat.le_of_ble_eq_true rfl) dX3_atClerk_141 (fun G20 H locs hvc_41 hG_42 hS_43 => ?_)
              clear hvc_38 hG_39 hS_40
              refine lv_goto (tgt := 172) hx hb dX3_atClerk_144 (by decide) ?_
              exact g_vret hx hb hr hlocks (Nat.zero_le _) (Nat.zero_le _) hG_42 hS_43 hvc_41 dX3_atClerk_172
      refine lv_icmp_ne (tgt := 84) hx hb dX3_atClerk_67 (by decide) (fun h9 => ?_) (fun h9 => ?_)
      · replace hvc_9 := hvc_9.1 h9
        exact jn84 y0 y1 y2 y3 y4 G _ _ _ hvc_9 hG_10 hS_11 (lv_sub hl_12 [0, 1, 2, 3, 4] rfl)
      · replace hvc_9 := hvc_9.2 h9
        refine lv_iload hx hb dX3_atClerk_70 (lv_at hl_12 4 rfl) ?_
        refine lv_if_eq (tgt := 84) hx hb dX3_atClerk_72 (by decide) (fun h9 => ?_) (fun h9 => ?_)
        · replace hvc_9 := hvc_9.1 h9
          exact jn84 y0 y1 y2 y3 y4 G _ _ _ hvc_9 hG_10 hS_11 (lv_sub hl_12 [0, 1, 2, 3, 4] rfl)
        · replace hvc_9 := hvc_9.2 h9
          refine lv_aload_n hx hb dX3_atClerk_75 rfl (lv_at hl_12 0 rfl) ?_
          refine lv_iload_n hx hb dX3_atClerk_76 rfl (lv_at hl_12 2 rfl) ?_
          refine lv_iconst (v := nI 2) hx hb dX3_atClerk_77 (by decide) ?_
          refine gw_cVVN (As := [.int y2, .int (nI 2)]) (rest := [])  ⟨hx, hb, hml, hown, hts⟩ (met_X3_decides l E G y0 y2 (nI 2) _ hvc_9.2) (cwV 2 hts (lw_V q1892 q1894 qs45 q104 q1895) rfl rfl rfl (by decide +kernel) ⟨Nat.le_of_ble_eq_true rfl, Nat.le_of_ble_eq_true rfl⟩) (gw_rc (q := (RX3, TX3, 13)) hK hG_10 hvc_9.1 rfl) (Nat.zero_le _) (Nat.zero_le _) (g_St0 E) hz trivial hK hG_10 hS_11 rfl hl_12.1 rfl (Nat.le_of_ble_eq_true rfl) dX3_atClerk_78 (fun G22 H locs hvc_44 hG_45 hS_46 => ?_)
          clear hvc_9 hG_10 hS_11
          refine lv_goto (tgt := 172) hx hb dX3_atClerk_81 (by decide) ?_
          exact g_vret hx hb hr hlocks (Nat.zero_le _) (Nat.zero_le _) hG_45 hS_46 hvc_44 dX3_atClerk_172
    refine lv_icmp_ne (tgt := 65) hx hb dX3_atClerk_18 (by decide) (fun h9 => ?_) (fun h9 => ?_)
    · replace hvc_4 := hvc_4.1 h9
      exact jn65 y0 y1 y2 y3 s0 G _ _ _ hvc_4 hG_5 hS_6 (lv_sub hl_8 [1, 2, 3, 4, 0] rfl)
    · replace hvc_4 := hvc_4.2 h9
      refine lv_iload hx hb dX3_atClerk_21 (lv_at hl_8 0 rfl) ?_
      refine lv_if_eq (tgt := 65) hx hb dX3_atClerk_23 (by decide) (fun h9 => ?_) (fun h9 => ?_)
      · replace hvc_4 := hvc_4.1 h9
        exact jn65 y0 y1 y2 y3 s0 G _ _ _ hvc_4 hG_5 hS_6 (lv_sub hl_8 [1, 2, 3, 4, 0] rfl)
      · replace hvc_4 := hvc_4.2 h9
        refine lv_aload_n hx hb dX3_atClerk_26 rfl (lv_at hl_8 1 rfl) ?_
        refine lv_iload_n hx hb dX3_atClerk_27 rfl (lv_at hl_8 3 rfl) ?_
        refine lv_iconst (v := nI 3) hx hb dX3_atClerk_28 (by decide) ?_
        refine lv_aload_n hx hb dX3_atClerk_29 rfl (lv_at hl_8 1 rfl) ?_
        refine lv_iload_n hx hb dX3_atClerk_30 rfl (lv_at hl_8 3 rfl) ?_
        refine lv_iconst (v := nI 3) hx hb dX3_atClerk_31 (by decide) ?_
        refine gw_cVIP (As := [.int y2, .int (nI 3)]) (rest := [.int (nI 3), .int y2, .ref y0])  ⟨hx, hb, hml, hown, hts⟩ (met_X3_of l E G y0 y2 (nI 3) _ hvc_4.2) (cwV 2 hts (lw_V q1872 q1874 qs41 q104 q1875) rfl rfl rfl (by decide +kernel) ⟨Nat.le_of_ble_eq_true rfl, Nat.le_of_ble_eq_true rfl⟩) (gw_rc (q := (RX3, TX3, 13)) hK hG_5 hvc_4.1 rfl) (Nat.zero_le _) (Nat.zero_le _) (g_St0 E) hz trivial hK hG_5 hS_6 rfl hl_8.1 rfl (Nat.le_of_ble_eq_true rfl) dX3_atClerk_32 (fun x23 H locs hvc_47 hG_48 hS_49 => ?_)
        clear hvc_4 hG_5 hS_6
        refine lv_iconst (v := nI 1) hx hb dX3_atClerk_35 (by decide) ?_
        refine lv_iload_n hx hb dX3_atClerk_36 rfl (lv_at hl_8 4 rfl) ?_
        refine lv_ishl hx hb dX3_atClerk_37 ?_
        refine lv_ior hx hb dX3_atClerk_38 ?_
        refine gw_cVVN (As := [.int y2, .int (nI 3), .int (x23 ||| ((nI 1) <<< (y3 &&& 31)))]) (rest := [])  ⟨hx, hb, hml, hown, hts⟩ (met_X3_lay l E G y0 y2 (nI 3) (x23 ||| ((nI 1) <<< (y3 &&& 31))) _ hvc_47.2) (cwV 3 hts (lw_V q1856 q1858 qs37 q104 q1859) rfl rfl rfl (by decide +kernel) ⟨Nat.le_of_ble_eq_true rfl, Nat.le_of_ble_eq_true rfl⟩) (gw_rc (q := (RX3, TX3, 13)) hK hG_48 hvc_47.1 rfl) (Nat.zero_le _) (Nat.zero_le _) (g_St0 E) hz trivial hK hG_48 hS_49 rfl hl_8.1 rfl (Nat.le_of_ble_eq_true rfl) dX3_atClerk_39 (fun G26 H locs hvc_50 hG_51 hS_52 => ?_)
        clear hvc_47 hG_48 hS_49
        refine lv_aload_n hx hb dX3_atClerk_42 rfl (lv_at hl_8 1 rfl) ?_
        refine lv_iload_n hx hb dX3_atClerk_43 rfl (lv_at hl_8 3 rfl) ?_
        refine lv_iconst (v := nI 3) hx hb dX3_atClerk_44 (by decide) ?_
        refine gw_cVIP (As := [.int y2, .int (nI 3)]) (rest := [])  ⟨hx, hb, hml, hown, hts⟩ (met_X3_of l E G26 y0 y2 (nI 3) _ hvc_50.2) (cwV 2 hts (lw_V q1872 q1874 qs41 q104 q1875) rfl rfl rfl (by decide +kernel) ⟨Nat.le_of_ble_eq_true rfl, Nat.le_of_ble_eq_true rfl⟩) (gw_rc (q := (RX3, TX3, 13)) hK hG_51 hvc_50.1 rfl) (Nat.zero_le _) (Nat.zero_le _) (g_St0 E) hz trivial hK hG_51 hS_52 rfl hl_8.1 rfl (Nat.le_of_ble_eq_true rfl) dX3_atClerk_45 (fun x27 H locs hvc_53 hG_54 hS_55 => ?_)
        clear hvc_50 hG_51 hS_52
        refine lv_aload_n hx hb dX3_atClerk_48 rfl (lv_at hl_8 1 rfl) ?_
        refine lv_iload_n hx hb dX3_atClerk_49 rfl (lv_at hl_8 3 rfl) ?_
        refine gw_cVIP (As := [.int y2]) (rest := [.int x27])  ⟨hx, hb, hml, hown, hts⟩ (met_X3_all l E G26 y0 y2 _ hvc_53.2) (cwV 1 hts (lw_V q1868 q1870 qs40 q104 q1871) rfl rfl rfl (by decide +kernel) ⟨Nat.le_of_ble_eq_true rfl, Nat.le_of_ble_eq_true rfl⟩) (gw_rc (q := (RX3, TX3, 13)) hK hG_54 hvc_53.1 rfl) (Nat.zero_le _) (Nat.zero_le _) (g_St0 E) hz trivial hK hG_54 hS_55 rfl hl_8.1 rfl (Nat.le_of_ble_eq_true rfl) dX3_atClerk_50 (fun x29 H locs hvc_56 hG_57 hS_58 => ?_)
        clear hvc_53 hG_54 hS_55
        refine lv_icmp_ne (tgt := 172) hx hb dX3_atClerk_53 (by decide) (fun h9 => ?_) (fun h9 => ?_)
        · replace hvc_56 := hvc_56.1 h9
          exact g_vret hx hb hr hlocks (Nat.zero_le _) (Nat.zero_le _) hG_57 hS_58 hvc_56 dX3_atClerk_172
        · replace hvc_56 := hvc_56.2 h9
          refine lv_aload_n hx hb dX3_atClerk_56 rfl (lv_at hl_8 1 rfl) ?_
          refine lv_iload_n hx hb dX3_atClerk_57 rfl (lv_at hl_8 3 rfl) ?_
          refine lv_iconst (v := nI 1) hx hb dX3_atClerk_58 (by decide) ?_
          refine gw_cVVN (As := [.int y2, .int (nI 1)]) (rest := [])  ⟨hx, hb, hml, hown, hts⟩ (met_X3_decides l E G26 y0 y2 (nI 1) _ hvc_56.2) (cwV 2 hts (lw_V q1892 q1894 qs45 q104 q1895) rfl rfl rfl (by decide +kernel) ⟨Nat.le_of_ble_eq_true rfl, Nat.le_of_ble_eq_true rfl⟩) (gw_rc (q := (RX3, TX3, 13)) hK hG_57 hvc_56.1 rfl) (Nat.zero_le _) (Nat.zero_le _) (g_St0 E) hz trivial hK hG_57 hS_58 rfl hl_8.1 rfl (Nat.le_of_ble_eq_true rfl) dX3_atClerk_59 (fun G32 H locs hvc_59 hG_60 hS_61 => ?_)
          clear hvc_56 hG_57 hS_58
          refine lv_goto (tgt := 172) hx hb dX3_atClerk_62 (by decide) ?_
          exact g_vret hx hb hr hlocks (Nat.zero_le _) (Nat.zero_le _) hG_60 hS_61 hvc_59 dX3_atClerk_172
  refine lv_if_ne (tgt := 13) hx hb dX3_atClerk_6 (by decide) (fun h9 => ?_) (fun h9 => ?_)
  · replace hvc_1 := hvc_1.1 h9
    refine lv_iconst (v := nI 0) hx hb dX3_atClerk_13 (by decide) ?_
    exact jn14 o p1 p2 p3 (nI 0) G _ _ _ hvc_1 hG_2 hS_3 (lv_sub hl [0, 1, 2, 3] rfl)
  · replace hvc_1 := hvc_1.2 h9
    refine lv_iconst (v := nI 1) hx hb dX3_atClerk_9 (by decide) ?_
    refine lv_goto (tgt := 14) hx hb dX3_atClerk_10 (by decide) ?_
    exact jn14 o p1 p2 p3 (nI 1) G _ _ _ hvc_1 hG_2 hS_3 (lv_sub hl [0, 1, 2, 3] rfl)
set_option maxHeartbeats 4000000 in
set_option maxRecDepth 100000 in
theorem met_X3_delivers (l : Launch) (E : g_E) (G : g_G) (o : Nat) (p1 : Int32) (post : Int32 → g_G → Prop) (hvc : wp_X3_delivers E G o p1 post) : g_MI E l yX3_delivers (ws_ yX3_delivers cX3_delivers 4 (Option.some Jvm.ClassFile.FieldType.boolean)) ({ frames := 5, cells := 0, slots := 0, locals := 117 } : Room) (fun _ => True) [.ref o, .int p1] G (post) := by
  refine g_enter (by decide +kernel) (Nat.le_of_ble_eq_true rfl) ?_
  intro p e s m below meth c ls hx hb hr hts hown hlocks hml hin hz hX hK hG hS hl
  have hl : lv_has ls 4 [(0, .ref o), (1, .int p1)] := hl
  have hown : s.vm.findClass RX3 = some m.cls := hown
  unfold wp_X3_delivers at hvc
  refine lv_aload_n hx hb dX3_delivers_0 rfl (lv_at hl 0 rfl) ?_
  refine lv_iload_n hx hb dX3_delivers_1 rfl (lv_at hl 1 rfl) ?_
  refine gw_cVIP (As := [.int p1]) (rest := [])  ⟨hx, hb, hml, hown, hts⟩ (met_X3_isUpFor l E G o p1 _ hvc.2) (cwV 1 hts (lw_V q1920 q1922 qs50 q104 q1923) rfl rfl rfl (by decide +kernel) ⟨Nat.le_of_ble_eq_true rfl, Nat.le_of_ble_eq_true rfl⟩) (gw_rc (q := (RX3, TX3, 13)) hK hG hvc.1 rfl) (Nat.zero_le _) (Nat.zero_le _) (g_St0 E) hz trivial hK hG hS rfl hl.1 rfl (Nat.le_of_ble_eq_true rfl) dX3_delivers_2 (fun x1 H locs hvc_1 hG_2 hS_3 => ?_)
  clear hvc hG hS
  refine lv_istore_n (lv' := [(2, .int x1), (0, .ref o), (1, .int p1)]) hx hb dX3_delivers_5 rfl hl (by decide) rfl (fun ls hl_4 => ?_)
  clear hl
  refine lv_aload_n hx hb dX3_delivers_6 rfl (lv_at hl_4 1 rfl) ?_
  refine lv_iload_n hx hb dX3_delivers_7 rfl (lv_at hl_4 2 rfl) ?_
  refine gw_cVIN (As := [.int p1]) (rest := [])  ⟨hx, hb, hml, hown, hts⟩ (met_X3_takes l E G o p1 _ hvc_1.2) (cwV 1 hts (lw_V q1927 q1929 qs51 q104 q1930) rfl rfl rfl (by decide +kernel) ⟨Nat.le_of_ble_eq_true rfl, Nat.le_of_ble_eq_true rfl⟩) (gw_rc (q := (RX3, TX3, 13)) hK hG_2 hvc_1.1 rfl) (Nat.zero_le _) (Nat.zero_le _) (g_St0 E) hz trivial hK hG_2 hS_3 rfl hl_4.1 rfl (Nat.le_of_ble_eq_true rfl) dX3_delivers_8 (fun x3 G4 H locs hvc_5 hG_6 hS_7 => ?_)
  clear hvc_1 hG_2 hS_3
  refine lv_istore_n (lv' := [(3, .int x3), (2, .int x1), (0, .ref o), (1, .int p1)]) hx hb dX3_delivers_11 rfl hl_4 (by decide) rfl (fun ls hl_8 => ?_)
  clear hl_4
  refine lv_aload_n hx hb dX3_delivers_12 rfl (lv_at hl_8 2 rfl) ?_
  refine gw_gr (C := RX3) (T := TX3) (N := 13) (own := RX3) hx hb hts in_X3 hown hK hG_6 hvc_5 rfl (by decide) (hts _ q1784) (fun _ h9 => h9) dX3_delivers_13 (fun x5 hvc_9 => ?_)
  clear hvc_5
  refine lv_bipush (v := nI 11) hx hb dX3_delivers_16 (by decide) ?_
  refine lv_dup2_11 hx hb dX3_delivers_18 rfl rfl ?_
  refine gw_ild hx hb hK hG_6 hvc_9 dX3_delivers_19 (fun x6 hvc_10 => ?_)
  clear hvc_9
  refine lv_iload_n hx hb dX3_delivers_20 rfl (lv_at hl_8 1 rfl) ?_
  have jn29 : ∀ (y0 : Nat) (y2 : Int32) (y3 : Int32) (s0 : Int32) (s1 : Int32) (s2 : Int32) (s3 : Nat) (G : g_G) (H : Heap) (locs : List Loc) (ls : Array Slot), wp_X3_delivers_29 E post y0 y2 y3 s0 s1 s2 s3 G → g_H E G H → va_S (g_A E) s.heap H locs → lv_has ls 4 [(0, .ref y0), (2, .int y2), (3, .int y3)] → W p l e ({ frames := 5, cells := 0, slots := 0, locals := 117 } : Room) s m ([.ref o, .int p1] : List Value).toArray below meth c H locs 0 0 (MQ below (va_Qi (post) (g_Bk E) (g_A E)) ([.ref o, .int p1] : List Value).toArray s 0 0 (g_A E)) (F0 m 29 ls [.int s0, .int s1, .int s2, .ref s3]) := by
    clear hvc_10 hG_6 hS_7 hl_8
    intro y0 y2 y3 s0 s1 s2 s3 G H locs ls hvc_11 hG_12 hS_13 hl_14
    refine lv_iadd hx hb dX3_delivers_29 ?_
    refine gw_ist hx hb hK hG_12 hS_13 hvc_11 dX3_delivers_30 (fun G7 H locs hvc_15 hG_16 hS_17 => ?_)
    clear hvc_11 hG_12 hS_13
    refine lv_aload_n hx hb dX3_delivers_31 rfl (lv_at hl_14 0 rfl) ?_
    refine gw_gr (C := RX3) (T := TX3) (N := 13) (own := RX3) hx hb hts in_X3 hown hK hG_16 hvc_15 rfl (by decide) (hts _ q1784) (fun _ h9 => h9) dX3_delivers_32 (fun x8 hvc_18 => ?_)
    clear hvc_15
    refine lv_bipush (v := nI 12) hx hb dX3_delivers_35 (by decide) ?_
    refine lv_dup2_11 hx hb dX3_delivers_37 rfl rfl ?_
    refine gw_ild hx hb hK hG_16 hvc_18 dX3_delivers_38 (fun x9 hvc_19 => ?_)
    clear hvc_18
    refine lv_iload_n hx hb dX3_delivers_39 rfl (lv_at hl_14 1 rfl) ?_
    have jn48 : ∀ (y0 : Nat) (y2 : Int32) (y3 : Int32) (s0 : Int32) (s1 : Int32) (s2 : Int32) (s3 : Nat) (G : g_G) (H : Heap) (locs : List Loc) (ls : Array Slot), wp_X3_delivers_48 E post y0 y2 y3 s0 s1 s2 s3 G → g_H E G H → va_S (g_A E) s.heap H locs → lv_has ls 4 [(0, .ref y0), (2, .int y2), (3, .int y3)] → W p l e ({ frames := 5, cells := 0, slots := 0, locals := 117 } : Room) s m ([.ref o, .int p1] : List Value).toArray below meth c H locs 0 0 (MQ below (va_Qi (post) (g_Bk E) (g_A E)) ([.ref o, .int p1] : List Value).toArray s 0 0 (g_A E)) (F0 m 48 ls [.int s0, .int s1, .int s2, .ref s3]) := by
      clear hvc_19 hG_16 hS_17 hl_14
      intro y0 y2 y3 s0 s1 s2 s3 G H locs ls hvc_20 hG_21 hS_22 hl_23
      refine lv_iadd hx hb dX3_delivers_48 ?_
      refine gw_ist hx hb hK hG_21 hS_22 hvc_20 dX3_delivers_49 (fun G10 H locs hvc_24 hG_25 hS_26 => ?_)
      clear hvc_20 hG_21 hS_22
      refine lv_iload_n hx hb dX3_delivers_50 rfl (lv_at hl_23 1 rfl) ?_
      have jn84 : ∀ (y0 : Nat) (y2 : Int32) (y3 : Int32) (G : g_G) (H : Heap) (locs : List Loc) (ls : Array Slot), wp_X3_delivers_84 E post y0 y2 y3 G → g_H E G H → va_S (g_A E) s.heap H locs → lv_has ls 4 [(0, .ref y0), (2, .int y2), (3, .int y3)] → W p l e ({ frames := 5, cells := 0, slots := 0, locals := 117 } : Room) s m ([.ref o, .int p1] : List Value).toArray below meth c H locs 0 0 (MQ below (va_Qi (post) (g_Bk E) (g_A E)) ([.ref o, .int p1] : List Value).toArray s 0 0 (g_A E)) (F0 m 84 ls []) := by
        clear hvc_24 hG_25 hS_26 hl_23
        intro y0 y2 y3 G H locs ls hvc_27 hG_28 hS_29 hl_30
        refine lv_iload_n hx hb dX3_delivers_84 rfl (lv_at hl_30 1 rfl) ?_
        refine lv_if_eq (tgt := 105) hx hb dX3_delivers_85 (by decide) (fun h9 => ?_) (fun h9 => ?_)
        · replace hvc_27 := hvc_27.1 h9
          refine lv_iload_n hx hb dX3_delivers_105 rfl (lv_at hl_30 1 rfl) ?_
          exact g_iret hx hb hr hlocks (Nat.zero_le _) (Nat.zero_le _) hG_28 hS_29 hvc_27.1 hvc_27.2 dX3_delivers_106
        · replace hvc_27 := hvc_27.2 h9
          refine lv_aload_n hx hb dX3_delivers_88 rfl (lv_at hl_30 0 rfl) ?_
          refine lv_iload_n hx hb dX3_delivers_89 rfl (lv_at hl_30 2 rfl) ?_
          refine lv_bipush (v := nI 32) hx hb dX3_delivers_90 (by decide) ?_
          refine lv_idiv hx hb dX3_delivers_92 (by decide) ?_
          refine lv_iload_n hx hb dX3_delivers_93 rfl (lv_at hl_30 2 rfl) ?_
          refine lv_iconst (v := nI 4) hx hb dX3_delivers_94 (by decide) ?_
          refine lv_idiv hx hb dX3_delivers_95 (by decide) ?_
          refine lv_bipush (v := nI 8) hx hb dX3_delivers_96 (by decide) ?_
          refine lv_irem hx hb dX3_delivers_98 (by decide) ?_
          refine lv_iload_n hx hb dX3_delivers_99 rfl (lv_at hl_30 2 rfl) ?_
          refine lv_iconst (v := nI 4) hx hb dX3_delivers_100 (by decide) ?_
          refine lv_irem hx hb dX3_delivers_101 (by decide) ?_
          refine gw_cVVN (As := [.int (y3 / (nI 32)), .int ((y3 / (nI 4)) - (y3 / (nI 4)) / (nI 8) * (nI 8)), .int (y3 - y3 / (nI 4) * (nI 4))]) (rest := [])  ⟨hx, hb, hml, hown, hts⟩ (met_X3_atClerk l E G y0 (y3 / (nI 32)) ((y3 / (nI 4)) - (y3 / (nI 4)) / (nI 8) * (nI 8)) (y3 - y3 / (nI 4) * (nI 4)) _ hvc_27.2) (cwV 3 hts (lw_V q1953 q1955 qs56 q104 q1956) rfl rfl rfl (by decide +kernel) ⟨Nat.le_of_ble_eq_true rfl, Nat.le_of_ble_eq_true rfl⟩) (gw_rc (q := (RX3, TX3, 13)) hK hG_28 hvc_27.1 rfl) (Nat.zero_le _) (Nat.zero_le _) (g_St0 E) hz trivial hK hG_28 hS_29 rfl hl_30.1 rfl (Nat.le_of_ble_eq_true rfl) dX3_delivers_102 (fun G12 H locs hvc_31 hG_32 hS_33 => ?_)
          clear hvc_27 hG_28 hS_29
          refine lv_iload_n hx hb dX3_delivers_105 rfl (lv_at hl_30 1 rfl) ?_
          exact g_iret hx hb hr hlocks (Nat.zero_le _) (Nat.zero_le _) hG_32 hS_33 hvc_31.1 hvc_31.2 dX3_delivers_106
      refine lv_if_eq (tgt := 84) hx hb dX3_delivers_51 (by decide) (fun h9 => ?_) (fun h9 => ?_)
      · replace hvc_24 := hvc_24.1 h9
        exact jn84 y0 y2 y3 G10 _ _ _ hvc_24 hG_25 hS_26 (lv_sub hl_23 [0, 1, 2] rfl)
      · replace hvc_24 := hvc_24.2 h9
        refine lv_iload_n hx hb dX3_delivers_54 rfl (lv_at hl_23 2 rfl) ?_
        refine lv_bipush (v := nI 32) hx hb dX3_delivers_55 (by decide) ?_
        refine lv_idiv hx hb dX3_delivers_57 (by decide) ?_
        refine gw_cSIP (As := [.int (y3 / (nI 32))]) (rest := [])  ⟨hx, hb, hml, hown, hts⟩ (met_X3_goesToStore l E G10 (y3 / (nI 32)) _ hvc_24) (va_cwS 1 hts (lw_S q1924 q1925 q104 q1926) rfl rfl rfl (by decide +kernel) ⟨Nat.le_of_ble_eq_true rfl, Nat.le_of_ble_eq_true rfl⟩) (Nat.zero_le _) (Nat.zero_le _) (g_St0 E) hz trivial hK hG_25 hS_26 rfl hl_23.1 rfl (Nat.le_of_ble_eq_true rfl) dX3_delivers_58 (fun x13 H locs hvc_34 hG_35 hS_36 => ?_)
        clear hvc_24 hG_25 hS_26
        refine lv_if_eq (tgt := 84) hx hb dX3_delivers_61 (by decide) (fun h9 => ?_) (fun h9 => ?_)
        · replace hvc_34 := hvc_34.1 h9
          exact jn84 y0 y2 y3 G10 _ _ _ hvc_34 hG_35 hS_36 (lv_sub hl_23 [0, 1, 2] rfl)
        · replace hvc_34 := hvc_34.2 h9
          refine lv_aload_n hx hb dX3_delivers_64 rfl (lv_at hl_23 0 rfl) ?_
          refine lv_iload_n hx hb dX3_delivers_65 rfl (lv_at hl_23 2 rfl) ?_
          refine lv_bipush (v := nI 32) hx hb dX3_delivers_66 (by decide) ?_
          refine lv_idiv hx hb dX3_delivers_68 (by decide) ?_
          refine lv_iload_n hx hb dX3_delivers_69 rfl (lv_at hl_23 2 rfl) ?_
          refine lv_iconst (v := nI 4) hx hb dX3_delivers_70 (by decide) ?_
          refine lv_idiv hx hb dX3_delivers_71 (by decide) ?_
          refine lv_bipush (v := nI 8) hx hb dX3_delivers_72 (by decide) ?_
          refine lv_irem hx hb dX3_delivers_74 (by decide) ?_
          refine lv_iload_n hx hb dX3_delivers_75 rfl (lv_at hl_23 2 rfl) ?_
          refine lv_iconst (v := nI 4) hx hb dX3_delivers_76 (by decide) ?_
          refine lv_irem hx hb dX3_delivers_77 (by decide) ?_
          refine gw_cVVN (As := [.int (y3 / (nI 32)), .int ((y3 / (nI 4)) - (y3 / (nI 4)) / (nI 8) * (nI 8)), .int (y3 - y3 / (nI 4) * (nI 4))]) (rest := [])  ⟨hx, hb, hml, hown, hts⟩ (met_X3_atStore l E G10 y0 (y3 / (nI 32)) ((y3 / (nI 4)) - (y3 / (nI 4)) / (nI 8) * (nI 8)) (y3 - y3 / (nI 4) * (nI 4)) _ hvc_34.2) (cwV 3 hts (lw_V q1931 q1933 qs52 q104 q1934) rfl rfl rfl (by decide +kernel) ⟨Nat.le_of_ble_eq_true rfl, Nat.le_of_ble_eq_true rfl⟩) (gw_rc (q := (RX3, TX3, 13)) hK hG_35 hvc_34.1 rfl) (Nat.zero_le _) (Nat.zero_le _) (g_St0 E) hz trivial hK hG_35 hS_36 rfl hl_23.1 rfl (Nat.le_of_ble_eq_true rfl) dX3_delivers_78 (fun G16 H locs hvc_37 hG_38 hS_39 => ?_)
          clear hvc_34 hG_35 hS_36
          refine lv_goto (tgt := 105) hx hb dX3_delivers_81 (by decide) ?_
          refine lv_iload_n hx hb dX3_delivers_105 rfl (lv_at hl_23 1 rfl) ?_
          exact g_iret hx hb hr hlocks (Nat.zero_le _) (Nat.zero_le _) hG_38 hS_39 hvc_37.1 hvc_37.2 dX3_delivers_106
    refine lv_if_eq (tgt := 47) hx hb dX3_delivers_40 (by decide) (fun h9 => ?_) (fun h9 => ?_)
    · replace hvc_19 := hvc_19.1 h9
      refine lv_iconst (v := nI 1) hx hb dX3_delivers_47 (by decide) ?_
      exact jn48 y0 y2 y3 (nI 1) x9 (nI 12) x8 G7 _ _ _ hvc_19 hG_16 hS_17 (lv_sub hl_14 [0, 1, 2] rfl)
    · replace hvc_19 := hvc_19.2 h9
      refine lv_iconst (v := nI 0) hx hb dX3_delivers_43 (by decide) ?_
      refine lv_goto (tgt := 48) hx hb dX3_delivers_44 (by decide) ?_
      exact jn48 y0 y2 y3 (nI 0) x9 (nI 12) x8 G7 _ _ _ hvc_19 hG_16 hS_17 (lv_sub hl_14 [0, 1, 2] rfl)
  refine lv_if_eq (tgt := 28) hx hb dX3_delivers_21 (by decide) (fun h9 => ?_) (fun h9 => ?_)
  · replace hvc_10 := hvc_10.1 h9
    refine lv_iconst (v := nI 0) hx hb dX3_delivers_28 (by decide) ?_
    exact jn29 o x1 x3 (nI 0) x6 (nI 11) x5 G4 _ _ _ hvc_10 hG_6 hS_7 (lv_sub hl_8 [2, 1, 0] rfl)
  · replace hvc_10 := hvc_10.2 h9
    refine lv_iconst (v := nI 1) hx hb dX3_delivers_24 (by decide) ?_
    refine lv_goto (tgt := 29) hx hb dX3_delivers_25 (by decide) ?_
    exact jn29 o x1 x3 (nI 1) x6 (nI 11) x5 G4 _ _ _ hvc_10 hG_6 hS_7 (lv_sub hl_8 [2, 1, 0] rfl)
set_option maxHeartbeats 4000000 in
set_option maxRecDepth 100000 in
theorem met_X3_deliver (l : Launch) (E : g_E) (G : g_G) (o : Nat) (p1 : Int32) (post : Int32 → g_G → Prop) (hvc : wp_X3_deliver E G o p1 post) : g_MI E l yX3_deliver (ws_ yX3_deliver cX3_deliver 2 (Option.some Jvm.ClassFile.FieldType.boolean)) ({ frames := 6, cells := 0, slots := 0, locals := 140 } : Room) (fun _ => True) [.ref o, .int p1] G (post) := by
  refine g_enter (by decide +kernel) (Nat.le_of_ble_eq_true rfl) ?_
  intro p e s m below meth c ls hx hb hr hts hown hlocks hml hin hz hX hK hG hS hl
  have hl : lv_has ls 2 [(0, .ref o), (1, .int p1)] := hl
  have hown : s.vm.findClass RX3 = some m.cls := hown
  unfold wp_X3_deliver at hvc
  refine lv_aload_n hx hb dX3_deliver_0 rfl (lv_at hl 0 rfl) ?_
  refine lv_iconst (v := nI 0) hx hb dX3_deliver_1 (by decide) ?_
  refine gw_put (ty := .int) (C := RX3) (T := TX3) (N := 13) (own := RX3) hx hb hts in_X3 tyX3 tyX3_ok nmX3 hown hK hG hS hvc rfl (by decide) (hts _ q1783) (fun _ h9 => h9) rfl (by decide +kernel) rfl rfl dX3_deliver_2 (fun G1 H locs hvc_1 hG_2 hS_3 => ?_)
  clear hvc hG hS
  refine lv_aload_n hx hb dX3_deliver_5 rfl (lv_at hl 0 rfl) ?_
  refine lv_iload_n hx hb dX3_deliver_6 rfl (lv_at hl 1 rfl) ?_
  refine gw_cVIP (As := [.int p1]) (rest := [])  ⟨hx, hb, hml, hown, hts⟩ (met_X3_isMessage l E G1 o p1 _ hvc_1.2) (cwV 1 hts (lw_V q1912 q1914 qs48 q104 q1915) rfl rfl rfl (by decide +kernel) ⟨Nat.le_of_ble_eq_true rfl, Nat.le_of_ble_eq_true rfl⟩) (gw_rc (q := (RX3, TX3, 13)) hK hG_2 hvc_1.1 rfl) (Nat.zero_le _) (Nat.zero_le _) (g_St0 E) hz trivial hK hG_2 hS_3 rfl hl.1 rfl (Nat.le_of_ble_eq_true rfl) dX3_deliver_7 (fun x2 H locs hvc_4 hG_5 hS_6 => ?_)
  clear hvc_1 hG_2 hS_3
  refine lv_if_ne (tgt := 27) hx hb dX3_deliver_10 (by decide) (fun h9 => ?_) (fun h9 => ?_)
  · replace hvc_4 := hvc_4.1 h9
    refine lv_aload_n hx hb dX3_deliver_27 rfl (lv_at hl 0 rfl) ?_
    refine gw_cVVN (As := []) (rest := [])  ⟨hx, hb, hml, hown, hts⟩ (met_X3_recordsState l E G1 o _ hvc_4.2) (cwV 0 hts (lw_V q1848 q1850 qs35 q104 q1851) rfl rfl rfl (by decide +kernel) ⟨Nat.le_of_ble_eq_true rfl, Nat.le_of_ble_eq_true rfl⟩) (gw_rc (q := (RX3, TX3, 13)) hK hG_5 hvc_4.1 rfl) (Nat.zero_le _) (Nat.zero_le _) (g_St0 E) hz trivial hK hG_5 hS_6 rfl hl.1 rfl (Nat.le_of_ble_eq_true rfl) dX3_deliver_28 (fun G5 H locs hvc_7 hG_8 hS_9 => ?_)
    clear hvc_4 hG_5 hS_6
    refine lv_aload_n hx hb dX3_deliver_31 rfl (lv_at hl 0 rfl) ?_
    refine lv_iload_n hx hb dX3_deliver_32 rfl (lv_at hl 1 rfl) ?_
    refine gw_cVIN (As := [.int p1]) (rest := [])  ⟨hx, hb, hml, hown, hts⟩ (met_X3_delivers l E G5 o p1 _ hvc_7.2) (cwV 1 hts (lw_V q1916 q1918 qs49 q104 q1919) rfl rfl rfl (by decide +kernel) ⟨Nat.le_of_ble_eq_true rfl, Nat.le_of_ble_eq_true rfl⟩) (gw_rc (q := (RX3, TX3, 13)) hK hG_8 hvc_7.1 rfl) (Nat.zero_le _) (Nat.zero_le _) (g_St0 E) hz trivial hK hG_8 hS_9 rfl hl.1 rfl (Nat.le_of_ble_eq_true rfl) dX3_deliver_33 (fun x6 G7 H locs hvc_10 hG_11 hS_12 => ?_)
    clear hvc_7 hG_8 hS_9
    exact g_iret hx hb hr hlocks (Nat.zero_le _) (Nat.zero_le _) hG_11 hS_12 hvc_10.1 hvc_10.2 dX3_deliver_36
  · replace hvc_4 := hvc_4.2 h9
    refine lv_aload_n hx hb dX3_deliver_13 rfl (lv_at hl 0 rfl) ?_
    refine lv_iconst (v := nI 1) hx hb dX3_deliver_14 (by decide) ?_
    refine gw_cVIN (As := [.int (nI 1)]) (rest := [])  ⟨hx, hb, hml, hown, hts⟩ (met_X3_fails l E G1 o (nI 1) _ hvc_4.2) (cwV 1 hts (lw_V q1837 q1839 qs33 q104 q1840) rfl rfl rfl (by decide +kernel) ⟨Nat.le_of_ble_eq_true rfl, Nat.le_of_ble_eq_true rfl⟩) (gw_rc (q := (RX3, TX3, 13)) hK hG_5 hvc_4.1 rfl) (Nat.zero_le _) (Nat.zero_le _) (g_St0 E) hz trivial hK hG_5 hS_6 rfl hl.1 rfl (Nat.le_of_ble_eq_true rfl) dX3_deliver_15 (fun x8 G9 H locs hvc_13 hG_14 hS_15 => ?_)
    clear hvc_4 hG_5 hS_6
    refine lv_if_le (tgt := 25) hx hb dX3_deliver_18 (by decide) (fun h9 => ?_) (fun h9 => ?_)
    · replace hvc_13 := hvc_13.1 h9
      refine lv_iconst (v := nI 0) hx hb dX3_deliver_25 (by decide) ?_
      exact g_iret hx hb hr hlocks (Nat.zero_le _) (Nat.zero_le _) hG_14 hS_15 rfl hvc_13 dX3_deliver_26
    · replace hvc_13 := hvc_13.2 h9
      refine lv_iconst (v := nI 1) hx hb dX3_deliver_21 (by decide) ?_
      refine lv_goto (tgt := 26) hx hb dX3_deliver_22 (by decide) ?_
      exact g_iret hx hb hr hlocks (Nat.zero_le _) (Nat.zero_le _) hG_14 hS_15 rfl hvc_13 dX3_deliver_26
set_option maxHeartbeats 4000000 in
set_option maxRecDepth 100000 in
theorem met_X3_deliversFirst (l : Launch) (E : g_E) (G : g_G) (o : Nat) (p1 : Int32) (post : Int32 → g_G → Prop) (hvc : wp_X3_deliversFirst E G o p1 post) : g_MI E l yX3_deliversFirst (ws_ yX3_deliversFirst cX3_deliversFirst 3 (Option.some Jvm.ClassFile.FieldType.int)) ({ frames := 6, cells := 0, slots := 0, locals := 140 } : Room) (fun _ => True) [.ref o, .int p1] G (post) := by
  refine g_enter (by decide +kernel) (Nat.le_of_ble_eq_true rfl) ?_
  intro p e s m below meth c ls hx hb hr hts hown hlocks hml hin hz hX hK hG hS hl
  have hl : lv_has ls 3 [(0, .ref o), (1, .int p1)] := hl
  have hown : s.vm.findClass RX3 = some m.cls := hown
  unfold wp_X3_deliversFirst at hvc
  refine lv_iconst (v := nI 0) hx hb dX3_deliversFirst_0 (by decide) ?_
  have lp2 : ∀ (n2 : Nat) (y0 : Nat) (y1 : Int32) (y2 : Int32) (G : g_G) (H : Heap) (locs : List Loc) (ls : Array Slot), wp_X3_deliversFirst_2 E post n2 y0 y1 y2 G → g_H E G H → va_S (g_A E) s.heap H locs → lv_has ls 3 [(0, .ref y0), (1, .int y1), (2, .int y2)] → W p l e ({ frames := 6, cells := 0, slots := 0, locals := 140 } : Room) s m ([.ref o, .int p1] : List Value).toArray below meth c H locs 0 0 (MQ below (va_Qi (post) (g_Bk E) (g_A E)) ([.ref o, .int p1] : List Value).toArray s 0 0 (g_A E)) (F0 m 2 ls []) := by
    clear hvc hG hS hl
    intro n2
    induction n2 with
    | zero =>
      intro y0 y1 y2 G H locs ls hvc_1 hG_2 hS_3 hl_4
      exact False.elim hvc_1
    | succ n2 ih2 =>
      intro y0 y1 y2 G H locs ls hvc_5 hG_6 hS_7 hl_8
      refine lv_iload_n hx hb dX3_deliversFirst_2 rfl (lv_at hl_8 2 rfl) ?_
      refine lv_iload_n hx hb dX3_deliversFirst_3 rfl (lv_at hl_8 1 rfl) ?_
      refine lv_icmp_ge (tgt := 29) hx hb dX3_deliversFirst_4 (by decide) (fun h9 => ?_) (fun h9 => ?_)
      · replace hvc_5 := hvc_5.1 h9
        refine lv_iload_n hx hb dX3_deliversFirst_29 rfl (lv_at hl_8 2 rfl) ?_
        exact g_iret hx hb hr hlocks (Nat.zero_le _) (Nat.zero_le _) hG_6 hS_7 rfl hvc_5 dX3_deliversFirst_30
      · replace hvc_5 := hvc_5.2 h9
        refine lv_aload_n hx hb dX3_deliversFirst_7 rfl (lv_at hl_8 0 rfl) ?_
        refine gw_gr (C := RX3) (T := TX3) (N := 13) (own := RX3) hx hb hts in_X3 hown hK hG_6 hvc_5 rfl (by decide) (hts _ q1784) (fun _ h9 => h9) dX3_deliversFirst_8 (fun x1 hvc_9 => ?_)
        clear hvc_5
        refine lv_bipush (v := nI 13) hx hb dX3_deliversFirst_11 (by decide) ?_
        refine gw_ild hx hb hK hG_6 hvc_9 dX3_deliversFirst_13 (fun x2 hvc_10 => ?_)
        clear hvc_9
        refine lv_if_le (tgt := 29) hx hb dX3_deliversFirst_14 (by decide) (fun h9 => ?_) (fun h9 => ?_)
        · replace hvc_10 := hvc_10.1 h9
          refine lv_iload_n hx hb dX3_deliversFirst_29 rfl (lv_at hl_8 2 rfl) ?_
          exact g_iret hx hb hr hlocks (Nat.zero_le _) (Nat.zero_le _) hG_6 hS_7 rfl hvc_10 dX3_deliversFirst_30
        · replace hvc_10 := hvc_10.2 h9
          refine lv_aload_n hx hb dX3_deliversFirst_17 rfl (lv_at hl_8 0 rfl) ?_
          refine lv_iconst (v := nI 0) hx hb dX3_deliversFirst_18 (by decide) ?_
          refine gw_cVIN (As := [.int (nI 0)]) (rest := [])  ⟨hx, hb, hml, hown, hts⟩ (met_X3_delivers l E G y0 (nI 0) _ hvc_10.2) (cwV 1 hts (lw_V q1916 q1918 qs49 q104 q1919) rfl rfl rfl (by decide +kernel) ⟨Nat.le_of_ble_eq_true rfl, Nat.le_of_ble_eq_true rfl⟩) (gw_rc (q := (RX3, TX3, 13)) hK hG_6 hvc_10.1 rfl) (Nat.zero_le _) (Nat.zero_le _) (g_St0 E) hz trivial hK hG_6 hS_7 rfl hl_8.1 rfl (Nat.le_of_ble_eq_true rfl) dX3_deliversFirst_19 (fun x3 G4 H locs hvc_11 hG_12 hS_13 => ?_)
          clear hvc_10 hG_6 hS_7
          refine lv_pop hx hb dX3_deliversFirst_22 rfl ?_
          refine lv_iinc (k := 2) (v := y2 + (nI 1)) (lv' := [(2, .int (y2 + (nI 1))), (0, .ref y0), (1, .int y1)]) hx hb dX3_deliversFirst_23 hl_8 rfl (congrArg (y2 + ·) (by decide : Int32.ofInt (1) = nI 1)) (by decide) rfl (fun ls hl_14 => ?_)
          clear hl_8
          refine lv_goto (tgt := 2) hx hb dX3_deliversFirst_26 (by decide) ?_
          exact ih2 y0 y1 (y2 + (nI 1)) G4 _ _ _ hvc_11 hG_12 hS_13 (lv_sub hl_14 [1, 2, 0] rfl)
  refine lv_istore_n (lv' := [(2, .int (nI 0)), (0, .ref o), (1, .int p1)]) hx hb dX3_deliversFirst_1 rfl hl (by decide) rfl (fun ls hl_15 => ?_)
  clear hl
  obtain ⟨nf2, hvc⟩ := hvc
  exact lp2 nf2 o p1 (nI 0) G _ _ _ hvc hG hS (lv_sub hl_15 [1, 2, 0] rfl)
set_option maxHeartbeats 4000000 in
set_option maxRecDepth 100000 in
theorem met_X3_deliversAll (l : Launch) (E : g_E) (G : g_G) (o : Nat) (post : Int32 → g_G → Prop) (hvc : wp_X3_deliversAll E G o post) : g_MI E l yX3_deliversAll (ws_ yX3_deliversAll cX3_deliversAll 1 (Option.some Jvm.ClassFile.FieldType.int)) ({ frames := 7, cells := 0, slots := 0, locals := 162 } : Room) (fun _ => True) [.ref o] G (post) := by
  refine g_enter (by decide +kernel) (Nat.le_of_ble_eq_true rfl) ?_
  intro p e s m below meth c ls hx hb hr hts hown hlocks hml hin hz hX hK hG hS hl
  have hl : lv_has ls 1 [(0, .ref o)] := hl
  have hown : s.vm.findClass RX3 = some m.cls := hown
  unfold wp_X3_deliversAll at hvc
  refine lv_aload_n hx hb dX3_deliversAll_0 rfl (lv_at hl 0 rfl) ?_
  refine lv_ldc (v := nI 99999) hx hb hown (by exact hts _ q1965) dX3_deliversAll_1 ?_
  refine gw_cVIN (As := [.int (nI 99999)]) (rest := [])  ⟨hx, hb, hml, hown, hts⟩ (met_X3_deliversFirst l E G o (nI 99999) _ hvc.2) (cwV 1 hts (lw_V q1966 q1968 qs58 q104 q1969) rfl rfl rfl (by decide +kernel) ⟨Nat.le_of_ble_eq_true rfl, Nat.le_of_ble_eq_true rfl⟩) (gw_rc (q := (RX3, TX3, 13)) hK hG hvc.1 rfl) (Nat.zero_le _) (Nat.zero_le _) (g_St0 E) hz trivial hK hG hS rfl hl.1 rfl (Nat.le_of_ble_eq_true rfl) dX3_deliversAll_3 (fun x1 G2 H locs hvc_1 hG_2 hS_3 => ?_)
  clear hvc hG hS
  exact g_iret hx hb hr hlocks (Nat.zero_le _) (Nat.zero_le _) hG_2 hS_3 rfl hvc_1 dX3_deliversAll_6
set_option maxHeartbeats 4000000 in
set_option maxRecDepth 100000 in
theorem met_X3_deliverAll (l : Launch) (E : g_E) (G : g_G) (o : Nat) (post : Int32 → g_G → Prop) (hvc : wp_X3_deliverAll E G o post) : g_MI E l yX3_deliverAll (ws_ yX3_deliverAll cX3_deliverAll 1 (Option.some Jvm.ClassFile.FieldType.int)) ({ frames := 8, cells := 0, slots := 0, locals := 182 } : Room) (fun _ => True) [.ref o] G (post) := by
  refine g_enter (by decide +kernel) (Nat.le_of_ble_eq_true rfl) ?_
  intro p e s m below meth c ls hx hb hr hts hown hlocks hml hin hz hX hK hG hS hl
  have hl : lv_has ls 1 [(0, .ref o)] := hl
  have hown : s.vm.findClass RX3 = some m.cls := hown
  unfold wp_X3_deliverAll at hvc
  refine lv_aload_n hx hb dX3_deliverAll_0 rfl (lv_at hl 0 rfl) ?_
  refine lv_iconst (v := nI 0) hx hb dX3_deliverAll_1 (by decide) ?_
  refine gw_put (ty := .int) (C := RX3) (T := TX3) (N := 13) (own := RX3) hx hb hts in_X3 tyX3 tyX3_ok nmX3 hown hK hG hS hvc rfl (by decide) (hts _ q1783) (fun _ h9 => h9) rfl (by decide +kernel) rfl rfl dX3_deliverAll_2 (fun G1 H locs hvc_1 hG_2 hS_3 => ?_)
  clear hvc hG hS
  refine lv_aload_n hx hb dX3_deliverAll_5 rfl (lv_at hl 0 rfl) ?_
  refine gw_cVVN (As := []) (rest := [])  ⟨hx, hb, hml, hown, hts⟩ (met_X3_recordsState l E G1 o _ hvc_1.2) (cwV 0 hts (lw_V q1848 q1850 qs35 q104 q1851) rfl rfl rfl (by decide +kernel) ⟨Nat.le_of_ble_eq_true rfl, Nat.le_of_ble_eq_true rfl⟩) (gw_rc (q := (RX3, TX3, 13)) hK hG_2 hvc_1.1 rfl) (Nat.zero_le _) (Nat.zero_le _) (g_St0 E) hz trivial hK hG_2 hS_3 rfl hl.1 rfl (Nat.le_of_ble_eq_true rfl) dX3_deliverAll_6 (fun G3 H locs hvc_4 hG_5 hS_6 => ?_)
  clear hvc_1 hG_2 hS_3
  refine lv_aload_n hx hb dX3_deliverAll_9 rfl (lv_at hl 0 rfl) ?_
  refine gw_cVIN (As := []) (rest := [])  ⟨hx, hb, hml, hown, hts⟩ (met_X3_deliversAll l E G3 o _ hvc_4.2) (cwV 0 hts (lw_V q1961 q1963 qs57 q104 q1964) rfl rfl rfl (by decide +kernel) ⟨Nat.le_of_ble_eq_true rfl, Nat.le_of_ble_eq_true rfl⟩) (gw_rc (q := (RX3, TX3, 13)) hK hG_5 hvc_4.1 rfl) (Nat.zero_le _) (Nat.zero_le _) (g_St0 E) hz trivial hK hG_5 hS_6 rfl hl.1 rfl (Nat.le_of_ble_eq_true rfl) dX3_deliverAll_10 (fun x4 G5 H locs hvc_7 hG_8 hS_9 => ?_)
  clear hvc_4 hG_5 hS_6
  exact g_iret hx hb hr hlocks (Nat.zero_le _) (Nat.zero_le _) hG_8 hS_9 rfl hvc_7 dX3_deliverAll_13
set_option maxHeartbeats 4000000 in
set_option maxRecDepth 100000 in
theorem met_X3_loses (l : Launch) (E : g_E) (G : g_G) (o : Nat) (p1 : Int32) (post : Int32 → g_G → Prop) (hvc : wp_X3_loses E G o p1 post) : g_MI E l yX3_loses (ws_ yX3_loses cX3_loses 2 (Option.some Jvm.ClassFile.FieldType.int)) ({ frames := 1, cells := 0, slots := 0, locals := 23 } : Room) (fun _ => True) [.ref o, .int p1] G (post) := by
  refine g_enter (by decide +kernel) (Nat.le_of_ble_eq_true rfl) ?_
  intro p e s m below meth c ls hx hb hr hts hown hlocks hml hin hz hX hK hG hS hl
  have hl : lv_has ls 2 [(0, .ref o), (1, .int p1)] := hl
  have hown : s.vm.findClass RX3 = some m.cls := hown
  unfold wp_X3_loses at hvc
  refine lv_aload_n hx hb dX3_loses_0 rfl (lv_at hl 0 rfl) ?_
  refine gw_gr (C := RX3) (T := TX3) (N := 13) (own := RX3) hx hb hts in_X3 hown hK hG hvc rfl (by decide) (hts _ q1784) (fun _ h9 => h9) dX3_loses_1 (fun x1 hvc_1 => ?_)
  clear hvc
  refine lv_bipush (v := nI 12) hx hb dX3_loses_4 (by decide) ?_
  refine lv_dup2_11 hx hb dX3_loses_6 rfl rfl ?_
  refine gw_ild hx hb hK hG hvc_1 dX3_loses_7 (fun x2 hvc_2 => ?_)
  clear hvc_1
  refine lv_iconst (v := nI 1) hx hb dX3_loses_8 (by decide) ?_
  refine lv_iadd hx hb dX3_loses_9 ?_
  refine gw_ist hx hb hK hG hS hvc_2 dX3_loses_10 (fun G3 H locs hvc_3 hG_4 hS_5 => ?_)
  clear hvc_2 hG hS
  refine lv_aload_n hx hb dX3_loses_11 rfl (lv_at hl 0 rfl) ?_
  refine lv_iload_n hx hb dX3_loses_12 rfl (lv_at hl 1 rfl) ?_
  refine gw_cVIN (As := [.int p1]) (rest := [])  ⟨hx, hb, hml, hown, hts⟩ (met_X3_takes l E G3 o p1 _ hvc_3.2) (cwV 1 hts (lw_V q1927 q1929 qs51 q104 q1930) rfl rfl rfl (by decide +kernel) ⟨Nat.le_of_ble_eq_true rfl, Nat.le_of_ble_eq_true rfl⟩) (gw_rc (q := (RX3, TX3, 13)) hK hG_4 hvc_3.1 rfl) (Nat.zero_le _) (Nat.zero_le _) (g_St0 E) hz trivial hK hG_4 hS_5 rfl hl.1 rfl (Nat.le_of_ble_eq_true rfl) dX3_loses_13 (fun x4 G5 H locs hvc_6 hG_7 hS_8 => ?_)
  clear hvc_3 hG_4 hS_5
  refine lv_bipush (v := nI 32) hx hb dX3_loses_16 (by decide) ?_
  refine lv_idiv hx hb dX3_loses_18 (by decide) ?_
  exact g_iret hx hb hr hlocks (Nat.zero_le _) (Nat.zero_le _) hG_7 hS_8 rfl hvc_6 dX3_loses_19
set_option maxHeartbeats 4000000 in
set_option maxRecDepth 100000 in
theorem met_X3_lose (l : Launch) (E : g_E) (G : g_G) (o : Nat) (p1 : Int32) (post : Int32 → g_G → Prop) (hvc : wp_X3_lose E G o p1 post) : g_MI E l yX3_lose (ws_ yX3_lose cX3_lose 2 (Option.some Jvm.ClassFile.FieldType.int)) ({ frames := 2, cells := 0, slots := 0, locals := 44 } : Room) (fun _ => True) [.ref o, .int p1] G (post) := by
  refine g_enter (by decide +kernel) (Nat.le_of_ble_eq_true rfl) ?_
  intro p e s m below meth c ls hx hb hr hts hown hlocks hml hin hz hX hK hG hS hl
  have hl : lv_has ls 2 [(0, .ref o), (1, .int p1)] := hl
  have hown : s.vm.findClass RX3 = some m.cls := hown
  unfold wp_X3_lose at hvc
  refine lv_aload_n hx hb dX3_lose_0 rfl (lv_at hl 0 rfl) ?_
  refine lv_iconst (v := nI 0) hx hb dX3_lose_1 (by decide) ?_
  refine gw_put (ty := .int) (C := RX3) (T := TX3) (N := 13) (own := RX3) hx hb hts in_X3 tyX3 tyX3_ok nmX3 hown hK hG hS hvc rfl (by decide) (hts _ q1783) (fun _ h9 => h9) rfl (by decide +kernel) rfl rfl dX3_lose_2 (fun G1 H locs hvc_1 hG_2 hS_3 => ?_)
  clear hvc hG hS
  refine lv_aload_n hx hb dX3_lose_5 rfl (lv_at hl 0 rfl) ?_
  refine lv_iload_n hx hb dX3_lose_6 rfl (lv_at hl 1 rfl) ?_
  refine gw_cVIP (As := [.int p1]) (rest := [])  ⟨hx, hb, hml, hown, hts⟩ (met_X3_isMessage l E G1 o p1 _ hvc_1.2) (cwV 1 hts (lw_V q1912 q1914 qs48 q104 q1915) rfl rfl rfl (by decide +kernel) ⟨Nat.le_of_ble_eq_true rfl, Nat.le_of_ble_eq_true rfl⟩) (gw_rc (q := (RX3, TX3, 13)) hK hG_2 hvc_1.1 rfl) (Nat.zero_le _) (Nat.zero_le _) (g_St0 E) hz trivial hK hG_2 hS_3 rfl hl.1 rfl (Nat.le_of_ble_eq_true rfl) dX3_lose_7 (fun x2 H locs hvc_4 hG_5 hS_6 => ?_)
  clear hvc_1 hG_2 hS_3
  refine lv_if_ne (tgt := 19) hx hb dX3_lose_10 (by decide) (fun h9 => ?_) (fun h9 => ?_)
  · replace hvc_4 := hvc_4.1 h9
    refine lv_aload_n hx hb dX3_lose_19 rfl (lv_at hl 0 rfl) ?_
    refine gw_cVVN (As := []) (rest := [])  ⟨hx, hb, hml, hown, hts⟩ (met_X3_recordsState l E G1 o _ hvc_4.2) (cwV 0 hts (lw_V q1848 q1850 qs35 q104 q1851) rfl rfl rfl (by decide +kernel) ⟨Nat.le_of_ble_eq_true rfl, Nat.le_of_ble_eq_true rfl⟩) (gw_rc (q := (RX3, TX3, 13)) hK hG_5 hvc_4.1 rfl) (Nat.zero_le _) (Nat.zero_le _) (g_St0 E) hz trivial hK hG_5 hS_6 rfl hl.1 rfl (Nat.le_of_ble_eq_true rfl) dX3_lose_20 (fun G5 H locs hvc_7 hG_8 hS_9 => ?_)
    clear hvc_4 hG_5 hS_6
    refine lv_aload_n hx hb dX3_lose_23 rfl (lv_at hl 0 rfl) ?_
    refine lv_iload_n hx hb dX3_lose_24 rfl (lv_at hl 1 rfl) ?_
    refine gw_cVIN (As := [.int p1]) (rest := [])  ⟨hx, hb, hml, hown, hts⟩ (met_X3_loses l E G5 o p1 _ hvc_7.2) (cwV 1 hts (lw_V q1974 q1976 qs59 q104 q1977) rfl rfl rfl (by decide +kernel) ⟨Nat.le_of_ble_eq_true rfl, Nat.le_of_ble_eq_true rfl⟩) (gw_rc (q := (RX3, TX3, 13)) hK hG_8 hvc_7.1 rfl) (Nat.zero_le _) (Nat.zero_le _) (g_St0 E) hz trivial hK hG_8 hS_9 rfl hl.1 rfl (Nat.le_of_ble_eq_true rfl) dX3_lose_25 (fun x6 G7 H locs hvc_10 hG_11 hS_12 => ?_)
    clear hvc_7 hG_8 hS_9
    exact g_iret hx hb hr hlocks (Nat.zero_le _) (Nat.zero_le _) hG_11 hS_12 rfl hvc_10 dX3_lose_28
  · replace hvc_4 := hvc_4.2 h9
    refine lv_aload_n hx hb dX3_lose_13 rfl (lv_at hl 0 rfl) ?_
    refine lv_iconst (v := nI 1) hx hb dX3_lose_14 (by decide) ?_
    refine gw_cVIN (As := [.int (nI 1)]) (rest := [])  ⟨hx, hb, hml, hown, hts⟩ (met_X3_fails l E G1 o (nI 1) _ hvc_4.2) (cwV 1 hts (lw_V q1837 q1839 qs33 q104 q1840) rfl rfl rfl (by decide +kernel) ⟨Nat.le_of_ble_eq_true rfl, Nat.le_of_ble_eq_true rfl⟩) (gw_rc (q := (RX3, TX3, 13)) hK hG_5 hvc_4.1 rfl) (Nat.zero_le _) (Nat.zero_le _) (g_St0 E) hz trivial hK hG_5 hS_6 rfl hl.1 rfl (Nat.le_of_ble_eq_true rfl) dX3_lose_15 (fun x8 G9 H locs hvc_13 hG_14 hS_15 => ?_)
    clear hvc_4 hG_5 hS_6
    exact g_iret hx hb hr hlocks (Nat.zero_le _) (Nat.zero_le _) hG_14 hS_15 rfl hvc_13 dX3_lose_18
set_option maxHeartbeats 4000000 in
set_option maxRecDepth 100000 in
theorem met_X3_isSite (l : Launch) (E : g_E) (G : g_G) (p1 : Int32) (post : Int32 → Prop) (hvc : wp_X3_isSite E G p1 post) : g_MI E l yX3_isSite (ws_ yX3_isSite cX3_isSite 1 (Option.some Jvm.ClassFile.FieldType.boolean)) ({ frames := 1, cells := 0, slots := 0, locals := 22 } : Room) (fun _ => True) [.int p1] G (fun v G9 => G9 = G ∧ post v) := by
  refine g_enter (by decide +kernel) (Nat.le_of_ble_eq_true rfl) ?_
  intro p e s m below meth c ls hx hb hr hts hown hlocks hml hin hz hX hK hG hS hl
  have hl : lv_has ls 1 [(0, .int p1)] := hl
  have hown : s.vm.findClass RX3 = some m.cls := hown
  unfold wp_X3_isSite at hvc
  refine lv_iload_n hx hb dX3_isSite_0 rfl (lv_at hl 0 rfl) ?_
  refine lv_iconst (v := nI 0) hx hb dX3_isSite_1 (by decide) ?_
  refine lv_iconst (v := nI 4) hx hb dX3_isSite_2 (by decide) ?_
  refine gw_cSIP (As := [.int p1, .int (nI 0), .int (nI 4)]) (rest := [])  ⟨hx, hb, hml, hown, hts⟩ (met_X3_in l E G p1 (nI 0) (nI 4) _ hvc) (va_cwS 3 hts (lw_S q1834 q1835 q104 q1836) rfl rfl rfl (by decide +kernel) ⟨Nat.le_of_ble_eq_true rfl, Nat.le_of_ble_eq_true rfl⟩) (Nat.zero_le _) (Nat.zero_le _) (g_St0 E) hz trivial hK hG hS rfl hl.1 rfl (Nat.le_of_ble_eq_true rfl) dX3_isSite_3 (fun x1 H locs hvc_1 hG_2 hS_3 => ?_)
  clear hvc hG hS
  exact g_iret hx hb hr hlocks (Nat.zero_le _) (Nat.zero_le _) hG_2 hS_3 hvc_1.1 ⟨rfl, hvc_1.2⟩ dX3_isSite_6
set_option maxHeartbeats 4000000 in
set_option maxRecDepth 100000 in
theorem met_X3_crashes (l : Launch) (E : g_E) (G : g_G) (o : Nat) (p1 : Int32) (post : Int32 → g_G → Prop) (hvc : wp_X3_crashes E G o p1 post) : g_MI E l yX3_crashes (ws_ yX3_crashes cX3_crashes 4 (Option.some Jvm.ClassFile.FieldType.int)) ({ frames := 1, cells := 0, slots := 0, locals := 23 } : Room) (fun _ => True) [.ref o, .int p1] G (post) := by
  refine g_enter (by decide +kernel) (Nat.le_of_ble_eq_true rfl) ?_
  intro p e s m below meth c ls hx hb hr hts hown hlocks hml hin hz hX hK hG hS hl
  have hl : lv_has ls 4 [(0, .ref o), (1, .int p1)] := hl
  have hown : s.vm.findClass RX3 = some m.cls := hown
  unfold wp_X3_crashes at hvc
  refine lv_aload_n hx hb dX3_crashes_0 rfl (lv_at hl 0 rfl) ?_
  refine gw_gr (C := RX3) (T := TX3) (N := 13) (own := RX3) hx hb hts in_X3 hown hK hG hvc rfl (by decide) (hts _ q1784) (fun _ h9 => h9) dX3_crashes_1 (fun x1 hvc_1 => ?_)
  clear hvc
  refine lv_iconst (v := nI 0) hx hb dX3_crashes_4 (by decide) ?_
  refine lv_iload_n hx hb dX3_crashes_5 rfl (lv_at hl 1 rfl) ?_
  refine lv_iadd hx hb dX3_crashes_6 ?_
  refine lv_iconst (v := nI 0) hx hb dX3_crashes_7 (by decide) ?_
  refine gw_ist hx hb hK hG hS hvc_1 dX3_crashes_8 (fun G2 H locs hvc_2 hG_3 hS_4 => ?_)
  clear hvc_1 hG hS
  refine lv_iconst (v := nI 0) hx hb dX3_crashes_9 (by decide) ?_
  have lp11 : ∀ (n11 : Nat) (y0 : Nat) (y1 : Int32) (y2 : Int32) (G : g_G) (H : Heap) (locs : List Loc) (ls : Array Slot), wp_X3_crashes_11 E post n11 y0 y1 y2 G → g_H E G H → va_S (g_A E) s.heap H locs → lv_has ls 4 [(0, .ref y0), (1, .int y1), (2, .int y2)] → W p l e ({ frames := 1, cells := 0, slots := 0, locals := 23 } : Room) s m ([.ref o, .int p1] : List Value).toArray below meth c H locs 0 0 (MQ below (va_Qi (post) (g_Bk E) (g_A E)) ([.ref o, .int p1] : List Value).toArray s 0 0 (g_A E)) (F0 m 11 ls []) := by
    clear hvc_2 hG_3 hS_4 hl
    intro n11
    induction n11 with
    | zero =>
      intro y0 y1 y2 G H locs ls hvc_5 hG_6 hS_7 hl_8
      exact False.elim hvc_5
    | succ n11 ih11 =>
      intro y0 y1 y2 G H locs ls hvc_9 hG_10 hS_11 hl_12
      refine lv_iload_n hx hb dX3_crashes_11 rfl (lv_at hl_12 2 rfl) ?_
      refine lv_aload_n hx hb dX3_crashes_12 rfl (lv_at hl_12 0 rfl) ?_
      refine gw_gr (C := RX3) (T := TX3) (N := 13) (own := RX3) hx hb hts in_X3 hown hK hG_10 hvc_9 rfl (by decide) (hts _ q1784) (fun _ h9 => h9) dX3_crashes_13 (fun x3 hvc_13 => ?_)
      clear hvc_9
      refine lv_bipush (v := nI 9) hx hb dX3_crashes_16 (by decide) ?_
      refine gw_ild hx hb hK hG_10 hvc_13 dX3_crashes_18 (fun x4 hvc_14 => ?_)
      clear hvc_13
      have jn47 : ∀ (y0 : Nat) (G : g_G) (H : Heap) (locs : List Loc) (ls : Array Slot), wp_X3_crashes_47 E post y0 G → g_H E G H → va_S (g_A E) s.heap H locs → lv_has ls 4 [(0, .ref y0)] → W p l e ({ frames := 1, cells := 0, slots := 0, locals := 23 } : Room) s m ([.ref o, .int p1] : List Value).toArray below meth c H locs 0 0 (MQ below (va_Qi (post) (g_Bk E) (g_A E)) ([.ref o, .int p1] : List Value).toArray s 0 0 (g_A E)) (F0 m 47 ls []) := by
        clear hvc_14 hG_10 hS_11 hl_12
        intro y0 G H locs ls hvc_15 hG_16 hS_17 hl_18
        refine lv_iconst (v := nI 0) hx hb dX3_crashes_47 (by decide) ?_
        refine lv_istore_n (lv' := [(2, .int (nI 0)), (0, .ref y0)]) hx hb dX3_crashes_48 rfl hl_18 (by decide) rfl (fun ls hl_19 => ?_)
        clear hl_18
        refine lv_iconst (v := nI 0) hx hb dX3_crashes_49 (by decide) ?_
        have lp51 : ∀ (n51 : Nat) (y0 : Nat) (y2 : Int32) (y3 : Int32) (G : g_G) (H : Heap) (locs : List Loc) (ls : Array Slot), wp_X3_crashes_51 E post n51 y0 y2 y3 G → g_H E G H → va_S (g_A E) s.heap H locs → lv_has ls 4 [(0, .ref y0), (2, .int y2), (3, .int y3)] → W p l e ({ frames := 1, cells := 0, slots := 0, locals := 23 } : Room) s m ([.ref o, .int p1] : List Value).toArray below meth c H locs 0 0 (MQ below (va_Qi (post) (g_Bk E) (g_A E)) ([.ref o, .int p1] : List Value).toArray s 0 0 (g_A E)) (F0 m 51 ls []) := by
          clear hvc_15 hG_16 hS_17 hl_19
          intro n51
          induction n51 with
          | zero =>
            intro y0 y2 y3 G H locs ls hvc_20 hG_21 hS_22 hl_23
            exact False.elim hvc_20
          | succ n51 ih51 =>
            intro y0 y2 y3 G H locs ls hvc_24 hG_25 hS_26 hl_27
            refine lv_iload_n hx hb dX3_crashes_51 rfl (lv_at hl_27 2 rfl) ?_
            refine lv_iconst (v := nI 5) hx hb dX3_crashes_52 (by decide) ?_
            refine lv_icmp_ge (tgt := 73) hx hb dX3_crashes_53 (by decide) (fun h9 => ?_) (fun h9 => ?_)
            · replace hvc_24 := hvc_24.1 h9
              refine lv_iload_n hx hb dX3_crashes_73 rfl (lv_at hl_27 1 rfl) ?_
              exact g_iret hx hb hr hlocks (Nat.zero_le _) (Nat.zero_le _) hG_25 hS_26 rfl hvc_24 dX3_crashes_74
            · replace hvc_24 := hvc_24.2 h9
              refine lv_iload_n hx hb dX3_crashes_56 rfl (lv_at hl_27 1 rfl) ?_
              refine lv_aload_n hx hb dX3_crashes_57 rfl (lv_at hl_27 0 rfl) ?_
              refine gw_gr (C := RX3) (T := TX3) (N := 13) (own := RX3) hx hb hts in_X3 hown hK hG_25 hvc_24 rfl (by decide) (hts _ q1784) (fun _ h9 => h9) dX3_crashes_58 (fun x5 hvc_28 => ?_)
              clear hvc_24
              refine lv_iconst (v := nI 0) hx hb dX3_crashes_61 (by decide) ?_
              refine lv_iload_n hx hb dX3_crashes_62 rfl (lv_at hl_27 2 rfl) ?_
              refine lv_iadd hx hb dX3_crashes_63 ?_
              refine gw_ild hx hb hK hG_25 hvc_28 dX3_crashes_64 (fun x6 hvc_29 => ?_)
              clear hvc_28
              refine lv_iadd hx hb dX3_crashes_65 ?_
              refine lv_istore_n (lv' := [(2, .int (y2 + x6)), (0, .ref y0), (3, .int y3)]) hx hb dX3_crashes_66 rfl hl_27 (by decide) rfl (fun ls hl_30 => ?_)
              clear hl_27
              refine lv_iinc (k := 2) (v := y3 + (nI 1)) (lv' := [(3, .int (y3 + (nI 1))), (2, .int (y2 + x6)), (0, .ref y0)]) hx hb dX3_crashes_67 hl_30 rfl (congrArg (y3 + ·) (by decide : Int32.ofInt (1) = nI 1)) (by decide) rfl (fun ls hl_31 => ?_)
              clear hl_30
              refine lv_goto (tgt := 51) hx hb dX3_crashes_70 (by decide) ?_
              exact ih51 y0 (y2 + x6) (y3 + (nI 1)) G _ _ _ hvc_29 hG_25 hS_26 (lv_sub hl_31 [2, 1, 0] rfl)
        refine lv_istore_n (lv' := [(3, .int (nI 0)), (2, .int (nI 0)), (0, .ref y0)]) hx hb dX3_crashes_50 rfl hl_19 (by decide) rfl (fun ls hl_32 => ?_)
        clear hl_19
        obtain ⟨nf51, hvc_15⟩ := hvc_15
        exact lp51 nf51 y0 (nI 0) (nI 0) G _ _ _ hvc_15 hG_16 hS_17 (lv_sub hl_32 [2, 1, 0] rfl)
      refine lv_icmp_ge (tgt := 47) hx hb dX3_crashes_19 (by decide) (fun h9 => ?_) (fun h9 => ?_)
      · replace hvc_14 := hvc_14.1 h9
        exact jn47 y0 G _ _ _ hvc_14 hG_10 hS_11 (lv_sub hl_12 [0] rfl)
      · replace hvc_14 := hvc_14.2 h9
        refine lv_iload_n hx hb dX3_crashes_22 rfl (lv_at hl_12 1 rfl) ?_
        refine lv_iconst (v := nI 4) hx hb dX3_crashes_23 (by decide) ?_
        refine lv_icmp_ne (tgt := 47) hx hb dX3_crashes_24 (by decide) (fun h9 => ?_) (fun h9 => ?_)
        · replace hvc_14 := hvc_14.1 h9
          exact jn47 y0 G _ _ _ hvc_14 hG_10 hS_11 (lv_sub hl_12 [0] rfl)
        · replace hvc_14 := hvc_14.2 h9
          refine lv_aload_n hx hb dX3_crashes_27 rfl (lv_at hl_12 0 rfl) ?_
          refine lv_iload_n hx hb dX3_crashes_28 rfl (lv_at hl_12 2 rfl) ?_
          refine lv_iconst (v := nI 3) hx hb dX3_crashes_29 (by decide) ?_
          refine lv_iconst (v := nI 0) hx hb dX3_crashes_30 (by decide) ?_
          refine gw_cVVN (As := [.int y2, .int (nI 3), .int (nI 0)]) (rest := [])  ⟨hx, hb, hml, hown, hts⟩ (met_X3_lay l E G y0 y2 (nI 3) (nI 0) _ hvc_14.2) (cwV 3 hts (lw_V q1856 q1858 qs37 q104 q1859) rfl rfl rfl (by decide +kernel) ⟨Nat.le_of_ble_eq_true rfl, Nat.le_of_ble_eq_true rfl⟩) (gw_rc (q := (RX3, TX3, 13)) hK hG_10 hvc_14.1 rfl) (Nat.zero_le _) (Nat.zero_le _) (g_St0 E) hz trivial hK hG_10 hS_11 rfl hl_12.1 rfl (Nat.le_of_ble_eq_true rfl) dX3_crashes_31 (fun G8 H locs hvc_33 hG_34 hS_35 => ?_)
          clear hvc_14 hG_10 hS_11
          refine lv_aload_n hx hb dX3_crashes_34 rfl (lv_at hl_12 0 rfl) ?_
          refine lv_iload_n hx hb dX3_crashes_35 rfl (lv_at hl_12 2 rfl) ?_
          refine lv_iconst (v := nI 4) hx hb dX3_crashes_36 (by decide) ?_
          refine lv_iconst (v := nI 0) hx hb dX3_crashes_37 (by decide) ?_
          refine gw_cVVN (As := [.int y2, .int (nI 4), .int (nI 0)]) (rest := [])  ⟨hx, hb, hml, hown, hts⟩ (met_X3_lay l E G8 y0 y2 (nI 4) (nI 0) _ hvc_33.2) (cwV 3 hts (lw_V q1856 q1858 qs37 q104 q1859) rfl rfl rfl (by decide +kernel) ⟨Nat.le_of_ble_eq_true rfl, Nat.le_of_ble_eq_true rfl⟩) (gw_rc (q := (RX3, TX3, 13)) hK hG_34 hvc_33.1 rfl) (Nat.zero_le _) (Nat.zero_le _) (g_St0 E) hz trivial hK hG_34 hS_35 rfl hl_12.1 rfl (Nat.le_of_ble_eq_true rfl) dX3_crashes_38 (fun G10 H locs hvc_36 hG_37 hS_38 => ?_)
          clear hvc_33 hG_34 hS_35
          refine lv_iinc (k := 2) (v := y2 + (nI 1)) (lv' := [(2, .int (y2 + (nI 1))), (0, .ref y0), (1, .int y1)]) hx hb dX3_crashes_41 hl_12 rfl (congrArg (y2 + ·) (by decide : Int32.ofInt (1) = nI 1)) (by decide) rfl (fun ls hl_39 => ?_)
          clear hl_12
          refine lv_goto (tgt := 11) hx hb dX3_crashes_44 (by decide) ?_
          exact ih11 y0 y1 (y2 + (nI 1)) G10 _ _ _ hvc_36 hG_37 hS_38 (lv_sub hl_39 [1, 2, 0] rfl)
  refine lv_istore_n (lv' := [(2, .int (nI 0)), (0, .ref o), (1, .int p1)]) hx hb dX3_crashes_10 rfl hl (by decide) rfl (fun ls hl_40 => ?_)
  clear hl
  obtain ⟨nf11, hvc_2⟩ := hvc_2
  exact lp11 nf11 o p1 (nI 0) G2 _ _ _ hvc_2 hG_3 hS_4 (lv_sub hl_40 [1, 2, 0] rfl)
set_option maxHeartbeats 4000000 in
set_option maxRecDepth 100000 in
theorem met_X3_crash (l : Launch) (E : g_E) (G : g_G) (o : Nat) (p1 : Int32) (post : Int32 → g_G → Prop) (hvc : wp_X3_crash E G o p1 post) : g_MI E l yX3_crash (ws_ yX3_crash cX3_crash 2 (Option.some Jvm.ClassFile.FieldType.int)) ({ frames := 2, cells := 0, slots := 0, locals := 46 } : Room) (fun _ => True) [.ref o, .int p1] G (post) := by
  refine g_enter (by decide +kernel) (Nat.le_of_ble_eq_true rfl) ?_
  intro p e s m below meth c ls hx hb hr hts hown hlocks hml hin hz hX hK hG hS hl
  have hl : lv_has ls 2 [(0, .ref o), (1, .int p1)] := hl
  have hown : s.vm.findClass RX3 = some m.cls := hown
  unfold wp_X3_crash at hvc
  refine lv_aload_n hx hb dX3_crash_0 rfl (lv_at hl 0 rfl) ?_
  refine lv_iconst (v := nI 0) hx hb dX3_crash_1 (by decide) ?_
  refine gw_put (ty := .int) (C := RX3) (T := TX3) (N := 13) (own := RX3) hx hb hts in_X3 tyX3 tyX3_ok nmX3 hown hK hG hS hvc rfl (by decide) (hts _ q1783) (fun _ h9 => h9) rfl (by decide +kernel) rfl rfl dX3_crash_2 (fun G1 H locs hvc_1 hG_2 hS_3 => ?_)
  clear hvc hG hS
  refine lv_iload_n hx hb dX3_crash_5 rfl (lv_at hl 1 rfl) ?_
  refine gw_cSIP (As := [.int p1]) (rest := [])  ⟨hx, hb, hml, hown, hts⟩ (met_X3_isSite l E G1 p1 _ hvc_1) (va_cwS 1 hts (lw_S q1982 q1983 q104 q1984) rfl rfl rfl (by decide +kernel) ⟨Nat.le_of_ble_eq_true rfl, Nat.le_of_ble_eq_true rfl⟩) (Nat.zero_le _) (Nat.zero_le _) (g_St0 E) hz trivial hK hG_2 hS_3 rfl hl.1 rfl (Nat.le_of_ble_eq_true rfl) dX3_crash_6 (fun x2 H locs hvc_4 hG_5 hS_6 => ?_)
  clear hvc_1 hG_2 hS_3
  refine lv_if_ne (tgt := 18) hx hb dX3_crash_9 (by decide) (fun h9 => ?_) (fun h9 => ?_)
  · replace hvc_4 := hvc_4.1 h9
    refine lv_aload_n hx hb dX3_crash_18 rfl (lv_at hl 0 rfl) ?_
    refine gw_gr (C := RX3) (T := TX3) (N := 13) (own := RX3) hx hb hts in_X3 hown hK hG_5 hvc_4 rfl (by decide) (hts _ q1784) (fun _ h9 => h9) dX3_crash_19 (fun x4 hvc_7 => ?_)
    clear hvc_4
    refine lv_iconst (v := nI 0) hx hb dX3_crash_22 (by decide) ?_
    refine lv_iload_n hx hb dX3_crash_23 rfl (lv_at hl 1 rfl) ?_
    refine lv_iadd hx hb dX3_crash_24 ?_
    refine gw_ild hx hb hK hG_5 hvc_7 dX3_crash_25 (fun x5 hvc_8 => ?_)
    clear hvc_7
    refine lv_if_ne (tgt := 35) hx hb dX3_crash_26 (by decide) (fun h9 => ?_) (fun h9 => ?_)
    · replace hvc_8 := hvc_8.1 h9
      refine lv_aload_n hx hb dX3_crash_35 rfl (lv_at hl 0 rfl) ?_
      refine gw_cVVN (As := []) (rest := [])  ⟨hx, hb, hml, hown, hts⟩ (met_X3_recordsState l E G1 o _ hvc_8.2) (cwV 0 hts (lw_V q1848 q1850 qs35 q104 q1851) rfl rfl rfl (by decide +kernel) ⟨Nat.le_of_ble_eq_true rfl, Nat.le_of_ble_eq_true rfl⟩) (gw_rc (q := (RX3, TX3, 13)) hK hG_5 hvc_8.1 rfl) (Nat.zero_le _) (Nat.zero_le _) (g_St0 E) hz trivial hK hG_5 hS_6 rfl hl.1 rfl (Nat.le_of_ble_eq_true rfl) dX3_crash_36 (fun G7 H locs hvc_9 hG_10 hS_11 => ?_)
      clear hvc_8 hG_5 hS_6
      refine lv_aload_n hx hb dX3_crash_39 rfl (lv_at hl 0 rfl) ?_
      refine lv_iload_n hx hb dX3_crash_40 rfl (lv_at hl 1 rfl) ?_
      refine gw_cVIN (As := [.int p1]) (rest := [])  ⟨hx, hb, hml, hown, hts⟩ (met_X3_crashes l E G7 o p1 _ hvc_9.2) (cwV 1 hts (lw_V q1985 q1987 qs60 q104 q1988) rfl rfl rfl (by decide +kernel) ⟨Nat.le_of_ble_eq_true rfl, Nat.le_of_ble_eq_true rfl⟩) (gw_rc (q := (RX3, TX3, 13)) hK hG_10 hvc_9.1 rfl) (Nat.zero_le _) (Nat.zero_le _) (g_St0 E) hz trivial hK hG_10 hS_11 rfl hl.1 rfl (Nat.le_of_ble_eq_true rfl) dX3_crash_41 (fun x8 G9 H locs hvc_12 hG_13 hS_14 => ?_)
      clear hvc_9 hG_10 hS_11
      exact g_iret hx hb hr hlocks (Nat.zero_le _) (Nat.zero_le _) hG_13 hS_14 rfl hvc_12 dX3_crash_44
    · replace hvc_8 := hvc_8.2 h9
      refine lv_aload_n hx hb dX3_crash_29 rfl (lv_at hl 0 rfl) ?_
      refine lv_iconst (v := nI 2) hx hb dX3_crash_30 (by decide) ?_
      refine gw_cVIN (As := [.int (nI 2)]) (rest := [])  ⟨hx, hb, hml, hown, hts⟩ (met_X3_fails l E G1 o (nI 2) _ hvc_8.2) (cwV 1 hts (lw_V q1837 q1839 qs33 q104 q1840) rfl rfl rfl (by decide +kernel) ⟨Nat.le_of_ble_eq_true rfl, Nat.le_of_ble_eq_true rfl⟩) (gw_rc (q := (RX3, TX3, 13)) hK hG_5 hvc_8.1 rfl) (Nat.zero_le _) (Nat.zero_le _) (g_St0 E) hz trivial hK hG_5 hS_6 rfl hl.1 rfl (Nat.le_of_ble_eq_true rfl) dX3_crash_31 (fun x10 G11 H locs hvc_15 hG_16 hS_17 => ?_)
      clear hvc_8 hG_5 hS_6
      exact g_iret hx hb hr hlocks (Nat.zero_le _) (Nat.zero_le _) hG_16 hS_17 rfl hvc_15 dX3_crash_34
  · replace hvc_4 := hvc_4.2 h9
    refine lv_aload_n hx hb dX3_crash_12 rfl (lv_at hl 0 rfl) ?_
    refine lv_iconst (v := nI 1) hx hb dX3_crash_13 (by decide) ?_
    refine gw_cVIN (As := [.int (nI 1)]) (rest := [])  ⟨hx, hb, hml, hown, hts⟩ (met_X3_fails l E G1 o (nI 1) _ hvc_4.2) (cwV 1 hts (lw_V q1837 q1839 qs33 q104 q1840) rfl rfl rfl (by decide +kernel) ⟨Nat.le_of_ble_eq_true rfl, Nat.le_of_ble_eq_true rfl⟩) (gw_rc (q := (RX3, TX3, 13)) hK hG_5 hvc_4.1 rfl) (Nat.zero_le _) (Nat.zero_le _) (g_St0 E) hz trivial hK hG_5 hS_6 rfl hl.1 rfl (Nat.le_of_ble_eq_true rfl) dX3_crash_14 (fun x12 G13 H locs hvc_18 hG_19 hS_20 => ?_)
    clear hvc_4 hG_5 hS_6
    exact g_iret hx hb hr hlocks (Nat.zero_le _) (Nat.zero_le _) hG_19 hS_20 rfl hvc_18 dX3_crash_17
set_option maxHeartbeats 4000000 in
set_option maxRecDepth 100000 in
theorem met_X3_recovers (l : Launch) (E : g_E) (G : g_G) (o : Nat) (p1 : Int32) (post : g_G → Prop) (hvc : wp_X3_recovers E G o p1 post) : g_MV E l yX3_recovers (ws_ yX3_recovers cX3_recovers 3 (Option.none : Option Jvm.ClassFile.FieldType)) ({ frames := 4, cells := 0, slots := 0, locals := 88 } : Room) (fun _ => True) [.ref o, .int p1] G (post) := by
  refine g_enter (by decide +kernel) (Nat.le_of_ble_eq_true rfl) ?_
  intro p e s m below meth c ls hx hb hr hts hown hlocks hml hin hz hX hK hG hS hl
  have hl : lv_has ls 3 [(0, .ref o), (1, .int p1)] := hl
  have hown : s.vm.findClass RX3 = some m.cls := hown
  unfold wp_X3_recovers at hvc
  refine lv_aload_n hx hb dX3_recovers_0 rfl (lv_at hl 0 rfl) ?_
  refine gw_gr (C := RX3) (T := TX3) (N := 13) (own := RX3) hx hb hts in_X3 hown hK hG hvc rfl (by decide) (hts _ q1784) (fun _ h9 => h9) dX3_recovers_1 (fun x1 hvc_1 => ?_)
  clear hvc
  refine lv_iconst (v := nI 0) hx hb dX3_recovers_4 (by decide) ?_
  refine lv_iload_n hx hb dX3_recovers_5 rfl (lv_at hl 1 rfl) ?_
  refine lv_iadd hx hb dX3_recovers_6 ?_
  refine lv_iconst (v := nI 1) hx hb dX3_recovers_7 (by decide) ?_
  refine gw_ist hx hb hK hG hS hvc_1 dX3_recovers_8 (fun G2 H locs hvc_2 hG_3 hS_4 => ?_)
  clear hvc_1 hG hS
  refine lv_iconst (v := nI 0) hx hb dX3_recovers_9 (by decide) ?_
  have lp11 : ∀ (n11 : Nat) (y0 : Nat) (y1 : Int32) (y2 : Int32) (G : g_G) (H : Heap) (locs : List Loc) (ls : Array Slot), wp_X3_recovers_11 E post n11 y0 y1 y2 G → g_H E G H → va_S (g_A E) s.heap H locs → lv_has ls 3 [(0, .ref y0), (1, .int y1), (2, .int y2)] → W p l e ({ frames := 4, cells := 0, slots := 0, locals := 88 } : Room) s m ([.ref o, .int p1] : List Value).toArray below meth c H locs 0 0 (MQ below (va_Qv (post) (g_Bk E) (g_A E)) ([.ref o, .int p1] : List Value).toArray s 0 0 (g_A E)) (F0 m 11 ls []) := by
    clear hvc_2 hG_3 hS_4 hl
    intro n11
    induction n11 with
    | zero =>
      intro y0 y1 y2 G H locs ls hvc_5 hG_6 hS_7 hl_8
      exact False.elim hvc_5
    | succ n11 ih11 =>
      intro y0 y1 y2 G H locs ls hvc_9 hG_10 hS_11 hl_12
      refine lv_iload_n hx hb dX3_recovers_11 rfl (lv_at hl_12 2 rfl) ?_
      refine lv_aload_n hx hb dX3_recovers_12 rfl (lv_at hl_12 0 rfl) ?_
      refine gw_gr (C := RX3) (T := TX3) (N := 13) (own := RX3) hx hb hts in_X3 hown hK hG_10 hvc_9 rfl (by decide) (hts _ q1784) (fun _ h9 => h9) dX3_recovers_13 (fun x3 hvc_13 => ?_)
      clear hvc_9
      refine lv_bipush (v := nI 9) hx hb dX3_recovers_16 (by decide) ?_
      refine gw_ild hx hb hK hG_10 hvc_13 dX3_recovers_18 (fun x4 hvc_14 => ?_)
      clear hvc_13
      refine lv_icmp_ge (tgt := 105) hx hb dX3_recovers_19 (by decide) (fun h9 => ?_) (fun h9 => ?_)
      · replace hvc_14 := hvc_14.1 h9
        exact g_vret hx hb hr hlocks (Nat.zero_le _) (Nat.zero_le _) hG_10 hS_11 hvc_14 dX3_recovers_105
      · replace hvc_14 := hvc_14.2 h9
        refine lv_iload_n hx hb dX3_recovers_22 rfl (lv_at hl_12 1 rfl) ?_
        refine lv_iconst (v := nI 4) hx hb dX3_recovers_23 (by decide) ?_
        have jn99 : ∀ (y0 : Nat) (y1 : Int32) (y2 : Int32) (G : g_G) (H : Heap) (locs : List Loc) (ls : Array Slot), wp_X3_recovers_99 E post (wp_X3_recovers_11 E post n11) y0 y1 y2 G → g_H E G H → va_S (g_A E) s.heap H locs → lv_has ls 3 [(0, .ref y0), (1, .int y1), (2, .int y2)] → W p l e ({ frames := 4, cells := 0, slots := 0, locals := 88 } : Room) s m ([.ref o, .int p1] : List Value).toArray below meth c H locs 0 0 (MQ below (va_Qv (post) (g_Bk E) (g_A E)) ([.ref o, .int p1] : List Value).toArray s 0 0 (g_A E)) (F0 m 99 ls []) := by
          clear hvc_14 hG_10 hS_11 hl_12
          intro y0 y1 y2 G H locs ls hvc_15 hG_16 hS_17 hl_18
          refine lv_iinc (k := 2) (v := y2 + (nI 1)) (lv' := [(2, .int (y2 + (nI 1))), (0, .ref y0), (1, .int y1)]) hx hb dX3_recovers_99 hl_18 rfl (congrArg (y2 + ·) (by decide : Int32.ofInt (1) = nI 1)) (by decide) rfl (fun ls hl_19 => ?_)
          clear hl_18
          refine lv_goto (tgt := 11) hx hb dX3_recovers_102 (by decide) ?_
          exact ih11 y0 y1 (y2 + (nI 1)) G _ _ _ hvc_15 hG_16 hS_17 (lv_sub hl_19 [1, 2, 0] rfl)
        have jn45 : ∀ (y0 : Nat) (y1 : Int32) (y2 : Int32) (G : g_G) (H : Heap) (locs : List Loc) (ls : Array Slot), wp_X3_recovers_45 E post (wp_X3_recovers_99 E post (wp_X3_recovers_11 E post n11)) y0 y1 y2 G → g_H E G H → va_S (g_A E) s.heap H locs → lv_has ls 3 [(0, .ref y0), (1, .int y1), (2, .int y2)] → W p l e ({ frames := 4, cells := 0, slots := 0, locals := 88 } : Room) s m ([.ref o, .int p1] : List Value).toArray below meth c H locs 0 0 (MQ below (va_Qv (post) (g_Bk E) (g_A E)) ([.ref o, .int p1] : List Value).toArray s 0 0 (g_A E)) (F0 m 45 ls []) := by
          clear hvc_14 hG_10 hS_11 hl_12
          intro y0 y1 y2 G H locs ls hvc_20 hG_21 hS_22 hl_23
          refine lv_iload_n hx hb dX3_recovers_45 rfl (lv_at hl_23 1 rfl) ?_
          refine lv_iconst (v := nI 4) hx hb dX3_recovers_46 (by decide) ?_
          have jn76 : ∀ (y0 : Nat) (y1 : Int32) (y2 : Int32) (G : g_G) (H : Heap) (locs : List Loc) (ls : Array Slot), wp_X3_recovers_76 E post (wp_X3_recovers_99 E post (wp_X3_recovers_11 E post n11)) y0 y1 y2 G → g_H E G H → va_S (g_A E) s.heap H locs → lv_has ls 3 [(0, .ref y0), (1, .int y1), (2, .int y2)] → W p l e ({ frames := 4, cells := 0, slots := 0, locals := 88 } : Room) s m ([.ref o, .int p1] : List Value).toArray below meth c H locs 0 0 (MQ below (va_Qv (post) (g_Bk E) (g_A E)) ([.ref o, .int p1] : List Value).toArray s 0 0 (g_A E)) (F0 m 76 ls []) := by
            clear hvc_20 hG_21 hS_22 hl_23
            intro y0 y1 y2 G H locs ls hvc_24 hG_25 hS_26 hl_27
            refine lv_iload_n hx hb dX3_recovers_76 rfl (lv_at hl_27 1 rfl) ?_
            refine lv_iconst (v := nI 4) hx hb dX3_recovers_77 (by decide) ?_
            refine lv_icmp_eq (tgt := 99) hx hb dX3_recovers_78 (by decide) (fun h9 => ?_) (fun h9 => ?_)
            · replace hvc_24 := hvc_24.1 h9
              exact jn99 y0 y1 y2 G _ _ _ hvc_24 hG_25 hS_26 (lv_sub hl_27 [0, 1, 2] rfl)
            · replace hvc_24 := hvc_24.2 h9
              refine lv_aload_n hx hb dX3_recovers_81 rfl (lv_at hl_27 0 rfl) ?_
              refine lv_iload_n hx hb dX3_recovers_82 rfl (lv_at hl_27 1 rfl) ?_
              refine lv_iload_n hx hb dX3_recovers_83 rfl (lv_at hl_27 2 rfl) ?_
              refine gw_cVIP (As := [.int y1, .int y2]) (rest := [])  ⟨hx, hb, hml, hown, hts⟩ (met_X3_stateIn l E G y0 y1 y2 _ hvc_24.2) (cwV 2 hts (lw_V q1904 q1906 qs47 q104 q1907) rfl rfl rfl (by decide +kernel) ⟨Nat.le_of_ble_eq_true rfl, Nat.le_of_ble_eq_true rfl⟩) (gw_rc (q := (RX3, TX3, 13)) hK hG_25 hvc_24.1 rfl) (Nat.zero_le _) (Nat.zero_le _) (g_St0 E) hz trivial hK hG_25 hS_26 rfl hl_27.1 rfl (Nat.le_of_ble_eq_true rfl) dX3_recovers_84 (fun x5 H locs hvc_28 hG_29 hS_30 => ?_)
              clear hvc_24 hG_25 hS_26
              refine lv_iconst (v := nI 1) hx hb dX3_recovers_87 (by decide) ?_
              refine lv_icmp_ne (tgt := 99) hx hb dX3_recovers_88 (by decide) (fun h9 => ?_) (fun h9 => ?_)
              · replace hvc_28 := hvc_28.1 h9
                exact jn99 y0 y1 y2 G _ _ _ hvc_28 hG_29 hS_30 (lv_sub hl_27 [0, 1, 2] rfl)
              · replace hvc_28 := hvc_28.2 h9
                refine lv_aload_n hx hb dX3_recovers_91 rfl (lv_at hl_27 0 rfl) ?_
                refine lv_bipush (v := nI 6) hx hb dX3_recovers_92 (by decide) ?_
                refine lv_iload_n hx hb dX3_recovers_94 rfl (lv_at hl_27 2 rfl) ?_
                refine lv_iload_n hx hb dX3_recovers_95 rfl (lv_at hl_27 1 rfl) ?_
                refine gw_cVVN (As := [.int (nI 6), .int y2, .int y1]) (rest := [])  ⟨hx, hb, hml, hown, hts⟩ (met_X3_sends l E G y0 (nI 6) y2 y1 _ hvc_28.2) (cwV 3 hts (lw_V q1876 q1878 qs42 q104 q1879) rfl rfl rfl (by decide +kernel) ⟨Nat.le_of_ble_eq_true rfl, Nat.le_of_ble_eq_true rfl⟩) (gw_rc (q := (RX3, TX3, 13)) hK hG_29 hvc_28.1 rfl) (Nat.zero_le _) (Nat.zero_le _) (g_St0 E) hz trivial hK hG_29 hS_30 rfl hl_27.1 rfl (Nat.le_of_ble_eq_true rfl) dX3_recovers_96 (fun G8 H locs hvc_31 hG_32 hS_33 => ?_)
                clear hvc_28 hG_29 hS_30
                exact jn99 y0 y1 y2 G8 _ _ _ hvc_31 hG_32 hS_33 (lv_sub hl_27 [0, 1, 2] rfl)
          refine lv_icmp_ne (tgt := 76) hx hb dX3_recovers_47 (by decide) (fun h9 => ?_) (fun h9 => ?_)
          · replace hvc_20 := hvc_20.1 h9
            exact jn76 y0 y1 y2 G _ _ _ hvc_20 hG_21 hS_22 (lv_sub hl_23 [0, 1, 2] rfl)
          · replace hvc_20 := hvc_20.2 h9
            refine lv_aload_n hx hb dX3_recovers_50 rfl (lv_at hl_23 0 rfl) ?_
            refine lv_iload_n hx hb dX3_recovers_51 rfl (lv_at hl_23 2 rfl) ?_
            refine lv_bipush (v := nI 6) hx hb dX3_recovers_52 (by decide) ?_
            refine gw_cVIP (As := [.int y2, .int (nI 6)]) (rest := [])  ⟨hx, hb, hml, hown, hts⟩ (met_X3_of l E G y0 y2 (nI 6) _ hvc_20.2) (cwV 2 hts (lw_V q1872 q1874 qs41 q104 q1875) rfl rfl rfl (by decide +kernel) ⟨Nat.le_of_ble_eq_true rfl, Nat.le_of_ble_eq_true rfl⟩) (gw_rc (q := (RX3, TX3, 13)) hK hG_21 hvc_20.1 rfl) (Nat.zero_le _) (Nat.zero_le _) (g_St0 E) hz trivial hK hG_21 hS_22 rfl hl_23.1 rfl (Nat.le_of_ble_eq_true rfl) dX3_recovers_54 (fun x9 H locs hvc_34 hG_35 hS_36 => ?_)
            clear hvc_20 hG_21 hS_22
            refine lv_if_ne (tgt := 76) hx hb dX3_recovers_57 (by decide) (fun h9 => ?_) (fun h9 => ?_)
            · replace hvc_34 := hvc_34.1 h9
              exact jn76 y0 y1 y2 G _ _ _ hvc_34 hG_35 hS_36 (lv_sub hl_23 [0, 1, 2] rfl)
            · replace hvc_34 := hvc_34.2 h9
              refine lv_aload_n hx hb dX3_recovers_60 rfl (lv_at hl_23 0 rfl) ?_
              refine lv_iconst (v := nI 2) hx hb dX3_recovers_61 (by decide) ?_
              refine lv_aload_n hx hb dX3_recovers_62 rfl (lv_at hl_23 0 rfl) ?_
              refine lv_iload_n hx hb dX3_recovers_63 rfl (lv_at hl_23 2 rfl) ?_
              refine lv_iconst (v := nI 5) hx hb dX3_recovers_64 (by decide) ?_
              refine gw_cVIP (As := [.int y2, .int (nI 5)]) (rest := [.int (nI 2), .ref y0])  ⟨hx, hb, hml, hown, hts⟩ (met_X3_of l E G y0 y2 (nI 5) _ hvc_34.2) (cwV 2 hts (lw_V q1872 q1874 qs41 q104 q1875) rfl rfl rfl (by decide +kernel) ⟨Nat.le_of_ble_eq_true rfl, Nat.le_of_ble_eq_true rfl⟩) (gw_rc (q := (RX3, TX3, 13)) hK hG_35 hvc_34.1 rfl) (Nat.zero_le _) (Nat.zero_le _) (g_St0 E) hz trivial hK hG_35 hS_36 rfl hl_23.1 rfl (Nat.le_of_ble_eq_true rfl) dX3_recovers_65 (fun x11 H locs hvc_37 hG_38 hS_39 => ?_)
              clear hvc_34 hG_35 hS_36
              refine lv_iadd hx hb dX3_recovers_68 ?_
              refine lv_iload_n hx hb dX3_recovers_69 rfl (lv_at hl_23 2 rfl) ?_
              refine gw_cVVN (As := [.int ((nI 2) + x11), .int y2]) (rest := [])  ⟨hx, hb, hml, hown, hts⟩ (met_X3_sendsAll l E G y0 ((nI 2) + x11) y2 _ hvc_37.2) (cwV 2 hts (lw_V q1864 q1866 qs39 q104 q1867) rfl rfl rfl (by decide +kernel) ⟨Nat.le_of_ble_eq_true rfl, Nat.le_of_ble_eq_true rfl⟩) (gw_rc (q := (RX3, TX3, 13)) hK hG_38 hvc_37.1 rfl) (Nat.zero_le _) (Nat.zero_le _) (g_St0 E) hz trivial hK hG_38 hS_39 rfl hl_23.1 rfl (Nat.le_of_ble_eq_true rfl) dX3_recovers_70 (fun G14 H locs hvc_40 hG_41 hS_42 => ?_)
              clear hvc_37 hG_38 hS_39
              refine lv_goto (tgt := 99) hx hb dX3_recovers_73 (by decide) ?_
              exact jn99 y0 y1 y2 G14 _ _ _ hvc_40 hG_41 hS_42 (lv_sub hl_23 [0, 1, 2] rfl)
        refine lv_icmp_ne (tgt := 45) hx hb dX3_recovers_24 (by decide) (fun h9 => ?_) (fun h9 => ?_)
        · replace hvc_14 := hvc_14.1 h9
          exact jn45 y0 y1 y2 G _ _ _ hvc_14 hG_10 hS_11 (lv_sub hl_12 [0, 1, 2] rfl)
        · replace hvc_14 := hvc_14.2 h9
          refine lv_aload_n hx hb dX3_recovers_27 rfl (lv_at hl_12 0 rfl) ?_
          refine lv_iload_n hx hb dX3_recovers_28 rfl (lv_at hl_12 2 rfl) ?_
          refine lv_iconst (v := nI 5) hx hb dX3_recovers_29 (by decide) ?_
          refine gw_cVIP (As := [.int y2, .int (nI 5)]) (rest := [])  ⟨hx, hb, hml, hown, hts⟩ (met_X3_of l E G y0 y2 (nI 5) _ hvc_14.2) (cwV 2 hts (lw_V q1872 q1874 qs41 q104 q1875) rfl rfl rfl (by decide +kernel) ⟨Nat.le_of_ble_eq_true rfl, Nat.le_of_ble_eq_true rfl⟩) (gw_rc (q := (RX3, TX3, 13)) hK hG_10 hvc_14.1 rfl) (Nat.zero_le _) (Nat.zero_le _) (g_St0 E) hz trivial hK hG_10 hS_11 rfl hl_12.1 rfl (Nat.le_of_ble_eq_true rfl) dX3_recovers_30 (fun x15 H locs hvc_43 hG_44 hS_45 => ?_)
          clear hvc_14 hG_10 hS_11
          refine lv_if_ne (tgt := 45) hx hb dX3_recovers_33 (by decide) (fun h9 => ?_) (fun h9 => ?_)
          · replace hvc_43 := hvc_43.1 h9
            exact jn45 y0 y1 y2 G _ _ _ hvc_43 hG_44 hS_45 (lv_sub hl_12 [0, 1, 2] rfl)
          · replace hvc_43 := hvc_43.2 h9
            refine lv_aload_n hx hb dX3_recovers_36 rfl (lv_at hl_12 0 rfl) ?_
            refine lv_iload_n hx hb dX3_recovers_37 rfl (lv_at hl_12 2 rfl) ?_
            refine lv_iconst (v := nI 2) hx hb dX3_recovers_38 (by decide) ?_
            refine gw_cVVN (As := [.int y2, .int (nI 2)]) (rest := [])  ⟨hx, hb, hml, hown, hts⟩ (met_X3_decides l E G y0 y2 (nI 2) _ hvc_43.2) (cwV 2 hts (lw_V q1892 q1894 qs45 q104 q1895) rfl rfl rfl (by decide +kernel) ⟨Nat.le_of_ble_eq_true rfl, Nat.le_of_ble_eq_true rfl⟩) (gw_rc (q := (RX3, TX3, 13)) hK hG_44 hvc_43.1 rfl) (Nat.zero_le _) (Nat.zero_le _) (g_St0 E) hz trivial hK hG_44 hS_45 rfl hl_12.1 rfl (Nat.le_of_ble_eq_true rfl) dX3_recovers_39 (fun G18 H locs hvc_46 hG_47 hS_48 => ?_)
            clear hvc_43 hG_44 hS_45
            refine lv_goto (tgt := 99) hx hb dX3_recovers_42 (by decide) ?_
            exact jn99 y0 y1 y2 G18 _ _ _ hvc_46 hG_47 hS_48 (lv_sub hl_12 [0, 1, 2] rfl)
  refine lv_istore_n (lv' := [(2, .int (nI 0)), (0, .ref o), (1, .int p1)]) hx hb dX3_recovers_10 rfl hl (by decide) rfl (fun ls hl_49 => ?_)
  clear hl
  obtain ⟨nf11, hvc_2⟩ := hvc_2
  exact lp11 nf11 o p1 (nI 0) G2 _ _ _ hvc_2 hG_3 hS_4 (lv_sub hl_49 [1, 2, 0] rfl)
set_option maxHeartbeats 4000000 in
set_option maxRecDepth 100000 in
theorem met_X3_recover (l : Launch) (E : g_E) (G : g_G) (o : Nat) (p1 : Int32) (post : Int32 → g_G → Prop) (hvc : wp_X3_recover E G o p1 post) : g_MI E l yX3_recover (ws_ yX3_recover cX3_recover 2 (Option.some Jvm.ClassFile.FieldType.int)) ({ frames := 5, cells := 0, slots := 0, locals := 110 } : Room) (fun _ => True) [.ref o, .int p1] G (post) := by
  refine g_enter (by decide +kernel) (Nat.le_of_ble_eq_true rfl) ?_
  intro p e s m below meth c ls hx hb hr hts hown hlocks hml hin hz hX hK hG hS hl
  have hl : lv_has ls 2 [(0, .ref o), (1, .int p1)] := hl
  have hown : s.vm.findClass RX3 = some m.cls := hown
  unfold wp_X3_recover at hvc
  refine lv_aload_n hx hb dX3_recover_0 rfl (lv_at hl 0 rfl) ?_
  refine lv_iconst (v := nI 0) hx hb dX3_recover_1 (by decide) ?_
  refine gw_put (ty := .int) (C := RX3) (T := TX3) (N := 13) (own := RX3) hx hb hts in_X3 tyX3 tyX3_ok nmX3 hown hK hG hS hvc rfl (by decide) (hts _ q1783) (fun _ h9 => h9) rfl (by decide +kernel) rfl rfl dX3_recover_2 (fun G1 H locs hvc_1 hG_2 hS_3 => ?_)
  clear hvc hG hS
  refine lv_iload_n hx hb dX3_recover_5 rfl (lv_at hl 1 rfl) ?_
  refine gw_cSIP (As := [.int p1]) (rest := [])  ⟨hx, hb, hml, hown, hts⟩ (met_X3_isSite l E G1 p1 _ hvc_1) (va_cwS 1 hts (lw_S q1982 q1983 q104 q1984) rfl rfl rfl (by decide +kernel) ⟨Nat.le_of_ble_eq_true rfl, Nat.le_of_ble_eq_true rfl⟩) (Nat.zero_le _) (Nat.zero_le _) (g_St0 E) hz trivial hK hG_2 hS_3 rfl hl.1 rfl (Nat.le_of_ble_eq_true rfl) dX3_recover_6 (fun x2 H locs hvc_4 hG_5 hS_6 => ?_)
  clear hvc_1 hG_2 hS_3
  refine lv_if_ne (tgt := 18) hx hb dX3_recover_9 (by decide) (fun h9 => ?_) (fun h9 => ?_)
  · replace hvc_4 := hvc_4.1 h9
    refine lv_aload_n hx hb dX3_recover_18 rfl (lv_at hl 0 rfl) ?_
    refine gw_gr (C := RX3) (T := TX3) (N := 13) (own := RX3) hx hb hts in_X3 hown hK hG_5 hvc_4 rfl (by decide) (hts _ q1784) (fun _ h9 => h9) dX3_recover_19 (fun x4 hvc_7 => ?_)
    clear hvc_4
    refine lv_iconst (v := nI 0) hx hb dX3_recover_22 (by decide) ?_
    refine lv_iload_n hx hb dX3_recover_23 rfl (lv_at hl 1 rfl) ?_
    refine lv_iadd hx hb dX3_recover_24 ?_
    refine gw_ild hx hb hK hG_5 hvc_7 dX3_recover_25 (fun x5 hvc_8 => ?_)
    clear hvc_7
    refine lv_iconst (v := nI 1) hx hb dX3_recover_26 (by decide) ?_
    refine lv_icmp_ne (tgt := 36) hx hb dX3_recover_27 (by decide) (fun h9 => ?_) (fun h9 => ?_)
    · replace hvc_8 := hvc_8.1 h9
      refine lv_aload_n hx hb dX3_recover_36 rfl (lv_at hl 0 rfl) ?_
      refine gw_cVVN (As := []) (rest := [])  ⟨hx, hb, hml, hown, hts⟩ (met_X3_recordsState l E G1 o _ hvc_8.2) (cwV 0 hts (lw_V q1848 q1850 qs35 q104 q1851) rfl rfl rfl (by decide +kernel) ⟨Nat.le_of_ble_eq_true rfl, Nat.le_of_ble_eq_true rfl⟩) (gw_rc (q := (RX3, TX3, 13)) hK hG_5 hvc_8.1 rfl) (Nat.zero_le _) (Nat.zero_le _) (g_St0 E) hz trivial hK hG_5 hS_6 rfl hl.1 rfl (Nat.le_of_ble_eq_true rfl) dX3_recover_37 (fun G7 H locs hvc_9 hG_10 hS_11 => ?_)
      clear hvc_8 hG_5 hS_6
      refine lv_aload_n hx hb dX3_recover_40 rfl (lv_at hl 0 rfl) ?_
      refine lv_iload_n hx hb dX3_recover_41 rfl (lv_at hl 1 rfl) ?_
      refine gw_cVVN (As := [.int p1]) (rest := [])  ⟨hx, hb, hml, hown, hts⟩ (met_X3_recovers l E G7 o p1 _ hvc_9.2) (cwV 1 hts (lw_V q1993 q1995 qs61 q104 q1996) rfl rfl rfl (by decide +kernel) ⟨Nat.le_of_ble_eq_true rfl, Nat.le_of_ble_eq_true rfl⟩) (gw_rc (q := (RX3, TX3, 13)) hK hG_10 hvc_9.1 rfl) (Nat.zero_le _) (Nat.zero_le _) (g_St0 E) hz trivial hK hG_10 hS_11 rfl hl.1 rfl (Nat.le_of_ble_eq_true rfl) dX3_recover_42 (fun G9 H locs hvc_12 hG_13 hS_14 => ?_)
      clear hvc_9 hG_10 hS_11
      refine lv_aload_n hx hb dX3_recover_45 rfl (lv_at hl 0 rfl) ?_
      refine gw_gr (C := RX3) (T := TX3) (N := 13) (own := RX3) hx hb hts in_X3 hown hK hG_13 hvc_12 rfl (by decide) (hts _ q1784) (fun _ h9 => h9) dX3_recover_46 (fun x10 hvc_15 => ?_)
      clear hvc_12
      refine lv_bipush (v := nI 13) hx hb dX3_recover_49 (by decide) ?_
      refine gw_ild hx hb hK hG_13 hvc_15 dX3_recover_51 (fun x11 hvc_16 => ?_)
      clear hvc_15
      exact g_iret hx hb hr hlocks (Nat.zero_le _) (Nat.zero_le _) hG_13 hS_14 rfl hvc_16 dX3_recover_52
    · replace hvc_8 := hvc_8.2 h9
      refine lv_aload_n hx hb dX3_recover_30 rfl (lv_at hl 0 rfl) ?_
      refine lv_iconst (v := nI 2) hx hb dX3_recover_31 (by decide) ?_
      refine gw_cVIN (As := [.int (nI 2)]) (rest := [])  ⟨hx, hb, hml, hown, hts⟩ (met_X3_fails l E G1 o (nI 2) _ hvc_8.2) (cwV 1 hts (lw_V q1837 q1839 qs33 q104 q1840) rfl rfl rfl (by decide +kernel) ⟨Nat.le_of_ble_eq_true rfl, Nat.le_of_ble_eq_true rfl⟩) (gw_rc (q := (RX3, TX3, 13)) hK hG_5 hvc_8.1 rfl) (Nat.zero_le _) (Nat.zero_le _) (g_St0 E) hz trivial hK hG_5 hS_6 rfl hl.1 rfl (Nat.le_of_ble_eq_true rfl) dX3_recover_32 (fun x12 G13 H locs hvc_17 hG_18 hS_19 => ?_)
      clear hvc_8 hG_5 hS_6
      exact g_iret hx hb hr hlocks (Nat.zero_le _) (Nat.zero_le _) hG_18 hS_19 rfl hvc_17 dX3_recover_35
  · replace hvc_4 := hvc_4.2 h9
    refine lv_aload_n hx hb dX3_recover_12 rfl (lv_at hl 0 rfl) ?_
    refine lv_iconst (v := nI 1) hx hb dX3_recover_13 (by decide) ?_
    refine gw_cVIN (As := [.int (nI 1)]) (rest := [])  ⟨hx, hb, hml, hown, hts⟩ (met_X3_fails l E G1 o (nI 1) _ hvc_4.2) (cwV 1 hts (lw_V q1837 q1839 qs33 q104 q1840) rfl rfl rfl (by decide +kernel) ⟨Nat.le_of_ble_eq_true rfl, Nat.le_of_ble_eq_true rfl⟩) (gw_rc (q := (RX3, TX3, 13)) hK hG_5 hvc_4.1 rfl) (Nat.zero_le _) (Nat.zero_le _) (g_St0 E) hz trivial hK hG_5 hS_6 rfl hl.1 rfl (Nat.le_of_ble_eq_true rfl) dX3_recover_14 (fun x14 G15 H locs hvc_20 hG_21 hS_22 => ?_)
    clear hvc_4 hG_5 hS_6
    exact g_iret hx hb hr hlocks (Nat.zero_le _) (Nat.zero_le _) hG_21 hS_22 rfl hvc_20 dX3_recover_17
set_option maxHeartbeats 4000000 in
set_option maxRecDepth 100000 in
theorem met_X3_append (l : Launch) (E : g_E) (G : g_G) (o : Nat) (p1 : Int32) (post : Int32 → g_G → Prop) (hvc : wp_X3_append E G o p1 post) : g_MI E l yX3_append (ws_ yX3_append cX3_append 2 (Option.some Jvm.ClassFile.FieldType.int)) ({ frames := 1, cells := 0, slots := 0, locals := 22 } : Room) (fun _ => True) [.ref o, .int p1] G (post) := by
  refine g_enter (by decide +kernel) (Nat.le_of_ble_eq_true rfl) ?_
  intro p e s m below meth c ls hx hb hr hts hown hlocks hml hin hz hX hK hG hS hl
  have hl : lv_has ls 2 [(0, .ref o), (1, .int p1)] := hl
  have hown : s.vm.findClass RX3 = some m.cls := hown
  unfold wp_X3_append at hvc
  refine lv_aload_n hx hb dX3_append_0 rfl (lv_at hl 0 rfl) ?_
  refine lv_iconst (v := nI 0) hx hb dX3_append_1 (by decide) ?_
  refine gw_put (ty := .int) (C := RX3) (T := TX3) (N := 13) (own := RX3) hx hb hts in_X3 tyX3 tyX3_ok nmX3 hown hK hG hS hvc rfl (by decide) (hts _ q1783) (fun _ h9 => h9) rfl (by decide +kernel) rfl rfl dX3_append_2 (fun G1 H locs hvc_1 hG_2 hS_3 => ?_)
  clear hvc hG hS
  refine lv_iload_n hx hb dX3_append_5 rfl (lv_at hl 1 rfl) ?_
  refine lv_bipush (v := nI 33) hx hb dX3_append_6 (by decide) ?_
  refine lv_bipush (v := nI 126) hx hb dX3_append_8 (by decide) ?_
  refine gw_cSIP (As := [.int p1, .int (nI 33), .int (nI 126)]) (rest := [])  ⟨hx, hb, hml, hown, hts⟩ (met_X3_in l E G1 p1 (nI 33) (nI 126) _ hvc_1) (va_cwS 3 hts (lw_S q1834 q1835 q104 q1836) rfl rfl rfl (by decide +kernel) ⟨Nat.le_of_ble_eq_true rfl, Nat.le_of_ble_eq_true rfl⟩) (Nat.zero_le _) (Nat.zero_le _) (g_St0 E) hz trivial hK hG_2 hS_3 rfl hl.1 rfl (Nat.le_of_ble_eq_true rfl) dX3_append_10 (fun x2 H locs hvc_4 hG_5 hS_6 => ?_)
  clear hvc_1 hG_2 hS_3
  refine lv_if_ne (tgt := 22) hx hb dX3_append_13 (by decide) (fun h9 => ?_) (fun h9 => ?_)
  · replace hvc_4 := hvc_4.1 h9
    refine lv_aload_n hx hb dX3_append_22 rfl (lv_at hl 0 rfl) ?_
    refine gw_gi (C := RX3) (T := TX3) (N := 13) (own := RX3) hx hb hts in_X3 hown hK hG_5 hvc_4 rfl (by decide) (hts _ q1791) (fun _ h9 => h9) dX3_append_23 (fun x4 hvc_7 => ?_)
    clear hvc_4
    refine lv_bipush (v := nI 60) hx hb dX3_append_26 (by decide) ?_
    refine lv_icmp_ne (tgt := 37) hx hb dX3_append_28 (by decide) (fun h9 => ?_) (fun h9 => ?_)
    · replace hvc_7 := hvc_7.1 h9
      refine lv_aload_n hx hb dX3_append_37 rfl (lv_at hl 0 rfl) ?_
      refine gw_gr (C := RX3) (T := TX3) (N := 13) (own := RX3) hx hb hts in_X3 hown hK hG_5 hvc_7 rfl (by decide) (hts _ q1790) (fun _ h9 => h9) dX3_append_38 (fun x5 hvc_8 => ?_)
      clear hvc_7
      refine lv_aload_n hx hb dX3_append_41 rfl (lv_at hl 0 rfl) ?_
      refine gw_gi (C := RX3) (T := TX3) (N := 13) (own := RX3) hx hb hts in_X3 hown hK hG_5 hvc_8 rfl (by decide) (hts _ q1791) (fun _ h9 => h9) dX3_append_42 (fun x6 hvc_9 => ?_)
      clear hvc_8
      refine lv_iload_n hx hb dX3_append_45 rfl (lv_at hl 1 rfl) ?_
      refine gw_ist hx hb hK hG_5 hS_6 hvc_9 dX3_append_46 (fun G7 H locs hvc_10 hG_11 hS_12 => ?_)
      clear hvc_9 hG_5 hS_6
      refine lv_aload_n hx hb dX3_append_47 rfl (lv_at hl 0 rfl) ?_
      refine lv_dup hx hb dX3_append_48 rfl ?_
      refine gw_gi (C := RX3) (T := TX3) (N := 13) (own := RX3) hx hb hts in_X3 hown hK hG_11 hvc_10 rfl (by decide) (hts _ q1791) (fun _ h9 => h9) dX3_append_49 (fun x8 hvc_13 => ?_)
      clear hvc_10
      refine lv_iconst (v := nI 1) hx hb dX3_append_52 (by decide) ?_
      refine lv_iadd hx hb dX3_append_53 ?_
      refine gw_put (ty := .int) (C := RX3) (T := TX3) (N := 13) (own := RX3) hx hb hts in_X3 tyX3 tyX3_ok nmX3 hown hK hG_11 hS_12 hvc_13 rfl (by decide) (hts _ q1791) (fun _ h9 => h9) rfl (by decide +kernel) rfl rfl dX3_append_54 (fun G9 H locs hvc_14 hG_15 hS_16 => ?_)
      clear hvc_13 hG_11 hS_12
      refine lv_aload_n hx hb dX3_append_57 rfl (lv_at hl 0 rfl) ?_
      refine gw_gi (C := RX3) (T := TX3) (N := 13) (own := RX3) hx hb hts in_X3 hown hK hG_15 hvc_14 rfl (by decide) (hts _ q1791) (fun _ h9 => h9) dX3_append_58 (fun x10 hvc_17 => ?_)
      clear hvc_14
      exact g_iret hx hb hr hlocks (Nat.zero_le _) (Nat.zero_le _) hG_15 hS_16 rfl hvc_17 dX3_append_61
    · replace hvc_7 := hvc_7.2 h9
      refine lv_aload_n hx hb dX3_append_31 rfl (lv_at hl 0 rfl) ?_
      refine lv_iconst (v := nI 2) hx hb dX3_append_32 (by decide) ?_
      refine gw_cVIN (As := [.int (nI 2)]) (rest := [])  ⟨hx, hb, hml, hown, hts⟩ (met_X3_fails l E G1 o (nI 2) _ hvc_7.2) (cwV 1 hts (lw_V q1837 q1839 qs33 q104 q1840) rfl rfl rfl (by decide +kernel) ⟨Nat.le_of_ble_eq_true rfl, Nat.le_of_ble_eq_true rfl⟩) (gw_rc (q := (RX3, TX3, 13)) hK hG_5 hvc_7.1 rfl) (Nat.zero_le _) (Nat.zero_le _) (g_St0 E) hz trivial hK hG_5 hS_6 rfl hl.1 rfl (Nat.le_of_ble_eq_true rfl) dX3_append_33 (fun x11 G12 H locs hvc_18 hG_19 hS_20 => ?_)
      clear hvc_7 hG_5 hS_6
      exact g_iret hx hb hr hlocks (Nat.zero_le _) (Nat.zero_le _) hG_19 hS_20 rfl hvc_18 dX3_append_36
  · replace hvc_4 := hvc_4.2 h9
    refine lv_aload_n hx hb dX3_append_16 rfl (lv_at hl 0 rfl) ?_
    refine lv_iconst (v := nI 1) hx hb dX3_append_17 (by decide) ?_
    refine gw_cVIN (As := [.int (nI 1)]) (rest := [])  ⟨hx, hb, hml, hown, hts⟩ (met_X3_fails l E G1 o (nI 1) _ hvc_4.2) (cwV 1 hts (lw_V q1837 q1839 qs33 q104 q1840) rfl rfl rfl (by decide +kernel) ⟨Nat.le_of_ble_eq_true rfl, Nat.le_of_ble_eq_true rfl⟩) (gw_rc (q := (RX3, TX3, 13)) hK hG_5 hvc_4.1 rfl) (Nat.zero_le _) (Nat.zero_le _) (g_St0 E) hz trivial hK hG_5 hS_6 rfl hl.1 rfl (Nat.le_of_ble_eq_true rfl) dX3_append_18 (fun x13 G14 H locs hvc_21 hG_22 hS_23 => ?_)
    clear hvc_4 hG_5 hS_6
    exact g_iret hx hb hr hlocks (Nat.zero_le _) (Nat.zero_le _) hG_22 hS_23 rfl hvc_21 dX3_append_21
set_option maxHeartbeats 4000000 in
set_option maxRecDepth 100000 in
theorem met_X3_clearBuffer (l : Launch) (E : g_E) (G : g_G) (o : Nat) (post : Int32 → g_G → Prop) (hvc : wp_X3_clearBuffer E G o post) : g_MI E l yX3_clearBuffer (ws_ yX3_clearBuffer cX3_clearBuffer 2 (Option.some Jvm.ClassFile.FieldType.int)) ({ frames := 0, cells := 0, slots := 0, locals := 0 } : Room) (fun _ => True) [.ref o] G (post) := by
  refine g_enter (by decide +kernel) (Nat.le_of_ble_eq_true rfl) ?_
  intro p e s m below meth c ls hx hb hr hts hown hlocks hml hin hz hX hK hG hS hl
  have hl : lv_has ls 2 [(0, .ref o)] := hl
  have hown : s.vm.findClass RX3 = some m.cls := hown
  unfold wp_X3_clearBuffer at hvc
  refine lv_aload_n hx hb dX3_clearBuffer_0 rfl (lv_at hl 0 rfl) ?_
  refine lv_iconst (v := nI 0) hx hb dX3_clearBuffer_1 (by decide) ?_
  refine gw_put (ty := .int) (C := RX3) (T := TX3) (N := 13) (own := RX3) hx hb hts in_X3 tyX3 tyX3_ok nmX3 hown hK hG hS hvc rfl (by decide) (hts _ q1783) (fun _ h9 => h9) rfl (by decide +kernel) rfl rfl dX3_clearBuffer_2 (fun G1 H locs hvc_1 hG_2 hS_3 => ?_)
  clear hvc hG hS
  refine lv_aload_n hx hb dX3_clearBuffer_5 rfl (lv_at hl 0 rfl) ?_
  refine gw_gi (C := RX3) (T := TX3) (N := 13) (own := RX3) hx hb hts in_X3 hown hK hG_2 hvc_1 rfl (by decide) (hts _ q1791) (fun _ h9 => h9) dX3_clearBuffer_6 (fun x2 hvc_4 => ?_)
  clear hvc_1
  refine lv_istore_n (lv' := [(1, .int x2), (0, .ref o)]) hx hb dX3_clearBuffer_9 rfl hl (by decide) rfl (fun ls hl_5 => ?_)
  clear hl
  refine lv_aload_n hx hb dX3_clearBuffer_10 rfl (lv_at hl_5 1 rfl) ?_
  refine lv_iconst (v := nI 0) hx hb dX3_clearBuffer_11 (by decide) ?_
  refine gw_put (ty := .int) (C := RX3) (T := TX3) (N := 13) (own := RX3) hx hb hts in_X3 tyX3 tyX3_ok nmX3 hown hK hG_2 hS_3 hvc_4 rfl (by decide) (hts _ q1791) (fun _ h9 => h9) rfl (by decide +kernel) rfl rfl dX3_clearBuffer_12 (fun G3 H locs hvc_6 hG_7 hS_8 => ?_)
  clear hvc_4 hG_2 hS_3
  refine lv_iload_n hx hb dX3_clearBuffer_15 rfl (lv_at hl_5 0 rfl) ?_
  exact g_iret hx hb hr hlocks (Nat.zero_le _) (Nat.zero_le _) hG_7 hS_8 rfl hvc_6 dX3_clearBuffer_16
set_option maxHeartbeats 4000000 in
set_option maxRecDepth 100000 in
theorem met_X3_sign (l : Launch) (E : g_E) (G : g_G) (o : Nat) (post : Int32 → Prop) (hvc : wp_X3_sign E G o post) : g_MI E l yX3_sign (ws_ yX3_sign cX3_sign 1 (Option.some Jvm.ClassFile.FieldType.int)) ({ frames := 0, cells := 0, slots := 0, locals := 0 } : Room) (fun _ => True) [.ref o] G (fun v G9 => G9 = G ∧ post v) := by
  refine g_enter (by decide +kernel) (Nat.le_of_ble_eq_true rfl) ?_
  intro p e s m below meth c ls hx hb hr hts hown hlocks hml hin hz hX hK hG hS hl
  have hl : lv_has ls 1 [(0, .ref o)] := hl
  have hown : s.vm.findClass RX3 = some m.cls := hown
  unfold wp_X3_sign at hvc
  refine lv_aload_n hx hb dX3_sign_0 rfl (lv_at hl 0 rfl) ?_
  refine gw_gi (C := RX3) (T := TX3) (N := 13) (own := RX3) hx hb hts in_X3 hown hK hG hvc rfl (by decide) (hts _ q1792) (fun _ h9 => h9) dX3_sign_1 (fun x1 hvc_1 => ?_)
  clear hvc
  refine lv_aload_n hx hb dX3_sign_4 rfl (lv_at hl 0 rfl) ?_
  refine gw_gi (C := RX3) (T := TX3) (N := 13) (own := RX3) hx hb hts in_X3 hown hK hG hvc_1 rfl (by decide) (hts _ q1791) (fun _ h9 => h9) dX3_sign_5 (fun x2 hvc_2 => ?_)
  clear hvc_1
  refine lv_icmp_ge (tgt := 23) hx hb dX3_sign_8 (by decide) (fun h9 => ?_) (fun h9 => ?_)
  · replace hvc_2 := hvc_2.1 h9
    refine lv_iconst (v := nI 0) hx hb dX3_sign_23 (by decide) ?_
    exact g_iret hx hb hr hlocks (Nat.zero_le _) (Nat.zero_le _) hG hS rfl ⟨rfl, hvc_2⟩ dX3_sign_24
  · replace hvc_2 := hvc_2.2 h9
    refine lv_aload_n hx hb dX3_sign_11 rfl (lv_at hl 0 rfl) ?_
    refine gw_gr (C := RX3) (T := TX3) (N := 13) (own := RX3) hx hb hts in_X3 hown hK hG hvc_2 rfl (by decide) (hts _ q1790) (fun _ h9 => h9) dX3_sign_12 (fun x3 hvc_3 => ?_)
    clear hvc_2
    refine lv_aload_n hx hb dX3_sign_15 rfl (lv_at hl 0 rfl) ?_
    refine gw_gi (C := RX3) (T := TX3) (N := 13) (own := RX3) hx hb hts in_X3 hown hK hG hvc_3 rfl (by decide) (hts _ q1792) (fun _ h9 => h9) dX3_sign_16 (fun x4 hvc_4 => ?_)
    clear hvc_3
    refine gw_ild hx hb hK hG hvc_4 dX3_sign_19 (fun x5 hvc_5 => ?_)
    clear hvc_4
    refine lv_goto (tgt := 24) hx hb dX3_sign_20 (by decide) ?_
    exact g_iret hx hb hr hlocks (Nat.zero_le _) (Nat.zero_le _) hG hS rfl ⟨rfl, hvc_5⟩ dX3_sign_24
set_option maxHeartbeats 4000000 in
set_option maxRecDepth 100000 in
theorem met_X3_reads (l : Launch) (E : g_E) (G : g_G) (o : Nat) (p1 : Int32) (p2 : Int32) (post : Int32 → g_G → Prop) (hvc : wp_X3_reads E G o p1 p2 post) : g_MI E l yX3_reads (ws_ yX3_reads cX3_reads 4 (Option.some Jvm.ClassFile.FieldType.int)) ({ frames := 1, cells := 0, slots := 0, locals := 22 } : Room) (fun _ => True) [.ref o, .int p1, .int p2] G (post) := by
  refine g_enter (by decide +kernel) (Nat.le_of_ble_eq_true rfl) ?_
  intro p e s m below meth c ls hx hb hr hts hown hlocks hml hin hz hX hK hG hS hl
  have hl : lv_has ls 4 [(0, .ref o), (1, .int p1), (2, .int p2)] := hl
  have hown : s.vm.findClass RX3 = some m.cls := hown
  unfold wp_X3_reads at hvc
  refine lv_aload_n hx hb dX3_reads_0 rfl (lv_at hl 0 rfl) ?_
  refine lv_aload_n hx hb dX3_reads_1 rfl (lv_at hl 0 rfl) ?_
  refine gw_gi (C := RX3) (T := TX3) (N := 13) (own := RX3) hx hb hts in_X3 hown hK hG hvc rfl (by decide) (hts _ q1793) (fun _ h9 => h9) dX3_reads_2 (fun x1 hvc_1 => ?_)
  clear hvc
  have jn25 : ∀ (y0 : Nat) (s0 : Int32) (s1 : Nat) (G : g_G) (H : Heap) (locs : List Loc) (ls : Array Slot), wp_X3_reads_25 E post y0 s0 s1 G → g_H E G H → va_S (g_A E) s.heap H locs → lv_has ls 4 [(0, .ref y0)] → W p l e ({ frames := 1, cells := 0, slots := 0, locals := 22 } : Room) s m ([.ref o, .int p1, .int p2] : List Value).toArray below meth c H locs 0 0 (MQ below (va_Qi (post) (g_Bk E) (g_A E)) ([.ref o, .int p1, .int p2] : List Value).toArray s 0 0 (g_A E)) (F0 m 25 ls [.int s0, .ref s1]) := by
    clear hvc_1 hG hS hl
    intro y0 s0 s1 G H locs ls hvc_2 hG_3 hS_4 hl_5
    refine gw_putn (C := RX3) (T := TX3) (N := 13) (own := RX3) hx hb hts in_X3 tyX3 tyX3_ok nmX3 hown hK hG_3 hS_4 hvc_2 rfl (by decide) (hts _ q1793) (fun _ h9 => h9) rfl (by decide +kernel) dX3_reads_25 (fun G2 H locs hvc_6 hG_7 hS_8 => ?_)
    clear hvc_2 hG_3 hS_4
    refine lv_aload_n hx hb dX3_reads_28 rfl (lv_at hl_5 0 rfl) ?_
    refine gw_cVIP (As := []) (rest := [])  ⟨hx, hb, hml, hown, hts⟩ (met_X3_sign l E G2 y0 _ hvc_6.2) (cwV 0 hts (lw_V q2017 q2019 qs64 q104 q2020) rfl rfl rfl (by decide +kernel) ⟨Nat.le_of_ble_eq_true rfl, Nat.le_of_ble_eq_true rfl⟩) (gw_rc (q := (RX3, TX3, 13)) hK hG_7 hvc_6.1 rfl) (Nat.zero_le _) (Nat.zero_le _) (g_St0 E) hz trivial hK hG_7 hS_8 rfl hl_5.1 rfl (Nat.le_of_ble_eq_true rfl) dX3_reads_29 (fun x3 H locs hvc_9 hG_10 hS_11 => ?_)
    clear hvc_6 hG_7 hS_8
    refine lv_bipush (v := nI 48) hx hb dX3_reads_32 (by decide) ?_
    refine lv_isub hx hb dX3_reads_34 ?_
    refine lv_istore_n (lv' := [(3, .int (x3 - (nI 48))), (0, .ref y0)]) hx hb dX3_reads_35 rfl hl_5 (by decide) rfl (fun ls hl_12 => ?_)
    clear hl_5
    refine lv_aload_n hx hb dX3_reads_36 rfl (lv_at hl_12 1 rfl) ?_
    refine lv_dup hx hb dX3_reads_37 rfl ?_
    refine gw_gi (C := RX3) (T := TX3) (N := 13) (own := RX3) hx hb hts in_X3 hown hK hG_10 hvc_9 rfl (by decide) (hts _ q1792) (fun _ h9 => h9) dX3_reads_38 (fun x5 hvc_13 => ?_)
    clear hvc_9
    refine lv_aload_n hx hb dX3_reads_41 rfl (lv_at hl_12 1 rfl) ?_
    refine gw_gi (C := RX3) (T := TX3) (N := 13) (own := RX3) hx hb hts in_X3 hown hK hG_10 hvc_13 rfl (by decide) (hts _ q1793) (fun _ h9 => h9) dX3_reads_42 (fun x6 hvc_14 => ?_)
    clear hvc_13
    have jn53 : ∀ (y3 : Int32) (s0 : Int32) (s1 : Int32) (s2 : Nat) (G : g_G) (H : Heap) (locs : List Loc) (ls : Array Slot), wp_X3_reads_53 E post y3 s0 s1 s2 G → g_H E G H → va_S (g_A E) s.heap H locs → lv_has ls 4 [(3, .int y3)] → W p l e ({ frames := 1, cells := 0, slots := 0, locals := 22 } : Room) s m ([.ref o, .int p1, .int p2] : List Value).toArray below meth c H locs 0 0 (MQ below (va_Qi (post) (g_Bk E) (g_A E)) ([.ref o, .int p1, .int p2] : List Value).toArray s 0 0 (g_A E)) (F0 m 53 ls [.int s0, .int s1, .ref s2]) := by
      clear hvc_14 hG_10 hS_11 hl_12
      intro y3 s0 s1 s2 G H locs ls hvc_15 hG_16 hS_17 hl_18
      refine lv_iadd hx hb dX3_reads_53 ?_
      refine gw_put (ty := .int) (C := RX3) (T := TX3) (N := 13) (own := RX3) hx hb hts in_X3 tyX3 tyX3_ok nmX3 hown hK hG_16 hS_17 hvc_15 rfl (by decide) (hts _ q1792) (fun _ h9 => h9) rfl (by decide +kernel) rfl rfl dX3_reads_54 (fun G7 H locs hvc_19 hG_20 hS_21 => ?_)
      clear hvc_15 hG_16 hS_17
      refine lv_iload_n hx hb dX3_reads_57 rfl (lv_at hl_18 0 rfl) ?_
      exact g_iret hx hb hr hlocks (Nat.zero_le _) (Nat.zero_le _) hG_20 hS_21 rfl hvc_19 dX3_reads_58
    refine lv_if_eq (tgt := 52) hx hb dX3_reads_45 (by decide) (fun h9 => ?_) (fun h9 => ?_)
    · replace hvc_14 := hvc_14.1 h9
      refine lv_iconst (v := nI 0) hx hb dX3_reads_52 (by decide) ?_
      exact jn53 (x3 - (nI 48)) (nI 0) x5 y0 G2 _ _ _ hvc_14 hG_10 hS_11 (lv_sub hl_12 [0] rfl)
    · replace hvc_14 := hvc_14.2 h9
      refine lv_iconst (v := nI 1) hx hb dX3_reads_48 (by decide) ?_
      refine lv_goto (tgt := 53) hx hb dX3_reads_49 (by decide) ?_
      exact jn53 (x3 - (nI 48)) (nI 1) x5 y0 G2 _ _ _ hvc_14 hG_10 hS_11 (lv_sub hl_12 [0] rfl)
  have jn24 : ∀ (y0 : Nat) (s0 : Nat) (G : g_G) (H : Heap) (locs : List Loc) (ls : Array Slot), wp_X3_reads_24 E post (wp_X3_reads_25 E post) y0 s0 G → g_H E G H → va_S (g_A E) s.heap H locs → lv_has ls 4 [(0, .ref y0)] → W p l e ({ frames := 1, cells := 0, slots := 0, locals := 22 } : Room) s m ([.ref o, .int p1, .int p2] : List Value).toArray below meth c H locs 0 0 (MQ below (va_Qi (post) (g_Bk E) (g_A E)) ([.ref o, .int p1, .int p2] : List Value).toArray s 0 0 (g_A E)) (F0 m 24 ls [.ref s0]) := by
    clear hvc_1 hG hS hl
    intro y0 s0 G H locs ls hvc_22 hG_23 hS_24 hl_25
    refine lv_iconst (v := nI 0) hx hb dX3_reads_24 (by decide) ?_
    exact jn25 y0 (nI 0) s0 G _ _ _ hvc_22 hG_23 hS_24 (lv_sub hl_25 [0] rfl)
  refine lv_if_eq (tgt := 24) hx hb dX3_reads_5 (by decide) (fun h9 => ?_) (fun h9 => ?_)
  · replace hvc_1 := hvc_1.1 h9
    exact jn24 o o G _ _ _ hvc_1 hG hS (lv_sub hl [0] rfl)
  · replace hvc_1 := hvc_1.2 h9
    refine lv_aload_n hx hb dX3_reads_8 rfl (lv_at hl 0 rfl) ?_
    refine gw_cVIP (As := []) (rest := [.ref o])  ⟨hx, hb, hml, hown, hts⟩ (met_X3_sign l E G o _ hvc_1.2) (cwV 0 hts (lw_V q2017 q2019 qs64 q104 q2020) rfl rfl rfl (by decide +kernel) ⟨Nat.le_of_ble_eq_true rfl, Nat.le_of_ble_eq_true rfl⟩) (gw_rc (q := (RX3, TX3, 13)) hK hG hvc_1.1 rfl) (Nat.zero_le _) (Nat.zero_le _) (g_St0 E) hz trivial hK hG hS rfl hl.1 rfl (Nat.le_of_ble_eq_true rfl) dX3_reads_9 (fun x8 H locs hvc_26 hG_27 hS_28 => ?_)
    clear hvc_1 hG hS
    refine lv_iload_n hx hb dX3_reads_12 rfl (lv_at hl 1 rfl) ?_
    refine lv_iload_n hx hb dX3_reads_13 rfl (lv_at hl 2 rfl) ?_
    refine gw_cSIP (As := [.int x8, .int p1, .int p2]) (rest := [.ref o])  ⟨hx, hb, hml, hown, hts⟩ (met_X3_in l E G x8 p1 p2 _ hvc_26) (va_cwS 3 hts (lw_S q1834 q1835 q104 q1836) rfl rfl rfl (by decide +kernel) ⟨Nat.le_of_ble_eq_true rfl, Nat.le_of_ble_eq_true rfl⟩) (Nat.zero_le _) (Nat.zero_le _) (g_St0 E) hz trivial hK hG_27 hS_28 rfl hl.1 rfl (Nat.le_of_ble_eq_true rfl) dX3_reads_14 (fun x10 H locs hvc_29 hG_30 hS_31 => ?_)
    clear hvc_26 hG_27 hS_28
    refine lv_if_eq (tgt := 24) hx hb dX3_reads_17 (by decide) (fun h9 => ?_) (fun h9 => ?_)
    · replace hvc_29 := hvc_29.1 h9
      exact jn24 o o G _ _ _ hvc_29 hG_30 hS_31 (lv_sub hl [0] rfl)
    · replace hvc_29 := hvc_29.2 h9
      refine lv_iconst (v := nI 1) hx hb dX3_reads_20 (by decide) ?_
      refine lv_goto (tgt := 25) hx hb dX3_reads_21 (by decide) ?_
      exact jn25 o (nI 1) o G _ _ _ hvc_29 hG_30 hS_31 (lv_sub hl [0] rfl)
set_option maxHeartbeats 4000000 in
set_option maxRecDepth 100000 in
theorem met_X3_readsStores (l : Launch) (E : g_E) (G : g_G) (o : Nat) (p1 : Int32) (post : Int32 → g_G → Prop) (hvc : wp_X3_readsStores E G o p1 post) : g_MI E l yX3_readsStores (ws_ yX3_readsStores cX3_readsStores 6 (Option.some Jvm.ClassFile.FieldType.int)) ({ frames := 1, cells := 0, slots := 0, locals := 22 } : Room) (fun _ => True) [.ref o, .int p1] G (post) := by
  refine g_enter (by decide +kernel) (Nat.le_of_ble_eq_true rfl) ?_
  intro p e s m below meth c ls hx hb hr hts hown hlocks hml hin hz hX hK hG hS hl
  have hl : lv_has ls 6 [(0, .ref o), (1, .int p1)] := hl
  have hown : s.vm.findClass RX3 = some m.cls := hown
  unfold wp_X3_readsStores at hvc
  refine lv_iconst (v := nI 0) hx hb dX3_readsStores_0 (by decide) ?_
  refine lv_istore_n (lv' := [(2, .int (nI 0)), (0, .ref o), (1, .int p1)]) hx hb dX3_readsStores_1 rfl hl (by decide) rfl (fun ls hl_1 => ?_)
  clear hl
  refine lv_bipush (v := nI 48) hx hb dX3_readsStores_2 (by decide) ?_
  refine lv_istore_n (lv' := [(3, .int (nI 48)), (2, .int (nI 0)), (0, .ref o), (1, .int p1)]) hx hb dX3_readsStores_4 rfl hl_1 (by decide) rfl (fun ls hl_2 => ?_)
  clear hl_1
  refine lv_aload_n hx hb dX3_readsStores_5 rfl (lv_at hl_2 2 rfl) ?_
  refine gw_gi (C := RX3) (T := TX3) (N := 13) (own := RX3) hx hb hts in_X3 hown hK hG hvc rfl (by decide) (hts _ q1793) (fun _ h9 => h9) dX3_readsStores_6 (fun x1 hvc_3 => ?_)
  clear hvc
  have lp11 : ∀ (n11 : Nat) (y0 : Nat) (y1 : Int32) (y2 : Int32) (y3 : Int32) (y4 : Int32) (G : g_G) (H : Heap) (locs : List Loc) (ls : Array Slot), wp_X3_readsStores_11 E post n11 y0 y1 y2 y3 y4 G → g_H E G H → va_S (g_A E) s.heap H locs → lv_has ls 6 [(0, .ref y0), (1, .int y1), (2, .int y2), (3, .int y3), (4, .int y4)] → W p l e ({ frames := 1, cells := 0, slots := 0, locals := 22 } : Room) s m ([.ref o, .int p1] : List Value).toArray below meth c H locs 0 0 (MQ below (va_Qi (post) (g_Bk E) (g_A E)) ([.ref o, .int p1] : List Value).toArray s 0 0 (g_A E)) (F0 m 11 ls []) := by
    clear hvc_3 hG hS hl_2
    intro n11
    induction n11 with
    | zero =>
      intro y0 y1 y2 y3 y4 G H locs ls hvc_4 hG_5 hS_6 hl_7
      exact False.elim hvc_4
    | succ n11 ih11 =>
      intro y0 y1 y2 y3 y4 G H locs ls hvc_8 hG_9 hS_10 hl_11
      refine lv_iload hx hb dX3_readsStores_11 (lv_at hl_11 4 rfl) ?_
      refine lv_if_eq (tgt := 82) hx hb dX3_readsStores_13 (by decide) (fun h9 => ?_) (fun h9 => ?_)
      · replace hvc_8 := hvc_8.1 h9
        refine lv_aload_n hx hb dX3_readsStores_82 rfl (lv_at hl_11 0 rfl) ?_
        refine lv_aload_n hx hb dX3_readsStores_83 rfl (lv_at hl_11 0 rfl) ?_
        refine gw_gi (C := RX3) (T := TX3) (N := 13) (own := RX3) hx hb hts in_X3 hown hK hG_9 hvc_8 rfl (by decide) (hts _ q1793) (fun _ h9 => h9) dX3_readsStores_84 (fun x2 hvc_12 => ?_)
        clear hvc_8
        have jn98 : ∀ (y2 : Int32) (s0 : Nat) (G : g_G) (H : Heap) (locs : List Loc) (ls : Array Slot), wp_X3_readsStores_98 E post y2 s0 G → g_H E G H → va_S (g_A E) s.heap H locs → lv_has ls 6 [(2, .int y2)] → W p l e ({ frames := 1, cells := 0, slots := 0, locals := 22 } : Room) s m ([.ref o, .int p1] : List Value).toArray below meth c H locs 0 0 (MQ below (va_Qi (post) (g_Bk E) (g_A E)) ([.ref o, .int p1] : List Value).toArray s 0 0 (g_A E)) (F0 m 98 ls [.ref s0]) := by
          clear hvc_12 hG_9 hS_10 hl_11
          intro y2 s0 G H locs ls hvc_13 hG_14 hS_15 hl_16
          refine lv_iconst (v := nI 0) hx hb dX3_readsStores_98 (by decide) ?_
          refine gw_put (ty := .boolean) (C := RX3) (T := TX3) (N := 13) (own := RX3) hx hb hts in_X3 tyX3 tyX3_ok nmX3 hown hK hG_14 hS_15 hvc_13 rfl (by decide) (hts _ q1793) (fun _ h9 => h9) rfl (by decide +kernel) rfl rfl dX3_readsStores_99 (fun G3 H locs hvc_17 hG_18 hS_19 => ?_)
          clear hvc_13 hG_14 hS_15
          refine lv_iload_n hx hb dX3_readsStores_102 rfl (lv_at hl_16 0 rfl) ?_
          exact g_iret hx hb hr hlocks (Nat.zero_le _) (Nat.zero_le _) hG_18 hS_19 rfl hvc_17 dX3_readsStores_103
        refine lv_if_eq (tgt := 98) hx hb dX3_readsStores_87 (by decide) (fun h9 => ?_) (fun h9 => ?_)
        · replace hvc_12 := hvc_12.1 h9
          exact jn98 y2 y0 G _ _ _ hvc_12 hG_9 hS_10 (lv_sub hl_11 [2] rfl)
        · replace hvc_12 := hvc_12.2 h9
          refine lv_iload_n hx hb dX3_readsStores_90 rfl (lv_at hl_11 2 rfl) ?_
          refine lv_if_eq (tgt := 98) hx hb dX3_readsStores_91 (by decide) (fun h9 => ?_) (fun h9 => ?_)
          · replace hvc_12 := hvc_12.1 h9
            exact jn98 y2 y0 G _ _ _ hvc_12 hG_9 hS_10 (lv_sub hl_11 [2] rfl)
          · replace hvc_12 := hvc_12.2 h9
            refine lv_iconst (v := nI 1) hx hb dX3_readsStores_94 (by decide) ?_
            refine lv_goto (tgt := 99) hx hb dX3_readsStores_95 (by decide) ?_
            refine gw_put (ty := .boolean) (C := RX3) (T := TX3) (N := 13) (own := RX3) hx hb hts in_X3 tyX3 tyX3_ok nmX3 hown hK hG_9 hS_10 hvc_12 rfl (by decide) (hts _ q1793) (fun _ h9 => h9) rfl (by decide +kernel) rfl rfl dX3_readsStores_99 (fun G4 H locs hvc_20 hG_21 hS_22 => ?_)
            clear hvc_12 hG_9 hS_10
            refine lv_iload_n hx hb dX3_readsStores_102 rfl (lv_at hl_11 2 rfl) ?_
            exact g_iret hx hb hr hlocks (Nat.zero_le _) (Nat.zero_le _) hG_21 hS_22 rfl hvc_20 dX3_readsStores_103
      · replace hvc_8 := hvc_8.2 h9
        refine lv_aload_n hx hb dX3_readsStores_16 rfl (lv_at hl_11 0 rfl) ?_
        refine gw_cVIP (As := []) (rest := [])  ⟨hx, hb, hml, hown, hts⟩ (met_X3_sign l E G y0 _ hvc_8.2) (cwV 0 hts (lw_V q2017 q2019 qs64 q104 q2020) rfl rfl rfl (by decide +kernel) ⟨Nat.le_of_ble_eq_true rfl, Nat.le_of_ble_eq_true rfl⟩) (gw_rc (q := (RX3, TX3, 13)) hK hG_9 hvc_8.1 rfl) (Nat.zero_le _) (Nat.zero_le _) (g_St0 E) hz trivial hK hG_9 hS_10 rfl hl_11.1 rfl (Nat.le_of_ble_eq_true rfl) dX3_readsStores_17 (fun x5 H locs hvc_23 hG_24 hS_25 => ?_)
        clear hvc_8 hG_9 hS_10
        refine lv_istore (lv' := [(5, .int x5), (0, .ref y0), (1, .int y1), (2, .int y2), (3, .int y3), (4, .int y4)]) hx hb dX3_readsStores_20 hl_11 (by decide) rfl (fun ls hl_26 => ?_)
        clear hl_11
        refine lv_iload hx hb dX3_readsStores_22 (lv_at hl_26 0 rfl) ?_
        refine lv_iload_n hx hb dX3_readsStores_24 rfl (lv_at hl_26 4 rfl) ?_
        refine lv_bipush (v := nI 51) hx hb dX3_readsStores_25 (by decide) ?_
        refine gw_cSIP (As := [.int x5, .int y3, .int (nI 51)]) (rest := [])  ⟨hx, hb, hml, hown, hts⟩ (met_X3_in l E G x5 y3 (nI 51) _ hvc_23) (va_cwS 3 hts (lw_S q1834 q1835 q104 q1836) rfl rfl rfl (by decide +kernel) ⟨Nat.le_of_ble_eq_true rfl, Nat.le_of_ble_eq_true rfl⟩) (Nat.zero_le _) (Nat.zero_le _) (g_St0 E) hz trivial hK hG_24 hS_25 rfl hl_26.1 rfl (Nat.le_of_ble_eq_true rfl) dX3_readsStores_27 (fun x7 H locs hvc_27 hG_28 hS_29 => ?_)
        clear hvc_23 hG_24 hS_25
        have jn47 : ∀ (y0 : Nat) (y1 : Int32) (y2 : Int32) (y3 : Int32) (y5 : Int32) (s0 : Int32) (G : g_G) (H : Heap) (locs : List Loc) (ls : Array Slot), wp_X3_readsStores_47 E post (wp_X3_readsStores_11 E post n11) y0 y1 y2 y3 y5 s0 G → g_H E G H → va_S (g_A E) s.heap H locs → lv_has ls 6 [(0, .ref y0), (1, .int y1), (2, .int y2), (3, .int y3), (5, .int y5)] → W p l e ({ frames := 1, cells := 0, slots := 0, locals := 22 } : Room) s m ([.ref o, .int p1] : List Value).toArray below meth c H locs 0 0 (MQ below (va_Qi (post) (g_Bk E) (g_A E)) ([.ref o, .int p1] : List Value).toArray s 0 0 (g_A E)) (F0 m 47 ls [.int s0]) := by
          clear hvc_27 hG_28 hS_29 hl_26
          intro y0 y1 y2 y3 y5 s0 G H locs ls hvc_30 hG_31 hS_32 hl_33
          refine lv_istore (lv' := [(4, .int s0), (0, .ref y0), (1, .int y1), (2, .int y2), (3, .int y3), (5, .int y5)]) hx hb dX3_readsStores_47 hl_33 (by decide) rfl (fun ls hl_34 => ?_)
          clear hl_33
          refine lv_iload hx hb dX3_readsStores_49 (lv_at hl_34 0 rfl) ?_
          have jn79 : ∀ (y0 : Nat) (y1 : Int32) (y2 : Int32) (y3 : Int32) (y4 : Int32) (G : g_G) (H : Heap) (locs : List Loc) (ls : Array Slot), wp_X3_readsStores_79 E post (wp_X3_readsStores_11 E post n11) y0 y1 y2 y3 y4 G → g_H E G H → va_S (g_A E) s.heap H locs → lv_has ls 6 [(0, .ref y0), (1, .int y1), (2, .int y2), (3, .int y3), (4, .int y4)] → W p l e ({ frames := 1, cells := 0, slots := 0, locals := 22 } : Room) s m ([.ref o, .int p1] : List Value).toArray below meth c H locs 0 0 (MQ below (va_Qi (post) (g_Bk E) (g_A E)) ([.ref o, .int p1] : List Value).toArray s 0 0 (g_A E)) (F0 m 79 ls []) := by
            clear hvc_30 hG_31 hS_32 hl_34
            intro y0 y1 y2 y3 y4 G H locs ls hvc_35 hG_36 hS_37 hl_38
            refine lv_goto (tgt := 11) hx hb dX3_readsStores_79 (by decide) ?_
            exact ih11 y0 y1 y2 y3 y4 G _ _ _ hvc_35 hG_36 hS_37 (lv_sub hl_38 [0, 1, 2, 3, 4] rfl)
          refine lv_if_eq (tgt := 79) hx hb dX3_readsStores_51 (by decide) (fun h9 => ?_) (fun h9 => ?_)
          · replace hvc_30 := hvc_30.1 h9
            exact jn79 y0 y1 y2 y3 s0 G _ _ _ hvc_30 hG_31 hS_32 (lv_sub hl_34 [1, 2, 3, 4, 0] rfl)
          · replace hvc_30 := hvc_30.2 h9
            refine lv_iload_n hx hb dX3_readsStores_54 rfl (lv_at hl_34 3 rfl) ?_
            refine lv_iconst (v := nI 1) hx hb dX3_readsStores_55 (by decide) ?_
            refine lv_iload hx hb dX3_readsStores_56 (lv_at hl_34 5 rfl) ?_
            refine lv_bipush (v := nI 48) hx hb dX3_readsStores_58 (by decide) ?_
            refine lv_isub hx hb dX3_readsStores_60 ?_
            refine lv_ishl hx hb dX3_readsStores_61 ?_
            refine lv_ior hx hb dX3_readsStores_62 ?_
            refine lv_istore_n (lv' := [(2, .int (y2 ||| ((nI 1) <<< ((y5 - (nI 48)) &&& 31)))), (4, .int s0), (0, .ref y0), (1, .int y1), (3, .int y3), (5, .int y5)]) hx hb dX3_readsStores_63 rfl hl_34 (by decide) rfl (fun ls hl_39 => ?_)
            clear hl_34
            refine lv_iload hx hb dX3_readsStores_64 (lv_at hl_39 5 rfl) ?_
            refine lv_iconst (v := nI 1) hx hb dX3_readsStores_66 (by decide) ?_
            refine lv_iadd hx hb dX3_readsStores_67 ?_
            refine lv_istore_n (lv' := [(3, .int (y5 + (nI 1))), (2, .int (y2 ||| ((nI 1) <<< ((y5 - (nI 48)) &&& 31)))), (4, .int s0), (0, .ref y0), (1, .int y1), (5, .int y5)]) hx hb dX3_readsStores_68 rfl hl_39 (by decide) rfl (fun ls hl_40 => ?_)
            clear hl_39
            refine lv_aload_n hx hb dX3_readsStores_69 rfl (lv_at hl_40 3 rfl) ?_
            refine lv_dup hx hb dX3_readsStores_70 rfl ?_
            refine gw_gi (C := RX3) (T := TX3) (N := 13) (own := RX3) hx hb hts in_X3 hown hK hG_31 hvc_30 rfl (by decide) (hts _ q1792) (fun _ h9 => h9) dX3_readsStores_71 (fun x9 hvc_41 => ?_)
            clear hvc_30
            refine lv_iconst (v := nI 1) hx hb dX3_readsStores_74 (by decide) ?_
            refine lv_iadd hx hb dX3_readsStores_75 ?_
            refine gw_put (ty := .int) (C := RX3) (T := TX3) (N := 13) (own := RX3) hx hb hts in_X3 tyX3 tyX3_ok nmX3 hown hK hG_31 hS_32 hvc_41 rfl (by decide) (hts _ q1792) (fun _ h9 => h9) rfl (by decide +kernel) rfl rfl dX3_readsStores_76 (fun G10 H locs hvc_42 hG_43 hS_44 => ?_)
            clear hvc_41 hG_31 hS_32
            exact jn79 y0 y1 (y2 ||| ((nI 1) <<< ((y5 - (nI 48)) &&& 31))) (y5 + (nI 1)) s0 G10 _ _ _ hvc_42 hG_43 hS_44 (lv_sub hl_40 [3, 4, 1, 0, 2] rfl)
        have jn46 : ∀ (y0 : Nat) (y1 : Int32) (y2 : Int32) (y3 : Int32) (y5 : Int32) (G : g_G) (H : Heap) (locs : List Loc) (ls : Array Slot), wp_X3_readsStores_46 E post (wp_X3_readsStores_47 E post (wp_X3_readsStores_11 E post n11)) y0 y1 y2 y3 y5 G → g_H E G H → va_S (g_A E) s.heap H locs → lv_has ls 6 [(0, .ref y0), (1, .int y1), (2, .int y2), (3, .int y3), (5, .int y5)] → W p l e ({ frames := 1, cells := 0, slots := 0, locals := 22 } : Room) s m ([.ref o, .int p1] : List Value).toArray below meth c H locs 0 0 (MQ below (va_Qi (post) (g_Bk E) (g_A E)) ([.ref o, .int p1] : List Value).toArray s 0 0 (g_A E)) (F0 m 46 ls []) := by
          clear hvc_27 hG_28 hS_29 hl_26
          intro y0 y1 y2 y3 y5 G H locs ls hvc_45 hG_46 hS_47 hl_48
          refine lv_iconst (v := nI 0) hx hb dX3_readsStores_46 (by decide) ?_
          exact jn47 y0 y1 y2 y3 y5 (nI 0) G _ _ _ hvc_45 hG_46 hS_47 (lv_sub hl_48 [0, 1, 2, 3, 4] rfl)
        refine lv_if_eq (tgt := 46) hx hb dX3_readsStores_30 (by decide) (fun h9 => ?_) (fun h9 => ?_)
        · replace hvc_27 := hvc_27.1 h9
          exact jn46 y0 y1 y2 y3 x5 G _ _ _ hvc_27 hG_28 hS_29 (lv_sub hl_26 [1, 2, 3, 4, 0] rfl)
        · replace hvc_27 := hvc_27.2 h9
          refine lv_iload hx hb dX3_readsStores_33 (lv_at hl_26 0 rfl) ?_
          refine lv_bipush (v := nI 48) hx hb dX3_readsStores_35 (by decide) ?_
          refine lv_isub hx hb dX3_readsStores_37 ?_
          refine lv_iload_n hx hb dX3_readsStores_38 rfl (lv_at hl_26 2 rfl) ?_
          refine lv_icmp_eq (tgt := 46) hx hb dX3_readsStores_39 (by decide) (fun h9 => ?_) (fun h9 => ?_)
          · replace hvc_27 := hvc_27.1 h9
            exact jn46 y0 y1 y2 y3 x5 G _ _ _ hvc_27 hG_28 hS_29 (lv_sub hl_26 [1, 2, 3, 4, 0] rfl)
          · replace hvc_27 := hvc_27.2 h9
            refine lv_iconst (v := nI 1) hx hb dX3_readsStores_42 (by decide) ?_
            refine lv_goto (tgt := 47) hx hb dX3_readsStores_43 (by decide) ?_
            exact jn47 y0 y1 y2 y3 x5 (nI 1) G _ _ _ hvc_27 hG_28 hS_29 (lv_sub hl_26 [1, 2, 3, 4, 0] rfl)
  refine lv_istore (lv' := [(4, .int x1), (3, .int (nI 48)), (2, .int (nI 0)), (0, .ref o), (1, .int p1)]) hx hb dX3_readsStores_9 hl_2 (by decide) rfl (fun ls hl_49 => ?_)
  clear hl_2
  obtain ⟨nf11, hvc_3⟩ := hvc_3
  exact lp11 nf11 o p1 (nI 0) (nI 48) x1 G _ _ _ hvc_3 hG hS (lv_sub hl_49 [3, 4, 2, 1, 0] rfl)
set_option maxHeartbeats 4000000 in
set_option maxRecDepth 100000 in
theorem met_X3_readsSize (l : Launch) (E : g_E) (G : g_G) (o : Nat) (post : Int32 → g_G → Prop) (hvc : wp_X3_readsSize E G o post) : g_MI E l yX3_readsSize (ws_ yX3_readsSize cX3_readsSize 2 (Option.some Jvm.ClassFile.FieldType.int)) ({ frames := 2, cells := 0, slots := 0, locals := 45 } : Room) (fun _ => True) [.ref o] G (post) := by
  refine g_enter (by decide +kernel) (Nat.le_of_ble_eq_true rfl) ?_
  intro p e s m below meth c ls hx hb hr hts hown hlocks hml hin hz hX hK hG hS hl
  have hl : lv_has ls 2 [(0, .ref o)] := hl
  have hown : s.vm.findClass RX3 = some m.cls := hown
  unfold wp_X3_readsSize at hvc
  refine lv_aload_n hx hb dX3_readsSize_0 rfl (lv_at hl 0 rfl) ?_
  refine lv_bipush (v := nI 49) hx hb dX3_readsSize_1 (by decide) ?_
  refine lv_bipush (v := nI 57) hx hb dX3_readsSize_3 (by decide) ?_
  refine gw_cVIN (As := [.int (nI 49), .int (nI 57)]) (rest := [])  ⟨hx, hb, hml, hown, hts⟩ (met_X3_reads l E G o (nI 49) (nI 57) _ hvc.2) (cwV 2 hts (lw_V q2021 q2023 qs65 q104 q2024) rfl rfl rfl (by decide +kernel) ⟨Nat.le_of_ble_eq_true rfl, Nat.le_of_ble_eq_true rfl⟩) (gw_rc (q := (RX3, TX3, 13)) hK hG hvc.1 rfl) (Nat.zero_le _) (Nat.zero_le _) (g_St0 E) hz trivial hK hG hS rfl hl.1 rfl (Nat.le_of_ble_eq_true rfl) dX3_readsSize_5 (fun x1 G2 H locs hvc_1 hG_2 hS_3 => ?_)
  clear hvc hG hS
  refine lv_istore_n (lv' := [(1, .int x1), (0, .ref o)]) hx hb dX3_readsSize_8 rfl hl (by decide) rfl (fun ls hl_4 => ?_)
  clear hl
  refine lv_aload_n hx hb dX3_readsSize_9 rfl (lv_at hl_4 1 rfl) ?_
  refine gw_gi (C := RX3) (T := TX3) (N := 13) (own := RX3) hx hb hts in_X3 hown hK hG_2 hvc_1 rfl (by decide) (hts _ q1793) (fun _ h9 => h9) dX3_readsSize_10 (fun x3 hvc_5 => ?_)
  clear hvc_1
  refine lv_if_eq (tgt := 70) hx hb dX3_readsSize_13 (by decide) (fun h9 => ?_) (fun h9 => ?_)
  · replace hvc_5 := hvc_5.1 h9
    refine lv_iload_n hx hb dX3_readsSize_70 rfl (lv_at hl_4 0 rfl) ?_
    exact g_iret hx hb hr hlocks (Nat.zero_le _) (Nat.zero_le _) hG_2 hS_3 rfl hvc_5 dX3_readsSize_71
  · replace hvc_5 := hvc_5.2 h9
    refine lv_aload_n hx hb dX3_readsSize_16 rfl (lv_at hl_4 1 rfl) ?_
    refine gw_cVIP (As := []) (rest := [])  ⟨hx, hb, hml, hown, hts⟩ (met_X3_sign l E G2 o _ hvc_5.2) (cwV 0 hts (lw_V q2017 q2019 qs64 q104 q2020) rfl rfl rfl (by decide +kernel) ⟨Nat.le_of_ble_eq_true rfl, Nat.le_of_ble_eq_true rfl⟩) (gw_rc (q := (RX3, TX3, 13)) hK hG_2 hvc_5.1 rfl) (Nat.zero_le _) (Nat.zero_le _) (g_St0 E) hz trivial hK hG_2 hS_3 rfl hl_4.1 rfl (Nat.le_of_ble_eq_true rfl) dX3_readsSize_17 (fun x4 H locs hvc_6 hG_7 hS_8 => ?_)
    clear hvc_5 hG_2 hS_3
    refine lv_bipush (v := nI 48) hx hb dX3_readsSize_20 (by decide) ?_
    refine lv_bipush (v := nI 57) hx hb dX3_readsSize_22 (by decide) ?_
    refine gw_cSIP (As := [.int x4, .int (nI 48), .int (nI 57)]) (rest := [])  ⟨hx, hb, hml, hown, hts⟩ (met_X3_in l E G2 x4 (nI 48) (nI 57) _ hvc_6) (va_cwS 3 hts (lw_S q1834 q1835 q104 q1836) rfl rfl rfl (by decide +kernel) ⟨Nat.le_of_ble_eq_true rfl, Nat.le_of_ble_eq_true rfl⟩) (Nat.zero_le _) (Nat.zero_le _) (g_St0 E) hz trivial hK hG_7 hS_8 rfl hl_4.1 rfl (Nat.le_of_ble_eq_true rfl) dX3_readsSize_24 (fun x6 H locs hvc_9 hG_10 hS_11 => ?_)
    clear hvc_6 hG_7 hS_8
    refine lv_if_eq (tgt := 70) hx hb dX3_readsSize_27 (by decide) (fun h9 => ?_) (fun h9 => ?_)
    · replace hvc_9 := hvc_9.1 h9
      refine lv_iload_n hx hb dX3_readsSize_70 rfl (lv_at hl_4 0 rfl) ?_
      exact g_iret hx hb hr hlocks (Nat.zero_le _) (Nat.zero_le _) hG_10 hS_11 rfl hvc_9 dX3_readsSize_71
    · replace hvc_9 := hvc_9.2 h9
      refine lv_bipush (v := nI 10) hx hb dX3_readsSize_30 (by decide) ?_
      refine lv_iload_n hx hb dX3_readsSize_32 rfl (lv_at hl_4 0 rfl) ?_
      refine lv_imul hx hb dX3_readsSize_33 ?_
      refine lv_aload_n hx hb dX3_readsSize_34 rfl (lv_at hl_4 1 rfl) ?_
      refine gw_cVIP (As := []) (rest := [.int ((nI 10) * x1)])  ⟨hx, hb, hml, hown, hts⟩ (met_X3_sign l E G2 o _ hvc_9.2) (cwV 0 hts (lw_V q2017 q2019 qs64 q104 q2020) rfl rfl rfl (by decide +kernel) ⟨Nat.le_of_ble_eq_true rfl, Nat.le_of_ble_eq_true rfl⟩) (gw_rc (q := (RX3, TX3, 13)) hK hG_10 hvc_9.1 rfl) (Nat.zero_le _) (Nat.zero_le _) (g_St0 E) hz trivial hK hG_10 hS_11 rfl hl_4.1 rfl (Nat.le_of_ble_eq_true rfl) dX3_readsSize_35 (fun x8 H locs hvc_12 hG_13 hS_14 => ?_)
      clear hvc_9 hG_10 hS_11
      refine lv_iadd hx hb dX3_readsSize_38 ?_
      refine lv_bipush (v := nI 48) hx hb dX3_readsSize_39 (by decide) ?_
      refine lv_isub hx hb dX3_readsSize_41 ?_
      refine lv_bipush (v := nI 50) hx hb dX3_readsSize_42 (by decide) ?_
      refine lv_icmp_gt (tgt := 70) hx hb dX3_readsSize_44 (by decide) (fun h9 => ?_) (fun h9 => ?_)
      · replace hvc_12 := hvc_12.1 h9
        refine lv_iload_n hx hb dX3_readsSize_70 rfl (lv_at hl_4 0 rfl) ?_
        exact g_iret hx hb hr hlocks (Nat.zero_le _) (Nat.zero_le _) hG_13 hS_14 rfl hvc_12 dX3_readsSize_71
      · replace hvc_12 := hvc_12.2 h9
        refine lv_bipush (v := nI 10) hx hb dX3_readsSize_47 (by decide) ?_
        refine lv_iload_n hx hb dX3_readsSize_49 rfl (lv_at hl_4 0 rfl) ?_
        refine lv_imul hx hb dX3_readsSize_50 ?_
        refine lv_aload_n hx hb dX3_readsSize_51 rfl (lv_at hl_4 1 rfl) ?_
        refine gw_cVIP (As := []) (rest := [.int ((nI 10) * x1)])  ⟨hx, hb, hml, hown, hts⟩ (met_X3_sign l E G2 o _ hvc_12.2) (cwV 0 hts (lw_V q2017 q2019 qs64 q104 q2020) rfl rfl rfl (by decide +kernel) ⟨Nat.le_of_ble_eq_true rfl, Nat.le_of_ble_eq_true rfl⟩) (gw_rc (q := (RX3, TX3, 13)) hK hG_13 hvc_12.1 rfl) (Nat.zero_le _) (Nat.zero_le _) (g_St0 E) hz trivial hK hG_13 hS_14 rfl hl_4.1 rfl (Nat.le_of_ble_eq_true rfl) dX3_readsSize_52 (fun x10 H locs hvc_15 hG_16 hS_17 => ?_)
        clear hvc_12 hG_13 hS_14
        refine lv_iadd hx hb dX3_readsSize_55 ?_
        refine lv_bipush (v := nI 48) hx hb dX3_readsSize_56 (by decide) ?_
        refine lv_isub hx hb dX3_readsSize_58 ?_
        refine lv_istore_n (lv' := [(1, .int ((((nI 10) * x1) + x10) - (nI 48))), (0, .ref o)]) hx hb dX3_readsSize_59 rfl hl_4 (by decide) rfl (fun ls hl_18 => ?_)
        clear hl_4
        refine lv_aload_n hx hb dX3_readsSize_60 rfl (lv_at hl_18 1 rfl) ?_
        refine lv_dup hx hb dX3_readsSize_61 rfl ?_
        refine gw_gi (C := RX3) (T := TX3) (N := 13) (own := RX3) hx hb hts in_X3 hown hK hG_16 hvc_15 rfl (by decide) (hts _ q1792) (fun _ h9 => h9) dX3_readsSize_62 (fun x12 hvc_19 => ?_)
        clear hvc_15
        refine lv_iconst (v := nI 1) hx hb dX3_readsSize_65 (by decide) ?_
        refine lv_iadd hx hb dX3_readsSize_66 ?_
        refine gw_put (ty := .int) (C := RX3) (T := TX3) (N := 13) (own := RX3) hx hb hts in_X3 tyX3 tyX3_ok nmX3 hown hK hG_16 hS_17 hvc_19 rfl (by decide) (hts _ q1792) (fun _ h9 => h9) rfl (by decide +kernel) rfl rfl dX3_readsSize_67 (fun G13 H locs hvc_20 hG_21 hS_22 => ?_)
        clear hvc_19 hG_16 hS_17
        refine lv_iload_n hx hb dX3_readsSize_70 rfl (lv_at hl_18 0 rfl) ?_
        exact g_iret hx hb hr hlocks (Nat.zero_le _) (Nat.zero_le _) hG_21 hS_22 rfl hvc_20 dX3_readsSize_71
set_option maxHeartbeats 4000000 in
set_option maxRecDepth 100000 in
theorem met_X3_readsPart (l : Launch) (E : g_E) (G : g_G) (o : Nat) (post : g_G → Prop) (hvc : wp_X3_readsPart E G o post) : g_MV E l yX3_readsPart (ws_ yX3_readsPart cX3_readsPart 3 (Option.none : Option Jvm.ClassFile.FieldType)) ({ frames := 3, cells := 0, slots := 0, locals := 66 } : Room) (fun _ => True) [.ref o] G (post) := by
  refine g_enter (by decide +kernel) (Nat.le_of_ble_eq_true rfl) ?_
  intro p e s m below meth c ls hx hb hr hts hown hlocks hml hin hz hX hK hG hS hl
  have hl : lv_has ls 3 [(0, .ref o)] := hl
  have hown : s.vm.findClass RX3 = some m.cls := hown
  unfold wp_X3_readsPart at hvc
  refine lv_iconst (v := nI 4) hx hb dX3_readsPart_0 (by decide) ?_
  refine lv_aload_n hx hb dX3_readsPart_1 rfl (lv_at hl 0 rfl) ?_
  refine gw_gi (C := RX3) (T := TX3) (N := 13) (own := RX3) hx hb hts in_X3 hown hK hG hvc rfl (by decide) (hts _ q1795) (fun _ h9 => h9) dX3_readsPart_2 (fun x1 hvc_1 => ?_)
  clear hvc
  refine lv_imul hx hb dX3_readsPart_5 ?_
  refine lv_istore_n (lv' := [(1, .int ((nI 4) * x1)), (0, .ref o)]) hx hb dX3_readsPart_6 rfl hl (by decide) rfl (fun ls hl_2 => ?_)
  clear hl
  refine lv_aload_n hx hb dX3_readsPart_7 rfl (lv_at hl_2 1 rfl) ?_
  refine gw_cVIP (As := []) (rest := [])  ⟨hx, hb, hml, hown, hts⟩ (met_X3_sign l E G o _ hvc_1.2) (cwV 0 hts (lw_V q2017 q2019 qs64 q104 q2020) rfl rfl rfl (by decide +kernel) ⟨Nat.le_of_ble_eq_true rfl, Nat.le_of_ble_eq_true rfl⟩) (gw_rc (q := (RX3, TX3, 13)) hK hG hvc_1.1 rfl) (Nat.zero_le _) (Nat.zero_le _) (g_St0 E) hz trivial hK hG hS rfl hl_2.1 rfl (Nat.le_of_ble_eq_true rfl) dX3_readsPart_8 (fun x2 H locs hvc_3 hG_4 hS_5 => ?_)
  clear hvc_1 hG hS
  refine lv_istore_n (lv' := [(2, .int x2), (1, .int ((nI 4) * x1)), (0, .ref o)]) hx hb dX3_readsPart_11 rfl hl_2 (by decide) rfl (fun ls hl_6 => ?_)
  clear hl_2
  refine lv_aload_n hx hb dX3_readsPart_12 rfl (lv_at hl_6 2 rfl) ?_
  refine lv_iconst (v := nI 1) hx hb dX3_readsPart_13 (by decide) ?_
  refine gw_put (ty := .boolean) (C := RX3) (T := TX3) (N := 13) (own := RX3) hx hb hts in_X3 tyX3 tyX3_ok nmX3 hown hK hG_4 hS_5 hvc_3 rfl (by decide) (hts _ q1793) (fun _ h9 => h9) rfl (by decide +kernel) rfl rfl dX3_readsPart_14 (fun G4 H locs hvc_7 hG_8 hS_9 => ?_)
  clear hvc_3 hG_4 hS_5
  refine lv_aload_n hx hb dX3_readsPart_17 rfl (lv_at hl_6 2 rfl) ?_
  refine gw_gr (C := RX3) (T := TX3) (N := 13) (own := RX3) hx hb hts in_X3 hown hK hG_8 hvc_7 rfl (by decide) (hts _ q1794) (fun _ h9 => h9) dX3_readsPart_18 (fun x5 hvc_10 => ?_)
  clear hvc_7
  refine lv_iload_n hx hb dX3_readsPart_21 rfl (lv_at hl_6 1 rfl) ?_
  refine lv_iload_n hx hb dX3_readsPart_22 rfl (lv_at hl_6 0 rfl) ?_
  refine gw_ist hx hb hK hG_8 hS_9 hvc_10 dX3_readsPart_23 (fun G6 H locs hvc_11 hG_12 hS_13 => ?_)
  clear hvc_10 hG_8 hS_9
  refine lv_aload_n hx hb dX3_readsPart_24 rfl (lv_at hl_6 2 rfl) ?_
  refine gw_gr (C := RX3) (T := TX3) (N := 13) (own := RX3) hx hb hts in_X3 hown hK hG_12 hvc_11 rfl (by decide) (hts _ q1794) (fun _ h9 => h9) dX3_readsPart_25 (fun x7 hvc_14 => ?_)
  clear hvc_11
  refine lv_iload_n hx hb dX3_readsPart_28 rfl (lv_at hl_6 1 rfl) ?_
  refine lv_iconst (v := nI 2) hx hb dX3_readsPart_29 (by decide) ?_
  refine lv_iadd hx hb dX3_readsPart_30 ?_
  refine lv_iconst (v := nI 0) hx hb dX3_readsPart_31 (by decide) ?_
  refine gw_ist hx hb hK hG_12 hS_13 hvc_14 dX3_readsPart_32 (fun G8 H locs hvc_15 hG_16 hS_17 => ?_)
  clear hvc_14 hG_12 hS_13
  refine lv_aload_n hx hb dX3_readsPart_33 rfl (lv_at hl_6 2 rfl) ?_
  refine lv_dup hx hb dX3_readsPart_34 rfl ?_
  refine gw_gi (C := RX3) (T := TX3) (N := 13) (own := RX3) hx hb hts in_X3 hown hK hG_16 hvc_15 rfl (by decide) (hts _ q1792) (fun _ h9 => h9) dX3_readsPart_35 (fun x9 hvc_18 => ?_)
  clear hvc_15
  refine lv_iconst (v := nI 1) hx hb dX3_readsPart_38 (by decide) ?_
  refine lv_iadd hx hb dX3_readsPart_39 ?_
  refine gw_put (ty := .int) (C := RX3) (T := TX3) (N := 13) (own := RX3) hx hb hts in_X3 tyX3 tyX3_ok nmX3 hown hK hG_16 hS_17 hvc_18 rfl (by decide) (hts _ q1792) (fun _ h9 => h9) rfl (by decide +kernel) rfl rfl dX3_readsPart_40 (fun G10 H locs hvc_19 hG_20 hS_21 => ?_)
  clear hvc_18 hG_16 hS_17
  refine lv_iload_n hx hb dX3_readsPart_43 rfl (lv_at hl_6 0 rfl) ?_
  have jn323 : ∀ (y0 : Nat) (G : g_G) (H : Heap) (locs : List Loc) (ls : Array Slot), wp_X3_readsPart_323 E post y0 G → g_H E G H → va_S (g_A E) s.heap H locs → lv_has ls 3 [(0, .ref y0)] → W p l e ({ frames := 3, cells := 0, slots := 0, locals := 66 } : Room) s m ([.ref o] : List Value).toArray below meth c H locs 0 0 (MQ below (va_Qv (post) (g_Bk E) (g_A E)) ([.ref o] : List Value).toArray s 0 0 (g_A E)) (F0 m 323 ls []) := by
    clear hvc_19 hG_20 hS_21 hl_6
    intro y0 G H locs ls hvc_22 hG_23 hS_24 hl_25
    refine lv_aload_n hx hb dX3_readsPart_323 rfl (lv_at hl_25 0 rfl) ?_
    refine lv_dup hx hb dX3_readsPart_324 rfl ?_
    refine gw_gi (C := RX3) (T := TX3) (N := 13) (own := RX3) hx hb hts in_X3 hown hK hG_23 hvc_22 rfl (by decide) (hts _ q1795) (fun _ h9 => h9) dX3_readsPart_325 (fun x11 hvc_26 => ?_)
    clear hvc_22
    refine lv_aload_n hx hb dX3_readsPart_328 rfl (lv_at hl_25 0 rfl) ?_
    refine gw_gi (C := RX3) (T := TX3) (N := 13) (own := RX3) hx hb hts in_X3 hown hK hG_23 hvc_26 rfl (by decide) (hts _ q1793) (fun _ h9 => h9) dX3_readsPart_329 (fun x12 hvc_27 => ?_)
    clear hvc_26
    refine lv_if_eq (tgt := 339) hx hb dX3_readsPart_332 (by decide) (fun h9 => ?_) (fun h9 => ?_)
    · replace hvc_27 := hvc_27.1 h9
      refine lv_iconst (v := nI 0) hx hb dX3_readsPart_339 (by decide) ?_
      refine lv_iadd hx hb dX3_readsPart_340 ?_
      refine gw_put (ty := .int) (C := RX3) (T := TX3) (N := 13) (own := RX3) hx hb hts in_X3 tyX3 tyX3_ok nmX3 hown hK hG_23 hS_24 hvc_27 rfl (by decide) (hts _ q1795) (fun _ h9 => h9) rfl (by decide +kernel) rfl rfl dX3_readsPart_341 (fun G13 H locs hvc_28 hG_29 hS_30 => ?_)
      clear hvc_27 hG_23 hS_24
      exact g_vret hx hb hr hlocks (Nat.zero_le _) (Nat.zero_le _) hG_29 hS_30 hvc_28 dX3_readsPart_344
    · replace hvc_27 := hvc_27.2 h9
      refine lv_iconst (v := nI 1) hx hb dX3_readsPart_335 (by decide) ?_
      refine lv_goto (tgt := 340) hx hb dX3_readsPart_336 (by decide) ?_
      refine lv_iadd hx hb dX3_readsPart_340 ?_
      refine gw_put (ty := .int) (C := RX3) (T := TX3) (N := 13) (own := RX3) hx hb hts in_X3 tyX3 tyX3_ok nmX3 hown hK hG_23 hS_24 hvc_27 rfl (by decide) (hts _ q1795) (fun _ h9 => h9) rfl (by decide +kernel) rfl rfl dX3_readsPart_341 (fun G14 H locs hvc_31 hG_32 hS_33 => ?_)
      clear hvc_27 hG_23 hS_24
      exact g_vret hx hb hr hlocks (Nat.zero_le _) (Nat.zero_le _) hG_32 hS_33 hvc_31 dX3_readsPart_344
  by_cases h98 : x2 = nI 98
  · replace hvc_19 := hvc_19.1 h98
    rw [h98]; refine lv_tableIn (off := 84) (tgt := 128) hx hb dX3_readsPart_44 (by decide) (by decide) (by decide) (by decide) ?_
    refine lv_aload_n hx hb dX3_readsPart_128 rfl (lv_at hl_6 2 rfl) ?_
    refine gw_gr (C := RX3) (T := TX3) (N := 13) (own := RX3) hx hb hts in_X3 hown hK hG_20 hvc_19 rfl (by decide) (hts _ q1794) (fun _ h9 => h9) dX3_readsPart_129 (fun x15 hvc_34 => ?_)
    clear hvc_19
    refine lv_iload_n hx hb dX3_readsPart_132 rfl (lv_at hl_6 1 rfl) ?_
    refine lv_iconst (v := nI 1) hx hb dX3_readsPart_133 (by decide) ?_
    refine lv_iadd hx hb dX3_readsPart_134 ?_
    refine lv_aload_n hx hb dX3_readsPart_135 rfl (lv_at hl_6 2 rfl) ?_
    refine lv_bipush (v := nI 48) hx hb dX3_readsPart_136 (by decide) ?_
    refine lv_bipush (v := nI 51) hx hb dX3_readsPart_138 (by decide) ?_
    refine gw_cVIN (As := [.int (nI 48), .int (nI 51)]) (rest := [.int (((nI 4) * x1) + (nI 1)), .ref x15])  ⟨hx, hb, hml, hown, hts⟩ (met_X3_reads l E G10 o (nI 48) (nI 51) _ hvc_34.2) (cwV 2 hts (lw_V q2021 q2023 qs65 q104 q2024) rfl rfl rfl (by decide +kernel) ⟨Nat.le_of_ble_eq_true rfl, Nat.le_of_ble_eq_true rfl⟩) (gw_rc (q := (RX3, TX3, 13)) hK hG_20 hvc_34.1 rfl) (Nat.zero_le _) (Nat.zero_le _) (g_St0 E) hz trivial hK hG_20 hS_21 rfl hl_6.1 rfl (Nat.le_of_ble_eq_true rfl) dX3_readsPart_140 (fun x16 G17 H locs hvc_35 hG_36 hS_37 => ?_)
    clear hvc_34 hG_20 hS_21
    refine gw_ist hx hb hK hG_36 hS_37 hvc_35 dX3_readsPart_143 (fun G18 H locs hvc_38 hG_39 hS_40 => ?_)
    clear hvc_35 hG_36 hS_37
    refine lv_aload_n hx hb dX3_readsPart_144 rfl (lv_at hl_6 2 rfl) ?_
    refine lv_bipush (v := nI 62) hx hb dX3_readsPart_145 (by decide) ?_
    refine lv_bipush (v := nI 62) hx hb dX3_readsPart_147 (by decide) ?_
    refine gw_cVIN (As := [.int (nI 62), .int (nI 62)]) (rest := [])  ⟨hx, hb, hml, hown, hts⟩ (met_X3_reads l E G18 o (nI 62) (nI 62) _ hvc_38.2) (cwV 2 hts (lw_V q2021 q2023 qs65 q104 q2024) rfl rfl rfl (by decide +kernel) ⟨Nat.le_of_ble_eq_true rfl, Nat.le_of_ble_eq_true rfl⟩) (gw_rc (q := (RX3, TX3, 13)) hK hG_39 hvc_38.1 rfl) (Nat.zero_le _) (Nat.zero_le _) (g_St0 E) hz trivial hK hG_39 hS_40 rfl hl_6.1 rfl (Nat.le_of_ble_eq_true rfl) dX3_readsPart_149 (fun x19 G20 H locs hvc_41 hG_42 hS_43 => ?_)
    clear hvc_38 hG_39 hS_40
    refine lv_pop hx hb dX3_readsPart_152 rfl ?_
    refine lv_aload_n hx hb dX3_readsPart_153 rfl (lv_at hl_6 2 rfl) ?_
    refine gw_gr (C := RX3) (T := TX3) (N := 13) (own := RX3) hx hb hts in_X3 hown hK hG_42 hvc_41 rfl (by decide) (hts _ q1794) (fun _ h9 => h9) dX3_readsPart_154 (fun x21 hvc_44 => ?_)
    clear hvc_41
    refine lv_iload_n hx hb dX3_readsPart_157 rfl (lv_at hl_6 1 rfl) ?_
    refine lv_iconst (v := nI 2) hx hb dX3_readsPart_158 (by decide) ?_
    refine lv_iadd hx hb dX3_readsPart_159 ?_
    refine lv_aload_n hx hb dX3_readsPart_160 rfl (lv_at hl_6 2 rfl) ?_
    refine lv_aload_n hx hb dX3_readsPart_161 rfl (lv_at hl_6 2 rfl) ?_
    refine gw_gr (C := RX3) (T := TX3) (N := 13) (own := RX3) hx hb hts in_X3 hown hK hG_42 hvc_44 rfl (by decide) (hts _ q1794) (fun _ h9 => h9) dX3_readsPart_162 (fun x22 hvc_45 => ?_)
    clear hvc_44
    refine lv_iload_n hx hb dX3_readsPart_165 rfl (lv_at hl_6 1 rfl) ?_
    refine lv_iconst (v := nI 1) hx hb dX3_readsPart_166 (by decide) ?_
    refine lv_iadd hx hb dX3_readsPart_167 ?_
    refine gw_ild hx hb hK hG_42 hvc_45 dX3_readsPart_168 (fun x23 hvc_46 => ?_)
    clear hvc_45
    refine gw_cVIN (As := [.int x23]) (rest := [.int (((nI 4) * x1) + (nI 2)), .ref x21])  ⟨hx, hb, hml, hown, hts⟩ (met_X3_readsStores l E G20 o x23 _ hvc_46.2) (cwV 1 hts (lw_V q2025 q2027 qs66 q104 q2028) rfl rfl rfl (by decide +kernel) ⟨Nat.le_of_ble_eq_true rfl, Nat.le_of_ble_eq_true rfl⟩) (gw_rc (q := (RX3, TX3, 13)) hK hG_42 hvc_46.1 rfl) (Nat.zero_le _) (Nat.zero_le _) (g_St0 E) hz trivial hK hG_42 hS_43 rfl hl_6.1 rfl (Nat.le_of_ble_eq_true rfl) dX3_readsPart_169 (fun x24 G25 H locs hvc_47 hG_48 hS_49 => ?_)
    clear hvc_46 hG_42 hS_43
    refine gw_ist hx hb hK hG_48 hS_49 hvc_47 dX3_readsPart_172 (fun G26 H locs hvc_50 hG_51 hS_52 => ?_)
    clear hvc_47 hG_48 hS_49
    refine lv_aload_n hx hb dX3_readsPart_173 rfl (lv_at hl_6 2 rfl) ?_
    refine lv_bipush (v := nI 58) hx hb dX3_readsPart_174 (by decide) ?_
    refine lv_bipush (v := nI 58) hx hb dX3_readsPart_176 (by decide) ?_
    refine gw_cVIN (As := [.int (nI 58), .int (nI 58)]) (rest := [])  ⟨hx, hb, hml, hown, hts⟩ (met_X3_reads l E G26 o (nI 58) (nI 58) _ hvc_50.2) (cwV 2 hts (lw_V q2021 q2023 qs65 q104 q2024) rfl rfl rfl (by decide +kernel) ⟨Nat.le_of_ble_eq_true rfl, Nat.le_of_ble_eq_true rfl⟩) (gw_rc (q := (RX3, TX3, 13)) hK hG_51 hvc_50.1 rfl) (Nat.zero_le _) (Nat.zero_le _) (g_St0 E) hz trivial hK hG_51 hS_52 rfl hl_6.1 rfl (Nat.le_of_ble_eq_true rfl) dX3_readsPart_178 (fun x27 G28 H locs hvc_53 hG_54 hS_55 => ?_)
    clear hvc_50 hG_51 hS_52
    refine lv_pop hx hb dX3_readsPart_181 rfl ?_
    refine lv_aload_n hx hb dX3_readsPart_182 rfl (lv_at hl_6 2 rfl) ?_
    refine gw_gr (C := RX3) (T := TX3) (N := 13) (own := RX3) hx hb hts in_X3 hown hK hG_54 hvc_53 rfl (by decide) (hts _ q1794) (fun _ h9 => h9) dX3_readsPart_183 (fun x29 hvc_56 => ?_)
    clear hvc_53
    refine lv_iload_n hx hb dX3_readsPart_186 rfl (lv_at hl_6 1 rfl) ?_
    refine lv_iconst (v := nI 3) hx hb dX3_readsPart_187 (by decide) ?_
    refine lv_iadd hx hb dX3_readsPart_188 ?_
    refine lv_aload_n hx hb dX3_readsPart_189 rfl (lv_at hl_6 2 rfl) ?_
    refine gw_cVIN (As := []) (rest := [.int (((nI 4) * x1) + (nI 3)), .ref x29])  ⟨hx, hb, hml, hown, hts⟩ (met_X3_readsSize l E G28 o _ hvc_56.2) (cwV 0 hts (lw_V q2029 q2031 qs67 q104 q2032) rfl rfl rfl (by decide +kernel) ⟨Nat.le_of_ble_eq_true rfl, Nat.le_of_ble_eq_true rfl⟩) (gw_rc (q := (RX3, TX3, 13)) hK hG_54 hvc_56.1 rfl) (Nat.zero_le _) (Nat.zero_le _) (g_St0 E) hz trivial hK hG_54 hS_55 rfl hl_6.1 rfl (Nat.le_of_ble_eq_true rfl) dX3_readsPart_190 (fun x30 G31 H locs hvc_57 hG_58 hS_59 => ?_)
    clear hvc_56 hG_54 hS_55
    refine gw_ist hx hb hK hG_58 hS_59 hvc_57 dX3_readsPart_193 (fun G32 H locs hvc_60 hG_61 hS_62 => ?_)
    clear hvc_57 hG_58 hS_59
    refine lv_goto (tgt := 323) hx hb dX3_readsPart_194 (by decide) ?_
    exact jn323 o G32 _ _ _ hvc_60 hG_61 hS_62 (lv_sub hl_6 [2] rfl)
  by_cases h99 : x2 = nI 99
  · replace hvc_19 := hvc_19.2.1 h99
    rw [h99]; refine lv_tableIn (off := 191) (tgt := 235) hx hb dX3_readsPart_44 (by decide) (by decide) (by decide) (by decide) ?_
    refine lv_aload_n hx hb dX3_readsPart_235 rfl (lv_at hl_6 2 rfl) ?_
    refine gw_gr (C := RX3) (T := TX3) (N := 13) (own := RX3) hx hb hts in_X3 hown hK hG_20 hvc_19 rfl (by decide) (hts _ q1794) (fun _ h9 => h9) dX3_readsPart_236 (fun x33 hvc_63 => ?_)
    clear hvc_19
    refine lv_iload_n hx hb dX3_readsPart_239 rfl (lv_at hl_6 1 rfl) ?_
    refine lv_iconst (v := nI 1) hx hb dX3_readsPart_240 (by decide) ?_
    refine lv_iadd hx hb dX3_readsPart_241 ?_
    refine lv_aload_n hx hb dX3_readsPart_242 rfl (lv_at hl_6 2 rfl) ?_
    refine lv_bipush (v := nI 48) hx hb dX3_readsPart_243 (by decide) ?_
    refine lv_bipush (v := nI 52) hx hb dX3_readsPart_245 (by decide) ?_
    refine gw_cVIN (As := [.int (nI 48), .int (nI 52)]) (rest := [.int (((nI 4) * x1) + (nI 1)), .ref x33])  ⟨hx, hb, hml, hown, hts⟩ (met_X3_reads l E G10 o (nI 48) (nI 52) _ hvc_63.2) (cwV 2 hts (lw_V q2021 q2023 qs65 q104 q2024) rfl rfl rfl (by decide +kernel) ⟨Nat.le_of_ble_eq_true rfl, Nat.le_of_ble_eq_true rfl⟩) (gw_rc (q := (RX3, TX3, 13)) hK hG_20 hvc_63.1 rfl) (Nat.zero_le _) (Nat.zero_le _) (g_St0 E) hz trivial hK hG_20 hS_21 rfl hl_6.1 rfl (Nat.le_of_ble_eq_true rfl) dX3_readsPart_247 (fun x34 G35 H locs hvc_64 hG_65 hS_66 => ?_)
    clear hvc_63 hG_20 hS_21
    refine gw_ist hx hb hK hG_65 hS_66 hvc_64 dX3_readsPart_250 (fun G36 H locs hvc_67 hG_68 hS_69 => ?_)
    clear hvc_64 hG_65 hS_66
    refine lv_goto (tgt := 323) hx hb dX3_readsPart_251 (by decide) ?_
    exact jn323 o G36 _ _ _ hvc_67 hG_68 hS_69 (lv_sub hl_6 [2] rfl)
  by_cases h100 : x2 = nI 100
  · replace hvc_19 := hvc_19.2.2.1 h100
    rw [h100]; refine lv_tableIn (off := 153) (tgt := 197) hx hb dX3_readsPart_44 (by decide) (by decide) (by decide) (by decide) ?_
    refine lv_aload_n hx hb dX3_readsPart_197 rfl (lv_at hl_6 2 rfl) ?_
    refine gw_gr (C := RX3) (T := TX3) (N := 13) (own := RX3) hx hb hts in_X3 hown hK hG_20 hvc_19 rfl (by decide) (hts _ q1794) (fun _ h9 => h9) dX3_readsPart_198 (fun x37 hvc_70 => ?_)
    clear hvc_19
    refine lv_iload_n hx hb dX3_readsPart_201 rfl (lv_at hl_6 1 rfl) ?_
    refine lv_iconst (v := nI 1) hx hb dX3_readsPart_202 (by decide) ?_
    refine lv_iadd hx hb dX3_readsPart_203 ?_
    refine lv_aload_n hx hb dX3_readsPart_204 rfl (lv_at hl_6 2 rfl) ?_
    refine lv_bipush (v := nI 49) hx hb dX3_readsPart_205 (by decide) ?_
    refine lv_bipush (v := nI 57) hx hb dX3_readsPart_207 (by decide) ?_
    refine gw_cVIN (As := [.int (nI 49), .int (nI 57)]) (rest := [.int (((nI 4) * x1) + (nI 1)), .ref x37])  ⟨hx, hb, hml, hown, hts⟩ (met_X3_reads l E G10 o (nI 49) (nI 57) _ hvc_70.2) (cwV 2 hts (lw_V q2021 q2023 qs65 q104 q2024) rfl rfl rfl (by decide +kernel) ⟨Nat.le_of_ble_eq_true rfl, Nat.le_of_ble_eq_true rfl⟩) (gw_rc (q := (RX3, TX3, 13)) hK hG_20 hvc_70.1 rfl) (Nat.zero_le _) (Nat.zero_le _) (g_St0 E) hz trivial hK hG_20 hS_21 rfl hl_6.1 rfl (Nat.le_of_ble_eq_true rfl) dX3_readsPart_209 (fun x38 G39 H locs hvc_71 hG_72 hS_73 => ?_)
    clear hvc_70 hG_20 hS_21
    refine gw_ist hx hb hK hG_72 hS_73 hvc_71 dX3_readsPart_212 (fun G40 H locs hvc_74 hG_75 hS_76 => ?_)
    clear hvc_71 hG_72 hS_73
    refine lv_goto (tgt := 323) hx hb dX3_readsPart_213 (by decide) ?_
    exact jn323 o G40 _ _ _ hvc_74 hG_75 hS_76 (lv_sub hl_6 [2] rfl)
  by_cases h103 : x2 = nI 103
  · replace hvc_19 := hvc_19.2.2.2.1 h103
    rw [h103]; refine lv_tableIn (off := 210) (tgt := 254) hx hb dX3_readsPart_44 (by decide) (by decide) (by decide) (by decide) ?_
    refine lv_aload_n hx hb dX3_readsPart_254 rfl (lv_at hl_6 2 rfl) ?_
    refine gw_gr (C := RX3) (T := TX3) (N := 13) (own := RX3) hx hb hts in_X3 hown hK hG_20 hvc_19 rfl (by decide) (hts _ q1794) (fun _ h9 => h9) dX3_readsPart_255 (fun x41 hvc_77 => ?_)
    clear hvc_19
    refine lv_iload_n hx hb dX3_readsPart_258 rfl (lv_at hl_6 1 rfl) ?_
    refine lv_iconst (v := nI 1) hx hb dX3_readsPart_259 (by decide) ?_
    refine lv_iadd hx hb dX3_readsPart_260 ?_
    refine lv_aload_n hx hb dX3_readsPart_261 rfl (lv_at hl_6 2 rfl) ?_
    refine lv_bipush (v := nI 48) hx hb dX3_readsPart_262 (by decide) ?_
    refine lv_bipush (v := nI 55) hx hb dX3_readsPart_264 (by decide) ?_
    refine gw_cVIN (As := [.int (nI 48), .int (nI 55)]) (rest := [.int (((nI 4) * x1) + (nI 1)), .ref x41])  ⟨hx, hb, hml, hown, hts⟩ (met_X3_reads l E G10 o (nI 48) (nI 55) _ hvc_77.2) (cwV 2 hts (lw_V q2021 q2023 qs65 q104 q2024) rfl rfl rfl (by decide +kernel) ⟨Nat.le_of_ble_eq_true rfl, Nat.le_of_ble_eq_true rfl⟩) (gw_rc (q := (RX3, TX3, 13)) hK hG_20 hvc_77.1 rfl) (Nat.zero_le _) (Nat.zero_le _) (g_St0 E) hz trivial hK hG_20 hS_21 rfl hl_6.1 rfl (Nat.le_of_ble_eq_true rfl) dX3_readsPart_266 (fun x42 G43 H locs hvc_78 hG_79 hS_80 => ?_)
    clear hvc_77 hG_20 hS_21
    refine gw_ist hx hb hK hG_79 hS_80 hvc_78 dX3_readsPart_269 (fun G44 H locs hvc_81 hG_82 hS_83 => ?_)
    clear hvc_78 hG_79 hS_80
    refine lv_goto (tgt := 323) hx hb dX3_readsPart_270 (by decide) ?_
    exact jn323 o G44 _ _ _ hvc_81 hG_82 hS_83 (lv_sub hl_6 [2] rfl)
  by_cases h108 : x2 = nI 108
  · replace hvc_19 := hvc_19.2.2.2.2.1 h108
    rw [h108]; refine lv_tableIn (off := 172) (tgt := 216) hx hb dX3_readsPart_44 (by decide) (by decide) (by decide) (by decide) ?_
    refine lv_aload_n hx hb dX3_readsPart_216 rfl (lv_at hl_6 2 rfl) ?_
    refine gw_gr (C := RX3) (T := TX3) (N := 13) (own := RX3) hx hb hts in_X3 hown hK hG_20 hvc_19 rfl (by decide) (hts _ q1794) (fun _ h9 => h9) dX3_readsPart_217 (fun x45 hvc_84 => ?_)
    clear hvc_19
    refine lv_iload_n hx hb dX3_readsPart_220 rfl (lv_at hl_6 1 rfl) ?_
    refine lv_iconst (v := nI 1) hx hb dX3_readsPart_221 (by decide) ?_
    refine lv_iadd hx hb dX3_readsPart_222 ?_
    refine lv_aload_n hx hb dX3_readsPart_223 rfl (lv_at hl_6 2 rfl) ?_
    refine lv_bipush (v := nI 48) hx hb dX3_readsPart_224 (by decide) ?_
    refine lv_bipush (v := nI 57) hx hb dX3_readsPart_226 (by decide) ?_
    refine gw_cVIN (As := [.int (nI 48), .int (nI 57)]) (rest := [.int (((nI 4) * x1) + (nI 1)), .ref x45])  ⟨hx, hb, hml, hown, hts⟩ (met_X3_reads l E G10 o (nI 48) (nI 57) _ hvc_84.2) (cwV 2 hts (lw_V q2021 q2023 qs65 q104 q2024) rfl rfl rfl (by decide +kernel) ⟨Nat.le_of_ble_eq_true rfl, Nat.le_of_ble_eq_true rfl⟩) (gw_rc (q := (RX3, TX3, 13)) hK hG_20 hvc_84.1 rfl) (Nat.zero_le _) (Nat.zero_le _) (g_St0 E) hz trivial hK hG_20 hS_21 rfl hl_6.1 rfl (Nat.le_of_ble_eq_true rfl) dX3_readsPart_228 (fun x46 G47 H locs hvc_85 hG_86 hS_87 => ?_)
    clear hvc_84 hG_20 hS_21
    refine gw_ist hx hb hK hG_86 hS_87 hvc_85 dX3_readsPart_231 (fun G48 H locs hvc_88 hG_89 hS_90 => ?_)
    clear hvc_85 hG_86 hS_87
    refine lv_goto (tgt := 323) hx hb dX3_readsPart_232 (by decide) ?_
    exact jn323 o G48 _ _ _ hvc_88 hG_89 hS_90 (lv_sub hl_6 [2] rfl)
  by_cases h113 : x2 = nI 113
  · replace hvc_19 := hvc_19.2.2.2.2.2.1 h113
    rw [h113]; refine lv_tableIn (off := 229) (tgt := 273) hx hb dX3_readsPart_44 (by decide) (by decide) (by decide) (by decide) ?_
    refine lv_aload_n hx hb dX3_readsPart_273 rfl (lv_at hl_6 2 rfl) ?_
    refine gw_gr (C := RX3) (T := TX3) (N := 13) (own := RX3) hx hb hts in_X3 hown hK hG_20 hvc_19 rfl (by decide) (hts _ q1794) (fun _ h9 => h9) dX3_readsPart_274 (fun x49 hvc_91 => ?_)
    clear hvc_19
    refine lv_iload_n hx hb dX3_readsPart_277 rfl (lv_at hl_6 1 rfl) ?_
    refine lv_iconst (v := nI 1) hx hb dX3_readsPart_278 (by decide) ?_
    refine lv_iadd hx hb dX3_readsPart_279 ?_
    refine lv_aload_n hx hb dX3_readsPart_280 rfl (lv_at hl_6 2 rfl) ?_
    refine lv_bipush (v := nI 48) hx hb dX3_readsPart_281 (by decide) ?_
    refine lv_bipush (v := nI 51) hx hb dX3_readsPart_283 (by decide) ?_
    refine gw_cVIN (As := [.int (nI 48), .int (nI 51)]) (rest := [.int (((nI 4) * x1) + (nI 1)), .ref x49])  ⟨hx, hb, hml, hown, hts⟩ (met_X3_reads l E G10 o (nI 48) (nI 51) _ hvc_91.2) (cwV 2 hts (lw_V q2021 q2023 qs65 q104 q2024) rfl rfl rfl (by decide +kernel) ⟨Nat.le_of_ble_eq_true rfl, Nat.le_of_ble_eq_true rfl⟩) (gw_rc (q := (RX3, TX3, 13)) hK hG_20 hvc_91.1 rfl) (Nat.zero_le _) (Nat.zero_le _) (g_St0 E) hz trivial hK hG_20 hS_21 rfl hl_6.1 rfl (Nat.le_of_ble_eq_true rfl) dX3_readsPart_285 (fun x50 G51 H locs hvc_92 hG_93 hS_94 => ?_)
    clear hvc_91 hG_20 hS_21
    refine gw_ist hx hb hK hG_93 hS_94 hvc_92 dX3_readsPart_288 (fun G52 H locs hvc_95 hG_96 hS_97 => ?_)
    clear hvc_92 hG_93 hS_94
    refine lv_aload_n hx hb dX3_readsPart_289 rfl (lv_at hl_6 2 rfl) ?_
    refine gw_gr (C := RX3) (T := TX3) (N := 13) (own := RX3) hx hb hts in_X3 hown hK hG_96 hvc_95 rfl (by decide) (hts _ q1794) (fun _ h9 => h9) dX3_readsPart_290 (fun x53 hvc_98 => ?_)
    clear hvc_95
    refine lv_iload_n hx hb dX3_readsPart_293 rfl (lv_at hl_6 1 rfl) ?_
    refine lv_iconst (v := nI 2) hx hb dX3_readsPart_294 (by decide) ?_
    refine lv_iadd hx hb dX3_readsPart_295 ?_
    refine lv_aload_n hx hb dX3_readsPart_296 rfl (lv_at hl_6 2 rfl) ?_
    refine lv_bipush (v := nI 48) hx hb dX3_readsPart_297 (by decide) ?_
    refine lv_bipush (v := nI 55) hx hb dX3_readsPart_299 (by decide) ?_
    refine gw_cVIN (As := [.int (nI 48), .int (nI 55)]) (rest := [.int (((nI 4) * x1) + (nI 2)), .ref x53])  ⟨hx, hb, hml, hown, hts⟩ (met_X3_reads l E G52 o (nI 48) (nI 55) _ hvc_98.2) (cwV 2 hts (lw_V q2021 q2023 qs65 q104 q2024) rfl rfl rfl (by decide +kernel) ⟨Nat.le_of_ble_eq_true rfl, Nat.le_of_ble_eq_true rfl⟩) (gw_rc (q := (RX3, TX3, 13)) hK hG_96 hvc_98.1 rfl) (Nat.zero_le _) (Nat.zero_le _) (g_St0 E) hz trivial hK hG_96 hS_97 rfl hl_6.1 rfl (Nat.le_of_ble_eq_true rfl) dX3_readsPart_301 (fun x54 G55 H locs hvc_99 hG_100 hS_101 => ?_)
    clear hvc_98 hG_96 hS_97
    refine gw_ist hx hb hK hG_100 hS_101 hvc_99 dX3_readsPart_304 (fun G56 H locs hvc_102 hG_103 hS_104 => ?_)
    clear hvc_99 hG_100 hS_101
    refine lv_goto (tgt := 323) hx hb dX3_readsPart_305 (by decide) ?_
    exact jn323 o G56 _ _ _ hvc_102 hG_103 hS_104 (lv_sub hl_6 [2] rfl)
  by_cases h114 : x2 = nI 114
  · replace hvc_19 := hvc_19.2.2.2.2.2.2.1 h114
    rw [h114]; refine lv_tableIn (off := 191) (tgt := 235) hx hb dX3_readsPart_44 (by decide) (by decide) (by decide) (by decide) ?_
    refine lv_aload_n hx hb dX3_readsPart_235 rfl (lv_at hl_6 2 rfl) ?_
    refine gw_gr (C := RX3) (T := TX3) (N := 13) (own := RX3) hx hb hts in_X3 hown hK hG_20 hvc_19 rfl (by decide) (hts _ q1794) (fun _ h9 => h9) dX3_readsPart_236 (fun x57 hvc_105 => ?_)
    clear hvc_19
    refine lv_iload_n hx hb dX3_readsPart_239 rfl (lv_at hl_6 1 rfl) ?_
    refine lv_iconst (v := nI 1) hx hb dX3_readsPart_240 (by decide) ?_
    refine lv_iadd hx hb dX3_readsPart_241 ?_
    refine lv_aload_n hx hb dX3_readsPart_242 rfl (lv_at hl_6 2 rfl) ?_
    refine lv_bipush (v := nI 48) hx hb dX3_readsPart_243 (by decide) ?_
    refine lv_bipush (v := nI 52) hx hb dX3_readsPart_245 (by decide) ?_
    refine gw_cVIN (As := [.int (nI 48), .int (nI 52)]) (rest := [.int (((nI 4) * x1) + (nI 1)), .ref x57])  ⟨hx, hb, hml, hown, hts⟩ (met_X3_reads l E G10 o (nI 48) (nI 52) _ hvc_105.2) (cwV 2 hts (lw_V q2021 q2023 qs65 q104 q2024) rfl rfl rfl (by decide +kernel) ⟨Nat.le_of_ble_eq_true rfl, Nat.le_of_ble_eq_true rfl⟩) (gw_rc (q := (RX3, TX3, 13)) hK hG_20 hvc_105.1 rfl) (Nat.zero_le _) (Nat.zero_le _) (g_St0 E) hz trivial hK hG_20 hS_21 rfl hl_6.1 rfl (Nat.le_of_ble_eq_true rfl) dX3_readsPart_247 (fun x58 G59 H locs hvc_106 hG_107 hS_108 => ?_)
    clear hvc_105 hG_20 hS_21
    refine gw_ist hx hb hK hG_107 hS_108 hvc_106 dX3_readsPart_250 (fun G60 H locs hvc_109 hG_110 hS_111 => ?_)
    clear hvc_106 hG_107 hS_108
    refine lv_goto (tgt := 323) hx hb dX3_readsPart_251 (by decide) ?_
    exact jn323 o G60 _ _ _ hvc_109 hG_110 hS_111 (lv_sub hl_6 [2] rfl)
  replace hvc_19 := hvc_19.2.2.2.2.2.2.2 h98 h99 h100 h103 h108 h113 h114
  by_cases h101 : x2 = nI 101
  · rw [h101]; refine lv_tableIn (off := 264) (tgt := 308) hx hb dX3_readsPart_44 (by decide) (by decide) (by decide) (by decide) ?_
    refine lv_aload_n hx hb dX3_readsPart_308 rfl (lv_at hl_6 2 rfl) ?_
    refine lv_dup hx hb dX3_readsPart_309 rfl ?_
    refine gw_gi (C := RX3) (T := TX3) (N := 13) (own := RX3) hx hb hts in_X3 hown hK hG_20 hvc_19 rfl (by decide) (hts _ q1792) (fun _ h9 => h9) dX3_readsPart_310 (fun x61 hvc_112 => ?_)
    clear hvc_19
    refine lv_iconst (v := nI 1) hx hb dX3_readsPart_313 (by decide) ?_
    refine lv_isub hx hb dX3_readsPart_314 ?_
    refine gw_put (ty := .int) (C := RX3) (T := TX3) (N := 13) (own := RX3) hx hb hts in_X3 tyX3 tyX3_ok nmX3 hown hK hG_20 hS_21 hvc_112 rfl (by decide) (hts _ q1792) (fun _ h9 => h9) rfl (by decide +kernel) rfl rfl dX3_readsPart_315 (fun G62 H locs hvc_113 hG_114 hS_115 => ?_)
    clear hvc_112 hG_20 hS_21
    refine lv_aload_n hx hb dX3_readsPart_318 rfl (lv_at hl_6 2 rfl) ?_
    refine lv_iconst (v := nI 0) hx hb dX3_readsPart_319 (by decide) ?_
    refine gw_put (ty := .boolean) (C := RX3) (T := TX3) (N := 13) (own := RX3) hx hb hts in_X3 tyX3 tyX3_ok nmX3 hown hK hG_114 hS_115 hvc_113 rfl (by decide) (hts _ q1793) (fun _ h9 => h9) rfl (by decide +kernel) rfl rfl dX3_readsPart_320 (fun G63 H locs hvc_116 hG_117 hS_118 => ?_)
    clear hvc_113 hG_114 hS_115
    exact jn323 o G63 _ _ _ hvc_116 hG_117 hS_118 (lv_sub hl_6 [2] rfl)
  by_cases h102 : x2 = nI 102
  · rw [h102]; refine lv_tableIn (off := 264) (tgt := 308) hx hb dX3_readsPart_44 (by decide) (by decide) (by decide) (by decide) ?_
    refine lv_aload_n hx hb dX3_readsPart_308 rfl (lv_at hl_6 2 rfl) ?_
    refine lv_dup hx hb dX3_readsPart_309 rfl ?_
    refine gw_gi (C := RX3) (T := TX3) (N := 13) (own := RX3) hx hb hts in_X3 hown hK hG_20 hvc_19 rfl (by decide) (hts _ q1792) (fun _ h9 => h9) dX3_readsPart_310 (fun x61 hvc_119 => ?_)
    clear hvc_19
    refine lv_iconst (v := nI 1) hx hb dX3_readsPart_313 (by decide) ?_
    refine lv_isub hx hb dX3_readsPart_314 ?_
    refine gw_put (ty := .int) (C := RX3) (T := TX3) (N := 13) (own := RX3) hx hb hts in_X3 tyX3 tyX3_ok nmX3 hown hK hG_20 hS_21 hvc_119 rfl (by decide) (hts _ q1792) (fun _ h9 => h9) rfl (by decide +kernel) rfl rfl dX3_readsPart_315 (fun G62 H locs hvc_120 hG_121 hS_122 => ?_)
    clear hvc_119 hG_20 hS_21
    refine lv_aload_n hx hb dX3_readsPart_318 rfl (lv_at hl_6 2 rfl) ?_
    refine lv_iconst (v := nI 0) hx hb dX3_readsPart_319 (by decide) ?_
    refine gw_put (ty := .boolean) (C := RX3) (T := TX3) (N := 13) (own := RX3) hx hb hts in_X3 tyX3 tyX3_ok nmX3 hown hK hG_121 hS_122 hvc_120 rfl (by decide) (hts _ q1793) (fun _ h9 => h9) rfl (by decide +kernel) rfl rfl dX3_readsPart_320 (fun G63 H locs hvc_123 hG_124 hS_125 => ?_)
    clear hvc_120 hG_121 hS_122
    exact jn323 o G63 _ _ _ hvc_123 hG_124 hS_125 (lv_sub hl_6 [2] rfl)
  by_cases h104 : x2 = nI 104
  · rw [h104]; refine lv_tableIn (off := 264) (tgt := 308) hx hb dX3_readsPart_44 (by decide) (by decide) (by decide) (by decide) ?_
    refine lv_aload_n hx hb dX3_readsPart_308 rfl (lv_at hl_6 2 rfl) ?_
    refine lv_dup hx hb dX3_readsPart_309 rfl ?_
    refine gw_gi (C := RX3) (T := TX3) (N := 13) (own := RX3) hx hb hts in_X3 hown hK hG_20 hvc_19 rfl (by decide) (hts _ q1792) (fun _ h9 => h9) dX3_readsPart_310 (fun x61 hvc_126 => ?_)
    clear hvc_19
    refine lv_iconst (v := nI 1) hx hb dX3_readsPart_313 (by decide) ?_
    refine lv_isub hx hb dX3_readsPart_314 ?_
    refine gw_put (ty := .int) (C := RX3) (T := TX3) (N := 13) (own := RX3) hx hb hts in_X3 tyX3 tyX3_ok nmX3 hown hK hG_20 hS_21 hvc_126 rfl (by decide) (hts _ q1792) (fun _ h9 => h9) rfl (by decide +kernel) rfl rfl dX3_readsPart_315 (fun G62 H locs hvc_127 hG_128 hS_129 => ?_)
    clear hvc_126 hG_20 hS_21
    refine lv_aload_n hx hb dX3_readsPart_318 rfl (lv_at hl_6 2 rfl) ?_
    refine lv_iconst (v := nI 0) hx hb dX3_readsPart_319 (by decide) ?_
    refine gw_put (ty := .boolean) (C := RX3) (T := TX3) (N := 13) (own := RX3) hx hb hts in_X3 tyX3 tyX3_ok nmX3 hown hK hG_128 hS_129 hvc_127 rfl (by decide) (hts _ q1793) (fun _ h9 => h9) rfl (by decide +kernel) rfl rfl dX3_readsPart_320 (fun G63 H locs hvc_130 hG_131 hS_132 => ?_)
    clear hvc_127 hG_128 hS_129
    exact jn323 o G63 _ _ _ hvc_130 hG_131 hS_132 (lv_sub hl_6 [2] rfl)
  by_cases h105 : x2 = nI 105
  · rw [h105]; refine lv_tableIn (off := 264) (tgt := 308) hx hb dX3_readsPart_44 (by decide) (by decide) (by decide) (by decide) ?_
    refine lv_aload_n hx hb dX3_readsPart_308 rfl (lv_at hl_6 2 rfl) ?_
    refine lv_dup hx hb dX3_readsPart_309 rfl ?_
    refine gw_gi (C := RX3) (T := TX3) (N := 13) (own := RX3) hx hb hts in_X3 hown hK hG_20 hvc_19 rfl (by decide) (hts _ q1792) (fun _ h9 => h9) dX3_readsPart_310 (fun x61 hvc_133 => ?_)
    clear hvc_19
    refine lv_iconst (v := nI 1) hx hb dX3_readsPart_313 (by decide) ?_
    refine lv_isub hx hb dX3_readsPart_314 ?_
    refine gw_put (ty := .int) (C := RX3) (T := TX3) (N := 13) (own := RX3) hx hb hts in_X3 tyX3 tyX3_ok nmX3 hown hK hG_20 hS_21 hvc_133 rfl (by decide) (hts _ q1792) (fun _ h9 => h9) rfl (by decide +kernel) rfl rfl dX3_readsPart_315 (fun G62 H locs hvc_134 hG_135 hS_136 => ?_)
    clear hvc_133 hG_20 hS_21
    refine lv_aload_n hx hb dX3_readsPart_318 rfl (lv_at hl_6 2 rfl) ?_
    refine lv_iconst (v := nI 0) hx hb dX3_readsPart_319 (by decide) ?_
    refine gw_put (ty := .boolean) (C := RX3) (T := TX3) (N := 13) (own := RX3) hx hb hts in_X3 tyX3 tyX3_ok nmX3 hown hK hG_135 hS_136 hvc_134 rfl (by decide) (hts _ q1793) (fun _ h9 => h9) rfl (by decide +kernel) rfl rfl dX3_readsPart_320 (fun G63 H locs hvc_137 hG_138 hS_139 => ?_)
    clear hvc_134 hG_135 hS_136
    exact jn323 o G63 _ _ _ hvc_137 hG_138 hS_139 (lv_sub hl_6 [2] rfl)
  by_cases h106 : x2 = nI 106
  · rw [h106]; refine lv_tableIn (off := 264) (tgt := 308) hx hb dX3_readsPart_44 (by decide) (by decide) (by decide) (by decide) ?_
    refine lv_aload_n hx hb dX3_readsPart_308 rfl (lv_at hl_6 2 rfl) ?_
    refine lv_dup hx hb dX3_readsPart_309 rfl ?_
    refine gw_gi (C := RX3) (T := TX3) (N := 13) (own := RX3) hx hb hts in_X3 hown hK hG_20 hvc_19 rfl (by decide) (hts _ q1792) (fun _ h9 => h9) dX3_readsPart_310 (fun x61 hvc_140 => ?_)
    clear hvc_19
    refine lv_iconst (v := nI 1) hx hb dX3_readsPart_313 (by decide) ?_
    refine lv_isub hx hb dX3_readsPart_314 ?_
    refine gw_put (ty := .int) (C := RX3) (T := TX3) (N := 13) (own := RX3) hx hb hts in_X3 tyX3 tyX3_ok nmX3 hown hK hG_20 hS_21 hvc_140 rfl (by decide) (hts _ q1792) (fun _ h9 => h9) rfl (by decide +kernel) rfl rfl dX3_readsPart_315 (fun G62 H locs hvc_141 hG_142 hS_143 => ?_)
    clear hvc_140 hG_20 hS_21
    refine lv_aload_n hx hb dX3_readsPart_318 rfl (lv_at hl_6 2 rfl) ?_
    refine lv_iconst (v := nI 0) hx hb dX3_readsPart_319 (by decide) ?_
    refine gw_put (ty := .boolean) (C := RX3) (T := TX3) (N := 13) (own := RX3) hx hb hts in_X3 tyX3 tyX3_ok nmX3 hown hK hG_142 hS_143 hvc_141 rfl (by decide) (hts _ q1793) (fun _ h9 => h9) rfl (by decide +kernel) rfl rfl dX3_readsPart_320 (fun G63 H locs hvc_144 hG_145 hS_146 => ?_)
    clear hvc_141 hG_142 hS_143
    exact jn323 o G63 _ _ _ hvc_144 hG_145 hS_146 (lv_sub hl_6 [2] rfl)
  by_cases h107 : x2 = nI 107
  · rw [h107]; refine lv_tableIn (off := 264) (tgt := 308) hx hb dX3_readsPart_44 (by decide) (by decide) (by decide) (by decide) ?_
    refine lv_aload_n hx hb dX3_readsPart_308 rfl (lv_at hl_6 2 rfl) ?_
    refine lv_dup hx hb dX3_readsPart_309 rfl ?_
    refine gw_gi (C := RX3) (T := TX3) (N := 13) (own := RX3) hx hb hts in_X3 hown hK hG_20 hvc_19 rfl (by decide) (hts _ q1792) (fun _ h9 => h9) dX3_readsPart_310 (fun x61 hvc_147 => ?_)
    clear hvc_19
    refine lv_iconst (v := nI 1) hx hb dX3_readsPart_313 (by decide) ?_
    refine lv_isub hx hb dX3_readsPart_314 ?_
    refine gw_put (ty := .int) (C := RX3) (T := TX3) (N := 13) (own := RX3) hx hb hts in_X3 tyX3 tyX3_ok nmX3 hown hK hG_20 hS_21 hvc_147 rfl (by decide) (hts _ q1792) (fun _ h9 => h9) rfl (by decide +kernel) rfl rfl dX3_readsPart_315 (fun G62 H locs hvc_148 hG_149 hS_150 => ?_)
    clear hvc_147 hG_20 hS_21
    refine lv_aload_n hx hb dX3_readsPart_318 rfl (lv_at hl_6 2 rfl) ?_
    refine lv_iconst (v := nI 0) hx hb dX3_readsPart_319 (by decide) ?_
    refine gw_put (ty := .boolean) (C := RX3) (T := TX3) (N := 13) (own := RX3) hx hb hts in_X3 tyX3 tyX3_ok nmX3 hown hK hG_149 hS_150 hvc_148 rfl (by decide) (hts _ q1793) (fun _ h9 => h9) rfl (by decide +kernel) rfl rfl dX3_readsPart_320 (fun G63 H locs hvc_151 hG_152 hS_153 => ?_)
    clear hvc_148 hG_149 hS_150
    exact jn323 o G63 _ _ _ hvc_151 hG_152 hS_153 (lv_sub hl_6 [2] rfl)
  by_cases h109 : x2 = nI 109
  · rw [h109]; refine lv_tableIn (off := 264) (tgt := 308) hx hb dX3_readsPart_44 (by decide) (by decide) (by decide) (by decide) ?_
    refine lv_aload_n hx hb dX3_readsPart_308 rfl (lv_at hl_6 2 rfl) ?_
    refine lv_dup hx hb dX3_readsPart_309 rfl ?_
    refine gw_gi (C := RX3) (T := TX3) (N := 13) (own := RX3) hx hb hts in_X3 hown hK hG_20 hvc_19 rfl (by decide) (hts _ q1792) (fun _ h9 => h9) dX3_readsPart_310 (fun x61 hvc_154 => ?_)
    clear hvc_19
    refine lv_iconst (v := nI 1) hx hb dX3_readsPart_313 (by decide) ?_
    refine lv_isub hx hb dX3_readsPart_314 ?_
    refine gw_put (ty := .int) (C := RX3) (T := TX3) (N := 13) (own := RX3) hx hb hts in_X3 tyX3 tyX3_ok nmX3 hown hK hG_20 hS_21 hvc_154 rfl (by decide) (hts _ q1792) (fun _ h9 => h9) rfl (by decide +kernel) rfl rfl dX3_readsPart_315 (fun G62 H locs hvc_155 hG_156 hS_157 => ?_)
    clear hvc_154 hG_20 hS_21
    refine lv_aload_n hx hb dX3_readsPart_318 rfl (lv_at hl_6 2 rfl) ?_
    refine lv_iconst (v := nI 0) hx hb dX3_readsPart_319 (by decide) ?_
    refine gw_put (ty := .boolean) (C := RX3) (T := TX3) (N := 13) (own := RX3) hx hb hts in_X3 tyX3 tyX3_ok nmX3 hown hK hG_156 hS_157 hvc_155 rfl (by decide) (hts _ q1793) (fun _ h9 => h9) rfl (by decide +kernel) rfl rfl dX3_readsPart_320 (fun G63 H locs hvc_158 hG_159 hS_160 => ?_)
    clear hvc_155 hG_156 hS_157
    exact jn323 o G63 _ _ _ hvc_158 hG_159 hS_160 (lv_sub hl_6 [2] rfl)
  by_cases h110 : x2 = nI 110
  · rw [h110]; refine lv_tableIn (off := 264) (tgt := 308) hx hb dX3_readsPart_44 (by decide) (by decide) (by decide) (by decide) ?_
    refine lv_aload_n hx hb dX3_readsPart_308 rfl (lv_at hl_6 2 rfl) ?_
    refine lv_dup hx hb dX3_readsPart_309 rfl ?_
    refine gw_gi (C := RX3) (T := TX3) (N := 13) (own := RX3) hx hb hts in_X3 hown hK hG_20 hvc_19 rfl (by decide) (hts _ q1792) (fun _ h9 => h9) dX3_readsPart_310 (fun x61 hvc_161 => ?_)
    clear hvc_19
    refine lv_iconst (v := nI 1) hx hb dX3_readsPart_313 (by decide) ?_
    refine lv_isub hx hb dX3_readsPart_314 ?_
    refine gw_put (ty := .int) (C := RX3) (T := TX3) (N := 13) (own := RX3) hx hb hts in_X3 tyX3 tyX3_ok nmX3 hown hK hG_20 hS_21 hvc_161 rfl (by decide) (hts _ q1792) (fun _ h9 => h9) rfl (by decide +kernel) rfl rfl dX3_readsPart_315 (fun G62 H locs hvc_162 hG_163 hS_164 => ?_)
    clear hvc_161 hG_20 hS_21
    refine lv_aload_n hx hb dX3_readsPart_318 rfl (lv_at hl_6 2 rfl) ?_
    refine lv_iconst (v := nI 0) hx hb dX3_readsPart_319 (by decide) ?_
    refine gw_put (ty := .boolean) (C := RX3) (T := TX3) (N := 13) (own := RX3) hx hb hts in_X3 tyX3 tyX3_ok nmX3 hown hK hG_163 hS_164 hvc_162 rfl (by decide) (hts _ q1793) (fun _ h9 => h9) rfl (by decide +kernel) rfl rfl dX3_readsPart_320 (fun G63 H locs hvc_165 hG_166 hS_167 => ?_)
    clear hvc_162 hG_163 hS_164
    exact jn323 o G63 _ _ _ hvc_165 hG_166 hS_167 (lv_sub hl_6 [2] rfl)
  by_cases h111 : x2 = nI 111
  · rw [h111]; refine lv_tableIn (off := 264) (tgt := 308) hx hb dX3_readsPart_44 (by decide) (by decide) (by decide) (by decide) ?_
    refine lv_aload_n hx hb dX3_readsPart_308 rfl (lv_at hl_6 2 rfl) ?_
    refine lv_dup hx hb dX3_readsPart_309 rfl ?_
    refine gw_gi (C := RX3) (T := TX3) (N := 13) (own := RX3) hx hb hts in_X3 hown hK hG_20 hvc_19 rfl (by decide) (hts _ q1792) (fun _ h9 => h9) dX3_readsPart_310 (fun x61 hvc_168 => ?_)
    clear hvc_19
    refine lv_iconst (v := nI 1) hx hb dX3_readsPart_313 (by decide) ?_
    refine lv_isub hx hb dX3_readsPart_314 ?_
    refine gw_put (ty := .int) (C := RX3) (T := TX3) (N := 13) (own := RX3) hx hb hts in_X3 tyX3 tyX3_ok nmX3 hown hK hG_20 hS_21 hvc_168 rfl (by decide) (hts _ q1792) (fun _ h9 => h9) rfl (by decide +kernel) rfl rfl dX3_readsPart_315 (fun G62 H locs hvc_169 hG_170 hS_171 => ?_)
    clear hvc_168 hG_20 hS_21
    refine lv_aload_n hx hb dX3_readsPart_318 rfl (lv_at hl_6 2 rfl) ?_
    refine lv_iconst (v := nI 0) hx hb dX3_readsPart_319 (by decide) ?_
    refine gw_put (ty := .boolean) (C := RX3) (T := TX3) (N := 13) (own := RX3) hx hb hts in_X3 tyX3 tyX3_ok nmX3 hown hK hG_170 hS_171 hvc_169 rfl (by decide) (hts _ q1793) (fun _ h9 => h9) rfl (by decide +kernel) rfl rfl dX3_readsPart_320 (fun G63 H locs hvc_172 hG_173 hS_174 => ?_)
    clear hvc_169 hG_170 hS_171
    exact jn323 o G63 _ _ _ hvc_172 hG_173 hS_174 (lv_sub hl_6 [2] rfl)
  by_cases h112 : x2 = nI 112
  · rw [h112]; refine lv_tableIn (off := 264) (tgt := 308) hx hb dX3_readsPart_44 (by decide) (by decide) (by decide) (by decide) ?_
    refine lv_aload_n hx hb dX3_readsPart_308 rfl (lv_at hl_6 2 rfl) ?_
    refine lv_dup hx hb dX3_readsPart_309 rfl ?_
    refine gw_gi (C := RX3) (T := TX3) (N := 13) (own := RX3) hx hb hts in_X3 hown hK hG_20 hvc_19 rfl (by decide) (hts _ q1792) (fun _ h9 => h9) dX3_readsPart_310 (fun x61 hvc_175 => ?_)
    clear hvc_19
    refine lv_iconst (v := nI 1) hx hb dX3_readsPart_313 (by decide) ?_
    refine lv_isub hx hb dX3_readsPart_314 ?_
    refine gw_put (ty := .int) (C := RX3) (T := TX3) (N := 13) (own := RX3) hx hb hts in_X3 tyX3 tyX3_ok nmX3 hown hK hG_20 hS_21 hvc_175 rfl (by decide) (hts _ q1792) (fun _ h9 => h9) rfl (by decide +kernel) rfl rfl dX3_readsPart_315 (fun G62 H locs hvc_176 hG_177 hS_178 => ?_)
    clear hvc_175 hG_20 hS_21
    refine lv_aload_n hx hb dX3_readsPart_318 rfl (lv_at hl_6 2 rfl) ?_
    refine lv_iconst (v := nI 0) hx hb dX3_readsPart_319 (by decide) ?_
    refine gw_put (ty := .boolean) (C := RX3) (T := TX3) (N := 13) (own := RX3) hx hb hts in_X3 tyX3 tyX3_ok nmX3 hown hK hG_177 hS_178 hvc_176 rfl (by decide) (hts _ q1793) (fun _ h9 => h9) rfl (by decide +kernel) rfl rfl dX3_readsPart_320 (fun G63 H locs hvc_179 hG_180 hS_181 => ?_)
    clear hvc_176 hG_177 hS_178
    exact jn323 o G63 _ _ _ hvc_179 hG_180 hS_181 (lv_sub hl_6 [2] rfl)
  have hr9 : (x2).toInt < 98 ∨ 114 < (x2).toInt := by
    have g98 := lv_neT h98 (a := 98) (by decide)
    have g99 := lv_neT h99 (a := 99) (by decide)
    have g100 := lv_neT h100 (a := 100) (by decide)
    have g101 := lv_neT h101 (a := 101) (by decide)
    have g102 := lv_neT h102 (a := 102) (by decide)
    have g103 := lv_neT h103 (a := 103) (by decide)
    have g104 := lv_neT h104 (a := 104) (by decide)
    have g105 := lv_neT h105 (a := 105) (by decide)
    have g106 := lv_neT h106 (a := 106) (by decide)
    have g107 := lv_neT h107 (a := 107) (by decide)
    have g108 := lv_neT h108 (a := 108) (by decide)
    have g109 := lv_neT h109 (a := 109) (by decide)
    have g110 := lv_neT h110 (a := 110) (by decide)
    have g111 := lv_neT h111 (a := 111) (by decide)
    have g112 := lv_neT h112 (a := 112) (by decide)
    have g113 := lv_neT h113 (a := 113) (by decide)
    have g114 := lv_neT h114 (a := 114) (by decide)
    omega
  refine lv_tableOut (tgt := 308) hx hb dX3_readsPart_44 hr9 (by decide) ?_
  refine lv_aload_n hx hb dX3_readsPart_308 rfl (lv_at hl_6 2 rfl) ?_
  refine lv_dup hx hb dX3_readsPart_309 rfl ?_
  refine gw_gi (C := RX3) (T := TX3) (N := 13) (own := RX3) hx hb hts in_X3 hown hK hG_20 hvc_19 rfl (by decide) (hts _ q1792) (fun _ h9 => h9) dX3_readsPart_310 (fun x61 hvc_182 => ?_)
  clear hvc_19
  refine lv_iconst (v := nI 1) hx hb dX3_readsPart_313 (by decide) ?_
  refine lv_isub hx hb dX3_readsPart_314 ?_
  refine gw_put (ty := .int) (C := RX3) (T := TX3) (N := 13) (own := RX3) hx hb hts in_X3 tyX3 tyX3_ok nmX3 hown hK hG_20 hS_21 hvc_182 rfl (by decide) (hts _ q1792) (fun _ h9 => h9) rfl (by decide +kernel) rfl rfl dX3_readsPart_315 (fun G62 H locs hvc_183 hG_184 hS_185 => ?_)
  clear hvc_182 hG_20 hS_21
  refine lv_aload_n hx hb dX3_readsPart_318 rfl (lv_at hl_6 2 rfl) ?_
  refine lv_iconst (v := nI 0) hx hb dX3_readsPart_319 (by decide) ?_
  refine gw_put (ty := .boolean) (C := RX3) (T := TX3) (N := 13) (own := RX3) hx hb hts in_X3 tyX3 tyX3_ok nmX3 hown hK hG_184 hS_185 hvc_183 rfl (by decide) (hts _ q1793) (fun _ h9 => h9) rfl (by decide +kernel) rfl rfl dX3_readsPart_320 (fun G63 H locs hvc_186 hG_187 hS_188 => ?_)
  clear hvc_183 hG_184 hS_185
  exact jn323 o G63 _ _ _ hvc_186 hG_187 hS_188 (lv_sub hl_6 [2] rfl)
set_option maxHeartbeats 4000000 in
set_option maxRecDepth 100000 in
theorem met_X3_readsCourse (l : Launch) (E : g_E) (G : g_G) (o : Nat) (post : Int32 → g_G → Prop) (hvc : wp_X3_readsCourse E G o post) : g_MI E l yX3_readsCourse (ws_ yX3_readsCourse cX3_readsCourse 1 (Option.some Jvm.ClassFile.FieldType.boolean)) ({ frames := 4, cells := 0, slots := 0, locals := 88 } : Room) (fun _ => True) [.ref o] G (post) := by
  refine g_enter (by decide +kernel) (Nat.le_of_ble_eq_true rfl) ?_
  intro p e s m below meth c ls hx hb hr hts hown hlocks hml hin hz hX hK hG hS hl
  have hl : lv_has ls 1 [(0, .ref o)] := hl
  have hown : s.vm.findClass RX3 = some m.cls := hown
  unfold wp_X3_readsCourse at hvc
  refine lv_aload_n hx hb dX3_readsCourse_0 rfl (lv_at hl 0 rfl) ?_
  refine lv_iconst (v := nI 0) hx hb dX3_readsCourse_1 (by decide) ?_
  refine gw_put (ty := .int) (C := RX3) (T := TX3) (N := 13) (own := RX3) hx hb hts in_X3 tyX3 tyX3_ok nmX3 hown hK hG hS hvc rfl (by decide) (hts _ q1792) (fun _ h9 => h9) rfl (by decide +kernel) rfl rfl dX3_readsCourse_2 (fun G1 H locs hvc_1 hG_2 hS_3 => ?_)
  clear hvc hG hS
  refine lv_aload_n hx hb dX3_readsCourse_5 rfl (lv_at hl 0 rfl) ?_
  refine lv_iconst (v := nI 0) hx hb dX3_readsCourse_6 (by decide) ?_
  refine gw_put (ty := .int) (C := RX3) (T := TX3) (N := 13) (own := RX3) hx hb hts in_X3 tyX3 tyX3_ok nmX3 hown hK hG_2 hS_3 hvc_1 rfl (by decide) (hts _ q1795) (fun _ h9 => h9) rfl (by decide +kernel) rfl rfl dX3_readsCourse_7 (fun G2 H locs hvc_4 hG_5 hS_6 => ?_)
  clear hvc_1 hG_2 hS_3
  refine lv_aload_n hx hb dX3_readsCourse_10 rfl (lv_at hl 0 rfl) ?_
  have lp14 : ∀ (n14 : Nat) (y0 : Nat) (G : g_G) (H : Heap) (locs : List Loc) (ls : Array Slot), wp_X3_readsCourse_14 E post n14 y0 G → g_H E G H → va_S (g_A E) s.heap H locs → lv_has ls 1 [(0, .ref y0)] → W p l e ({ frames := 4, cells := 0, slots := 0, locals := 88 } : Room) s m ([.ref o] : List Value).toArray below meth c H locs 0 0 (MQ below (va_Qi (post) (g_Bk E) (g_A E)) ([.ref o] : List Value).toArray s 0 0 (g_A E)) (F0 m 14 ls []) := by
    clear hvc_4 hG_5 hS_6 hl
    intro n14
    induction n14 with
    | zero =>
      intro y0 G H locs ls hvc_7 hG_8 hS_9 hl_10
      exact False.elim hvc_7
    | succ n14 ih14 =>
      intro y0 G H locs ls hvc_11 hG_12 hS_13 hl_14
      refine lv_aload_n hx hb dX3_readsCourse_14 rfl (lv_at hl_14 0 rfl) ?_
      refine gw_gi (C := RX3) (T := TX3) (N := 13) (own := RX3) hx hb hts in_X3 hown hK hG_12 hvc_11 rfl (by decide) (hts _ q1793) (fun _ h9 => h9) dX3_readsCourse_15 (fun x3 hvc_15 => ?_)
      clear hvc_11
      refine lv_if_eq (tgt := 55) hx hb dX3_readsCourse_18 (by decide) (fun h9 => ?_) (fun h9 => ?_)
      · replace hvc_15 := hvc_15.1 h9
        refine lv_aload_n hx hb dX3_readsCourse_55 rfl (lv_at hl_14 0 rfl) ?_
        refine gw_gi (C := RX3) (T := TX3) (N := 13) (own := RX3) hx hb hts in_X3 hown hK hG_12 hvc_15 rfl (by decide) (hts _ q1793) (fun _ h9 => h9) dX3_readsCourse_56 (fun x4 hvc_16 => ?_)
        clear hvc_15
        exact g_iret hx hb hr hlocks (Nat.zero_le _) (Nat.zero_le _) hG_12 hS_13 hvc_16.1 hvc_16.2 dX3_readsCourse_59
      · replace hvc_15 := hvc_15.2 h9
        refine lv_aload_n hx hb dX3_readsCourse_21 rfl (lv_at hl_14 0 rfl) ?_
        refine gw_gi (C := RX3) (T := TX3) (N := 13) (own := RX3) hx hb hts in_X3 hown hK hG_12 hvc_15 rfl (by decide) (hts _ q1792) (fun _ h9 => h9) dX3_readsCourse_22 (fun x5 hvc_17 => ?_)
        clear hvc_15
        refine lv_aload_n hx hb dX3_readsCourse_25 rfl (lv_at hl_14 0 rfl) ?_
        refine gw_gi (C := RX3) (T := TX3) (N := 13) (own := RX3) hx hb hts in_X3 hown hK hG_12 hvc_17 rfl (by decide) (hts _ q1791) (fun _ h9 => h9) dX3_readsCourse_26 (fun x6 hvc_18 => ?_)
        clear hvc_17
        refine lv_icmp_ge (tgt := 55) hx hb dX3_readsCourse_29 (by decide) (fun h9 => ?_) (fun h9 => ?_)
        · replace hvc_18 := hvc_18.1 h9
          refine lv_aload_n hx hb dX3_readsCourse_55 rfl (lv_at hl_14 0 rfl) ?_
          refine gw_gi (C := RX3) (T := TX3) (N := 13) (own := RX3) hx hb hts in_X3 hown hK hG_12 hvc_18 rfl (by decide) (hts _ q1793) (fun _ h9 => h9) dX3_readsCourse_56 (fun x7 hvc_19 => ?_)
          clear hvc_18
          exact g_iret hx hb hr hlocks (Nat.zero_le _) (Nat.zero_le _) hG_12 hS_13 hvc_19.1 hvc_19.2 dX3_readsCourse_59
        · replace hvc_18 := hvc_18.2 h9
          refine lv_aload_n hx hb dX3_readsCourse_32 rfl (lv_at hl_14 0 rfl) ?_
          refine lv_bipush (v := nI 59) hx hb dX3_readsCourse_33 (by decide) ?_
          refine lv_bipush (v := nI 59) hx hb dX3_readsCourse_35 (by decide) ?_
          refine gw_cVIN (As := [.int (nI 59), .int (nI 59)]) (rest := [])  ⟨hx, hb, hml, hown, hts⟩ (met_X3_reads l E G y0 (nI 59) (nI 59) _ hvc_18.2) (cwV 2 hts (lw_V q2021 q2023 qs65 q104 q2024) rfl rfl rfl (by decide +kernel) ⟨Nat.le_of_ble_eq_true rfl, Nat.le_of_ble_eq_true rfl⟩) (gw_rc (q := (RX3, TX3, 13)) hK hG_12 hvc_18.1 rfl) (Nat.zero_le _) (Nat.zero_le _) (g_St0 E) hz trivial hK hG_12 hS_13 rfl hl_14.1 rfl (Nat.le_of_ble_eq_true rfl) dX3_readsCourse_37 (fun x8 G9 H locs hvc_20 hG_21 hS_22 => ?_)
          clear hvc_18 hG_12 hS_13
          refine lv_pop hx hb dX3_readsCourse_40 rfl ?_
          refine lv_aload_n hx hb dX3_readsCourse_41 rfl (lv_at hl_14 0 rfl) ?_
          refine gw_gi (C := RX3) (T := TX3) (N := 13) (own := RX3) hx hb hts in_X3 hown hK hG_21 hvc_20 rfl (by decide) (hts _ q1793) (fun _ h9 => h9) dX3_readsCourse_42 (fun x10 hvc_23 => ?_)
          clear hvc_20
          refine lv_if_eq (tgt := 14) hx hb dX3_readsCourse_45 (by decide) (fun h9 => ?_) (fun h9 => ?_)
          · replace hvc_23 := hvc_23.1 h9
            exact ih14 y0 G9 _ _ _ hvc_23 hG_21 hS_22 (lv_sub hl_14 [0] rfl)
          · replace hvc_23 := hvc_23.2 h9
            refine lv_aload_n hx hb dX3_readsCourse_48 rfl (lv_at hl_14 0 rfl) ?_
            refine gw_cVVN (As := []) (rest := [])  ⟨hx, hb, hml, hown, hts⟩ (met_X3_readsPart l E G9 y0 _ hvc_23.2) (cwV 0 hts (lw_V q2013 q2015 qs63 q104 q2016) rfl rfl rfl (by decide +kernel) ⟨Nat.le_of_ble_eq_true rfl, Nat.le_of_ble_eq_true rfl⟩) (gw_rc (q := (RX3, TX3, 13)) hK hG_21 hvc_23.1 rfl) (Nat.zero_le _) (Nat.zero_le _) (g_St0 E) hz trivial hK hG_21 hS_22 rfl hl_14.1 rfl (Nat.le_of_ble_eq_true rfl) dX3_readsCourse_49 (fun G12 H locs hvc_24 hG_25 hS_26 => ?_)
            clear hvc_23 hG_21 hS_22
            refine lv_goto (tgt := 14) hx hb dX3_readsCourse_52 (by decide) ?_
            exact ih14 y0 G12 _ _ _ hvc_24 hG_25 hS_26 (lv_sub hl_14 [0] rfl)
  refine gw_cVVN (As := []) (rest := [])  ⟨hx, hb, hml, hown, hts⟩ (met_X3_readsPart l E G2 o _ hvc_4.2) (cwV 0 hts (lw_V q2013 q2015 qs63 q104 q2016) rfl rfl rfl (by decide +kernel) ⟨Nat.le_of_ble_eq_true rfl, Nat.le_of_ble_eq_true rfl⟩) (gw_rc (q := (RX3, TX3, 13)) hK hG_5 hvc_4.1 rfl) (Nat.zero_le _) (Nat.zero_le _) (g_St0 E) hz trivial hK hG_5 hS_6 rfl hl.1 rfl (Nat.le_of_ble_eq_true rfl) dX3_readsCourse_11 (fun G14 H locs hvc_27 hG_28 hS_29 => ?_)
  clear hvc_4 hG_5 hS_6
  obtain ⟨nf14, hvc_27⟩ := hvc_27
  exact lp14 nf14 o G14 _ _ _ hvc_27 hG_28 hS_29 (lv_sub hl [0] rfl)
set_option maxHeartbeats 4000000 in
set_option maxRecDepth 100000 in
theorem met_X3_firstError (l : Launch) (E : g_E) (G : g_G) (o : Nat) (post : Int32 → g_G → Prop) (hvc : wp_X3_firstError E G o post) : g_MI E l yX3_firstError (ws_ yX3_firstError cX3_firstError 1 (Option.some Jvm.ClassFile.FieldType.int)) ({ frames := 5, cells := 0, slots := 0, locals := 108 } : Room) (fun _ => True) [.ref o] G (post) := by
  refine g_enter (by decide +kernel) (Nat.le_of_ble_eq_true rfl) ?_
  intro p e s m below meth c ls hx hb hr hts hown hlocks hml hin hz hX hK hG hS hl
  have hl : lv_has ls 1 [(0, .ref o)] := hl
  have hown : s.vm.findClass RX3 = some m.cls := hown
  unfold wp_X3_firstError at hvc
  refine lv_aload_n hx hb dX3_firstError_0 rfl (lv_at hl 0 rfl) ?_
  refine lv_iconst (v := nI 0) hx hb dX3_firstError_1 (by decide) ?_
  refine gw_put (ty := .int) (C := RX3) (T := TX3) (N := 13) (own := RX3) hx hb hts in_X3 tyX3 tyX3_ok nmX3 hown hK hG hS hvc rfl (by decide) (hts _ q1783) (fun _ h9 => h9) rfl (by decide +kernel) rfl rfl dX3_firstError_2 (fun G1 H locs hvc_1 hG_2 hS_3 => ?_)
  clear hvc hG hS
  refine lv_aload_n hx hb dX3_firstError_5 rfl (lv_at hl 0 rfl) ?_
  refine gw_cVIN (As := []) (rest := [])  ⟨hx, hb, hml, hown, hts⟩ (met_X3_readsCourse l E G1 o _ hvc_1.2) (cwV 0 hts (lw_V q2009 q2011 qs62 q104 q2012) rfl rfl rfl (by decide +kernel) ⟨Nat.le_of_ble_eq_true rfl, Nat.le_of_ble_eq_true rfl⟩) (gw_rc (q := (RX3, TX3, 13)) hK hG_2 hvc_1.1 rfl) (Nat.zero_le _) (Nat.zero_le _) (g_St0 E) hz trivial hK hG_2 hS_3 rfl hl.1 rfl (Nat.le_of_ble_eq_true rfl) dX3_firstError_6 (fun x2 G3 H locs hvc_4 hG_5 hS_6 => ?_)
  clear hvc_1 hG_2 hS_3
  refine lv_if_eq (tgt := 19) hx hb dX3_firstError_9 (by decide) (fun h9 => ?_) (fun h9 => ?_)
  · replace hvc_4 := hvc_4.1 h9
    refine lv_aload_n hx hb dX3_firstError_19 rfl (lv_at hl 0 rfl) ?_
    refine gw_gi (C := RX3) (T := TX3) (N := 13) (own := RX3) hx hb hts in_X3 hown hK hG_5 hvc_4 rfl (by decide) (hts _ q1792) (fun _ h9 => h9) dX3_firstError_20 (fun x4 hvc_7 => ?_)
    clear hvc_4
    exact g_iret hx hb hr hlocks (Nat.zero_le _) (Nat.zero_le _) hG_5 hS_6 rfl hvc_7 dX3_firstError_23
  · replace hvc_4 := hvc_4.2 h9
    refine lv_aload_n hx hb dX3_firstError_12 rfl (lv_at hl 0 rfl) ?_
    refine gw_gi (C := RX3) (T := TX3) (N := 13) (own := RX3) hx hb hts in_X3 hown hK hG_5 hvc_4 rfl (by decide) (hts _ q1791) (fun _ h9 => h9) dX3_firstError_13 (fun x5 hvc_8 => ?_)
    clear hvc_4
    refine lv_goto (tgt := 23) hx hb dX3_firstError_16 (by decide) ?_
    exact g_iret hx hb hr hlocks (Nat.zero_le _) (Nat.zero_le _) hG_5 hS_6 rfl hvc_8 dX3_firstError_23
set_option maxHeartbeats 4000000 in
set_option maxRecDepth 100000 in
theorem met_X3_does (l : Launch) (E : g_E) (G : g_G) (o : Nat) (p1 : Int32) (post : Int32 → g_G → Prop) (hvc : wp_X3_does E G o p1 post) : g_MI E l yX3_does (ws_ yX3_does cX3_does 5 (Option.some Jvm.ClassFile.FieldType.boolean)) ({ frames := 7, cells := 0, slots := 0, locals := 162 } : Room) (fun _ => True) [.ref o, .int p1] G (post) := by
  refine g_enter (by decide +kernel) (Nat.le_of_ble_eq_true rfl) ?_
  intro p e s m below meth c ls hx hb hr hts hown hlocks hml hin hz hX hK hG hS hl
  have hl : lv_has ls 5 [(0, .ref o), (1, .int p1)] := hl
  have hown : s.vm.findClass RX3 = some m.cls := hown
  unfold wp_X3_does at hvc
  refine lv_aload_n hx hb dX3_does_0 rfl (lv_at hl 0 rfl) ?_
  refine gw_gr (C := RX3) (T := TX3) (N := 13) (own := RX3) hx hb hts in_X3 hown hK hG hvc rfl (by decide) (hts _ q1794) (fun _ h9 => h9) dX3_does_1 (fun x1 hvc_1 => ?_)
  clear hvc
  refine lv_iload_n hx hb dX3_does_4 rfl (lv_at hl 1 rfl) ?_
  refine lv_iconst (v := nI 1) hx hb dX3_does_5 (by decide) ?_
  refine lv_iadd hx hb dX3_does_6 ?_
  refine gw_ild hx hb hK hG hvc_1 dX3_does_7 (fun x2 hvc_2 => ?_)
  clear hvc_1
  refine lv_istore_n (lv' := [(2, .int x2), (0, .ref o), (1, .int p1)]) hx hb dX3_does_8 rfl hl (by decide) rfl (fun ls hl_3 => ?_)
  clear hl
  refine lv_aload_n hx hb dX3_does_9 rfl (lv_at hl_3 1 rfl) ?_
  refine gw_gr (C := RX3) (T := TX3) (N := 13) (own := RX3) hx hb hts in_X3 hown hK hG hvc_2 rfl (by decide) (hts _ q1794) (fun _ h9 => h9) dX3_does_10 (fun x3 hvc_4 => ?_)
  clear hvc_2
  refine lv_iload_n hx hb dX3_does_13 rfl (lv_at hl_3 2 rfl) ?_
  refine lv_iconst (v := nI 2) hx hb dX3_does_14 (by decide) ?_
  refine lv_iadd hx hb dX3_does_15 ?_
  refine gw_ild hx hb hK hG hvc_4 dX3_does_16 (fun x4 hvc_5 => ?_)
  clear hvc_4
  refine lv_istore_n (lv' := [(3, .int x4), (2, .int x2), (0, .ref o), (1, .int p1)]) hx hb dX3_does_17 rfl hl_3 (by decide) rfl (fun ls hl_6 => ?_)
  clear hl_3
  refine lv_aload_n hx hb dX3_does_18 rfl (lv_at hl_6 2 rfl) ?_
  refine gw_gr (C := RX3) (T := TX3) (N := 13) (own := RX3) hx hb hts in_X3 hown hK hG hvc_5 rfl (by decide) (hts _ q1794) (fun _ h9 => h9) dX3_does_19 (fun x5 hvc_7 => ?_)
  clear hvc_5
  refine lv_iload_n hx hb dX3_does_22 rfl (lv_at hl_6 3 rfl) ?_
  refine gw_ild hx hb hK hG hvc_7 dX3_does_23 (fun x6 hvc_8 => ?_)
  clear hvc_7
  by_cases h98 : x6 = nI 98
  · replace hvc_8 := hvc_8.1 h98
    rw [h98]; refine lv_tableIn (off := 84) (tgt := 108) hx hb dX3_does_24 (by decide) (by decide) (by decide) (by decide) ?_
    refine lv_aload_n hx hb dX3_does_108 rfl (lv_at hl_6 2 rfl) ?_
    refine gw_cVIP (As := []) (rest := [])  ⟨hx, hb, hml, hown, hts⟩ (met_X3_canBegin l E G o _ hvc_8.2) (cwV 0 hts (lw_V q1844 q1846 qs34 q104 q1847) rfl rfl rfl (by decide +kernel) ⟨Nat.le_of_ble_eq_true rfl, Nat.le_of_ble_eq_true rfl⟩) (gw_rc (q := (RX3, TX3, 13)) hK hG hvc_8.1 rfl) (Nat.zero_le _) (Nat.zero_le _) (g_St0 E) hz trivial hK hG hS rfl hl_6.1 rfl (Nat.le_of_ble_eq_true rfl) dX3_does_109 (fun x7 H locs hvc_9 hG_10 hS_11 => ?_)
    clear hvc_8 hG hS
    refine lv_istore (lv' := [(4, .int x7), (3, .int x4), (2, .int x2), (0, .ref o), (1, .int p1)]) hx hb dX3_does_112 hl_6 (by decide) rfl (fun ls hl_12 => ?_)
    clear hl_6
    refine lv_iload hx hb dX3_does_114 (lv_at hl_12 0 rfl) ?_
    refine lv_if_eq (tgt := 134) hx hb dX3_does_116 (by decide) (fun h9 => ?_) (fun h9 => ?_)
    · replace hvc_9 := hvc_9.1 h9
      refine lv_iload hx hb dX3_does_134 (lv_at hl_12 0 rfl) ?_
      exact g_iret hx hb hr hlocks (Nat.zero_le _) (Nat.zero_le _) hG_10 hS_11 hvc_9.1 hvc_9.2 dX3_does_136
    · replace hvc_9 := hvc_9.2 h9
      refine lv_aload_n hx hb dX3_does_119 rfl (lv_at hl_12 3 rfl) ?_
      refine lv_iload_n hx hb dX3_does_120 rfl (lv_at hl_12 2 rfl) ?_
      refine lv_iload_n hx hb dX3_does_121 rfl (lv_at hl_12 1 rfl) ?_
      refine lv_aload_n hx hb dX3_does_122 rfl (lv_at hl_12 3 rfl) ?_
      refine gw_gr (C := RX3) (T := TX3) (N := 13) (own := RX3) hx hb hts in_X3 hown hK hG_10 hvc_9 rfl (by decide) (hts _ q1794) (fun _ h9 => h9) dX3_does_123 (fun x9 hvc_13 => ?_)
      clear hvc_9
      refine lv_iload_n hx hb dX3_does_126 rfl (lv_at hl_12 4 rfl) ?_
      refine lv_iconst (v := nI 3) hx hb dX3_does_127 (by decide) ?_
      refine lv_iadd hx hb dX3_does_128 ?_
      refine gw_ild hx hb hK hG_10 hvc_13 dX3_does_129 (fun x10 hvc_14 => ?_)
      clear hvc_13
      refine gw_cVIN (As := [.int x2, .int x4, .int x10]) (rest := [])  ⟨hx, hb, hml, hown, hts⟩ (met_X3_begins l E G o x2 x4 x10 _ hvc_14.2) (cwV 3 hts (lw_V q1852 q1854 qs36 q104 q1855) rfl rfl rfl (by decide +kernel) ⟨Nat.le_of_ble_eq_true rfl, Nat.le_of_ble_eq_true rfl⟩) (gw_rc (q := (RX3, TX3, 13)) hK hG_10 hvc_14.1 rfl) (Nat.zero_le _) (Nat.zero_le _) (g_St0 E) hz trivial hK hG_10 hS_11 rfl hl_12.1 rfl (Nat.le_of_ble_eq_true rfl) dX3_does_130 (fun x11 G12 H locs hvc_15 hG_16 hS_17 => ?_)
      clear hvc_14 hG_10 hS_11
      refine lv_pop hx hb dX3_does_133 rfl ?_
      refine lv_iload hx hb dX3_does_134 (lv_at hl_12 0 rfl) ?_
      exact g_iret hx hb hr hlocks (Nat.zero_le _) (Nat.zero_le _) hG_16 hS_17 hvc_15.1 hvc_15.2 dX3_does_136
  by_cases h99 : x6 = nI 99
  · replace hvc_8 := hvc_8.2.1 h99
    rw [h99]; refine lv_tableIn (off := 134) (tgt := 158) hx hb dX3_does_24 (by decide) (by decide) (by decide) (by decide) ?_
    refine lv_aload_n hx hb dX3_does_158 rfl (lv_at hl_6 2 rfl) ?_
    refine gw_gr (C := RX3) (T := TX3) (N := 13) (own := RX3) hx hb hts in_X3 hown hK hG hvc_8 rfl (by decide) (hts _ q1784) (fun _ h9 => h9) dX3_does_159 (fun x13 hvc_18 => ?_)
    clear hvc_8
    refine lv_iconst (v := nI 0) hx hb dX3_does_162 (by decide) ?_
    refine lv_iload_n hx hb dX3_does_163 rfl (lv_at hl_6 1 rfl) ?_
    refine lv_iadd hx hb dX3_does_164 ?_
    refine gw_ild hx hb hK hG hvc_18 dX3_does_165 (fun x14 hvc_19 => ?_)
    clear hvc_18
    refine lv_iconst (v := nI 1) hx hb dX3_does_166 (by decide) ?_
    have jn175 : ∀ (y0 : Nat) (y2 : Int32) (s0 : Int32) (G : g_G) (H : Heap) (locs : List Loc) (ls : Array Slot), wp_X3_does_175 E post y0 y2 s0 G → g_H E G H → va_S (g_A E) s.heap H locs → lv_has ls 5 [(0, .ref y0), (2, .int y2)] → W p l e ({ frames := 7, cells := 0, slots := 0, locals := 162 } : Room) s m ([.ref o, .int p1] : List Value).toArray below meth c H locs 0 0 (MQ below (va_Qi (post) (g_Bk E) (g_A E)) ([.ref o, .int p1] : List Value).toArray s 0 0 (g_A E)) (F0 m 175 ls [.int s0]) := by
      clear hvc_19 hG hS hl_6
      intro y0 y2 s0 G H locs ls hvc_20 hG_21 hS_22 hl_23
      refine lv_istore (lv' := [(4, .int s0), (0, .ref y0), (2, .int y2)]) hx hb dX3_does_175 hl_23 (by decide) rfl (fun ls hl_24 => ?_)
      clear hl_23
      refine lv_iload hx hb dX3_does_177 (lv_at hl_24 0 rfl) ?_
      refine lv_if_eq (tgt := 188) hx hb dX3_does_179 (by decide) (fun h9 => ?_) (fun h9 => ?_)
      · replace hvc_20 := hvc_20.1 h9
        refine lv_iload hx hb dX3_does_188 (lv_at hl_24 0 rfl) ?_
        exact g_iret hx hb hr hlocks (Nat.zero_le _) (Nat.zero_le _) hG_21 hS_22 hvc_20.1 hvc_20.2 dX3_does_190
      · replace hvc_20 := hvc_20.2 h9
        refine lv_aload_n hx hb dX3_does_182 rfl (lv_at hl_24 1 rfl) ?_
        refine lv_iload_n hx hb dX3_does_183 rfl (lv_at hl_24 2 rfl) ?_
        refine gw_cVIN (As := [.int y2]) (rest := [])  ⟨hx, hb, hml, hown, hts⟩ (met_X3_crashes l E G y0 y2 _ hvc_20.2) (cwV 1 hts (lw_V q1985 q1987 qs60 q104 q1988) rfl rfl rfl (by decide +kernel) ⟨Nat.le_of_ble_eq_true rfl, Nat.le_of_ble_eq_true rfl⟩) (gw_rc (q := (RX3, TX3, 13)) hK hG_21 hvc_20.1 rfl) (Nat.zero_le _) (Nat.zero_le _) (g_St0 E) hz trivial hK hG_21 hS_22 rfl hl_24.1 rfl (Nat.le_of_ble_eq_true rfl) dX3_does_184 (fun x15 G16 H locs hvc_25 hG_26 hS_27 => ?_)
        clear hvc_20 hG_21 hS_22
        refine lv_pop hx hb dX3_does_187 rfl ?_
        refine lv_iload hx hb dX3_does_188 (lv_at hl_24 0 rfl) ?_
        exact g_iret hx hb hr hlocks (Nat.zero_le _) (Nat.zero_le _) hG_26 hS_27 hvc_25.1 hvc_25.2 dX3_does_190
    refine lv_icmp_ne (tgt := 174) hx hb dX3_does_167 (by decide) (fun h9 => ?_) (fun h9 => ?_)
    · replace hvc_19 := hvc_19.1 h9
      refine lv_iconst (v := nI 0) hx hb dX3_does_174 (by decide) ?_
      exact jn175 o x2 (nI 0) G _ _ _ hvc_19 hG hS (lv_sub hl_6 [2, 1] rfl)
    · replace hvc_19 := hvc_19.2 h9
      refine lv_iconst (v := nI 1) hx hb dX3_does_170 (by decide) ?_
      refine lv_goto (tgt := 175) hx hb dX3_does_171 (by decide) ?_
      exact jn175 o x2 (nI 1) G _ _ _ hvc_19 hG hS (lv_sub hl_6 [2, 1] rfl)
  by_cases h103 : x6 = nI 103
  · replace hvc_8 := hvc_8.2.2.1 h103
    rw [h103]; refine lv_tableIn (off := 198) (tgt := 222) hx hb dX3_does_24 (by decide) (by decide) (by decide) (by decide) ?_
    refine lv_aload_n hx hb dX3_does_222 rfl (lv_at hl_6 2 rfl) ?_
    refine lv_iload_n hx hb dX3_does_223 rfl (lv_at hl_6 1 rfl) ?_
    refine gw_cVIP (As := [.int x2]) (rest := [])  ⟨hx, hb, hml, hown, hts⟩ (met_X3_isTransfer l E G o x2 _ hvc_8.2) (cwV 1 hts (lw_V q1884 q1886 qs43 q104 q1887) rfl rfl rfl (by decide +kernel) ⟨Nat.le_of_ble_eq_true rfl, Nat.le_of_ble_eq_true rfl⟩) (gw_rc (q := (RX3, TX3, 13)) hK hG hvc_8.1 rfl) (Nat.zero_le _) (Nat.zero_le _) (g_St0 E) hz trivial hK hG hS rfl hl_6.1 rfl (Nat.le_of_ble_eq_true rfl) dX3_does_224 (fun x17 H locs hvc_28 hG_29 hS_30 => ?_)
    clear hvc_8 hG hS
    have jn243 : ∀ (y0 : Nat) (y2 : Int32) (s0 : Int32) (G : g_G) (H : Heap) (locs : List Loc) (ls : Array Slot), wp_X3_does_243 E post y0 y2 s0 G → g_H E G H → va_S (g_A E) s.heap H locs → lv_has ls 5 [(0, .ref y0), (2, .int y2)] → W p l e ({ frames := 7, cells := 0, slots := 0, locals := 162 } : Room) s m ([.ref o, .int p1] : List Value).toArray below meth c H locs 0 0 (MQ below (va_Qi (post) (g_Bk E) (g_A E)) ([.ref o, .int p1] : List Value).toArray s 0 0 (g_A E)) (F0 m 243 ls [.int s0]) := by
      clear hvc_28 hG_29 hS_30 hl_6
      intro y0 y2 s0 G H locs ls hvc_31 hG_32 hS_33 hl_34
      refine lv_istore (lv' := [(4, .int s0), (0, .ref y0), (2, .int y2)]) hx hb dX3_does_243 hl_34 (by decide) rfl (fun ls hl_35 => ?_)
      clear hl_34
      refine lv_iload hx hb dX3_does_245 (lv_at hl_35 0 rfl) ?_
      refine lv_if_eq (tgt := 256) hx hb dX3_does_247 (by decide) (fun h9 => ?_) (fun h9 => ?_)
      · replace hvc_31 := hvc_31.1 h9
        refine lv_iload hx hb dX3_does_256 (lv_at hl_35 0 rfl) ?_
        exact g_iret hx hb hr hlocks (Nat.zero_le _) (Nat.zero_le _) hG_32 hS_33 hvc_31.1 hvc_31.2 dX3_does_258
      · replace hvc_31 := hvc_31.2 h9
        refine lv_aload_n hx hb dX3_does_250 rfl (lv_at hl_35 1 rfl) ?_
        refine lv_iload_n hx hb dX3_does_251 rfl (lv_at hl_35 2 rfl) ?_
        refine lv_iconst (v := nI 2) hx hb dX3_does_252 (by decide) ?_
        refine gw_cVVN (As := [.int y2, .int (nI 2)]) (rest := [])  ⟨hx, hb, hml, hown, hts⟩ (met_X3_decides l E G y0 y2 (nI 2) _ hvc_31.2) (cwV 2 hts (lw_V q1892 q1894 qs45 q104 q1895) rfl rfl rfl (by decide +kernel) ⟨Nat.le_of_ble_eq_true rfl, Nat.le_of_ble_eq_true rfl⟩) (gw_rc (q := (RX3, TX3, 13)) hK hG_32 hvc_31.1 rfl) (Nat.zero_le _) (Nat.zero_le _) (g_St0 E) hz trivial hK hG_32 hS_33 rfl hl_35.1 rfl (Nat.le_of_ble_eq_true rfl) dX3_does_253 (fun G20 H locs hvc_36 hG_37 hS_38 => ?_)
        clear hvc_31 hG_32 hS_33
        refine lv_iload hx hb dX3_does_256 (lv_at hl_35 0 rfl) ?_
        exact g_iret hx hb hr hlocks (Nat.zero_le _) (Nat.zero_le _) hG_37 hS_38 hvc_36.1 hvc_36.2 dX3_does_258
    have jn242 : ∀ (y0 : Nat) (y2 : Int32) (G : g_G) (H : Heap) (locs : List Loc) (ls : Array Slot), wp_X3_does_242 E post (wp_X3_does_243 E post) y0 y2 G → g_H E G H → va_S (g_A E) s.heap H locs → lv_has ls 5 [(0, .ref y0), (2, .int y2)] → W p l e ({ frames := 7, cells := 0, slots := 0, locals := 162 } : Room) s m ([.ref o, .int p1] : List Value).toArray below meth c H locs 0 0 (MQ below (va_Qi (post) (g_Bk E) (g_A E)) ([.ref o, .int p1] : List Value).toArray s 0 0 (g_A E)) (F0 m 242 ls []) := by
      clear hvc_28 hG_29 hS_30 hl_6
      intro y0 y2 G H locs ls hvc_39 hG_40 hS_41 hl_42
      refine lv_iconst (v := nI 0) hx hb dX3_does_242 (by decide) ?_
      exact jn243 y0 y2 (nI 0) G _ _ _ hvc_39 hG_40 hS_41 (lv_sub hl_42 [0, 1] rfl)
    refine lv_if_eq (tgt := 242) hx hb dX3_does_227 (by decide) (fun h9 => ?_) (fun h9 => ?_)
    · replace hvc_28 := hvc_28.1 h9
      exact jn242 o x2 G _ _ _ hvc_28 hG_29 hS_30 (lv_sub hl_6 [2, 1] rfl)
    · replace hvc_28 := hvc_28.2 h9
      refine lv_aload_n hx hb dX3_does_230 rfl (lv_at hl_6 2 rfl) ?_
      refine lv_iload_n hx hb dX3_does_231 rfl (lv_at hl_6 1 rfl) ?_
      refine gw_cVIP (As := [.int x2]) (rest := [])  ⟨hx, hb, hml, hown, hts⟩ (met_X3_canGiveUp l E G o x2 _ hvc_28.2) (cwV 1 hts (lw_V q1888 q1890 qs44 q104 q1891) rfl rfl rfl (by decide +kernel) ⟨Nat.le_of_ble_eq_true rfl, Nat.le_of_ble_eq_true rfl⟩) (gw_rc (q := (RX3, TX3, 13)) hK hG_29 hvc_28.1 rfl) (Nat.zero_le _) (Nat.zero_le _) (g_St0 E) hz trivial hK hG_29 hS_30 rfl hl_6.1 rfl (Nat.le_of_ble_eq_true rfl) dX3_does_232 (fun x21 H locs hvc_43 hG_44 hS_45 => ?_)
      clear hvc_28 hG_29 hS_30
      refine lv_if_eq (tgt := 242) hx hb dX3_does_235 (by decide) (fun h9 => ?_) (fun h9 => ?_)
      · replace hvc_43 := hvc_43.1 h9
        exact jn242 o x2 G _ _ _ hvc_43 hG_44 hS_45 (lv_sub hl_6 [2, 1] rfl)
      · replace hvc_43 := hvc_43.2 h9
        refine lv_iconst (v := nI 1) hx hb dX3_does_238 (by decide) ?_
        refine lv_goto (tgt := 243) hx hb dX3_does_239 (by decide) ?_
        exact jn243 o x2 (nI 1) G _ _ _ hvc_43 hG_44 hS_45 (lv_sub hl_6 [2, 1] rfl)
  by_cases h108 : x6 = nI 108
  · replace hvc_8 := hvc_8.2.2.2.1 h108
    rw [h108]; refine lv_tableIn (off := 113) (tgt := 137) hx hb dX3_does_24 (by decide) (by decide) (by decide) (by decide) ?_
    refine lv_aload_n hx hb dX3_does_137 rfl (lv_at hl_6 2 rfl) ?_
    refine lv_iload_n hx hb dX3_does_138 rfl (lv_at hl_6 1 rfl) ?_
    refine gw_cVIP (As := [.int x2]) (rest := [])  ⟨hx, hb, hml, hown, hts⟩ (met_X3_isMessage l E G o x2 _ hvc_8.2) (cwV 1 hts (lw_V q1912 q1914 qs48 q104 q1915) rfl rfl rfl (by decide +kernel) ⟨Nat.le_of_ble_eq_true rfl, Nat.le_of_ble_eq_true rfl⟩) (gw_rc (q := (RX3, TX3, 13)) hK hG hvc_8.1 rfl) (Nat.zero_le _) (Nat.zero_le _) (g_St0 E) hz trivial hK hG hS rfl hl_6.1 rfl (Nat.le_of_ble_eq_true rfl) dX3_does_139 (fun x23 H locs hvc_46 hG_47 hS_48 => ?_)
    clear hvc_8 hG hS
    refine lv_istore (lv' := [(4, .int x23), (3, .int x4), (2, .int x2), (0, .ref o), (1, .int p1)]) hx hb dX3_does_142 hl_6 (by decide) rfl (fun ls hl_49 => ?_)
    clear hl_6
    refine lv_iload hx hb dX3_does_144 (lv_at hl_49 0 rfl) ?_
    refine lv_if_eq (tgt := 155) hx hb dX3_does_146 (by decide) (fun h9 => ?_) (fun h9 => ?_)
    · replace hvc_46 := hvc_46.1 h9
      refine lv_iload hx hb dX3_does_155 (lv_at hl_49 0 rfl) ?_
      exact g_iret hx hb hr hlocks (Nat.zero_le _) (Nat.zero_le _) hG_47 hS_48 hvc_46.1 hvc_46.2 dX3_does_157
    · replace hvc_46 := hvc_46.2 h9
      refine lv_aload_n hx hb dX3_does_149 rfl (lv_at hl_49 3 rfl) ?_
      refine lv_iload_n hx hb dX3_does_150 rfl (lv_at hl_49 2 rfl) ?_
      refine gw_cVIN (As := [.int x2]) (rest := [])  ⟨hx, hb, hml, hown, hts⟩ (met_X3_loses l E G o x2 _ hvc_46.2) (cwV 1 hts (lw_V q1974 q1976 qs59 q104 q1977) rfl rfl rfl (by decide +kernel) ⟨Nat.le_of_ble_eq_true rfl, Nat.le_of_ble_eq_true rfl⟩) (gw_rc (q := (RX3, TX3, 13)) hK hG_47 hvc_46.1 rfl) (Nat.zero_le _) (Nat.zero_le _) (g_St0 E) hz trivial hK hG_47 hS_48 rfl hl_49.1 rfl (Nat.le_of_ble_eq_true rfl) dX3_does_151 (fun x25 G26 H locs hvc_50 hG_51 hS_52 => ?_)
      clear hvc_46 hG_47 hS_48
      refine lv_pop hx hb dX3_does_154 rfl ?_
      refine lv_iload hx hb dX3_does_155 (lv_at hl_49 0 rfl) ?_
      exact g_iret hx hb hr hlocks (Nat.zero_le _) (Nat.zero_le _) hG_51 hS_52 hvc_50.1 hvc_50.2 dX3_does_157
  by_cases h113 : x6 = nI 113
  · replace hvc_8 := hvc_8.2.2.2.2.1 h113
    rw [h113]; refine lv_tableIn (off := 235) (tgt := 259) hx hb dX3_does_24 (by decide) (by decide) (by decide) (by decide) ?_
    refine lv_aload_n hx hb dX3_does_259 rfl (lv_at hl_6 2 rfl) ?_
    refine lv_iload_n hx hb dX3_does_260 rfl (lv_at hl_6 0 rfl) ?_
    refine gw_cVIP (As := [.int x4]) (rest := [])  ⟨hx, hb, hml, hown, hts⟩ (met_X3_isTransfer l E G o x4 _ hvc_8.2) (cwV 1 hts (lw_V q1884 q1886 qs43 q104 q1887) rfl rfl rfl (by decide +kernel) ⟨Nat.le_of_ble_eq_true rfl, Nat.le_of_ble_eq_true rfl⟩) (gw_rc (q := (RX3, TX3, 13)) hK hG hvc_8.1 rfl) (Nat.zero_le _) (Nat.zero_le _) (g_St0 E) hz trivial hK hG hS rfl hl_6.1 rfl (Nat.le_of_ble_eq_true rfl) dX3_does_261 (fun x27 H locs hvc_53 hG_54 hS_55 => ?_)
    clear hvc_8 hG hS
    have jn281 : ∀ (y0 : Nat) (y2 : Int32) (y3 : Int32) (s0 : Int32) (G : g_G) (H : Heap) (locs : List Loc) (ls : Array Slot), wp_X3_does_281 E post y0 y2 y3 s0 G → g_H E G H → va_S (g_A E) s.heap H locs → lv_has ls 5 [(0, .ref y0), (2, .int y2), (3, .int y3)] → W p l e ({ frames := 7, cells := 0, slots := 0, locals := 162 } : Room) s m ([.ref o, .int p1] : List Value).toArray below meth c H locs 0 0 (MQ below (va_Qi (post) (g_Bk E) (g_A E)) ([.ref o, .int p1] : List Value).toArray s 0 0 (g_A E)) (F0 m 281 ls [.int s0]) := by
      clear hvc_53 hG_54 hS_55 hl_6
      intro y0 y2 y3 s0 G H locs ls hvc_56 hG_57 hS_58 hl_59
      refine lv_istore (lv' := [(4, .int s0), (0, .ref y0), (2, .int y2), (3, .int y3)]) hx hb dX3_does_281 hl_59 (by decide) rfl (fun ls hl_60 => ?_)
      clear hl_59
      refine lv_iload hx hb dX3_does_283 (lv_at hl_60 0 rfl) ?_
      refine lv_if_eq (tgt := 296) hx hb dX3_does_285 (by decide) (fun h9 => ?_) (fun h9 => ?_)
      · replace hvc_56 := hvc_56.1 h9
        refine lv_iload hx hb dX3_does_296 (lv_at hl_60 0 rfl) ?_
        exact g_iret hx hb hr hlocks (Nat.zero_le _) (Nat.zero_le _) hG_57 hS_58 hvc_56.1 hvc_56.2 dX3_does_298
      · replace hvc_56 := hvc_56.2 h9
        refine lv_aload_n hx hb dX3_does_288 rfl (lv_at hl_60 1 rfl) ?_
        refine lv_bipush (v := nI 6) hx hb dX3_does_289 (by decide) ?_
        refine lv_iload_n hx hb dX3_does_291 rfl (lv_at hl_60 3 rfl) ?_
        refine lv_iload_n hx hb dX3_does_292 rfl (lv_at hl_60 2 rfl) ?_
        refine gw_cVVN (As := [.int (nI 6), .int y3, .int y2]) (rest := [])  ⟨hx, hb, hml, hown, hts⟩ (met_X3_sends l E G y0 (nI 6) y3 y2 _ hvc_56.2) (cwV 3 hts (lw_V q1876 q1878 qs42 q104 q1879) rfl rfl rfl (by decide +kernel) ⟨Nat.le_of_ble_eq_true rfl, Nat.le_of_ble_eq_true rfl⟩) (gw_rc (q := (RX3, TX3, 13)) hK hG_57 hvc_56.1 rfl) (Nat.zero_le _) (Nat.zero_le _) (g_St0 E) hz trivial hK hG_57 hS_58 rfl hl_60.1 rfl (Nat.le_of_ble_eq_true rfl) dX3_does_293 (fun G30 H locs hvc_61 hG_62 hS_63 => ?_)
        clear hvc_56 hG_57 hS_58
        refine lv_iload hx hb dX3_does_296 (lv_at hl_60 0 rfl) ?_
        exact g_iret hx hb hr hlocks (Nat.zero_le _) (Nat.zero_le _) hG_62 hS_63 hvc_61.1 hvc_61.2 dX3_does_298
    have jn280 : ∀ (y0 : Nat) (y2 : Int32) (y3 : Int32) (G : g_G) (H : Heap) (locs : List Loc) (ls : Array Slot), wp_X3_does_280 E post (wp_X3_does_281 E post) y0 y2 y3 G → g_H E G H → va_S (g_A E) s.heap H locs → lv_has ls 5 [(0, .ref y0), (2, .int y2), (3, .int y3)] → W p l e ({ frames := 7, cells := 0, slots := 0, locals := 162 } : Room) s m ([.ref o, .int p1] : List Value).toArray below meth c H locs 0 0 (MQ below (va_Qi (post) (g_Bk E) (g_A E)) ([.ref o, .int p1] : List Value).toArray s 0 0 (g_A E)) (F0 m 280 ls []) := by
      clear hvc_53 hG_54 hS_55 hl_6
      intro y0 y2 y3 G H locs ls hvc_64 hG_65 hS_66 hl_67
      refine lv_iconst (v := nI 0) hx hb dX3_does_280 (by decide) ?_
      exact jn281 y0 y2 y3 (nI 0) G _ _ _ hvc_64 hG_65 hS_66 (lv_sub hl_67 [0, 1, 2] rfl)
    refine lv_if_eq (tgt := 280) hx hb dX3_does_264 (by decide) (fun h9 => ?_) (fun h9 => ?_)
    · replace hvc_53 := hvc_53.1 h9
      exact jn280 o x2 x4 G _ _ _ hvc_53 hG_54 hS_55 (lv_sub hl_6 [2, 1, 0] rfl)
    · replace hvc_53 := hvc_53.2 h9
      refine lv_aload_n hx hb dX3_does_267 rfl (lv_at hl_6 2 rfl) ?_
      refine lv_iload_n hx hb dX3_does_268 rfl (lv_at hl_6 1 rfl) ?_
      refine lv_iload_n hx hb dX3_does_269 rfl (lv_at hl_6 0 rfl) ?_
      refine gw_cVIP (As := [.int x2, .int x4]) (rest := [])  ⟨hx, hb, hml, hown, hts⟩ (met_X3_canAsk l E G o x2 x4 _ hvc_53.2) (cwV 2 hts (lw_V q1900 q1902 qs46 q104 q1903) rfl rfl rfl (by decide +kernel) ⟨Nat.le_of_ble_eq_true rfl, Nat.le_of_ble_eq_true rfl⟩) (gw_rc (q := (RX3, TX3, 13)) hK hG_54 hvc_53.1 rfl) (Nat.zero_le _) (Nat.zero_le _) (g_St0 E) hz trivial hK hG_54 hS_55 rfl hl_6.1 rfl (Nat.le_of_ble_eq_true rfl) dX3_does_270 (fun x31 H locs hvc_68 hG_69 hS_70 => ?_)
      clear hvc_53 hG_54 hS_55
      refine lv_if_eq (tgt := 280) hx hb dX3_does_273 (by decide) (fun h9 => ?_) (fun h9 => ?_)
      · replace hvc_68 := hvc_68.1 h9
        exact jn280 o x2 x4 G _ _ _ hvc_68 hG_69 hS_70 (lv_sub hl_6 [2, 1, 0] rfl)
      · replace hvc_68 := hvc_68.2 h9
        refine lv_iconst (v := nI 1) hx hb dX3_does_276 (by decide) ?_
        refine lv_goto (tgt := 281) hx hb dX3_does_277 (by decide) ?_
        exact jn281 o x2 x4 (nI 1) G _ _ _ hvc_68 hG_69 hS_70 (lv_sub hl_6 [2, 1, 0] rfl)
  by_cases h114 : x6 = nI 114
  · replace hvc_8 := hvc_8.2.2.2.2.2.1 h114
    rw [h114]; refine lv_tableIn (off := 167) (tgt := 191) hx hb dX3_does_24 (by decide) (by decide) (by decide) (by decide) ?_
    refine lv_aload_n hx hb dX3_does_191 rfl (lv_at hl_6 2 rfl) ?_
    refine gw_gr (C := RX3) (T := TX3) (N := 13) (own := RX3) hx hb hts in_X3 hown hK hG hvc_8 rfl (by decide) (hts _ q1784) (fun _ h9 => h9) dX3_does_192 (fun x33 hvc_71 => ?_)
    clear hvc_8
    refine lv_iconst (v := nI 0) hx hb dX3_does_195 (by decide) ?_
    refine lv_iload_n hx hb dX3_does_196 rfl (lv_at hl_6 1 rfl) ?_
    refine lv_iadd hx hb dX3_does_197 ?_
    refine gw_ild hx hb hK hG hvc_71 dX3_does_198 (fun x34 hvc_72 => ?_)
    clear hvc_71
    have jn207 : ∀ (y0 : Nat) (y2 : Int32) (s0 : Int32) (G : g_G) (H : Heap) (locs : List Loc) (ls : Array Slot), wp_X3_does_207 E post y0 y2 s0 G → g_H E G H → va_S (g_A E) s.heap H locs → lv_has ls 5 [(0, .ref y0), (2, .int y2)] → W p l e ({ frames := 7, cells := 0, slots := 0, locals := 162 } : Room) s m ([.ref o, .int p1] : List Value).toArray below meth c H locs 0 0 (MQ below (va_Qi (post) (g_Bk E) (g_A E)) ([.ref o, .int p1] : List Value).toArray s 0 0 (g_A E)) (F0 m 207 ls [.int s0]) := by
      clear hvc_72 hG hS hl_6
      intro y0 y2 s0 G H locs ls hvc_73 hG_74 hS_75 hl_76
      refine lv_istore (lv' := [(4, .int s0), (0, .ref y0), (2, .int y2)]) hx hb dX3_does_207 hl_76 (by decide) rfl (fun ls hl_77 => ?_)
      clear hl_76
      refine lv_iload hx hb dX3_does_209 (lv_at hl_77 0 rfl) ?_
      refine lv_if_eq (tgt := 219) hx hb dX3_does_211 (by decide) (fun h9 => ?_) (fun h9 => ?_)
      · replace hvc_73 := hvc_73.1 h9
        refine lv_iload hx hb dX3_does_219 (lv_at hl_77 0 rfl) ?_
        exact g_iret hx hb hr hlocks (Nat.zero_le _) (Nat.zero_le _) hG_74 hS_75 hvc_73.1 hvc_73.2 dX3_does_221
      · replace hvc_73 := hvc_73.2 h9
        refine lv_aload_n hx hb dX3_does_214 rfl (lv_at hl_77 1 rfl) ?_
        refine lv_iload_n hx hb dX3_does_215 rfl (lv_at hl_77 2 rfl) ?_
        refine gw_cVVN (As := [.int y2]) (rest := [])  ⟨hx, hb, hml, hown, hts⟩ (met_X3_recovers l E G y0 y2 _ hvc_73.2) (cwV 1 hts (lw_V q1993 q1995 qs61 q104 q1996) rfl rfl rfl (by decide +kernel) ⟨Nat.le_of_ble_eq_true rfl, Nat.le_of_ble_eq_true rfl⟩) (gw_rc (q := (RX3, TX3, 13)) hK hG_74 hvc_73.1 rfl) (Nat.zero_le _) (Nat.zero_le _) (g_St0 E) hz trivial hK hG_74 hS_75 rfl hl_77.1 rfl (Nat.le_of_ble_eq_true rfl) dX3_does_216 (fun G36 H locs hvc_78 hG_79 hS_80 => ?_)
        clear hvc_73 hG_74 hS_75
        refine lv_iload hx hb dX3_does_219 (lv_at hl_77 0 rfl) ?_
        exact g_iret hx hb hr hlocks (Nat.zero_le _) (Nat.zero_le _) hG_79 hS_80 hvc_78.1 hvc_78.2 dX3_does_221
    refine lv_if_ne (tgt := 206) hx hb dX3_does_199 (by decide) (fun h9 => ?_) (fun h9 => ?_)
    · replace hvc_72 := hvc_72.1 h9
      refine lv_iconst (v := nI 0) hx hb dX3_does_206 (by decide) ?_
      exact jn207 o x2 (nI 0) G _ _ _ hvc_72 hG hS (lv_sub hl_6 [2, 1] rfl)
    · replace hvc_72 := hvc_72.2 h9
      refine lv_iconst (v := nI 1) hx hb dX3_does_202 (by decide) ?_
      refine lv_goto (tgt := 207) hx hb dX3_does_203 (by decide) ?_
      exact jn207 o x2 (nI 1) G _ _ _ hvc_72 hG hS (lv_sub hl_6 [2, 1] rfl)
  replace hvc_8 := hvc_8.2.2.2.2.2.2 h98 h99 h103 h108 h113 h114
  by_cases h100 : x6 = nI 100
  · rw [h100]; refine lv_tableIn (off := 275) (tgt := 299) hx hb dX3_does_24 (by decide) (by decide) (by decide) (by decide) ?_
    refine lv_aload_n hx hb dX3_does_299 rfl (lv_at hl_6 2 rfl) ?_
    refine lv_iload_n hx hb dX3_does_300 rfl (lv_at hl_6 1 rfl) ?_
    refine gw_cVIN (As := [.int x2]) (rest := [])  ⟨hx, hb, hml, hown, hts⟩ (met_X3_deliversFirst l E G o x2 _ hvc_8.2) (cwV 1 hts (lw_V q1966 q1968 qs58 q104 q1969) rfl rfl rfl (by decide +kernel) ⟨Nat.le_of_ble_eq_true rfl, Nat.le_of_ble_eq_true rfl⟩) (gw_rc (q := (RX3, TX3, 13)) hK hG hvc_8.1 rfl) (Nat.zero_le _) (Nat.zero_le _) (g_St0 E) hz trivial hK hG hS rfl hl_6.1 rfl (Nat.le_of_ble_eq_true rfl) dX3_does_301 (fun x37 G38 H locs hvc_81 hG_82 hS_83 => ?_)
    clear hvc_8 hG hS
    refine lv_pop hx hb dX3_does_304 rfl ?_
    refine lv_iconst (v := nI 1) hx hb dX3_does_305 (by decide) ?_
    exact g_iret hx hb hr hlocks (Nat.zero_le _) (Nat.zero_le _) hG_82 hS_83 rfl hvc_81 dX3_does_306
  by_cases h101 : x6 = nI 101
  · rw [h101]; refine lv_tableIn (off := 275) (tgt := 299) hx hb dX3_does_24 (by decide) (by decide) (by decide) (by decide) ?_
    refine lv_aload_n hx hb dX3_does_299 rfl (lv_at hl_6 2 rfl) ?_
    refine lv_iload_n hx hb dX3_does_300 rfl (lv_at hl_6 1 rfl) ?_
    refine gw_cVIN (As := [.int x2]) (rest := [])  ⟨hx, hb, hml, hown, hts⟩ (met_X3_deliversFirst l E G o x2 _ hvc_8.2) (cwV 1 hts (lw_V q1966 q1968 qs58 q104 q1969) rfl rfl rfl (by decide +kernel) ⟨Nat.le_of_ble_eq_true rfl, Nat.le_of_ble_eq_true rfl⟩) (gw_rc (q := (RX3, TX3, 13)) hK hG hvc_8.1 rfl) (Nat.zero_le _) (Nat.zero_le _) (g_St0 E) hz trivial hK hG hS rfl hl_6.1 rfl (Nat.le_of_ble_eq_true rfl) dX3_does_301 (fun x37 G38 H locs hvc_84 hG_85 hS_86 => ?_)
    clear hvc_8 hG hS
    refine lv_pop hx hb dX3_does_304 rfl ?_
    refine lv_iconst (v := nI 1) hx hb dX3_does_305 (by decide) ?_
    exact g_iret hx hb hr hlocks (Nat.zero_le _) (Nat.zero_le _) hG_85 hS_86 rfl hvc_84 dX3_does_306
  by_cases h102 : x6 = nI 102
  · rw [h102]; refine lv_tableIn (off := 275) (tgt := 299) hx hb dX3_does_24 (by decide) (by decide) (by decide) (by decide) ?_
    refine lv_aload_n hx hb dX3_does_299 rfl (lv_at hl_6 2 rfl) ?_
    refine lv_iload_n hx hb dX3_does_300 rfl (lv_at hl_6 1 rfl) ?_
    refine gw_cVIN (As := [.int x2]) (rest := [])  ⟨hx, hb, hml, hown, hts⟩ (met_X3_deliversFirst l E G o x2 _ hvc_8.2) (cwV 1 hts (lw_V q1966 q1968 qs58 q104 q1969) rfl rfl rfl (by decide +kernel) ⟨Nat.le_of_ble_eq_true rfl, Nat.le_of_ble_eq_true rfl⟩) (gw_rc (q := (RX3, TX3, 13)) hK hG hvc_8.1 rfl) (Nat.zero_le _) (Nat.zero_le _) (g_St0 E) hz trivial hK hG hS rfl hl_6.1 rfl (Nat.le_of_ble_eq_true rfl) dX3_does_301 (fun x37 G38 H locs hvc_87 hG_88 hS_89 => ?_)
    clear hvc_8 hG hS
    refine lv_pop hx hb dX3_does_304 rfl ?_
    refine lv_iconst (v := nI 1) hx hb dX3_does_305 (by decide) ?_
    exact g_iret hx hb hr hlocks (Nat.zero_le _) (Nat.zero_le _) hG_88 hS_89 rfl hvc_87 dX3_does_306
  by_cases h104 : x6 = nI 104
  · rw [h104]; refine lv_tableIn (off := 275) (tgt := 299) hx hb dX3_does_24 (by decide) (by decide) (by decide) (by decide) ?_
    refine lv_aload_n hx hb dX3_does_299 rfl (lv_at hl_6 2 rfl) ?_
    refine lv_iload_n hx hb dX3_does_300 rfl (lv_at hl_6 1 rfl) ?_
    refine gw_cVIN (As := [.int x2]) (rest := [])  ⟨hx, hb, hml, hown, hts⟩ (met_X3_deliversFirst l E G o x2 _ hvc_8.2) (cwV 1 hts (lw_V q1966 q1968 qs58 q104 q1969) rfl rfl rfl (by decide +kernel) ⟨Nat.le_of_ble_eq_true rfl, Nat.le_of_ble_eq_true rfl⟩) (gw_rc (q := (RX3, TX3, 13)) hK hG hvc_8.1 rfl) (Nat.zero_le _) (Nat.zero_le _) (g_St0 E) hz trivial hK hG hS rfl hl_6.1 rfl (Nat.le_of_ble_eq_true rfl) dX3_does_301 (fun x37 G38 H locs hvc_90 hG_91 hS_92 => ?_)
    clear hvc_8 hG hS
    refine lv_pop hx hb dX3_does_304 rfl ?_
    refine lv_iconst (v := nI 1) hx hb dX3_does_305 (by decide) ?_
    exact g_iret hx hb hr hlocks (Nat.zero_le _) (Nat.zero_le _) hG_91 hS_92 rfl hvc_90 dX3_does_306
  by_cases h105 : x6 = nI 105
  · rw [h105]; refine lv_tableIn (off := 275) (tgt := 299) hx hb dX3_does_24 (by decide) (by decide) (by decide) (by decide) ?_
    refine lv_aload_n hx hb dX3_does_299 rfl (lv_at hl_6 2 rfl) ?_
    refine lv_iload_n hx hb dX3_does_300 rfl (lv_at hl_6 1 rfl) ?_
    refine gw_cVIN (As := [.int x2]) (rest := [])  ⟨hx, hb, hml, hown, hts⟩ (met_X3_deliversFirst l E G o x2 _ hvc_8.2) (cwV 1 hts (lw_V q1966 q1968 qs58 q104 q1969) rfl rfl rfl (by decide +kernel) ⟨Nat.le_of_ble_eq_true rfl, Nat.le_of_ble_eq_true rfl⟩) (gw_rc (q := (RX3, TX3, 13)) hK hG hvc_8.1 rfl) (Nat.zero_le _) (Nat.zero_le _) (g_St0 E) hz trivial hK hG hS rfl hl_6.1 rfl (Nat.le_of_ble_eq_true rfl) dX3_does_301 (fun x37 G38 H locs hvc_93 hG_94 hS_95 => ?_)
    clear hvc_8 hG hS
    refine lv_pop hx hb dX3_does_304 rfl ?_
    refine lv_iconst (v := nI 1) hx hb dX3_does_305 (by decide) ?_
    exact g_iret hx hb hr hlocks (Nat.zero_le _) (Nat.zero_le _) hG_94 hS_95 rfl hvc_93 dX3_does_306
  by_cases h106 : x6 = nI 106
  · rw [h106]; refine lv_tableIn (off := 275) (tgt := 299) hx hb dX3_does_24 (by decide) (by decide) (by decide) (by decide) ?_
    refine lv_aload_n hx hb dX3_does_299 rfl (lv_at hl_6 2 rfl) ?_
    refine lv_iload_n hx hb dX3_does_300 rfl (lv_at hl_6 1 rfl) ?_
    refine gw_cVIN (As := [.int x2]) (rest := [])  ⟨hx, hb, hml, hown, hts⟩ (met_X3_deliversFirst l E G o x2 _ hvc_8.2) (cwV 1 hts (lw_V q1966 q1968 qs58 q104 q1969) rfl rfl rfl (by decide +kernel) ⟨Nat.le_of_ble_eq_true rfl, Nat.le_of_ble_eq_true rfl⟩) (gw_rc (q := (RX3, TX3, 13)) hK hG hvc_8.1 rfl) (Nat.zero_le _) (Nat.zero_le _) (g_St0 E) hz trivial hK hG hS rfl hl_6.1 rfl (Nat.le_of_ble_eq_true rfl) dX3_does_301 (fun x37 G38 H locs hvc_96 hG_97 hS_98 => ?_)
    clear hvc_8 hG hS
    refine lv_pop hx hb dX3_does_304 rfl ?_
    refine lv_iconst (v := nI 1) hx hb dX3_does_305 (by decide) ?_
    exact g_iret hx hb hr hlocks (Nat.zero_le _) (Nat.zero_le _) hG_97 hS_98 rfl hvc_96 dX3_does_306
  by_cases h107 : x6 = nI 107
  · rw [h107]; refine lv_tableIn (off := 275) (tgt := 299) hx hb dX3_does_24 (by decide) (by decide) (by decide) (by decide) ?_
    refine lv_aload_n hx hb dX3_does_299 rfl (lv_at hl_6 2 rfl) ?_
    refine lv_iload_n hx hb dX3_does_300 rfl (lv_at hl_6 1 rfl) ?_
    refine gw_cVIN (As := [.int x2]) (rest := [])  ⟨hx, hb, hml, hown, hts⟩ (met_X3_deliversFirst l E G o x2 _ hvc_8.2) (cwV 1 hts (lw_V q1966 q1968 qs58 q104 q1969) rfl rfl rfl (by decide +kernel) ⟨Nat.le_of_ble_eq_true rfl, Nat.le_of_ble_eq_true rfl⟩) (gw_rc (q := (RX3, TX3, 13)) hK hG hvc_8.1 rfl) (Nat.zero_le _) (Nat.zero_le _) (g_St0 E) hz trivial hK hG hS rfl hl_6.1 rfl (Nat.le_of_ble_eq_true rfl) dX3_does_301 (fun x37 G38 H locs hvc_99 hG_100 hS_101 => ?_)
    clear hvc_8 hG hS
    refine lv_pop hx hb dX3_does_304 rfl ?_
    refine lv_iconst (v := nI 1) hx hb dX3_does_305 (by decide) ?_
    exact g_iret hx hb hr hlocks (Nat.zero_le _) (Nat.zero_le _) hG_100 hS_101 rfl hvc_99 dX3_does_306
  by_cases h109 : x6 = nI 109
  · rw [h109]; refine lv_tableIn (off := 275) (tgt := 299) hx hb dX3_does_24 (by decide) (by decide) (by decide) (by decide) ?_
    refine lv_aload_n hx hb dX3_does_299 rfl (lv_at hl_6 2 rfl) ?_
    refine lv_iload_n hx hb dX3_does_300 rfl (lv_at hl_6 1 rfl) ?_
    refine gw_cVIN (As := [.int x2]) (rest := [])  ⟨hx, hb, hml, hown, hts⟩ (met_X3_deliversFirst l E G o x2 _ hvc_8.2) (cwV 1 hts (lw_V q1966 q1968 qs58 q104 q1969) rfl rfl rfl (by decide +kernel) ⟨Nat.le_of_ble_eq_true rfl, Nat.le_of_ble_eq_true rfl⟩) (gw_rc (q := (RX3, TX3, 13)) hK hG hvc_8.1 rfl) (Nat.zero_le _) (Nat.zero_le _) (g_St0 E) hz trivial hK hG hS rfl hl_6.1 rfl (Nat.le_of_ble_eq_true rfl) dX3_does_301 (fun x37 G38 H locs hvc_102 hG_103 hS_104 => ?_)
    clear hvc_8 hG hS
    refine lv_pop hx hb dX3_does_304 rfl ?_
    refine lv_iconst (v := nI 1) hx hb dX3_does_305 (by decide) ?_
    exact g_iret hx hb hr hlocks (Nat.zero_le _) (Nat.zero_le _) hG_103 hS_104 rfl hvc_102 dX3_does_306
  by_cases h110 : x6 = nI 110
  · rw [h110]; refine lv_tableIn (off := 275) (tgt := 299) hx hb dX3_does_24 (by decide) (by decide) (by decide) (by decide) ?_
    refine lv_aload_n hx hb dX3_does_299 rfl (lv_at hl_6 2 rfl) ?_
    refine lv_iload_n hx hb dX3_does_300 rfl (lv_at hl_6 1 rfl) ?_
    refine gw_cVIN (As := [.int x2]) (rest := [])  ⟨hx, hb, hml, hown, hts⟩ (met_X3_deliversFirst l E G o x2 _ hvc_8.2) (cwV 1 hts (lw_V q1966 q1968 qs58 q104 q1969) rfl rfl rfl (by decide +kernel) ⟨Nat.le_of_ble_eq_true rfl, Nat.le_of_ble_eq_true rfl⟩) (gw_rc (q := (RX3, TX3, 13)) hK hG hvc_8.1 rfl) (Nat.zero_le _) (Nat.zero_le _) (g_St0 E) hz trivial hK hG hS rfl hl_6.1 rfl (Nat.le_of_ble_eq_true rfl) dX3_does_301 (fun x37 G38 H locs hvc_105 hG_106 hS_107 => ?_)
    clear hvc_8 hG hS
    refine lv_pop hx hb dX3_does_304 rfl ?_
    refine lv_iconst (v := nI 1) hx hb dX3_does_305 (by decide) ?_
    exact g_iret hx hb hr hlocks (Nat.zero_le _) (Nat.zero_le _) hG_106 hS_107 rfl hvc_105 dX3_does_306
  by_cases h111 : x6 = nI 111
  · rw [h111]; refine lv_tableIn (off := 275) (tgt := 299) hx hb dX3_does_24 (by decide) (by decide) (by decide) (by decide) ?_
    refine lv_aload_n hx hb dX3_does_299 rfl (lv_at hl_6 2 rfl) ?_
    refine lv_iload_n hx hb dX3_does_300 rfl (lv_at hl_6 1 rfl) ?_
    refine gw_cVIN (As := [.int x2]) (rest := [])  ⟨hx, hb, hml, hown, hts⟩ (met_X3_deliversFirst l E G o x2 _ hvc_8.2) (cwV 1 hts (lw_V q1966 q1968 qs58 q104 q1969) rfl rfl rfl (by decide +kernel) ⟨Nat.le_of_ble_eq_true rfl, Nat.le_of_ble_eq_true rfl⟩) (gw_rc (q := (RX3, TX3, 13)) hK hG hvc_8.1 rfl) (Nat.zero_le _) (Nat.zero_le _) (g_St0 E) hz trivial hK hG hS rfl hl_6.1 rfl (Nat.le_of_ble_eq_true rfl) dX3_does_301 (fun x37 G38 H locs hvc_108 hG_109 hS_110 => ?_)
    clear hvc_8 hG hS
    refine lv_pop hx hb dX3_does_304 rfl ?_
    refine lv_iconst (v := nI 1) hx hb dX3_does_305 (by decide) ?_
    exact g_iret hx hb hr hlocks (Nat.zero_le _) (Nat.zero_le _) hG_109 hS_110 rfl hvc_108 dX3_does_306
  by_cases h112 : x6 = nI 112
  · rw [h112]; refine lv_tableIn (off := 275) (tgt := 299) hx hb dX3_does_24 (by decide) (by decide) (by decide) (by decide) ?_
    refine lv_aload_n hx hb dX3_does_299 rfl (lv_at hl_6 2 rfl) ?_
    refine lv_iload_n hx hb dX3_does_300 rfl (lv_at hl_6 1 rfl) ?_
    refine gw_cVIN (As := [.int x2]) (rest := [])  ⟨hx, hb, hml, hown, hts⟩ (met_X3_deliversFirst l E G o x2 _ hvc_8.2) (cwV 1 hts (lw_V q1966 q1968 qs58 q104 q1969) rfl rfl rfl (by decide +kernel) ⟨Nat.le_of_ble_eq_true rfl, Nat.le_of_ble_eq_true rfl⟩) (gw_rc (q := (RX3, TX3, 13)) hK hG hvc_8.1 rfl) (Nat.zero_le _) (Nat.zero_le _) (g_St0 E) hz trivial hK hG hS rfl hl_6.1 rfl (Nat.le_of_ble_eq_true rfl) dX3_does_301 (fun x37 G38 H locs hvc_111 hG_112 hS_113 => ?_)
    clear hvc_8 hG hS
    refine lv_pop hx hb dX3_does_304 rfl ?_
    refine lv_iconst (v := nI 1) hx hb dX3_does_305 (by decide) ?_
    exact g_iret hx hb hr hlocks (Nat.zero_le _) (Nat.zero_le _) hG_112 hS_113 rfl hvc_111 dX3_does_306
  have hr9 : (x6).toInt < 98 ∨ 114 < (x6).toInt := by
    have g98 := lv_neT h98 (a := 98) (by decide)
    have g99 := lv_neT h99 (a := 99) (by decide)
    have g100 := lv_neT h100 (a := 100) (by decide)
    have g101 := lv_neT h101 (a := 101) (by decide)
    have g102 := lv_neT h102 (a := 102) (by decide)
    have g103 := lv_neT h103 (a := 103) (by decide)
    have g104 := lv_neT h104 (a := 104) (by decide)
    have g105 := lv_neT h105 (a := 105) (by decide)
    have g106 := lv_neT h106 (a := 106) (by decide)
    have g107 := lv_neT h107 (a := 107) (by decide)
    have g108 := lv_neT h108 (a := 108) (by decide)
    have g109 := lv_neT h109 (a := 109) (by decide)
    have g110 := lv_neT h110 (a := 110) (by decide)
    have g111 := lv_neT h111 (a := 111) (by decide)
    have g112 := lv_neT h112 (a := 112) (by decide)
    have g113 := lv_neT h113 (a := 113) (by decide)
    have g114 := lv_neT h114 (a := 114) (by decide)
    omega
  refine lv_tableOut (tgt := 299) hx hb dX3_does_24 hr9 (by decide) ?_
  refine lv_aload_n hx hb dX3_does_299 rfl (lv_at hl_6 2 rfl) ?_
  refine lv_iload_n hx hb dX3_does_300 rfl (lv_at hl_6 1 rfl) ?_
  refine gw_cVIN (As := [.int x2]) (rest := [])  ⟨hx, hb, hml, hown, hts⟩ (met_X3_deliversFirst l E G o x2 _ hvc_8.2) (cwV 1 hts (lw_V q1966 q1968 qs58 q104 q1969) rfl rfl rfl (by decide +kernel) ⟨Nat.le_of_ble_eq_true rfl, Nat.le_of_ble_eq_true rfl⟩) (gw_rc (q := (RX3, TX3, 13)) hK hG hvc_8.1 rfl) (Nat.zero_le _) (Nat.zero_le _) (g_St0 E) hz trivial hK hG hS rfl hl_6.1 rfl (Nat.le_of_ble_eq_true rfl) dX3_does_301 (fun x37 G38 H locs hvc_114 hG_115 hS_116 => ?_)
  clear hvc_8 hG hS
  refine lv_pop hx hb dX3_does_304 rfl ?_
  refine lv_iconst (v := nI 1) hx hb dX3_does_305 (by decide) ?_
  exact g_iret hx hb hr hlocks (Nat.zero_le _) (Nat.zero_le _) hG_115 hS_116 rfl hvc_114 dX3_does_306
set_option maxHeartbeats 4000000 in
set_option maxRecDepth 100000 in
theorem met_X3_runCourse (l : Launch) (E : g_E) (G : g_G) (o : Nat) (post : Int32 → g_G → Prop) (hvc : wp_X3_runCourse E G o post) : g_MI E l yX3_runCourse (ws_ yX3_runCourse cX3_runCourse 2 (Option.some Jvm.ClassFile.FieldType.int)) ({ frames := 8, cells := 0, slots := 0, locals := 186 } : Room) (fun _ => True) [.ref o] G (post) := by
  refine g_enter (by decide +kernel) (Nat.le_of_ble_eq_true rfl) ?_
  intro p e s m below meth c ls hx hb hr hts hown hlocks hml hin hz hX hK hG hS hl
  have hl : lv_has ls 2 [(0, .ref o)] := hl
  have hown : s.vm.findClass RX3 = some m.cls := hown
  unfold wp_X3_runCourse at hvc
  refine lv_aload_n hx hb dX3_runCourse_0 rfl (lv_at hl 0 rfl) ?_
  refine lv_iconst (v := nI 0) hx hb dX3_runCourse_1 (by decide) ?_
  refine gw_put (ty := .int) (C := RX3) (T := TX3) (N := 13) (own := RX3) hx hb hts in_X3 tyX3 tyX3_ok nmX3 hown hK hG hS hvc rfl (by decide) (hts _ q1783) (fun _ h9 => h9) rfl (by decide +kernel) rfl rfl dX3_runCourse_2 (fun G1 H locs hvc_1 hG_2 hS_3 => ?_)
  clear hvc hG hS
  refine lv_aload_n hx hb dX3_runCourse_5 rfl (lv_at hl 0 rfl) ?_
  refine gw_cVIN (As := []) (rest := [])  ⟨hx, hb, hml, hown, hts⟩ (met_X3_readsCourse l E G1 o _ hvc_1.2) (cwV 0 hts (lw_V q2009 q2011 qs62 q104 q2012) rfl rfl rfl (by decide +kernel) ⟨Nat.le_of_ble_eq_true rfl, Nat.le_of_ble_eq_true rfl⟩) (gw_rc (q := (RX3, TX3, 13)) hK hG_2 hvc_1.1 rfl) (Nat.zero_le _) (Nat.zero_le _) (g_St0 E) hz trivial hK hG_2 hS_3 rfl hl.1 rfl (Nat.le_of_ble_eq_true rfl) dX3_runCourse_6 (fun x2 G3 H locs hvc_4 hG_5 hS_6 => ?_)
  clear hvc_1 hG_2 hS_3
  refine lv_if_ne (tgt := 18) hx hb dX3_runCourse_9 (by decide) (fun h9 => ?_) (fun h9 => ?_)
  · replace hvc_4 := hvc_4.1 h9
    refine lv_aload_n hx hb dX3_runCourse_18 rfl (lv_at hl 0 rfl) ?_
    refine gw_cVVN (As := []) (rest := [])  ⟨hx, hb, hml, hown, hts⟩ (met_X3_recordsState l E G3 o _ hvc_4.2) (cwV 0 hts (lw_V q1848 q1850 qs35 q104 q1851) rfl rfl rfl (by decide +kernel) ⟨Nat.le_of_ble_eq_true rfl, Nat.le_of_ble_eq_true rfl⟩) (gw_rc (q := (RX3, TX3, 13)) hK hG_5 hvc_4.1 rfl) (Nat.zero_le _) (Nat.zero_le _) (g_St0 E) hz trivial hK hG_5 hS_6 rfl hl.1 rfl (Nat.le_of_ble_eq_true rfl) dX3_runCourse_19 (fun G5 H locs hvc_7 hG_8 hS_9 => ?_)
    clear hvc_4 hG_5 hS_6
    refine lv_aload_n hx hb dX3_runCourse_22 rfl (lv_at hl 0 rfl) ?_
    refine lv_iconst (v := nI 0) hx hb dX3_runCourse_23 (by decide) ?_
    refine gw_put (ty := .int) (C := RX3) (T := TX3) (N := 13) (own := RX3) hx hb hts in_X3 tyX3 tyX3_ok nmX3 hown hK hG_8 hS_9 hvc_7 rfl (by decide) (hts _ q1791) (fun _ h9 => h9) rfl (by decide +kernel) rfl rfl dX3_runCourse_24 (fun G6 H locs hvc_10 hG_11 hS_12 => ?_)
    clear hvc_7 hG_8 hS_9
    refine lv_iconst (v := nI 0) hx hb dX3_runCourse_27 (by decide) ?_
    have lp29 : ∀ (n29 : Nat) (y0 : Nat) (y1 : Int32) (G : g_G) (H : Heap) (locs : List Loc) (ls : Array Slot), wp_X3_runCourse_29 E post n29 y0 y1 G → g_H E G H → va_S (g_A E) s.heap H locs → lv_has ls 2 [(0, .ref y0), (1, .int y1)] → W p l e ({ frames := 8, cells := 0, slots := 0, locals := 186 } : Room) s m ([.ref o] : List Value).toArray below meth c H locs 0 0 (MQ below (va_Qi (post) (g_Bk E) (g_A E)) ([.ref o] : List Value).toArray s 0 0 (g_A E)) (F0 m 29 ls []) := by
      clear hvc_10 hG_11 hS_12 hl
      intro n29
      induction n29 with
      | zero =>
        intro y0 y1 G H locs ls hvc_13 hG_14 hS_15 hl_16
        exact False.elim hvc_13
      | succ n29 ih29 =>
        intro y0 y1 G H locs ls hvc_17 hG_18 hS_19 hl_20
        refine lv_iload_n hx hb dX3_runCourse_29 rfl (lv_at hl_20 1 rfl) ?_
        refine lv_aload_n hx hb dX3_runCourse_30 rfl (lv_at hl_20 0 rfl) ?_
        refine gw_gi (C := RX3) (T := TX3) (N := 13) (own := RX3) hx hb hts in_X3 hown hK hG_18 hvc_17 rfl (by decide) (hts _ q1795) (fun _ h9 => h9) dX3_runCourse_31 (fun x7 hvc_21 => ?_)
        clear hvc_17
        refine lv_icmp_ge (tgt := 53) hx hb dX3_runCourse_34 (by decide) (fun h9 => ?_) (fun h9 => ?_)
        · replace hvc_21 := hvc_21.1 h9
          refine lv_iload_n hx hb dX3_runCourse_53 rfl (lv_at hl_20 1 rfl) ?_
          exact g_iret hx hb hr hlocks (Nat.zero_le _) (Nat.zero_le _) hG_18 hS_19 rfl hvc_21 dX3_runCourse_54
        · replace hvc_21 := hvc_21.2 h9
          refine lv_aload_n hx hb dX3_runCourse_37 rfl (lv_at hl_20 0 rfl) ?_
          refine lv_iconst (v := nI 4) hx hb dX3_runCourse_38 (by decide) ?_
          refine lv_iload_n hx hb dX3_runCourse_39 rfl (lv_at hl_20 1 rfl) ?_
          refine lv_imul hx hb dX3_runCourse_40 ?_
          refine gw_cVIN (As := [.int ((nI 4) * y1)]) (rest := [])  ⟨hx, hb, hml, hown, hts⟩ (met_X3_does l E G y0 ((nI 4) * y1) _ hvc_21.2) (cwV 1 hts (lw_V q2037 q2039 qs68 q104 q2040) rfl rfl rfl (by decide +kernel) ⟨Nat.le_of_ble_eq_true rfl, Nat.le_of_ble_eq_true rfl⟩) (gw_rc (q := (RX3, TX3, 13)) hK hG_18 hvc_21.1 rfl) (Nat.zero_le _) (Nat.zero_le _) (g_St0 E) hz trivial hK hG_18 hS_19 rfl hl_20.1 rfl (Nat.le_of_ble_eq_true rfl) dX3_runCourse_41 (fun x8 G9 H locs hvc_22 hG_23 hS_24 => ?_)
          clear hvc_21 hG_18 hS_19
          refine lv_if_eq (tgt := 53) hx hb dX3_runCourse_44 (by decide) (fun h9 => ?_) (fun h9 => ?_)
          · replace hvc_22 := hvc_22.1 h9
            refine lv_iload_n hx hb dX3_runCourse_53 rfl (lv_at hl_20 1 rfl) ?_
            exact g_iret hx hb hr hlocks (Nat.zero_le _) (Nat.zero_le _) hG_23 hS_24 rfl hvc_22 dX3_runCourse_54
          · replace hvc_22 := hvc_22.2 h9
            refine lv_iinc (k := 1) (v := y1 + (nI 1)) (lv' := [(1, .int (y1 + (nI 1))), (0, .ref y0)]) hx hb dX3_runCourse_47 hl_20 rfl (congrArg (y1 + ·) (by decide : Int32.ofInt (1) = nI 1)) (by decide) rfl (fun ls hl_25 => ?_)
            clear hl_20
            refine lv_goto (tgt := 29) hx hb dX3_runCourse_50 (by decide) ?_
            exact ih29 y0 (y1 + (nI 1)) G9 _ _ _ hvc_22 hG_23 hS_24 (lv_sub hl_25 [1, 0] rfl)
    refine lv_istore_n (lv' := [(1, .int (nI 0)), (0, .ref o)]) hx hb dX3_runCourse_28 rfl hl (by decide) rfl (fun ls hl_26 => ?_)
    clear hl
    obtain ⟨nf29, hvc_10⟩ := hvc_10
    exact lp29 nf29 o (nI 0) G6 _ _ _ hvc_10 hG_11 hS_12 (lv_sub hl_26 [1, 0] rfl)
  · replace hvc_4 := hvc_4.2 h9
    refine lv_aload_n hx hb dX3_runCourse_12 rfl (lv_at hl 0 rfl) ?_
    refine lv_iconst (v := nI 1) hx hb dX3_runCourse_13 (by decide) ?_
    refine gw_cVIN (As := [.int (nI 1)]) (rest := [])  ⟨hx, hb, hml, hown, hts⟩ (met_X3_fails l E G3 o (nI 1) _ hvc_4.2) (cwV 1 hts (lw_V q1837 q1839 qs33 q104 q1840) rfl rfl rfl (by decide +kernel) ⟨Nat.le_of_ble_eq_true rfl, Nat.le_of_ble_eq_true rfl⟩) (gw_rc (q := (RX3, TX3, 13)) hK hG_5 hvc_4.1 rfl) (Nat.zero_le _) (Nat.zero_le _) (g_St0 E) hz trivial hK hG_5 hS_6 rfl hl.1 rfl (Nat.le_of_ble_eq_true rfl) dX3_runCourse_14 (fun x10 G11 H locs hvc_27 hG_28 hS_29 => ?_)
    clear hvc_4 hG_5 hS_6
    exact g_iret hx hb hr hlocks (Nat.zero_le _) (Nat.zero_le _) hG_28 hS_29 rfl hvc_27 dX3_runCourse_17
set_option maxHeartbeats 4000000 in
set_option maxRecDepth 100000 in
theorem met_X3_keep (l : Launch) (E : g_E) (G : g_G) (o : Nat) (post : Int32 → g_G → Prop) (hvc : wp_X3_keep E G o post) : g_MI E l yX3_keep (ws_ yX3_keep cX3_keep 2 (Option.some Jvm.ClassFile.FieldType.int)) ({ frames := 0, cells := 0, slots := 0, locals := 0 } : Room) (fun _ => True) [.ref o] G (post) := by
  refine g_enter (by decide +kernel) (Nat.le_of_ble_eq_true rfl) ?_
  intro p e s m below meth c ls hx hb hr hts hown hlocks hml hin hz hX hK hG hS hl
  have hl : lv_has ls 2 [(0, .ref o)] := hl
  have hown : s.vm.findClass RX3 = some m.cls := hown
  unfold wp_X3_keep at hvc
  refine lv_aload_n hx hb dX3_keep_0 rfl (lv_at hl 0 rfl) ?_
  refine lv_iconst (v := nI 0) hx hb dX3_keep_1 (by decide) ?_
  refine gw_put (ty := .int) (C := RX3) (T := TX3) (N := 13) (own := RX3) hx hb hts in_X3 tyX3 tyX3_ok nmX3 hown hK hG hS hvc rfl (by decide) (hts _ q1783) (fun _ h9 => h9) rfl (by decide +kernel) rfl rfl dX3_keep_2 (fun G1 H locs hvc_1 hG_2 hS_3 => ?_)
  clear hvc hG hS
  refine lv_iconst (v := nI 0) hx hb dX3_keep_5 (by decide) ?_
  have lp7 : ∀ (n7 : Nat) (y0 : Nat) (y1 : Int32) (G : g_G) (H : Heap) (locs : List Loc) (ls : Array Slot), wp_X3_keep_7 E post n7 y0 y1 G → g_H E G H → va_S (g_A E) s.heap H locs → lv_has ls 2 [(0, .ref y0), (1, .int y1)] → W p l e ({ frames := 0, cells := 0, slots := 0, locals := 0 } : Room) s m ([.ref o] : List Value).toArray below meth c H locs 0 0 (MQ below (va_Qi (post) (g_Bk E) (g_A E)) ([.ref o] : List Value).toArray s 0 0 (g_A E)) (F0 m 7 ls []) := by
    clear hvc_1 hG_2 hS_3 hl
    intro n7
    induction n7 with
    | zero =>
      intro y0 y1 G H locs ls hvc_4 hG_5 hS_6 hl_7
      exact False.elim hvc_4
    | succ n7 ih7 =>
      intro y0 y1 G H locs ls hvc_8 hG_9 hS_10 hl_11
      refine lv_iload_n hx hb dX3_keep_7 rfl (lv_at hl_11 1 rfl) ?_
      refine lv_sipush (v := nI 256) hx hb dX3_keep_8 (by decide) ?_
      refine lv_icmp_ge (tgt := 32) hx hb dX3_keep_11 (by decide) (fun h9 => ?_) (fun h9 => ?_)
      · replace hvc_8 := hvc_8.1 h9
        refine lv_aload_n hx hb dX3_keep_32 rfl (lv_at hl_11 0 rfl) ?_
        refine lv_iconst (v := nI 1) hx hb dX3_keep_33 (by decide) ?_
        refine gw_put (ty := .boolean) (C := RX3) (T := TX3) (N := 13) (own := RX3) hx hb hts in_X3 tyX3 tyX3_ok nmX3 hown hK hG_9 hS_10 hvc_8 rfl (by decide) (hts _ q1789) (fun _ h9 => h9) rfl (by decide +kernel) rfl rfl dX3_keep_34 (fun G2 H locs hvc_12 hG_13 hS_14 => ?_)
        clear hvc_8 hG_9 hS_10
        refine lv_aload_n hx hb dX3_keep_37 rfl (lv_at hl_11 0 rfl) ?_
        refine gw_gr (C := RX3) (T := TX3) (N := 13) (own := RX3) hx hb hts in_X3 hown hK hG_13 hvc_12 rfl (by decide) (hts _ q1784) (fun _ h9 => h9) dX3_keep_38 (fun x3 hvc_15 => ?_)
        clear hvc_12
        refine lv_bipush (v := nI 13) hx hb dX3_keep_41 (by decide) ?_
        refine gw_ild hx hb hK hG_13 hvc_15 dX3_keep_43 (fun x4 hvc_16 => ?_)
        clear hvc_15
        exact g_iret hx hb hr hlocks (Nat.zero_le _) (Nat.zero_le _) hG_13 hS_14 rfl hvc_16 dX3_keep_44
      · replace hvc_8 := hvc_8.2 h9
        refine lv_aload_n hx hb dX3_keep_14 rfl (lv_at hl_11 0 rfl) ?_
        refine gw_gr (C := RX3) (T := TX3) (N := 13) (own := RX3) hx hb hts in_X3 hown hK hG_9 hvc_8 rfl (by decide) (hts _ q1788) (fun _ h9 => h9) dX3_keep_15 (fun x5 hvc_17 => ?_)
        clear hvc_8
        refine lv_iload_n hx hb dX3_keep_18 rfl (lv_at hl_11 1 rfl) ?_
        refine lv_aload_n hx hb dX3_keep_19 rfl (lv_at hl_11 0 rfl) ?_
        refine gw_gr (C := RX3) (T := TX3) (N := 13) (own := RX3) hx hb hts in_X3 hown hK hG_9 hvc_17 rfl (by decide) (hts _ q1784) (fun _ h9 => h9) dX3_keep_20 (fun x6 hvc_18 => ?_)
        clear hvc_17
        refine lv_iload_n hx hb dX3_keep_23 rfl (lv_at hl_11 1 rfl) ?_
        refine gw_ild hx hb hK hG_9 hvc_18 dX3_keep_24 (fun x7 hvc_19 => ?_)
        clear hvc_18
        refine gw_ist hx hb hK hG_9 hS_10 hvc_19 dX3_keep_25 (fun G8 H locs hvc_20 hG_21 hS_22 => ?_)
        clear hvc_19 hG_9 hS_10
        refine lv_iinc (k := 1) (v := y1 + (nI 1)) (lv' := [(1, .int (y1 + (nI 1))), (0, .ref y0)]) hx hb dX3_keep_26 hl_11 rfl (congrArg (y1 + ·) (by decide : Int32.ofInt (1) = nI 1)) (by decide) rfl (fun ls hl_23 => ?_)
        clear hl_11
        refine lv_goto (tgt := 7) hx hb dX3_keep_29 (by decide) ?_
        exact ih7 y0 (y1 + (nI 1)) G8 _ _ _ hvc_20 hG_21 hS_22 (lv_sub hl_23 [1, 0] rfl)
  refine lv_istore_n (lv' := [(1, .int (nI 0)), (0, .ref o)]) hx hb dX3_keep_6 rfl hl (by decide) rfl (fun ls hl_24 => ?_)
  clear hl
  obtain ⟨nf7, hvc_1⟩ := hvc_1
  exact lp7 nf7 o (nI 0) G1 _ _ _ hvc_1 hG_2 hS_3 (lv_sub hl_24 [1, 0] rfl)
set_option maxHeartbeats 4000000 in
set_option maxRecDepth 100000 in
theorem met_X3_goBack (l : Launch) (E : g_E) (G : g_G) (o : Nat) (post : Int32 → g_G → Prop) (hvc : wp_X3_goBack E G o post) : g_MI E l yX3_goBack (ws_ yX3_goBack cX3_goBack 2 (Option.some Jvm.ClassFile.FieldType.int)) ({ frames := 1, cells := 0, slots := 0, locals := 21 } : Room) (fun _ => True) [.ref o] G (post) := by
  refine g_enter (by decide +kernel) (Nat.le_of_ble_eq_true rfl) ?_
  intro p e s m below meth c ls hx hb hr hts hown hlocks hml hin hz hX hK hG hS hl
  have hl : lv_has ls 2 [(0, .ref o)] := hl
  have hown : s.vm.findClass RX3 = some m.cls := hown
  unfold wp_X3_goBack at hvc
  refine lv_aload_n hx hb dX3_goBack_0 rfl (lv_at hl 0 rfl) ?_
  refine lv_iconst (v := nI 0) hx hb dX3_goBack_1 (by decide) ?_
  refine gw_put (ty := .int) (C := RX3) (T := TX3) (N := 13) (own := RX3) hx hb hts in_X3 tyX3 tyX3_ok nmX3 hown hK hG hS hvc rfl (by decide) (hts _ q1783) (fun _ h9 => h9) rfl (by decide +kernel) rfl rfl dX3_goBack_2 (fun G1 H locs hvc_1 hG_2 hS_3 => ?_)
  clear hvc hG hS
  refine lv_aload_n hx hb dX3_goBack_5 rfl (lv_at hl 0 rfl) ?_
  refine gw_gi (C := RX3) (T := TX3) (N := 13) (own := RX3) hx hb hts in_X3 hown hK hG_2 hvc_1 rfl (by decide) (hts _ q1789) (fun _ h9 => h9) dX3_goBack_6 (fun x2 hvc_4 => ?_)
  clear hvc_1
  refine lv_if_ne (tgt := 18) hx hb dX3_goBack_9 (by decide) (fun h9 => ?_) (fun h9 => ?_)
  · replace hvc_4 := hvc_4.1 h9
    refine lv_aload_n hx hb dX3_goBack_18 rfl (lv_at hl 0 rfl) ?_
    refine gw_cVVN (As := []) (rest := [])  ⟨hx, hb, hml, hown, hts⟩ (met_X3_recordsState l E G1 o _ hvc_4.2) (cwV 0 hts (lw_V q1848 q1850 qs35 q104 q1851) rfl rfl rfl (by decide +kernel) ⟨Nat.le_of_ble_eq_true rfl, Nat.le_of_ble_eq_true rfl⟩) (gw_rc (q := (RX3, TX3, 13)) hK hG_2 hvc_4.1 rfl) (Nat.zero_le _) (Nat.zero_le _) (g_St0 E) hz trivial hK hG_2 hS_3 rfl hl.1 rfl (Nat.le_of_ble_eq_true rfl) dX3_goBack_19 (fun G4 H locs hvc_5 hG_6 hS_7 => ?_)
    clear hvc_4 hG_2 hS_3
    refine lv_iconst (v := nI 0) hx hb dX3_goBack_22 (by decide) ?_
    have lp24 : ∀ (n24 : Nat) (y0 : Nat) (y1 : Int32) (G : g_G) (H : Heap) (locs : List Loc) (ls : Array Slot), wp_X3_goBack_24 E post n24 y0 y1 G → g_H E G H → va_S (g_A E) s.heap H locs → lv_has ls 2 [(0, .ref y0), (1, .int y1)] → W p l e ({ frames := 1, cells := 0, slots := 0, locals := 21 } : Room) s m ([.ref o] : List Value).toArray below meth c H locs 0 0 (MQ below (va_Qi (post) (g_Bk E) (g_A E)) ([.ref o] : List Value).toArray s 0 0 (g_A E)) (F0 m 24 ls []) := by
      clear hvc_5 hG_6 hS_7 hl
      intro n24
      induction n24 with
      | zero =>
        intro y0 y1 G H locs ls hvc_8 hG_9 hS_10 hl_11
        exact False.elim hvc_8
      | succ n24 ih24 =>
        intro y0 y1 G H locs ls hvc_12 hG_13 hS_14 hl_15
        refine lv_iload_n hx hb dX3_goBack_24 rfl (lv_at hl_15 1 rfl) ?_
        refine lv_sipush (v := nI 256) hx hb dX3_goBack_25 (by decide) ?_
        refine lv_icmp_ge (tgt := 49) hx hb dX3_goBack_28 (by decide) (fun h9 => ?_) (fun h9 => ?_)
        · replace hvc_12 := hvc_12.1 h9
          refine lv_aload_n hx hb dX3_goBack_49 rfl (lv_at hl_15 0 rfl) ?_
          refine gw_gr (C := RX3) (T := TX3) (N := 13) (own := RX3) hx hb hts in_X3 hown hK hG_13 hvc_12 rfl (by decide) (hts _ q1784) (fun _ h9 => h9) dX3_goBack_50 (fun x5 hvc_16 => ?_)
          clear hvc_12
          refine lv_bipush (v := nI 13) hx hb dX3_goBack_53 (by decide) ?_
          refine gw_ild hx hb hK hG_13 hvc_16 dX3_goBack_55 (fun x6 hvc_17 => ?_)
          clear hvc_16
          exact g_iret hx hb hr hlocks (Nat.zero_le _) (Nat.zero_le _) hG_13 hS_14 rfl hvc_17 dX3_goBack_56
        · replace hvc_12 := hvc_12.2 h9
          refine lv_aload_n hx hb dX3_goBack_31 rfl (lv_at hl_15 0 rfl) ?_
          refine gw_gr (C := RX3) (T := TX3) (N := 13) (own := RX3) hx hb hts in_X3 hown hK hG_13 hvc_12 rfl (by decide) (hts _ q1784) (fun _ h9 => h9) dX3_goBack_32 (fun x7 hvc_18 => ?_)
          clear hvc_12
          refine lv_iload_n hx hb dX3_goBack_35 rfl (lv_at hl_15 1 rfl) ?_
          refine lv_aload_n hx hb dX3_goBack_36 rfl (lv_at hl_15 0 rfl) ?_
          refine gw_gr (C := RX3) (T := TX3) (N := 13) (own := RX3) hx hb hts in_X3 hown hK hG_13 hvc_18 rfl (by decide) (hts _ q1788) (fun _ h9 => h9) dX3_goBack_37 (fun x8 hvc_19 => ?_)
          clear hvc_18
          refine lv_iload_n hx hb dX3_goBack_40 rfl (lv_at hl_15 1 rfl) ?_
          refine gw_ild hx hb hK hG_13 hvc_19 dX3_goBack_41 (fun x9 hvc_20 => ?_)
          clear hvc_19
          refine gw_ist hx hb hK hG_13 hS_14 hvc_20 dX3_goBack_42 (fun G10 H locs hvc_21 hG_22 hS_23 => ?_)
          clear hvc_20 hG_13 hS_14
          refine lv_iinc (k := 1) (v := y1 + (nI 1)) (lv' := [(1, .int (y1 + (nI 1))), (0, .ref y0)]) hx hb dX3_goBack_43 hl_15 rfl (congrArg (y1 + ·) (by decide : Int32.ofInt (1) = nI 1)) (by decide) rfl (fun ls hl_24 => ?_)
          clear hl_15
          refine lv_goto (tgt := 24) hx hb dX3_goBack_46 (by decide) ?_
          exact ih24 y0 (y1 + (nI 1)) G10 _ _ _ hvc_21 hG_22 hS_23 (lv_sub hl_24 [1, 0] rfl)
    refine lv_istore_n (lv' := [(1, .int (nI 0)), (0, .ref o)]) hx hb dX3_goBack_23 rfl hl (by decide) rfl (fun ls hl_25 => ?_)
    clear hl
    obtain ⟨nf24, hvc_5⟩ := hvc_5
    exact lp24 nf24 o (nI 0) G4 _ _ _ hvc_5 hG_6 hS_7 (lv_sub hl_25 [1, 0] rfl)
  · replace hvc_4 := hvc_4.2 h9
    refine lv_aload_n hx hb dX3_goBack_12 rfl (lv_at hl 0 rfl) ?_
    refine lv_iconst (v := nI 1) hx hb dX3_goBack_13 (by decide) ?_
    refine gw_cVIN (As := [.int (nI 1)]) (rest := [])  ⟨hx, hb, hml, hown, hts⟩ (met_X3_fails l E G1 o (nI 1) _ hvc_4.2) (cwV 1 hts (lw_V q1837 q1839 qs33 q104 q1840) rfl rfl rfl (by decide +kernel) ⟨Nat.le_of_ble_eq_true rfl, Nat.le_of_ble_eq_true rfl⟩) (gw_rc (q := (RX3, TX3, 13)) hK hG_2 hvc_4.1 rfl) (Nat.zero_le _) (Nat.zero_le _) (g_St0 E) hz trivial hK hG_2 hS_3 rfl hl.1 rfl (Nat.le_of_ble_eq_true rfl) dX3_goBack_14 (fun x11 G12 H locs hvc_26 hG_27 hS_28 => ?_)
    clear hvc_4 hG_2 hS_3
    exact g_iret hx hb hr hlocks (Nat.zero_le _) (Nat.zero_le _) hG_27 hS_28 rfl hvc_26 dX3_goBack_17
set_option maxHeartbeats 4000000 in
set_option maxRecDepth 100000 in
theorem met_X3_undo (l : Launch) (E : g_E) (G : g_G) (o : Nat) (post : Int32 → g_G → Prop) (hvc : wp_X3_undo E G o post) : g_MI E l yX3_undo (ws_ yX3_undo cX3_undo 2 (Option.some Jvm.ClassFile.FieldType.int)) ({ frames := 1, cells := 0, slots := 0, locals := 21 } : Room) (fun _ => True) [.ref o] G (post) := by
  refine g_enter (by decide +kernel) (Nat.le_of_ble_eq_true rfl) ?_
  intro p e s m below meth c ls hx hb hr hts hown hlocks hml hin hz hX hK hG hS hl
  have hl : lv_has ls 2 [(0, .ref o)] := hl
  have hown : s.vm.findClass RX3 = some m.cls := hown
  unfold wp_X3_undo at hvc
  refine lv_aload_n hx hb dX3_undo_0 rfl (lv_at hl 0 rfl) ?_
  refine lv_iconst (v := nI 0) hx hb dX3_undo_1 (by decide) ?_
  refine gw_put (ty := .int) (C := RX3) (T := TX3) (N := 13) (own := RX3) hx hb hts in_X3 tyX3 tyX3_ok nmX3 hown hK hG hS hvc rfl (by decide) (hts _ q1783) (fun _ h9 => h9) rfl (by decide +kernel) rfl rfl dX3_undo_2 (fun G1 H locs hvc_1 hG_2 hS_3 => ?_)
  clear hvc hG hS
  refine lv_aload_n hx hb dX3_undo_5 rfl (lv_at hl 0 rfl) ?_
  refine gw_gi (C := RX3) (T := TX3) (N := 13) (own := RX3) hx hb hts in_X3 hown hK hG_2 hvc_1 rfl (by decide) (hts _ q1787) (fun _ h9 => h9) dX3_undo_6 (fun x2 hvc_4 => ?_)
  clear hvc_1
  refine lv_if_ne (tgt := 18) hx hb dX3_undo_9 (by decide) (fun h9 => ?_) (fun h9 => ?_)
  · replace hvc_4 := hvc_4.1 h9
    refine lv_aload_n hx hb dX3_undo_18 rfl (lv_at hl 0 rfl) ?_
    refine lv_dup hx hb dX3_undo_19 rfl ?_
    refine gw_gi (C := RX3) (T := TX3) (N := 13) (own := RX3) hx hb hts in_X3 hown hK hG_2 hvc_4 rfl (by decide) (hts _ q1787) (fun _ h9 => h9) dX3_undo_20 (fun x3 hvc_5 => ?_)
    clear hvc_4
    refine lv_iconst (v := nI 1) hx hb dX3_undo_23 (by decide) ?_
    refine lv_isub hx hb dX3_undo_24 ?_
    refine gw_put (ty := .int) (C := RX3) (T := TX3) (N := 13) (own := RX3) hx hb hts in_X3 tyX3 tyX3_ok nmX3 hown hK hG_2 hS_3 hvc_5 rfl (by decide) (hts _ q1787) (fun _ h9 => h9) rfl (by decide +kernel) rfl rfl dX3_undo_25 (fun G4 H locs hvc_6 hG_7 hS_8 => ?_)
    clear hvc_5 hG_2 hS_3
    refine lv_iconst (v := nI 0) hx hb dX3_undo_28 (by decide) ?_
    have lp30 : ∀ (n30 : Nat) (y0 : Nat) (y1 : Int32) (G : g_G) (H : Heap) (locs : List Loc) (ls : Array Slot), wp_X3_undo_30 E post n30 y0 y1 G → g_H E G H → va_S (g_A E) s.heap H locs → lv_has ls 2 [(0, .ref y0), (1, .int y1)] → W p l e ({ frames := 1, cells := 0, slots := 0, locals := 21 } : Room) s m ([.ref o] : List Value).toArray below meth c H locs 0 0 (MQ below (va_Qi (post) (g_Bk E) (g_A E)) ([.ref o] : List Value).toArray s 0 0 (g_A E)) (F0 m 30 ls []) := by
      clear hvc_6 hG_7 hS_8 hl
      intro n30
      induction n30 with
      | zero =>
        intro y0 y1 G H locs ls hvc_9 hG_10 hS_11 hl_12
        exact False.elim hvc_9
      | succ n30 ih30 =>
        intro y0 y1 G H locs ls hvc_13 hG_14 hS_15 hl_16
        refine lv_iload_n hx hb dX3_undo_30 rfl (lv_at hl_16 1 rfl) ?_
        refine lv_sipush (v := nI 256) hx hb dX3_undo_31 (by decide) ?_
        refine lv_icmp_ge (tgt := 64) hx hb dX3_undo_34 (by decide) (fun h9 => ?_) (fun h9 => ?_)
        · replace hvc_13 := hvc_13.1 h9
          refine lv_aload_n hx hb dX3_undo_64 rfl (lv_at hl_16 0 rfl) ?_
          refine gw_gi (C := RX3) (T := TX3) (N := 13) (own := RX3) hx hb hts in_X3 hown hK hG_14 hvc_13 rfl (by decide) (hts _ q1787) (fun _ h9 => h9) dX3_undo_65 (fun x5 hvc_17 => ?_)
          clear hvc_13
          exact g_iret hx hb hr hlocks (Nat.zero_le _) (Nat.zero_le _) hG_14 hS_15 rfl hvc_17 dX3_undo_68
        · replace hvc_13 := hvc_13.2 h9
          refine lv_aload_n hx hb dX3_undo_37 rfl (lv_at hl_16 0 rfl) ?_
          refine gw_gr (C := RX3) (T := TX3) (N := 13) (own := RX3) hx hb hts in_X3 hown hK hG_14 hvc_13 rfl (by decide) (hts _ q1784) (fun _ h9 => h9) dX3_undo_38 (fun x6 hvc_18 => ?_)
          clear hvc_13
          refine lv_iload_n hx hb dX3_undo_41 rfl (lv_at hl_16 1 rfl) ?_
          refine lv_aload_n hx hb dX3_undo_42 rfl (lv_at hl_16 0 rfl) ?_
          refine gw_gr (C := RX3) (T := TX3) (N := 13) (own := RX3) hx hb hts in_X3 hown hK hG_14 hvc_18 rfl (by decide) (hts _ q1786) (fun _ h9 => h9) dX3_undo_43 (fun x7 hvc_19 => ?_)
          clear hvc_18
          refine lv_sipush (v := nI 256) hx hb dX3_undo_46 (by decide) ?_
          refine lv_aload_n hx hb dX3_undo_49 rfl (lv_at hl_16 0 rfl) ?_
          refine gw_gi (C := RX3) (T := TX3) (N := 13) (own := RX3) hx hb hts in_X3 hown hK hG_14 hvc_19 rfl (by decide) (hts _ q1787) (fun _ h9 => h9) dX3_undo_50 (fun x8 hvc_20 => ?_)
          clear hvc_19
          refine lv_imul hx hb dX3_undo_53 ?_
          refine lv_iload_n hx hb dX3_undo_54 rfl (lv_at hl_16 1 rfl) ?_
          refine lv_iadd hx hb dX3_undo_55 ?_
          refine gw_ild hx hb hK hG_14 hvc_20 dX3_undo_56 (fun x9 hvc_21 => ?_)
          clear hvc_20
          refine gw_ist hx hb hK hG_14 hS_15 hvc_21 dX3_undo_57 (fun G10 H locs hvc_22 hG_23 hS_24 => ?_)
          clear hvc_21 hG_14 hS_15
          refine lv_iinc (k := 1) (v := y1 + (nI 1)) (lv' := [(1, .int (y1 + (nI 1))), (0, .ref y0)]) hx hb dX3_undo_58 hl_16 rfl (congrArg (y1 + ·) (by decide : Int32.ofInt (1) = nI 1)) (by decide) rfl (fun ls hl_25 => ?_)
          clear hl_16
          refine lv_goto (tgt := 30) hx hb dX3_undo_61 (by decide) ?_
          exact ih30 y0 (y1 + (nI 1)) G10 _ _ _ hvc_22 hG_23 hS_24 (lv_sub hl_25 [1, 0] rfl)
    refine lv_istore_n (lv' := [(1, .int (nI 0)), (0, .ref o)]) hx hb dX3_undo_29 rfl hl (by decide) rfl (fun ls hl_26 => ?_)
    clear hl
    obtain ⟨nf30, hvc_6⟩ := hvc_6
    exact lp30 nf30 o (nI 0) G4 _ _ _ hvc_6 hG_7 hS_8 (lv_sub hl_26 [1, 0] rfl)
  · replace hvc_4 := hvc_4.2 h9
    refine lv_aload_n hx hb dX3_undo_12 rfl (lv_at hl 0 rfl) ?_
    refine lv_iconst (v := nI 1) hx hb dX3_undo_13 (by decide) ?_
    refine gw_cVIN (As := [.int (nI 1)]) (rest := [])  ⟨hx, hb, hml, hown, hts⟩ (met_X3_fails l E G1 o (nI 1) _ hvc_4.2) (cwV 1 hts (lw_V q1837 q1839 qs33 q104 q1840) rfl rfl rfl (by decide +kernel) ⟨Nat.le_of_ble_eq_true rfl, Nat.le_of_ble_eq_true rfl⟩) (gw_rc (q := (RX3, TX3, 13)) hK hG_2 hvc_4.1 rfl) (Nat.zero_le _) (Nat.zero_le _) (g_St0 E) hz trivial hK hG_2 hS_3 rfl hl.1 rfl (Nat.le_of_ble_eq_true rfl) dX3_undo_14 (fun x11 G12 H locs hvc_27 hG_28 hS_29 => ?_)
    clear hvc_4 hG_2 hS_3
    exact g_iret hx hb hr hlocks (Nat.zero_le _) (Nat.zero_le _) hG_28 hS_29 rfl hvc_27 dX3_undo_17
