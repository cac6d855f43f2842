/-! printed by tools/gen.py -/
set_option maxHeartbeats 4000000 in
set_option maxRecDepth 100000 in
theorem met_X3_init (l : Launch) (E : g_E) (G : g_G) (o : Nat) (mc0 ms0 : Nat) (post : g_G → Prop) (hvc : wp_X3_init E G o mc0 ms0 post) : g_MV E l yX3_init (ws_ yX3_init cX3_init 2 (Option.none : Option Jvm.ClassFile.FieldType)) ({ frames := 1, cells := mc0, slots := ms0, locals := 12 } : Room) (fun _ => True) [.ref o] G (post) := by
  refine g_enter (by decide +kernel) (Nat.le_of_ble_eq_true rfl) ?_
  intro p e s m below meth c ls hx hb hr hts hown hlocks hml hin hz hX hK hG hS hl
  have hl : lv_has ls 2 [(0, .ref o)] := hl
  have hown : s.vm.findClass RX3 = some m.cls := hown
  have hMC : 0 + mc0 ≤ mc0 := Nat.le_of_eq (Nat.zero_add _)
  have hMS : 0 + ms0 ≤ ms0 := Nat.le_of_eq (Nat.zero_add _)
  unfold wp_X3_init at hvc
  refine lv_aload_n hx hb dX3_init_0 rfl (lv_at hl 0 rfl) ?_
  refine W.objInit hx hb hown (hts _ q1782) (hts _ q135) (hts _ q136) rfl (by rw [hml]; exact hl.1) rfl dX3_init_1 (Nat.le_of_ble_eq_true rfl) (Nat.le_of_ble_eq_true rfl) ?_
  refine W.eq (g2 := F0 m 4 ls []) rfl ?_
  refine lv_aload_n hx hb dX3_init_4 rfl (lv_at hl 0 rfl) ?_
  refine lv_sipush (v := nI 256) hx hb dX3_init_5 (by decide) ?_
  refine gw_newi hx hb (by exact hts _ q344) hK hG hS hz hvc hMC hMS (Nat.le_refl _) (Nat.le_refl _) dX3_init_8 (fun n1 q2 G3 H ce sl hvc_1 hG_2 hS_3 hMC_4 hMS_5 => ?_)
  clear hvc hG hS hMC hMS
  refine gw_putF (ty := .array .int) (C := RX3) (T := TX3) (N := 13) (own := RX3) hx hb hts in_X3 tyX3 tyX3_ok nmX3 hown hK hG_2 hS_3 hvc_1 rfl (by decide) (hts _ q1784) (fun _ h9 => h9) rfl hin rfl (by decide +kernel) rfl rfl dX3_init_10 (fun G4 H locs hvc_6 hG_7 hS_8 => ?_)
  clear hvc_1 hG_2 hS_3
  refine lv_aload_n hx hb dX3_init_13 rfl (lv_at hl 0 rfl) ?_
  refine lv_sipush (v := nI 256) hx hb dX3_init_14 (by decide) ?_
  refine gw_newi hx hb (by exact hts _ q344) hK hG_7 hS_8 hz hvc_6 hMC_4 hMS_5 (Nat.le_refl _) (Nat.le_refl _) dX3_init_17 (fun n5 q6 G7 H ce sl hvc_9 hG_10 hS_11 hMC_12 hMS_13 => ?_)
  clear hvc_6 hG_7 hS_8 hMC_4 hMS_5
  refine gw_putF (ty := .array .int) (C := RX3) (T := TX3) (N := 13) (own := RX3) hx hb hts in_X3 tyX3 tyX3_ok nmX3 hown hK hG_10 hS_11 hvc_9 rfl (by decide) (hts _ q1785) (fun _ h9 => h9) rfl hin rfl (by decide +kernel) rfl rfl dX3_init_19 (fun G8 H locs hvc_14 hG_15 hS_16 => ?_)
  clear hvc_9 hG_10 hS_11
  refine lv_aload_n hx hb dX3_init_22 rfl (lv_at hl 0 rfl) ?_
  refine lv_sipush (v := nI 1536) hx hb dX3_init_23 (by decide) ?_
  refine gw_newi hx hb (by exact hts _ q344) hK hG_15 hS_16 hz hvc_14 hMC_12 hMS_13 (Nat.le_refl _) (Nat.le_refl _) dX3_init_26 (fun n9 q10 G11 H ce sl hvc_17 hG_18 hS_19 hMC_20 hMS_21 => ?_)
  clear hvc_14 hG_15 hS_16 hMC_12 hMS_13
  refine gw_putF (ty := .array .int) (C := RX3) (T := TX3) (N := 13) (own := RX3) hx hb hts in_X3 tyX3 tyX3_ok nmX3 hown hK hG_18 hS_19 hvc_17 rfl (by decide) (hts _ q1786) (fun _ h9 => h9) rfl hin rfl (by decide +kernel) rfl rfl dX3_init_28 (fun G12 H locs hvc_22 hG_23 hS_24 => ?_)
  clear hvc_17 hG_18 hS_19
  refine lv_aload_n hx hb dX3_init_31 rfl (lv_at hl 0 rfl) ?_
  refine lv_sipush (v := nI 256) hx hb dX3_init_32 (by decide) ?_
  refine gw_newi hx hb (by exact hts _ q344) hK hG_23 hS_24 hz hvc_22 hMC_20 hMS_21 (Nat.le_refl _) (Nat.le_refl _) dX3_init_35 (fun n13 q14 G15 H ce sl hvc_25 hG_26 hS_27 hMC_28 hMS_29 => ?_)
  clear hvc_22 hG_23 hS_24 hMC_20 hMS_21
  refine gw_putF (ty := .array .int) (C := RX3) (T := TX3) (N := 13) (own := RX3) hx hb hts in_X3 tyX3 tyX3_ok nmX3 hown hK hG_26 hS_27 hvc_25 rfl (by decide) (hts _ q1788) (fun _ h9 => h9) rfl hin rfl (by decide +kernel) rfl rfl dX3_init_37 (fun G16 H locs hvc_30 hG_31 hS_32 => ?_)
  clear hvc_25 hG_26 hS_27
  refine lv_aload_n hx hb dX3_init_40 rfl (lv_at hl 0 rfl) ?_
  refine lv_bipush (v := nI 60) hx hb dX3_init_41 (by decide) ?_
  refine gw_newi hx hb (by exact hts _ q344) hK hG_31 hS_32 hz hvc_30 hMC_28 hMS_29 (Nat.le_refl _) (Nat.le_refl _) dX3_init_43 (fun n17 q18 G19 H ce sl hvc_33 hG_34 hS_35 hMC_36 hMS_37 => ?_)
  clear hvc_30 hG_31 hS_32 hMC_28 hMS_29
  refine gw_putF (ty := .array .int) (C := RX3) (T := TX3) (N := 13) (own := RX3) hx hb hts in_X3 tyX3 tyX3_ok nmX3 hown hK hG_34 hS_35 hvc_33 rfl (by decide) (hts _ q1790) (fun _ h9 => h9) rfl hin rfl (by decide +kernel) rfl rfl dX3_init_45 (fun G20 H locs hvc_38 hG_39 hS_40 => ?_)
  clear hvc_33 hG_34 hS_35
  refine lv_aload_n hx hb dX3_init_48 rfl (lv_at hl 0 rfl) ?_
  refine lv_bipush (v := nI 124) hx hb dX3_init_49 (by decide) ?_
  refine gw_newi hx hb (by exact hts _ q344) hK hG_39 hS_40 hz hvc_38 hMC_36 hMS_37 (Nat.le_refl _) (Nat.le_refl _) dX3_init_51 (fun n21 q22 G23 H ce sl hvc_41 hG_42 hS_43 hMC_44 hMS_45 => ?_)
  clear hvc_38 hG_39 hS_40 hMC_36 hMS_37
  refine gw_putF (ty := .array .int) (C := RX3) (T := TX3) (N := 13) (own := RX3) hx hb hts in_X3 tyX3 tyX3_ok nmX3 hown hK hG_42 hS_43 hvc_41 rfl (by decide) (hts _ q1794) (fun _ h9 => h9) rfl hin rfl (by decide +kernel) rfl rfl dX3_init_53 (fun G24 H locs hvc_46 hG_47 hS_48 => ?_)
  clear hvc_41 hG_42 hS_43
  refine lv_aload_n hx hb dX3_init_56 rfl (lv_at hl 0 rfl) ?_
  refine lv_iconst (v := nI 0) hx hb dX3_init_57 (by decide) ?_
  refine gw_put (ty := .int) (C := RX3) (T := TX3) (N := 13) (own := RX3) hx hb hts in_X3 tyX3 tyX3_ok nmX3 hown hK hG_47 hS_48 hvc_46 rfl (by decide) (hts _ q1783) (fun _ h9 => h9) rfl (by decide +kernel) rfl rfl dX3_init_58 (fun G25 H locs hvc_49 hG_50 hS_51 => ?_)
  clear hvc_46 hG_47 hS_48
  refine lv_iconst (v := nI 0) hx hb dX3_init_61 (by decide) ?_
  have lp63 : ∀ (n63 : Nat) (y0 : Nat) (y1 : Int32) (G : g_G) (mc : Nat) (ms : Nat) (H : Heap) (locs : List Loc) (ls : Array Slot) (ce sl : Nat), wp_X3_init_63 E post n63 y0 y1 G mc ms → g_H E G H → va_S (g_A E) s.heap H locs → lv_has ls 2 [(0, .ref y0), (1, .int y1)] → ce + mc ≤ mc0 → sl + ms ≤ ms0 → W p l e ({ frames := 1, cells := mc0, slots := ms0, locals := 12 } : Room) s m ([.ref o] : List Value).toArray below meth c H locs ce sl (MQ below (va_Qv (post) (g_Bk E) (g_A E)) ([.ref o] : List Value).toArray s mc0 ms0 (g_A E)) (F0 m 63 ls []) := by
    clear hvc_49 hG_50 hS_51 hl hMC_44 hMS_45
    intro n63
    induction n63 with
    | zero =>
      intro y0 y1 G mc ms H locs ls ce sl hvc_52 hG_53 hS_54 hl_55 hMC_56 hMS_57
      exact False.elim hvc_52
    | succ n63 ih63 =>
      intro y0 y1 G mc ms H locs ls ce sl hvc_58 hG_59 hS_60 hl_61 hMC_62 hMS_63
      refine lv_iload_n hx hb dX3_init_63 rfl (lv_at hl_61 1 rfl) ?_
      refine lv_iconst (v := nI 5) hx hb dX3_init_64 (by decide) ?_
      refine lv_icmp_ge (tgt := 83) hx hb dX3_init_65 (by decide) (fun h9 => ?_) (fun h9 => ?_)
      · replace hvc_58 := hvc_58.1 h9
        refine lv_iconst (v := nI 0) hx hb dX3_init_83 (by decide) ?_
        have lp85 : ∀ (n85 : Nat) (y0 : Nat) (y1 : Int32) (G : g_G) (mc : Nat) (ms : Nat) (H : Heap) (locs : List Loc) (ls : Array Slot) (ce sl : Nat), wp_X3_init_85 E post n85 y0 y1 G mc ms → g_H E G H → va_S (g_A E) s.heap H locs → lv_has ls 2 [(0, .ref y0), (1, .int y1)] → ce + mc ≤ mc0 → sl + ms ≤ ms0 → W p l e ({ frames := 1, cells := mc0, slots := ms0, locals := 12 } : Room) s m ([.ref o] : List Value).toArray below meth c H locs ce sl (MQ below (va_Qv (post) (g_Bk E) (g_A E)) ([.ref o] : List Value).toArray s mc0 ms0 (g_A E)) (F0 m 85 ls []) := by
          clear hvc_58 hG_59 hS_60 hl_61 hMC_62 hMS_63
          intro n85
          induction n85 with
          | zero =>
            intro y0 y1 G mc ms H locs ls ce sl hvc_64 hG_65 hS_66 hl_67 hMC_68 hMS_69
            exact False.elim hvc_64
          | succ n85 ih85 =>
            intro y0 y1 G mc ms H locs ls ce sl hvc_70 hG_71 hS_72 hl_73 hMC_74 hMS_75
            refine lv_iload_n hx hb dX3_init_85 rfl (lv_at hl_73 1 rfl) ?_
            refine lv_iconst (v := nI 4) hx hb dX3_init_86 (by decide) ?_
            refine lv_icmp_ge (tgt := 106) hx hb dX3_init_87 (by decide) (fun h9 => ?_) (fun h9 => ?_)
            · replace hvc_70 := hvc_70.1 h9
              exact g_vret hx hb hr hlocks (by show _ ≤ mc0; omega) (by show _ ≤ ms0; omega) hG_71 hS_72 hvc_70 dX3_init_106
            · replace hvc_70 := hvc_70.2 h9
              refine lv_aload_n hx hb dX3_init_90 rfl (lv_at hl_73 0 rfl) ?_
              refine gw_gr (C := RX3) (T := TX3) (N := 13) (own := RX3) hx hb hts in_X3 hown hK hG_71 hvc_70 rfl (by decide) (hts _ q1784) (fun _ h9 => h9) dX3_init_91 (fun x26 hvc_76 => ?_)
              clear hvc_70
              refine lv_iconst (v := nI 5) hx hb dX3_init_94 (by decide) ?_
              refine lv_iload_n hx hb dX3_init_95 rfl (lv_at hl_73 1 rfl) ?_
              refine lv_iadd hx hb dX3_init_96 ?_
              refine lv_bipush (v := nI 100) hx hb dX3_init_97 (by decide) ?_
              refine gw_ist hx hb hK hG_71 hS_72 hvc_76 dX3_init_99 (fun G27 H locs hvc_77 hG_78 hS_79 => ?_)
              clear hvc_76 hG_71 hS_72
              refine lv_iinc (k := 1) (v := y1 + (nI 1)) (lv' := [(1, .int (y1 + (nI 1))), (0, .ref y0)]) hx hb dX3_init_100 hl_73 rfl (congrArg (y1 + ·) (by decide : Int32.ofInt (1) = nI 1)) (by decide) rfl (fun ls hl_80 => ?_)
              clear hl_73
              refine lv_goto (tgt := 85) hx hb dX3_init_103 (by decide) ?_
              exact ih85 y0 (y1 + (nI 1)) G27 mc ms _ _ _ _ _ hvc_77 hG_78 hS_79 (lv_sub hl_80 [1, 0] rfl) hMC_74 hMS_75
        refine lv_istore_n (lv' := [(1, .int (nI 0)), (0, .ref y0)]) hx hb dX3_init_84 rfl hl_61 (by decide) rfl (fun ls hl_81 => ?_)
        clear hl_61
        obtain ⟨nf85, hvc_58⟩ := hvc_58
        exact lp85 nf85 y0 (nI 0) G mc ms _ _ _ _ _ hvc_58 hG_59 hS_60 (lv_sub hl_81 [1, 0] rfl) hMC_62 hMS_63
      · replace hvc_58 := hvc_58.2 h9
        refine lv_aload_n hx hb dX3_init_68 rfl (lv_at hl_61 0 rfl) ?_
        refine gw_gr (C := RX3) (T := TX3) (N := 13) (own := RX3) hx hb hts in_X3 hown hK hG_59 hvc_58 rfl (by decide) (hts _ q1784) (fun _ h9 => h9) dX3_init_69 (fun x28 hvc_82 => ?_)
        clear hvc_58
        refine lv_iconst (v := nI 0) hx hb dX3_init_72 (by decide) ?_
        refine lv_iload_n hx hb dX3_init_73 rfl (lv_at hl_61 1 rfl) ?_
        refine lv_iadd hx hb dX3_init_74 ?_
        refine lv_iconst (v := nI 1) hx hb dX3_init_75 (by decide) ?_
        refine gw_ist hx hb hK hG_59 hS_60 hvc_82 dX3_init_76 (fun G29 H locs hvc_83 hG_84 hS_85 => ?_)
        clear hvc_82 hG_59 hS_60
        refine lv_iinc (k := 1) (v := y1 + (nI 1)) (lv' := [(1, .int (y1 + (nI 1))), (0, .ref y0)]) hx hb dX3_init_77 hl_61 rfl (congrArg (y1 + ·) (by decide : Int32.ofInt (1) = nI 1)) (by decide) rfl (fun ls hl_86 => ?_)
        clear hl_61
        refine lv_goto (tgt := 63) hx hb dX3_init_80 (by decide) ?_
        exact ih63 y0 (y1 + (nI 1)) G29 mc ms _ _ _ _ _ hvc_83 hG_84 hS_85 (lv_sub hl_86 [1, 0] rfl) hMC_62 hMS_63
  refine lv_istore_n (lv' := [(1, .int (nI 0)), (0, .ref o)]) hx hb dX3_init_62 rfl hl (by decide) rfl (fun ls hl_87 => ?_)
  clear hl
  obtain ⟨nf63, hvc_49⟩ := hvc_49
  exact lp63 nf63 o (nI 0) G25 (mc0 - 1 - 1 - 1 - 1 - 1 - 1) (ms0 - n1 - n5 - n9 - n13 - n17 - n21) _ _ _ _ _ hvc_49 hG_50 hS_51 (lv_sub hl_87 [1, 0] rfl) hMC_44 hMS_45
set_option maxHeartbeats 4000000 in
set_option maxRecDepth 100000 in
theorem met_X3_thrown (l : Launch) (E : g_E) (G : g_G) (o : Nat) (post : Int32 → Prop) (hvc : wp_X3_thrown E G o post) : g_MI E l yX3_thrown (ws_ yX3_thrown cX3_thrown 1 (Option.some Jvm.ClassFile.FieldType.int)) ({ frames := 0, cells := 0, slots := 0, locals := 0 } : Room) (fun _ => True) [.ref o] G (fun v G9 => G9 = G ∧ post v) := by
  refine g_enter (by decide +kernel) (Nat.le_of_ble_eq_true rfl) ?_
  intro p e s m below meth c ls hx hb hr hts hown hlocks hml hin hz hX hK hG hS hl
  have hl : lv_has ls 1 [(0, .ref o)] := hl
  have hown : s.vm.findClass RX3 = some m.cls := hown
  unfold wp_X3_thrown at hvc
  refine lv_aload_n hx hb dX3_thrown_0 rfl (lv_at hl 0 rfl) ?_
  refine gw_gi (C := RX3) (T := TX3) (N := 13) (own := RX3) hx hb hts in_X3 hown hK hG hvc rfl (by decide) (hts _ q1783) (fun _ h9 => h9) dX3_thrown_1 (fun x1 hvc_1 => ?_)
  clear hvc
  exact g_iret hx hb hr hlocks (Nat.zero_le _) (Nat.zero_le _) hG hS rfl ⟨rfl, hvc_1⟩ dX3_thrown_4
set_option maxHeartbeats 4000000 in
set_option maxRecDepth 100000 in
theorem met_X3_in (l : Launch) (E : g_E) (G : g_G) (p1 : Int32) (p2 : Int32) (p3 : Int32) (post : Int32 → Prop) (hvc : wp_X3_in E G p1 p2 p3 post) : g_MI E l yX3_in (ws_ yX3_in cX3_in 3 (Option.some Jvm.ClassFile.FieldType.boolean)) ({ frames := 0, cells := 0, slots := 0, locals := 0 } : Room) (fun _ => True) [.int p1, .int p2, .int p3] G (fun v G9 => G9 = G ∧ post v) := by
  refine g_enter (by decide +kernel) (Nat.le_of_ble_eq_true rfl) ?_
  intro p e s m below meth c ls hx hb hr hts hown hlocks hml hin hz hX hK hG hS hl
  have hl : lv_has ls 3 [(0, .int p1), (1, .int p2), (2, .int p3)] := hl
  have hown : s.vm.findClass RX3 = some m.cls := hown
  unfold wp_X3_in at hvc
  refine lv_iload_n hx hb dX3_in_0 rfl (lv_at hl 0 rfl) ?_
  refine lv_iload_n hx hb dX3_in_1 rfl (lv_at hl 1 rfl) ?_
  refine lv_icmp_lt (tgt := 14) hx hb dX3_in_2 (by decide) (fun h9 => ?_) (fun h9 => ?_)
  · replace hvc := hvc.1 h9
    refine lv_iconst (v := nI 0) hx hb dX3_in_14 (by decide) ?_
    exact g_iret hx hb hr hlocks (Nat.zero_le _) (Nat.zero_le _) hG hS rfl ⟨rfl, hvc⟩ dX3_in_15
  · replace hvc := hvc.2 h9
    refine lv_iload_n hx hb dX3_in_5 rfl (lv_at hl 0 rfl) ?_
    refine lv_iload_n hx hb dX3_in_6 rfl (lv_at hl 2 rfl) ?_
    refine lv_icmp_gt (tgt := 14) hx hb dX3_in_7 (by decide) (fun h9 => ?_) (fun h9 => ?_)
    · replace hvc := hvc.1 h9
      refine lv_iconst (v := nI 0) hx hb dX3_in_14 (by decide) ?_
      exact g_iret hx hb hr hlocks (Nat.zero_le _) (Nat.zero_le _) hG hS rfl ⟨rfl, hvc⟩ dX3_in_15
    · replace hvc := hvc.2 h9
      refine lv_iconst (v := nI 1) hx hb dX3_in_10 (by decide) ?_
      refine lv_goto (tgt := 15) hx hb dX3_in_11 (by decide) ?_
      exact g_iret hx hb hr hlocks (Nat.zero_le _) (Nat.zero_le _) hG hS rfl ⟨rfl, hvc⟩ dX3_in_15
set_option maxHeartbeats 4000000 in
set_option maxRecDepth 100000 in
theorem met_X3_isStore (l : Launch) (E : g_E) (G : g_G) (p1 : Int32) (post : Int32 → Prop) (hvc : wp_X3_isStore E G p1 post) : g_MI E l yX3_isStore (ws_ yX3_isStore cX3_isStore 1 (Option.some Jvm.ClassFile.FieldType.boolean)) ({ frames := 1, cells := 0, slots := 0, locals := 22 } : Room) (fun _ => True) [.int p1] G (fun v G9 => G9 = G ∧ post v) := by
  refine g_enter (by decide +kernel) (Nat.le_of_ble_eq_true rfl) ?_
  intro p e s m below meth c ls hx hb hr hts hown hlocks hml hin hz hX hK hG hS hl
  have hl : lv_has ls 1 [(0, .int p1)] := hl
  have hown : s.vm.findClass RX3 = some m.cls := hown
  unfold wp_X3_isStore at hvc
  refine lv_iload_n hx hb dX3_isStore_0 rfl (lv_at hl 0 rfl) ?_
  refine lv_iconst (v := nI 0) hx hb dX3_isStore_1 (by decide) ?_
  refine lv_iconst (v := nI 3) hx hb dX3_isStore_2 (by decide) ?_
  refine gw_cSIP (As := [.int p1, .int (nI 0), .int (nI 3)]) (rest := [])  ⟨hx, hb, hml, hown, hts⟩ (met_X3_in l E G p1 (nI 0) (nI 3) _ hvc) (va_cwS 3 hts (lw_S q1834 q1835 q104 q1836) rfl rfl rfl (by decide +kernel) ⟨Nat.le_of_ble_eq_true rfl, Nat.le_of_ble_eq_true rfl⟩) (Nat.zero_le _) (Nat.zero_le _) (g_St0 E) hz trivial hK hG hS rfl hl.1 rfl (Nat.le_of_ble_eq_true rfl) dX3_isStore_3 (fun x1 H locs hvc_1 hG_2 hS_3 => ?_)
  clear hvc hG hS
  exact g_iret hx hb hr hlocks (Nat.zero_le _) (Nat.zero_le _) hG_2 hS_3 hvc_1.1 ⟨rfl, hvc_1.2⟩ dX3_isStore_6
set_option maxHeartbeats 4000000 in
set_option maxRecDepth 100000 in
theorem met_X3_fails (l : Launch) (E : g_E) (G : g_G) (o : Nat) (p1 : Int32) (post : Int32 → g_G → Prop) (hvc : wp_X3_fails E G o p1 post) : g_MI E l yX3_fails (ws_ yX3_fails cX3_fails 2 (Option.some Jvm.ClassFile.FieldType.int)) ({ frames := 0, cells := 0, slots := 0, locals := 0 } : Room) (fun _ => True) [.ref o, .int p1] G (post) := by
  refine g_enter (by decide +kernel) (Nat.le_of_ble_eq_true rfl) ?_
  intro p e s m below meth c ls hx hb hr hts hown hlocks hml hin hz hX hK hG hS hl
  have hl : lv_has ls 2 [(0, .ref o), (1, .int p1)] := hl
  have hown : s.vm.findClass RX3 = some m.cls := hown
  unfold wp_X3_fails at hvc
  refine lv_aload_n hx hb dX3_fails_0 rfl (lv_at hl 0 rfl) ?_
  refine lv_iload_n hx hb dX3_fails_1 rfl (lv_at hl 1 rfl) ?_
  refine gw_put (ty := .int) (C := RX3) (T := TX3) (N := 13) (own := RX3) hx hb hts in_X3 tyX3 tyX3_ok nmX3 hown hK hG hS hvc rfl (by decide) (hts _ q1783) (fun _ h9 => h9) rfl (by decide +kernel) rfl rfl dX3_fails_2 (fun G1 H locs hvc_1 hG_2 hS_3 => ?_)
  clear hvc hG hS
  refine lv_iconst (v := nI 0) hx hb dX3_fails_5 (by decide) ?_
  exact g_iret hx hb hr hlocks (Nat.zero_le _) (Nat.zero_le _) hG_2 hS_3 rfl hvc_1 dX3_fails_6
set_option maxHeartbeats 4000000 in
set_option maxRecDepth 100000 in
theorem met_X3_areStores (l : Launch) (E : g_E) (G : g_G) (p1 : Int32) (p2 : Int32) (post : Int32 → Prop) (hvc : wp_X3_areStores E G p1 p2 post) : g_MI E l yX3_areStores (ws_ yX3_areStores cX3_areStores 2 (Option.some Jvm.ClassFile.FieldType.boolean)) ({ frames := 1, cells := 0, slots := 0, locals := 22 } : Room) (fun _ => True) [.int p1, .int p2] G (fun v G9 => G9 = G ∧ post v) := by
  refine g_enter (by decide +kernel) (Nat.le_of_ble_eq_true rfl) ?_
  intro p e s m below meth c ls hx hb hr hts hown hlocks hml hin hz hX hK hG hS hl
  have hl : lv_has ls 2 [(0, .int p1), (1, .int p2)] := hl
  have hown : s.vm.findClass RX3 = some m.cls := hown
  unfold wp_X3_areStores at hvc
  refine lv_iload_n hx hb dX3_areStores_0 rfl (lv_at hl 1 rfl) ?_
  refine lv_iconst (v := nI 1) hx hb dX3_areStores_1 (by decide) ?_
  refine lv_bipush (v := nI 15) hx hb dX3_areStores_2 (by decide) ?_
  refine gw_cSIP (As := [.int p2, .int (nI 1), .int (nI 15)]) (rest := [])  ⟨hx, hb, hml, hown, hts⟩ (met_X3_in l E G p2 (nI 1) (nI 15) _ hvc) (va_cwS 3 hts (lw_S q1834 q1835 q104 q1836) rfl rfl rfl (by decide +kernel) ⟨Nat.le_of_ble_eq_true rfl, Nat.le_of_ble_eq_true rfl⟩) (Nat.zero_le _) (Nat.zero_le _) (g_St0 E) hz trivial hK hG hS rfl hl.1 rfl (Nat.le_of_ble_eq_true rfl) dX3_areStores_4 (fun x1 H locs hvc_1 hG_2 hS_3 => ?_)
  clear hvc hG hS
  refine lv_if_eq (tgt := 22) hx hb dX3_areStores_7 (by decide) (fun h9 => ?_) (fun h9 => ?_)
  · replace hvc_1 := hvc_1.1 h9
    refine lv_iconst (v := nI 0) hx hb dX3_areStores_22 (by decide) ?_
    exact g_iret hx hb hr hlocks (Nat.zero_le _) (Nat.zero_le _) hG_2 hS_3 rfl ⟨rfl, hvc_1⟩ dX3_areStores_23
  · replace hvc_1 := hvc_1.2 h9
    refine lv_iload_n hx hb dX3_areStores_10 rfl (lv_at hl 1 rfl) ?_
    refine lv_iload_n hx hb dX3_areStores_11 rfl (lv_at hl 0 rfl) ?_
    refine lv_ishr hx hb dX3_areStores_12 ?_
    refine lv_iconst (v := nI 1) hx hb dX3_areStores_13 (by decide) ?_
    refine lv_iand hx hb dX3_areStores_14 ?_
    refine lv_if_ne (tgt := 22) hx hb dX3_areStores_15 (by decide) (fun h9 => ?_) (fun h9 => ?_)
    · replace hvc_1 := hvc_1.1 h9
      refine lv_iconst (v := nI 0) hx hb dX3_areStores_22 (by decide) ?_
      exact g_iret hx hb hr hlocks (Nat.zero_le _) (Nat.zero_le _) hG_2 hS_3 rfl ⟨rfl, hvc_1⟩ dX3_areStores_23
    · replace hvc_1 := hvc_1.2 h9
      refine lv_iconst (v := nI 1) hx hb dX3_areStores_18 (by decide) ?_
      refine lv_goto (tgt := 23) hx hb dX3_areStores_19 (by decide) ?_
      exact g_iret hx hb hr hlocks (Nat.zero_le _) (Nat.zero_le _) hG_2 hS_3 rfl ⟨rfl, hvc_1⟩ dX3_areStores_23
set_option maxHeartbeats 4000000 in
set_option maxRecDepth 100000 in
theorem met_X3_canBegin (l : Launch) (E : g_E) (G : g_G) (o : Nat) (post : Int32 → Prop) (hvc : wp_X3_canBegin E G o post) : g_MI E l yX3_canBegin (ws_ yX3_canBegin cX3_canBegin 1 (Option.some Jvm.ClassFile.FieldType.boolean)) ({ frames := 0, cells := 0, slots := 0, locals := 0 } : Room) (fun _ => True) [.ref o] G (fun v G9 => G9 = G ∧ post v) := by
  refine g_enter (by decide +kernel) (Nat.le_of_ble_eq_true rfl) ?_
  intro p e s m below meth c ls hx hb hr hts hown hlocks hml hin hz hX hK hG hS hl
  have hl : lv_has ls 1 [(0, .ref o)] := hl
  have hown : s.vm.findClass RX3 = some m.cls := hown
  unfold wp_X3_canBegin at hvc
  refine lv_aload_n hx hb dX3_canBegin_0 rfl (lv_at hl 0 rfl) ?_
  refine gw_gr (C := RX3) (T := TX3) (N := 13) (own := RX3) hx hb hts in_X3 hown hK hG hvc rfl (by decide) (hts _ q1784) (fun _ h9 => h9) dX3_canBegin_1 (fun x1 hvc_1 => ?_)
  clear hvc
  refine lv_iconst (v := nI 4) hx hb dX3_canBegin_4 (by decide) ?_
  refine gw_ild hx hb hK hG hvc_1 dX3_canBegin_5 (fun x2 hvc_2 => ?_)
  clear hvc_1
  refine lv_iconst (v := nI 1) hx hb dX3_canBegin_6 (by decide) ?_
  refine lv_icmp_ne (tgt := 26) hx hb dX3_canBegin_7 (by decide) (fun h9 => ?_) (fun h9 => ?_)
  · replace hvc_2 := hvc_2.1 h9
    refine lv_iconst (v := nI 0) hx hb dX3_canBegin_26 (by decide) ?_
    exact g_iret hx hb hr hlocks (Nat.zero_le _) (Nat.zero_le _) hG hS rfl ⟨rfl, hvc_2⟩ dX3_canBegin_27
  · replace hvc_2 := hvc_2.2 h9
    refine lv_aload_n hx hb dX3_canBegin_10 rfl (lv_at hl 0 rfl) ?_
    refine gw_gr (C := RX3) (T := TX3) (N := 13) (own := RX3) hx hb hts in_X3 hown hK hG hvc_2 rfl (by decide) (hts _ q1784) (fun _ h9 => h9) dX3_canBegin_11 (fun x3 hvc_3 => ?_)
    clear hvc_2
    refine lv_bipush (v := nI 9) hx hb dX3_canBegin_14 (by decide) ?_
    refine gw_ild hx hb hK hG hvc_3 dX3_canBegin_16 (fun x4 hvc_4 => ?_)
    clear hvc_3
    refine lv_bipush (v := nI 8) hx hb dX3_canBegin_17 (by decide) ?_
    refine lv_icmp_ge (tgt := 26) hx hb dX3_canBegin_19 (by decide) (fun h9 => ?_) (fun h9 => ?_)
    · replace hvc_4 := hvc_4.1 h9
      refine lv_iconst (v := nI 0) hx hb dX3_canBegin_26 (by decide) ?_
      exact g_iret hx hb hr hlocks (Nat.zero_le _) (Nat.zero_le _) hG hS rfl ⟨rfl, hvc_4⟩ dX3_canBegin_27
    · replace hvc_4 := hvc_4.2 h9
      refine lv_iconst (v := nI 1) hx hb dX3_canBegin_22 (by decide) ?_
      refine lv_goto (tgt := 27) hx hb dX3_canBegin_23 (by decide) ?_
      exact g_iret hx hb hr hlocks (Nat.zero_le _) (Nat.zero_le _) hG hS rfl ⟨rfl, hvc_4⟩ dX3_canBegin_27
set_option maxHeartbeats 4000000 in
set_option maxRecDepth 100000 in
theorem met_X3_recordsState (l : Launch) (E : g_E) (G : g_G) (o : Nat) (post : g_G → Prop) (hvc : wp_X3_recordsState E G o post) : g_MV E l yX3_recordsState (ws_ yX3_recordsState cX3_recordsState 2 (Option.none : Option Jvm.ClassFile.FieldType)) ({ frames := 0, cells := 0, slots := 0, locals := 0 } : Room) (fun _ => True) [.ref o] G (post) := by
  refine g_enter (by decide +kernel) (Nat.le_of_ble_eq_true rfl) ?_
  intro p e s m below meth c ls hx hb hr hts hown hlocks hml hin hz hX hK hG hS hl
  have hl : lv_has ls 2 [(0, .ref o)] := hl
  have hown : s.vm.findClass RX3 = some m.cls := hown
  unfold wp_X3_recordsState at hvc
  refine lv_aload_n hx hb dX3_recordsState_0 rfl (lv_at hl 0 rfl) ?_
  refine gw_gi (C := RX3) (T := TX3) (N := 13) (own := RX3) hx hb hts in_X3 hown hK hG hvc rfl (by decide) (hts _ q1787) (fun _ h9 => h9) dX3_recordsState_1 (fun x1 hvc_1 => ?_)
  clear hvc
  refine lv_bipush (v := nI 6) hx hb dX3_recordsState_4 (by decide) ?_
  have jn50 : ∀ (y0 : Nat) (G : g_G) (H : Heap) (locs : List Loc) (ls : Array Slot), wp_X3_recordsState_50 E post y0 G → g_H E G H → va_S (g_A E) s.heap H locs → lv_has ls 2 [(0, .ref y0)] → W p l e ({ frames := 0, cells := 0, slots := 0, locals := 0 } : Room) s m ([.ref o] : List Value).toArray below meth c H locs 0 0 (MQ below (va_Qv (post) (g_Bk E) (g_A E)) ([.ref o] : List Value).toArray s 0 0 (g_A E)) (F0 m 50 ls []) := by
    clear hvc_1 hG hS hl
    intro y0 G H locs ls hvc_2 hG_3 hS_4 hl_5
    refine lv_iconst (v := nI 0) hx hb dX3_recordsState_50 (by decide) ?_
    have lp52 : ∀ (n52 : Nat) (y0 : Nat) (y1 : Int32) (G : g_G) (H : Heap) (locs : List Loc) (ls : Array Slot), wp_X3_recordsState_52 E post n52 y0 y1 G → g_H E G H → va_S (g_A E) s.heap H locs → lv_has ls 2 [(0, .ref y0), (1, .int y1)] → W p l e ({ frames := 0, cells := 0, slots := 0, locals := 0 } : Room) s m ([.ref o] : List Value).toArray below meth c H locs 0 0 (MQ below (va_Qv (post) (g_Bk E) (g_A E)) ([.ref o] : List Value).toArray s 0 0 (g_A E)) (F0 m 52 ls []) := by
      clear hvc_2 hG_3 hS_4 hl_5
      intro n52
      induction n52 with
      | zero =>
        intro y0 y1 G H locs ls hvc_6 hG_7 hS_8 hl_9
        exact False.elim hvc_6
      | succ n52 ih52 =>
        intro y0 y1 G H locs ls hvc_10 hG_11 hS_12 hl_13
        refine lv_iload_n hx hb dX3_recordsState_52 rfl (lv_at hl_13 1 rfl) ?_
        refine lv_sipush (v := nI 256) hx hb dX3_recordsState_53 (by decide) ?_
        refine lv_icmp_ge (tgt := 86) hx hb dX3_recordsState_56 (by decide) (fun h9 => ?_) (fun h9 => ?_)
        · replace hvc_10 := hvc_10.1 h9
          refine lv_aload_n hx hb dX3_recordsState_86 rfl (lv_at hl_13 0 rfl) ?_
          refine lv_dup hx hb dX3_recordsState_87 rfl ?_
          refine gw_gi (C := RX3) (T := TX3) (N := 13) (own := RX3) hx hb hts in_X3 hown hK hG_11 hvc_10 rfl (by decide) (hts _ q1787) (fun _ h9 => h9) dX3_recordsState_88 (fun x2 hvc_14 => ?_)
          clear hvc_10
          refine lv_iconst (v := nI 1) hx hb dX3_recordsState_91 (by decide) ?_
          refine lv_iadd hx hb dX3_recordsState_92 ?_
          refine gw_put (ty := .int) (C := RX3) (T := TX3) (N := 13) (own := RX3) hx hb hts in_X3 tyX3 tyX3_ok nmX3 hown hK hG_11 hS_12 hvc_14 rfl (by decide) (hts _ q1787) (fun _ h9 => h9) rfl (by decide +kernel) rfl rfl dX3_recordsState_93 (fun G3 H locs hvc_15 hG_16 hS_17 => ?_)
          clear hvc_14 hG_11 hS_12
          exact g_vret hx hb hr hlocks (Nat.zero_le _) (Nat.zero_le _) hG_16 hS_17 hvc_15 dX3_recordsState_96
        · replace hvc_10 := hvc_10.2 h9
          refine lv_aload_n hx hb dX3_recordsState_59 rfl (lv_at hl_13 0 rfl) ?_
          refine gw_gr (C := RX3) (T := TX3) (N := 13) (own := RX3) hx hb hts in_X3 hown hK hG_11 hvc_10 rfl (by decide) (hts _ q1786) (fun _ h9 => h9) dX3_recordsState_60 (fun x4 hvc_18 => ?_)
          clear hvc_10
          refine lv_sipush (v := nI 256) hx hb dX3_recordsState_63 (by decide) ?_
          refine lv_aload_n hx hb dX3_recordsState_66 rfl (lv_at hl_13 0 rfl) ?_
          refine gw_gi (C := RX3) (T := TX3) (N := 13) (own := RX3) hx hb hts in_X3 hown hK hG_11 hvc_18 rfl (by decide) (hts _ q1787) (fun _ h9 => h9) dX3_recordsState_67 (fun x5 hvc_19 => ?_)
          clear hvc_18
          refine lv_imul hx hb dX3_recordsState_70 ?_
          refine lv_iload_n hx hb dX3_recordsState_71 rfl (lv_at hl_13 1 rfl) ?_
          refine lv_iadd hx hb dX3_recordsState_72 ?_
          refine lv_aload_n hx hb dX3_recordsState_73 rfl (lv_at hl_13 0 rfl) ?_
          refine gw_gr (C := RX3) (T := TX3) (N := 13) (own := RX3) hx hb hts in_X3 hown hK hG_11 hvc_19 rfl (by decide) (hts _ q1784) (fun _ h9 => h9) dX3_recordsState_74 (fun x6 hvc_20 => ?_)
          clear hvc_19
          refine lv_iload_n hx hb dX3_recordsState_77 rfl (lv_at hl_13 1 rfl) ?_
          refine gw_ild hx hb hK hG_11 hvc_20 dX3_recordsState_78 (fun x7 hvc_21 => ?_)
          clear hvc_20
          refine gw_ist hx hb hK hG_11 hS_12 hvc_21 dX3_recordsState_79 (fun G8 H locs hvc_22 hG_23 hS_24 => ?_)
          clear hvc_21 hG_11 hS_12
          refine lv_iinc (k := 1) (v := y1 + (nI 1)) (lv' := [(1, .int (y1 + (nI 1))), (0, .ref y0)]) hx hb dX3_recordsState_80 hl_13 rfl (congrArg (y1 + ·) (by decide : Int32.ofInt (1) = nI 1)) (by decide) rfl (fun ls hl_25 => ?_)
          clear hl_13
          refine lv_goto (tgt := 52) hx hb dX3_recordsState_83 (by decide) ?_
          exact ih52 y0 (y1 + (nI 1)) G8 _ _ _ hvc_22 hG_23 hS_24 (lv_sub hl_25 [1, 0] rfl)
    refine lv_istore_n (lv' := [(1, .int (nI 0)), (0, .ref y0)]) hx hb dX3_recordsState_51 rfl hl_5 (by decide) rfl (fun ls hl_26 => ?_)
    clear hl_5
    obtain ⟨nf52, hvc_2⟩ := hvc_2
    exact lp52 nf52 y0 (nI 0) G _ _ _ hvc_2 hG_3 hS_4 (lv_sub hl_26 [1, 0] rfl)
  refine lv_icmp_ne (tgt := 50) hx hb dX3_recordsState_6 (by decide) (fun h9 => ?_) (fun h9 => ?_)
  · replace hvc_1 := hvc_1.1 h9
    exact jn50 o G _ _ _ hvc_1 hG hS (lv_sub hl [0] rfl)
  · replace hvc_1 := hvc_1.2 h9
    refine lv_iconst (v := nI 0) hx hb dX3_recordsState_9 (by decide) ?_
    have lp11 : ∀ (n11 : Nat) (y0 : Nat) (y1 : Int32) (G : g_G) (H : Heap) (locs : List Loc) (ls : Array Slot), wp_X3_recordsState_11 E post (wp_X3_recordsState_50 E post) n11 y0 y1 G → g_H E G H → va_S (g_A E) s.heap H locs → lv_has ls 2 [(0, .ref y0), (1, .int y1)] → W p l e ({ frames := 0, cells := 0, slots := 0, locals := 0 } : Room) s m ([.ref o] : List Value).toArray below meth c H locs 0 0 (MQ below (va_Qv (post) (g_Bk E) (g_A E)) ([.ref o] : List Value).toArray s 0 0 (g_A E)) (F0 m 11 ls []) := by
      clear hvc_1 hG hS hl
      intro n11
      induction n11 with
      | zero =>
        intro y0 y1 G H locs ls hvc_27 hG_28 hS_29 hl_30
        exact False.elim hvc_27
      | succ n11 ih11 =>
        intro y0 y1 G H locs ls hvc_31 hG_32 hS_33 hl_34
        refine lv_iload_n hx hb dX3_recordsState_11 rfl (lv_at hl_34 1 rfl) ?_
        refine lv_sipush (v := nI 1280) hx hb dX3_recordsState_12 (by decide) ?_
        refine lv_icmp_ge (tgt := 40) hx hb dX3_recordsState_15 (by decide) (fun h9 => ?_) (fun h9 => ?_)
        · replace hvc_31 := hvc_31.1 h9
          refine lv_aload_n hx hb dX3_recordsState_40 rfl (lv_at hl_34 0 rfl) ?_
          refine lv_dup hx hb dX3_recordsState_41 rfl ?_
          refine gw_gi (C := RX3) (T := TX3) (N := 13) (own := RX3) hx hb hts in_X3 hown hK hG_32 hvc_31 rfl (by decide) (hts _ q1787) (fun _ h9 => h9) dX3_recordsState_42 (fun x9 hvc_35 => ?_)
          clear hvc_31
          refine lv_iconst (v := nI 1) hx hb dX3_recordsState_45 (by decide) ?_
          refine lv_isub hx hb dX3_recordsState_46 ?_
          refine gw_put (ty := .int) (C := RX3) (T := TX3) (N := 13) (own := RX3) hx hb hts in_X3 tyX3 tyX3_ok nmX3 hown hK hG_32 hS_33 hvc_35 rfl (by decide) (hts _ q1787) (fun _ h9 => h9) rfl (by decide +kernel) rfl rfl dX3_recordsState_47 (fun G10 H locs hvc_36 hG_37 hS_38 => ?_)
          clear hvc_35 hG_32 hS_33
          exact jn50 y0 G10 _ _ _ hvc_36 hG_37 hS_38 (lv_sub hl_34 [0] rfl)
        · replace hvc_31 := hvc_31.2 h9
          refine lv_aload_n hx hb dX3_recordsState_18 rfl (lv_at hl_34 0 rfl) ?_
          refine gw_gr (C := RX3) (T := TX3) (N := 13) (own := RX3) hx hb hts in_X3 hown hK hG_32 hvc_31 rfl (by decide) (hts _ q1786) (fun _ h9 => h9) dX3_recordsState_19 (fun x11 hvc_39 => ?_)
          clear hvc_31
          refine lv_iload_n hx hb dX3_recordsState_22 rfl (lv_at hl_34 1 rfl) ?_
          refine lv_aload_n hx hb dX3_recordsState_23 rfl (lv_at hl_34 0 rfl) ?_
          refine gw_gr (C := RX3) (T := TX3) (N := 13) (own := RX3) hx hb hts in_X3 hown hK hG_32 hvc_39 rfl (by decide) (hts _ q1786) (fun _ h9 => h9) dX3_recordsState_24 (fun x12 hvc_40 => ?_)
          clear hvc_39
          refine lv_iload_n hx hb dX3_recordsState_27 rfl (lv_at hl_34 1 rfl) ?_
          refine lv_sipush (v := nI 256) hx hb dX3_recordsState_28 (by decide) ?_
          refine lv_iadd hx hb dX3_recordsState_31 ?_
          refine gw_ild hx hb hK hG_32 hvc_40 dX3_recordsState_32 (fun x13 hvc_41 => ?_)
          clear hvc_40
          refine gw_ist hx hb hK hG_32 hS_33 hvc_41 dX3_recordsState_33 (fun G14 H locs hvc_42 hG_43 hS_44 => ?_)
          clear hvc_41 hG_32 hS_33
          refine lv_iinc (k := 1) (v := y1 + (nI 1)) (lv' := [(1, .int (y1 + (nI 1))), (0, .ref y0)]) hx hb dX3_recordsState_34 hl_34 rfl (congrArg (y1 + ·) (by decide : Int32.ofInt (1) = nI 1)) (by decide) rfl (fun ls hl_45 => ?_)
          clear hl_34
          refine lv_goto (tgt := 11) hx hb dX3_recordsState_37 (by decide) ?_
          exact ih11 y0 (y1 + (nI 1)) G14 _ _ _ hvc_42 hG_43 hS_44 (lv_sub hl_45 [1, 0] rfl)
    refine lv_istore_n (lv' := [(1, .int (nI 0)), (0, .ref o)]) hx hb dX3_recordsState_10 rfl hl (by decide) rfl (fun ls hl_46 => ?_)
    clear hl
    obtain ⟨nf11, hvc_1⟩ := hvc_1
    exact lp11 nf11 o (nI 0) G _ _ _ hvc_1 hG hS (lv_sub hl_46 [1, 0] rfl)
set_option maxHeartbeats 4000000 in
set_option maxRecDepth 100000 in
theorem met_X3_lay (l : Launch) (E : g_E) (G : g_G) (o : Nat) (p1 : Int32) (p2 : Int32) (p3 : Int32) (post : g_G → Prop) (hvc : wp_X3_lay E G o p1 p2 p3 post) : g_MV E l yX3_lay (ws_ yX3_lay cX3_lay 4 (Option.none : Option Jvm.ClassFile.FieldType)) ({ frames := 0, cells := 0, slots := 0, locals := 0 } : Room) (fun _ => True) [.ref o, .int p1, .int p2, .int p3] G (post) := by
  refine g_enter (by decide +kernel) (Nat.le_of_ble_eq_true rfl) ?_
  intro p e s m below meth c ls hx hb hr hts hown hlocks hml hin hz hX hK hG hS hl
  have hl : lv_has ls 4 [(0, .ref o), (1, .int p1), (2, .int p2), (3, .int p3)] := hl
  have hown : s.vm.findClass RX3 = some m.cls := hown
  unfold wp_X3_lay at hvc
  refine lv_aload_n hx hb dX3_lay_0 rfl (lv_at hl 0 rfl) ?_
  refine gw_gr (C := RX3) (T := TX3) (N := 13) (own := RX3) hx hb hts in_X3 hown hK hG hvc rfl (by decide) (hts _ q1784) (fun _ h9 => h9) dX3_lay_1 (fun x1 hvc_1 => ?_)
  clear hvc
  refine lv_bipush (v := nI 14) hx hb dX3_lay_4 (by decide) ?_
  refine lv_bipush (v := nI 7) hx hb dX3_lay_6 (by decide) ?_
  refine lv_iload_n hx hb dX3_lay_8 rfl (lv_at hl 1 rfl) ?_
  refine lv_imul hx hb dX3_lay_9 ?_
  refine lv_iadd hx hb dX3_lay_10 ?_
  refine lv_iload_n hx hb dX3_lay_11 rfl (lv_at hl 2 rfl) ?_
  refine lv_iadd hx hb dX3_lay_12 ?_
  refine lv_iload_n hx hb dX3_lay_13 rfl (lv_at hl 3 rfl) ?_
  refine gw_ist hx hb hK hG hS hvc_1 dX3_lay_14 (fun G2 H locs hvc_2 hG_3 hS_4 => ?_)
  clear hvc_1 hG hS
  exact g_vret hx hb hr hlocks (Nat.zero_le _) (Nat.zero_le _) hG_3 hS_4 hvc_2 dX3_lay_15
set_option maxHeartbeats 4000000 in
set_option maxRecDepth 100000 in
theorem met_X3_writes (l : Launch) (E : g_E) (G : g_G) (o : Nat) (p1 : Int32) (p2 : Int32) (p3 : Int32) (post : g_G → Prop) (hvc : wp_X3_writes E G o p1 p2 p3 post) : g_MV E l yX3_writes (ws_ yX3_writes cX3_writes 4 (Option.none : Option Jvm.ClassFile.FieldType)) ({ frames := 0, cells := 0, slots := 0, locals := 0 } : Room) (fun _ => True) [.ref o, .int p1, .int p2, .int p3] G (post) := by
  refine g_enter (by decide +kernel) (Nat.le_of_ble_eq_true rfl) ?_
  intro p e s m below meth c ls hx hb hr hts hown hlocks hml hin hz hX hK hG hS hl
  have hl : lv_has ls 4 [(0, .ref o), (1, .int p1), (2, .int p2), (3, .int p3)] := hl
  have hown : s.vm.findClass RX3 = some m.cls := hown
  unfold wp_X3_writes at hvc
  refine lv_aload_n hx hb dX3_writes_0 rfl (lv_at hl 0 rfl) ?_
  refine gw_gr (C := RX3) (T := TX3) (N := 13) (own := RX3) hx hb hts in_X3 hown hK hG hvc rfl (by decide) (hts _ q1784) (fun _ h9 => h9) dX3_writes_1 (fun x1 hvc_1 => ?_)
  clear hvc
  refine lv_bipush (v := nI 107) hx hb dX3_writes_4 (by decide) ?_
  refine lv_bipush (v := nI 16) hx hb dX3_writes_6 (by decide) ?_
  refine lv_iload_n hx hb dX3_writes_8 rfl (lv_at hl 1 rfl) ?_
  refine lv_imul hx hb dX3_writes_9 ?_
  refine lv_iadd hx hb dX3_writes_10 ?_
  refine lv_aload_n hx hb dX3_writes_11 rfl (lv_at hl 0 rfl) ?_
  refine gw_gr (C := RX3) (T := TX3) (N := 13) (own := RX3) hx hb hts in_X3 hown hK hG hvc_1 rfl (by decide) (hts _ q1784) (fun _ h9 => h9) dX3_writes_12 (fun x2 hvc_2 => ?_)
  clear hvc_1
  refine lv_bipush (v := nI 102) hx hb dX3_writes_15 (by decide) ?_
  refine lv_iload_n hx hb dX3_writes_17 rfl (lv_at hl 1 rfl) ?_
  refine lv_iadd hx hb dX3_writes_18 ?_
  refine gw_ild hx hb hK hG hvc_2 dX3_writes_19 (fun x3 hvc_3 => ?_)
  clear hvc_2
  refine lv_iadd hx hb dX3_writes_20 ?_
  refine lv_bipush (v := nI 8) hx hb dX3_writes_21 (by decide) ?_
  refine lv_iload_n hx hb dX3_writes_23 rfl (lv_at hl 2 rfl) ?_
  refine lv_imul hx hb dX3_writes_24 ?_
  refine lv_iload_n hx hb dX3_writes_25 rfl (lv_at hl 3 rfl) ?_
  refine lv_iadd hx hb dX3_writes_26 ?_
  refine gw_ist hx hb hK hG hS hvc_3 dX3_writes_27 (fun G4 H locs hvc_4 hG_5 hS_6 => ?_)
  clear hvc_3 hG hS
  refine lv_aload_n hx hb dX3_writes_28 rfl (lv_at hl 0 rfl) ?_
  refine gw_gr (C := RX3) (T := TX3) (N := 13) (own := RX3) hx hb hts in_X3 hown hK hG_5 hvc_4 rfl (by decide) (hts _ q1784) (fun _ h9 => h9) dX3_writes_29 (fun x5 hvc_7 => ?_)
  clear hvc_4
  refine lv_bipush (v := nI 102) hx hb dX3_writes_32 (by decide) ?_
  refine lv_iload_n hx hb dX3_writes_34 rfl (lv_at hl 1 rfl) ?_
  refine lv_iadd hx hb dX3_writes_35 ?_
  refine lv_dup2_11 hx hb dX3_writes_36 rfl rfl ?_
  refine gw_ild hx hb hK hG_5 hvc_7 dX3_writes_37 (fun x6 hvc_8 => ?_)
  clear hvc_7
  refine lv_iconst (v := nI 1) hx hb dX3_writes_38 (by decide) ?_
  refine lv_iadd hx hb dX3_writes_39 ?_
  refine gw_ist hx hb hK hG_5 hS_6 hvc_8 dX3_writes_40 (fun G7 H locs hvc_9 hG_10 hS_11 => ?_)
  clear hvc_8 hG_5 hS_6
  exact g_vret hx hb hr hlocks (Nat.zero_le _) (Nat.zero_le _) hG_10 hS_11 hvc_9 dX3_writes_41
set_option maxHeartbeats 4000000 in
set_option maxRecDepth 100000 in
theorem met_X3_of (l : Launch) (E : g_E) (G : g_G) (o : Nat) (p1 : Int32) (p2 : Int32) (post : Int32 → Prop) (hvc : wp_X3_of E G o p1 p2 post) : g_MI E l yX3_of (ws_ yX3_of cX3_of 3 (Option.some Jvm.ClassFile.FieldType.int)) ({ frames := 0, cells := 0, slots := 0, locals := 0 } : Room) (fun _ => True) [.ref o, .int p1, .int p2] G (fun v G9 => G9 = G ∧ post v) := by
  refine g_enter (by decide +kernel) (Nat.le_of_ble_eq_true rfl) ?_
  intro p e s m below meth c ls hx hb hr hts hown hlocks hml hin hz hX hK hG hS hl
  have hl : lv_has ls 3 [(0, .ref o), (1, .int p1), (2, .int p2)] := hl
  have hown : s.vm.findClass RX3 = some m.cls := hown
  unfold wp_X3_of at hvc
  refine lv_aload_n hx hb dX3_of_0 rfl (lv_at hl 0 rfl) ?_
  refine gw_gr (C := RX3) (T := TX3) (N := 13) (own := RX3) hx hb hts in_X3 hown hK hG hvc rfl (by decide) (hts _ q1784) (fun _ h9 => h9) dX3_of_1 (fun x1 hvc_1 => ?_)
  clear hvc
  refine lv_bipush (v := nI 14) hx hb dX3_of_4 (by decide) ?_
  refine lv_bipush (v := nI 7) hx hb dX3_of_6 (by decide) ?_
  refine lv_iload_n hx hb dX3_of_8 rfl (lv_at hl 1 rfl) ?_
  refine lv_imul hx hb dX3_of_9 ?_
  refine lv_iadd hx hb dX3_of_10 ?_
  refine lv_iload_n hx hb dX3_of_11 rfl (lv_at hl 2 rfl) ?_
  refine lv_iadd hx hb dX3_of_12 ?_
  refine gw_ild hx hb hK hG hvc_1 dX3_of_13 (fun x2 hvc_2 => ?_)
  clear hvc_1
  exact g_iret hx hb hr hlocks (Nat.zero_le _) (Nat.zero_le _) hG hS rfl ⟨rfl, hvc_2⟩ dX3_of_14
set_option maxHeartbeats 4000000 in
set_option maxRecDepth 100000 in
theorem met_X3_all (l : Launch) (E : g_E) (G : g_G) (o : Nat) (p1 : Int32) (post : Int32 → Prop) (hvc : wp_X3_all E G o p1 post) : g_MI E l yX3_all (ws_ yX3_all cX3_all 2 (Option.some Jvm.ClassFile.FieldType.int)) ({ frames := 1, cells := 0, slots := 0, locals := 22 } : Room) (fun _ => True) [.ref o, .int p1] G (fun v G9 => G9 = G ∧ post v) := by
  refine g_enter (by decide +kernel) (Nat.le_of_ble_eq_true rfl) ?_
  intro p e s m below meth c ls hx hb hr hts hown hlocks hml hin hz hX hK hG hS hl
  have hl : lv_has ls 2 [(0, .ref o), (1, .int p1)] := hl
  have hown : s.vm.findClass RX3 = some m.cls := hown
  unfold wp_X3_all at hvc
  refine lv_aload_n hx hb dX3_all_0 rfl (lv_at hl 0 rfl) ?_
  refine lv_iload_n hx hb dX3_all_1 rfl (lv_at hl 1 rfl) ?_
  refine lv_iconst (v := nI 1) hx hb dX3_all_2 (by decide) ?_
  refine gw_cVIP (As := [.int p1, .int (nI 1)]) (rest := [])  ⟨hx, hb, hml, hown, hts⟩ (met_X3_of l E G o p1 (nI 1) _ hvc.2) (cwV 2 hts (lw_V q1872 q1874 qs41 q104 q1875) rfl rfl rfl (by decide +kernel) ⟨Nat.le_of_ble_eq_true rfl, Nat.le_of_ble_eq_true rfl⟩) (gw_rc (q := (RX3, TX3, 13)) hK hG hvc.1 rfl) (Nat.zero_le _) (Nat.zero_le _) (g_St0 E) hz trivial hK hG hS rfl hl.1 rfl (Nat.le_of_ble_eq_true rfl) dX3_all_3 (fun x1 H locs hvc_1 hG_2 hS_3 => ?_)
  clear hvc hG hS
  refine lv_iconst (v := nI 1) hx hb dX3_all_6 (by decide) ?_
  refine lv_aload_n hx hb dX3_all_7 rfl (lv_at hl 0 rfl) ?_
  refine lv_iload_n hx hb dX3_all_8 rfl (lv_at hl 1 rfl) ?_
  refine lv_iconst (v := nI 0) hx hb dX3_all_9 (by decide) ?_
  refine gw_cVIP (As := [.int p1, .int (nI 0)]) (rest := [.int (nI 1), .int x1])  ⟨hx, hb, hml, hown, hts⟩ (met_X3_of l E G o p1 (nI 0) _ hvc_1.2) (cwV 2 hts (lw_V q1872 q1874 qs41 q104 q1875) rfl rfl rfl (by decide +kernel) ⟨Nat.le_of_ble_eq_true rfl, Nat.le_of_ble_eq_true rfl⟩) (gw_rc (q := (RX3, TX3, 13)) hK hG_2 hvc_1.1 rfl) (Nat.zero_le _) (Nat.zero_le _) (g_St0 E) hz trivial hK hG_2 hS_3 rfl hl.1 rfl (Nat.le_of_ble_eq_true rfl) dX3_all_10 (fun x3 H locs hvc_4 hG_5 hS_6 => ?_)
  clear hvc_1 hG_2 hS_3
  refine lv_ishl hx hb dX3_all_13 ?_
  refine lv_ior hx hb dX3_all_14 ?_
  exact g_iret hx hb hr hlocks (Nat.zero_le _) (Nat.zero_le _) hG_5 hS_6 rfl ⟨rfl, hvc_4⟩ dX3_all_15
set_option maxHeartbeats 4000000 in
set_option maxRecDepth 100000 in
theorem met_X3_sends (l : Launch) (E : g_E) (G : g_G) (o : Nat) (p1 : Int32) (p2 : Int32) (p3 : Int32) (post : g_G → Prop) (hvc : wp_X3_sends E G o p1 p2 p3 post) : g_MV E l yX3_sends (ws_ yX3_sends cX3_sends 4 (Option.none : Option Jvm.ClassFile.FieldType)) ({ frames := 0, cells := 0, slots := 0, locals := 0 } : Room) (fun _ => True) [.ref o, .int p1, .int p2, .int p3] G (post) := by
  refine g_enter (by decide +kernel) (Nat.le_of_ble_eq_true rfl) ?_
  intro p e s m below meth c ls hx hb hr hts hown hlocks hml hin hz hX hK hG hS hl
  have hl : lv_has ls 4 [(0, .ref o), (1, .int p1), (2, .int p2), (3, .int p3)] := hl
  have hown : s.vm.findClass RX3 = some m.cls := hown
  unfold wp_X3_sends at hvc
  refine lv_aload_n hx hb dX3_sends_0 rfl (lv_at hl 0 rfl) ?_
  refine gw_gr (C := RX3) (T := TX3) (N := 13) (own := RX3) hx hb hts in_X3 hown hK hG hvc rfl (by decide) (hts _ q1784) (fun _ h9 => h9) dX3_sends_1 (fun x1 hvc_1 => ?_)
  clear hvc
  refine lv_bipush (v := nI 10) hx hb dX3_sends_4 (by decide) ?_
  refine lv_dup2_11 hx hb dX3_sends_6 rfl rfl ?_
  refine gw_ild hx hb hK hG hvc_1 dX3_sends_7 (fun x2 hvc_2 => ?_)
  clear hvc_1
  refine lv_iconst (v := nI 1) hx hb dX3_sends_8 (by decide) ?_
  refine lv_iadd hx hb dX3_sends_9 ?_
  refine gw_ist hx hb hK hG hS hvc_2 dX3_sends_10 (fun G3 H locs hvc_3 hG_4 hS_5 => ?_)
  clear hvc_2 hG hS
  refine lv_aload_n hx hb dX3_sends_11 rfl (lv_at hl 0 rfl) ?_
  refine gw_gr (C := RX3) (T := TX3) (N := 13) (own := RX3) hx hb hts in_X3 hown hK hG_4 hvc_3 rfl (by decide) (hts _ q1784) (fun _ h9 => h9) dX3_sends_12 (fun x4 hvc_6 => ?_)
  clear hvc_3
  refine lv_bipush (v := nI 13) hx hb dX3_sends_15 (by decide) ?_
  refine gw_ild hx hb hK hG_4 hvc_6 dX3_sends_17 (fun x5 hvc_7 => ?_)
  clear hvc_6
  refine lv_bipush (v := nI 60) hx hb dX3_sends_18 (by decide) ?_
  refine lv_icmp_ne (tgt := 37) hx hb dX3_sends_20 (by decide) (fun h9 => ?_) (fun h9 => ?_)
  · replace hvc_7 := hvc_7.1 h9
    refine lv_aload_n hx hb dX3_sends_37 rfl (lv_at hl 0 rfl) ?_
    refine gw_gr (C := RX3) (T := TX3) (N := 13) (own := RX3) hx hb hts in_X3 hown hK hG_4 hvc_7 rfl (by decide) (hts _ q1784) (fun _ h9 => h9) dX3_sends_38 (fun x6 hvc_8 => ?_)
    clear hvc_7
    refine lv_sipush (v := nI 195) hx hb dX3_sends_41 (by decide) ?_
    refine lv_aload_n hx hb dX3_sends_44 rfl (lv_at hl 0 rfl) ?_
    refine gw_gr (C := RX3) (T := TX3) (N := 13) (own := RX3) hx hb hts in_X3 hown hK hG_4 hvc_8 rfl (by decide) (hts _ q1784) (fun _ h9 => h9) dX3_sends_45 (fun x7 hvc_9 => ?_)
    clear hvc_8
    refine lv_bipush (v := nI 13) hx hb dX3_sends_48 (by decide) ?_
    refine gw_ild hx hb hK hG_4 hvc_9 dX3_sends_50 (fun x8 hvc_10 => ?_)
    clear hvc_9
    refine lv_iadd hx hb dX3_sends_51 ?_
    refine lv_bipush (v := nI 32) hx hb dX3_sends_52 (by decide) ?_
    refine lv_iload_n hx hb dX3_sends_54 rfl (lv_at hl 1 rfl) ?_
    refine lv_imul hx hb dX3_sends_55 ?_
    refine lv_iconst (v := nI 4) hx hb dX3_sends_56 (by decide) ?_
    refine lv_iload_n hx hb dX3_sends_57 rfl (lv_at hl 2 rfl) ?_
    refine lv_imul hx hb dX3_sends_58 ?_
    refine lv_iadd hx hb dX3_sends_59 ?_
    refine lv_iload_n hx hb dX3_sends_60 rfl (lv_at hl 3 rfl) ?_
    refine lv_iadd hx hb dX3_sends_61 ?_
    refine gw_ist hx hb hK hG_4 hS_5 hvc_10 dX3_sends_62 (fun G9 H locs hvc_11 hG_12 hS_13 => ?_)
    clear hvc_10 hG_4 hS_5
    refine lv_aload_n hx hb dX3_sends_63 rfl (lv_at hl 0 rfl) ?_
    refine gw_gr (C := RX3) (T := TX3) (N := 13) (own := RX3) hx hb hts in_X3 hown hK hG_12 hvc_11 rfl (by decide) (hts _ q1784) (fun _ h9 => h9) dX3_sends_64 (fun x10 hvc_14 => ?_)
    clear hvc_11
    refine lv_bipush (v := nI 13) hx hb dX3_sends_67 (by decide) ?_
    refine lv_dup2_11 hx hb dX3_sends_69 rfl rfl ?_
    refine gw_ild hx hb hK hG_12 hvc_14 dX3_sends_70 (fun x11 hvc_15 => ?_)
    clear hvc_14
    refine lv_iconst (v := nI 1) hx hb dX3_sends_71 (by decide) ?_
    refine lv_iadd hx hb dX3_sends_72 ?_
    refine gw_ist hx hb hK hG_12 hS_13 hvc_15 dX3_sends_73 (fun G12 H locs hvc_16 hG_17 hS_18 => ?_)
    clear hvc_15 hG_12 hS_13
    exact g_vret hx hb hr hlocks (Nat.zero_le _) (Nat.zero_le _) hG_17 hS_18 hvc_16 dX3_sends_74
  · replace hvc_7 := hvc_7.2 h9
    refine lv_aload_n hx hb dX3_sends_23 rfl (lv_at hl 0 rfl) ?_
    refine gw_gr (C := RX3) (T := TX3) (N := 13) (own := RX3) hx hb hts in_X3 hown hK hG_4 hvc_7 rfl (by decide) (hts _ q1784) (fun _ h9 => h9) dX3_sends_24 (fun x13 hvc_19 => ?_)
    clear hvc_7
    refine lv_bipush (v := nI 12) hx hb dX3_sends_27 (by decide) ?_
    refine lv_dup2_11 hx hb dX3_sends_29 rfl rfl ?_
    refine gw_ild hx hb hK hG_4 hvc_19 dX3_sends_30 (fun x14 hvc_20 => ?_)
    clear hvc_19
    refine lv_iconst (v := nI 1) hx hb dX3_sends_31 (by decide) ?_
    refine lv_iadd hx hb dX3_sends_32 ?_
    refine gw_ist hx hb hK hG_4 hS_5 hvc_20 dX3_sends_33 (fun G15 H locs hvc_21 hG_22 hS_23 => ?_)
    clear hvc_20 hG_4 hS_5
    refine lv_goto (tgt := 74) hx hb dX3_sends_34 (by decide) ?_
    exact g_vret hx hb hr hlocks (Nat.zero_le _) (Nat.zero_le _) hG_22 hS_23 hvc_21 dX3_sends_74
set_option maxHeartbeats 4000000 in
set_option maxRecDepth 100000 in
theorem met_X3_sendsAll (l : Launch) (E : g_E) (G : g_G) (o : Nat) (p1 : Int32) (p2 : Int32) (post : g_G → Prop) (hvc : wp_X3_sendsAll E G o p1 p2 post) : g_MV E l yX3_sendsAll (ws_ yX3_sendsAll cX3_sendsAll 4 (Option.none : Option Jvm.ClassFile.FieldType)) ({ frames := 2, cells := 0, slots := 0, locals := 43 } : Room) (fun _ => True) [.ref o, .int p1, .int p2] G (post) := by
  refine g_enter (by decide +kernel) (Nat.le_of_ble_eq_true rfl) ?_
  intro p e s m below meth c ls hx hb hr hts hown hlocks hml hin hz hX hK hG hS hl
  have hl : lv_has ls 4 [(0, .ref o), (1, .int p1), (2, .int p2)] := hl
  have hown : s.vm.findClass RX3 = some m.cls := hown
  unfold wp_X3_sendsAll at hvc
  refine lv_iconst (v := nI 0) hx hb dX3_sendsAll_0 (by decide) ?_
  have lp2 : ∀ (n2 : Nat) (y0 : Nat) (y1 : Int32) (y2 : Int32) (y3 : Int32) (G : g_G) (H : Heap) (locs : List Loc) (ls : Array Slot), wp_X3_sendsAll_2 E post n2 y0 y1 y2 y3 G → g_H E G H → va_S (g_A E) s.heap H locs → lv_has ls 4 [(0, .ref y0), (1, .int y1), (2, .int y2), (3, .int y3)] → W p l e ({ frames := 2, cells := 0, slots := 0, locals := 43 } : Room) s m ([.ref o, .int p1, .int p2] : List Value).toArray below meth c H locs 0 0 (MQ below (va_Qv (post) (g_Bk E) (g_A E)) ([.ref o, .int p1, .int p2] : List Value).toArray s 0 0 (g_A E)) (F0 m 2 ls []) := by
    clear hvc hG hS hl
    intro n2
    induction n2 with
    | zero =>
      intro y0 y1 y2 y3 G H locs ls hvc_1 hG_2 hS_3 hl_4
      exact False.elim hvc_1
    | succ n2 ih2 =>
      intro y0 y1 y2 y3 G H locs ls hvc_5 hG_6 hS_7 hl_8
      refine lv_iload_n hx hb dX3_sendsAll_2 rfl (lv_at hl_8 3 rfl) ?_
      refine lv_iconst (v := nI 4) hx hb dX3_sendsAll_3 (by decide) ?_
      refine lv_icmp_ge (tgt := 33) hx hb dX3_sendsAll_4 (by decide) (fun h9 => ?_) (fun h9 => ?_)
      · replace hvc_5 := hvc_5.1 h9
        exact g_vret hx hb hr hlocks (Nat.zero_le _) (Nat.zero_le _) hG_6 hS_7 hvc_5 dX3_sendsAll_33
      · replace hvc_5 := hvc_5.2 h9
        refine lv_aload_n hx hb dX3_sendsAll_7 rfl (lv_at hl_8 0 rfl) ?_
        refine lv_iload_n hx hb dX3_sendsAll_8 rfl (lv_at hl_8 2 rfl) ?_
        refine gw_cVIP (As := [.int y2]) (rest := [])  ⟨hx, hb, hml, hown, hts⟩ (met_X3_all l E G y0 y2 _ hvc_5.2) (cwV 1 hts (lw_V q1868 q1870 qs40 q104 q1871) rfl rfl rfl (by decide +kernel) ⟨Nat.le_of_ble_eq_true rfl, Nat.le_of_ble_eq_true rfl⟩) (gw_rc (q := (RX3, TX3, 13)) hK hG_6 hvc_5.1 rfl) (Nat.zero_le _) (Nat.zero_le _) (g_St0 E) hz trivial hK hG_6 hS_7 rfl hl_8.1 rfl (Nat.le_of_ble_eq_true rfl) dX3_sendsAll_9 (fun x1 H locs hvc_9 hG_10 hS_11 => ?_)
        clear hvc_5 hG_6 hS_7
        refine lv_iload_n hx hb dX3_sendsAll_12 rfl (lv_at hl_8 3 rfl) ?_
        refine lv_ishr hx hb dX3_sendsAll_13 ?_
        refine lv_iconst (v := nI 1) hx hb dX3_sendsAll_14 (by decide) ?_
        refine lv_iand hx hb dX3_sendsAll_15 ?_
        refine lv_iconst (v := nI 1) hx hb dX3_sendsAll_16 (by decide) ?_
        have jn27 : ∀ (y0 : Nat) (y1 : Int32) (y2 : Int32) (y3 : Int32) (G : g_G) (H : Heap) (locs : List Loc) (ls : Array Slot), wp_X3_sendsAll_27 E post (wp_X3_sendsAll_2 E post n2) y0 y1 y2 y3 G → g_H E G H → va_S (g_A E) s.heap H locs → lv_has ls 4 [(0, .ref y0), (1, .int y1), (2, .int y2), (3, .int y3)] → W p l e ({ frames := 2, cells := 0, slots := 0, locals := 43 } : Room) s m ([.ref o, .int p1, .int p2] : List Value).toArray below meth c H locs 0 0 (MQ below (va_Qv (post) (g_Bk E) (g_A E)) ([.ref o, .int p1, .int p2] : List Value).toArray s 0 0 (g_A E)) (F0 m 27 ls []) := by
          clear hvc_9 hG_10 hS_11 hl_8
          intro y0 y1 y2 y3 G H locs ls hvc_12 hG_13 hS_14 hl_15
          refine lv_iinc (k := 3) (v := y3 + (nI 1)) (lv' := [(3, .int (y3 + (nI 1))), (0, .ref y0), (1, .int y1), (2, .int y2)]) hx hb dX3_sendsAll_27 hl_15 rfl (congrArg (y3 + ·) (by decide : Int32.ofInt (1) = nI 1)) (by decide) rfl (fun ls hl_16 => ?_)
          clear hl_15
          refine lv_goto (tgt := 2) hx hb dX3_sendsAll_30 (by decide) ?_
          exact ih2 y0 y1 y2 (y3 + (nI 1)) G _ _ _ hvc_12 hG_13 hS_14 (lv_sub hl_16 [1, 2, 3, 0] rfl)
        refine lv_icmp_ne (tgt := 27) hx hb dX3_sendsAll_17 (by decide) (fun h9 => ?_) (fun h9 => ?_)
        · replace hvc_9 := hvc_9.1 h9
          exact jn27 y0 y1 y2 y3 G _ _ _ hvc_9 hG_10 hS_11 (lv_sub hl_8 [0, 1, 2, 3] rfl)
        · replace hvc_9 := hvc_9.2 h9
          refine lv_aload_n hx hb dX3_sendsAll_20 rfl (lv_at hl_8 0 rfl) ?_
          refine lv_iload_n hx hb dX3_sendsAll_21 rfl (lv_at hl_8 1 rfl) ?_
          refine lv_iload_n hx hb dX3_sendsAll_22 rfl (lv_at hl_8 2 rfl) ?_
          refine lv_iload_n hx hb dX3_sendsAll_23 rfl (lv_at hl_8 3 rfl) ?_
          refine gw_cVVN (As := [.int y1, .int y2, .int y3]) (rest := [])  ⟨hx, hb, hml, hown, hts⟩ (met_X3_sends l E G y0 y1 y2 y3 _ hvc_9.2) (cwV 3 hts (lw_V q1876 q1878 qs42 q104 q1879) rfl rfl rfl (by decide +kernel) ⟨Nat.le_of_ble_eq_true rfl, Nat.le_of_ble_eq_true rfl⟩) (gw_rc (q := (RX3, TX3, 13)) hK hG_10 hvc_9.1 rfl) (Nat.zero_le _) (Nat.zero_le _) (g_St0 E) hz trivial hK hG_10 hS_11 rfl hl_8.1 rfl (Nat.le_of_ble_eq_true rfl) dX3_sendsAll_24 (fun G4 H locs hvc_17 hG_18 hS_19 => ?_)
          clear hvc_9 hG_10 hS_11
          exact jn27 y0 y1 y2 y3 G4 _ _ _ hvc_17 hG_18 hS_19 (lv_sub hl_8 [0, 1, 2, 3] rfl)
  refine lv_istore_n (lv' := [(3, .int (nI 0)), (0, .ref o), (1, .int p1), (2, .int p2)]) hx hb dX3_sendsAll_1 rfl hl (by decide) rfl (fun ls hl_20 => ?_)
  clear hl
  obtain ⟨nf2, hvc⟩ := hvc
  exact lp2 nf2 o p1 p2 (nI 0) G _ _ _ hvc hG hS (lv_sub hl_20 [1, 2, 3, 0] rfl)
set_option maxHeartbeats 4000000 in
set_option maxRecDepth 100000 in
theorem met_X3_begins (l : Launch) (E : g_E) (G : g_G) (o : Nat) (p1 : Int32) (p2 : Int32) (p3 : Int32) (post : Int32 → g_G → Prop) (hvc : wp_X3_begins E G o p1 p2 p3 post) : g_MI E l yX3_begins (ws_ yX3_begins cX3_begins 5 (Option.some Jvm.ClassFile.FieldType.int)) ({ frames := 3, cells := 0, slots := 0, locals := 66 } : Room) (fun _ => True) [.ref o, .int p1, .int p2, .int p3] G (post) := by
  refine g_enter (by decide +kernel) (Nat.le_of_ble_eq_true rfl) ?_
  intro p e s m below meth c ls hx hb hr hts hown hlocks hml hin hz hX hK hG hS hl
  have hl : lv_has ls 5 [(0, .ref o), (1, .int p1), (2, .int p2), (3, .int p3)] := hl
  have hown : s.vm.findClass RX3 = some m.cls := hown
  unfold wp_X3_begins at hvc
  refine lv_aload_n hx hb dX3_begins_0 rfl (lv_at hl 0 rfl) ?_
  refine gw_gr (C := RX3) (T := TX3) (N := 13) (own := RX3) hx hb hts in_X3 hown hK hG hvc rfl (by decide) (hts _ q1784) (fun _ h9 => h9) dX3_begins_1 (fun x1 hvc_1 => ?_)
  clear hvc
  refine lv_bipush (v := nI 9) hx hb dX3_begins_4 (by decide) ?_
  refine gw_ild hx hb hK hG hvc_1 dX3_begins_6 (fun x2 hvc_2 => ?_)
  clear hvc_1
  refine lv_istore (lv' := [(4, .int x2), (0, .ref o), (1, .int p1), (2, .int p2), (3, .int p3)]) hx hb dX3_begins_7 hl (by decide) rfl (fun ls hl_3 => ?_)
  clear hl
  refine lv_aload_n hx hb dX3_begins_9 rfl (lv_at hl_3 1 rfl) ?_
  refine gw_gr (C := RX3) (T := TX3) (N := 13) (own := RX3) hx hb hts in_X3 hown hK hG hvc_2 rfl (by decide) (hts _ q1784) (fun _ h9 => h9) dX3_begins_10 (fun x3 hvc_4 => ?_)
  clear hvc_2
  refine lv_bipush (v := nI 9) hx hb dX3_begins_13 (by decide) ?_
  refine lv_dup2_11 hx hb dX3_begins_15 rfl rfl ?_
  refine gw_ild hx hb hK hG hvc_4 dX3_begins_16 (fun x4 hvc_5 => ?_)
  clear hvc_4
  refine lv_iconst (v := nI 1) hx hb dX3_begins_17 (by decide) ?_
  refine lv_iadd hx hb dX3_begins_18 ?_
  refine gw_ist hx hb hK hG hS hvc_5 dX3_begins_19 (fun G5 H locs hvc_6 hG_7 hS_8 => ?_)
  clear hvc_5 hG hS
  refine lv_aload_n hx hb dX3_begins_20 rfl (lv_at hl_3 1 rfl) ?_
  refine lv_iload hx hb dX3_begins_21 (lv_at hl_3 0 rfl) ?_
  refine lv_iconst (v := nI 0) hx hb dX3_begins_23 (by decide) ?_
  refine lv_iload_n hx hb dX3_begins_24 rfl (lv_at hl_3 2 rfl) ?_
  refine gw_cVVN (As := [.int x2, .int (nI 0), .int p1]) (rest := [])  ⟨hx, hb, hml, hown, hts⟩ (met_X3_lay l E G5 o x2 (nI 0) p1 _ hvc_6.2) (cwV 3 hts (lw_V q1856 q1858 qs37 q104 q1859) rfl rfl rfl (by decide +kernel) ⟨Nat.le_of_ble_eq_true rfl, Nat.le_of_ble_eq_true rfl⟩) (gw_rc (q := (RX3, TX3, 13)) hK hG_7 hvc_6.1 rfl) (Nat.zero_le _) (Nat.zero_le _) (g_St0 E) hz trivial hK hG_7 hS_8 rfl hl_3.1 rfl (Nat.le_of_ble_eq_true rfl) dX3_begins_25 (fun G7 H locs hvc_9 hG_10 hS_11 => ?_)
  clear hvc_6 hG_7 hS_8
  refine lv_aload_n hx hb dX3_begins_28 rfl (lv_at hl_3 1 rfl) ?_
  refine lv_iload hx hb dX3_begins_29 (lv_at hl_3 0 rfl) ?_
  refine lv_iconst (v := nI 1) hx hb dX3_begins_31 (by decide) ?_
  refine lv_iload_n hx hb dX3_begins_32 rfl (lv_at hl_3 3 rfl) ?_
  refine gw_cVVN (As := [.int x2, .int (nI 1), .int p2]) (rest := [])  ⟨hx, hb, hml, hown, hts⟩ (met_X3_lay l E G7 o x2 (nI 1) p2 _ hvc_9.2) (cwV 3 hts (lw_V q1856 q1858 qs37 q104 q1859) rfl rfl rfl (by decide +kernel) ⟨Nat.le_of_ble_eq_true rfl, Nat.le_of_ble_eq_true rfl⟩) (gw_rc (q := (RX3, TX3, 13)) hK hG_10 hvc_9.1 rfl) (Nat.zero_le _) (Nat.zero_le _) (g_St0 E) hz trivial hK hG_10 hS_11 rfl hl_3.1 rfl (Nat.le_of_ble_eq_true rfl) dX3_begins_33 (fun G9 H locs hvc_12 hG_13 hS_14 => ?_)
  clear hvc_9 hG_10 hS_11
  refine lv_aload_n hx hb dX3_begins_36 rfl (lv_at hl_3 1 rfl) ?_
  refine lv_iload hx hb dX3_begins_37 (lv_at hl_3 0 rfl) ?_
  refine lv_iconst (v := nI 2) hx hb dX3_begins_39 (by decide) ?_
  refine lv_iload_n hx hb dX3_begins_40 rfl (lv_at hl_3 4 rfl) ?_
  refine gw_cVVN (As := [.int x2, .int (nI 2), .int p3]) (rest := [])  ⟨hx, hb, hml, hown, hts⟩ (met_X3_lay l E G9 o x2 (nI 2) p3 _ hvc_12.2) (cwV 3 hts (lw_V q1856 q1858 qs37 q104 q1859) rfl rfl rfl (by decide +kernel) ⟨Nat.le_of_ble_eq_true rfl, Nat.le_of_ble_eq_true rfl⟩) (gw_rc (q := (RX3, TX3, 13)) hK hG_13 hvc_12.1 rfl) (Nat.zero_le _) (Nat.zero_le _) (g_St0 E) hz trivial hK hG_13 hS_14 rfl hl_3.1 rfl (Nat.le_of_ble_eq_true rfl) dX3_begins_41 (fun G11 H locs hvc_15 hG_16 hS_17 => ?_)
  clear hvc_12 hG_13 hS_14
  refine lv_aload_n hx hb dX3_begins_44 rfl (lv_at hl_3 1 rfl) ?_
  refine lv_iconst (v := nI 4) hx hb dX3_begins_45 (by decide) ?_
  refine lv_iconst (v := nI 0) hx hb dX3_begins_46 (by decide) ?_
  refine lv_iload hx hb dX3_begins_47 (lv_at hl_3 0 rfl) ?_
  refine gw_cVVN (As := [.int (nI 4), .int (nI 0), .int x2]) (rest := [])  ⟨hx, hb, hml, hown, hts⟩ (met_X3_writes l E G11 o (nI 4) (nI 0) x2 _ hvc_15.2) (cwV 3 hts (lw_V q1860 q1862 qs38 q104 q1863) rfl rfl rfl (by decide +kernel) ⟨Nat.le_of_ble_eq_true rfl, Nat.le_of_ble_eq_true rfl⟩) (gw_rc (q := (RX3, TX3, 13)) hK hG_16 hvc_15.1 rfl) (Nat.zero_le _) (Nat.zero_le _) (g_St0 E) hz trivial hK hG_16 hS_17 rfl hl_3.1 rfl (Nat.le_of_ble_eq_true rfl) dX3_begins_49 (fun G13 H locs hvc_18 hG_19 hS_20 => ?_)
  clear hvc_15 hG_16 hS_17
  refine lv_aload_n hx hb dX3_begins_52 rfl (lv_at hl_3 1 rfl) ?_
  refine lv_iconst (v := nI 0) hx hb dX3_begins_53 (by decide) ?_
  refine lv_iload hx hb dX3_begins_54 (lv_at hl_3 0 rfl) ?_
  refine gw_cVVN (As := [.int (nI 0), .int x2]) (rest := [])  ⟨hx, hb, hml, hown, hts⟩ (met_X3_sendsAll l E G13 o (nI 0) x2 _ hvc_18.2) (cwV 2 hts (lw_V q1864 q1866 qs39 q104 q1867) rfl rfl rfl (by decide +kernel) ⟨Nat.le_of_ble_eq_true rfl, Nat.le_of_ble_eq_true rfl⟩) (gw_rc (q := (RX3, TX3, 13)) hK hG_19 hvc_18.1 rfl) (Nat.zero_le _) (Nat.zero_le _) (g_St0 E) hz trivial hK hG_19 hS_20 rfl hl_3.1 rfl (Nat.le_of_ble_eq_true rfl) dX3_begins_56 (fun G15 H locs hvc_21 hG_22 hS_23 => ?_)
  clear hvc_18 hG_19 hS_20
  refine lv_iload hx hb dX3_begins_59 (lv_at hl_3 0 rfl) ?_
  exact g_iret hx hb hr hlocks (Nat.zero_le _) (Nat.zero_le _) hG_22 hS_23 rfl hvc_21 dX3_begins_61
set_option maxHeartbeats 4000000 in
set_option maxRecDepth 100000 in
theorem met_X3_begin (l : Launch) (E : g_E) (G : g_G) (o : Nat) (p1 : Int32) (p2 : Int32) (p3 : Int32) (post : Int32 → g_G → Prop) (hvc : wp_X3_begin E G o p1 p2 p3 post) : g_MI E l yX3_begin (ws_ yX3_begin cX3_begin 4 (Option.some Jvm.ClassFile.FieldType.int)) ({ frames := 4, cells := 0, slots := 0, locals := 90 } : Room) (fun _ => True) [.ref o, .int p1, .int p2, .int p3] G (post) := by
  refine g_enter (by decide +kernel) (Nat.le_of_ble_eq_true rfl) ?_
  intro p e s m below meth c ls hx hb hr hts hown hlocks hml hin hz hX hK hG hS hl
  have hl : lv_has ls 4 [(0, .ref o), (1, .int p1), (2, .int p2), (3, .int p3)] := hl
  have hown : s.vm.findClass RX3 = some m.cls := hown
  unfold wp_X3_begin at hvc
  refine lv_aload_n hx hb dX3_begin_0 rfl (lv_at hl 0 rfl) ?_
  refine lv_iconst (v := nI 0) hx hb dX3_begin_1 (by decide) ?_
  refine gw_put (ty := .int) (C := RX3) (T := TX3) (N := 13) (own := RX3) hx hb hts in_X3 tyX3 tyX3_ok nmX3 hown hK hG hS hvc rfl (by decide) (hts _ q1783) (fun _ h9 => h9) rfl (by decide +kernel) rfl rfl dX3_begin_2 (fun G1 H locs hvc_1 hG_2 hS_3 => ?_)
  clear hvc hG hS
  refine lv_iload_n hx hb dX3_begin_5 rfl (lv_at hl 1 rfl) ?_
  refine gw_cSIP (As := [.int p1]) (rest := [])  ⟨hx, hb, hml, hown, hts⟩ (met_X3_isStore l E G1 p1 _ hvc_1) (va_cwS 1 hts (lw_S q1831 q1832 q104 q1833) rfl rfl rfl (by decide +kernel) ⟨Nat.le_of_ble_eq_true rfl, Nat.le_of_ble_eq_true rfl⟩) (Nat.zero_le _) (Nat.zero_le _) (g_St0 E) hz trivial hK hG_2 hS_3 rfl hl.1 rfl (Nat.le_of_ble_eq_true rfl) dX3_begin_6 (fun x2 H locs hvc_4 hG_5 hS_6 => ?_)
  clear hvc_1 hG_2 hS_3
  refine lv_if_ne (tgt := 18) hx hb dX3_begin_9 (by decide) (fun h9 => ?_) (fun h9 => ?_)
  · replace hvc_4 := hvc_4.1 h9
    refine lv_iload_n hx hb dX3_begin_18 rfl (lv_at hl 1 rfl) ?_
    refine lv_iload_n hx hb dX3_begin_19 rfl (lv_at hl 2 rfl) ?_
    refine gw_cSIP (As := [.int p1, .int p2]) (rest := [])  ⟨hx, hb, hml, hown, hts⟩ (met_X3_areStores l E G1 p1 p2 _ hvc_4) (va_cwS 2 hts (lw_S q1841 q1842 q104 q1843) rfl rfl rfl (by decide +kernel) ⟨Nat.le_of_ble_eq_true rfl, Nat.le_of_ble_eq_true rfl⟩) (Nat.zero_le _) (Nat.zero_le _) (g_St0 E) hz trivial hK hG_5 hS_6 rfl hl.1 rfl (Nat.le_of_ble_eq_true rfl) dX3_begin_20 (fun x4 H locs hvc_7 hG_8 hS_9 => ?_)
    clear hvc_4 hG_5 hS_6
    have jn36 : ∀ (y0 : Nat) (G : g_G) (H : Heap) (locs : List Loc) (ls : Array Slot), wp_X3_begin_36 E post y0 G → g_H E G H → va_S (g_A E) s.heap H locs → lv_has ls 4 [(0, .ref y0)] → W p l e ({ frames := 4, cells := 0, slots := 0, locals := 90 } : Room) s m ([.ref o, .int p1, .int p2, .int p3] : List Value).toArray below meth c H locs 0 0 (MQ below (va_Qi (post) (g_Bk E) (g_A E)) ([.ref o, .int p1, .int p2, .int p3] : List Value).toArray s 0 0 (g_A E)) (F0 m 36 ls []) := by
      clear hvc_7 hG_8 hS_9 hl
      intro y0 G H locs ls hvc_10 hG_11 hS_12 hl_13
      refine lv_aload_n hx hb dX3_begin_36 rfl (lv_at hl_13 0 rfl) ?_
      refine lv_iconst (v := nI 2) hx hb dX3_begin_37 (by decide) ?_
      refine gw_cVIN (As := [.int (nI 2)]) (rest := [])  ⟨hx, hb, hml, hown, hts⟩ (met_X3_fails l E G y0 (nI 2) _ hvc_10.2) (cwV 1 hts (lw_V q1837 q1839 qs33 q104 q1840) rfl rfl rfl (by decide +kernel) ⟨Nat.le_of_ble_eq_true rfl, Nat.le_of_ble_eq_true rfl⟩) (gw_rc (q := (RX3, TX3, 13)) hK hG_11 hvc_10.1 rfl) (Nat.zero_le _) (Nat.zero_le _) (g_St0 E) hz trivial hK hG_11 hS_12 rfl hl_13.1 rfl (Nat.le_of_ble_eq_true rfl) dX3_begin_38 (fun x6 G7 H locs hvc_14 hG_15 hS_16 => ?_)
      clear hvc_10 hG_11 hS_12
      exact g_iret hx hb hr hlocks (Nat.zero_le _) (Nat.zero_le _) hG_15 hS_16 rfl hvc_14 dX3_begin_41
    refine lv_if_eq (tgt := 36) hx hb dX3_begin_23 (by decide) (fun h9 => ?_) (fun h9 => ?_)
    · replace hvc_7 := hvc_7.1 h9
      exact jn36 o G1 _ _ _ hvc_7 hG_8 hS_9 (lv_sub hl [0] rfl)
    · replace hvc_7 := hvc_7.2 h9
      refine lv_iload_n hx hb dX3_begin_26 rfl (lv_at hl 3 rfl) ?_
      refine lv_iconst (v := nI 1) hx hb dX3_begin_27 (by decide) ?_
      refine lv_bipush (v := nI 50) hx hb dX3_begin_28 (by decide) ?_
      refine gw_cSIP (As := [.int p3, .int (nI 1), .int (nI 50)]) (rest := [])  ⟨hx, hb, hml, hown, hts⟩ (met_X3_in l E G1 p3 (nI 1) (nI 50) _ hvc_7) (va_cwS 3 hts (lw_S q1834 q1835 q104 q1836) rfl rfl rfl (by decide +kernel) ⟨Nat.le_of_ble_eq_true rfl, Nat.le_of_ble_eq_true rfl⟩) (Nat.zero_le _) (Nat.zero_le _) (g_St0 E) hz trivial hK hG_8 hS_9 rfl hl.1 rfl (Nat.le_of_ble_eq_true rfl) dX3_begin_30 (fun x8 H locs hvc_17 hG_18 hS_19 => ?_)
      clear hvc_7 hG_8 hS_9
      refine lv_if_ne (tgt := 42) hx hb dX3_begin_33 (by decide) (fun h9 => ?_) (fun h9 => ?_)
      · replace hvc_17 := hvc_17.1 h9
        refine lv_aload_n hx hb dX3_begin_42 rfl (lv_at hl 0 rfl) ?_
        refine gw_cVIP (As := []) (rest := [])  ⟨hx, hb, hml, hown, hts⟩ (met_X3_canBegin l E G1 o _ hvc_17.2) (cwV 0 hts (lw_V q1844 q1846 qs34 q104 q1847) rfl rfl rfl (by decide +kernel) ⟨Nat.le_of_ble_eq_true rfl, Nat.le_of_ble_eq_true rfl⟩) (gw_rc (q := (RX3, TX3, 13)) hK hG_18 hvc_17.1 rfl) (Nat.zero_le _) (Nat.zero_le _) (g_St0 E) hz trivial hK hG_18 hS_19 rfl hl.1 rfl (Nat.le_of_ble_eq_true rfl) dX3_begin_43 (fun x10 H locs hvc_20 hG_21 hS_22 => ?_)
        clear hvc_17 hG_18 hS_19
        refine lv_if_ne (tgt := 55) hx hb dX3_begin_46 (by decide) (fun h9 => ?_) (fun h9 => ?_)
        · replace hvc_20 := hvc_20.1 h9
          refine lv_aload_n hx hb dX3_begin_55 rfl (lv_at hl 0 rfl) ?_
          refine gw_cVVN (As := []) (rest := [])  ⟨hx, hb, hml, hown, hts⟩ (met_X3_recordsState l E G1 o _ hvc_20.2) (cwV 0 hts (lw_V q1848 q1850 qs35 q104 q1851) rfl rfl rfl (by decide +kernel) ⟨Nat.le_of_ble_eq_true rfl, Nat.le_of_ble_eq_true rfl⟩) (gw_rc (q := (RX3, TX3, 13)) hK hG_21 hvc_20.1 rfl) (Nat.zero_le _) (Nat.zero_le _) (g_St0 E) hz trivial hK hG_21 hS_22 rfl hl.1 rfl (Nat.le_of_ble_eq_true rfl) dX3_begin_56 (fun G13 H locs hvc_23 hG_24 hS_25 => ?_)
          clear hvc_20 hG_21 hS_22
          refine lv_aload_n hx hb dX3_begin_59 rfl (lv_at hl 0 rfl) ?_
          refine lv_iload_n hx hb dX3_begin_60 rfl (lv_at hl 1 rfl) ?_
          refine lv_iload_n hx hb dX3_begin_61 rfl (lv_at hl 2 rfl) ?_
          refine lv_iload_n hx hb dX3_begin_62 rfl (lv_at hl 3 rfl) ?_
          refine gw_cVIN (As := [.int p1, .int p2, .int p3]) (rest := [])  ⟨hx, hb, hml, hown, hts⟩ (met_X3_begins l E G13 o p1 p2 p3 _ hvc_23.2) (cwV 3 hts (lw_V q1852 q1854 qs36 q104 q1855) rfl rfl rfl (by decide +kernel) ⟨Nat.le_of_ble_eq_true rfl, Nat.le_of_ble_eq_true rfl⟩) (gw_rc (q := (RX3, TX3, 13)) hK hG_24 hvc_23.1 rfl) (Nat.zero_le _) (Nat.zero_le _) (g_St0 E) hz trivial hK hG_24 hS_25 rfl hl.1 rfl (Nat.le_of_ble_eq_true rfl) dX3_begin_63 (fun x14 G15 H locs hvc_26 hG_27 hS_28 => ?_)
          clear hvc_23 hG_24 hS_25
          exact g_iret hx hb hr hlocks (Nat.zero_le _) (Nat.zero_le _) hG_27 hS_28 rfl hvc_26 dX3_begin_66
        · replace hvc_20 := hvc_20.2 h9
          refine lv_aload_n hx hb dX3_begin_49 rfl (lv_at hl 0 rfl) ?_
          refine lv_iconst (v := nI 3) hx hb dX3_begin_50 (by decide) ?_
          refine gw_cVIN (As := [.int (nI 3)]) (rest := [])  ⟨hx, hb, hml, hown, hts⟩ (met_X3_fails l E G1 o (nI 3) _ hvc_20.2) (cwV 1 hts (lw_V q1837 q1839 qs33 q104 q1840) rfl rfl rfl (by decide +kernel) ⟨Nat.le_of_ble_eq_true rfl, Nat.le_of_ble_eq_true rfl⟩) (gw_rc (q := (RX3, TX3, 13)) hK hG_21 hvc_20.1 rfl) (Nat.zero_le _) (Nat.zero_le _) (g_St0 E) hz trivial hK hG_21 hS_22 rfl hl.1 rfl (Nat.le_of_ble_eq_true rfl) dX3_begin_51 (fun x16 G17 H locs hvc_29 hG_30 hS_31 => ?_)
          clear hvc_20 hG_21 hS_22
          exact g_iret hx hb hr hlocks (Nat.zero_le _) (Nat.zero_le _) hG_30 hS_31 rfl hvc_29 dX3_begin_54
      · replace hvc_17 := hvc_17.2 h9
        exact jn36 o G1 _ _ _ hvc_17 hG_18 hS_19 (lv_sub hl [0] rfl)
  · replace hvc_4 := hvc_4.2 h9
    refine lv_aload_n hx hb dX3_begin_12 rfl (lv_at hl 0 rfl) ?_
    refine lv_iconst (v := nI 1) hx hb dX3_begin_13 (by decide) ?_
    refine gw_cVIN (As := [.int (nI 1)]) (rest := [])  ⟨hx, hb, hml, hown, hts⟩ (met_X3_fails l E G1 o (nI 1) _ hvc_4.2) (cwV 1 hts (lw_V q1837 q1839 qs33 q104 q1840) rfl rfl rfl (by decide +kernel) ⟨Nat.le_of_ble_eq_true rfl, Nat.le_of_ble_eq_true rfl⟩) (gw_rc (q := (RX3, TX3, 13)) hK hG_5 hvc_4.1 rfl) (Nat.zero_le _) (Nat.zero_le _) (g_St0 E) hz trivial hK hG_5 hS_6 rfl hl.1 rfl (Nat.le_of_ble_eq_true rfl) dX3_begin_14 (fun x18 G19 H locs hvc_32 hG_33 hS_34 => ?_)
    clear hvc_4 hG_5 hS_6
    exact g_iret hx hb hr hlocks (Nat.zero_le _) (Nat.zero_le _) hG_33 hS_34 rfl hvc_32 dX3_begin_17
set_option maxHeartbeats 4000000 in
set_option maxRecDepth 100000 in
theorem met_X3_isTransfer (l : Launch) (E : g_E) (G : g_G) (o : Nat) (p1 : Int32) (post : Int32 → Prop) (hvc : wp_X3_isTransfer E G o p1 post) : g_MI E l yX3_isTransfer (ws_ yX3_isTransfer cX3_isTransfer 2 (Option.some Jvm.ClassFile.FieldType.boolean)) ({ frames := 1, cells := 0, slots := 0, locals := 22 } : Room) (fun _ => True) [.ref o, .int p1] G (fun v G9 => G9 = G ∧ post v) := by
  refine g_enter (by decide +kernel) (Nat.le_of_ble_eq_true rfl) ?_
  intro p e s m below meth c ls hx hb hr hts hown hlocks hml hin hz hX hK hG hS hl
  have hl : lv_has ls 2 [(0, .ref o), (1, .int p1)] := hl
  have hown : s.vm.findClass RX3 = some m.cls := hown
  unfold wp_X3_isTransfer at hvc
  refine lv_iload_n hx hb dX3_isTransfer_0 rfl (lv_at hl 1 rfl) ?_
  refine lv_iconst (v := nI 0) hx hb dX3_isTransfer_1 (by decide) ?_
  refine lv_aload_n hx hb dX3_isTransfer_2 rfl (lv_at hl 0 rfl) ?_
  refine gw_gr (C := RX3) (T := TX3) (N := 13) (own := RX3) hx hb hts in_X3 hown hK hG hvc rfl (by decide) (hts _ q1784) (fun _ h9 => h9) dX3_isTransfer_3 (fun x1 hvc_1 => ?_)
  clear hvc
  refine lv_bipush (v := nI 9) hx hb dX3_isTransfer_6 (by decide) ?_
  refine gw_ild hx hb hK hG hvc_1 dX3_isTransfer_8 (fun x2 hvc_2 => ?_)
  clear hvc_1
  refine lv_iconst (v := nI 1) hx hb dX3_isTransfer_9 (by decide) ?_
  refine lv_isub hx hb dX3_isTransfer_10 ?_
  refine gw_cSIP (As := [.int p1, .int (nI 0), .int (x2 - (nI 1))]) (rest := [])  ⟨hx, hb, hml, hown, hts⟩ (met_X3_in l E G p1 (nI 0) (x2 - (nI 1)) _ hvc_2) (va_cwS 3 hts (lw_S q1834 q1835 q104 q1836) rfl rfl rfl (by decide +kernel) ⟨Nat.le_of_ble_eq_true rfl, Nat.le_of_ble_eq_true rfl⟩) (Nat.zero_le _) (Nat.zero_le _) (g_St0 E) hz trivial hK hG hS rfl hl.1 rfl (Nat.le_of_ble_eq_true rfl) dX3_isTransfer_11 (fun x3 H locs hvc_3 hG_4 hS_5 => ?_)
  clear hvc_2 hG hS
  exact g_iret hx hb hr hlocks (Nat.zero_le _) (Nat.zero_le _) hG_4 hS_5 hvc_3.1 ⟨rfl, hvc_3.2⟩ dX3_isTransfer_14
set_option maxHeartbeats 4000000 in
set_option maxRecDepth 100000 in
theorem met_X3_canGiveUp (l : Launch) (E : g_E) (G : g_G) (o : Nat) (p1 : Int32) (post : Int32 → Prop) (hvc : wp_X3_canGiveUp E G o p1 post) : g_MI E l yX3_canGiveUp (ws_ yX3_canGiveUp cX3_canGiveUp 2 (Option.some Jvm.ClassFile.FieldType.boolean)) ({ frames := 1, cells := 0, slots := 0, locals := 22 } : Room) (fun _ => True) [.ref o, .int p1] G (fun v G9 => G9 = G ∧ post v) := by
  refine g_enter (by decide +kernel) (Nat.le_of_ble_eq_true rfl) ?_
  intro p e s m below meth c ls hx hb hr hts hown hlocks hml hin hz hX hK hG hS hl
  have hl : lv_has ls 2 [(0, .ref o), (1, .int p1)] := hl
  have hown : s.vm.findClass RX3 = some m.cls := hown
  unfold wp_X3_canGiveUp at hvc
  refine lv_aload_n hx hb dX3_canGiveUp_0 rfl (lv_at hl 0 rfl) ?_
  refine gw_gr (C := RX3) (T := TX3) (N := 13) (own := RX3) hx hb hts in_X3 hown hK hG hvc rfl (by decide) (hts _ q1784) (fun _ h9 => h9) dX3_canGiveUp_1 (fun x1 hvc_1 => ?_)
  clear hvc
  refine lv_iconst (v := nI 4) hx hb dX3_canGiveUp_4 (by decide) ?_
  refine gw_ild hx hb hK hG hvc_1 dX3_canGiveUp_5 (fun x2 hvc_2 => ?_)
  clear hvc_1
  refine lv_iconst (v := nI 1) hx hb dX3_canGiveUp_6 (by decide) ?_
  refine lv_icmp_ne (tgt := 23) hx hb dX3_canGiveUp_7 (by decide) (fun h9 => ?_) (fun h9 => ?_)
  · replace hvc_2 := hvc_2.1 h9
    refine lv_iconst (v := nI 0) hx hb dX3_canGiveUp_23 (by decide) ?_
    exact g_iret hx hb hr hlocks (Nat.zero_le _) (Nat.zero_le _) hG hS rfl ⟨rfl, hvc_2⟩ dX3_canGiveUp_24
  · replace hvc_2 := hvc_2.2 h9
    refine lv_aload_n hx hb dX3_canGiveUp_10 rfl (lv_at hl 0 rfl) ?_
    refine lv_iload_n hx hb dX3_canGiveUp_11 rfl (lv_at hl 1 rfl) ?_
    refine lv_iconst (v := nI 5) hx hb dX3_canGiveUp_12 (by decide) ?_
    refine gw_cVIP (As := [.int p1, .int (nI 5)]) (rest := [])  ⟨hx, hb, hml, hown, hts⟩ (met_X3_of l E G o p1 (nI 5) _ hvc_2.2) (cwV 2 hts (lw_V q1872 q1874 qs41 q104 q1875) rfl rfl rfl (by decide +kernel) ⟨Nat.le_of_ble_eq_true rfl, Nat.le_of_ble_eq_true rfl⟩) (gw_rc (q := (RX3, TX3, 13)) hK hG hvc_2.1 rfl) (Nat.zero_le _) (Nat.zero_le _) (g_St0 E) hz trivial hK hG hS rfl hl.1 rfl (Nat.le_of_ble_eq_true rfl) dX3_canGiveUp_13 (fun x3 H locs hvc_3 hG_4 hS_5 => ?_)
    clear hvc_2 hG hS
    refine lv_if_ne (tgt := 23) hx hb dX3_canGiveUp_16 (by decide) (fun h9 => ?_) (fun h9 => ?_)
    · replace hvc_3 := hvc_3.1 h9
      refine lv_iconst (v := nI 0) hx hb dX3_canGiveUp_23 (by decide) ?_
      exact g_iret hx hb hr hlocks (Nat.zero_le _) (Nat.zero_le _) hG_4 hS_5 rfl ⟨rfl, hvc_3⟩ dX3_canGiveUp_24
    · replace hvc_3 := hvc_3.2 h9
      refine lv_iconst (v := nI 1) hx hb dX3_canGiveUp_19 (by decide) ?_
      refine lv_goto (tgt := 24) hx hb dX3_canGiveUp_20 (by decide) ?_
      exact g_iret hx hb hr hlocks (Nat.zero_le _) (Nat.zero_le _) hG_4 hS_5 rfl ⟨rfl, hvc_3⟩ dX3_canGiveUp_24
set_option maxHeartbeats 4000000 in
set_option maxRecDepth 100000 in
theorem met_X3_decides (l : Launch) (E : g_E) (G : g_G) (o : Nat) (p1 : Int32) (p2 : Int32) (post : g_G → Prop) (hvc : wp_X3_decides E G o p1 p2 post) : g_MV E l yX3_decides (ws_ yX3_decides cX3_decides 3 (Option.none : Option Jvm.ClassFile.FieldType)) ({ frames := 3, cells := 0, slots := 0, locals := 66 } : Room) (fun _ => True) [.ref o, .int p1, .int p2] G (post) := by
  refine g_enter (by decide +kernel) (Nat.le_of_ble_eq_true rfl) ?_
  intro p e s m below meth c ls hx hb hr hts hown hlocks hml hin hz hX hK hG hS hl
  have hl : lv_has ls 3 [(0, .ref o), (1, .int p1), (2, .int p2)] := hl
  have hown : s.vm.findClass RX3 = some m.cls := hown
  unfold wp_X3_decides at hvc
  refine lv_aload_n hx hb dX3_decides_0 rfl (lv_at hl 0 rfl) ?_
  refine lv_iload_n hx hb dX3_decides_1 rfl (lv_at hl 1 rfl) ?_
  refine lv_iconst (v := nI 5) hx hb dX3_decides_2 (by decide) ?_
  refine lv_iload_n hx hb dX3_decides_3 rfl (lv_at hl 2 rfl) ?_
  refine gw_cVVN (As := [.int p1, .int (nI 5), .int p2]) (rest := [])  ⟨hx, hb, hml, hown, hts⟩ (met_X3_lay l E G o p1 (nI 5) p2 _ hvc.2) (cwV 3 hts (lw_V q1856 q1858 qs37 q104 q1859) rfl rfl rfl (by decide +kernel) ⟨Nat.le_of_ble_eq_true rfl, Nat.le_of_ble_eq_true rfl⟩) (gw_rc (q := (RX3, TX3, 13)) hK hG hvc.1 rfl) (Nat.zero_le _) (Nat.zero_le _) (g_St0 E) hz trivial hK hG hS rfl hl.1 rfl (Nat.le_of_ble_eq_true rfl) dX3_decides_4 (fun G2 H locs hvc_1 hG_2 hS_3 => ?_)
  clear hvc hG hS
  refine lv_aload_n hx hb dX3_decides_7 rfl (lv_at hl 0 rfl) ?_
  refine lv_iconst (v := nI 4) hx hb dX3_decides_8 (by decide) ?_
  refine lv_iload_n hx hb dX3_decides_9 rfl (lv_at hl 2 rfl) ?_
  refine lv_iload_n hx hb dX3_decides_10 rfl (lv_at hl 1 rfl) ?_
  refine gw_cVVN (As := [.int (nI 4), .int p2, .int p1]) (rest := [])  ⟨hx, hb, hml, hown, hts⟩ (met_X3_writes l E G2 o (nI 4) p2 p1 _ hvc_1.2) (cwV 3 hts (lw_V q1860 q1862 qs38 q104 q1863) rfl rfl rfl (by decide +kernel) ⟨Nat.le_of_ble_eq_true rfl, Nat.le_of_ble_eq_true rfl⟩) (gw_rc (q := (RX3, TX3, 13)) hK hG_2 hvc_1.1 rfl) (Nat.zero_le _) (Nat.zero_le _) (g_St0 E) hz trivial hK hG_2 hS_3 rfl hl.1 rfl (Nat.le_of_ble_eq_true rfl) dX3_decides_11 (fun G4 H locs hvc_4 hG_5 hS_6 => ?_)
  clear hvc_1 hG_2 hS_3
  refine lv_aload_n hx hb dX3_decides_14 rfl (lv_at hl 0 rfl) ?_
  refine lv_iconst (v := nI 2) hx hb dX3_decides_15 (by decide) ?_
  refine lv_iload_n hx hb dX3_decides_16 rfl (lv_at hl 2 rfl) ?_
  refine lv_iadd hx hb dX3_decides_17 ?_
  refine lv_iload_n hx hb dX3_decides_18 rfl (lv_at hl 1 rfl) ?_
  refine gw_cVVN (As := [.int ((nI 2) + p2), .int p1]) (rest := [])  ⟨hx, hb, hml, hown, hts⟩ (met_X3_sendsAll l E G4 o ((nI 2) + p2) p1 _ hvc_4.2) (cwV 2 hts (lw_V q1864 q1866 qs39 q104 q1867) rfl rfl rfl (by decide +kernel) ⟨Nat.le_of_ble_eq_true rfl, Nat.le_of_ble_eq_true rfl⟩) (gw_rc (q := (RX3, TX3, 13)) hK hG_5 hvc_4.1 rfl) (Nat.zero_le _) (Nat.zero_le _) (g_St0 E) hz trivial hK hG_5 hS_6 rfl hl.1 rfl (Nat.le_of_ble_eq_true rfl) dX3_decides_19 (fun G6 H locs hvc_7 hG_8 hS_9 => ?_)
  clear hvc_4 hG_5 hS_6
  exact g_vret hx hb hr hlocks (Nat.zero_le _) (Nat.zero_le _) hG_8 hS_9 hvc_7 dX3_decides_22
set_option maxHeartbeats 4000000 in
set_option maxRecDepth 100000 in
theorem met_X3_giveUp (l : Launch) (E : g_E) (G : g_G) (o : Nat) (p1 : Int32) (post : Int32 → g_G → Prop) (hvc : wp_X3_giveUp E G o p1 post) : g_MI E l yX3_giveUp (ws_ yX3_giveUp cX3_giveUp 2 (Option.some Jvm.ClassFile.FieldType.int)) ({ frames := 4, cells := 0, slots := 0, locals := 88 } : Room) (fun _ => True) [.ref o, .int p1] G (post) := by
  refine g_enter (by decide +kernel) (Nat.le_of_ble_eq_true rfl) ?_
  intro p e s m below meth c ls hx hb hr hts hown hlocks hml hin hz hX hK hG hS hl
  have hl : lv_has ls 2 [(0, .ref o), (1, .int p1)] := hl
  have hown : s.vm.findClass RX3 = some m.cls := hown
  unfold wp_X3_giveUp at hvc
  refine lv_aload_n hx hb dX3_giveUp_0 rfl (lv_at hl 0 rfl) ?_
  refine lv_iconst (v := nI 0) hx hb dX3_giveUp_1 (by decide) ?_
  refine gw_put (ty := .int) (C := RX3) (T := TX3) (N := 13) (own := RX3) hx hb hts in_X3 tyX3 tyX3_ok nmX3 hown hK hG hS hvc rfl (by decide) (hts _ q1783) (fun _ h9 => h9) rfl (by decide +kernel) rfl rfl dX3_giveUp_2 (fun G1 H locs hvc_1 hG_2 hS_3 => ?_)
  clear hvc hG hS
  refine lv_aload_n hx hb dX3_giveUp_5 rfl (lv_at hl 0 rfl) ?_
  refine lv_iload_n hx hb dX3_giveUp_6 rfl (lv_at hl 1 rfl) ?_
  refine gw_cVIP (As := [.int p1]) (rest := [])  ⟨hx, hb, hml, hown, hts⟩ (met_X3_isTransfer l E G1 o p1 _ hvc_1.2) (cwV 1 hts (lw_V q1884 q1886 qs43 q104 q1887) rfl rfl rfl (by decide +kernel) ⟨Nat.le_of_ble_eq_true rfl, Nat.le_of_ble_eq_true rfl⟩) (gw_rc (q := (RX3, TX3, 13)) hK hG_2 hvc_1.1 rfl) (Nat.zero_le _) (Nat.zero_le _) (g_St0 E) hz trivial hK hG_2 hS_3 rfl hl.1 rfl (Nat.le_of_ble_eq_true rfl) dX3_giveUp_7 (fun x2 H locs hvc_4 hG_5 hS_6 => ?_)
  clear hvc_1 hG_2 hS_3
  refine lv_if_ne (tgt := 19) hx hb dX3_giveUp_10 (by decide) (fun h9 => ?_) (fun h9 => ?_)
  · replace hvc_4 := hvc_4.1 h9
    refine lv_aload_n hx hb dX3_giveUp_19 rfl (lv_at hl 0 rfl) ?_
    refine lv_iload_n hx hb dX3_giveUp_20 rfl (lv_at hl 1 rfl) ?_
    refine gw_cVIP (As := [.int p1]) (rest := [])  ⟨hx, hb, hml, hown, hts⟩ (met_X3_canGiveUp l E G1 o p1 _ hvc_4.2) (cwV 1 hts (lw_V q1888 q1890 qs44 q104 q1891) rfl rfl rfl (by decide +kernel) ⟨Nat.le_of_ble_eq_true rfl, Nat.le_of_ble_eq_true rfl⟩) (gw_rc (q := (RX3, TX3, 13)) hK hG_5 hvc_4.1 rfl) (Nat.zero_le _) (Nat.zero_le _) (g_St0 E) hz trivial hK hG_5 hS_6 rfl hl.1 rfl (Nat.le_of_ble_eq_true rfl) dX3_giveUp_21 (fun x4 H locs hvc_7 hG_8 hS_9 => ?_)
    clear hvc_4 hG_5 hS_6
    refine lv_if_ne (tgt := 33) hx hb dX3_giveUp_24 (by decide) (fun h9 => ?_) (fun h9 => ?_)
    · replace hvc_7 := hvc_7.1 h9
      refine lv_aload_n hx hb dX3_giveUp_33 rfl (lv_at hl 0 rfl) ?_
      refine gw_cVVN (As := []) (rest := [])  ⟨hx, hb, hml, hown, hts⟩ (met_X3_recordsState l E G1 o _ hvc_7.2) (cwV 0 hts (lw_V q1848 q1850 qs35 q104 q1851) rfl rfl rfl (by decide +kernel) ⟨Nat.le_of_ble_eq_true rfl, Nat.le_of_ble_eq_true rfl⟩) (gw_rc (q := (RX3, TX3, 13)) hK hG_8 hvc_7.1 rfl) (Nat.zero_le _) (Nat.zero_le _) (g_St0 E) hz trivial hK hG_8 hS_9 rfl hl.1 rfl (Nat.le_of_ble_eq_true rfl) dX3_giveUp_34 (fun G7 H locs hvc_10 hG_11 hS_12 => ?_)
      clear hvc_7 hG_8 hS_9
      refine lv_aload_n hx hb dX3_giveUp_37 rfl (lv_at hl 0 rfl) ?_
      refine lv_iload_n hx hb dX3_giveUp_38 rfl (lv_at hl 1 rfl) ?_
      refine lv_iconst (v := nI 2) hx hb dX3_giveUp_39 (by decide) ?_
      refine gw_cVVN (As := [.int p1, .int (nI 2)]) (rest := [])  ⟨hx, hb, hml, hown, hts⟩ (met_X3_decides l E G7 o p1 (nI 2) _ hvc_10.2) (cwV 2 hts (lw_V q1892 q1894 qs45 q104 q1895) rfl rfl rfl (by decide +kernel) ⟨Nat.le_of_ble_eq_true rfl, Nat.le_of_ble_eq_true rfl⟩) (gw_rc (q := (RX3, TX3, 13)) hK hG_11 hvc_10.1 rfl) (Nat.zero_le _) (Nat.zero_le _) (g_St0 E) hz trivial hK hG_11 hS_12 rfl hl.1 rfl (Nat.le_of_ble_eq_true rfl) dX3_giveUp_40 (fun G9 H locs hvc_13 hG_14 hS_15 => ?_)
      clear hvc_10 hG_11 hS_12
      refine lv_aload_n hx hb dX3_giveUp_43 rfl (lv_at hl 0 rfl) ?_
      refine gw_gr (C := RX3) (T := TX3) (N := 13) (own := RX3) hx hb hts in_X3 hown hK hG_14 hvc_13 rfl (by decide) (hts _ q1784) (fun _ h9 => h9) dX3_giveUp_44 (fun x10 hvc_16 => ?_)
      clear hvc_13
      refine lv_bipush (v := nI 13) hx hb dX3_giveUp_47 (by decide) ?_
      refine gw_ild hx hb hK hG_14 hvc_16 dX3_giveUp_49 (fun x11 hvc_17 => ?_)
      clear hvc_16
      exact g_iret hx hb hr hlocks (Nat.zero_le _) (Nat.zero_le _) hG_14 hS_15 rfl hvc_17 dX3_giveUp_50
    · replace hvc_7 := hvc_7.2 h9
      refine lv_aload_n hx hb dX3_giveUp_27 rfl (lv_at hl 0 rfl) ?_
      refine lv_iconst (v := nI 2) hx hb dX3_giveUp_28 (by decide) ?_
      refine gw_cVIN (As := [.int (nI 2)]) (rest := [])  ⟨hx, hb, hml, hown, hts⟩ (met_X3_fails l E G1 o (nI 2) _ hvc_7.2) (cwV 1 hts (lw_V q1837 q1839 qs33 q104 q1840) rfl rfl rfl (by decide +kernel) ⟨Nat.le_of_ble_eq_true rfl, Nat.le_of_ble_eq_true rfl⟩) (gw_rc (q := (RX3, TX3, 13)) hK hG_8 hvc_7.1 rfl) (Nat.zero_le _) (Nat.zero_le _) (g_St0 E) hz trivial hK hG_8 hS_9 rfl hl.1 rfl (Nat.le_of_ble_eq_true rfl) dX3_giveUp_29 (fun x12 G13 H locs hvc_18 hG_19 hS_20 => ?_)
      clear hvc_7 hG_8 hS_9
      exact g_iret hx hb hr hlocks (Nat.zero_le _) (Nat.zero_le _) hG_19 hS_20 rfl hvc_18 dX3_giveUp_32
  · replace hvc_4 := hvc_4.2 h9
    refine lv_aload_n hx hb dX3_giveUp_13 rfl (lv_at hl 0 rfl) ?_
    refine lv_iconst (v := nI 1) hx hb dX3_giveUp_14 (by decide) ?_
    refine gw_cVIN (As := [.int (nI 1)]) (rest := [])  ⟨hx, hb, hml, hown, hts⟩ (met_X3_fails l E G1 o (nI 1) _ hvc_4.2) (cwV 1 hts (lw_V q1837 q1839 qs33 q104 q1840) rfl rfl rfl (by decide +kernel) ⟨Nat.le_of_ble_eq_true rfl, Nat.le_of_ble_eq_true rfl⟩) (gw_rc (q := (RX3, TX3, 13)) hK hG_5 hvc_4.1 rfl) (Nat.zero_le _) (Nat.zero_le _) (g_St0 E) hz trivial hK hG_5 hS_6 rfl hl.1 rfl (Nat.le_of_ble_eq_true rfl) dX3_giveUp_15 (fun x14 G15 H locs hvc_21 hG_22 hS_23 => ?_)
    clear hvc_4 hG_5 hS_6
    exact g_iret hx hb hr hlocks (Nat.zero_le _) (Nat.zero_le _) hG_22 hS_23 rfl hvc_21 dX3_giveUp_18
set_option maxHeartbeats 4000000 in
set_option maxRecDepth 100000 in
theorem met_X3_stateIn (l : Launch) (E : g_E) (G : g_G) (o : Nat) (p1 : Int32) (p2 : Int32) (post : Int32 → Prop) (hvc : wp_X3_stateIn E G o p1 p2 post) : g_MI E l yX3_stateIn (ws_ yX3_stateIn cX3_stateIn 3 (Option.some Jvm.ClassFile.FieldType.int)) ({ frames := 0, cells := 0, slots := 0, locals := 0 } : Room) (fun _ => True) [.ref o, .int p1, .int p2] G (fun v G9 => G9 = G ∧ post v) := by
  refine g_enter (by decide +kernel) (Nat.le_of_ble_eq_true rfl) ?_
  intro p e s m below meth c ls hx hb hr hts hown hlocks hml hin hz hX hK hG hS hl
  have hl : lv_has ls 3 [(0, .ref o), (1, .int p1), (2, .int p2)] := hl
  have hown : s.vm.findClass RX3 = some m.cls := hown
  unfold wp_X3_stateIn at hvc
  refine lv_aload_n hx hb dX3_stateIn_0 rfl (lv_at hl 0 rfl) ?_
  refine gw_gr (C := RX3) (T := TX3) (N := 13) (own := RX3) hx hb hts in_X3 hown hK hG hvc rfl (by decide) (hts _ q1784) (fun _ h9 => h9) dX3_stateIn_1 (fun x1 hvc_1 => ?_)
  clear hvc
  refine lv_bipush (v := nI 70) hx hb dX3_stateIn_4 (by decide) ?_
  refine lv_bipush (v := nI 8) hx hb dX3_stateIn_6 (by decide) ?_
  refine lv_iload_n hx hb dX3_stateIn_8 rfl (lv_at hl 1 rfl) ?_
  refine lv_imul hx hb dX3_stateIn_9 ?_
  refine lv_iadd hx hb dX3_stateIn_10 ?_
  refine lv_iload_n hx hb dX3_stateIn_11 rfl (lv_at hl 2 rfl) ?_
  refine lv_iadd hx hb dX3_stateIn_12 ?_
  refine gw_ild hx hb hK hG hvc_1 dX3_stateIn_13 (fun x2 hvc_2 => ?_)
  clear hvc_1
  exact g_iret hx hb hr hlocks (Nat.zero_le _) (Nat.zero_le _) hG hS rfl ⟨rfl, hvc_2⟩ dX3_stateIn_14
set_option maxHeartbeats 4000000 in
set_option maxRecDepth 100000 in
theorem met_X3_canAsk (l : Launch) (E : g_E) (G : g_G) (o : Nat) (p1 : Int32) (p2 : Int32) (post : Int32 → Prop) (hvc : wp_X3_canAsk E G o p1 p2 post) : g_MI E l yX3_canAsk (ws_ yX3_canAsk cX3_canAsk 3 (Option.some Jvm.ClassFile.FieldType.boolean)) ({ frames := 1, cells := 0, slots := 0, locals := 22 } : Room) (fun _ => True) [.ref o, .int p1, .int p2] G (fun v G9 => G9 = G ∧ post v) := by
  refine g_enter (by decide +kernel) (Nat.le_of_ble_eq_true rfl) ?_
  intro p e s m below meth c ls hx hb hr hts hown hlocks hml hin hz hX hK hG hS hl
  have hl : lv_has ls 3 [(0, .ref o), (1, .int p1), (2, .int p2)] := hl
  have hown : s.vm.findClass RX3 = some m.cls := hown
  unfold wp_X3_canAsk at hvc
  refine lv_aload_n hx hb dX3_canAsk_0 rfl (lv_at hl 0 rfl) ?_
  refine gw_gr (C := RX3) (T := TX3) (N := 13) (own := RX3) hx hb hts in_X3 hown hK hG hvc rfl (by decide) (hts _ q1784) (fun _ h9 => h9) dX3_canAsk_1 (fun x1 hvc_1 => ?_)
  clear hvc
  refine lv_iconst (v := nI 0) hx hb dX3_canAsk_4 (by decide) ?_
  refine lv_iload_n hx hb dX3_canAsk_5 rfl (lv_at hl 1 rfl) ?_
  refine lv_iadd hx hb dX3_canAsk_6 ?_
  refine gw_ild hx hb hK hG hvc_1 dX3_canAsk_7 (fun x2 hvc_2 => ?_)
  clear hvc_1
  refine lv_iconst (v := nI 1) hx hb dX3_canAsk_8 (by decide) ?_
  refine lv_icmp_ne (tgt := 26) hx hb dX3_canAsk_9 (by decide) (fun h9 => ?_) (fun h9 => ?_)
  · replace hvc_2 := hvc_2.1 h9
    refine lv_iconst (v := nI 0) hx hb dX3_canAsk_26 (by decide) ?_
    exact g_iret hx hb hr hlocks (Nat.zero_le _) (Nat.zero_le _) hG hS rfl ⟨rfl, hvc_2⟩ dX3_canAsk_27
  · replace hvc_2 := hvc_2.2 h9
    refine lv_aload_n hx hb dX3_canAsk_12 rfl (lv_at hl 0 rfl) ?_
    refine lv_iload_n hx hb dX3_canAsk_13 rfl (lv_at hl 1 rfl) ?_
    refine lv_iload_n hx hb dX3_canAsk_14 rfl (lv_at hl 2 rfl) ?_
    refine gw_cVIP (As := [.int p1, .int p2]) (rest := [])  ⟨hx, hb, hml, hown, hts⟩ (met_X3_stateIn l E G o p1 p2 _ hvc_2.2) (cwV 2 hts (lw_V q1904 q1906 qs47 q104 q1907) rfl rfl rfl (by decide +kernel) ⟨Nat.le_of_ble_eq_true rfl, Nat.le_of_ble_eq_true rfl⟩) (gw_rc (q := (RX3, TX3, 13)) hK hG hvc_2.1 rfl) (Nat.zero_le _) (Nat.zero_le _) (g_St0 E) hz trivial hK hG hS rfl hl.1 rfl (Nat.le_of_ble_eq_true rfl) dX3_canAsk_15 (fun x3 H locs hvc_3 hG_4 hS_5 => ?_)
    clear hvc_2 hG hS
    refine lv_iconst (v := nI 1) hx hb dX3_canAsk_18 (by decide) ?_
    refine lv_icmp_ne (tgt := 26) hx hb dX3_canAsk_19 (by decide) (fun h9 => ?_) (fun h9 => ?_)
    · replace hvc_3 := hvc_3.1 h9
      refine lv_iconst (v := nI 0) hx hb dX3_canAsk_26 (by decide) ?_
      exact g_iret hx hb hr hlocks (Nat.zero_le _) (Nat.zero_le _) hG_4 hS_5 rfl ⟨rfl, hvc_3⟩ dX3_canAsk_27
    · replace hvc_3 := hvc_3.2 h9
      refine lv_iconst (v := nI 1) hx hb dX3_canAsk_22 (by decide) ?_
      refine lv_goto (tgt := 27) hx hb dX3_canAsk_23 (by decide) ?_
      exact g_iret hx hb hr hlocks (Nat.zero_le _) (Nat.zero_le _) hG_4 hS_5 rfl ⟨rfl, hvc_3⟩ dX3_canAsk_27
set_option maxHeartbeats 4000000 in
set_option maxRecDepth 100000 in
theorem met_X3_ask (l : Launch) (E : g_E) (G : g_G) (o : Nat) (p1 : Int32) (p2 : Int32) (post : Int32 → g_G → Prop) (hvc : wp_X3_ask E G o p1 p2 post) : g_MI E l yX3_ask (ws_ yX3_ask cX3_ask 3 (Option.some Jvm.ClassFile.FieldType.int)) ({ frames := 2, cells := 0, slots := 0, locals := 44 } : Room) (fun _ => True) [.ref o, .int p1, .int p2] G (post) := by
  refine g_enter (by decide +kernel) (Nat.le_of_ble_eq_true rfl) ?_
  intro p e s m below meth c ls hx hb hr hts hown hlocks hml hin hz hX hK hG hS hl
  have hl : lv_has ls 3 [(0, .ref o), (1, .int p1), (2, .int p2)] := hl
  have hown : s.vm.findClass RX3 = some m.cls := hown
  unfold wp_X3_ask at hvc
  refine lv_aload_n hx hb dX3_ask_0 rfl (lv_at hl 0 rfl) ?_
  refine lv_iconst (v := nI 0) hx hb dX3_ask_1 (by decide) ?_
  refine gw_put (ty := .int) (C := RX3) (T := TX3) (N := 13) (own := RX3) hx hb hts in_X3 tyX3 tyX3_ok nmX3 hown hK hG hS hvc rfl (by decide) (hts _ q1783) (fun _ h9 => h9) rfl (by decide +kernel) rfl rfl dX3_ask_2 (fun G1 H locs hvc_1 hG_2 hS_3 => ?_)
  clear hvc hG hS
  refine lv_iload_n hx hb dX3_ask_5 rfl (lv_at hl 1 rfl) ?_
  refine gw_cSIP (As := [.int p1]) (rest := [])  ⟨hx, hb, hml, hown, hts⟩ (met_X3_isStore l E G1 p1 _ hvc_1) (va_cwS 1 hts (lw_S q1831 q1832 q104 q1833) rfl rfl rfl (by decide +kernel) ⟨Nat.le_of_ble_eq_true rfl, Nat.le_of_ble_eq_true rfl⟩) (Nat.zero_le _) (Nat.zero_le _) (g_St0 E) hz trivial hK hG_2 hS_3 rfl hl.1 rfl (Nat.le_of_ble_eq_true rfl) dX3_ask_6 (fun x2 H locs hvc_4 hG_5 hS_6 => ?_)
  clear hvc_1 hG_2 hS_3
  have jn20 : ∀ (y0 : Nat) (G : g_G) (H : Heap) (locs : List Loc) (ls : Array Slot), wp_X3_ask_20 E post y0 G → g_H E G H → va_S (g_A E) s.heap H locs → lv_has ls 3 [(0, .ref y0)] → W p l e ({ frames := 2, cells := 0, slots := 0, locals := 44 } : Room) s m ([.ref o, .int p1, .int p2] : List Value).toArray below meth c H locs 0 0 (MQ below (va_Qi (post) (g_Bk E) (g_A E)) ([.ref o, .int p1, .int p2] : List Value).toArray s 0 0 (g_A E)) (F0 m 20 ls []) := by
    clear hvc_4 hG_5 hS_6 hl
    intro y0 G H locs ls hvc_7 hG_8 hS_9 hl_10
    refine lv_aload_n hx hb dX3_ask_20 rfl (lv_at hl_10 0 rfl) ?_
    refine lv_iconst (v := nI 1) hx hb dX3_ask_21 (by decide) ?_
    refine gw_cVIN (As := [.int (nI 1)]) (rest := [])  ⟨hx, hb, hml, hown, hts⟩ (met_X3_fails l E G y0 (nI 1) _ hvc_7.2) (cwV 1 hts (lw_V q1837 q1839 qs33 q104 q1840) rfl rfl rfl (by decide +kernel) ⟨Nat.le_of_ble_eq_true rfl, Nat.le_of_ble_eq_true rfl⟩) (gw_rc (q := (RX3, TX3, 13)) hK hG_8 hvc_7.1 rfl) (Nat.zero_le _) (Nat.zero_le _) (g_St0 E) hz trivial hK hG_8 hS_9 rfl hl_10.1 rfl (Nat.le_of_ble_eq_true rfl) dX3_ask_22 (fun x4 G5 H locs hvc_11 hG_12 hS_13 => ?_)
    clear hvc_7 hG_8 hS_9
    exact g_iret hx hb hr hlocks (Nat.zero_le _) (Nat.zero_le _) hG_12 hS_13 rfl hvc_11 dX3_ask_25
  refine lv_if_eq (tgt := 20) hx hb dX3_ask_9 (by decide) (fun h9 => ?_) (fun h9 => ?_)
  · replace hvc_4 := hvc_4.1 h9
    exact jn20 o G1 _ _ _ hvc_4 hG_5 hS_6 (lv_sub hl [0] rfl)
  · replace hvc_4 := hvc_4.2 h9
    refine lv_aload_n hx hb dX3_ask_12 rfl (lv_at hl 0 rfl) ?_
    refine lv_iload_n hx hb dX3_ask_13 rfl (lv_at hl 2 rfl) ?_
    refine gw_cVIP (As := [.int p2]) (rest := [])  ⟨hx, hb, hml, hown, hts⟩ (met_X3_isTransfer l E G1 o p2 _ hvc_4.2) (cwV 1 hts (lw_V q1884 q1886 qs43 q104 q1887) rfl rfl rfl (by decide +kernel) ⟨Nat.le_of_ble_eq_true rfl, Nat.le_of_ble_eq_true rfl⟩) (gw_rc (q := (RX3, TX3, 13)) hK hG_5 hvc_4.1 rfl) (Nat.zero_le _) (Nat.zero_le _) (g_St0 E) hz trivial hK hG_5 hS_6 rfl hl.1 rfl (Nat.le_of_ble_eq_true rfl) dX3_ask_14 (fun x6 H locs hvc_14 hG_15 hS_16 => ?_)
    clear hvc_4 hG_5 hS_6
    refine lv_if_ne (tgt := 26) hx hb dX3_ask_17 (by decide) (fun h9 => ?_) (fun h9 => ?_)
    · replace hvc_14 := hvc_14.1 h9
      refine lv_aload_n hx hb dX3_ask_26 rfl (lv_at hl 0 rfl) ?_
      refine lv_iload_n hx hb dX3_ask_27 rfl (lv_at hl 1 rfl) ?_
      refine lv_iload_n hx hb dX3_ask_28 rfl (lv_at hl 2 rfl) ?_
      refine gw_cVIP (As := [.int p1, .int p2]) (rest := [])  ⟨hx, hb, hml, hown, hts⟩ (met_X3_canAsk l E G1 o p1 p2 _ hvc_14.2) (cwV 2 hts (lw_V q1900 q1902 qs46 q104 q1903) rfl rfl rfl (by decide +kernel) ⟨Nat.le_of_ble_eq_true rfl, Nat.le_of_ble_eq_true rfl⟩) (gw_rc (q := (RX3, TX3, 13)) hK hG_15 hvc_14.1 rfl) (Nat.zero_le _) (Nat.zero_le _) (g_St0 E) hz trivial hK hG_15 hS_16 rfl hl.1 rfl (Nat.le_of_ble_eq_true rfl) dX3_ask_29 (fun x8 H locs hvc_17 hG_18 hS_19 => ?_)
      clear hvc_14 hG_15 hS_16
      refine lv_if_ne (tgt := 41) hx hb dX3_ask_32 (by decide) (fun h9 => ?_) (fun h9 => ?_)
      · replace hvc_17 := hvc_17.1 h9
        refine lv_aload_n hx hb dX3_ask_41 rfl (lv_at hl 0 rfl) ?_
        refine gw_cVVN (As := []) (rest := [])  ⟨hx, hb, hml, hown, hts⟩ (met_X3_recordsState l E G1 o _ hvc_17.2) (cwV 0 hts (lw_V q1848 q1850 qs35 q104 q1851) rfl rfl rfl (by decide +kernel) ⟨Nat.le_of_ble_eq_true rfl, Nat.le_of_ble_eq_true rfl⟩) (gw_rc (q := (RX3, TX3, 13)) hK hG_18 hvc_17.1 rfl) (Nat.zero_le _) (Nat.zero_le _) (g_St0 E) hz trivial hK hG_18 hS_19 rfl hl.1 rfl (Nat.le_of_ble_eq_true rfl) dX3_ask_42 (fun G11 H locs hvc_20 hG_21 hS_22 => ?_)
        clear hvc_17 hG_18 hS_19
        refine lv_aload_n hx hb dX3_ask_45 rfl (lv_at hl 0 rfl) ?_
        refine lv_bipush (v := nI 6) hx hb dX3_ask_46 (by decide) ?_
        refine lv_iload_n hx hb dX3_ask_48 rfl (lv_at hl 2 rfl) ?_
        refine lv_iload_n hx hb dX3_ask_49 rfl (lv_at hl 1 rfl) ?_
        refine gw_cVVN (As := [.int (nI 6), .int p2, .int p1]) (rest := [])  ⟨hx, hb, hml, hown, hts⟩ (met_X3_sends l E G11 o (nI 6) p2 p1 _ hvc_20.2) (cwV 3 hts (lw_V q1876 q1878 qs42 q104 q1879) rfl rfl rfl (by decide +kernel) ⟨Nat.le_of_ble_eq_true rfl, Nat.le_of_ble_eq_true rfl⟩) (gw_rc (q := (RX3, TX3, 13)) hK hG_21 hvc_20.1 rfl) (Nat.zero_le _) (Nat.zero_le _) (g_St0 E) hz trivial hK hG_21 hS_22 rfl hl.1 rfl (Nat.le_of_ble_eq_true rfl) dX3_ask_50 (fun G13 H locs hvc_23 hG_24 hS_25 => ?_)
        clear hvc_20 hG_21 hS_22
        refine lv_aload_n hx hb dX3_ask_53 rfl (lv_at hl 0 rfl) ?_
        refine gw_gr (C := RX3) (T := TX3) (N := 13) (own := RX3) hx hb hts in_X3 hown hK hG_24 hvc_23 rfl (by decide) (hts _ q1784) (fun _ h9 => h9) dX3_ask_54 (fun x14 hvc_26 => ?_)
        clear hvc_23
        refine lv_bipush (v := nI 13) hx hb dX3_ask_57 (by decide) ?_
        refine gw_ild hx hb hK hG_24 hvc_26 dX3_ask_59 (fun x15 hvc_27 => ?_)
        clear hvc_26
        exact g_iret hx hb hr hlocks (Nat.zero_le _) (Nat.zero_le _) hG_24 hS_25 rfl hvc_27 dX3_ask_60
      · replace hvc_17 := hvc_17.2 h9
        refine lv_aload_n hx hb dX3_ask_35 rfl (lv_at hl 0 rfl) ?_
        refine lv_iconst (v := nI 2) hx hb dX3_ask_36 (by decide) ?_
        refine gw_cVIN (As := [.int (nI 2)]) (rest := [])  ⟨hx, hb, hml, hown, hts⟩ (met_X3_fails l E G1 o (nI 2) _ hvc_17.2) (cwV 1 hts (lw_V q1837 q1839 qs33 q104 q1840) rfl rfl rfl (by decide +kernel) ⟨Nat.le_of_ble_eq_true rfl, Nat.le_of_ble_eq_true rfl⟩) (gw_rc (q := (RX3, TX3, 13)) hK hG_18 hvc_17.1 rfl) (Nat.zero_le _) (Nat.zero_le _) (g_St0 E) hz trivial hK hG_18 hS_19 rfl hl.1 rfl (Nat.le_of_ble_eq_true rfl) dX3_ask_37 (fun x16 G17 H locs hvc_28 hG_29 hS_30 => ?_)
        clear hvc_17 hG_18 hS_19
        exact g_iret hx hb hr hlocks (Nat.zero_le _) (Nat.zero_le _) hG_29 hS_30 rfl hvc_28 dX3_ask_40
    · replace hvc_14 := hvc_14.2 h9
      exact jn20 o G1 _ _ _ hvc_14 hG_15 hS_16 (lv_sub hl [0] rfl)
set_option maxHeartbeats 4000000 in
set_option maxRecDepth 100000 in
theorem met_X3_isMessage (l : Launch) (E : g_E) (G : g_G) (o : Nat) (p1 : Int32) (post : Int32 → Prop) (hvc : wp_X3_isMessage E G o p1 post) : g_MI E l yX3_isMessage (ws_ yX3_isMessage cX3_isMessage 2 (Option.some Jvm.ClassFile.FieldType.boolean)) ({ frames := 1, cells := 0, slots := 0, locals := 22 } : Room) (fun _ => True) [.ref o, .int p1] G (fun v G9 => G9 = G ∧ post v) := by
  refine g_enter (by decide +kernel) (Nat.le_of_ble_eq_true rfl) ?_
  intro p e s m below meth c ls hx hb hr hts hown hlocks hml hin hz hX hK hG hS hl
  have hl : lv_has ls 2 [(0, .ref o), (1, .int p1)] := hl
  have hown : s.vm.findClass RX3 = some m.cls := hown
  unfold wp_X3_isMessage at hvc
  refine lv_iload_n hx hb dX3_isMessage_0 rfl (lv_at hl 1 rfl) ?_
  refine lv_iconst (v := nI 0) hx hb dX3_isMessage_1 (by decide) ?_
  refine lv_aload_n hx hb dX3_isMessage_2 rfl (lv_at hl 0 rfl) ?_
  refine gw_gr (C := RX3) (T := TX3) (N := 13) (own := RX3) hx hb hts in_X3 hown hK hG hvc rfl (by decide) (hts _ q1784) (fun _ h9 => h9) dX3_isMessage_3 (fun x1 hvc_1 => ?_)
  clear hvc
  refine lv_bipush (v := nI 13) hx hb dX3_isMessage_6 (by decide) ?_
  refine gw_ild hx hb hK hG hvc_1 dX3_isMessage_8 (fun x2 hvc_2 => ?_)
  clear hvc_1
  refine lv_iconst (v := nI 1) hx hb dX3_isMessage_9 (by decide) ?_
  refine lv_isub hx hb dX3_isMessage_10 ?_
  refine gw_cSIP (As := [.int p1, .int (nI 0), .int (x2 - (nI 1))]) (rest := [])  ⟨hx, hb, hml, hown, hts⟩ (met_X3_in l E G p1 (nI 0) (x2 - (nI 1)) _ hvc_2) (va_cwS 3 hts (lw_S q1834 q1835 q104 q1836) rfl rfl rfl (by decide +kernel) ⟨Nat.le_of_ble_eq_true rfl, Nat.le_of_ble_eq_true rfl⟩) (Nat.zero_le _) (Nat.zero_le _) (g_St0 E) hz trivial hK hG hS rfl hl.1 rfl (Nat.le_of_ble_eq_true rfl) dX3_isMessage_11 (fun x3 H locs hvc_3 hG_4 hS_5 => ?_)
  clear hvc_2 hG hS
  exact g_iret hx hb hr hlocks (Nat.zero_le _) (Nat.zero_le _) hG_4 hS_5 hvc_3.1 ⟨rfl, hvc_3.2⟩ dX3_isMessage_14
set_option maxHeartbeats 4000000 in
set_option maxRecDepth 100000 in
theorem met_X3_goesToStore (l : Launch) (E : g_E) (G : g_G) (p1 : Int32) (post : Int32 → Prop) (hvc : wp_X3_goesToStore E G p1 post) : g_MI E l yX3_goesToStore (ws_ yX3_goesToStore cX3_goesToStore 1 (Option.some Jvm.ClassFile.FieldType.boolean)) ({ frames := 0, cells := 0, slots := 0, locals := 0 } : Room) (fun _ => True) [.int p1] G (fun v G9 => G9 = G ∧ post v) := by
  refine g_enter (by decide +kernel) (Nat.le_of_ble_eq_true rfl) ?_
  intro p e s m below meth c ls hx hb hr hts hown hlocks hml hin hz hX hK hG hS hl
  have hl : lv_has ls 1 [(0, .int p1)] := hl
  have hown : s.vm.findClass RX3 = some m.cls := hown
  unfold wp_X3_goesToStore at hvc
  refine lv_iload_n hx hb dX3_goesToStore_0 rfl (lv_at hl 0 rfl) ?_
  refine lv_if_eq (tgt := 14) hx hb dX3_goesToStore_1 (by decide) (fun h9 => ?_) (fun h9 => ?_)
  · replace hvc := hvc.1 h9
    refine lv_iconst (v := nI 1) hx hb dX3_goesToStore_14 (by decide) ?_
    refine lv_goto (tgt := 19) hx hb dX3_goesToStore_15 (by decide) ?_
    exact g_iret hx hb hr hlocks (Nat.zero_le _) (Nat.zero_le _) hG hS rfl ⟨rfl, hvc⟩ dX3_goesToStore_19
  · replace hvc := hvc.2 h9
    refine lv_iload_n hx hb dX3_goesToStore_4 rfl (lv_at hl 0 rfl) ?_
    refine lv_iconst (v := nI 3) hx hb dX3_goesToStore_5 (by decide) ?_
    refine lv_icmp_eq (tgt := 14) hx hb dX3_goesToStore_6 (by decide) (fun h9 => ?_) (fun h9 => ?_)
    · replace hvc := hvc.1 h9
      refine lv_iconst (v := nI 1) hx hb dX3_goesToStore_14 (by decide) ?_
      refine lv_goto (tgt := 19) hx hb dX3_goesToStore_15 (by decide) ?_
      exact g_iret hx hb hr hlocks (Nat.zero_le _) (Nat.zero_le _) hG hS rfl ⟨rfl, hvc⟩ dX3_goesToStore_19
    · replace hvc := hvc.2 h9
      refine lv_iload_n hx hb dX3_goesToStore_9 rfl (lv_at hl 0 rfl) ?_
      refine lv_iconst (v := nI 4) hx hb dX3_goesToStore_10 (by decide) ?_
      refine lv_icmp_ne (tgt := 18) hx hb dX3_goesToStore_11 (by decide) (fun h9 => ?_) (fun h9 => ?_)
      · replace hvc := hvc.1 h9
        refine lv_iconst (v := nI 0) hx hb dX3_goesToStore_18 (by decide) ?_
        exact g_iret hx hb hr hlocks (Nat.zero_le _) (Nat.zero_le _) hG hS rfl ⟨rfl, hvc⟩ dX3_goesToStore_19
      · replace hvc := hvc.2 h9
        refine lv_iconst (v := nI 1) hx hb dX3_goesToStore_14 (by decide) ?_
        refine lv_goto (tgt := 19) hx hb dX3_goesToStore_15 (by decide) ?_
        exact g_iret hx hb hr hlocks (Nat.zero_le _) (Nat.zero_le _) hG hS rfl ⟨rfl, hvc⟩ dX3_goesToStore_19
set_option maxHeartbeats 4000000 in
set_option maxRecDepth 100000 in
theorem met_X3_isUpFor (l : Launch) (E : g_E) (G : g_G) (o : Nat) (p1 : Int32) (post : Int32 → Prop) (hvc : wp_X3_isUpFor E G o p1 post) : g_MI E l yX3_isUpFor (ws_ yX3_isUpFor cX3_isUpFor 3 (Option.some Jvm.ClassFile.FieldType.boolean)) ({ frames := 1, cells := 0, slots := 0, locals := 20 } : Room) (fun _ => True) [.ref o, .int p1] G (fun v G9 => G9 = G ∧ post v) := by
  refine g_enter (by decide +kernel) (Nat.le_of_ble_eq_true rfl) ?_
  intro p e s m below meth c ls hx hb hr hts hown hlocks hml hin hz hX hK hG hS hl
  have hl : lv_has ls 3 [(0, .ref o), (1, .int p1)] := hl
  have hown : s.vm.findClass RX3 = some m.cls := hown
  unfold wp_X3_isUpFor at hvc
  refine lv_aload_n hx hb dX3_isUpFor_0 rfl (lv_at hl 0 rfl) ?_
  refine gw_gr (C := RX3) (T := TX3) (N := 13) (own := RX3) hx hb hts in_X3 hown hK hG hvc rfl (by decide) (hts _ q1784) (fun _ h9 => h9) dX3_isUpFor_1 (fun x1 hvc_1 => ?_)
  clear hvc
  refine lv_sipush (v := nI 195) hx hb dX3_isUpFor_4 (by decide) ?_
  refine lv_iload_n hx hb dX3_isUpFor_7 rfl (lv_at hl 1 rfl) ?_
  refine lv_iadd hx hb dX3_isUpFor_8 ?_
  refine gw_ild hx hb hK hG hvc_1 dX3_isUpFor_9 (fun x2 hvc_2 => ?_)
  clear hvc_1
  refine lv_istore_n (lv' := [(2, .int x2), (0, .ref o), (1, .int p1)]) hx hb dX3_isUpFor_10 rfl hl (by decide) rfl (fun ls hl_3 => ?_)
  clear hl
  refine lv_aload_n hx hb dX3_isUpFor_11 rfl (lv_at hl_3 1 rfl) ?_
  refine gw_gr (C := RX3) (T := TX3) (N := 13) (own := RX3) hx hb hts in_X3 hown hK hG hvc_2 rfl (by decide) (hts _ q1784) (fun _ h9 => h9) dX3_isUpFor_12 (fun x3 hvc_4 => ?_)
  clear hvc_2
  refine lv_iconst (v := nI 0) hx hb dX3_isUpFor_15 (by decide) ?_
  refine lv_iload_n hx hb dX3_isUpFor_16 rfl (lv_at hl_3 0 rfl) ?_
  refine lv_bipush (v := nI 32) hx hb dX3_isUpFor_17 (by decide) ?_
  refine lv_idiv hx hb dX3_isUpFor_19 (by decide) ?_
  refine gw_cSIP (As := [.int (x2 / (nI 32))]) (rest := [.int (nI 0), .ref x3])  ⟨hx, hb, hml, hown, hts⟩ (met_X3_goesToStore l E G (x2 / (nI 32)) _ hvc_4) (va_cwS 1 hts (lw_S q1924 q1925 q104 q1926) rfl rfl rfl (by decide +kernel) ⟨Nat.le_of_ble_eq_true rfl, Nat.le_of_ble_eq_true rfl⟩) (Nat.zero_le _) (Nat.zero_le _) (g_St0 E) hz trivial hK hG hS rfl hl_3.1 rfl (Nat.le_of_ble_eq_true rfl) dX3_isUpFor_20 (fun x4 H locs hvc_5 hG_6 hS_7 => ?_)
  clear hvc_4 hG hS
  have jn33 : ∀ (s0 : Int32) (s1 : Int32) (s2 : Nat) (H : Heap) (locs : List Loc) (ls : Array Slot), wp_X3_isUpFor_33 E G post s0 s1 s2 → g_H E G H → va_S (g_A E) s.heap H locs → lv_has ls 3 [] → W p l e ({ frames := 1, cells := 0, slots := 0, locals := 20 } : Room) s m ([.ref o, .int p1] : List Value).toArray below meth c H locs 0 0 (MQ below (va_Qi (fun v G9 => G9 = G ∧ post v) (g_Bk E) (g_A E)) ([.ref o, .int p1] : List Value).toArray s 0 0 (g_A E)) (F0 m 33 ls [.int s0, .int s1, .ref s2]) := by
    clear hvc_5 hG_6 hS_7 hl_3
    intro s0 s1 s2 H locs ls hvc_8 hG_9 hS_10 hl_11
    refine lv_iadd hx hb dX3_isUpFor_33 ?_
    refine gw_ild hx hb hK hG_9 hvc_8 dX3_isUpFor_34 (fun x6 hvc_12 => ?_)
    clear hvc_8
    refine lv_iconst (v := nI 1) hx hb dX3_isUpFor_35 (by decide) ?_
    refine lv_icmp_ne (tgt := 43) hx hb dX3_isUpFor_36 (by decide) (fun h9 => ?_) (fun h9 => ?_)
    · replace hvc_12 := hvc_12.1 h9
      refine lv_iconst (v := nI 0) hx hb dX3_isUpFor_43 (by decide) ?_
      exact g_iret hx hb hr hlocks (Nat.zero_le _) (Nat.zero_le _) hG_9 hS_10 rfl ⟨rfl, hvc_12⟩ dX3_isUpFor_44
    · replace hvc_12 := hvc_12.2 h9
      refine lv_iconst (v := nI 1) hx hb dX3_isUpFor_39 (by decide) ?_
      refine lv_goto (tgt := 44) hx hb dX3_isUpFor_40 (by decide) ?_
      exact g_iret hx hb hr hlocks (Nat.zero_le _) (Nat.zero_le _) hG_9 hS_10 rfl ⟨rfl, hvc_12⟩ dX3_isUpFor_44
  refine lv_if_eq (tgt := 32) hx hb dX3_isUpFor_23 (by decide) (fun h9 => ?_) (fun h9 => ?_)
  · replace hvc_5 := hvc_5.1 h9
    refine lv_iconst (v := nI 4) hx hb dX3_isUpFor_32 (by decide) ?_
    exact jn33 (nI 4) (nI 0) x3 _ _ _ hvc_5 hG_6 hS_7 (lv_sub hl_3 [] rfl)
  · replace hvc_5 := hvc_5.2 h9
    refine lv_iload_n hx hb dX3_isUpFor_26 rfl (lv_at hl_3 0 rfl) ?_
    refine lv_iconst (v := nI 4) hx hb dX3_isUpFor_27 (by decide) ?_
    refine lv_irem hx hb dX3_isUpFor_28 (by decide) ?_
    refine lv_goto (tgt := 33) hx hb dX3_isUpFor_29 (by decide) ?_
    exact jn33 (x2 - x2 / (nI 4) * (nI 4)) (nI 0) x3 _ _ _ hvc_5 hG_6 hS_7 (lv_sub hl_3 [] rfl)
set_option maxHeartbeats 4000000 in
set_option maxRecDepth 100000 in
theorem met_X3_takes (l : Launch) (E : g_E) (G : g_G) (o : Nat) (p1 : Int32) (post : Int32 → g_G → Prop) (hvc : wp_X3_takes E G o p1 post) : g_MI E l yX3_takes (ws_ yX3_takes cX3_takes 4 (Option.some Jvm.ClassFile.FieldType.int)) ({ frames := 0, cells := 0, slots := 0, locals := 0 } : Room) (fun _ => True) [.ref o, .int p1] G (post) := by
  refine g_enter (by decide +kernel) (Nat.le_of_ble_eq_true rfl) ?_
  intro p e s m below meth c ls hx hb hr hts hown hlocks hml hin hz hX hK hG hS hl
  have hl : lv_has ls 4 [(0, .ref o), (1, .int p1)] := hl
  have hown : s.vm.findClass RX3 = some m.cls := hown
  unfold wp_X3_takes at hvc
  refine lv_aload_n hx hb dX3_takes_0 rfl (lv_at hl 0 rfl) ?_
  refine gw_gr (C := RX3) (T := TX3) (N := 13) (own := RX3) hx hb hts in_X3 hown hK hG hvc rfl (by decide) (hts _ q1784) (fun _ h9 => h9) dX3_takes_1 (fun x1 hvc_1 => ?_)
  clear hvc
  refine lv_sipush (v := nI 195) hx hb dX3_takes_4 (by decide) ?_
  refine lv_iload_n hx hb dX3_takes_7 rfl (lv_at hl 1 rfl) ?_
  refine lv_iadd hx hb dX3_takes_8 ?_
  refine gw_ild hx hb hK hG hvc_1 dX3_takes_9 (fun x2 hvc_2 => ?_)
  clear hvc_1
  refine lv_istore_n (lv' := [(2, .int x2), (0, .ref o), (1, .int p1)]) hx hb dX3_takes_10 rfl hl (by decide) rfl (fun ls hl_3 => ?_)
  clear hl
  refine lv_aload_n hx hb dX3_takes_11 rfl (lv_at hl_3 1 rfl) ?_
  refine gw_gr (C := RX3) (T := TX3) (N := 13) (own := RX3) hx hb hts in_X3 hown hK hG hvc_2 rfl (by decide) (hts _ q1784) (fun _ h9 => h9) dX3_takes_12 (fun x3 hvc_4 => ?_)
  clear hvc_2
  refine lv_bipush (v := nI 13) hx hb dX3_takes_15 (by decide) ?_
  refine lv_dup2_11 hx hb dX3_takes_17 rfl rfl ?_
  refine gw_ild hx hb hK hG hvc_4 dX3_takes_18 (fun x4 hvc_5 => ?_)
  clear hvc_4
  refine lv_iconst (v := nI 1) hx hb dX3_takes_19 (by decide) ?_
  refine lv_isub hx hb dX3_takes_20 ?_
  refine gw_ist hx hb hK hG hS hvc_5 dX3_takes_21 (fun G5 H locs hvc_6 hG_7 hS_8 => ?_)
  clear hvc_5 hG hS
  refine lv_iload_n hx hb dX3_takes_22 rfl (lv_at hl_3 2 rfl) ?_
  have lp24 : ∀ (n24 : Nat) (y0 : Nat) (y2 : Int32) (y3 : Int32) (G : g_G) (H : Heap) (locs : List Loc) (ls : Array Slot), wp_X3_takes_24 E post n24 y0 y2 y3 G → g_H E G H → va_S (g_A E) s.heap H locs → lv_has ls 4 [(0, .ref y0), (2, .int y2), (3, .int y3)] → W p l e ({ frames := 0, cells := 0, slots := 0, locals := 0 } : Room) s m ([.ref o, .int p1] : List Value).toArray below meth c H locs 0 0 (MQ below (va_Qi (post) (g_Bk E) (g_A E)) ([.ref o, .int p1] : List Value).toArray s 0 0 (g_A E)) (F0 m 24 ls []) := by
    clear hvc_6 hG_7 hS_8 hl_3
    intro n24
    induction n24 with
    | zero =>
      intro y0 y2 y3 G H locs ls hvc_9 hG_10 hS_11 hl_12
      exact False.elim hvc_9
    | succ n24 ih24 =>
      intro y0 y2 y3 G H locs ls hvc_13 hG_14 hS_15 hl_16
      refine lv_iload_n hx hb dX3_takes_24 rfl (lv_at hl_16 2 rfl) ?_
      refine lv_aload_n hx hb dX3_takes_25 rfl (lv_at hl_16 0 rfl) ?_
      refine gw_gr (C := RX3) (T := TX3) (N := 13) (own := RX3) hx hb hts in_X3 hown hK hG_14 hvc_13 rfl (by decide) (hts _ q1784) (fun _ h9 => h9) dX3_takes_26 (fun x6 hvc_17 => ?_)
      clear hvc_13
      refine lv_bipush (v := nI 13) hx hb dX3_takes_29 (by decide) ?_
      refine gw_ild hx hb hK hG_14 hvc_17 dX3_takes_31 (fun x7 hvc_18 => ?_)
      clear hvc_17
      refine lv_icmp_ge (tgt := 63) hx hb dX3_takes_32 (by decide) (fun h9 => ?_) (fun h9 => ?_)
      · replace hvc_18 := hvc_18.1 h9
        refine lv_aload_n hx hb dX3_takes_63 rfl (lv_at hl_16 0 rfl) ?_
        refine gw_gr (C := RX3) (T := TX3) (N := 13) (own := RX3) hx hb hts in_X3 hown hK hG_14 hvc_18 rfl (by decide) (hts _ q1784) (fun _ h9 => h9) dX3_takes_64 (fun x8 hvc_19 => ?_)
        clear hvc_18
        refine lv_sipush (v := nI 195) hx hb dX3_takes_67 (by decide) ?_
        refine lv_aload_n hx hb dX3_takes_70 rfl (lv_at hl_16 0 rfl) ?_
        refine gw_gr (C := RX3) (T := TX3) (N := 13) (own := RX3) hx hb hts in_X3 hown hK hG_14 hvc_19 rfl (by decide) (hts _ q1784) (fun _ h9 => h9) dX3_takes_71 (fun x9 hvc_20 => ?_)
        clear hvc_19
        refine lv_bipush (v := nI 13) hx hb dX3_takes_74 (by decide) ?_
        refine gw_ild hx hb hK hG_14 hvc_20 dX3_takes_76 (fun x10 hvc_21 => ?_)
        clear hvc_20
        refine lv_iadd hx hb dX3_takes_77 ?_
        refine lv_iconst (v := nI 0) hx hb dX3_takes_78 (by decide) ?_
        refine gw_ist hx hb hK hG_14 hS_15 hvc_21 dX3_takes_79 (fun G11 H locs hvc_22 hG_23 hS_24 => ?_)
        clear hvc_21 hG_14 hS_15
        refine lv_iload_n hx hb dX3_takes_80 rfl (lv_at hl_16 1 rfl) ?_
        exact g_iret hx hb hr hlocks (Nat.zero_le _) (Nat.zero_le _) hG_23 hS_24 rfl hvc_22 dX3_takes_81
      · replace hvc_18 := hvc_18.2 h9
        refine lv_aload_n hx hb dX3_takes_35 rfl (lv_at hl_16 0 rfl) ?_
        refine gw_gr (C := RX3) (T := TX3) (N := 13) (own := RX3) hx hb hts in_X3 hown hK hG_14 hvc_18 rfl (by decide) (hts _ q1784) (fun _ h9 => h9) dX3_takes_36 (fun x12 hvc_25 => ?_)
        clear hvc_18
        refine lv_sipush (v := nI 195) hx hb dX3_takes_39 (by decide) ?_
        refine lv_iload_n hx hb dX3_takes_42 rfl (lv_at hl_16 2 rfl) ?_
        refine lv_iadd hx hb dX3_takes_43 ?_
        refine lv_aload_n hx hb dX3_takes_44 rfl (lv_at hl_16 0 rfl) ?_
        refine gw_gr (C := RX3) (T := TX3) (N := 13) (own := RX3) hx hb hts in_X3 hown hK hG_14 hvc_25 rfl (by decide) (hts _ q1784) (fun _ h9 => h9) dX3_takes_45 (fun x13 hvc_26 => ?_)
        clear hvc_25
        refine lv_sipush (v := nI 195) hx hb dX3_takes_48 (by decide) ?_
        refine lv_iload_n hx hb dX3_takes_51 rfl (lv_at hl_16 2 rfl) ?_
        refine lv_iadd hx hb dX3_takes_52 ?_
        refine lv_iconst (v := nI 1) hx hb dX3_takes_53 (by decide) ?_
        refine lv_iadd hx hb dX3_takes_54 ?_
        refine gw_ild hx hb hK hG_14 hvc_26 dX3_takes_55 (fun x14 hvc_27 => ?_)
        clear hvc_26
        refine gw_ist hx hb hK hG_14 hS_15 hvc_27 dX3_takes_56 (fun G15 H locs hvc_28 hG_29 hS_30 => ?_)
        clear hvc_27 hG_14 hS_15
        refine lv_iinc (k := 2) (v := y3 + (nI 1)) (lv' := [(3, .int (y3 + (nI 1))), (0, .ref y0), (2, .int y2)]) hx hb dX3_takes_57 hl_16 rfl (congrArg (y3 + ·) (by decide : Int32.ofInt (1) = nI 1)) (by decide) rfl (fun ls hl_31 => ?_)
        clear hl_16
        refine lv_goto (tgt := 24) hx hb dX3_takes_60 (by decide) ?_
        exact ih24 y0 y2 (y3 + (nI 1)) G15 _ _ _ hvc_28 hG_29 hS_30 (lv_sub hl_31 [1, 2, 0] rfl)
  refine lv_istore_n (lv' := [(3, .int p1), (2, .int x2), (0, .ref o), (1, .int p1)]) hx hb dX3_takes_23 rfl hl_3 (by decide) rfl (fun ls hl_32 => ?_)
  clear hl_3
  obtain ⟨nf24, hvc_6⟩ := hvc_6
  exact lp24 nf24 o x2 p1 G5 _ _ _ hvc_6 hG_7 hS_8 (lv_sub hl_32 [2, 1, 0] rfl)
set_option maxHeartbeats 4000000 in
set_option maxRecDepth 100000 in
theorem met_X3_bits (l : Launch) (E : g_E) (G : g_G) (p1 : Int32) (post : Int32 → Prop) (hvc : wp_X3_bits E G p1 post) : g_MI E l yX3_bits (ws_ yX3_bits cX3_bits 3 (Option.some Jvm.ClassFile.FieldType.int)) ({ frames := 0, cells := 0, slots := 0, locals := 0 } : Room) (fun _ => True) [.int p1] G (fun v G9 => G9 = G ∧ post v) := by
  refine g_enter (by decide +kernel) (Nat.le_of_ble_eq_true rfl) ?_
  intro p e s m below meth c ls hx hb hr hts hown hlocks hml hin hz hX hK hG hS hl
  have hl : lv_has ls 3 [(0, .int p1)] := hl
  have hown : s.vm.findClass RX3 = some m.cls := hown
  unfold wp_X3_bits at hvc
  refine lv_iconst (v := nI 0) hx hb dX3_bits_0 (by decide) ?_
  refine lv_istore_n (lv' := [(1, .int (nI 0)), (0, .int p1)]) hx hb dX3_bits_1 rfl hl (by decide) rfl (fun ls hl_1 => ?_)
  clear hl
  refine lv_iconst (v := nI 0) hx hb dX3_bits_2 (by decide) ?_
  have lp4 : ∀ (n4 : Nat) (y0 : Int32) (y1 : Int32) (y2 : Int32) (H : Heap) (locs : List Loc) (ls : Array Slot), wp_X3_bits_4 E G post n4 y0 y1 y2 → g_H E G H → va_S (g_A E) s.heap H locs → lv_has ls 3 [(0, .int y0), (1, .int y1), (2, .int y2)] → W p l e ({ frames := 0, cells := 0, slots := 0, locals := 0 } : Room) s m ([.int p1] : List Value).toArray below meth c H locs 0 0 (MQ below (va_Qi (fun v G9 => G9 = G ∧ post v) (g_Bk E) (g_A E)) ([.int p1] : List Value).toArray s 0 0 (g_A E)) (F0 m 4 ls []) := by
    clear hvc hG hS hl_1
    intro n4
    induction n4 with
    | zero =>
      intro y0 y1 y2 H locs ls hvc_2 hG_3 hS_4 hl_5
      exact False.elim hvc_2
    | succ n4 ih4 =>
      intro y0 y1 y2 H locs ls hvc_6 hG_7 hS_8 hl_9
      refine lv_iload_n hx hb dX3_bits_4 rfl (lv_at hl_9 2 rfl) ?_
      refine lv_iconst (v := nI 4) hx hb dX3_bits_5 (by decide) ?_
      refine lv_icmp_ge (tgt := 23) hx hb dX3_bits_6 (by decide) (fun h9 => ?_) (fun h9 => ?_)
      · replace hvc_6 := hvc_6.1 h9
        refine lv_iload_n hx hb dX3_bits_23 rfl (lv_at hl_9 1 rfl) ?_
        exact g_iret hx hb hr hlocks (Nat.zero_le _) (Nat.zero_le _) hG_7 hS_8 rfl ⟨rfl, hvc_6⟩ dX3_bits_24
      · replace hvc_6 := hvc_6.2 h9
        refine lv_iload_n hx hb dX3_bits_9 rfl (lv_at hl_9 1 rfl) ?_
        refine lv_iload_n hx hb dX3_bits_10 rfl (lv_at hl_9 0 rfl) ?_
        refine lv_iload_n hx hb dX3_bits_11 rfl (lv_at hl_9 2 rfl) ?_
        refine lv_ishr hx hb dX3_bits_12 ?_
        refine lv_iconst (v := nI 1) hx hb dX3_bits_13 (by decide) ?_
        refine lv_iand hx hb dX3_bits_14 ?_
        refine lv_iadd hx hb dX3_bits_15 ?_
        refine lv_istore_n (lv' := [(1, .int (y1 + ((y0 >>> (y2 &&& 31)) &&& (nI 1)))), (0, .int y0), (2, .int y2)]) hx hb dX3_bits_16 rfl hl_9 (by decide) rfl (fun ls hl_10 => ?_)
        clear hl_9
        refine lv_iinc (k := 2) (v := y2 + (nI 1)) (lv' := [(2, .int (y2 + (nI 1))), (1, .int (y1 + ((y0 >>> (y2 &&& 31)) &&& (nI 1)))), (0, .int y0)]) hx hb dX3_bits_17 hl_10 rfl (congrArg (y2 + ·) (by decide : Int32.ofInt (1) = nI 1)) (by decide) rfl (fun ls hl_11 => ?_)
        clear hl_10
        refine lv_goto (tgt := 4) hx hb dX3_bits_20 (by decide) ?_
        exact ih4 y0 (y1 + ((y0 >>> (y2 &&& 31)) &&& (nI 1))) (y2 + (nI 1)) _ _ _ hvc_6 hG_7 hS_8 (lv_sub hl_11 [2, 1, 0] rfl)
  refine lv_istore_n (lv' := [(2, .int (nI 0)), (1, .int (nI 0)), (0, .int p1)]) hx hb dX3_bits_3 rfl hl_1 (by decide) rfl (fun ls hl_12 => ?_)
  clear hl_1
  obtain ⟨nf4, hvc⟩ := hvc
  exact lp4 nf4 p1 (nI 0) (nI 0) _ _ _ hvc hG hS (lv_sub hl_12 [2, 1, 0] rfl)
set_option maxHeartbeats 4000000 in
set_option maxRecDepth 100000 in
theorem met_X3_shareOf (l : Launch) (E : g_E) (G : g_G) (p1 : Int32) (p2 : Int32) (p3 : Int32) (p4 : Int32) (post : Int32 → Prop) (hvc : wp_X3_shareOf E G p1 p2 p3 p4 post) : g_MI E l yX3_shareOf (ws_ yX3_shareOf cX3_shareOf 5 (Option.some Jvm.ClassFile.FieldType.int)) ({ frames := 1, cells := 0, slots := 0, locals := 22 } : Room) (fun _ => True) [.int p1, .int p2, .int p3, .int p4] G (fun v G9 => G9 = G ∧ post v) := by
  refine g_enter (by decide +kernel) (Nat.le_of_ble_eq_true rfl) ?_
  intro p e s m below meth c ls hx hb hr hts hown hlocks hml hin hz hX hK hG hS hl
  have hl : lv_has ls 5 [(0, .int p1), (1, .int p2), (2, .int p3), (3, .int p4)] := hl
  have hown : s.vm.findClass RX3 = some m.cls := hown
  unfold wp_X3_shareOf at hvc
  refine lv_iload_n hx hb dX3_shareOf_0 rfl (lv_at hl 1 rfl) ?_
  refine lv_iload_n hx hb dX3_shareOf_1 rfl (lv_at hl 3 rfl) ?_
  refine lv_ishr hx hb dX3_shareOf_2 ?_
  refine lv_iconst (v := nI 1) hx hb dX3_shareOf_3 (by decide) ?_
  refine lv_iand hx hb dX3_shareOf_4 ?_
  refine lv_iconst (v := nI 1) hx hb dX3_shareOf_5 (by decide) ?_
  have jn14 : ∀ (y0 : Int32) (y1 : Int32) (y2 : Int32) (y3 : Int32) (s0 : Int32) (H : Heap) (locs : List Loc) (ls : Array Slot), wp_X3_shareOf_14 E G post y0 y1 y2 y3 s0 → g_H E G H → va_S (g_A E) s.heap H locs → lv_has ls 5 [(0, .int y0), (1, .int y1), (2, .int y2), (3, .int y3)] → W p l e ({ frames := 1, cells := 0, slots := 0, locals := 22 } : Room) s m ([.int p1, .int p2, .int p3, .int p4] : List Value).toArray below meth c H locs 0 0 (MQ below (va_Qi (fun v G9 => G9 = G ∧ post v) (g_Bk E) (g_A E)) ([.int p1, .int p2, .int p3, .int p4] : List Value).toArray s 0 0 (g_A E)) (F0 m 14 ls [.int s0]) := by
    clear hvc hG hS hl
    intro y0 y1 y2 y3 s0 H locs ls hvc_1 hG_2 hS_3 hl_4
    refine lv_istore (lv' := [(4, .int s0), (0, .int y0), (1, .int y1), (2, .int y2), (3, .int y3)]) hx hb dX3_shareOf_14 hl_4 (by decide) rfl (fun ls hl_5 => ?_)
    clear hl_4
    refine lv_iload_n hx hb dX3_shareOf_16 rfl (lv_at hl_5 4 rfl) ?_
    refine lv_iload_n hx hb dX3_shareOf_17 rfl (lv_at hl_5 1 rfl) ?_
    refine lv_icmp_ne (tgt := 31) hx hb dX3_shareOf_18 (by decide) (fun h9 => ?_) (fun h9 => ?_)
    · replace hvc_1 := hvc_1.1 h9
      refine lv_iload hx hb dX3_shareOf_31 (lv_at hl_5 0 rfl) ?_
      exact g_iret hx hb hr hlocks (Nat.zero_le _) (Nat.zero_le _) hG_2 hS_3 rfl ⟨rfl, hvc_1⟩ dX3_shareOf_33
    · replace hvc_1 := hvc_1.2 h9
      refine lv_iload_n hx hb dX3_shareOf_21 rfl (lv_at hl_5 3 rfl) ?_
      refine lv_ineg hx hb dX3_shareOf_22 ?_
      refine lv_iload_n hx hb dX3_shareOf_23 rfl (lv_at hl_5 2 rfl) ?_
      refine gw_cSIP (As := [.int y1]) (rest := [.int (-y2)])  ⟨hx, hb, hml, hown, hts⟩ (met_X3_bits l E G y1 _ hvc_1) (va_cwS 1 hts (lw_S q1942 q1943 q104 q1944) rfl rfl rfl (by decide +kernel) ⟨Nat.le_of_ble_eq_true rfl, Nat.le_of_ble_eq_true rfl⟩) (Nat.zero_le _) (Nat.zero_le _) (g_St0 E) hz trivial hK hG_2 hS_3 rfl hl_5.1 rfl (Nat.le_of_ble_eq_true rfl) dX3_shareOf_24 (fun x1 H locs hvc_6 hG_7 hS_8 => ?_)
      clear hvc_1 hG_2 hS_3
      refine lv_imul hx hb dX3_shareOf_27 ?_
      refine lv_goto (tgt := 33) hx hb dX3_shareOf_28 (by decide) ?_
      exact g_iret hx hb hr hlocks (Nat.zero_le _) (Nat.zero_le _) hG_7 hS_8 rfl ⟨rfl, hvc_6⟩ dX3_shareOf_33
  refine lv_icmp_ne (tgt := 13) hx hb dX3_shareOf_6 (by decide) (fun h9 => ?_) (fun h9 => ?_)
  · replace hvc := hvc.1 h9
    refine lv_iconst (v := nI 0) hx hb dX3_shareOf_13 (by decide) ?_
    exact jn14 p1 p2 p3 p4 (nI 0) _ _ _ hvc hG hS (lv_sub hl [0, 1, 2, 3] rfl)
  · replace hvc := hvc.2 h9
    refine lv_iload_n hx hb dX3_shareOf_9 rfl (lv_at hl 2 rfl) ?_
    refine lv_goto (tgt := 14) hx hb dX3_shareOf_10 (by decide) ?_
    exact jn14 p1 p2 p3 p4 p3 _ _ _ hvc hG hS (lv_sub hl [0, 1, 2, 3] rfl)
set_option maxHeartbeats 4000000 in
set_option maxRecDepth 100000 in
theorem met_X3_shareIn (l : Launch) (E : g_E) (G : g_G) (o : Nat) (p1 : Int32) (p2 : Int32) (post : Int32 → Prop) (hvc : wp_X3_shareIn E G o p1 p2 post) : g_MI E l yX3_shareIn (ws_ yX3_shareIn cX3_shareIn 3 (Option.some Jvm.ClassFile.FieldType.int)) ({ frames := 2, cells := 0, slots := 0, locals := 46 } : Room) (fun _ => True) [.ref o, .int p1, .int p2] G (fun v G9 => G9 = G ∧ post v) := by
  refine g_enter (by decide +kernel) (Nat.le_of_ble_eq_true rfl) ?_
  intro p e s m below meth c ls hx hb hr hts hown hlocks hml hin hz hX hK hG hS hl
  have hl : lv_has ls 3 [(0, .ref o), (1, .int p1), (2, .int p2)] := hl
  have hown : s.vm.findClass RX3 = some m.cls := hown
  unfold wp_X3_shareIn at hvc
  refine lv_aload_n hx hb dX3_shareIn_0 rfl (lv_at hl 0 rfl) ?_
  refine lv_iload_n hx hb dX3_shareIn_1 rfl (lv_at hl 1 rfl) ?_
  refine lv_iconst (v := nI 0) hx hb dX3_shareIn_2 (by decide) ?_
  refine gw_cVIP (As := [.int p1, .int (nI 0)]) (rest := [])  ⟨hx, hb, hml, hown, hts⟩ (met_X3_of l E G o p1 (nI 0) _ hvc.2) (cwV 2 hts (lw_V q1872 q1874 qs41 q104 q1875) rfl rfl rfl (by decide +kernel) ⟨Nat.le_of_ble_eq_true rfl, Nat.le_of_ble_eq_true rfl⟩) (gw_rc (q := (RX3, TX3, 13)) hK hG hvc.1 rfl) (Nat.zero_le _) (Nat.zero_le _) (g_St0 E) hz trivial hK hG hS rfl hl.1 rfl (Nat.le_of_ble_eq_true rfl) dX3_shareIn_3 (fun x1 H locs hvc_1 hG_2 hS_3 => ?_)
  clear hvc hG hS
  refine lv_aload_n hx hb dX3_shareIn_6 rfl (lv_at hl 0 rfl) ?_
  refine lv_iload_n hx hb dX3_shareIn_7 rfl (lv_at hl 1 rfl) ?_
  refine lv_iconst (v := nI 1) hx hb dX3_shareIn_8 (by decide) ?_
  refine gw_cVIP (As := [.int p1, .int (nI 1)]) (rest := [.int x1])  ⟨hx, hb, hml, hown, hts⟩ (met_X3_of l E G o p1 (nI 1) _ hvc_1.2) (cwV 2 hts (lw_V q1872 q1874 qs41 q104 q1875) rfl rfl rfl (by decide +kernel) ⟨Nat.le_of_ble_eq_true rfl, Nat.le_of_ble_eq_true rfl⟩) (gw_rc (q := (RX3, TX3, 13)) hK hG_2 hvc_1.1 rfl) (Nat.zero_le _) (Nat.zero_le _) (g_St0 E) hz trivial hK hG_2 hS_3 rfl hl.1 rfl (Nat.le_of_ble_eq_true rfl) dX3_shareIn_9 (fun x3 H locs hvc_4 hG_5 hS_6 => ?_)
  clear hvc_1 hG_2 hS_3
  refine lv_aload_n hx hb dX3_shareIn_12 rfl (lv_at hl 0 rfl) ?_
  refine lv_iload_n hx hb dX3_shareIn_13 rfl (lv_at hl 1 rfl) ?_
  refine lv_iconst (v := nI 2) hx hb dX3_shareIn_14 (by decide) ?_
  refine gw_cVIP (As := [.int p1, .int (nI 2)]) (rest := [.int x3, .int x1])  ⟨hx, hb, hml, hown, hts⟩ (met_X3_of l E G o p1 (nI 2) _ hvc_4.2) (cwV 2 hts (lw_V q1872 q1874 qs41 q104 q1875) rfl rfl rfl (by decide +kernel) ⟨Nat.le_of_ble_eq_true rfl, Nat.le_of_ble_eq_true rfl⟩) (gw_rc (q := (RX3, TX3, 13)) hK hG_5 hvc_4.1 rfl) (Nat.zero_le _) (Nat.zero_le _) (g_St0 E) hz trivial hK hG_5 hS_6 rfl hl.1 rfl (Nat.le_of_ble_eq_true rfl) dX3_shareIn_15 (fun x5 H locs hvc_7 hG_8 hS_9 => ?_)
  clear hvc_4 hG_5 hS_6
  refine lv_iload_n hx hb dX3_shareIn_18 rfl (lv_at hl 2 rfl) ?_
  refine gw_cSIP (As := [.int x1, .int x3, .int x5, .int p2]) (rest := [])  ⟨hx, hb, hml, hown, hts⟩ (met_X3_shareOf l E G x1 x3 x5 p2 _ hvc_7) (va_cwS 4 hts (lw_S q1939 q1940 q104 q1941) rfl rfl rfl (by decide +kernel) ⟨Nat.le_of_ble_eq_true rfl, Nat.le_of_ble_eq_true rfl⟩) (Nat.zero_le _) (Nat.zero_le _) (g_St0 E) hz trivial hK hG_8 hS_9 rfl hl.1 rfl (Nat.le_of_ble_eq_true rfl) dX3_shareIn_19 (fun x7 H locs hvc_10 hG_11 hS_12 => ?_)
  clear hvc_7 hG_8 hS_9
  exact g_iret hx hb hr hlocks (Nat.zero_le _) (Nat.zero_le _) hG_11 hS_12 rfl ⟨rfl, hvc_10⟩ dX3_shareIn_22
