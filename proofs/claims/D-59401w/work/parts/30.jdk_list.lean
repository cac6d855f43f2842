/-! printed by tools/gen.py -/
set_option maxHeartbeats 4000000 in
set_option maxRecDepth 100000 in
theorem met_J21_init (l : Launch) (E : g_E) (G : g_G) (o : Nat) (p1 : Nat) (post : g_G → Prop) (hvc : wp_J21_init E G o p1 post) : g_MV E l yJ21_init (ws_ yJ21_init cJ21_init 2 (Option.none : Option Jvm.ClassFile.FieldType)) ({ frames := 1, cells := 0, slots := 0, locals := 12 } : Room) (fun _ => True) [.ref o, .ref p1] G (post) := by
  refine g_enter (by decide +kernel) (Nat.le_of_ble_eq_true rfl) ?_
  intro p e s m below meth c ls hx hb hr hts hown hlocks hml hin hz hX hK hG hS hl
  have hl : lv_has ls 2 [(0, .ref o), (1, .ref p1)] := hl
  have hown : s.vm.findClass RJ21 = some m.cls := hown
  unfold wp_J21_init at hvc
  refine lv_aload_n hx hb dJ21_init_0 rfl (lv_at hl 0 rfl) ?_
  refine lv_aload_n hx hb dJ21_init_1 rfl (lv_at hl 1 rfl) ?_
  refine gw_putF (ty := .object "java/util/ArrayList") (C := RJ21) (T := TJ21) (N := 4) (own := RJ21) hx hb hts in_J21 tyJ21 tyJ21_ok nmJ21 hown hK hG hS hvc rfl (by decide) (hts _ q705) (fun _ h9 => h9) rfl hin rfl (by decide +kernel) rfl rfl dJ21_init_2 (fun G1 H locs hvc_1 hG_2 hS_3 => ?_)
  clear hvc hG hS
  refine lv_aload_n hx hb dJ21_init_5 rfl (lv_at hl 0 rfl) ?_
  refine W.objInit hx hb hown (hts _ q701) (hts _ q135) (hts _ q136) rfl (by rw [hml]; exact hl.1) rfl dJ21_init_6 (Nat.le_of_ble_eq_true rfl) (Nat.le_of_ble_eq_true rfl) ?_
  refine W.eq (g2 := F0 m 9 ls []) rfl ?_
  refine lv_aload_n hx hb dJ21_init_9 rfl (lv_at hl 0 rfl) ?_
  refine lv_iconst (v := -nI 1) hx hb dJ21_init_10 (by decide) ?_
  refine gw_put (ty := .int) (C := RJ21) (T := TJ21) (N := 4) (own := RJ21) hx hb hts in_J21 tyJ21 tyJ21_ok nmJ21 hown hK hG_2 hS_3 hvc_1 rfl (by decide) (hts _ q703) (fun _ h9 => h9) rfl (by decide +kernel) rfl rfl dJ21_init_11 (fun G2 H locs hvc_4 hG_5 hS_6 => ?_)
  clear hvc_1 hG_2 hS_3
  refine lv_aload_n hx hb dJ21_init_14 rfl (lv_at hl 0 rfl) ?_
  refine lv_aload_n hx hb dJ21_init_15 rfl (lv_at hl 0 rfl) ?_
  refine gw_gr (C := RJ21) (T := TJ21) (N := 4) (own := RJ21) hx hb hts in_J21 hown hK hG_5 hvc_4 rfl (by decide) (hts _ q705) (fun _ h9 => h9) dJ21_init_16 (fun x3 hvc_7 => ?_)
  clear hvc_4
  refine gw_gi (C := RJ7) (T := TJ7) (N := 3) (own := RJ21) hx hb hts in_J7 hown hK hG_5 hvc_7 rfl (by decide) (hts _ q213) (fun x9 h9 => u_same (hts _ q214) x9 h9) dJ21_init_19 (fun x4 hvc_8 => ?_)
  clear hvc_7
  refine gw_put (ty := .int) (C := RJ21) (T := TJ21) (N := 4) (own := RJ21) hx hb hts in_J21 tyJ21 tyJ21_ok nmJ21 hown hK hG_5 hS_6 hvc_8 rfl (by decide) (hts _ q704) (fun _ h9 => h9) rfl (by decide +kernel) rfl rfl dJ21_init_22 (fun G5 H locs hvc_9 hG_10 hS_11 => ?_)
  clear hvc_8 hG_5 hS_6
  exact g_vret hx hb hr hlocks (Nat.zero_le _) (Nat.zero_le _) hG_10 hS_11 hvc_9 dJ21_init_25
set_option maxHeartbeats 4000000 in
set_option maxRecDepth 100000 in
theorem met_J21_hasNext (l : Launch) (E : g_E) (G : g_G) (o : Nat) (post : Int32 → Prop) (hvc : wp_J21_hasNext E G o post) : g_MI E l yJ21_hasNext (ws_ yJ21_hasNext cJ21_hasNext 1 (Option.some Jvm.ClassFile.FieldType.boolean)) ({ frames := 0, cells := 0, slots := 0, locals := 0 } : Room) (g_X E) [.ref o] G (fun v G9 => G9 = G ∧ post v) := by
  refine g_enter (by decide +kernel) (Nat.le_of_ble_eq_true rfl) ?_
  intro p e s m below meth c ls hx hb hr hts hown hlocks hml hin hz hX hK hG hS hl
  have hl : lv_has ls 1 [(0, .ref o)] := hl
  have hown : s.vm.findClass RJ21 = some m.cls := hown
  unfold wp_J21_hasNext at hvc
  refine lv_aload_n hx hb dJ21_hasNext_0 rfl (lv_at hl 0 rfl) ?_
  refine gw_gi (C := RJ21) (T := TJ21) (N := 4) (own := RJ21) hx hb hts in_J21 hown hK hG hvc rfl (by decide) (hts _ q702) (fun _ h9 => h9) dJ21_hasNext_1 (fun x1 hvc_1 => ?_)
  clear hvc
  refine lv_aload_n hx hb dJ21_hasNext_4 rfl (lv_at hl 0 rfl) ?_
  refine gw_gr (C := RJ21) (T := TJ21) (N := 4) (own := RJ21) hx hb hts in_J21 hown hK hG hvc_1 rfl (by decide) (hts _ q705) (fun _ h9 => h9) dJ21_hasNext_5 (fun x2 hvc_2 => ?_)
  clear hvc_1
  refine gw_giN (C := RJ7) (T := TJ7) (N := 3) (own := RJ21) hx hb hts in_J7 hown hK hG hvc_2 rfl (by decide) (hX.1 _ q210 rfl) (fun _ h9 => h9) dJ21_hasNext_8 (fun x3 hvc_3 => ?_)
  clear hvc_2
  refine lv_icmp_eq (tgt := 18) hx hb dJ21_hasNext_11 (by decide) (fun h9 => ?_) (fun h9 => ?_)
  · replace hvc_3 := hvc_3.1 h9
    refine lv_iconst (v := nI 0) hx hb dJ21_hasNext_18 (by decide) ?_
    exact g_iret hx hb hr hlocks (Nat.zero_le _) (Nat.zero_le _) hG hS rfl ⟨rfl, hvc_3⟩ dJ21_hasNext_19
  · replace hvc_3 := hvc_3.2 h9
    refine lv_iconst (v := nI 1) hx hb dJ21_hasNext_14 (by decide) ?_
    refine lv_goto (tgt := 19) hx hb dJ21_hasNext_15 (by decide) ?_
    exact g_iret hx hb hr hlocks (Nat.zero_le _) (Nat.zero_le _) hG hS rfl ⟨rfl, hvc_3⟩ dJ21_hasNext_19
set_option maxHeartbeats 4000000 in
set_option maxRecDepth 100000 in
theorem met_J21_checkForComodification (l : Launch) (E : g_E) (G : g_G) (o : Nat) (mc0 ms0 : Nat) (post : g_G → Prop) (hvc : wp_J21_checkForComodification E G o mc0 ms0 post) : g_MV E l yJ21_checkForComodification (ws_ yJ21_checkForComodification cJ21_checkForComodification 1 (Option.none : Option Jvm.ClassFile.FieldType)) ({ frames := 0, cells := mc0, slots := ms0, locals := 0 } : Room) (fun _ => True) [.ref o] G (post) := by
  refine g_enter (by decide +kernel) (Nat.le_of_ble_eq_true rfl) ?_
  intro p e s m below meth c ls hx hb hr hts hown hlocks hml hin hz hX hK hG hS hl
  have hl : lv_has ls 1 [(0, .ref o)] := hl
  have hown : s.vm.findClass RJ21 = some m.cls := hown
  have hMC : 0 + mc0 ≤ mc0 := Nat.le_of_eq (Nat.zero_add _)
  have hMS : 0 + ms0 ≤ ms0 := Nat.le_of_eq (Nat.zero_add _)
  unfold wp_J21_checkForComodification at hvc
  refine lv_aload_n hx hb dJ21_checkForComodification_0 rfl (lv_at hl 0 rfl) ?_
  refine gw_gr (C := RJ21) (T := TJ21) (N := 4) (own := RJ21) hx hb hts in_J21 hown hK hG hvc rfl (by decide) (hts _ q705) (fun _ h9 => h9) dJ21_checkForComodification_1 (fun x1 hvc_1 => ?_)
  clear hvc
  refine gw_gi (C := RJ7) (T := TJ7) (N := 3) (own := RJ21) hx hb hts in_J7 hown hK hG hvc_1 rfl (by decide) (hts _ q213) (fun x9 h9 => u_same (hts _ q214) x9 h9) dJ21_checkForComodification_4 (fun x2 hvc_2 => ?_)
  clear hvc_1
  refine lv_aload_n hx hb dJ21_checkForComodification_7 rfl (lv_at hl 0 rfl) ?_
  refine gw_gi (C := RJ21) (T := TJ21) (N := 4) (own := RJ21) hx hb hts in_J21 hown hK hG hvc_2 rfl (by decide) (hts _ q704) (fun _ h9 => h9) dJ21_checkForComodification_8 (fun x3 hvc_3 => ?_)
  clear hvc_2
  refine lv_icmp_eq (tgt := 22) hx hb dJ21_checkForComodification_11 (by decide) (fun h9 => ?_) (fun h9 => ?_)
  · replace hvc_3 := hvc_3.1 h9
    exact g_vret hx hb hr hlocks (by show _ ≤ mc0; omega) (by show _ ≤ ms0; omega) hG hS hvc_3 dJ21_checkForComodification_22
  · replace hvc_3 := hvc_3.2 h9
    exact False.elim hvc_3
set_option maxHeartbeats 4000000 in
set_option maxRecDepth 100000 in
theorem met_J21_next (l : Launch) (E : g_E) (G : g_G) (o : Nat) (mc0 ms0 : Nat) (post : Option Nat → g_G → Prop) (hvc : wp_J21_next E G o mc0 ms0 post) : g_MQ E l yJ21_next (ws_ yJ21_next cJ21_next 3 (Option.some (Jvm.ClassFile.FieldType.object "java/lang/Object"))) ({ frames := 1, cells := mc0, slots := ms0, locals := 20 } : Room) (g_X E) [.ref o] G (post) := by
  refine g_enter (by decide +kernel) (Nat.le_of_ble_eq_true rfl) ?_
  intro p e s m below meth c ls hx hb hr hts hown hlocks hml hin hz hX hK hG hS hl
  have hl : lv_has ls 3 [(0, .ref o)] := hl
  have hown : s.vm.findClass RJ21 = some m.cls := hown
  have hMC : 0 + mc0 ≤ mc0 := Nat.le_of_eq (Nat.zero_add _)
  have hMS : 0 + ms0 ≤ ms0 := Nat.le_of_eq (Nat.zero_add _)
  unfold wp_J21_next at hvc
  refine lv_aload_n hx hb dJ21_next_0 rfl (lv_at hl 0 rfl) ?_
  obtain ⟨c3, t4, hc1, hs1, hvc⟩ := hvc
  refine gw_cVVA (As := []) (rest := [])  ⟨hx, hb, hml, hown, hts⟩ (met_J21_checkForComodification l E G o c3 t4 _ hvc.2) (cwV 0 hts (lw_V q734 q735 q736 q116 q737) rfl rfl rfl (by decide +kernel) ⟨Nat.le_of_ble_eq_true rfl, Nat.le_of_ble_eq_true rfl⟩) (gw_rc (q := (RJ21, TJ21, 4)) hK hG hvc.1 rfl) hc1 hs1 hMC hMS (Nat.le_refl _) (Nat.le_refl _) (g_St0 E) hz trivial hK hG hS rfl hl.1 rfl (Nat.le_of_ble_eq_true rfl) dJ21_next_1 (fun G2 H locs ce sl hvc_1 hG_2 hS_3 hMC_4 hMS_5 => ?_)
  clear hvc hG hS hMC hMS
  refine lv_aload_n hx hb dJ21_next_4 rfl (lv_at hl 0 rfl) ?_
  refine gw_gi (C := RJ21) (T := TJ21) (N := 4) (own := RJ21) hx hb hts in_J21 hown hK hG_2 hvc_1 rfl (by decide) (hts _ q702) (fun _ h9 => h9) dJ21_next_5 (fun x5 hvc_6 => ?_)
  clear hvc_1
  refine lv_istore_n (lv' := [(1, .int x5), (0, .ref o)]) hx hb dJ21_next_8 rfl hl (by decide) rfl (fun ls hl_7 => ?_)
  clear hl
  refine lv_iload_n hx hb dJ21_next_9 rfl (lv_at hl_7 0 rfl) ?_
  refine lv_aload_n hx hb dJ21_next_10 rfl (lv_at hl_7 1 rfl) ?_
  refine gw_gr (C := RJ21) (T := TJ21) (N := 4) (own := RJ21) hx hb hts in_J21 hown hK hG_2 hvc_6 rfl (by decide) (hts _ q705) (fun _ h9 => h9) dJ21_next_11 (fun x6 hvc_8 => ?_)
  clear hvc_6
  refine gw_giN (C := RJ7) (T := TJ7) (N := 3) (own := RJ21) hx hb hts in_J7 hown hK hG_2 hvc_8 rfl (by decide) (hX.1 _ q210 rfl) (fun _ h9 => h9) dJ21_next_14 (fun x7 hvc_9 => ?_)
  clear hvc_8
  refine lv_icmp_lt (tgt := 28) hx hb dJ21_next_17 (by decide) (fun h9 => ?_) (fun h9 => ?_)
  · replace hvc_9 := hvc_9.1 h9
    refine lv_aload_n hx hb dJ21_next_28 rfl (lv_at hl_7 1 rfl) ?_
    refine gw_gr (C := RJ21) (T := TJ21) (N := 4) (own := RJ21) hx hb hts in_J21 hown hK hG_2 hvc_9 rfl (by decide) (hts _ q705) (fun _ h9 => h9) dJ21_next_29 (fun x8 hvc_10 => ?_)
    clear hvc_9
    refine gw_gr (C := RJ7) (T := TJ7) (N := 3) (own := RJ21) hx hb hts in_J7 hown hK hG_2 hvc_10 rfl (by decide) (hts _ q209) (fun _ h9 => h9) dJ21_next_32 (fun x9 hvc_11 => ?_)
    clear hvc_10
    refine lv_astore_n (lv' := [(2, .ref x9), (1, .int x5), (0, .ref o)]) hx hb dJ21_next_35 rfl hl_7 (by decide) rfl (fun ls hl_12 => ?_)
    clear hl_7
    refine lv_iload_n hx hb dJ21_next_36 rfl (lv_at hl_12 1 rfl) ?_
    refine lv_aload_n hx hb dJ21_next_37 rfl (lv_at hl_12 0 rfl) ?_
    refine gw_alen hx hb hK hG_2 hvc_11 dJ21_next_38 (fun x10 hvc_13 => ?_)
    clear hvc_11
    refine lv_icmp_lt (tgt := 50) hx hb dJ21_next_39 (by decide) (fun h9 => ?_) (fun h9 => ?_)
    · replace hvc_13 := hvc_13.1 h9
      refine lv_aload_n hx hb dJ21_next_50 rfl (lv_at hl_12 2 rfl) ?_
      refine lv_iload_n hx hb dJ21_next_51 rfl (lv_at hl_12 1 rfl) ?_
      refine lv_iconst (v := nI 1) hx hb dJ21_next_52 (by decide) ?_
      refine lv_iadd hx hb dJ21_next_53 ?_
      refine gw_put (ty := .int) (C := RJ21) (T := TJ21) (N := 4) (own := RJ21) hx hb hts in_J21 tyJ21 tyJ21_ok nmJ21 hown hK hG_2 hS_3 hvc_13 rfl (by decide) (hts _ q702) (fun _ h9 => h9) rfl (by decide +kernel) rfl rfl dJ21_next_54 (fun G11 H locs hvc_14 hG_15 hS_16 => ?_)
      clear hvc_13 hG_2 hS_3
      refine lv_aload_n hx hb dJ21_next_57 rfl (lv_at hl_12 0 rfl) ?_
      refine lv_aload_n hx hb dJ21_next_58 rfl (lv_at hl_12 2 rfl) ?_
      refine lv_iload_n hx hb dJ21_next_59 rfl (lv_at hl_12 1 rfl) ?_
      refine lv_dup_x1 hx hb dJ21_next_60 rfl rfl ?_
      refine gw_put (ty := .int) (C := RJ21) (T := TJ21) (N := 4) (own := RJ21) hx hb hts in_J21 tyJ21 tyJ21_ok nmJ21 hown hK hG_15 hS_16 hvc_14 rfl (by decide) (hts _ q703) (fun _ h9 => h9) rfl (by decide +kernel) rfl rfl dJ21_next_61 (fun G12 H locs hvc_17 hG_18 hS_19 => ?_)
      clear hvc_14 hG_15 hS_16
      refine gw_qld hx hb hK hG_18 hvc_17 dJ21_next_64 (fun x13 hvc_20 => ?_)
      clear hvc_17
      exact g_aret (v := x13) hx hb hr (Or.inl ⟨_, rfl⟩) hlocks (by show _ ≤ mc0; omega) (by show _ ≤ ms0; omega) hG_18 hS_19 hvc_20 dJ21_next_65
    · replace hvc_13 := hvc_13.2 h9
      exact False.elim hvc_13
  · replace hvc_9 := hvc_9.2 h9
    exact False.elim hvc_9
set_option maxHeartbeats 4000000 in
set_option maxRecDepth 100000 in
theorem met_J4_init (l : Launch) (E : g_E) (G : g_G) (o : Nat) (post : Prop) (hvc : wp_J4_init E G o post) : g_MV E l yJ4_init (ws_ yJ4_init cJ4_init 1 (Option.none : Option Jvm.ClassFile.FieldType)) ({ frames := 1, cells := 0, slots := 0, locals := 12 } : Room) (fun _ => True) [.ref o] G (fun G9 => G9 = G ∧ post) := by
  refine g_enter (by decide +kernel) (Nat.le_of_ble_eq_true rfl) ?_
  intro p e s m below meth c ls hx hb hr hts hown hlocks hml hin hz hX hK hG hS hl
  have hl : lv_has ls 1 [(0, .ref o)] := hl
  have hown : s.vm.findClass RJ4 = some m.cls := hown
  unfold wp_J4_init at hvc
  refine lv_aload_n hx hb dJ4_init_0 rfl (lv_at hl 0 rfl) ?_
  refine W.objInit hx hb hown (hts _ q178) (hts _ q135) (hts _ q136) rfl (by rw [hml]; exact hl.1) rfl dJ4_init_1 (Nat.le_of_ble_eq_true rfl) (Nat.le_of_ble_eq_true rfl) ?_
  refine W.eq (g2 := F0 m 4 ls []) rfl ?_
  exact g_vret hx hb hr hlocks (Nat.zero_le _) (Nat.zero_le _) hG hS ⟨rfl, hvc⟩ dJ4_init_4
set_option maxHeartbeats 4000000 in
set_option maxRecDepth 100000 in
theorem met_J6_init (l : Launch) (E : g_E) (G : g_G) (o : Nat) (post : g_G → Prop) (hvc : wp_J6_init E G o post) : g_MV E l yJ6_init (ws_ yJ6_init cJ6_init 1 (Option.none : Option Jvm.ClassFile.FieldType)) ({ frames := 2, cells := 0, slots := 0, locals := 32 } : Room) (fun _ => True) [.ref o] G (post) := by
  refine g_enter (by decide +kernel) (Nat.le_of_ble_eq_true rfl) ?_
  intro p e s m below meth c ls hx hb hr hts hown hlocks hml hin hz hX hK hG hS hl
  have hl : lv_has ls 1 [(0, .ref o)] := hl
  have hown : s.vm.findClass RJ6 = some m.cls := hown
  unfold wp_J6_init at hvc
  refine lv_aload_n hx hb dJ6_init_0 rfl (lv_at hl 0 rfl) ?_
  refine gw_cCVP (As := []) (rest := [])  ⟨hx, hb, hml, hown, hts⟩ (met_J4_init l E G o _ hvc) (cwI 0 hts (lw_meth q177) rfl rfl rfl (hts _ q95) (hts _ q205) (hts _ q176) rfl (by decide +kernel) ⟨Nat.le_of_ble_eq_true rfl, Nat.le_of_ble_eq_true rfl⟩) (Nat.zero_le _) (Nat.zero_le _) (g_St0 E) hz trivial hK hG hS rfl hl.1 rfl (Nat.le_of_ble_eq_true rfl) dJ6_init_1 (fun H locs hvc_1 hG_2 hS_3 => ?_)
  clear hvc hG hS
  refine lv_aload_n hx hb dJ6_init_4 rfl (lv_at hl 0 rfl) ?_
  refine lv_iconst (v := nI 0) hx hb dJ6_init_5 (by decide) ?_
  refine gw_put (ty := .int) (C := RJ7) (T := TJ7) (N := 3) (own := RJ6) hx hb hts in_J7 tyJ7 tyJ7_ok nmJ7 hown hK hG_2 hS_3 hvc_1 rfl (by decide) (hts _ q212) (fun _ h9 => h9) rfl (by decide +kernel) rfl rfl dJ6_init_6 (fun G3 H locs hvc_4 hG_5 hS_6 => ?_)
  clear hvc_1 hG_2 hS_3
  exact g_vret hx hb hr hlocks (Nat.zero_le _) (Nat.zero_le _) hG_5 hS_6 hvc_4 dJ6_init_9
set_option maxHeartbeats 4000000 in
set_option maxRecDepth 100000 in
theorem met_J7_init (l : Launch) (E : g_E) (G : g_G) (o : Nat) (post : g_G → Prop) (hvc : wp_J7_init E G o post) : g_MV E l yJ7_init (ws_ yJ7_init cJ7_init 1 (Option.none : Option Jvm.ClassFile.FieldType)) ({ frames := 3, cells := 0, slots := 0, locals := 52 } : Room) (g_X E) [.ref o] G (post) := by
  refine g_enter (by decide +kernel) (Nat.le_of_ble_eq_true rfl) ?_
  intro p e s m below meth c ls hx hb hr hts hown hlocks hml hin hz hX hK hG hS hl
  have hl : lv_has ls 1 [(0, .ref o)] := hl
  have hown : s.vm.findClass RJ7 = some m.cls := hown
  unfold wp_J7_init at hvc
  refine lv_aload_n hx hb dJ7_init_0 rfl (lv_at hl 0 rfl) ?_
  refine gw_cCVN (As := []) (rest := [])  ⟨hx, hb, hml, hown, hts⟩ (met_J6_init l E G o _ hvc) (cwI 0 hts (lw_meth q204) rfl rfl rfl (hts _ q98) (hts _ q202) (hts _ q203) rfl (by decide +kernel) ⟨Nat.le_of_ble_eq_true rfl, Nat.le_of_ble_eq_true rfl⟩) (Nat.zero_le _) (Nat.zero_le _) (g_St0 E) hz trivial hK hG hS rfl hl.1 rfl (Nat.le_of_ble_eq_true rfl) dJ7_init_1 (fun G2 H locs hvc_1 hG_2 hS_3 => ?_)
  clear hvc hG hS
  refine lv_aload_n hx hb dJ7_init_4 rfl (lv_at hl 0 rfl) ?_
  refine va_gets (A := g_A E) hx hb hX.dz hS_3 hown (hts _ q206) (fun _ h9 => h9) dJ7_init_5 ?_
  refine gw_put (ty := .array (.object "java/lang/Object")) (C := RJ7) (T := TJ7) (N := 3) (own := RJ7) hx hb hts in_J7 tyJ7 tyJ7_ok nmJ7 hown hK hG_2 hS_3 hvc_1 rfl (by decide) (hts _ q208) (fun _ h9 => h9) rfl (by decide +kernel) rfl rfl dJ7_init_8 (fun G3 H locs hvc_4 hG_5 hS_6 => ?_)
  clear hvc_1 hG_2 hS_3
  exact g_vret hx hb hr hlocks (Nat.zero_le _) (Nat.zero_le _) hG_5 hS_6 hvc_4 dJ7_init_11
set_option maxHeartbeats 4000000 in
set_option maxRecDepth 100000 in
theorem met_J8_newLength (l : Launch) (E : g_E) (G : g_G) (p1 : Int32) (p2 : Int32) (p3 : Int32) (mc0 ms0 : Nat) (post : Int32 → g_G → Prop) (hvc : wp_J8_newLength E G p1 p2 p3 mc0 ms0 post) : g_MI E l yJ8_newLength (ws_ yJ8_newLength cJ8_newLength 4 (Option.some Jvm.ClassFile.FieldType.int)) ({ frames := 1, cells := mc0, slots := ms0, locals := 40 } : Room) (fun _ => True) [.int p1, .int p2, .int p3] G (post) := by
  refine g_enter (by decide +kernel) (Nat.le_of_ble_eq_true rfl) ?_
  intro p e s m below meth c ls hx hb hr hts hown hlocks hml hin hz hX hK hG hS hl
  have hl : lv_has ls 4 [(0, .int p1), (1, .int p2), (2, .int p3)] := hl
  have hown : s.vm.findClass RJ8 = some m.cls := hown
  have hMC : 0 + mc0 ≤ mc0 := Nat.le_of_eq (Nat.zero_add _)
  have hMS : 0 + ms0 ≤ ms0 := Nat.le_of_eq (Nat.zero_add _)
  unfold wp_J8_newLength at hvc
  refine lv_iload_n hx hb dJ8_newLength_0 rfl (lv_at hl 0 rfl) ?_
  refine lv_iload_n hx hb dJ8_newLength_1 rfl (lv_at hl 1 rfl) ?_
  refine lv_iload_n hx hb dJ8_newLength_2 rfl (lv_at hl 2 rfl) ?_
  refine va_mmax hx hb (by rw [hml]; exact hl.1.symm) hown (hts _ q248) (hts _ q249) (hts _ q101) (hts _ q250) (Nat.le_of_ble_eq_true rfl) (Nat.le_of_ble_eq_true rfl) (by show _ ≤ mc0; omega) (by show _ ≤ ms0; omega) dJ8_newLength_3 ?_
  refine lv_iadd hx hb dJ8_newLength_6 ?_
  refine lv_istore_n (lv' := [(3, .int (p1 + (if p2 < p3 then p3 else p2))), (0, .int p1), (1, .int p2), (2, .int p3)]) hx hb dJ8_newLength_7 rfl hl (by decide) rfl (fun ls hl_1 => ?_)
  clear hl
  refine lv_iconst (v := nI 0) hx hb dJ8_newLength_8 (by decide) ?_
  refine lv_iload_n hx hb dJ8_newLength_9 rfl (lv_at hl_1 0 rfl) ?_
  have jn21 : ∀ (y0 : Int32) (y1 : Int32) (G : g_G) (mc : Nat) (ms : Nat) (H : Heap) (locs : List Loc) (ls : Array Slot) (ce sl : Nat), wp_J8_newLength_21 E post y0 y1 G mc ms → g_H E G H → va_S (g_A E) s.heap H locs → lv_has ls 4 [(0, .int y0), (1, .int y1)] → ce + mc ≤ mc0 → sl + ms ≤ ms0 → W p l e ({ frames := 1, cells := mc0, slots := ms0, locals := 40 } : Room) s m ([.int p1, .int p2, .int p3] : List Value).toArray below meth c H locs ce sl (MQ below (va_Qi (post) (g_Bk E) (g_A E)) ([.int p1, .int p2, .int p3] : List Value).toArray s mc0 ms0 (g_A E)) (F0 m 21 ls []) := by
    clear hvc hG hS hl_1 hMC hMS
    intro y0 y1 G mc ms H locs ls ce sl hvc_2 hG_3 hS_4 hl_5 hMC_6 hMS_7
    refine lv_iload_n hx hb dJ8_newLength_21 rfl (lv_at hl_5 0 rfl) ?_
    refine lv_iload_n hx hb dJ8_newLength_22 rfl (lv_at hl_5 1 rfl) ?_
    exact False.elim hvc_2
  refine lv_icmp_ge (tgt := 21) hx hb dJ8_newLength_10 (by decide) (fun h9 => ?_) (fun h9 => ?_)
  · replace hvc := hvc.1 h9
    exact jn21 p1 p2 G mc0 ms0 _ _ _ _ _ hvc hG hS (lv_sub hl_1 [1, 2] rfl) hMC hMS
  · replace hvc := hvc.2 h9
    refine lv_iload_n hx hb dJ8_newLength_13 rfl (lv_at hl_1 0 rfl) ?_
    refine lv_ldc (v := nI 2147483639) hx hb hown (by exact hts _ q251) dJ8_newLength_14 ?_
    refine lv_icmp_gt (tgt := 21) hx hb dJ8_newLength_16 (by decide) (fun h9 => ?_) (fun h9 => ?_)
    · replace hvc := hvc.1 h9
      exact jn21 p1 p2 G mc0 ms0 _ _ _ _ _ hvc hG hS (lv_sub hl_1 [1, 2] rfl) hMC hMS
    · replace hvc := hvc.2 h9
      refine lv_iload_n hx hb dJ8_newLength_19 rfl (lv_at hl_1 0 rfl) ?_
      exact g_iret hx hb hr hlocks (by show _ ≤ mc0; omega) (by show _ ≤ ms0; omega) hG hS rfl hvc dJ8_newLength_20
set_option maxHeartbeats 4000000 in
set_option maxRecDepth 100000 in
theorem met_J10_copyOf_2 (l : Launch) (E : g_E) (G : g_G) (p1 : Nat) (p2 : Int32) (p3 : Nat) (mc0 ms0 : Nat) (post : Option Nat → g_G → Prop) (hvc : wp_J10_copyOf_2 E G p1 p2 p3 mc0 ms0 post) : g_MQ E l yJ10_copyOf_2 (ws_ yJ10_copyOf_2 cJ10_copyOf_2 4 (Option.some (Jvm.ClassFile.FieldType.array (Jvm.ClassFile.FieldType.object "java/lang/Object")))) ({ frames := 1, cells := mc0, slots := ms0, locals := 60 } : Room) (g_X E) [.ref p1, .int p2, .ref p3] G (post) := by
  refine g_enter (by decide +kernel) (Nat.le_of_ble_eq_true rfl) ?_
  intro p e s m below meth c ls hx hb hr hts hown hlocks hml hin hz hX hK hG hS hl
  have hl : lv_has ls 4 [(0, .ref p1), (1, .int p2), (2, .ref p3)] := hl
  have hown : s.vm.findClass RJ10 = some m.cls := hown
  have hMC : 0 + mc0 ≤ mc0 := Nat.le_of_eq (Nat.zero_add _)
  have hMS : 0 + ms0 ≤ ms0 := Nat.le_of_eq (Nat.zero_add _)
  unfold wp_J10_copyOf_2 at hvc
  refine lv_aload_n hx hb dJ10_copyOf_2_0 rfl (lv_at hl 2 rfl) ?_
  refine va_ldcM hx hb hown (hts _ q291) hX.mo dJ10_copyOf_2_1 ?_
  have jn24 : ∀ (y0 : Nat) (y1 : Int32) (s0 : Nat) (G : g_G) (mc : Nat) (ms : Nat) (H : Heap) (locs : List Loc) (ls : Array Slot) (ce sl : Nat), wp_J10_copyOf_2_24 E post y0 y1 s0 G mc ms → g_H E G H → va_S (g_A E) s.heap H locs → lv_has ls 4 [(0, .ref y0), (1, .int y1)] → ce + mc ≤ mc0 → sl + ms ≤ ms0 → W p l e ({ frames := 1, cells := mc0, slots := ms0, locals := 60 } : Room) s m ([.ref p1, .int p2, .ref p3] : List Value).toArray below meth c H locs ce sl (MQ below (va_Qq (post) (g_Bk E) (g_A E)) ([.ref p1, .int p2, .ref p3] : List Value).toArray s mc0 ms0 (g_A E)) (F0 m 24 ls [.ref s0]) := by
    clear hvc hG hS hl hMC hMS
    intro y0 y1 s0 G mc ms H locs ls ce sl hvc_1 hG_2 hS_3 hl_4 hMC_5 hMS_6
    refine lv_astore_n (lv' := [(3, .ref s0), (0, .ref y0), (1, .int y1)]) hx hb dJ10_copyOf_2_24 rfl hl_4 (by decide) rfl (fun ls hl_7 => ?_)
    clear hl_4
    refine lv_aload_n hx hb dJ10_copyOf_2_25 rfl (lv_at hl_7 1 rfl) ?_
    refine lv_iconst (v := nI 0) hx hb dJ10_copyOf_2_26 (by decide) ?_
    refine lv_aload_n hx hb dJ10_copyOf_2_27 rfl (lv_at hl_7 0 rfl) ?_
    refine lv_iconst (v := nI 0) hx hb dJ10_copyOf_2_28 (by decide) ?_
    refine lv_aload_n hx hb dJ10_copyOf_2_29 rfl (lv_at hl_7 1 rfl) ?_
    refine gw_alenX hx hb hK hG_2 hX hS_3 hvc_1 dJ10_copyOf_2_30 (fun x1 hvc_8 => ?_)
    clear hvc_1
    refine lv_iload_n hx hb dJ10_copyOf_2_31 rfl (lv_at hl_7 2 rfl) ?_
    refine va_mmin hx hb (by rw [hml]; exact hl_7.1.symm) hown (hts _ q293) (hts _ q294) (hts _ q101) (hts _ q295) (Nat.le_of_ble_eq_true rfl) (Nat.le_of_ble_eq_true rfl) (by show _ ≤ mc0; omega) (by show _ ≤ ms0; omega) dJ10_copyOf_2_32 ?_
    refine gw_copyq hx hb (by rw [hml]; exact hl_7.1.symm) hown (hts _ q296) (hts _ q298) (hts _ q297) (hts _ q103) hX hK hG_2 hS_3 hvc_8 (Nat.le_of_ble_eq_true rfl) (Nat.le_of_ble_eq_true rfl) dJ10_copyOf_2_35 (fun G2 H locs hvc_9 hG_10 hS_11 => ?_)
    clear hvc_8 hG_2 hS_3
    refine lv_aload_n hx hb dJ10_copyOf_2_38 rfl (lv_at hl_7 0 rfl) ?_
    exact g_aret (v := (some s0)) hx hb hr (Or.inr ⟨_, rfl⟩) hlocks (by show _ ≤ mc0; omega) (by show _ ≤ ms0; omega) hG_10 hS_11 hvc_9 dJ10_copyOf_2_39
  refine lv_acmp_ne (rx := (some p3)) (ry := (some (g_k E 10))) (tgt := 13) hx hb dJ10_copyOf_2_3 (by decide) (fun h9 => ?_) (fun h9 => ?_)
  · replace hvc := hvc.1 h9
    refine lv_aload_n hx hb dJ10_copyOf_2_13 rfl (lv_at hl 2 rfl) ?_
    exact False.elim hvc
  · replace hvc := hvc.2 h9
    refine lv_iload_n hx hb dJ10_copyOf_2_6 rfl (lv_at hl 1 rfl) ?_
    refine gw_newq hx hb hown (hts _ q292) hX hK hG hS hz hvc hMC hMS (Nat.le_refl _) (Nat.le_refl _) dJ10_copyOf_2_7 (fun n3 q4 G5 H ce sl hvc_12 hG_13 hS_14 hMC_15 hMS_16 => ?_)
    clear hvc hG hS hMC hMS
    refine lv_goto (tgt := 24) hx hb dJ10_copyOf_2_10 (by decide) ?_
    exact jn24 p1 p2 q4 G5 (mc0 - 1) (ms0 - n3) _ _ _ _ _ hvc_12 hG_13 hS_14 (lv_sub hl [0, 1] rfl) hMC_15 hMS_16
set_option maxHeartbeats 4000000 in
set_option maxRecDepth 100000 in
theorem met_J10_copyOf (l : Launch) (E : g_E) (G : g_G) (p1 : Nat) (p2 : Int32) (mc0 ms0 : Nat) (post : Option Nat → g_G → Prop) (hvc : wp_J10_copyOf E G p1 p2 mc0 ms0 post) : g_MQ E l yJ10_copyOf (ws_ yJ10_copyOf cJ10_copyOf 2 (Option.some (Jvm.ClassFile.FieldType.array (Jvm.ClassFile.FieldType.object "java/lang/Object")))) ({ frames := 2, cells := mc0, slots := ms0, locals := 83 } : Room) (g_X E) [.ref p1, .int p2] G (post) := by
  refine g_enter (by decide +kernel) (Nat.le_of_ble_eq_true rfl) ?_
  intro p e s m below meth c ls hx hb hr hts hown hlocks hml hin hz hX hK hG hS hl
  have hl : lv_has ls 2 [(0, .ref p1), (1, .int p2)] := hl
  have hown : s.vm.findClass RJ10 = some m.cls := hown
  have hMC : 0 + mc0 ≤ mc0 := Nat.le_of_eq (Nat.zero_add _)
  have hMS : 0 + ms0 ≤ ms0 := Nat.le_of_eq (Nat.zero_add _)
  unfold wp_J10_copyOf at hvc
  refine lv_aload_n hx hb dJ10_copyOf_0 rfl (lv_at hl 0 rfl) ?_
  refine lv_iload_n hx hb dJ10_copyOf_1 rfl (lv_at hl 1 rfl) ?_
  refine lv_aload_n hx hb dJ10_copyOf_2 rfl (lv_at hl 0 rfl) ?_
  refine gw_getC hx hb (by rw [hml]; exact hl.1.symm) hown (hts _ q258) (hts _ q2320) (hts _ q259) (hts _ q287) hK hG hX hS hvc.1 (Nat.le_of_ble_eq_true rfl) (Nat.le_of_ble_eq_true rfl) dJ10_copyOf_3 ?_
  replace hvc := hvc.2
  obtain ⟨c3, t4, hc1, hs1, hvc⟩ := hvc
  refine gw_cSQA (As := [.ref p1, .int p2, .ref (g_k E 10)]) (rest := [])  ⟨hx, hb, hml, hown, hts⟩ (met_J10_copyOf_2 l E G p1 p2 (g_k E 10) c3 t4 _ hvc) (va_cwS 3 hts (lw_S q288 q289 q102 q290) rfl rfl rfl (by decide +kernel) ⟨Nat.le_of_ble_eq_true rfl, Nat.le_of_ble_eq_true rfl⟩) hc1 hs1 hMC hMS (Nat.le_refl _) (Nat.le_refl _) (g_X.st E) hz hX hK hG hS rfl hl.1 rfl (Nat.le_of_ble_eq_true rfl) dJ10_copyOf_6 (fun x1 G2 H locs ce sl hvc_1 hG_2 hS_3 hMC_4 hMS_5 => ?_)
  clear hvc hG hS hMC hMS
  exact g_aret (v := x1) hx hb hr (Or.inr ⟨_, rfl⟩) hlocks (by show _ ≤ mc0; omega) (by show _ ≤ ms0; omega) hG_2 hS_3 hvc_1 dJ10_copyOf_9
set_option maxHeartbeats 4000000 in
set_option maxRecDepth 100000 in
theorem met_J7_grow_2 (l : Launch) (E : g_E) (G : g_G) (o : Nat) (p1 : Int32) (mc0 ms0 : Nat) (post : Option Nat → g_G → Prop) (hvc : wp_J7_grow_2 E G o p1 mc0 ms0 post) : g_MQ E l yJ7_grow_2 (ws_ yJ7_grow_2 cJ7_grow_2 4 (Option.some (Jvm.ClassFile.FieldType.array (Jvm.ClassFile.FieldType.object "java/lang/Object")))) ({ frames := 3, cells := mc0, slots := ms0, locals := 104 } : Room) (g_X E) [.ref o, .int p1] G (post) := by
  refine g_enter (by decide +kernel) (Nat.le_of_ble_eq_true rfl) ?_
  intro p e s m below meth c ls hx hb hr hts hown hlocks hml hin hz hX hK hG hS hl
  have hl : lv_has ls 4 [(0, .ref o), (1, .int p1)] := hl
  have hown : s.vm.findClass RJ7 = some m.cls := hown
  have hMC : 0 + mc0 ≤ mc0 := Nat.le_of_eq (Nat.zero_add _)
  have hMS : 0 + ms0 ≤ ms0 := Nat.le_of_eq (Nat.zero_add _)
  unfold wp_J7_grow_2 at hvc
  refine lv_aload_n hx hb dJ7_grow_2_0 rfl (lv_at hl 0 rfl) ?_
  refine gw_gr (C := RJ7) (T := TJ7) (N := 3) (own := RJ7) hx hb hts in_J7 hown hK hG hvc rfl (by decide) (hts _ q208) (fun _ h9 => h9) dJ7_grow_2_1 (fun x1 hvc_1 => ?_)
  clear hvc
  refine gw_alenX hx hb hK hG hX hS hvc_1 dJ7_grow_2_4 (fun x2 hvc_2 => ?_)
  clear hvc_1
  refine lv_istore_n (lv' := [(2, .int x2), (0, .ref o), (1, .int p1)]) hx hb dJ7_grow_2_5 rfl hl (by decide) rfl (fun ls hl_3 => ?_)
  clear hl
  refine lv_iload_n hx hb dJ7_grow_2_6 rfl (lv_at hl_3 0 rfl) ?_
  have jn20 : ∀ (y0 : Nat) (y1 : Int32) (y2 : Int32) (G : g_G) (mc : Nat) (ms : Nat) (H : Heap) (locs : List Loc) (ls : Array Slot) (ce sl : Nat), wp_J7_grow_2_20 E post y0 y1 y2 G mc ms → g_H E G H → va_S (g_A E) s.heap H locs → lv_has ls 4 [(0, .ref y0), (1, .int y1), (2, .int y2)] → ce + mc ≤ mc0 → sl + ms ≤ ms0 → W p l e ({ frames := 3, cells := mc0, slots := ms0, locals := 104 } : Room) s m ([.ref o, .int p1] : List Value).toArray below meth c H locs ce sl (MQ below (va_Qq (post) (g_Bk E) (g_A E)) ([.ref o, .int p1] : List Value).toArray s mc0 ms0 (g_A E)) (F0 m 20 ls []) := by
    clear hvc_2 hG hS hl_3 hMC hMS
    intro y0 y1 y2 G mc ms H locs ls ce sl hvc_4 hG_5 hS_6 hl_7 hMC_8 hMS_9
    refine lv_iload_n hx hb dJ7_grow_2_20 rfl (lv_at hl_7 2 rfl) ?_
    refine lv_iload_n hx hb dJ7_grow_2_21 rfl (lv_at hl_7 1 rfl) ?_
    refine lv_iload_n hx hb dJ7_grow_2_22 rfl (lv_at hl_7 2 rfl) ?_
    refine lv_isub hx hb dJ7_grow_2_23 ?_
    refine lv_iload_n hx hb dJ7_grow_2_24 rfl (lv_at hl_7 2 rfl) ?_
    refine lv_iconst (v := nI 1) hx hb dJ7_grow_2_25 (by decide) ?_
    refine lv_ishr hx hb dJ7_grow_2_26 ?_
    obtain ⟨c5, t6, hc1, hs1, hvc_4⟩ := hvc_4
    refine gw_cSIA (As := [.int y2, .int (y1 - y2), .int (y2 >>> ((nI 1) &&& 31))]) (rest := [])  ⟨hx, hb, hml, hown, hts⟩ (met_J8_newLength l E G y2 (y1 - y2) (y2 >>> ((nI 1) &&& 31)) c5 t6 _ hvc_4) (va_cwS 3 hts (lw_S q245 q246 q100 q247) rfl rfl rfl (by decide +kernel) ⟨Nat.le_of_ble_eq_true rfl, Nat.le_of_ble_eq_true rfl⟩) hc1 hs1 hMC_8 hMS_9 (Nat.le_refl _) (Nat.le_refl _) (g_St0 E) hz trivial hK hG_5 hS_6 rfl hl_7.1 rfl (Nat.le_of_ble_eq_true rfl) dJ7_grow_2_27 (fun x3 G4 H locs ce sl hvc_10 hG_11 hS_12 hMC_13 hMS_14 => ?_)
    clear hvc_4 hG_5 hS_6 hMC_8 hMS_9
    refine lv_istore_n (lv' := [(3, .int x3), (0, .ref y0), (1, .int y1), (2, .int y2)]) hx hb dJ7_grow_2_30 rfl hl_7 (by decide) rfl (fun ls hl_15 => ?_)
    clear hl_7
    refine lv_aload_n hx hb dJ7_grow_2_31 rfl (lv_at hl_15 1 rfl) ?_
    refine lv_aload_n hx hb dJ7_grow_2_32 rfl (lv_at hl_15 1 rfl) ?_
    refine gw_gr (C := RJ7) (T := TJ7) (N := 3) (own := RJ7) hx hb hts in_J7 hown hK hG_11 hvc_10 rfl (by decide) (hts _ q208) (fun _ h9 => h9) dJ7_grow_2_33 (fun x7 hvc_16 => ?_)
    clear hvc_10
    refine lv_iload_n hx hb dJ7_grow_2_36 rfl (lv_at hl_15 0 rfl) ?_
    obtain ⟨c10, t11, hc1, hs1, hvc_16⟩ := hvc_16
    refine gw_cSQA (As := [.ref x7, .int x3]) (rest := [.ref y0])  ⟨hx, hb, hml, hown, hts⟩ (met_J10_copyOf l E G4 x7 x3 c10 t11 _ hvc_16) (va_cwS 2 hts (lw_S q255 q256 q102 q257) rfl rfl rfl (by decide +kernel) ⟨Nat.le_of_ble_eq_true rfl, Nat.le_of_ble_eq_true rfl⟩) hc1 hs1 hMC_13 hMS_14 (Nat.le_refl _) (Nat.le_refl _) (g_X.st E) hz hX hK hG_11 hS_12 rfl hl_15.1 rfl (Nat.le_of_ble_eq_true rfl) dJ7_grow_2_37 (fun x8 G9 H locs ce sl hvc_17 hG_18 hS_19 hMC_20 hMS_21 => ?_)
    clear hvc_16 hG_11 hS_12 hMC_13 hMS_14
    refine lv_dup_x1 hx hb dJ7_grow_2_40 (g_catq _) rfl ?_
    obtain ⟨z12, rfl, hvc_17⟩ := hvc_17
    refine gw_put (ty := .array (.object "java/lang/Object")) (C := RJ7) (T := TJ7) (N := 3) (own := RJ7) hx hb hts in_J7 tyJ7 tyJ7_ok nmJ7 hown hK hG_18 hS_19 hvc_17 rfl (by decide) (hts _ q208) (fun _ h9 => h9) rfl (by decide +kernel) rfl rfl dJ7_grow_2_41 (fun G13 H locs hvc_22 hG_23 hS_24 => ?_)
    clear hvc_17 hG_18 hS_19
    exact g_aret (v := (some z12)) hx hb hr (Or.inr ⟨_, rfl⟩) hlocks (by show _ ≤ mc0; omega) (by show _ ≤ ms0; omega) hG_23 hS_24 hvc_22 dJ7_grow_2_44
  refine lv_if_gt (tgt := 20) hx hb dJ7_grow_2_7 (by decide) (fun h9 => ?_) (fun h9 => ?_)
  · replace hvc_2 := hvc_2.1 h9
    exact jn20 o p1 x2 G mc0 ms0 _ _ _ _ _ hvc_2 hG hS (lv_sub hl_3 [1, 2, 0] rfl) hMC hMS
  · replace hvc_2 := hvc_2.2 h9
    refine lv_aload_n hx hb dJ7_grow_2_10 rfl (lv_at hl_3 1 rfl) ?_
    refine gw_gr (C := RJ7) (T := TJ7) (N := 3) (own := RJ7) hx hb hts in_J7 hown hK hG hvc_2 rfl (by decide) (hts _ q208) (fun _ h9 => h9) dJ7_grow_2_11 (fun x14 hvc_25 => ?_)
    clear hvc_2
    refine va_gets (A := g_A E) hx hb hX.dz hS hown (hts _ q206) (fun _ h9 => h9) dJ7_grow_2_14 ?_
    refine lv_acmp_eq (rx := (some x14)) (ry := (some (g_k E 7))) (tgt := 45) hx hb dJ7_grow_2_17 (by decide) (fun h9 => ?_) (fun h9 => ?_)
    · replace hvc_25 := hvc_25.1 h9
      refine lv_aload_n hx hb dJ7_grow_2_45 rfl (lv_at hl_3 1 rfl) ?_
      refine lv_bipush (v := nI 10) hx hb dJ7_grow_2_46 (by decide) ?_
      refine lv_iload_n hx hb dJ7_grow_2_48 rfl (lv_at hl_3 2 rfl) ?_
      refine va_mmax hx hb (by rw [hml]; exact hl_3.1.symm) hown (hts _ q299) (hts _ q249) (hts _ q101) (hts _ q250) (Nat.le_of_ble_eq_true rfl) (Nat.le_of_ble_eq_true rfl) (by show _ ≤ mc0; omega) (by show _ ≤ ms0; omega) dJ7_grow_2_49 ?_
      refine gw_newq hx hb hown (hts _ q300) hX hK hG hS hz hvc_25 hMC hMS (Nat.le_refl _) (Nat.le_refl _) dJ7_grow_2_52 (fun n15 q16 G17 H ce sl hvc_26 hG_27 hS_28 hMC_29 hMS_30 => ?_)
      clear hvc_25 hG hS hMC hMS
      refine lv_dup_x1 hx hb dJ7_grow_2_55 rfl rfl ?_
      refine gw_put (ty := .array (.object "java/lang/Object")) (C := RJ7) (T := TJ7) (N := 3) (own := RJ7) hx hb hts in_J7 tyJ7 tyJ7_ok nmJ7 hown hK hG_27 hS_28 hvc_26 rfl (by decide) (hts _ q208) (fun _ h9 => h9) rfl (by decide +kernel) rfl rfl dJ7_grow_2_56 (fun G18 H locs hvc_31 hG_32 hS_33 => ?_)
      clear hvc_26 hG_27 hS_28
      exact g_aret (v := (some q16)) hx hb hr (Or.inr ⟨_, rfl⟩) hlocks (by show _ ≤ mc0; omega) (by show _ ≤ ms0; omega) hG_32 hS_33 hvc_31 dJ7_grow_2_59
    · replace hvc_25 := hvc_25.2 h9
      exact jn20 o p1 x2 G mc0 ms0 _ _ _ _ _ hvc_25 hG hS (lv_sub hl_3 [1, 2, 0] rfl) hMC hMS
set_option maxHeartbeats 4000000 in
set_option maxRecDepth 100000 in
theorem met_J7_grow (l : Launch) (E : g_E) (G : g_G) (o : Nat) (mc0 ms0 : Nat) (post : Option Nat → g_G → Prop) (hvc : wp_J7_grow E G o mc0 ms0 post) : g_MQ E l yJ7_grow (ws_ yJ7_grow cJ7_grow 1 (Option.some (Jvm.ClassFile.FieldType.array (Jvm.ClassFile.FieldType.object "java/lang/Object")))) ({ frames := 4, cells := mc0, slots := ms0, locals := 127 } : Room) (g_X E) [.ref o] G (post) := by
  refine g_enter (by decide +kernel) (Nat.le_of_ble_eq_true rfl) ?_
  intro p e s m below meth c ls hx hb hr hts hown hlocks hml hin hz hX hK hG hS hl
  have hl : lv_has ls 1 [(0, .ref o)] := hl
  have hown : s.vm.findClass RJ7 = some m.cls := hown
  have hMC : 0 + mc0 ≤ mc0 := Nat.le_of_eq (Nat.zero_add _)
  have hMS : 0 + ms0 ≤ ms0 := Nat.le_of_eq (Nat.zero_add _)
  unfold wp_J7_grow at hvc
  refine lv_aload_n hx hb dJ7_grow_0 rfl (lv_at hl 0 rfl) ?_
  refine lv_aload_n hx hb dJ7_grow_1 rfl (lv_at hl 0 rfl) ?_
  refine gw_gi (C := RJ7) (T := TJ7) (N := 3) (own := RJ7) hx hb hts in_J7 hown hK hG hvc rfl (by decide) (hts _ q211) (fun _ h9 => h9) dJ7_grow_2 (fun x1 hvc_1 => ?_)
  clear hvc
  refine lv_iconst (v := nI 1) hx hb dJ7_grow_5 (by decide) ?_
  refine lv_iadd hx hb dJ7_grow_6 ?_
  obtain ⟨c4, t5, hc1, hs1, hvc_1⟩ := hvc_1
  refine gw_cVQA (As := [.int (x1 + (nI 1))]) (rest := [])  ⟨hx, hb, hml, hown, hts⟩ (met_J7_grow_2 l E G o (x1 + (nI 1)) c4 t5 _ hvc_1.2) (cwV 1 hts (lw_V q241 q243 qs2 q99 q244) rfl rfl rfl (by decide +kernel) ⟨Nat.le_of_ble_eq_true rfl, Nat.le_of_ble_eq_true rfl⟩) (gw_rc (q := (RJ7, TJ7, 3)) hK hG hvc_1.1 rfl) hc1 hs1 hMC hMS (Nat.le_refl _) (Nat.le_refl _) (g_X.st E) hz hX hK hG hS rfl hl.1 rfl (Nat.le_of_ble_eq_true rfl) dJ7_grow_7 (fun x2 G3 H locs ce sl hvc_2 hG_3 hS_4 hMC_5 hMS_6 => ?_)
  clear hvc_1 hG hS hMC hMS
  exact g_aret (v := x2) hx hb hr (Or.inr ⟨_, rfl⟩) hlocks (by show _ ≤ mc0; omega) (by show _ ≤ ms0; omega) hG_3 hS_4 hvc_2 dJ7_grow_10
set_option maxHeartbeats 4000000 in
set_option maxRecDepth 100000 in
theorem met_J7_add_2 (l : Launch) (E : g_E) (G : g_G) (o : Nat) (p1 : Nat) (p2 : Nat) (p3 : Int32) (mc0 ms0 : Nat) (post : g_G → Prop) (hvc : wp_J7_add_2 E G o p1 p2 p3 mc0 ms0 post) : g_MV E l yJ7_add_2 (ws_ yJ7_add_2 cJ7_add_2 4 (Option.none : Option Jvm.ClassFile.FieldType)) ({ frames := 5, cells := mc0, slots := ms0, locals := 147 } : Room) (g_X E) [.ref o, .ref p1, .ref p2, .int p3] G (post) := by
  refine g_enter (by decide +kernel) (Nat.le_of_ble_eq_true rfl) ?_
  intro p e s m below meth c ls hx hb hr hts hown hlocks hml hin hz hX hK hG hS hl
  have hl : lv_has ls 4 [(0, .ref o), (1, .ref p1), (2, .ref p2), (3, .int p3)] := hl
  have hown : s.vm.findClass RJ7 = some m.cls := hown
  have hMC : 0 + mc0 ≤ mc0 := Nat.le_of_eq (Nat.zero_add _)
  have hMS : 0 + ms0 ≤ ms0 := Nat.le_of_eq (Nat.zero_add _)
  unfold wp_J7_add_2 at hvc
  refine lv_iload_n hx hb dJ7_add_2_0 rfl (lv_at hl 3 rfl) ?_
  refine lv_aload_n hx hb dJ7_add_2_1 rfl (lv_at hl 2 rfl) ?_
  refine gw_alenX hx hb hK hG hX hS hvc dJ7_add_2_2 (fun x1 hvc_1 => ?_)
  clear hvc
  have jn11 : ∀ (y0 : Nat) (y1 : Nat) (y2 : Option Nat) (y3 : Int32) (G : g_G) (mc : Nat) (ms : Nat) (H : Heap) (locs : List Loc) (ls : Array Slot) (ce sl : Nat), wp_J7_add_2_11 E post y0 y1 y2 y3 G mc ms → g_H E G H → va_S (g_A E) s.heap H locs → lv_has ls 4 [(0, .ref y0), (1, .ref y1), (2, va_rf y2), (3, .int y3)] → ce + mc ≤ mc0 → sl + ms ≤ ms0 → W p l e ({ frames := 5, cells := mc0, slots := ms0, locals := 147 } : Room) s m ([.ref o, .ref p1, .ref p2, .int p3] : List Value).toArray below meth c H locs ce sl (MQ below (va_Qv (post) (g_Bk E) (g_A E)) ([.ref o, .ref p1, .ref p2, .int p3] : List Value).toArray s mc0 ms0 (g_A E)) (F0 m 11 ls []) := by
    clear hvc_1 hG hS hl hMC hMS
    intro y0 y1 y2 y3 G mc ms H locs ls ce sl hvc_2 hG_3 hS_4 hl_5 hMC_6 hMS_7
    refine gq_aload_n hx hb dJ7_add_2_11 rfl (lv_at hl_5 2 rfl) ?_
    refine lv_iload_n hx hb dJ7_add_2_12 rfl (lv_at hl_5 3 rfl) ?_
    refine lv_aload_n hx hb dJ7_add_2_13 rfl (lv_at hl_5 1 rfl) ?_
    obtain ⟨z2, rfl, hvc_2⟩ := hvc_2
    refine gw_qst (v := (some y1)) hx hb hK hG_3 hX hS_4 hvc_2 dJ7_add_2_14 (fun G3 H locs hvc_8 hG_9 hS_10 => ?_)
    clear hvc_2 hG_3 hS_4
    refine lv_aload_n hx hb dJ7_add_2_15 rfl (lv_at hl_5 0 rfl) ?_
    refine lv_iload_n hx hb dJ7_add_2_16 rfl (lv_at hl_5 3 rfl) ?_
    refine lv_iconst (v := nI 1) hx hb dJ7_add_2_17 (by decide) ?_
    refine lv_iadd hx hb dJ7_add_2_18 ?_
    refine gw_put (ty := .int) (C := RJ7) (T := TJ7) (N := 3) (own := RJ7) hx hb hts in_J7 tyJ7 tyJ7_ok nmJ7 hown hK hG_9 hS_10 hvc_8 rfl (by decide) (hts _ q211) (fun _ h9 => h9) rfl (by decide +kernel) rfl rfl dJ7_add_2_19 (fun G4 H locs hvc_11 hG_12 hS_13 => ?_)
    clear hvc_8 hG_9 hS_10
    exact g_vret hx hb hr hlocks (by show _ ≤ mc0; omega) (by show _ ≤ ms0; omega) hG_12 hS_13 hvc_11 dJ7_add_2_22
  refine lv_icmp_ne (tgt := 11) hx hb dJ7_add_2_3 (by decide) (fun h9 => ?_) (fun h9 => ?_)
  · replace hvc_1 := hvc_1.1 h9
    exact jn11 o p1 (some p2) p3 G mc0 ms0 _ _ _ _ _ hvc_1 hG hS (lv_sub hl [0, 1, 2, 3] rfl) hMC hMS
  · replace hvc_1 := hvc_1.2 h9
    refine lv_aload_n hx hb dJ7_add_2_6 rfl (lv_at hl 0 rfl) ?_
    obtain ⟨c7, t8, hc1, hs1, hvc_1⟩ := hvc_1
    refine gw_cVQA (As := []) (rest := [])  ⟨hx, hb, hml, hown, hts⟩ (met_J7_grow l E G o c7 t8 _ hvc_1.2) (cwV 0 hts (lw_V q237 q239 qs1 q99 q240) rfl rfl rfl (by decide +kernel) ⟨Nat.le_of_ble_eq_true rfl, Nat.le_of_ble_eq_true rfl⟩) (gw_rc (q := (RJ7, TJ7, 3)) hK hG hvc_1.1 rfl) hc1 hs1 hMC hMS (Nat.le_refl _) (Nat.le_refl _) (g_X.st E) hz hX hK hG hS rfl hl.1 rfl (Nat.le_of_ble_eq_true rfl) dJ7_add_2_7 (fun x5 G6 H locs ce sl hvc_14 hG_15 hS_16 hMC_17 hMS_18 => ?_)
    clear hvc_1 hG hS hMC hMS
    refine gq_astore_n (lv' := [(2, va_rf x5), (0, .ref o), (1, .ref p1), (3, .int p3)]) hx hb dJ7_add_2_10 rfl hl (by decide) rfl (fun ls hl_19 => ?_)
    clear hl
    exact jn11 o p1 x5 p3 G6 (mc0 - c7) (ms0 - t8) _ _ _ _ _ hvc_14 hG_15 hS_16 (lv_sub hl_19 [1, 2, 0, 3] rfl) hMC_17 hMS_18
set_option maxHeartbeats 4000000 in
set_option maxRecDepth 100000 in
theorem met_J7_add (l : Launch) (E : g_E) (G : g_G) (o : Nat) (p1 : Nat) (mc0 ms0 : Nat) (post : Int32 → g_G → Prop) (hvc : wp_J7_add E G o p1 mc0 ms0 post) : g_MI E l yJ7_add (ws_ yJ7_add cJ7_add 2 (Option.some Jvm.ClassFile.FieldType.boolean)) ({ frames := 6, cells := mc0, slots := ms0, locals := 170 } : Room) (g_X E) [.ref o, .ref p1] G (post) := by
  refine g_enter (by decide +kernel) (Nat.le_of_ble_eq_true rfl) ?_
  intro p e s m below meth c ls hx hb hr hts hown hlocks hml hin hz hX hK hG hS hl
  have hl : lv_has ls 2 [(0, .ref o), (1, .ref p1)] := hl
  have hown : s.vm.findClass RJ7 = some m.cls := hown
  have hMC : 0 + mc0 ≤ mc0 := Nat.le_of_eq (Nat.zero_add _)
  have hMS : 0 + ms0 ≤ ms0 := Nat.le_of_eq (Nat.zero_add _)
  unfold wp_J7_add at hvc
  refine lv_aload_n hx hb dJ7_add_0 rfl (lv_at hl 0 rfl) ?_
  refine lv_dup hx hb dJ7_add_1 rfl ?_
  refine gw_gi (C := RJ7) (T := TJ7) (N := 3) (own := RJ7) hx hb hts in_J7 hown hK hG hvc rfl (by decide) (hts _ q215) (fun x9 h9 => u_same (hts _ q214) x9 h9) dJ7_add_2 (fun x1 hvc_1 => ?_)
  clear hvc
  refine lv_iconst (v := nI 1) hx hb dJ7_add_5 (by decide) ?_
  refine lv_iadd hx hb dJ7_add_6 ?_
  refine gw_put (ty := .int) (C := RJ7) (T := TJ7) (N := 3) (own := RJ7) hx hb hts in_J7 tyJ7 tyJ7_ok nmJ7 hown hK hG hS hvc_1 rfl (by decide) (hts _ q215) (fun x9 h9 => u_same (hts _ q214) x9 h9) rfl (by decide +kernel) rfl rfl dJ7_add_7 (fun G2 H locs hvc_2 hG_3 hS_4 => ?_)
  clear hvc_1 hG hS
  refine lv_aload_n hx hb dJ7_add_10 rfl (lv_at hl 0 rfl) ?_
  refine lv_aload_n hx hb dJ7_add_11 rfl (lv_at hl 1 rfl) ?_
  refine lv_aload_n hx hb dJ7_add_12 rfl (lv_at hl 0 rfl) ?_
  refine gw_gr (C := RJ7) (T := TJ7) (N := 3) (own := RJ7) hx hb hts in_J7 hown hK hG_3 hvc_2 rfl (by decide) (hts _ q208) (fun _ h9 => h9) dJ7_add_13 (fun x3 hvc_5 => ?_)
  clear hvc_2
  refine lv_aload_n hx hb dJ7_add_16 rfl (lv_at hl 0 rfl) ?_
  refine gw_gi (C := RJ7) (T := TJ7) (N := 3) (own := RJ7) hx hb hts in_J7 hown hK hG_3 hvc_5 rfl (by decide) (hts _ q211) (fun _ h9 => h9) dJ7_add_17 (fun x4 hvc_6 => ?_)
  clear hvc_5
  obtain ⟨c7, t8, hc1, hs1, hvc_6⟩ := hvc_6
  refine gw_cVVA (As := [.ref p1, .ref x3, .int x4]) (rest := [])  ⟨hx, hb, hml, hown, hts⟩ (met_J7_add_2 l E G2 o p1 x3 x4 c7 t8 _ hvc_6.2) (cwV 3 hts (lw_V q233 q235 qs0 q99 q236) rfl rfl rfl (by decide +kernel) ⟨Nat.le_of_ble_eq_true rfl, Nat.le_of_ble_eq_true rfl⟩) (gw_rc (q := (RJ7, TJ7, 3)) hK hG_3 hvc_6.1 rfl) hc1 hs1 hMC hMS (Nat.le_refl _) (Nat.le_refl _) (g_X.st E) hz hX hK hG_3 hS_4 rfl hl.1 rfl (Nat.le_of_ble_eq_true rfl) dJ7_add_20 (fun G6 H locs ce sl hvc_7 hG_8 hS_9 hMC_10 hMS_11 => ?_)
  clear hvc_6 hG_3 hS_4 hMC hMS
  refine lv_iconst (v := nI 1) hx hb dJ7_add_23 (by decide) ?_
  exact g_iret hx hb hr hlocks (by show _ ≤ mc0; omega) (by show _ ≤ ms0; omega) hG_8 hS_9 rfl hvc_7 dJ7_add_24
set_option maxHeartbeats 4000000 in
set_option maxRecDepth 100000 in
theorem met_J7_toArray (l : Launch) (E : g_E) (G : g_G) (o : Nat) (mc0 ms0 : Nat) (post : Option Nat → g_G → Prop) (hvc : wp_J7_toArray E G o mc0 ms0 post) : g_MQ E l yJ7_toArray (ws_ yJ7_toArray cJ7_toArray 1 (Option.some (Jvm.ClassFile.FieldType.array (Jvm.ClassFile.FieldType.object "java/lang/Object")))) ({ frames := 3, cells := mc0, slots := ms0, locals := 104 } : Room) (g_X E) [.ref o] G (post) := by
  refine g_enter (by decide +kernel) (Nat.le_of_ble_eq_true rfl) ?_
  intro p e s m below meth c ls hx hb hr hts hown hlocks hml hin hz hX hK hG hS hl
  have hl : lv_has ls 1 [(0, .ref o)] := hl
  have hown : s.vm.findClass RJ7 = some m.cls := hown
  have hMC : 0 + mc0 ≤ mc0 := Nat.le_of_eq (Nat.zero_add _)
  have hMS : 0 + ms0 ≤ ms0 := Nat.le_of_eq (Nat.zero_add _)
  unfold wp_J7_toArray at hvc
  refine lv_aload_n hx hb dJ7_toArray_0 rfl (lv_at hl 0 rfl) ?_
  refine gw_gr (C := RJ7) (T := TJ7) (N := 3) (own := RJ7) hx hb hts in_J7 hown hK hG hvc rfl (by decide) (hts _ q208) (fun _ h9 => h9) dJ7_toArray_1 (fun x1 hvc_1 => ?_)
  clear hvc
  refine lv_aload_n hx hb dJ7_toArray_4 rfl (lv_at hl 0 rfl) ?_
  refine gw_gi (C := RJ7) (T := TJ7) (N := 3) (own := RJ7) hx hb hts in_J7 hown hK hG hvc_1 rfl (by decide) (hts _ q211) (fun _ h9 => h9) dJ7_toArray_5 (fun x2 hvc_2 => ?_)
  clear hvc_1
  obtain ⟨c5, t6, hc1, hs1, hvc_2⟩ := hvc_2
  refine gw_cSQA (As := [.ref x1, .int x2]) (rest := [])  ⟨hx, hb, hml, hown, hts⟩ (met_J10_copyOf l E G x1 x2 c5 t6 _ hvc_2) (va_cwS 2 hts (lw_S q255 q256 q102 q257) rfl rfl rfl (by decide +kernel) ⟨Nat.le_of_ble_eq_true rfl, Nat.le_of_ble_eq_true rfl⟩) hc1 hs1 hMC hMS (Nat.le_refl _) (Nat.le_refl _) (g_X.st E) hz hX hK hG hS rfl hl.1 rfl (Nat.le_of_ble_eq_true rfl) dJ7_toArray_8 (fun x3 G4 H locs ce sl hvc_3 hG_4 hS_5 hMC_6 hMS_7 => ?_)
  clear hvc_2 hG hS hMC hMS
  exact g_aret (v := x3) hx hb hr (Or.inr ⟨_, rfl⟩) hlocks (by show _ ≤ mc0; omega) (by show _ ≤ ms0; omega) hG_4 hS_5 hvc_3 dJ7_toArray_11
set_option maxHeartbeats 4000000 in
set_option maxRecDepth 100000 in
theorem met_J7_addAll (l : Launch) (E : g_E) (G : g_G) (o : Nat) (p1 : Nat) (mc0 ms0 : Nat) (post : Int32 → g_G → Prop) (hvc : wp_J7_addAll E G o p1 mc0 ms0 post) : g_MI E l yJ7_addAll (ws_ yJ7_addAll cJ7_addAll 6 (Option.some Jvm.ClassFile.FieldType.boolean)) ({ frames := 4, cells := mc0, slots := ms0, locals := 127 } : Room) (g_X E) [.ref o, .ref p1] G (post) := by
  refine g_enter (by decide +kernel) (Nat.le_of_ble_eq_true rfl) ?_
  intro p e s m below meth c ls hx hb hr hts hown hlocks hml hin hz hX hK hG hS hl
  have hl : lv_has ls 6 [(0, .ref o), (1, .ref p1)] := hl
  have hown : s.vm.findClass RJ7 = some m.cls := hown
  have hMC : 0 + mc0 ≤ mc0 := Nat.le_of_eq (Nat.zero_add _)
  have hMS : 0 + ms0 ≤ ms0 := Nat.le_of_eq (Nat.zero_add _)
  unfold wp_J7_addAll at hvc
  refine lv_aload_n hx hb dJ7_addAll_0 rfl (lv_at hl 1 rfl) ?_
  obtain ⟨c3, t4, hc1, hs1, hvc⟩ := hvc
  refine gw_cFQA (As := []) (rest := []) (hK.1 9 _ rfl).2  ⟨hx, hb, hml, hown, hts⟩ (met_J7_toArray l E G p1 c3 t4 _ hvc.2) (va_cwF 0 hts (lw_F q401 q681 q683 q99 q685) rfl rfl rfl (hX.fw (List.mem_of_getElem? (i := 7) rfl)) (by decide +kernel) ⟨Nat.le_of_ble_eq_true rfl, Nat.le_of_ble_eq_true rfl⟩) (gw_rc (q := (RJ7, TJ7, 3)) hK hG hvc.1 rfl) hc1 hs1 hMC hMS (Nat.le_refl _) (Nat.le_refl _) (g_X.st E) hz hX hK hG hS rfl hl.1 rfl (Nat.le_of_ble_eq_true rfl) dJ7_addAll_1 (fun x1 G2 H locs ce sl hvc_1 hG_2 hS_3 hMC_4 hMS_5 => ?_)
  clear hvc hG hS hMC hMS
  refine gq_astore_n (lv' := [(2, va_rf x1), (0, .ref o), (1, .ref p1)]) hx hb dJ7_addAll_6 rfl hl (by decide) rfl (fun ls hl_6 => ?_)
  clear hl
  refine lv_aload_n hx hb dJ7_addAll_7 rfl (lv_at hl_6 1 rfl) ?_
  refine lv_dup hx hb dJ7_addAll_8 rfl ?_
  refine gw_gi (C := RJ7) (T := TJ7) (N := 3) (own := RJ7) hx hb hts in_J7 hown hK hG_2 hvc_1 rfl (by decide) (hts _ q215) (fun x9 h9 => u_same (hts _ q214) x9 h9) dJ7_addAll_9 (fun x5 hvc_7 => ?_)
  clear hvc_1
  refine lv_iconst (v := nI 1) hx hb dJ7_addAll_12 (by decide) ?_
  refine lv_iadd hx hb dJ7_addAll_13 ?_
  refine gw_put (ty := .int) (C := RJ7) (T := TJ7) (N := 3) (own := RJ7) hx hb hts in_J7 tyJ7 tyJ7_ok nmJ7 hown hK hG_2 hS_3 hvc_7 rfl (by decide) (hts _ q215) (fun x9 h9 => u_same (hts _ q214) x9 h9) rfl (by decide +kernel) rfl rfl dJ7_addAll_14 (fun G6 H locs hvc_8 hG_9 hS_10 => ?_)
  clear hvc_7 hG_2 hS_3
  refine gq_aload_n hx hb dJ7_addAll_17 rfl (lv_at hl_6 0 rfl) ?_
  obtain ⟨z8, rfl, hvc_8⟩ := hvc_8
  refine gw_alenX hx hb hK hG_9 hX hS_10 hvc_8 dJ7_addAll_18 (fun x7 hvc_11 => ?_)
  clear hvc_8
  refine lv_istore_n (lv' := [(3, .int x7), (2, .ref z8), (0, .ref o), (1, .ref p1)]) hx hb dJ7_addAll_19 rfl hl_6 (by decide) rfl (fun ls hl_12 => ?_)
  clear hl_6
  refine lv_iload_n hx hb dJ7_addAll_20 rfl (lv_at hl_12 0 rfl) ?_
  refine lv_if_ne (tgt := 26) hx hb dJ7_addAll_21 (by decide) (fun h9 => ?_) (fun h9 => ?_)
  · replace hvc_11 := hvc_11.1 h9
    refine lv_iload_n hx hb dJ7_addAll_26 rfl (lv_at hl_12 0 rfl) ?_
    refine lv_aload_n hx hb dJ7_addAll_27 rfl (lv_at hl_12 2 rfl) ?_
    refine gw_gr (C := RJ7) (T := TJ7) (N := 3) (own := RJ7) hx hb hts in_J7 hown hK hG_9 hvc_11 rfl (by decide) (hts _ q208) (fun _ h9 => h9) dJ7_addAll_28 (fun x9 hvc_13 => ?_)
    clear hvc_11
    refine lv_dup hx hb dJ7_addAll_31 rfl ?_
    refine lv_astore (lv' := [(4, .ref x9), (3, .int x7), (2, .ref z8), (0, .ref o), (1, .ref p1)]) hx hb dJ7_addAll_32 hl_12 (by decide) rfl (fun ls hl_14 => ?_)
    clear hl_12
    refine gw_alenX hx hb hK hG_9 hX hS_10 hvc_13 dJ7_addAll_34 (fun x10 hvc_15 => ?_)
    clear hvc_13
    refine lv_aload_n hx hb dJ7_addAll_35 rfl (lv_at hl_14 3 rfl) ?_
    refine gw_gi (C := RJ7) (T := TJ7) (N := 3) (own := RJ7) hx hb hts in_J7 hown hK hG_9 hvc_15 rfl (by decide) (hts _ q211) (fun _ h9 => h9) dJ7_addAll_36 (fun x11 hvc_16 => ?_)
    clear hvc_15
    refine lv_dup hx hb dJ7_addAll_39 rfl ?_
    refine lv_istore (lv' := [(5, .int x11), (4, .ref x9), (3, .int x7), (2, .ref z8), (0, .ref o), (1, .ref p1)]) hx hb dJ7_addAll_40 hl_14 (by decide) rfl (fun ls hl_17 => ?_)
    clear hl_14
    refine lv_isub hx hb dJ7_addAll_42 ?_
    have jn56 : ∀ (y0 : Nat) (y2 : Option Nat) (y3 : Int32) (y4 : Option Nat) (y5 : Int32) (G : g_G) (mc : Nat) (ms : Nat) (H : Heap) (locs : List Loc) (ls : Array Slot) (ce sl : Nat), wp_J7_addAll_56 E post y0 y2 y3 y4 y5 G mc ms → g_H E G H → va_S (g_A E) s.heap H locs → lv_has ls 6 [(0, .ref y0), (2, va_rf y2), (3, .int y3), (4, va_rf y4), (5, .int y5)] → ce + mc ≤ mc0 → sl + ms ≤ ms0 → W p l e ({ frames := 4, cells := mc0, slots := ms0, locals := 127 } : Room) s m ([.ref o, .ref p1] : List Value).toArray below meth c H locs ce sl (MQ below (va_Qi (post) (g_Bk E) (g_A E)) ([.ref o, .ref p1] : List Value).toArray s mc0 ms0 (g_A E)) (F0 m 56 ls []) := by
      clear hvc_16 hG_9 hS_10 hl_17 hMC_4 hMS_5
      intro y0 y2 y3 y4 y5 G mc ms H locs ls ce sl hvc_18 hG_19 hS_20 hl_21 hMC_22 hMS_23
      refine gq_aload_n hx hb dJ7_addAll_56 rfl (lv_at hl_21 1 rfl) ?_
      refine lv_iconst (v := nI 0) hx hb dJ7_addAll_57 (by decide) ?_
      refine gq_aload hx hb dJ7_addAll_58 (lv_at hl_21 3 rfl) ?_
      refine lv_iload hx hb dJ7_addAll_60 (lv_at hl_21 4 rfl) ?_
      refine lv_iload_n hx hb dJ7_addAll_62 rfl (lv_at hl_21 2 rfl) ?_
      obtain ⟨z12, rfl, hvc_18⟩ := hvc_18
      obtain ⟨z13, rfl, hvc_18⟩ := hvc_18
      refine gw_copyq hx hb (by rw [hml]; exact hl_21.1.symm) hown (hts _ q686) (hts _ q298) (hts _ q297) (hts _ q103) hX hK hG_19 hS_20 hvc_18 (Nat.le_of_ble_eq_true rfl) (Nat.le_of_ble_eq_true rfl) dJ7_addAll_63 (fun G14 H locs hvc_24 hG_25 hS_26 => ?_)
      clear hvc_18 hG_19 hS_20
      refine lv_aload_n hx hb dJ7_addAll_66 rfl (lv_at hl_21 0 rfl) ?_
      refine lv_iload hx hb dJ7_addAll_67 (lv_at hl_21 4 rfl) ?_
      refine lv_iload_n hx hb dJ7_addAll_69 rfl (lv_at hl_21 2 rfl) ?_
      refine lv_iadd hx hb dJ7_addAll_70 ?_
      refine gw_put (ty := .int) (C := RJ7) (T := TJ7) (N := 3) (own := RJ7) hx hb hts in_J7 tyJ7 tyJ7_ok nmJ7 hown hK hG_25 hS_26 hvc_24 rfl (by decide) (hts _ q211) (fun _ h9 => h9) rfl (by decide +kernel) rfl rfl dJ7_addAll_71 (fun G15 H locs hvc_27 hG_28 hS_29 => ?_)
      clear hvc_24 hG_25 hS_26
      refine lv_iconst (v := nI 1) hx hb dJ7_addAll_74 (by decide) ?_
      exact g_iret hx hb hr hlocks (by show _ ≤ mc0; omega) (by show _ ≤ ms0; omega) hG_28 hS_29 rfl hvc_27 dJ7_addAll_75
    refine lv_icmp_le (tgt := 56) hx hb dJ7_addAll_43 (by decide) (fun h9 => ?_) (fun h9 => ?_)
    · replace hvc_16 := hvc_16.1 h9
      exact jn56 o (some z8) x7 (some x9) x11 G6 (mc0 - c3) (ms0 - t4) _ _ _ _ _ hvc_16 hG_9 hS_10 (lv_sub hl_17 [4, 3, 2, 1, 0] rfl) hMC_4 hMS_5
    · replace hvc_16 := hvc_16.2 h9
      refine lv_aload_n hx hb dJ7_addAll_46 rfl (lv_at hl_17 4 rfl) ?_
      refine lv_iload hx hb dJ7_addAll_47 (lv_at hl_17 0 rfl) ?_
      refine lv_iload_n hx hb dJ7_addAll_49 rfl (lv_at hl_17 2 rfl) ?_
      refine lv_iadd hx hb dJ7_addAll_50 ?_
      obtain ⟨c18, t19, hc1, hs1, hvc_16⟩ := hvc_16
      refine gw_cVQA (As := [.int (x11 + x7)]) (rest := [])  ⟨hx, hb, hml, hown, hts⟩ (met_J7_grow_2 l E G6 o (x11 + x7) c18 t19 _ hvc_16.2) (cwV 1 hts (lw_V q241 q243 qs2 q99 q244) rfl rfl rfl (by decide +kernel) ⟨Nat.le_of_ble_eq_true rfl, Nat.le_of_ble_eq_true rfl⟩) (gw_rc (q := (RJ7, TJ7, 3)) hK hG_9 hvc_16.1 rfl) hc1 hs1 hMC_4 hMS_5 (Nat.le_refl _) (Nat.le_refl _) (g_X.st E) hz hX hK hG_9 hS_10 rfl hl_17.1 rfl (Nat.le_of_ble_eq_true rfl) dJ7_addAll_51 (fun x16 G17 H locs ce sl hvc_30 hG_31 hS_32 hMC_33 hMS_34 => ?_)
      clear hvc_16 hG_9 hS_10 hMC_4 hMS_5
      refine gq_astore (lv' := [(4, va_rf x16), (5, .int x11), (3, .int x7), (2, .ref z8), (0, .ref o), (1, .ref p1)]) hx hb dJ7_addAll_54 hl_17 (by decide) rfl (fun ls hl_35 => ?_)
      clear hl_17
      exact jn56 o (some z8) x7 x16 x11 G17 (mc0 - c3 - c18) (ms0 - t4 - t19) _ _ _ _ _ hvc_30 hG_31 hS_32 (lv_sub hl_35 [4, 3, 2, 0, 1] rfl) hMC_33 hMS_34
  · replace hvc_11 := hvc_11.2 h9
    refine lv_iconst (v := nI 0) hx hb dJ7_addAll_24 (by decide) ?_
    exact g_iret hx hb hr hlocks (by show _ ≤ mc0; omega) (by show _ ≤ ms0; omega) hG_9 hS_10 rfl hvc_11 dJ7_addAll_25
set_option maxHeartbeats 4000000 in
set_option maxRecDepth 100000 in
theorem met_J7_iterator (l : Launch) (E : g_E) (G : g_G) (o : Nat) (mc0 ms0 : Nat) (post : Option Nat → g_G → Prop) (hvc : wp_J7_iterator E G o mc0 ms0 post) : g_MQ E l yJ7_iterator (ws_ yJ7_iterator cJ7_iterator 1 (Option.some (Jvm.ClassFile.FieldType.object "java/util/Iterator"))) ({ frames := 2, cells := mc0, slots := ms0, locals := 33 } : Room) (fun _ => True) [.ref o] G (post) := by
  refine g_enter (by decide +kernel) (Nat.le_of_ble_eq_true rfl) ?_
  intro p e s m below meth c ls hx hb hr hts hown hlocks hml hin hz hX hK hG hS hl
  have hl : lv_has ls 1 [(0, .ref o)] := hl
  have hown : s.vm.findClass RJ7 = some m.cls := hown
  have hMC : 0 + mc0 ≤ mc0 := Nat.le_of_eq (Nat.zero_add _)
  have hMS : 0 + ms0 ≤ ms0 := Nat.le_of_eq (Nat.zero_add _)
  unfold wp_J7_iterator at hvc
  refine gw_new (C := RJ21) (T := TJ21) (N := 4) (own := RJ7) hx hb hts in_J21 tyJ21 tyJ21_ok hown (hts _ q696) (hts _ q697) (hts _ q116) hK hG hS hz hvc rfl (by decide) hMC hMS (Nat.le_refl _) (Nat.le_refl _) dJ7_iterator_0 (fun q1 G2 H ce sl hvc_1 hG_2 hS_3 hMC_4 hMS_5 => ?_)
  clear hvc hG hS hMC hMS
  refine lv_dup hx hb dJ7_iterator_3 rfl ?_
  refine lv_aload_n hx hb dJ7_iterator_4 rfl (lv_at hl 0 rfl) ?_
  refine gw_cCVN (As := [.ref o]) (rest := [.ref q1])  ⟨hx, hb, hml, hown, hts⟩ (met_J21_init l E G2 q1 o _ hvc_1) (cwI 1 hts (lw_meth q700) rfl rfl rfl (hts _ q116) (hts _ q698) (hts _ q699) rfl (by decide +kernel) ⟨Nat.le_of_ble_eq_true rfl, Nat.le_of_ble_eq_true rfl⟩) (by show _ ≤ mc0; omega) (by show _ ≤ ms0; omega) (g_St0 E) hz trivial hK hG_2 hS_3 rfl hl.1 rfl (Nat.le_of_ble_eq_true rfl) dJ7_iterator_5 (fun G4 H locs hvc_6 hG_7 hS_8 => ?_)
  clear hvc_1 hG_2 hS_3
  exact g_aret (v := (some q1)) hx hb hr (Or.inl ⟨_, rfl⟩) hlocks (by show _ ≤ mc0; omega) (by show _ ≤ ms0; omega) hG_7 hS_8 hvc_6 dJ7_iterator_8
set_option maxHeartbeats 4000000 in
set_option maxRecDepth 100000 in
theorem met_J7_init_2 (l : Launch) (E : g_E) (G : g_G) (o : Nat) (p1 : Nat) (mc0 ms0 : Nat) (post : g_G → Prop) (hvc : wp_J7_init_2 E G o p1 mc0 ms0 post) : g_MV E l yJ7_init_2 (ws_ yJ7_init_2 cJ7_init_2 3 (Option.none : Option Jvm.ClassFile.FieldType)) ({ frames := 4, cells := mc0, slots := ms0, locals := 124 } : Room) (g_X E) [.ref o, .ref p1] G (post) := by
  refine g_enter (by decide +kernel) (Nat.le_of_ble_eq_true rfl) ?_
  intro p e s m below meth c ls hx hb hr hts hown hlocks hml hin hz hX hK hG hS hl
  have hl : lv_has ls 3 [(0, .ref o), (1, .ref p1)] := hl
  have hown : s.vm.findClass RJ7 = some m.cls := hown
  have hMC : 0 + mc0 ≤ mc0 := Nat.le_of_eq (Nat.zero_add _)
  have hMS : 0 + ms0 ≤ ms0 := Nat.le_of_eq (Nat.zero_add _)
  unfold wp_J7_init_2 at hvc
  refine lv_aload_n hx hb dJ7_init_2_0 rfl (lv_at hl 0 rfl) ?_
  refine gw_cCVN (As := []) (rest := [])  ⟨hx, hb, hml, hown, hts⟩ (met_J6_init l E G o _ hvc) (cwI 0 hts (lw_meth q204) rfl rfl rfl (hts _ q98) (hts _ q202) (hts _ q203) rfl (by decide +kernel) ⟨Nat.le_of_ble_eq_true rfl, Nat.le_of_ble_eq_true rfl⟩) (by show _ ≤ mc0; omega) (by show _ ≤ ms0; omega) (g_St0 E) hz trivial hK hG hS rfl hl.1 rfl (Nat.le_of_ble_eq_true rfl) dJ7_init_2_1 (fun G2 H locs hvc_1 hG_2 hS_3 => ?_)
  clear hvc hG hS
  refine lv_aload_n hx hb dJ7_init_2_4 rfl (lv_at hl 1 rfl) ?_
  obtain ⟨c5, t6, hc1, hs1, hvc_1⟩ := hvc_1
  refine gw_cFQA (As := []) (rest := []) (hK.1 9 _ rfl).2  ⟨hx, hb, hml, hown, hts⟩ (met_J7_toArray l E G2 p1 c5 t6 _ hvc_1.2) (va_cwF 0 hts (lw_F q401 q681 q683 q99 q685) rfl rfl rfl (hX.fw (List.mem_of_getElem? (i := 7) rfl)) (by decide +kernel) ⟨Nat.le_of_ble_eq_true rfl, Nat.le_of_ble_eq_true rfl⟩) (gw_rc (q := (RJ7, TJ7, 3)) hK hG_2 hvc_1.1 rfl) hc1 hs1 hMC hMS (Nat.le_refl _) (Nat.le_refl _) (g_X.st E) hz hX hK hG_2 hS_3 rfl hl.1 rfl (Nat.le_of_ble_eq_true rfl) dJ7_init_2_5 (fun x3 G4 H locs ce sl hvc_4 hG_5 hS_6 hMC_7 hMS_8 => ?_)
  clear hvc_1 hG_2 hS_3 hMC hMS
  refine gq_astore_n (lv' := [(2, va_rf x3), (0, .ref o), (1, .ref p1)]) hx hb dJ7_init_2_10 rfl hl (by decide) rfl (fun ls hl_9 => ?_)
  clear hl
  refine lv_aload_n hx hb dJ7_init_2_11 rfl (lv_at hl_9 1 rfl) ?_
  refine gq_aload_n hx hb dJ7_init_2_12 rfl (lv_at hl_9 0 rfl) ?_
  obtain ⟨z8, rfl, hvc_4⟩ := hvc_4
  refine gw_alenX hx hb hK hG_5 hX hS_6 hvc_4 dJ7_init_2_13 (fun x7 hvc_10 => ?_)
  clear hvc_4
  refine lv_dup_x1 hx hb dJ7_init_2_14 rfl rfl ?_
  refine gw_put (ty := .int) (C := RJ7) (T := TJ7) (N := 3) (own := RJ7) hx hb hts in_J7 tyJ7 tyJ7_ok nmJ7 hown hK hG_5 hS_6 hvc_10 rfl (by decide) (hts _ q211) (fun _ h9 => h9) rfl (by decide +kernel) rfl rfl dJ7_init_2_15 (fun G9 H locs hvc_11 hG_12 hS_13 => ?_)
  clear hvc_10 hG_5 hS_6
  refine lv_if_eq (tgt := 57) hx hb dJ7_init_2_18 (by decide) (fun h9 => ?_) (fun h9 => ?_)
  · replace hvc_11 := hvc_11.1 h9
    refine lv_aload_n hx hb dJ7_init_2_57 rfl (lv_at hl_9 1 rfl) ?_
    refine va_gets (A := g_A E) hx hb hX.ez hS_13 hown (hts _ q752) (fun _ h9 => h9) dJ7_init_2_58 ?_
    refine gw_put (ty := .array (.object "java/lang/Object")) (C := RJ7) (T := TJ7) (N := 3) (own := RJ7) hx hb hts in_J7 tyJ7 tyJ7_ok nmJ7 hown hK hG_12 hS_13 hvc_11 rfl (by decide) (hts _ q208) (fun _ h9 => h9) rfl (by decide +kernel) rfl rfl dJ7_init_2_61 (fun G10 H locs hvc_14 hG_15 hS_16 => ?_)
    clear hvc_11 hG_12 hS_13
    exact g_vret hx hb hr hlocks (by show _ ≤ mc0; omega) (by show _ ≤ ms0; omega) hG_15 hS_16 hvc_14 dJ7_init_2_64
  · replace hvc_11 := hvc_11.2 h9
    refine lv_aload_n hx hb dJ7_init_2_21 rfl (lv_at hl_9 2 rfl) ?_
    refine gw_getCI hx hb (by rw [hml]; exact hl_9.1.symm) hown (hts _ q743) (g_self (C := "java/util/ArrayList") (I := "java/util/Collection") (z := ⟨"java/lang/Object", "getClass", "()Ljava/lang/Class;"⟩) (by decide +kernel) (va_any rfl hX.gc.2.1) (hts _ q285)) (hts _ q259) (hts _ q287) hK hG_12 hX (hX.1 _ q680 rfl) hvc_11.1 (Nat.le_of_ble_eq_true rfl) (Nat.le_of_ble_eq_true rfl) dJ7_init_2_22 ?_
    replace hvc_11 := hvc_11.2
    refine va_ldcM hx hb hown (hts _ q749) hX.ma dJ7_init_2_27 ?_
    refine lv_acmp_ne (rx := (some (g_k E 11))) (ry := (some (g_k E 11))) (tgt := 40) hx hb dJ7_init_2_29 (by decide) (fun h9 => ?_) (fun h9 => ?_)
    · replace hvc_11 := hvc_11.1 h9
      refine lv_aload_n hx hb dJ7_init_2_40 rfl (lv_at hl_9 1 rfl) ?_
      refine lv_aload_n hx hb dJ7_init_2_41 rfl (lv_at hl_9 0 rfl) ?_
      refine lv_aload_n hx hb dJ7_init_2_42 rfl (lv_at hl_9 1 rfl) ?_
      refine gw_gi (C := RJ7) (T := TJ7) (N := 3) (own := RJ7) hx hb hts in_J7 hown hK hG_12 hvc_11 rfl (by decide) (hts _ q211) (fun _ h9 => h9) dJ7_init_2_43 (fun x11 hvc_17 => ?_)
      clear hvc_11
      refine va_ldcM hx hb hown (hts _ q750) hX.mo dJ7_init_2_46 ?_
      obtain ⟨c14, t15, hc1, hs1, hvc_17⟩ := hvc_17
      refine gw_cSQA (As := [.ref z8, .int x11, .ref (g_k E 10)]) (rest := [.ref o])  ⟨hx, hb, hml, hown, hts⟩ (met_J10_copyOf_2 l E G9 z8 x11 (g_k E 10) c14 t15 _ hvc_17) (va_cwS 3 hts (lw_S q751 q289 q102 q290) rfl rfl rfl (by decide +kernel) ⟨Nat.le_of_ble_eq_true rfl, Nat.le_of_ble_eq_true rfl⟩) hc1 hs1 hMC_7 hMS_8 (Nat.le_refl _) (Nat.le_refl _) (g_X.st E) hz hX hK hG_12 hS_13 rfl hl_9.1 rfl (Nat.le_of_ble_eq_true rfl) dJ7_init_2_48 (fun x12 G13 H locs ce sl hvc_18 hG_19 hS_20 hMC_21 hMS_22 => ?_)
      clear hvc_17 hG_12 hS_13 hMC_7 hMS_8
      obtain ⟨z16, rfl, hvc_18⟩ := hvc_18
      refine gw_put (ty := .array (.object "java/lang/Object")) (C := RJ7) (T := TJ7) (N := 3) (own := RJ7) hx hb hts in_J7 tyJ7 tyJ7_ok nmJ7 hown hK hG_19 hS_20 hvc_18 rfl (by decide) (hts _ q208) (fun _ h9 => h9) rfl (by decide +kernel) rfl rfl dJ7_init_2_51 (fun G17 H locs hvc_23 hG_24 hS_25 => ?_)
      clear hvc_18 hG_19 hS_20
      refine lv_goto (tgt := 64) hx hb dJ7_init_2_54 (by decide) ?_
      exact g_vret hx hb hr hlocks (by show _ ≤ mc0; omega) (by show _ ≤ ms0; omega) hG_24 hS_25 hvc_23 dJ7_init_2_64
    · replace hvc_11 := hvc_11.2 h9
      refine lv_aload_n hx hb dJ7_init_2_32 rfl (lv_at hl_9 1 rfl) ?_
      refine lv_aload_n hx hb dJ7_init_2_33 rfl (lv_at hl_9 0 rfl) ?_
      refine gw_put (ty := .array (.object "java/lang/Object")) (C := RJ7) (T := TJ7) (N := 3) (own := RJ7) hx hb hts in_J7 tyJ7 tyJ7_ok nmJ7 hown hK hG_12 hS_13 hvc_11 rfl (by decide) (hts _ q208) (fun _ h9 => h9) rfl (by decide +kernel) rfl rfl dJ7_init_2_34 (fun G18 H locs hvc_26 hG_27 hS_28 => ?_)
      clear hvc_11 hG_12 hS_13
      refine lv_goto (tgt := 64) hx hb dJ7_init_2_37 (by decide) ?_
      exact g_vret hx hb hr hlocks (by show _ ≤ mc0; omega) (by show _ ≤ ms0; omega) hG_27 hS_28 hvc_26 dJ7_init_2_64
set_option maxHeartbeats 4000000 in
set_option maxRecDepth 100000 in
theorem met_J7_isEmpty (l : Launch) (E : g_E) (G : g_G) (o : Nat) (post : Int32 → Prop) (hvc : wp_J7_isEmpty E G o post) : g_MI E l yJ7_isEmpty (ws_ yJ7_isEmpty cJ7_isEmpty 1 (Option.some Jvm.ClassFile.FieldType.boolean)) ({ frames := 0, cells := 0, slots := 0, locals := 0 } : Room) (fun _ => True) [.ref o] G (fun v G9 => G9 = G ∧ post v) := by
  refine g_enter (by decide +kernel) (Nat.le_of_ble_eq_true rfl) ?_
  intro p e s m below meth c ls hx hb hr hts hown hlocks hml hin hz hX hK hG hS hl
  have hl : lv_has ls 1 [(0, .ref o)] := hl
  have hown : s.vm.findClass RJ7 = some m.cls := hown
  unfold wp_J7_isEmpty at hvc
  refine lv_aload_n hx hb dJ7_isEmpty_0 rfl (lv_at hl 0 rfl) ?_
  refine gw_gi (C := RJ7) (T := TJ7) (N := 3) (own := RJ7) hx hb hts in_J7 hown hK hG hvc rfl (by decide) (hts _ q211) (fun _ h9 => h9) dJ7_isEmpty_1 (fun x1 hvc_1 => ?_)
  clear hvc
  refine lv_if_ne (tgt := 11) hx hb dJ7_isEmpty_4 (by decide) (fun h9 => ?_) (fun h9 => ?_)
  · replace hvc_1 := hvc_1.1 h9
    refine lv_iconst (v := nI 0) hx hb dJ7_isEmpty_11 (by decide) ?_
    exact g_iret hx hb hr hlocks (Nat.zero_le _) (Nat.zero_le _) hG hS rfl ⟨rfl, hvc_1⟩ dJ7_isEmpty_12
  · replace hvc_1 := hvc_1.2 h9
    refine lv_iconst (v := nI 1) hx hb dJ7_isEmpty_7 (by decide) ?_
    refine lv_goto (tgt := 12) hx hb dJ7_isEmpty_8 (by decide) ?_
    exact g_iret hx hb hr hlocks (Nat.zero_le _) (Nat.zero_le _) hG hS rfl ⟨rfl, hvc_1⟩ dJ7_isEmpty_12
set_option maxHeartbeats 4000000 in
set_option maxRecDepth 100000 in
theorem met_J19_checkIndex (l : Launch) (E : g_E) (G : g_G) (p1 : Int32) (p2 : Int32) (p3 : Option Nat) (post : Int32 → Prop) (hvc : wp_J19_checkIndex E G p1 p2 p3 post) : g_MI E l yJ19_checkIndex (ws_ yJ19_checkIndex cJ19_checkIndex 3 (Option.some Jvm.ClassFile.FieldType.int)) ({ frames := 0, cells := 0, slots := 0, locals := 0 } : Room) (fun _ => True) [.int p1, .int p2, va_rf p3] G (fun v G9 => G9 = G ∧ post v) := by
  refine g_enter (by decide +kernel) (by cases p3 <;> exact Nat.le_of_ble_eq_true rfl) ?_
  intro p e s m below meth c ls hx hb hr hts hown hlocks hml hin hz hX hK hG hS hl
  have hl : lv_has ls 3 [(0, .int p1), (1, .int p2), (2, va_rf p3)] := hl
  have hown : s.vm.findClass RJ19 = some m.cls := hown
  unfold wp_J19_checkIndex at hvc
  refine lv_iload_n hx hb dJ19_checkIndex_0 rfl (lv_at hl 0 rfl) ?_
  have jn9 : ∀ (y0 : Int32) (y1 : Int32) (y2 : Option Nat) (H : Heap) (locs : List Loc) (ls : Array Slot), wp_J19_checkIndex_9 E G post y0 y1 y2 → g_H E G H → va_S (g_A E) s.heap H locs → lv_has ls 3 [(0, .int y0), (1, .int y1), (2, va_rf y2)] → W p l e ({ frames := 0, cells := 0, slots := 0, locals := 0 } : Room) s m ([.int p1, .int p2, va_rf p3] : List Value).toArray below meth c H locs 0 0 (MQ below (va_Qi (fun v G9 => G9 = G ∧ post v) (g_Bk E) (g_A E)) ([.int p1, .int p2, va_rf p3] : List Value).toArray s 0 0 (g_A E)) (F0 m 9 ls []) := by
    clear hvc hG hS hl
    intro y0 y1 y2 H locs ls hvc_1 hG_2 hS_3 hl_4
    refine gq_aload_n hx hb dJ19_checkIndex_9 rfl (lv_at hl_4 2 rfl) ?_
    refine lv_iload_n hx hb dJ19_checkIndex_10 rfl (lv_at hl_4 0 rfl) ?_
    refine lv_iload_n hx hb dJ19_checkIndex_11 rfl (lv_at hl_4 1 rfl) ?_
    exact False.elim hvc_1
  refine lv_if_lt (tgt := 9) hx hb dJ19_checkIndex_1 (by decide) (fun h9 => ?_) (fun h9 => ?_)
  · replace hvc := hvc.1 h9
    exact jn9 p1 p2 p3 _ _ _ hvc hG hS (lv_sub hl [0, 1, 2] rfl)
  · replace hvc := hvc.2 h9
    refine lv_iload_n hx hb dJ19_checkIndex_4 rfl (lv_at hl 0 rfl) ?_
    refine lv_iload_n hx hb dJ19_checkIndex_5 rfl (lv_at hl 1 rfl) ?_
    refine lv_icmp_lt (tgt := 16) hx hb dJ19_checkIndex_6 (by decide) (fun h9 => ?_) (fun h9 => ?_)
    · replace hvc := hvc.1 h9
      refine lv_iload_n hx hb dJ19_checkIndex_16 rfl (lv_at hl 0 rfl) ?_
      exact g_iret hx hb hr hlocks (Nat.zero_le _) (Nat.zero_le _) hG hS rfl ⟨rfl, hvc⟩ dJ19_checkIndex_17
    · replace hvc := hvc.2 h9
      exact jn9 p1 p2 p3 _ _ _ hvc hG hS (lv_sub hl [0, 1, 2] rfl)
set_option maxHeartbeats 4000000 in
set_option maxRecDepth 100000 in
theorem met_J22_checkIndex (l : Launch) (E : g_E) (G : g_G) (p1 : Int32) (p2 : Int32) (post : Int32 → Prop) (hvc : wp_J22_checkIndex E G p1 p2 post) : g_MI E l yJ22_checkIndex (ws_ yJ22_checkIndex cJ22_checkIndex 2 (Option.some Jvm.ClassFile.FieldType.int)) ({ frames := 1, cells := 0, slots := 0, locals := 22 } : Room) (fun _ => True) [.int p1, .int p2] G (fun v G9 => G9 = G ∧ post v) := by
  refine g_enter (by decide +kernel) (Nat.le_of_ble_eq_true rfl) ?_
  intro p e s m below meth c ls hx hb hr hts hown hlocks hml hin hz hX hK hG hS hl
  have hl : lv_has ls 2 [(0, .int p1), (1, .int p2)] := hl
  have hown : s.vm.findClass RJ22 = some m.cls := hown
  unfold wp_J22_checkIndex at hvc
  refine lv_iload_n hx hb dJ22_checkIndex_0 rfl (lv_at hl 0 rfl) ?_
  refine lv_iload_n hx hb dJ22_checkIndex_1 rfl (lv_at hl 1 rfl) ?_
  refine lv_null hx hb dJ22_checkIndex_2 ?_
  refine gw_cSIP (As := [.int p1, .int p2, va_rf none]) (rest := [])  ⟨hx, hb, hml, hown, hts⟩ (met_J19_checkIndex l E G p1 p2 none _ hvc) (va_cwS 3 hts (lw_S q820 q821 q114 q822) rfl rfl rfl (by decide +kernel) ⟨Nat.le_of_ble_eq_true rfl, Nat.le_of_ble_eq_true rfl⟩) (Nat.zero_le _) (Nat.zero_le _) (g_St0 E) hz trivial hK hG hS rfl hl.1 rfl (Nat.le_of_ble_eq_true rfl) dJ22_checkIndex_3 (fun x1 H locs hvc_1 hG_2 hS_3 => ?_)
  clear hvc hG hS
  exact g_iret hx hb hr hlocks (Nat.zero_le _) (Nat.zero_le _) hG_2 hS_3 rfl ⟨rfl, hvc_1⟩ dJ22_checkIndex_6
set_option maxHeartbeats 4000000 in
set_option maxRecDepth 100000 in
theorem met_J7_fastRemove (l : Launch) (E : g_E) (G : g_G) (o : Nat) (p1 : Nat) (p2 : Int32) (post : g_G → Prop) (hvc : wp_J7_fastRemove E G o p1 p2 post) : g_MV E l yJ7_fastRemove (ws_ yJ7_fastRemove cJ7_fastRemove 4 (Option.none : Option Jvm.ClassFile.FieldType)) ({ frames := 1, cells := 0, slots := 0, locals := 60 } : Room) (g_X E) [.ref o, .ref p1, .int p2] G (post) := by
  refine g_enter (by decide +kernel) (Nat.le_of_ble_eq_true rfl) ?_
  intro p e s m below meth c ls hx hb hr hts hown hlocks hml hin hz hX hK hG hS hl
  have hl : lv_has ls 4 [(0, .ref o), (1, .ref p1), (2, .int p2)] := hl
  have hown : s.vm.findClass RJ7 = some m.cls := hown
  unfold wp_J7_fastRemove at hvc
  refine lv_aload_n hx hb dJ7_fastRemove_0 rfl (lv_at hl 0 rfl) ?_
  refine lv_dup hx hb dJ7_fastRemove_1 rfl ?_
  refine gw_gi (C := RJ7) (T := TJ7) (N := 3) (own := RJ7) hx hb hts in_J7 hown hK hG hvc rfl (by decide) (hts _ q215) (fun x9 h9 => u_same (hts _ q214) x9 h9) dJ7_fastRemove_2 (fun x1 hvc_1 => ?_)
  clear hvc
  refine lv_iconst (v := nI 1) hx hb dJ7_fastRemove_5 (by decide) ?_
  refine lv_iadd hx hb dJ7_fastRemove_6 ?_
  refine gw_put (ty := .int) (C := RJ7) (T := TJ7) (N := 3) (own := RJ7) hx hb hts in_J7 tyJ7 tyJ7_ok nmJ7 hown hK hG hS hvc_1 rfl (by decide) (hts _ q215) (fun x9 h9 => u_same (hts _ q214) x9 h9) rfl (by decide +kernel) rfl rfl dJ7_fastRemove_7 (fun G2 H locs hvc_2 hG_3 hS_4 => ?_)
  clear hvc_1 hG hS
  refine lv_aload_n hx hb dJ7_fastRemove_10 rfl (lv_at hl 0 rfl) ?_
  refine gw_gi (C := RJ7) (T := TJ7) (N := 3) (own := RJ7) hx hb hts in_J7 hown hK hG_3 hvc_2 rfl (by decide) (hts _ q211) (fun _ h9 => h9) dJ7_fastRemove_11 (fun x3 hvc_5 => ?_)
  clear hvc_2
  refine lv_iconst (v := nI 1) hx hb dJ7_fastRemove_14 (by decide) ?_
  refine lv_isub hx hb dJ7_fastRemove_15 ?_
  refine lv_dup hx hb dJ7_fastRemove_16 rfl ?_
  refine lv_istore_n (lv' := [(3, .int (x3 - (nI 1))), (0, .ref o), (1, .ref p1), (2, .int p2)]) hx hb dJ7_fastRemove_17 rfl hl (by decide) rfl (fun ls hl_6 => ?_)
  clear hl
  refine lv_iload_n hx hb dJ7_fastRemove_18 rfl (lv_at hl_6 3 rfl) ?_
  have jn34 : ∀ (y0 : Nat) (y1 : Nat) (y3 : Int32) (G : g_G) (H : Heap) (locs : List Loc) (ls : Array Slot), wp_J7_fastRemove_34 E post y0 y1 y3 G → g_H E G H → va_S (g_A E) s.heap H locs → lv_has ls 4 [(0, .ref y0), (1, .ref y1), (3, .int y3)] → W p l e ({ frames := 1, cells := 0, slots := 0, locals := 60 } : Room) s m ([.ref o, .ref p1, .int p2] : List Value).toArray below meth c H locs 0 0 (MQ below (va_Qv (post) (g_Bk E) (g_A E)) ([.ref o, .ref p1, .int p2] : List Value).toArray s 0 0 (g_A E)) (F0 m 34 ls []) := by
    clear hvc_5 hG_3 hS_4 hl_6
    intro y0 y1 y3 G H locs ls hvc_7 hG_8 hS_9 hl_10
    refine lv_aload_n hx hb dJ7_fastRemove_34 rfl (lv_at hl_10 1 rfl) ?_
    refine lv_aload_n hx hb dJ7_fastRemove_35 rfl (lv_at hl_10 0 rfl) ?_
    refine lv_iload_n hx hb dJ7_fastRemove_36 rfl (lv_at hl_10 2 rfl) ?_
    refine lv_dup_x1 hx hb dJ7_fastRemove_37 rfl rfl ?_
    refine gw_put (ty := .int) (C := RJ7) (T := TJ7) (N := 3) (own := RJ7) hx hb hts in_J7 tyJ7 tyJ7_ok nmJ7 hown hK hG_8 hS_9 hvc_7 rfl (by decide) (hts _ q211) (fun _ h9 => h9) rfl (by decide +kernel) rfl rfl dJ7_fastRemove_38 (fun G4 H locs hvc_11 hG_12 hS_13 => ?_)
    clear hvc_7 hG_8 hS_9
    refine lv_null hx hb dJ7_fastRemove_41 ?_
    refine gw_qst (v := none) hx hb hK hG_12 hX hS_13 hvc_11 dJ7_fastRemove_42 (fun G5 H locs hvc_14 hG_15 hS_16 => ?_)
    clear hvc_11 hG_12 hS_13
    exact g_vret hx hb hr hlocks (Nat.zero_le _) (Nat.zero_le _) hG_15 hS_16 hvc_14 dJ7_fastRemove_43
  refine lv_icmp_le (tgt := 34) hx hb dJ7_fastRemove_19 (by decide) (fun h9 => ?_) (fun h9 => ?_)
  · replace hvc_5 := hvc_5.1 h9
    exact jn34 o p1 (x3 - (nI 1)) G2 _ _ _ hvc_5 hG_3 hS_4 (lv_sub hl_6 [1, 2, 0] rfl)
  · replace hvc_5 := hvc_5.2 h9
    refine lv_aload_n hx hb dJ7_fastRemove_22 rfl (lv_at hl_6 2 rfl) ?_
    refine lv_iload_n hx hb dJ7_fastRemove_23 rfl (lv_at hl_6 3 rfl) ?_
    refine lv_iconst (v := nI 1) hx hb dJ7_fastRemove_24 (by decide) ?_
    refine lv_iadd hx hb dJ7_fastRemove_25 ?_
    refine lv_aload_n hx hb dJ7_fastRemove_26 rfl (lv_at hl_6 2 rfl) ?_
    refine lv_iload_n hx hb dJ7_fastRemove_27 rfl (lv_at hl_6 3 rfl) ?_
    refine lv_iload_n hx hb dJ7_fastRemove_28 rfl (lv_at hl_6 0 rfl) ?_
    refine lv_iload_n hx hb dJ7_fastRemove_29 rfl (lv_at hl_6 3 rfl) ?_
    refine lv_isub hx hb dJ7_fastRemove_30 ?_
    refine gw_copyq hx hb (by rw [hml]; exact hl_6.1.symm) hown (hts _ q686) (hts _ q298) (hts _ q297) (hts _ q103) hX hK hG_3 hS_4 hvc_5 (Nat.le_of_ble_eq_true rfl) (Nat.le_of_ble_eq_true rfl) dJ7_fastRemove_31 (fun G6 H locs hvc_17 hG_18 hS_19 => ?_)
    clear hvc_5 hG_3 hS_4
    exact jn34 o p1 (x3 - (nI 1)) G6 _ _ _ hvc_17 hG_18 hS_19 (lv_sub hl_6 [1, 2, 0] rfl)
set_option maxHeartbeats 4000000 in
set_option maxRecDepth 100000 in
theorem met_J7_remove (l : Launch) (E : g_E) (G : g_G) (o : Nat) (p1 : Int32) (post : Option Nat → g_G → Prop) (hvc : wp_J7_remove E G o p1 post) : g_MQ E l yJ7_remove (ws_ yJ7_remove cJ7_remove 4 (Option.some (Jvm.ClassFile.FieldType.object "java/lang/Object"))) ({ frames := 2, cells := 0, slots := 0, locals := 83 } : Room) (g_X E) [.ref o, .int p1] G (post) := by
  refine g_enter (by decide +kernel) (Nat.le_of_ble_eq_true rfl) ?_
  intro p e s m below meth c ls hx hb hr hts hown hlocks hml hin hz hX hK hG hS hl
  have hl : lv_has ls 4 [(0, .ref o), (1, .int p1)] := hl
  have hown : s.vm.findClass RJ7 = some m.cls := hown
  unfold wp_J7_remove at hvc
  refine lv_iload_n hx hb dJ7_remove_0 rfl (lv_at hl 1 rfl) ?_
  refine lv_aload_n hx hb dJ7_remove_1 rfl (lv_at hl 0 rfl) ?_
  refine gw_gi (C := RJ7) (T := TJ7) (N := 3) (own := RJ7) hx hb hts in_J7 hown hK hG hvc rfl (by decide) (hts _ q211) (fun _ h9 => h9) dJ7_remove_2 (fun x1 hvc_1 => ?_)
  clear hvc
  refine gw_cSIP (As := [.int p1, .int x1]) (rest := [])  ⟨hx, hb, hml, hown, hts⟩ (met_J22_checkIndex l E G p1 x1 _ hvc_1) (va_cwS 2 hts (lw_S q817 q818 q118 q819) rfl rfl rfl (by decide +kernel) ⟨Nat.le_of_ble_eq_true rfl, Nat.le_of_ble_eq_true rfl⟩) (Nat.zero_le _) (Nat.zero_le _) (g_St0 E) hz trivial hK hG hS rfl hl.1 rfl (Nat.le_of_ble_eq_true rfl) dJ7_remove_5 (fun x2 H locs hvc_2 hG_3 hS_4 => ?_)
  clear hvc_1 hG hS
  refine lv_pop hx hb dJ7_remove_8 rfl ?_
  refine lv_aload_n hx hb dJ7_remove_9 rfl (lv_at hl 0 rfl) ?_
  refine gw_gr (C := RJ7) (T := TJ7) (N := 3) (own := RJ7) hx hb hts in_J7 hown hK hG_3 hvc_2 rfl (by decide) (hts _ q208) (fun _ h9 => h9) dJ7_remove_10 (fun x4 hvc_5 => ?_)
  clear hvc_2
  refine lv_astore_n (lv' := [(2, .ref x4), (0, .ref o), (1, .int p1)]) hx hb dJ7_remove_13 rfl hl (by decide) rfl (fun ls hl_6 => ?_)
  clear hl
  refine lv_aload_n hx hb dJ7_remove_14 rfl (lv_at hl_6 0 rfl) ?_
  refine lv_iload_n hx hb dJ7_remove_15 rfl (lv_at hl_6 2 rfl) ?_
  refine gw_qld hx hb hK hG_3 hvc_5 dJ7_remove_16 (fun x5 hvc_7 => ?_)
  clear hvc_5
  refine gq_astore_n (lv' := [(3, va_rf x5), (2, .ref x4), (0, .ref o), (1, .int p1)]) hx hb dJ7_remove_17 rfl hl_6 (by decide) rfl (fun ls hl_8 => ?_)
  clear hl_6
  refine lv_aload_n hx hb dJ7_remove_18 rfl (lv_at hl_8 2 rfl) ?_
  refine lv_aload_n hx hb dJ7_remove_19 rfl (lv_at hl_8 1 rfl) ?_
  refine lv_iload_n hx hb dJ7_remove_20 rfl (lv_at hl_8 3 rfl) ?_
  refine gw_cVVN (As := [.ref x4, .int p1]) (rest := [])  ⟨hx, hb, hml, hown, hts⟩ (met_J7_fastRemove l E G o x4 p1 _ hvc_7.2) (cwV 2 hts (lw_V q823 q825 qs8 q99 q826) rfl rfl rfl (by decide +kernel) ⟨Nat.le_of_ble_eq_true rfl, Nat.le_of_ble_eq_true rfl⟩) (gw_rc (q := (RJ7, TJ7, 3)) hK hG_3 hvc_7.1 rfl) (Nat.zero_le _) (Nat.zero_le _) (g_X.st E) hz hX hK hG_3 hS_4 rfl hl_8.1 rfl (Nat.le_of_ble_eq_true rfl) dJ7_remove_21 (fun G7 H locs hvc_9 hG_10 hS_11 => ?_)
  clear hvc_7 hG_3 hS_4
  refine gq_aload_n hx hb dJ7_remove_24 rfl (lv_at hl_8 0 rfl) ?_
  exact g_aret (v := x5) hx hb hr (Or.inl ⟨_, rfl⟩) hlocks (Nat.zero_le _) (Nat.zero_le _) hG_10 hS_11 hvc_9 dJ7_remove_25
set_option maxHeartbeats 4000000 in
set_option maxRecDepth 100000 in
theorem met_J7_elementData (l : Launch) (E : g_E) (G : g_G) (o : Nat) (p1 : Int32) (post : Option Nat → Prop) (hvc : wp_J7_elementData E G o p1 post) : g_MQ E l yJ7_elementData (ws_ yJ7_elementData cJ7_elementData 2 (Option.some (Jvm.ClassFile.FieldType.object "java/lang/Object"))) ({ frames := 0, cells := 0, slots := 0, locals := 0 } : Room) (fun _ => True) [.ref o, .int p1] G (fun v G9 => G9 = G ∧ post v) := by
  refine g_enter (by decide +kernel) (Nat.le_of_ble_eq_true rfl) ?_
  intro p e s m below meth c ls hx hb hr hts hown hlocks hml hin hz hX hK hG hS hl
  have hl : lv_has ls 2 [(0, .ref o), (1, .int p1)] := hl
  have hown : s.vm.findClass RJ7 = some m.cls := hown
  unfold wp_J7_elementData at hvc
  refine lv_aload_n hx hb dJ7_elementData_0 rfl (lv_at hl 0 rfl) ?_
  refine gw_gr (C := RJ7) (T := TJ7) (N := 3) (own := RJ7) hx hb hts in_J7 hown hK hG hvc rfl (by decide) (hts _ q208) (fun _ h9 => h9) dJ7_elementData_1 (fun x1 hvc_1 => ?_)
  clear hvc
  refine lv_iload_n hx hb dJ7_elementData_4 rfl (lv_at hl 1 rfl) ?_
  refine gw_qld hx hb hK hG hvc_1 dJ7_elementData_5 (fun x2 hvc_2 => ?_)
  clear hvc_1
  exact g_aret (v := x2) hx hb hr (Or.inl ⟨_, rfl⟩) hlocks (Nat.zero_le _) (Nat.zero_le _) hG hS ⟨rfl, hvc_2⟩ dJ7_elementData_6
set_option maxHeartbeats 4000000 in
set_option maxRecDepth 100000 in
theorem met_J7_get (l : Launch) (E : g_E) (G : g_G) (o : Nat) (p1 : Int32) (post : Option Nat → Prop) (hvc : wp_J7_get E G o p1 post) : g_MQ E l yJ7_get (ws_ yJ7_get cJ7_get 2 (Option.some (Jvm.ClassFile.FieldType.object "java/lang/Object"))) ({ frames := 2, cells := 0, slots := 0, locals := 43 } : Room) (fun _ => True) [.ref o, .int p1] G (fun v G9 => G9 = G ∧ post v) := by
  refine g_enter (by decide +kernel) (Nat.le_of_ble_eq_true rfl) ?_
  intro p e s m below meth c ls hx hb hr hts hown hlocks hml hin hz hX hK hG hS hl
  have hl : lv_has ls 2 [(0, .ref o), (1, .int p1)] := hl
  have hown : s.vm.findClass RJ7 = some m.cls := hown
  unfold wp_J7_get at hvc
  refine lv_iload_n hx hb dJ7_get_0 rfl (lv_at hl 1 rfl) ?_
  refine lv_aload_n hx hb dJ7_get_1 rfl (lv_at hl 0 rfl) ?_
  refine gw_gi (C := RJ7) (T := TJ7) (N := 3) (own := RJ7) hx hb hts in_J7 hown hK hG hvc rfl (by decide) (hts _ q211) (fun _ h9 => h9) dJ7_get_2 (fun x1 hvc_1 => ?_)
  clear hvc
  refine gw_cSIP (As := [.int p1, .int x1]) (rest := [])  ⟨hx, hb, hml, hown, hts⟩ (met_J22_checkIndex l E G p1 x1 _ hvc_1) (va_cwS 2 hts (lw_S q817 q818 q118 q819) rfl rfl rfl (by decide +kernel) ⟨Nat.le_of_ble_eq_true rfl, Nat.le_of_ble_eq_true rfl⟩) (Nat.zero_le _) (Nat.zero_le _) (g_St0 E) hz trivial hK hG hS rfl hl.1 rfl (Nat.le_of_ble_eq_true rfl) dJ7_get_5 (fun x2 H locs hvc_2 hG_3 hS_4 => ?_)
  clear hvc_1 hG hS
  refine lv_pop hx hb dJ7_get_8 rfl ?_
  refine lv_aload_n hx hb dJ7_get_9 rfl (lv_at hl 0 rfl) ?_
  refine lv_iload_n hx hb dJ7_get_10 rfl (lv_at hl 1 rfl) ?_
  refine gw_cVQP (As := [.int p1]) (rest := [])  ⟨hx, hb, hml, hown, hts⟩ (met_J7_elementData l E G o p1 _ hvc_2.2) (cwV 1 hts (lw_V q862 q863 q864 q99 q865) rfl rfl rfl (by decide +kernel) ⟨Nat.le_of_ble_eq_true rfl, Nat.le_of_ble_eq_true rfl⟩) (gw_rc (q := (RJ7, TJ7, 3)) hK hG_3 hvc_2.1 rfl) (Nat.zero_le _) (Nat.zero_le _) (g_St0 E) hz trivial hK hG_3 hS_4 rfl hl.1 rfl (Nat.le_of_ble_eq_true rfl) dJ7_get_11 (fun x4 H locs hvc_5 hG_6 hS_7 => ?_)
  clear hvc_2 hG_3 hS_4
  exact g_aret (v := x4) hx hb hr (Or.inl ⟨_, rfl⟩) hlocks (Nat.zero_le _) (Nat.zero_le _) hG_6 hS_7 ⟨rfl, hvc_5⟩ dJ7_get_14
set_option maxHeartbeats 4000000 in
set_option maxRecDepth 100000 in
theorem met_J7_size (l : Launch) (E : g_E) (G : g_G) (o : Nat) (post : Int32 → Prop) (hvc : wp_J7_size E G o post) : g_MI E l yJ7_size (ws_ yJ7_size cJ7_size 1 (Option.some Jvm.ClassFile.FieldType.int)) ({ frames := 0, cells := 0, slots := 0, locals := 0 } : Room) (fun _ => True) [.ref o] G (fun v G9 => G9 = G ∧ post v) := by
  refine g_enter (by decide +kernel) (Nat.le_of_ble_eq_true rfl) ?_
  intro p e s m below meth c ls hx hb hr hts hown hlocks hml hin hz hX hK hG hS hl
  have hl : lv_has ls 1 [(0, .ref o)] := hl
  have hown : s.vm.findClass RJ7 = some m.cls := hown
  unfold wp_J7_size at hvc
  refine lv_aload_n hx hb dJ7_size_0 rfl (lv_at hl 0 rfl) ?_
  refine gw_gi (C := RJ7) (T := TJ7) (N := 3) (own := RJ7) hx hb hts in_J7 hown hK hG hvc rfl (by decide) (hts _ q211) (fun _ h9 => h9) dJ7_size_1 (fun x1 hvc_1 => ?_)
  clear hvc
  exact g_iret hx hb hr hlocks (Nat.zero_le _) (Nat.zero_le _) hG hS rfl ⟨rfl, hvc_1⟩ dJ7_size_4
