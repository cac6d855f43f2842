/-! printed by tools/gen.py -/
set_option maxHeartbeats 4000000 in
set_option maxRecDepth 100000 in
theorem met_J0_init (l : Launch) (E : g_E) (G : g_G) (o : Nat) (p1 : Int32) (mc0 ms0 : Nat) (post : g_G → Prop) (hvc : wp_J0_init E G o p1 mc0 ms0 post) : g_MV E l yJ0_init (ws_ yJ0_init cJ0_init 2 (Option.none : Option Jvm.ClassFile.FieldType)) ({ frames := 2, cells := mc0, slots := ms0, locals := 40 } : Room) (g_X E) [.ref o, .int p1] G (post) := by
  refine g_enter (by decide +kernel) (Nat.le_of_ble_eq_true rfl) ?_
  intro p e s m below meth c ls hx hb hr hts hown hlocks hml hin hz hX hK hG hS hl
  have hl : lv_has ls 2 [(0, .ref o), (1, .int p1)] := hl
  have hown : s.vm.findClass RJ0 = some m.cls := hown
  have hMC : 0 + mc0 ≤ mc0 := Nat.le_of_eq (Nat.zero_add _)
  have hMS : 0 + ms0 ≤ ms0 := Nat.le_of_eq (Nat.zero_add _)
  unfold wp_J0_init at hvc
  refine lv_aload_n hx hb dJ0_init_0 rfl (lv_at hl 0 rfl) ?_
  refine W.objInit hx hb hown (hts _ q145) (hts _ q135) (hts _ q136) rfl (by rw [hml]; exact hl.1) rfl dJ0_init_1 (Nat.le_of_ble_eq_true rfl) (Nat.le_of_ble_eq_true rfl) ?_
  refine W.eq (g2 := F0 m 4 ls []) rfl ?_
  refine va_gets (A := g_A E) hx hb hX.cs hS hown (hts _ q146) (fun _ h9 => h9) dJ0_init_4 ?_
  refine lv_if_eq (tgt := 25) hx hb dJ0_init_7 (by decide) (fun h9 => ?_) (fun h9 => ?_)
  · replace hvc := hvc.1 h9
    refine lv_aload_n hx hb dJ0_init_25 rfl (lv_at hl 0 rfl) ?_
    refine lv_iload_n hx hb dJ0_init_26 rfl (lv_at hl 1 rfl) ?_
    exact False.elim hvc
  · replace hvc := hvc.2 h9
    refine lv_aload_n hx hb dJ0_init_10 rfl (lv_at hl 0 rfl) ?_
    refine lv_iload_n hx hb dJ0_init_11 rfl (lv_at hl 1 rfl) ?_
    refine gw_newb hx hb (by exact hts _ q169) hK hG hS hz hvc hMC hMS (Nat.le_refl _) (Nat.le_refl _) dJ0_init_12 (fun n1 q2 G3 H ce sl hvc_1 hG_2 hS_3 hMC_4 hMS_5 => ?_)
    clear hvc hG hS hMC hMS
    refine gw_put (ty := .array .byte) (C := RJ1) (T := TJ1) (N := 4) (own := RJ0) hx hb hts in_J1 tyJ1 tyJ1_ok nmJ1 hown hK hG_2 hS_3 hvc_1 rfl (by decide) (hts _ q155) (fun _ h9 => h9) rfl (by decide +kernel) rfl rfl dJ0_init_14 (fun G4 H locs hvc_6 hG_7 hS_8 => ?_)
    clear hvc_1 hG_2 hS_3
    refine lv_aload_n hx hb dJ0_init_17 rfl (lv_at hl 0 rfl) ?_
    refine lv_iconst (v := nI 0) hx hb dJ0_init_18 (by decide) ?_
    refine gw_putn (C := RJ1) (T := TJ1) (N := 4) (own := RJ0) hx hb hts in_J1 tyJ1 tyJ1_ok nmJ1 hown hK hG_7 hS_8 hvc_6 rfl (by decide) (hts _ q156) (fun _ h9 => h9) rfl (by decide +kernel) dJ0_init_19 (fun G5 H locs hvc_9 hG_10 hS_11 => ?_)
    clear hvc_6 hG_7 hS_8
    refine lv_goto (tgt := 38) hx hb dJ0_init_22 (by decide) ?_
    exact g_vret hx hb hr hlocks (by show _ ≤ mc0; omega) (by show _ ≤ ms0; omega) hG_10 hS_11 hvc_9 dJ0_init_38
set_option maxHeartbeats 4000000 in
set_option maxRecDepth 100000 in
theorem met_J1_init (l : Launch) (E : g_E) (G : g_G) (o : Nat) (mc0 ms0 : Nat) (post : g_G → Prop) (hvc : wp_J1_init E G o mc0 ms0 post) : g_MV E l yJ1_init (ws_ yJ1_init cJ1_init 1 (Option.none : Option Jvm.ClassFile.FieldType)) ({ frames := 3, cells := mc0, slots := ms0, locals := 61 } : Room) (g_X E) [.ref o] G (post) := by
  refine g_enter (by decide +kernel) (Nat.le_of_ble_eq_true rfl) ?_
  intro p e s m below meth c ls hx hb hr hts hown hlocks hml hin hz hX hK hG hS hl
  have hl : lv_has ls 1 [(0, .ref o)] := hl
  have hown : s.vm.findClass RJ1 = some m.cls := hown
  have hMC : 0 + mc0 ≤ mc0 := Nat.le_of_eq (Nat.zero_add _)
  have hMS : 0 + ms0 ≤ ms0 := Nat.le_of_eq (Nat.zero_add _)
  unfold wp_J1_init at hvc
  refine lv_aload_n hx hb dJ1_init_0 rfl (lv_at hl 0 rfl) ?_
  refine lv_bipush (v := nI 16) hx hb dJ1_init_1 (by decide) ?_
  obtain ⟨c3, t4, hc1, hs1, hvc⟩ := hvc
  refine gw_cCVA (As := [.int (nI 16)]) (rest := [])  ⟨hx, hb, hml, hown, hts⟩ (met_J0_init l E G o (nI 16) c3 t4 _ hvc) (cwI 1 hts (lw_meth q144) rfl rfl rfl (hts _ q91) (hts _ q142) (hts _ q143) rfl (by decide +kernel) ⟨Nat.le_of_ble_eq_true rfl, Nat.le_of_ble_eq_true rfl⟩) hc1 hs1 hMC hMS (Nat.le_refl _) (Nat.le_refl _) (g_X.st E) hz hX hK hG hS rfl hl.1 rfl (Nat.le_of_ble_eq_true rfl) dJ1_init_3 (fun G2 H locs ce sl hvc_1 hG_2 hS_3 hMC_4 hMS_5 => ?_)
  clear hvc hG hS hMC hMS
  exact g_vret hx hb hr hlocks (by show _ ≤ mc0; omega) (by show _ ≤ ms0; omega) hG_2 hS_3 hvc_1 dJ1_init_6
set_option maxHeartbeats 4000000 in
set_option maxRecDepth 100000 in
theorem met_J0_length (l : Launch) (E : g_E) (G : g_G) (o : Nat) (post : Int32 → Prop) (hvc : wp_J0_length E G o post) : g_MI E l yJ0_length (ws_ yJ0_length cJ0_length 1 (Option.some Jvm.ClassFile.FieldType.int)) ({ frames := 0, cells := 0, slots := 0, locals := 0 } : Room) (fun _ => True) [.ref o] G (fun v G9 => G9 = G ∧ post v) := by
  refine g_enter (by decide +kernel) (Nat.le_of_ble_eq_true rfl) ?_
  intro p e s m below meth c ls hx hb hr hts hown hlocks hml hin hz hX hK hG hS hl
  have hl : lv_has ls 1 [(0, .ref o)] := hl
  have hown : s.vm.findClass RJ0 = some m.cls := hown
  unfold wp_J0_length at hvc
  refine lv_aload_n hx hb dJ0_length_0 rfl (lv_at hl 0 rfl) ?_
  refine gw_gi (C := RJ1) (T := TJ1) (N := 4) (own := RJ0) hx hb hts in_J1 hown hK hG hvc rfl (by decide) (hts _ q159) (fun _ h9 => h9) dJ0_length_1 (fun x1 hvc_1 => ?_)
  clear hvc
  exact g_iret hx hb hr hlocks (Nat.zero_le _) (Nat.zero_le _) hG hS rfl ⟨rfl, hvc_1⟩ dJ0_length_4
set_option maxHeartbeats 4000000 in
set_option maxRecDepth 100000 in
theorem met_J1_length (l : Launch) (E : g_E) (G : g_G) (o : Nat) (post : Int32 → Prop) (hvc : wp_J1_length E G o post) : g_MI E l yJ1_length (ws_ yJ1_length cJ1_length 1 (Option.some Jvm.ClassFile.FieldType.int)) ({ frames := 1, cells := 0, slots := 0, locals := 20 } : Room) (fun _ => True) [.ref o] G (fun v G9 => G9 = G ∧ post v) := by
  refine g_enter (by decide +kernel) (Nat.le_of_ble_eq_true rfl) ?_
  intro p e s m below meth c ls hx hb hr hts hown hlocks hml hin hz hX hK hG hS hl
  have hl : lv_has ls 1 [(0, .ref o)] := hl
  have hown : s.vm.findClass RJ1 = some m.cls := hown
  unfold wp_J1_length at hvc
  refine lv_aload_n hx hb dJ1_length_0 rfl (lv_at hl 0 rfl) ?_
  refine gw_cUIP (As := []) (rest := []) (C := "java/lang/StringBuilder") (hK.1 12 _ rfl).2  ⟨hx, hb, hml, hown, hts⟩ (met_J0_length l E G o _ hvc.2) (va_cwSU 0 hts (lw_SU q618 q614 q168 q613 q91 q619) rfl rfl rfl (by decide +kernel) ⟨Nat.le_of_ble_eq_true rfl, Nat.le_of_ble_eq_true rfl⟩) (gw_rc (q := (RJ1, TJ1, 4)) hK hG hvc.1 rfl) (Nat.zero_le _) (Nat.zero_le _) (g_St0 E) hz trivial hK hG hS rfl hl.1 rfl (Nat.le_of_ble_eq_true rfl) dJ1_length_1 (fun x1 H locs hvc_1 hG_2 hS_3 => ?_)
  clear hvc hG hS
  exact g_iret hx hb hr hlocks (Nat.zero_le _) (Nat.zero_le _) hG_2 hS_3 rfl ⟨rfl, hvc_1⟩ dJ1_length_4
set_option maxHeartbeats 4000000 in
set_option maxRecDepth 100000 in
theorem met_J0_newCapacity (l : Launch) (E : g_E) (G : g_G) (o : Nat) (p1 : Int32) (mc0 ms0 : Nat) (post : Int32 → g_G → Prop) (hvc : wp_J0_newCapacity E G o p1 mc0 ms0 post) : g_MI E l yJ0_newCapacity (ws_ yJ0_newCapacity cJ0_newCapacity 6 (Option.some Jvm.ClassFile.FieldType.int)) ({ frames := 2, cells := mc0, slots := ms0, locals := 63 } : Room) (fun _ => True) [.ref o, .int p1] G (post) := by
  refine g_enter (by decide +kernel) (Nat.le_of_ble_eq_true rfl) ?_
  intro p e s m below meth c ls hx hb hr hts hown hlocks hml hin hz hX hK hG hS hl
  have hl : lv_has ls 6 [(0, .ref o), (1, .int p1)] := hl
  have hown : s.vm.findClass RJ0 = some m.cls := hown
  have hMC : 0 + mc0 ≤ mc0 := Nat.le_of_eq (Nat.zero_add _)
  have hMS : 0 + ms0 ≤ ms0 := Nat.le_of_eq (Nat.zero_add _)
  unfold wp_J0_newCapacity at hvc
  refine lv_aload_n hx hb dJ0_newCapacity_0 rfl (lv_at hl 0 rfl) ?_
  refine gw_gr (C := RJ1) (T := TJ1) (N := 4) (own := RJ0) hx hb hts in_J1 hown hK hG hvc rfl (by decide) (hts _ q155) (fun _ h9 => h9) dJ0_newCapacity_1 (fun x1 hvc_1 => ?_)
  clear hvc
  refine gw_alen hx hb hK hG hvc_1 dJ0_newCapacity_4 (fun x2 hvc_2 => ?_)
  clear hvc_1
  refine lv_istore_n (lv' := [(2, .int x2), (0, .ref o), (1, .int p1)]) hx hb dJ0_newCapacity_5 rfl hl (by decide) rfl (fun ls hl_3 => ?_)
  clear hl
  refine lv_iload_n hx hb dJ0_newCapacity_6 rfl (lv_at hl_3 2 rfl) ?_
  refine lv_aload_n hx hb dJ0_newCapacity_7 rfl (lv_at hl_3 1 rfl) ?_
  refine gw_gi (C := RJ1) (T := TJ1) (N := 4) (own := RJ0) hx hb hts in_J1 hown hK hG hvc_2 rfl (by decide) (hts _ q156) (fun _ h9 => h9) dJ0_newCapacity_8 (fun x3 hvc_4 => ?_)
  clear hvc_2
  refine lv_ishl hx hb dJ0_newCapacity_11 ?_
  refine lv_istore_n (lv' := [(3, .int (p1 <<< (x3 &&& 31))), (2, .int x2), (0, .ref o), (1, .int p1)]) hx hb dJ0_newCapacity_12 rfl hl_3 (by decide) rfl (fun ls hl_5 => ?_)
  clear hl_3
  refine lv_iload_n hx hb dJ0_newCapacity_13 rfl (lv_at hl_5 0 rfl) ?_
  refine lv_iload_n hx hb dJ0_newCapacity_14 rfl (lv_at hl_5 1 rfl) ?_
  refine lv_isub hx hb dJ0_newCapacity_15 ?_
  refine lv_istore (lv' := [(4, .int ((p1 <<< (x3 &&& 31)) - x2)), (3, .int (p1 <<< (x3 &&& 31))), (2, .int x2), (0, .ref o), (1, .int p1)]) hx hb dJ0_newCapacity_16 hl_5 (by decide) rfl (fun ls hl_6 => ?_)
  clear hl_5
  refine lv_iload_n hx hb dJ0_newCapacity_18 rfl (lv_at hl_6 2 rfl) ?_
  refine lv_iload hx hb dJ0_newCapacity_19 (lv_at hl_6 0 rfl) ?_
  refine lv_iload_n hx hb dJ0_newCapacity_21 rfl (lv_at hl_6 2 rfl) ?_
  refine lv_iconst (v := nI 2) hx hb dJ0_newCapacity_22 (by decide) ?_
  refine lv_aload_n hx hb dJ0_newCapacity_23 rfl (lv_at hl_6 3 rfl) ?_
  refine gw_gi (C := RJ1) (T := TJ1) (N := 4) (own := RJ0) hx hb hts in_J1 hown hK hG hvc_4 rfl (by decide) (hts _ q156) (fun _ h9 => h9) dJ0_newCapacity_24 (fun x4 hvc_7 => ?_)
  clear hvc_4
  refine lv_ishl hx hb dJ0_newCapacity_27 ?_
  refine lv_iadd hx hb dJ0_newCapacity_28 ?_
  obtain ⟨c7, t8, hc1, hs1, hvc_7⟩ := hvc_7
  refine gw_cSIA (As := [.int x2, .int ((p1 <<< (x3 &&& 31)) - x2), .int (x2 + ((nI 2) <<< (x4 &&& 31)))]) (rest := [])  ⟨hx, hb, hml, hown, hts⟩ (met_J8_newLength l E G x2 ((p1 <<< (x3 &&& 31)) - x2) (x2 + ((nI 2) <<< (x4 &&& 31))) c7 t8 _ hvc_7) (va_cwS 3 hts (lw_S q481 q246 q100 q247) rfl rfl rfl (by decide +kernel) ⟨Nat.le_of_ble_eq_true rfl, Nat.le_of_ble_eq_true rfl⟩) hc1 hs1 hMC hMS (Nat.le_refl _) (Nat.le_refl _) (g_St0 E) hz trivial hK hG hS rfl hl_6.1 rfl (Nat.le_of_ble_eq_true rfl) dJ0_newCapacity_29 (fun x5 G6 H locs ce sl hvc_8 hG_9 hS_10 hMC_11 hMS_12 => ?_)
  clear hvc_7 hG hS hMC hMS
  refine lv_istore (lv' := [(5, .int x5), (4, .int ((p1 <<< (x3 &&& 31)) - x2)), (3, .int (p1 <<< (x3 &&& 31))), (2, .int x2), (0, .ref o), (1, .int p1)]) hx hb dJ0_newCapacity_32 hl_6 (by decide) rfl (fun ls hl_13 => ?_)
  clear hl_6
  refine lv_iload hx hb dJ0_newCapacity_34 (lv_at hl_13 0 rfl) ?_
  refine lv_ldc (v := nI 2147483647) hx hb hown (by exact hts _ q482) dJ0_newCapacity_36 ?_
  refine lv_icmp_ne (tgt := 51) hx hb dJ0_newCapacity_38 (by decide) (fun h9 => ?_) (fun h9 => ?_)
  · replace hvc_8 := hvc_8.1 h9
    refine lv_iload hx hb dJ0_newCapacity_51 (lv_at hl_13 0 rfl) ?_
    refine lv_aload_n hx hb dJ0_newCapacity_53 rfl (lv_at hl_13 4 rfl) ?_
    refine gw_gi (C := RJ1) (T := TJ1) (N := 4) (own := RJ0) hx hb hts in_J1 hown hK hG_9 hvc_8 rfl (by decide) (hts _ q156) (fun _ h9 => h9) dJ0_newCapacity_54 (fun x9 hvc_14 => ?_)
    clear hvc_8
    refine lv_ishr hx hb dJ0_newCapacity_57 ?_
    exact g_iret hx hb hr hlocks (by show _ ≤ mc0; omega) (by show _ ≤ ms0; omega) hG_9 hS_10 rfl hvc_14 dJ0_newCapacity_58
  · replace hvc_8 := hvc_8.2 h9
    exact False.elim hvc_8
set_option maxHeartbeats 4000000 in
set_option maxRecDepth 100000 in
theorem met_J10_copyOf_3 (l : Launch) (E : g_E) (G : g_G) (p1 : Nat) (p2 : Int32) (mc0 ms0 : Nat) (post : Option Nat → g_G → Prop) (hvc : wp_J10_copyOf_3 E G p1 p2 mc0 ms0 post) : g_MQ E l yJ10_copyOf_3 (ws_ yJ10_copyOf_3 cJ10_copyOf_3 3 (Option.some (Jvm.ClassFile.FieldType.array Jvm.ClassFile.FieldType.byte))) ({ frames := 1, cells := mc0, slots := ms0, locals := 60 } : Room) (g_X E) [.ref p1, .int p2] G (post) := by
  refine g_enter (by decide +kernel) (Nat.le_of_ble_eq_true rfl) ?_
  intro p e s m below meth c ls hx hb hr hts hown hlocks hml hin hz hX hK hG hS hl
  have hl : lv_has ls 3 [(0, .ref p1), (1, .int p2)] := hl
  have hown : s.vm.findClass RJ10 = some m.cls := hown
  have hMC : 0 + mc0 ≤ mc0 := Nat.le_of_eq (Nat.zero_add _)
  have hMS : 0 + ms0 ≤ ms0 := Nat.le_of_eq (Nat.zero_add _)
  unfold wp_J10_copyOf_3 at hvc
  refine lv_iload_n hx hb dJ10_copyOf_3_0 rfl (lv_at hl 1 rfl) ?_
  refine lv_aload_n hx hb dJ10_copyOf_3_1 rfl (lv_at hl 0 rfl) ?_
  refine gw_alenX hx hb hK hG hX hS hvc dJ10_copyOf_3_2 (fun x1 hvc_1 => ?_)
  clear hvc
  refine lv_icmp_ne (tgt := 14) hx hb dJ10_copyOf_3_3 (by decide) (fun h9 => ?_) (fun h9 => ?_)
  · replace hvc_1 := hvc_1.1 h9
    refine lv_iload_n hx hb dJ10_copyOf_3_14 rfl (lv_at hl 1 rfl) ?_
    refine gw_newb hx hb (by exact hts _ q169) hK hG hS hz hvc_1 hMC hMS (Nat.le_refl _) (Nat.le_refl _) dJ10_copyOf_3_15 (fun n2 q3 G4 H ce sl hvc_2 hG_3 hS_4 hMC_5 hMS_6 => ?_)
    clear hvc_1 hG hS hMC hMS
    refine lv_astore_n (lv' := [(2, .ref q3), (0, .ref p1), (1, .int p2)]) hx hb dJ10_copyOf_3_17 rfl hl (by decide) rfl (fun ls hl_7 => ?_)
    clear hl
    refine lv_aload_n hx hb dJ10_copyOf_3_18 rfl (lv_at hl_7 1 rfl) ?_
    refine lv_iconst (v := nI 0) hx hb dJ10_copyOf_3_19 (by decide) ?_
    refine lv_aload_n hx hb dJ10_copyOf_3_20 rfl (lv_at hl_7 0 rfl) ?_
    refine lv_iconst (v := nI 0) hx hb dJ10_copyOf_3_21 (by decide) ?_
    refine lv_aload_n hx hb dJ10_copyOf_3_22 rfl (lv_at hl_7 1 rfl) ?_
    refine gw_alenX hx hb hK hG_3 hX hS_4 hvc_2 dJ10_copyOf_3_23 (fun x5 hvc_8 => ?_)
    clear hvc_2
    refine lv_iload_n hx hb dJ10_copyOf_3_24 rfl (lv_at hl_7 2 rfl) ?_
    refine va_mmin hx hb (by rw [hml]; exact hl_7.1.symm) hown (hts _ q293) (hts _ q294) (hts _ q101) (hts _ q295) (Nat.le_of_ble_eq_true rfl) (Nat.le_of_ble_eq_true rfl) (by show _ ≤ mc0; omega) (by show _ ≤ ms0; omega) dJ10_copyOf_3_25 ?_
    refine gw_copyb hx hb (by rw [hml]; exact hl_7.1.symm) hown (hts _ q296) (hts _ q298) (hts _ q297) (hts _ q103) hK hG_3 hS_4 hvc_8 (Nat.le_of_ble_eq_true rfl) (Nat.le_of_ble_eq_true rfl) dJ10_copyOf_3_28 (fun G6 H locs hvc_9 hG_10 hS_11 => ?_)
    clear hvc_8 hG_3 hS_4
    refine lv_aload_n hx hb dJ10_copyOf_3_31 rfl (lv_at hl_7 0 rfl) ?_
    exact g_aret (v := (some q3)) hx hb hr (Or.inr ⟨_, rfl⟩) hlocks (by show _ ≤ mc0; omega) (by show _ ≤ ms0; omega) hG_10 hS_11 hvc_9 dJ10_copyOf_3_32
  · replace hvc_1 := hvc_1.2 h9
    refine lv_aload_n hx hb dJ10_copyOf_3_6 rfl (lv_at hl 0 rfl) ?_
    exact False.elim hvc_1
set_option maxHeartbeats 4000000 in
set_option maxRecDepth 100000 in
theorem met_J0_ensureCapacityInternal (l : Launch) (E : g_E) (G : g_G) (o : Nat) (p1 : Int32) (mc0 ms0 : Nat) (post : g_G → Prop) (hvc : wp_J0_ensureCapacityInternal E G o p1 mc0 ms0 post) : g_MV E l yJ0_ensureCapacityInternal (ws_ yJ0_ensureCapacityInternal cJ0_ensureCapacityInternal 3 (Option.none : Option Jvm.ClassFile.FieldType)) ({ frames := 3, cells := mc0, slots := ms0, locals := 88 } : Room) (g_X E) [.ref o, .int p1] G (post) := by
  refine g_enter (by decide +kernel) (Nat.le_of_ble_eq_true rfl) ?_
  intro p e s m below meth c ls hx hb hr hts hown hlocks hml hin hz hX hK hG hS hl
  have hl : lv_has ls 3 [(0, .ref o), (1, .int p1)] := hl
  have hown : s.vm.findClass RJ0 = some m.cls := hown
  have hMC : 0 + mc0 ≤ mc0 := Nat.le_of_eq (Nat.zero_add _)
  have hMS : 0 + ms0 ≤ ms0 := Nat.le_of_eq (Nat.zero_add _)
  unfold wp_J0_ensureCapacityInternal at hvc
  refine lv_aload_n hx hb dJ0_ensureCapacityInternal_0 rfl (lv_at hl 0 rfl) ?_
  refine gw_gr (C := RJ1) (T := TJ1) (N := 4) (own := RJ0) hx hb hts in_J1 hown hK hG hvc rfl (by decide) (hts _ q155) (fun _ h9 => h9) dJ0_ensureCapacityInternal_1 (fun x1 hvc_1 => ?_)
  clear hvc
  refine gw_alen hx hb hK hG hvc_1 dJ0_ensureCapacityInternal_4 (fun x2 hvc_2 => ?_)
  clear hvc_1
  refine lv_aload_n hx hb dJ0_ensureCapacityInternal_5 rfl (lv_at hl 0 rfl) ?_
  refine gw_gi (C := RJ1) (T := TJ1) (N := 4) (own := RJ0) hx hb hts in_J1 hown hK hG hvc_2 rfl (by decide) (hts _ q156) (fun _ h9 => h9) dJ0_ensureCapacityInternal_6 (fun x3 hvc_3 => ?_)
  clear hvc_2
  refine lv_ishr hx hb dJ0_ensureCapacityInternal_9 ?_
  refine lv_istore_n (lv' := [(2, .int (x2 >>> (x3 &&& 31))), (0, .ref o), (1, .int p1)]) hx hb dJ0_ensureCapacityInternal_10 rfl hl (by decide) rfl (fun ls hl_4 => ?_)
  clear hl
  refine lv_iload_n hx hb dJ0_ensureCapacityInternal_11 rfl (lv_at hl_4 2 rfl) ?_
  refine lv_iload_n hx hb dJ0_ensureCapacityInternal_12 rfl (lv_at hl_4 0 rfl) ?_
  refine lv_isub hx hb dJ0_ensureCapacityInternal_13 ?_
  refine lv_if_le (tgt := 38) hx hb dJ0_ensureCapacityInternal_14 (by decide) (fun h9 => ?_) (fun h9 => ?_)
  · replace hvc_3 := hvc_3.1 h9
    exact g_vret hx hb hr hlocks (by show _ ≤ mc0; omega) (by show _ ≤ ms0; omega) hG hS hvc_3 dJ0_ensureCapacityInternal_38
  · replace hvc_3 := hvc_3.2 h9
    refine lv_aload_n hx hb dJ0_ensureCapacityInternal_17 rfl (lv_at hl_4 1 rfl) ?_
    refine lv_aload_n hx hb dJ0_ensureCapacityInternal_18 rfl (lv_at hl_4 1 rfl) ?_
    refine gw_gr (C := RJ1) (T := TJ1) (N := 4) (own := RJ0) hx hb hts in_J1 hown hK hG hvc_3 rfl (by decide) (hts _ q155) (fun _ h9 => h9) dJ0_ensureCapacityInternal_19 (fun x4 hvc_5 => ?_)
    clear hvc_3
    refine lv_aload_n hx hb dJ0_ensureCapacityInternal_22 rfl (lv_at hl_4 1 rfl) ?_
    refine lv_iload_n hx hb dJ0_ensureCapacityInternal_23 rfl (lv_at hl_4 2 rfl) ?_
    obtain ⟨c7, t8, hc1, hs1, hvc_5⟩ := hvc_5
    refine gw_cIIA (As := [.int p1]) (rest := [.ref x4, .ref o])  ⟨hx, hb, hml, hown, hts⟩ (met_J0_newCapacity l E G o p1 c7 t8 _ hvc_5.2) (g_cwP (C := "java/lang/StringBuilder") 1 hts q477 q2277 (g_selp (z := ⟨"java/lang/AbstractStringBuilder", "isLatin1", "()Z"⟩) (by decide +kernel) rfl (hts _ q496) (va_Nw.use rfl (hX.1 _ q478 rfl)) (hts _ q479)) q479 q91 (lw_meth q480) rfl rfl rfl (by decide +kernel) ⟨Nat.le_of_ble_eq_true rfl, Nat.le_of_ble_eq_true rfl⟩) (gw_rc (q := (RJ1, TJ1, 4)) hK hG hvc_5.1 rfl) hc1 hs1 hMC hMS (Nat.le_refl _) (Nat.le_refl _) (g_St0 E) hz trivial hK hG hS rfl hl_4.1 rfl (Nat.le_of_ble_eq_true rfl) dJ0_ensureCapacityInternal_24 (fun x5 G6 H locs ce sl hvc_6 hG_7 hS_8 hMC_9 hMS_10 => ?_)
    clear hvc_5 hG hS hMC hMS
    refine lv_aload_n hx hb dJ0_ensureCapacityInternal_27 rfl (lv_at hl_4 1 rfl) ?_
    refine gw_gi (C := RJ1) (T := TJ1) (N := 4) (own := RJ0) hx hb hts in_J1 hown hK hG_7 hvc_6 rfl (by decide) (hts _ q156) (fun _ h9 => h9) dJ0_ensureCapacityInternal_28 (fun x9 hvc_11 => ?_)
    clear hvc_6
    refine lv_ishl hx hb dJ0_ensureCapacityInternal_31 ?_
    obtain ⟨c12, t13, hc1, hs1, hvc_11⟩ := hvc_11
    refine gw_cSQA (As := [.ref x4, .int (x5 <<< (x9 &&& 31))]) (rest := [.ref o])  ⟨hx, hb, hml, hown, hts⟩ (met_J10_copyOf_3 l E G6 x4 (x5 <<< (x9 &&& 31)) c12 t13 _ hvc_11) (va_cwS 2 hts (lw_S q483 q484 q102 q485) rfl rfl rfl (by decide +kernel) ⟨Nat.le_of_ble_eq_true rfl, Nat.le_of_ble_eq_true rfl⟩) hc1 hs1 hMC_9 hMS_10 (Nat.le_refl _) (Nat.le_refl _) (g_X.st E) hz hX hK hG_7 hS_8 rfl hl_4.1 rfl (Nat.le_of_ble_eq_true rfl) dJ0_ensureCapacityInternal_32 (fun x10 G11 H locs ce sl hvc_12 hG_13 hS_14 hMC_15 hMS_16 => ?_)
    clear hvc_11 hG_7 hS_8 hMC_9 hMS_10
    obtain ⟨z14, rfl, hvc_12⟩ := hvc_12
    refine gw_put (ty := .array .byte) (C := RJ1) (T := TJ1) (N := 4) (own := RJ0) hx hb hts in_J1 tyJ1 tyJ1_ok nmJ1 hown hK hG_13 hS_14 hvc_12 rfl (by decide) (hts _ q155) (fun _ h9 => h9) rfl (by decide +kernel) rfl rfl dJ0_ensureCapacityInternal_35 (fun G15 H locs hvc_17 hG_18 hS_19 => ?_)
    clear hvc_12 hG_13 hS_14
    exact g_vret hx hb hr hlocks (by show _ ≤ mc0; omega) (by show _ ≤ ms0; omega) hG_18 hS_19 hvc_17 dJ0_ensureCapacityInternal_38
set_option maxHeartbeats 4000000 in
set_option maxRecDepth 100000 in
theorem met_J0_isLatin1 (l : Launch) (E : g_E) (G : g_G) (o : Nat) (post : Int32 → Prop) (hvc : wp_J0_isLatin1 E G o post) : g_MI E l yJ0_isLatin1 (ws_ yJ0_isLatin1 cJ0_isLatin1 1 (Option.some Jvm.ClassFile.FieldType.boolean)) ({ frames := 0, cells := 0, slots := 0, locals := 0 } : Room) (g_X E) [.ref o] G (fun v G9 => G9 = G ∧ post v) := by
  refine g_enter (by decide +kernel) (Nat.le_of_ble_eq_true rfl) ?_
  intro p e s m below meth c ls hx hb hr hts hown hlocks hml hin hz hX hK hG hS hl
  have hl : lv_has ls 1 [(0, .ref o)] := hl
  have hown : s.vm.findClass RJ0 = some m.cls := hown
  unfold wp_J0_isLatin1 at hvc
  refine va_gets (A := g_A E) hx hb hX.cs hS hown (hts _ q146) (fun _ h9 => h9) dJ0_isLatin1_0 ?_
  refine lv_if_eq (tgt := 17) hx hb dJ0_isLatin1_3 (by decide) (fun h9 => ?_) (fun h9 => ?_)
  · replace hvc := hvc.1 h9
    refine lv_iconst (v := nI 0) hx hb dJ0_isLatin1_17 (by decide) ?_
    exact g_iret hx hb hr hlocks (Nat.zero_le _) (Nat.zero_le _) hG hS rfl ⟨rfl, hvc⟩ dJ0_isLatin1_18
  · replace hvc := hvc.2 h9
    refine lv_aload_n hx hb dJ0_isLatin1_6 rfl (lv_at hl 0 rfl) ?_
    refine gw_gi (C := RJ1) (T := TJ1) (N := 4) (own := RJ0) hx hb hts in_J1 hown hK hG hvc rfl (by decide) (hts _ q156) (fun _ h9 => h9) dJ0_isLatin1_7 (fun x1 hvc_1 => ?_)
    clear hvc
    refine lv_if_ne (tgt := 17) hx hb dJ0_isLatin1_10 (by decide) (fun h9 => ?_) (fun h9 => ?_)
    · replace hvc_1 := hvc_1.1 h9
      refine lv_iconst (v := nI 0) hx hb dJ0_isLatin1_17 (by decide) ?_
      exact g_iret hx hb hr hlocks (Nat.zero_le _) (Nat.zero_le _) hG hS rfl ⟨rfl, hvc_1⟩ dJ0_isLatin1_18
    · replace hvc_1 := hvc_1.2 h9
      refine lv_iconst (v := nI 1) hx hb dJ0_isLatin1_13 (by decide) ?_
      refine lv_goto (tgt := 18) hx hb dJ0_isLatin1_14 (by decide) ?_
      exact g_iret hx hb hr hlocks (Nat.zero_le _) (Nat.zero_le _) hG hS rfl ⟨rfl, hvc_1⟩ dJ0_isLatin1_18
set_option maxHeartbeats 4000000 in
set_option maxRecDepth 100000 in
theorem met_J0_setLength (l : Launch) (E : g_E) (G : g_G) (o : Nat) (p1 : Int32) (mc0 ms0 : Nat) (post : g_G → Prop) (hvc : wp_J0_setLength E G o p1 mc0 ms0 post) : g_MV E l yJ0_setLength (ws_ yJ0_setLength cJ0_setLength 2 (Option.none : Option Jvm.ClassFile.FieldType)) ({ frames := 21, cells := mc0, slots := ms0, locals := 469 } : Room) (g_X E) [.ref o, .int p1] G (post) := by
  refine g_enter (by decide +kernel) (Nat.le_of_ble_eq_true rfl) ?_
  intro p e s m below meth c ls hx hb hr hts hown hlocks hml hin hz hX hK hG hS hl
  have hl : lv_has ls 2 [(0, .ref o), (1, .int p1)] := hl
  have hown : s.vm.findClass RJ0 = some m.cls := hown
  have hMC : 0 + mc0 ≤ mc0 := Nat.le_of_eq (Nat.zero_add _)
  have hMS : 0 + ms0 ≤ ms0 := Nat.le_of_eq (Nat.zero_add _)
  unfold wp_J0_setLength at hvc
  refine lv_iload_n hx hb dJ0_setLength_0 rfl (lv_at hl 1 rfl) ?_
  refine lv_if_ge (tgt := 13) hx hb dJ0_setLength_1 (by decide) (fun h9 => ?_) (fun h9 => ?_)
  · replace hvc := hvc.1 h9
    refine lv_aload_n hx hb dJ0_setLength_13 rfl (lv_at hl 0 rfl) ?_
    refine lv_iload_n hx hb dJ0_setLength_14 rfl (lv_at hl 1 rfl) ?_
    obtain ⟨c3, t4, hc1, hs1, hvc⟩ := hvc
    refine gw_cIVA (As := [.int p1]) (rest := [])  ⟨hx, hb, hml, hown, hts⟩ (met_J0_ensureCapacityInternal l E G o p1 c3 t4 _ hvc.2) (g_cwP (C := "java/lang/StringBuilder") 1 hts q473 q2276 (g_selp (z := ⟨"java/lang/AbstractStringBuilder", "isLatin1", "()Z"⟩) (by decide +kernel) rfl (hts _ q496) (va_Nw.use rfl (hX.1 _ q474 rfl)) (hts _ q475)) q475 q91 (lw_meth q476) rfl rfl rfl (by decide +kernel) ⟨Nat.le_of_ble_eq_true rfl, Nat.le_of_ble_eq_true rfl⟩) (gw_rc (q := (RJ1, TJ1, 4)) hK hG hvc.1 rfl) hc1 hs1 hMC hMS (Nat.le_refl _) (Nat.le_refl _) (g_X.st E) hz hX hK hG hS rfl hl.1 rfl (Nat.le_of_ble_eq_true rfl) dJ0_setLength_15 (fun G2 H locs ce sl hvc_1 hG_2 hS_3 hMC_4 hMS_5 => ?_)
    clear hvc hG hS hMC hMS
    refine lv_aload_n hx hb dJ0_setLength_18 rfl (lv_at hl 0 rfl) ?_
    refine gw_gi (C := RJ1) (T := TJ1) (N := 4) (own := RJ0) hx hb hts in_J1 hown hK hG_2 hvc_1 rfl (by decide) (hts _ q159) (fun _ h9 => h9) dJ0_setLength_19 (fun x5 hvc_6 => ?_)
    clear hvc_1
    refine lv_iload_n hx hb dJ0_setLength_22 rfl (lv_at hl 1 rfl) ?_
    have jn76 : ∀ (y0 : Nat) (y1 : Int32) (G : g_G) (mc : Nat) (ms : Nat) (H : Heap) (locs : List Loc) (ls : Array Slot) (ce sl : Nat), wp_J0_setLength_76 E post y0 y1 G mc ms → g_H E G H → va_S (g_A E) s.heap H locs → lv_has ls 2 [(0, .ref y0), (1, .int y1)] → ce + mc ≤ mc0 → sl + ms ≤ ms0 → W p l e ({ frames := 21, cells := mc0, slots := ms0, locals := 469 } : Room) s m ([.ref o, .int p1] : List Value).toArray below meth c H locs ce sl (MQ below (va_Qv (post) (g_Bk E) (g_A E)) ([.ref o, .int p1] : List Value).toArray s mc0 ms0 (g_A E)) (F0 m 76 ls []) := by
      clear hvc_6 hG_2 hS_3 hl hMC_4 hMS_5
      intro y0 y1 G mc ms H locs ls ce sl hvc_7 hG_8 hS_9 hl_10 hMC_11 hMS_12
      refine lv_aload_n hx hb dJ0_setLength_76 rfl (lv_at hl_10 0 rfl) ?_
      refine lv_iload_n hx hb dJ0_setLength_77 rfl (lv_at hl_10 1 rfl) ?_
      refine gw_put (ty := .int) (C := RJ1) (T := TJ1) (N := 4) (own := RJ0) hx hb hts in_J1 tyJ1 tyJ1_ok nmJ1 hown hK hG_8 hS_9 hvc_7 rfl (by decide) (hts _ q159) (fun _ h9 => h9) rfl (by decide +kernel) rfl rfl dJ0_setLength_78 (fun G6 H locs hvc_13 hG_14 hS_15 => ?_)
      clear hvc_7 hG_8 hS_9
      exact g_vret hx hb hr hlocks (by show _ ≤ mc0; omega) (by show _ ≤ ms0; omega) hG_14 hS_15 hvc_13 dJ0_setLength_81
    refine lv_icmp_ge (tgt := 63) hx hb dJ0_setLength_23 (by decide) (fun h9 => ?_) (fun h9 => ?_)
    · replace hvc_6 := hvc_6.1 h9
      refine lv_aload_n hx hb dJ0_setLength_63 rfl (lv_at hl 0 rfl) ?_
      refine gw_gi (C := RJ1) (T := TJ1) (N := 4) (own := RJ0) hx hb hts in_J1 hown hK hG_2 hvc_6 rfl (by decide) (hts _ q159) (fun _ h9 => h9) dJ0_setLength_64 (fun x7 hvc_16 => ?_)
      clear hvc_6
      refine lv_iload_n hx hb dJ0_setLength_67 rfl (lv_at hl 1 rfl) ?_
      refine lv_icmp_le (tgt := 76) hx hb dJ0_setLength_68 (by decide) (fun h9 => ?_) (fun h9 => ?_)
      · replace hvc_16 := hvc_16.1 h9
        exact jn76 o p1 G2 (mc0 - c3) (ms0 - t4) _ _ _ _ _ hvc_16 hG_2 hS_3 (lv_sub hl [0, 1] rfl) hMC_4 hMS_5
      · replace hvc_16 := hvc_16.2 h9
        refine lv_aload_n hx hb dJ0_setLength_71 rfl (lv_at hl 0 rfl) ?_
        refine lv_iconst (v := nI 1) hx hb dJ0_setLength_72 (by decide) ?_
        refine gw_put (ty := .boolean) (C := RJ1) (T := TJ1) (N := 4) (own := RJ0) hx hb hts in_J1 tyJ1 tyJ1_ok nmJ1 hown hK hG_2 hS_3 hvc_16 rfl (by decide) (hts _ q157) (fun _ h9 => h9) rfl (by decide +kernel) rfl rfl dJ0_setLength_73 (fun G8 H locs hvc_17 hG_18 hS_19 => ?_)
        clear hvc_16 hG_2 hS_3
        exact jn76 o p1 G8 (mc0 - c3) (ms0 - t4) _ _ _ _ _ hvc_17 hG_18 hS_19 (lv_sub hl [0, 1] rfl) hMC_4 hMS_5
    · replace hvc_6 := hvc_6.2 h9
      refine lv_aload_n hx hb dJ0_setLength_26 rfl (lv_at hl 0 rfl) ?_
      refine gw_cIIP (As := []) (rest := [])  ⟨hx, hb, hml, hown, hts⟩ (met_J0_isLatin1 l E G2 o _ hvc_6.2) (va_cwU (C := "java/lang/StringBuilder") 0 hts (lw_U q493 q495 q496 q494 q91 q497) rfl rfl rfl rfl (by decide +kernel) ⟨Nat.le_of_ble_eq_true rfl, Nat.le_of_ble_eq_true rfl⟩) (gw_rc (q := (RJ1, TJ1, 4)) hK hG_2 hvc_6.1 rfl) (by show _ ≤ mc0; omega) (by show _ ≤ ms0; omega) (g_X.st E) hz hX hK hG_2 hS_3 rfl hl.1 rfl (Nat.le_of_ble_eq_true rfl) dJ0_setLength_27 (fun x9 H locs hvc_20 hG_21 hS_22 => ?_)
      clear hvc_6 hG_2 hS_3
      refine lv_if_eq (tgt := 48) hx hb dJ0_setLength_30 (by decide) (fun h9 => ?_) (fun h9 => ?_)
      · replace hvc_20 := hvc_20.1 h9
        refine lv_aload_n hx hb dJ0_setLength_48 rfl (lv_at hl 0 rfl) ?_
        refine gw_gr (C := RJ1) (T := TJ1) (N := 4) (own := RJ0) hx hb hts in_J1 hown hK hG_21 hvc_20 rfl (by decide) (hts _ q155) (fun _ h9 => h9) dJ0_setLength_49 (fun x11 hvc_23 => ?_)
        clear hvc_20
        refine lv_aload_n hx hb dJ0_setLength_52 rfl (lv_at hl 0 rfl) ?_
        refine gw_gi (C := RJ1) (T := TJ1) (N := 4) (own := RJ0) hx hb hts in_J1 hown hK hG_21 hvc_23 rfl (by decide) (hts _ q159) (fun _ h9 => h9) dJ0_setLength_53 (fun x12 hvc_24 => ?_)
        clear hvc_23
        refine lv_iload_n hx hb dJ0_setLength_56 rfl (lv_at hl 1 rfl) ?_
        exact False.elim hvc_24
      · replace hvc_20 := hvc_20.2 h9
        refine lv_aload_n hx hb dJ0_setLength_33 rfl (lv_at hl 0 rfl) ?_
        refine gw_gr (C := RJ1) (T := TJ1) (N := 4) (own := RJ0) hx hb hts in_J1 hown hK hG_21 hvc_20 rfl (by decide) (hts _ q155) (fun _ h9 => h9) dJ0_setLength_34 (fun x13 hvc_25 => ?_)
        clear hvc_20
        refine lv_aload_n hx hb dJ0_setLength_37 rfl (lv_at hl 0 rfl) ?_
        refine gw_gi (C := RJ1) (T := TJ1) (N := 4) (own := RJ0) hx hb hts in_J1 hown hK hG_21 hvc_25 rfl (by decide) (hts _ q159) (fun _ h9 => h9) dJ0_setLength_38 (fun x14 hvc_26 => ?_)
        clear hvc_25
        refine lv_iload_n hx hb dJ0_setLength_41 rfl (lv_at hl 1 rfl) ?_
        exact False.elim hvc_26
  · replace hvc := hvc.2 h9
    exact False.elim hvc
set_option maxHeartbeats 4000000 in
set_option maxRecDepth 100000 in
theorem met_J1_setLength (l : Launch) (E : g_E) (G : g_G) (o : Nat) (p1 : Int32) (mc0 ms0 : Nat) (post : g_G → Prop) (hvc : wp_J1_setLength E G o p1 mc0 ms0 post) : g_MV E l yJ1_setLength (ws_ yJ1_setLength cJ1_setLength 2 (Option.none : Option Jvm.ClassFile.FieldType)) ({ frames := 22, cells := mc0, slots := ms0, locals := 490 } : Room) (g_X E) [.ref o, .int p1] G (post) := by
  refine g_enter (by decide +kernel) (Nat.le_of_ble_eq_true rfl) ?_
  intro p e s m below meth c ls hx hb hr hts hown hlocks hml hin hz hX hK hG hS hl
  have hl : lv_has ls 2 [(0, .ref o), (1, .int p1)] := hl
  have hown : s.vm.findClass RJ1 = some m.cls := hown
  have hMC : 0 + mc0 ≤ mc0 := Nat.le_of_eq (Nat.zero_add _)
  have hMS : 0 + ms0 ≤ ms0 := Nat.le_of_eq (Nat.zero_add _)
  unfold wp_J1_setLength at hvc
  refine lv_aload_n hx hb dJ1_setLength_0 rfl (lv_at hl 0 rfl) ?_
  refine lv_iload_n hx hb dJ1_setLength_1 rfl (lv_at hl 1 rfl) ?_
  obtain ⟨c3, t4, hc1, hs1, hvc⟩ := hvc
  refine gw_cUVA (As := [.int p1]) (rest := []) (C := "java/lang/StringBuilder") (hK.1 12 _ rfl).2  ⟨hx, hb, hml, hown, hts⟩ (met_J0_setLength l E G o p1 c3 t4 _ hvc.2) (va_cwSU 1 hts (lw_SU q1033 q2284 q168 q1034 q91 q1035) rfl rfl rfl (by decide +kernel) ⟨Nat.le_of_ble_eq_true rfl, Nat.le_of_ble_eq_true rfl⟩) (gw_rc (q := (RJ1, TJ1, 4)) hK hG hvc.1 rfl) hc1 hs1 hMC hMS (Nat.le_refl _) (Nat.le_refl _) (g_X.st E) hz hX hK hG hS rfl hl.1 rfl (Nat.le_of_ble_eq_true rfl) dJ1_setLength_2 (fun G2 H locs ce sl hvc_1 hG_2 hS_3 hMC_4 hMS_5 => ?_)
  clear hvc hG hS hMC hMS
  exact g_vret hx hb hr hlocks (by show _ ≤ mc0; omega) (by show _ ≤ ms0; omega) hG_2 hS_3 hvc_1 dJ1_setLength_5
set_option maxHeartbeats 4000000 in
set_option maxRecDepth 100000 in
theorem met_J2_checkIndex (l : Launch) (E : g_E) (G : g_G) (p1 : Int32) (p2 : Int32) (post : Prop) (hvc : wp_J2_checkIndex E G p1 p2 post) : g_MV E l yJ2_checkIndex (ws_ yJ2_checkIndex cJ2_checkIndex 2 (Option.none : Option Jvm.ClassFile.FieldType)) ({ frames := 1, cells := 0, slots := 0, locals := 22 } : Room) (g_X E) [.int p1, .int p2] G (fun G9 => G9 = G ∧ post) := by
  refine g_enter (by decide +kernel) (Nat.le_of_ble_eq_true rfl) ?_
  intro p e s m below meth c ls hx hb hr hts hown hlocks hml hin hz hX hK hG hS hl
  have hl : lv_has ls 2 [(0, .int p1), (1, .int p2)] := hl
  have hown : s.vm.findClass RJ2 = some m.cls := hown
  unfold wp_J2_checkIndex at hvc
  refine lv_iload_n hx hb dJ2_checkIndex_0 rfl (lv_at hl 0 rfl) ?_
  refine lv_iload_n hx hb dJ2_checkIndex_1 rfl (lv_at hl 1 rfl) ?_
  refine gw_zq hx hb hX.sf hS hown (hts _ q517) dJ2_checkIndex_2 (fun x1 => ?_)
  replace hvc := hvc x1
  refine gw_cSIP (As := [.int p1, .int p2, va_rf x1]) (rest := [])  ⟨hx, hb, hml, hown, hts⟩ (met_J19_checkIndex l E G p1 p2 x1 _ hvc) (va_cwS 3 hts (lw_S q1153 q821 q114 q822) rfl rfl rfl (by decide +kernel) ⟨Nat.le_of_ble_eq_true rfl, Nat.le_of_ble_eq_true rfl⟩) (Nat.zero_le _) (Nat.zero_le _) (g_St0 E) hz trivial hK hG hS rfl hl.1 rfl (Nat.le_of_ble_eq_true rfl) dJ2_checkIndex_5 (fun x2 H locs hvc_1 hG_2 hS_3 => ?_)
  clear hvc hG hS
  refine lv_pop hx hb dJ2_checkIndex_8 rfl ?_
  exact g_vret hx hb hr hlocks (Nat.zero_le _) (Nat.zero_le _) hG_2 hS_3 ⟨rfl, hvc_1⟩ dJ2_checkIndex_9
set_option maxHeartbeats 4000000 in
set_option maxRecDepth 100000 in
theorem met_J0_charAt (l : Launch) (E : g_E) (G : g_G) (o : Nat) (p1 : Int32) (mc0 ms0 : Nat) (post : Int32 → g_G → Prop) (hvc : wp_J0_charAt E G o p1 mc0 ms0 post) : g_MI E l yJ0_charAt (ws_ yJ0_charAt cJ0_charAt 5 (Option.some Jvm.ClassFile.FieldType.char)) ({ frames := 2, cells := mc0, slots := ms0, locals := 43 } : Room) (g_X E) [.ref o, .int p1] G (post) := by
  refine g_enter (by decide +kernel) (Nat.le_of_ble_eq_true rfl) ?_
  intro p e s m below meth c ls hx hb hr hts hown hlocks hml hin hz hX hK hG hS hl
  have hl : lv_has ls 5 [(0, .ref o), (1, .int p1)] := hl
  have hown : s.vm.findClass RJ0 = some m.cls := hown
  have hMC : 0 + mc0 ≤ mc0 := Nat.le_of_eq (Nat.zero_add _)
  have hMS : 0 + ms0 ≤ ms0 := Nat.le_of_eq (Nat.zero_add _)
  unfold wp_J0_charAt at hvc
  refine lv_aload_n hx hb dJ0_charAt_0 rfl (lv_at hl 0 rfl) ?_
  refine gw_gi (C := RJ1) (T := TJ1) (N := 4) (own := RJ0) hx hb hts in_J1 hown hK hG hvc rfl (by decide) (hts _ q156) (fun _ h9 => h9) dJ0_charAt_1 (fun x1 hvc_1 => ?_)
  clear hvc
  refine lv_istore_n (lv' := [(2, .int x1), (0, .ref o), (1, .int p1)]) hx hb dJ0_charAt_4 rfl hl (by decide) rfl (fun ls hl_2 => ?_)
  clear hl
  refine lv_aload_n hx hb dJ0_charAt_5 rfl (lv_at hl_2 1 rfl) ?_
  refine gw_gr (C := RJ1) (T := TJ1) (N := 4) (own := RJ0) hx hb hts in_J1 hown hK hG hvc_1 rfl (by decide) (hts _ q155) (fun _ h9 => h9) dJ0_charAt_6 (fun x2 hvc_3 => ?_)
  clear hvc_1
  refine lv_astore_n (lv' := [(3, .ref x2), (2, .int x1), (0, .ref o), (1, .int p1)]) hx hb dJ0_charAt_9 rfl hl_2 (by decide) rfl (fun ls hl_4 => ?_)
  clear hl_2
  refine lv_aload_n hx hb dJ0_charAt_10 rfl (lv_at hl_4 2 rfl) ?_
  refine gw_gi (C := RJ1) (T := TJ1) (N := 4) (own := RJ0) hx hb hts in_J1 hown hK hG hvc_3 rfl (by decide) (hts _ q159) (fun _ h9 => h9) dJ0_charAt_11 (fun x3 hvc_5 => ?_)
  clear hvc_3
  refine lv_aload_n hx hb dJ0_charAt_14 rfl (lv_at hl_4 0 rfl) ?_
  refine gw_alen hx hb hK hG hvc_5 dJ0_charAt_15 (fun x4 hvc_6 => ?_)
  clear hvc_5
  refine lv_iload_n hx hb dJ0_charAt_16 rfl (lv_at hl_4 1 rfl) ?_
  refine lv_ishr hx hb dJ0_charAt_17 ?_
  refine va_mmin hx hb (by rw [hml]; exact hl_4.1.symm) hown (hts _ q1149) (hts _ q294) (hts _ q101) (hts _ q295) (Nat.le_of_ble_eq_true rfl) (Nat.le_of_ble_eq_true rfl) (by show _ ≤ mc0; omega) (by show _ ≤ ms0; omega) dJ0_charAt_18 ?_
  refine lv_istore (lv' := [(4, .int (if (x4 >>> (x1 &&& 31)) < x3 then (x4 >>> (x1 &&& 31)) else x3)), (3, .ref x2), (2, .int x1), (0, .ref o), (1, .int p1)]) hx hb dJ0_charAt_21 hl_4 (by decide) rfl (fun ls hl_7 => ?_)
  clear hl_4
  refine lv_iload_n hx hb dJ0_charAt_23 rfl (lv_at hl_7 4 rfl) ?_
  refine lv_iload hx hb dJ0_charAt_24 (lv_at hl_7 0 rfl) ?_
  refine gw_cSVP (As := [.int p1, .int (if (x4 >>> (x1 &&& 31)) < x3 then (x4 >>> (x1 &&& 31)) else x3)]) (rest := [])  ⟨hx, hb, hml, hown, hts⟩ (met_J2_checkIndex l E G p1 (if (x4 >>> (x1 &&& 31)) < x3 then (x4 >>> (x1 &&& 31)) else x3) _ hvc_6) (va_cwS 2 hts (lw_S q1150 q1151 q93 q1152) rfl rfl rfl (by decide +kernel) ⟨Nat.le_of_ble_eq_true rfl, Nat.le_of_ble_eq_true rfl⟩) (by show _ ≤ mc0; omega) (by show _ ≤ ms0; omega) (g_X.st E) hz hX hK hG hS rfl hl_7.1 rfl (Nat.le_of_ble_eq_true rfl) dJ0_charAt_26 (fun H locs hvc_8 hG_9 hS_10 => ?_)
  clear hvc_6 hG hS
  refine lv_iload_n hx hb dJ0_charAt_29 rfl (lv_at hl_7 2 rfl) ?_
  refine lv_if_ne (tgt := 42) hx hb dJ0_charAt_30 (by decide) (fun h9 => ?_) (fun h9 => ?_)
  · replace hvc_8 := hvc_8.1 h9
    refine lv_aload_n hx hb dJ0_charAt_42 rfl (lv_at hl_7 1 rfl) ?_
    refine lv_iload_n hx hb dJ0_charAt_43 rfl (lv_at hl_7 4 rfl) ?_
    exact False.elim hvc_8
  · replace hvc_8 := hvc_8.2 h9
    refine lv_aload_n hx hb dJ0_charAt_33 rfl (lv_at hl_7 1 rfl) ?_
    refine lv_iload_n hx hb dJ0_charAt_34 rfl (lv_at hl_7 4 rfl) ?_
    refine gw_bld hx hb hK hG_9 hvc_8 dJ0_charAt_35 (fun x7 hvc_11 => ?_)
    clear hvc_8
    refine lv_sipush (v := nI 255) hx hb dJ0_charAt_36 (by decide) ?_
    refine lv_iand hx hb dJ0_charAt_39 ?_
    refine lv_i2c (v := ((x7 &&& (nI 255)).toUInt32 % 65536).toInt32) hx hb dJ0_charAt_40 rfl ?_
    exact g_iret hx hb hr hlocks (by show _ ≤ mc0; omega) (by show _ ≤ ms0; omega) hG_9 hS_10 hvc_11.1 hvc_11.2 dJ0_charAt_41
set_option maxHeartbeats 4000000 in
set_option maxRecDepth 100000 in
theorem met_J1_charAt (l : Launch) (E : g_E) (G : g_G) (o : Nat) (p1 : Int32) (mc0 ms0 : Nat) (post : Int32 → g_G → Prop) (hvc : wp_J1_charAt E G o p1 mc0 ms0 post) : g_MI E l yJ1_charAt (ws_ yJ1_charAt cJ1_charAt 2 (Option.some Jvm.ClassFile.FieldType.char)) ({ frames := 3, cells := mc0, slots := ms0, locals := 67 } : Room) (g_X E) [.ref o, .int p1] G (post) := by
  refine g_enter (by decide +kernel) (Nat.le_of_ble_eq_true rfl) ?_
  intro p e s m below meth c ls hx hb hr hts hown hlocks hml hin hz hX hK hG hS hl
  have hl : lv_has ls 2 [(0, .ref o), (1, .int p1)] := hl
  have hown : s.vm.findClass RJ1 = some m.cls := hown
  have hMC : 0 + mc0 ≤ mc0 := Nat.le_of_eq (Nat.zero_add _)
  have hMS : 0 + ms0 ≤ ms0 := Nat.le_of_eq (Nat.zero_add _)
  unfold wp_J1_charAt at hvc
  refine lv_aload_n hx hb dJ1_charAt_0 rfl (lv_at hl 0 rfl) ?_
  refine lv_iload_n hx hb dJ1_charAt_1 rfl (lv_at hl 1 rfl) ?_
  obtain ⟨c3, t4, hc1, hs1, hvc⟩ := hvc
  refine gw_cUIA (As := [.int p1]) (rest := []) (C := "java/lang/StringBuilder") (hK.1 12 _ rfl).2  ⟨hx, hb, hml, hown, hts⟩ (met_J0_charAt l E G o p1 c3 t4 _ hvc.2) (va_cwSU 1 hts (lw_SU q1146 q2285 q168 q1147 q91 q1148) rfl rfl rfl (by decide +kernel) ⟨Nat.le_of_ble_eq_true rfl, Nat.le_of_ble_eq_true rfl⟩) (gw_rc (q := (RJ1, TJ1, 4)) hK hG hvc.1 rfl) hc1 hs1 hMC hMS (Nat.le_refl _) (Nat.le_refl _) (g_X.st E) hz hX hK hG hS rfl hl.1 rfl (Nat.le_of_ble_eq_true rfl) dJ1_charAt_2 (fun x1 G2 H locs ce sl hvc_1 hG_2 hS_3 hMC_4 hMS_5 => ?_)
  clear hvc hG hS hMC hMS
  exact g_iret hx hb hr hlocks (by show _ ≤ mc0; omega) (by show _ ≤ ms0; omega) hG_2 hS_3 hvc_1.1 hvc_1.2 dJ1_charAt_5
set_option maxHeartbeats 4000000 in
set_option maxRecDepth 100000 in
theorem met_J20_canEncode (l : Launch) (E : g_E) (G : g_G) (p1 : Int32) (post : Int32 → Prop) (hvc : wp_J20_canEncode E G p1 post) : g_MI E l yJ20_canEncode (ws_ yJ20_canEncode cJ20_canEncode 1 (Option.some Jvm.ClassFile.FieldType.boolean)) ({ frames := 0, cells := 0, slots := 0, locals := 0 } : Room) (fun _ => True) [.int p1] G (fun v G9 => G9 = G ∧ post v) := by
  refine g_enter (by decide +kernel) (Nat.le_of_ble_eq_true rfl) ?_
  intro p e s m below meth c ls hx hb hr hts hown hlocks hml hin hz hX hK hG hS hl
  have hl : lv_has ls 1 [(0, .int p1)] := hl
  have hown : s.vm.findClass RJ20 = some m.cls := hown
  unfold wp_J20_canEncode at hvc
  refine lv_iload_n hx hb dJ20_canEncode_0 rfl (lv_at hl 0 rfl) ?_
  refine lv_sipush (v := nI 255) hx hb dJ20_canEncode_1 (by decide) ?_
  refine lv_icmp_gt (tgt := 11) hx hb dJ20_canEncode_4 (by decide) (fun h9 => ?_) (fun h9 => ?_)
  · replace hvc := hvc.1 h9
    refine lv_iconst (v := nI 0) hx hb dJ20_canEncode_11 (by decide) ?_
    exact g_iret hx hb hr hlocks (Nat.zero_le _) (Nat.zero_le _) hG hS rfl ⟨rfl, hvc⟩ dJ20_canEncode_12
  · replace hvc := hvc.2 h9
    refine lv_iconst (v := nI 1) hx hb dJ20_canEncode_7 (by decide) ?_
    refine lv_goto (tgt := 12) hx hb dJ20_canEncode_8 (by decide) ?_
    exact g_iret hx hb hr hlocks (Nat.zero_le _) (Nat.zero_le _) hG hS rfl ⟨rfl, hvc⟩ dJ20_canEncode_12
set_option maxHeartbeats 4000000 in
set_option maxRecDepth 100000 in
theorem met_J0_append_3 (l : Launch) (E : g_E) (G : g_G) (o : Nat) (p1 : Int32) (mc0 ms0 : Nat) (post : Option Nat → g_G → Prop) (hvc : wp_J0_append_3 E G o p1 mc0 ms0 post) : g_MQ E l yJ0_append_3 (ws_ yJ0_append_3 cJ0_append_3 2 (Option.some (Jvm.ClassFile.FieldType.object "java/lang/AbstractStringBuilder"))) ({ frames := 6, cells := mc0, slots := ms0, locals := 137 } : Room) (g_X E) [.ref o, .int p1] G (post) := by
  refine g_enter (by decide +kernel) (Nat.le_of_ble_eq_true rfl) ?_
  intro p e s m below meth c ls hx hb hr hts hown hlocks hml hin hz hX hK hG hS hl
  have hl : lv_has ls 2 [(0, .ref o), (1, .int p1)] := hl
  have hown : s.vm.findClass RJ0 = some m.cls := hown
  have hMC : 0 + mc0 ≤ mc0 := Nat.le_of_eq (Nat.zero_add _)
  have hMS : 0 + ms0 ≤ ms0 := Nat.le_of_eq (Nat.zero_add _)
  unfold wp_J0_append_3 at hvc
  refine lv_aload_n hx hb dJ0_append_3_0 rfl (lv_at hl 0 rfl) ?_
  refine lv_aload_n hx hb dJ0_append_3_1 rfl (lv_at hl 0 rfl) ?_
  refine gw_gi (C := RJ1) (T := TJ1) (N := 4) (own := RJ0) hx hb hts in_J1 hown hK hG hvc rfl (by decide) (hts _ q159) (fun _ h9 => h9) dJ0_append_3_2 (fun x1 hvc_1 => ?_)
  clear hvc
  refine lv_iconst (v := nI 1) hx hb dJ0_append_3_5 (by decide) ?_
  refine lv_iadd hx hb dJ0_append_3_6 ?_
  obtain ⟨c4, t5, hc1, hs1, hvc_1⟩ := hvc_1
  refine gw_cIVA (As := [.int (x1 + (nI 1))]) (rest := [])  ⟨hx, hb, hml, hown, hts⟩ (met_J0_ensureCapacityInternal l E G o (x1 + (nI 1)) c4 t5 _ hvc_1.2) (g_cwP (C := "java/lang/StringBuilder") 1 hts q473 q2276 (g_selp (z := ⟨"java/lang/AbstractStringBuilder", "isLatin1", "()Z"⟩) (by decide +kernel) rfl (hts _ q496) (va_Nw.use rfl (hX.1 _ q474 rfl)) (hts _ q475)) q475 q91 (lw_meth q476) rfl rfl rfl (by decide +kernel) ⟨Nat.le_of_ble_eq_true rfl, Nat.le_of_ble_eq_true rfl⟩) (gw_rc (q := (RJ1, TJ1, 4)) hK hG hvc_1.1 rfl) hc1 hs1 hMC hMS (Nat.le_refl _) (Nat.le_refl _) (g_X.st E) hz hX hK hG hS rfl hl.1 rfl (Nat.le_of_ble_eq_true rfl) dJ0_append_3_7 (fun G3 H locs ce sl hvc_2 hG_3 hS_4 hMC_5 hMS_6 => ?_)
  clear hvc_1 hG hS hMC hMS
  refine lv_aload_n hx hb dJ0_append_3_10 rfl (lv_at hl 0 rfl) ?_
  refine gw_cIIP (As := []) (rest := [])  ⟨hx, hb, hml, hown, hts⟩ (met_J0_isLatin1 l E G3 o _ hvc_2.2) (va_cwU (C := "java/lang/StringBuilder") 0 hts (lw_U q493 q495 q496 q494 q91 q497) rfl rfl rfl rfl (by decide +kernel) ⟨Nat.le_of_ble_eq_true rfl, Nat.le_of_ble_eq_true rfl⟩) (gw_rc (q := (RJ1, TJ1, 4)) hK hG_3 hvc_2.1 rfl) (by show _ ≤ mc0; omega) (by show _ ≤ ms0; omega) (g_X.st E) hz hX hK hG_3 hS_4 rfl hl.1 rfl (Nat.le_of_ble_eq_true rfl) dJ0_append_3_11 (fun x6 H locs hvc_7 hG_8 hS_9 => ?_)
  clear hvc_2 hG_3 hS_4
  have jn45 : ∀ (y0 : Nat) (y1 : Int32) (G : g_G) (mc : Nat) (ms : Nat) (H : Heap) (locs : List Loc) (ls : Array Slot) (ce sl : Nat), wp_J0_append_3_45 E post y0 y1 G mc ms → g_H E G H → va_S (g_A E) s.heap H locs → lv_has ls 2 [(0, .ref y0), (1, .int y1)] → ce + mc ≤ mc0 → sl + ms ≤ ms0 → W p l e ({ frames := 6, cells := mc0, slots := ms0, locals := 137 } : Room) s m ([.ref o, .int p1] : List Value).toArray below meth c H locs ce sl (MQ below (va_Qq (post) (g_Bk E) (g_A E)) ([.ref o, .int p1] : List Value).toArray s mc0 ms0 (g_A E)) (F0 m 45 ls []) := by
    clear hvc_7 hG_8 hS_9 hl hMC_5 hMS_6
    intro y0 y1 G mc ms H locs ls ce sl hvc_10 hG_11 hS_12 hl_13 hMC_14 hMS_15
    refine lv_aload_n hx hb dJ0_append_3_45 rfl (lv_at hl_13 0 rfl) ?_
    refine gw_cIIP (As := []) (rest := [])  ⟨hx, hb, hml, hown, hts⟩ (met_J0_isLatin1 l E G y0 _ hvc_10.2) (va_cwU (C := "java/lang/StringBuilder") 0 hts (lw_U q493 q495 q496 q494 q91 q497) rfl rfl rfl rfl (by decide +kernel) ⟨Nat.le_of_ble_eq_true rfl, Nat.le_of_ble_eq_true rfl⟩) (gw_rc (q := (RJ1, TJ1, 4)) hK hG_11 hvc_10.1 rfl) (by show _ ≤ mc0; omega) (by show _ ≤ ms0; omega) (g_X.st E) hz hX hK hG_11 hS_12 rfl hl_13.1 rfl (Nat.le_of_ble_eq_true rfl) dJ0_append_3_46 (fun x8 H locs hvc_16 hG_17 hS_18 => ?_)
    clear hvc_10 hG_11 hS_12
    have jn56 : ∀ (y0 : Nat) (y1 : Int32) (G : g_G) (mc : Nat) (ms : Nat) (H : Heap) (locs : List Loc) (ls : Array Slot) (ce sl : Nat), wp_J0_append_3_56 E post y0 y1 G mc ms → g_H E G H → va_S (g_A E) s.heap H locs → lv_has ls 2 [(0, .ref y0), (1, .int y1)] → ce + mc ≤ mc0 → sl + ms ≤ ms0 → W p l e ({ frames := 6, cells := mc0, slots := ms0, locals := 137 } : Room) s m ([.ref o, .int p1] : List Value).toArray below meth c H locs ce sl (MQ below (va_Qq (post) (g_Bk E) (g_A E)) ([.ref o, .int p1] : List Value).toArray s mc0 ms0 (g_A E)) (F0 m 56 ls []) := by
      clear hvc_16 hG_17 hS_18 hl_13 hMC_14 hMS_15
      intro y0 y1 G mc ms H locs ls ce sl hvc_19 hG_20 hS_21 hl_22 hMC_23 hMS_24
      refine lv_aload_n hx hb dJ0_append_3_56 rfl (lv_at hl_22 0 rfl) ?_
      refine gw_gr (C := RJ1) (T := TJ1) (N := 4) (own := RJ0) hx hb hts in_J1 hown hK hG_20 hvc_19 rfl (by decide) (hts _ q155) (fun _ h9 => h9) dJ0_append_3_57 (fun x10 hvc_25 => ?_)
      clear hvc_19
      refine lv_aload_n hx hb dJ0_append_3_60 rfl (lv_at hl_22 0 rfl) ?_
      refine lv_dup hx hb dJ0_append_3_61 rfl ?_
      refine gw_gi (C := RJ1) (T := TJ1) (N := 4) (own := RJ0) hx hb hts in_J1 hown hK hG_20 hvc_25 rfl (by decide) (hts _ q159) (fun _ h9 => h9) dJ0_append_3_62 (fun x11 hvc_26 => ?_)
      clear hvc_25
      refine lv_dup_x1 hx hb dJ0_append_3_65 rfl rfl ?_
      refine lv_iconst (v := nI 1) hx hb dJ0_append_3_66 (by decide) ?_
      refine lv_iadd hx hb dJ0_append_3_67 ?_
      refine gw_put (ty := .int) (C := RJ1) (T := TJ1) (N := 4) (own := RJ0) hx hb hts in_J1 tyJ1 tyJ1_ok nmJ1 hown hK hG_20 hS_21 hvc_26 rfl (by decide) (hts _ q159) (fun _ h9 => h9) rfl (by decide +kernel) rfl rfl dJ0_append_3_68 (fun G12 H locs hvc_27 hG_28 hS_29 => ?_)
      clear hvc_26 hG_20 hS_21
      refine lv_iload_n hx hb dJ0_append_3_71 rfl (lv_at hl_22 1 rfl) ?_
      exact False.elim hvc_27
    refine lv_if_eq (tgt := 56) hx hb dJ0_append_3_49 (by decide) (fun h9 => ?_) (fun h9 => ?_)
    · replace hvc_16 := hvc_16.1 h9
      exact jn56 y0 y1 G mc ms _ _ _ _ _ hvc_16 hG_17 hS_18 (lv_sub hl_13 [0, 1] rfl) hMC_14 hMS_15
    · replace hvc_16 := hvc_16.2 h9
      refine lv_aload_n hx hb dJ0_append_3_52 rfl (lv_at hl_13 0 rfl) ?_
      exact False.elim hvc_16
  refine lv_if_eq (tgt := 45) hx hb dJ0_append_3_14 (by decide) (fun h9 => ?_) (fun h9 => ?_)
  · replace hvc_7 := hvc_7.1 h9
    exact jn45 o p1 G3 (mc0 - c4) (ms0 - t5) _ _ _ _ _ hvc_7 hG_8 hS_9 (lv_sub hl [0, 1] rfl) hMC_5 hMS_6
  · replace hvc_7 := hvc_7.2 h9
    refine lv_iload_n hx hb dJ0_append_3_17 rfl (lv_at hl 1 rfl) ?_
    refine gw_cSIP (As := [.int p1]) (rest := [])  ⟨hx, hb, hml, hown, hts⟩ (met_J20_canEncode l E G3 p1 _ hvc_7) (va_cwS 1 hts (lw_S q1559 q1560 q115 q1561) rfl rfl rfl (by decide +kernel) ⟨Nat.le_of_ble_eq_true rfl, Nat.le_of_ble_eq_true rfl⟩) (by show _ ≤ mc0; omega) (by show _ ≤ ms0; omega) (g_St0 E) hz trivial hK hG_8 hS_9 rfl hl.1 rfl (Nat.le_of_ble_eq_true rfl) dJ0_append_3_18 (fun x13 H locs hvc_30 hG_31 hS_32 => ?_)
    clear hvc_7 hG_8 hS_9
    refine lv_if_eq (tgt := 45) hx hb dJ0_append_3_21 (by decide) (fun h9 => ?_) (fun h9 => ?_)
    · replace hvc_30 := hvc_30.1 h9
      exact jn45 o p1 G3 (mc0 - c4) (ms0 - t5) _ _ _ _ _ hvc_30 hG_31 hS_32 (lv_sub hl [0, 1] rfl) hMC_5 hMS_6
    · replace hvc_30 := hvc_30.2 h9
      refine lv_aload_n hx hb dJ0_append_3_24 rfl (lv_at hl 0 rfl) ?_
      refine gw_gr (C := RJ1) (T := TJ1) (N := 4) (own := RJ0) hx hb hts in_J1 hown hK hG_31 hvc_30 rfl (by decide) (hts _ q155) (fun _ h9 => h9) dJ0_append_3_25 (fun x15 hvc_33 => ?_)
      clear hvc_30
      refine lv_aload_n hx hb dJ0_append_3_28 rfl (lv_at hl 0 rfl) ?_
      refine lv_dup hx hb dJ0_append_3_29 rfl ?_
      refine gw_gi (C := RJ1) (T := TJ1) (N := 4) (own := RJ0) hx hb hts in_J1 hown hK hG_31 hvc_33 rfl (by decide) (hts _ q159) (fun _ h9 => h9) dJ0_append_3_30 (fun x16 hvc_34 => ?_)
      clear hvc_33
      refine lv_dup_x1 hx hb dJ0_append_3_33 rfl rfl ?_
      refine lv_iconst (v := nI 1) hx hb dJ0_append_3_34 (by decide) ?_
      refine lv_iadd hx hb dJ0_append_3_35 ?_
      refine gw_put (ty := .int) (C := RJ1) (T := TJ1) (N := 4) (own := RJ0) hx hb hts in_J1 tyJ1 tyJ1_ok nmJ1 hown hK hG_31 hS_32 hvc_34 rfl (by decide) (hts _ q159) (fun _ h9 => h9) rfl (by decide +kernel) rfl rfl dJ0_append_3_36 (fun G17 H locs hvc_35 hG_36 hS_37 => ?_)
      clear hvc_34 hG_31 hS_32
      refine lv_iload_n hx hb dJ0_append_3_39 rfl (lv_at hl 1 rfl) ?_
      refine lv_i2b (v := p1.toInt8.toInt32) hx hb dJ0_append_3_40 rfl ?_
      refine gw_bst hx hb hK hG_36 hS_37 hvc_35 dJ0_append_3_41 (fun G18 H locs hvc_38 hG_39 hS_40 => ?_)
      clear hvc_35 hG_36 hS_37
      refine lv_goto (tgt := 75) hx hb dJ0_append_3_42 (by decide) ?_
      refine lv_aload_n hx hb dJ0_append_3_75 rfl (lv_at hl 0 rfl) ?_
      exact g_aret (v := (some o)) hx hb hr (Or.inl ⟨_, rfl⟩) hlocks (by show _ ≤ mc0; omega) (by show _ ≤ ms0; omega) hG_39 hS_40 hvc_38 dJ0_append_3_76
set_option maxHeartbeats 4000000 in
set_option maxRecDepth 100000 in
theorem met_J1_append_3 (l : Launch) (E : g_E) (G : g_G) (o : Nat) (p1 : Int32) (mc0 ms0 : Nat) (post : Option Nat → g_G → Prop) (hvc : wp_J1_append_3 E G o p1 mc0 ms0 post) : g_MQ E l yJ1_append_3 (ws_ yJ1_append_3 cJ1_append_3 2 (Option.some (Jvm.ClassFile.FieldType.object "java/lang/StringBuilder"))) ({ frames := 7, cells := mc0, slots := ms0, locals := 158 } : Room) (g_X E) [.ref o, .int p1] G (post) := by
  refine g_enter (by decide +kernel) (Nat.le_of_ble_eq_true rfl) ?_
  intro p e s m below meth c ls hx hb hr hts hown hlocks hml hin hz hX hK hG hS hl
  have hl : lv_has ls 2 [(0, .ref o), (1, .int p1)] := hl
  have hown : s.vm.findClass RJ1 = some m.cls := hown
  have hMC : 0 + mc0 ≤ mc0 := Nat.le_of_eq (Nat.zero_add _)
  have hMS : 0 + ms0 ≤ ms0 := Nat.le_of_eq (Nat.zero_add _)
  unfold wp_J1_append_3 at hvc
  refine lv_aload_n hx hb dJ1_append_3_0 rfl (lv_at hl 0 rfl) ?_
  refine lv_iload_n hx hb dJ1_append_3_1 rfl (lv_at hl 1 rfl) ?_
  obtain ⟨c3, t4, hc1, hs1, hvc⟩ := hvc
  refine gw_cUQA (As := [.int p1]) (rest := []) (C := "java/lang/StringBuilder") (hK.1 12 _ rfl).2  ⟨hx, hb, hml, hown, hts⟩ (met_J0_append_3 l E G o p1 c3 t4 _ hvc.2) (va_cwSU 1 hts (lw_SU q1556 q2286 q168 q1557 q91 q1558) rfl rfl rfl (by decide +kernel) ⟨Nat.le_of_ble_eq_true rfl, Nat.le_of_ble_eq_true rfl⟩) (gw_rc (q := (RJ1, TJ1, 4)) hK hG hvc.1 rfl) hc1 hs1 hMC hMS (Nat.le_refl _) (Nat.le_refl _) (g_X.st E) hz hX hK hG hS rfl hl.1 rfl (Nat.le_of_ble_eq_true rfl) dJ1_append_3_2 (fun x1 G2 H locs ce sl hvc_1 hG_2 hS_3 hMC_4 hMS_5 => ?_)
  clear hvc hG hS hMC hMS
  refine gq_pop hx hb dJ1_append_3_5 ?_
  refine lv_aload_n hx hb dJ1_append_3_6 rfl (lv_at hl 0 rfl) ?_
  exact g_aret (v := (some o)) hx hb hr (Or.inl ⟨_, rfl⟩) hlocks (by show _ ≤ mc0; omega) (by show _ ≤ ms0; omega) hG_2 hS_3 hvc_1 dJ1_append_3_7
set_option maxHeartbeats 4000000 in
set_option maxRecDepth 100000 in
theorem met_J18_bitCount (l : Launch) (E : g_E) (G : g_G) (p1 : Int32) (post : Int32 → Prop) (hvc : wp_J18_bitCount E G p1 post) : g_MI E l yJ18_bitCount (ws_ yJ18_bitCount cJ18_bitCount 1 (Option.some Jvm.ClassFile.FieldType.int)) ({ frames := 0, cells := 0, slots := 0, locals := 0 } : Room) (fun _ => True) [.int p1] G (fun v G9 => G9 = G ∧ post v) := by
  refine g_enter (by decide +kernel) (Nat.le_of_ble_eq_true rfl) ?_
  intro p e s m below meth c ls hx hb hr hts hown hlocks hml hin hz hX hK hG hS hl
  have hl : lv_has ls 1 [(0, .int p1)] := hl
  have hown : s.vm.findClass RJ18 = some m.cls := hown
  unfold wp_J18_bitCount at hvc
  refine lv_iload_n hx hb dJ18_bitCount_0 rfl (lv_at hl 0 rfl) ?_
  refine lv_iload_n hx hb dJ18_bitCount_1 rfl (lv_at hl 0 rfl) ?_
  refine lv_iconst (v := nI 1) hx hb dJ18_bitCount_2 (by decide) ?_
  refine lv_iushr (v := (p1.toUInt32 >>> ((nI 1).toUInt32 &&& Int32.toUInt32 31)).toInt32) hx hb dJ18_bitCount_3 rfl ?_
  refine lv_ldcw (v := nI 1431655765) hx hb hown (by exact hts _ q874) dJ18_bitCount_4 ?_
  refine lv_iand hx hb dJ18_bitCount_7 ?_
  refine lv_isub hx hb dJ18_bitCount_8 ?_
  refine lv_istore_n (lv' := [(0, .int (p1 - (((p1.toUInt32 >>> ((nI 1).toUInt32 &&& Int32.toUInt32 31)).toInt32) &&& (nI 1431655765))))]) hx hb dJ18_bitCount_9 rfl hl (by decide) rfl (fun ls hl_1 => ?_)
  clear hl
  refine lv_iload_n hx hb dJ18_bitCount_10 rfl (lv_at hl_1 0 rfl) ?_
  refine lv_ldcw (v := nI 858993459) hx hb hown (by exact hts _ q875) dJ18_bitCount_11 ?_
  refine lv_iand hx hb dJ18_bitCount_14 ?_
  refine lv_iload_n hx hb dJ18_bitCount_15 rfl (lv_at hl_1 0 rfl) ?_
  refine lv_iconst (v := nI 2) hx hb dJ18_bitCount_16 (by decide) ?_
  refine lv_iushr (v := ((p1 - (((p1.toUInt32 >>> ((nI 1).toUInt32 &&& Int32.toUInt32 31)).toInt32) &&& (nI 1431655765))).toUInt32 >>> ((nI 2).toUInt32 &&& Int32.toUInt32 31)).toInt32) hx hb dJ18_bitCount_17 rfl ?_
  refine lv_ldcw (v := nI 858993459) hx hb hown (by exact hts _ q875) dJ18_bitCount_18 ?_
  refine lv_iand hx hb dJ18_bitCount_21 ?_
  refine lv_iadd hx hb dJ18_bitCount_22 ?_
  refine lv_istore_n (lv' := [(0, .int (((p1 - (((p1.toUInt32 >>> ((nI 1).toUInt32 &&& Int32.toUInt32 31)).toInt32) &&& (nI 1431655765))) &&& (nI 858993459)) + ((((p1 - (((p1.toUInt32 >>> ((nI 1).toUInt32 &&& Int32.toUInt32 31)).toInt32) &&& (nI 1431655765))).toUInt32 >>> ((nI 2).toUInt32 &&& Int32.toUInt32 31)).toInt32) &&& (nI 858993459))))]) hx hb dJ18_bitCount_23 rfl hl_1 (by decide) rfl (fun ls hl_2 => ?_)
  clear hl_1
  refine lv_iload_n hx hb dJ18_bitCount_24 rfl (lv_at hl_2 0 rfl) ?_
  refine lv_iload_n hx hb dJ18_bitCount_25 rfl (lv_at hl_2 0 rfl) ?_
  refine lv_iconst (v := nI 4) hx hb dJ18_bitCount_26 (by decide) ?_
  refine lv_iushr (v := ((((p1 - (((p1.toUInt32 >>> ((nI 1).toUInt32 &&& Int32.toUInt32 31)).toInt32) &&& (nI 1431655765))) &&& (nI 858993459)) + ((((p1 - (((p1.toUInt32 >>> ((nI 1).toUInt32 &&& Int32.toUInt32 31)).toInt32) &&& (nI 1431655765))).toUInt32 >>> ((nI 2).toUInt32 &&& Int32.toUInt32 31)).toInt32) &&& (nI 858993459))).toUInt32 >>> ((nI 4).toUInt32 &&& Int32.toUInt32 31)).toInt32) hx hb dJ18_bitCount_27 rfl ?_
  refine lv_iadd hx hb dJ18_bitCount_28 ?_
  refine lv_ldcw (v := nI 252645135) hx hb hown (by exact hts _ q876) dJ18_bitCount_29 ?_
  refine lv_iand hx hb dJ18_bitCount_32 ?_
  refine lv_istore_n (lv' := [(0, .int (((((p1 - (((p1.toUInt32 >>> ((nI 1).toUInt32 &&& Int32.toUInt32 31)).toInt32) &&& (nI 1431655765))) &&& (nI 858993459)) + ((((p1 - (((p1.toUInt32 >>> ((nI 1).toUInt32 &&& Int32.toUInt32 31)).toInt32) &&& (nI 1431655765))).toUInt32 >>> ((nI 2).toUInt32 &&& Int32.toUInt32 31)).toInt32) &&& (nI 858993459))) + (((((p1 - (((p1.toUInt32 >>> ((nI 1).toUInt32 &&& Int32.toUInt32 31)).toInt32) &&& (nI 1431655765))) &&& (nI 858993459)) + ((((p1 - (((p1.toUInt32 >>> ((nI 1).toUInt32 &&& Int32.toUInt32 31)).toInt32) &&& (nI 1431655765))).toUInt32 >>> ((nI 2).toUInt32 &&& Int32.toUInt32 31)).toInt32) &&& (nI 858993459))).toUInt32 >>> ((nI 4).toUInt32 &&& Int32.toUInt32 31)).toInt32)) &&& (nI 252645135)))]) hx hb dJ18_bitCount_33 rfl hl_2 (by decide) rfl (fun ls hl_3 => ?_)
  clear hl_2
  refine lv_iload_n hx hb dJ18_bitCount_34 rfl (lv_at hl_3 0 rfl) ?_
  refine lv_iload_n hx hb dJ18_bitCount_35 rfl (lv_at hl_3 0 rfl) ?_
  refine lv_bipush (v := nI 8) hx hb dJ18_bitCount_36 (by decide) ?_
  refine lv_iushr (v := ((((((p1 - (((p1.toUInt32 >>> ((nI 1).toUInt32 &&& Int32.toUInt32 31)).toInt32) &&& (nI 1431655765))) &&& (nI 858993459)) + ((((p1 - (((p1.toUInt32 >>> ((nI 1).toUInt32 &&& Int32.toUInt32 31)).toInt32) &&& (nI 1431655765))).toUInt32 >>> ((nI 2).toUInt32 &&& Int32.toUInt32 31)).toInt32) &&& (nI 858993459))) + (((((p1 - (((p1.toUInt32 >>> ((nI 1).toUInt32 &&& Int32.toUInt32 31)).toInt32) &&& (nI 1431655765))) &&& (nI 858993459)) + ((((p1 - (((p1.toUInt32 >>> ((nI 1).toUInt32 &&& Int32.toUInt32 31)).toInt32) &&& (nI 1431655765))).toUInt32 >>> ((nI 2).toUInt32 &&& Int32.toUInt32 31)).toInt32) &&& (nI 858993459))).toUInt32 >>> ((nI 4).toUInt32 &&& Int32.toUInt32 31)).toInt32)) &&& (nI 252645135)).toUInt32 >>> ((nI 8).toUInt32 &&& Int32.toUInt32 31)).toInt32) hx hb dJ18_bitCount_38 rfl ?_
  refine lv_iadd hx hb dJ18_bitCount_39 ?_
  refine lv_istore_n (lv' := [(0, .int ((((((p1 - (((p1.toUInt32 >>> ((nI 1).toUInt32 &&& Int32.toUInt32 31)).toInt32) &&& (nI 1431655765))) &&& (nI 858993459)) + ((((p1 - (((p1.toUInt32 >>> ((nI 1).toUInt32 &&& Int32.toUInt32 31)).toInt32) &&& (nI 1431655765))).toUInt32 >>> ((nI 2).toUInt32 &&& Int32.toUInt32 31)).toInt32) &&& (nI 858993459))) + (((((p1 - (((p1.toUInt32 >>> ((nI 1).toUInt32 &&& Int32.toUInt32 31)).toInt32) &&& (nI 1431655765))) &&& (nI 858993459)) + ((((p1 - (((p1.toUInt32 >>> ((nI 1).toUInt32 &&& Int32.toUInt32 31)).toInt32) &&& (nI 1431655765))).toUInt32 >>> ((nI 2).toUInt32 &&& Int32.toUInt32 31)).toInt32) &&& (nI 858993459))).toUInt32 >>> ((nI 4).toUInt32 &&& Int32.toUInt32 31)).toInt32)) &&& (nI 252645135)) + (((((((p1 - (((p1.toUInt32 >>> ((nI 1).toUInt32 &&& Int32.toUInt32 31)).toInt32) &&& (nI 1431655765))) &&& (nI 858993459)) + ((((p1 - (((p1.toUInt32 >>> ((nI 1).toUInt32 &&& Int32.toUInt32 31)).toInt32) &&& (nI 1431655765))).toUInt32 >>> ((nI 2).toUInt32 &&& Int32.toUInt32 31)).toInt32) &&& (nI 858993459))) + (((((p1 - (((p1.toUInt32 >>> ((nI 1).toUInt32 &&& Int32.toUInt32 31)).toInt32) &&& (nI 1431655765))) &&& (nI 858993459)) + ((((p1 - (((p1.toUInt32 >>> ((nI 1).toUInt32 &&& Int32.toUInt32 31)).toInt32) &&& (nI 1431655765))).toUInt32 >>> ((nI 2).toUInt32 &&& Int32.toUInt32 31)).toInt32) &&& (nI 858993459))).toUInt32 >>> ((nI 4).toUInt32 &&& Int32.toUInt32 31)).toInt32)) &&& (nI 252645135)).toUInt32 >>> ((nI 8).toUInt32 &&& Int32.toUInt32 31)).toInt32)))]) hx hb dJ18_bitCount_40 rfl hl_3 (by decide) rfl (fun ls hl_4 => ?_)
  clear hl_3
  refine lv_iload_n hx hb dJ18_bitCount_41 rfl (lv_at hl_4 0 rfl) ?_
  refine lv_iload_n hx hb dJ18_bitCount_42 rfl (lv_at hl_4 0 rfl) ?_
  refine lv_bipush (v := nI 16) hx hb dJ18_bitCount_43 (by decide) ?_
  refine lv_iushr (v := (((((((p1 - (((p1.toUInt32 >>> ((nI 1).toUInt32 &&& Int32.toUInt32 31)).toInt32) &&& (nI 1431655765))) &&& (nI 858993459)) + ((((p1 - (((p1.toUInt32 >>> ((nI 1).toUInt32 &&& Int32.toUInt32 31)).toInt32) &&& (nI 1431655765))).toUInt32 >>> ((nI 2).toUInt32 &&& Int32.toUInt32 31)).toInt32) &&& (nI 858993459))) + (((((p1 - (((p1.toUInt32 >>> ((nI 1).toUInt32 &&& Int32.toUInt32 31)).toInt32) &&& (nI 1431655765))) &&& (nI 858993459)) + ((((p1 - (((p1.toUInt32 >>> ((nI 1).toUInt32 &&& Int32.toUInt32 31)).toInt32) &&& (nI 1431655765))).toUInt32 >>> ((nI 2).toUInt32 &&& Int32.toUInt32 31)).toInt32) &&& (nI 858993459))).toUInt32 >>> ((nI 4).toUInt32 &&& Int32.toUInt32 31)).toInt32)) &&& (nI 252645135)) + (((((((p1 - (((p1.toUInt32 >>> ((nI 1).toUInt32 &&& Int32.toUInt32 31)).toInt32) &&& (nI 1431655765))) &&& (nI 858993459)) + ((((p1 - (((p1.toUInt32 >>> ((nI 1).toUInt32 &&& Int32.toUInt32 31)).toInt32) &&& (nI 1431655765))).toUInt32 >>> ((nI 2).toUInt32 &&& Int32.toUInt32 31)).toInt32) &&& (nI 858993459))) + (((((p1 - (((p1.toUInt32 >>> ((nI 1).toUInt32 &&& Int32.toUInt32 31)).toInt32) &&& (nI 1431655765))) &&& (nI 858993459)) + ((((p1 - (((p1.toUInt32 >>> ((nI 1).toUInt32 &&& Int32.toUInt32 31)).toInt32) &&& (nI 1431655765))).toUInt32 >>> ((nI 2).toUInt32 &&& Int32.toUInt32 31)).toInt32) &&& (nI 858993459))).toUInt32 >>> ((nI 4).toUInt32 &&& Int32.toUInt32 31)).toInt32)) &&& (nI 252645135)).toUInt32 >>> ((nI 8).toUInt32 &&& Int32.toUInt32 31)).toInt32)).toUInt32 >>> ((nI 16).toUInt32 &&& Int32.toUInt32 31)).toInt32) hx hb dJ18_bitCount_45 rfl ?_
  refine lv_iadd hx hb dJ18_bitCount_46 ?_
  refine lv_istore_n (lv' := [(0, .int (((((((p1 - (((p1.toUInt32 >>> ((nI 1).toUInt32 &&& Int32.toUInt32 31)).toInt32) &&& (nI 1431655765))) &&& (nI 858993459)) + ((((p1 - (((p1.toUInt32 >>> ((nI 1).toUInt32 &&& Int32.toUInt32 31)).toInt32) &&& (nI 1431655765))).toUInt32 >>> ((nI 2).toUInt32 &&& Int32.toUInt32 31)).toInt32) &&& (nI 858993459))) + (((((p1 - (((p1.toUInt32 >>> ((nI 1).toUInt32 &&& Int32.toUInt32 31)).toInt32) &&& (nI 1431655765))) &&& (nI 858993459)) + ((((p1 - (((p1.toUInt32 >>> ((nI 1).toUInt32 &&& Int32.toUInt32 31)).toInt32) &&& (nI 1431655765))).toUInt32 >>> ((nI 2).toUInt32 &&& Int32.toUInt32 31)).toInt32) &&& (nI 858993459))).toUInt32 >>> ((nI 4).toUInt32 &&& Int32.toUInt32 31)).toInt32)) &&& (nI 252645135)) + (((((((p1 - (((p1.toUInt32 >>> ((nI 1).toUInt32 &&& Int32.toUInt32 31)).toInt32) &&& (nI 1431655765))) &&& (nI 858993459)) + ((((p1 - (((p1.toUInt32 >>> ((nI 1).toUInt32 &&& Int32.toUInt32 31)).toInt32) &&& (nI 1431655765))).toUInt32 >>> ((nI 2).toUInt32 &&& Int32.toUInt32 31)).toInt32) &&& (nI 858993459))) + (((((p1 - (((p1.toUInt32 >>> ((nI 1).toUInt32 &&& Int32.toUInt32 31)).toInt32) &&& (nI 1431655765))) &&& (nI 858993459)) + ((((p1 - (((p1.toUInt32 >>> ((nI 1).toUInt32 &&& Int32.toUInt32 31)).toInt32) &&& (nI 1431655765))).toUInt32 >>> ((nI 2).toUInt32 &&& Int32.toUInt32 31)).toInt32) &&& (nI 858993459))).toUInt32 >>> ((nI 4).toUInt32 &&& Int32.toUInt32 31)).toInt32)) &&& (nI 252645135)).toUInt32 >>> ((nI 8).toUInt32 &&& Int32.toUInt32 31)).toInt32)) + ((((((((p1 - (((p1.toUInt32 >>> ((nI 1).toUInt32 &&& Int32.toUInt32 31)).toInt32) &&& (nI 1431655765))) &&& (nI 858993459)) + ((((p1 - (((p1.toUInt32 >>> ((nI 1).toUInt32 &&& Int32.toUInt32 31)).toInt32) &&& (nI 1431655765))).toUInt32 >>> ((nI 2).toUInt32 &&& Int32.toUInt32 31)).toInt32) &&& (nI 858993459))) + (((((p1 - (((p1.toUInt32 >>> ((nI 1).toUInt32 &&& Int32.toUInt32 31)).toInt32) &&& (nI 1431655765))) &&& (nI 858993459)) + ((((p1 - (((p1.toUInt32 >>> ((nI 1).toUInt32 &&& Int32.toUInt32 31)).toInt32) &&& (nI 1431655765))).toUInt32 >>> ((nI 2).toUInt32 &&& Int32.toUInt32 31)).toInt32) &&& (nI 858993459))).toUInt32 >>> ((nI 4).toUInt32 &&& Int32.toUInt32 31)).toInt32)) &&& (nI 252645135)) + (((((((p1 - (((p1.toUInt32 >>> ((nI 1).toUInt32 &&& Int32.toUInt32 31)).toInt32) &&& (nI 1431655765))) &&& (nI 858993459)) + ((((p1 - (((p1.toUInt32 >>> ((nI 1).toUInt32 &&& Int32.toUInt32 31)).toInt32) &&& (nI 1431655765))).toUInt32 >>> ((nI 2).toUInt32 &&& Int32.toUInt32 31)).toInt32) &&& (nI 858993459))) + (((((p1 - (((p1.toUInt32 >>> ((nI 1).toUInt32 &&& Int32.toUInt32 31)).toInt32) &&& (nI 1431655765))) &&& (nI 858993459)) + ((((p1 - (((p1.toUInt32 >>> ((nI 1).toUInt32 &&& Int32.toUInt32 31)).toInt32) &&& (nI 1431655765))).toUInt32 >>> ((nI 2).toUInt32 &&& Int32.toUInt32 31)).toInt32) &&& (nI 858993459))).toUInt32 >>> ((nI 4).toUInt32 &&& Int32.toUInt32 31)).toInt32)) &&& (nI 252645135)).toUInt32 >>> ((nI 8).toUInt32 &&& Int32.toUInt32 31)).toInt32)).toUInt32 >>> ((nI 16).toUInt32 &&& Int32.toUInt32 31)).toInt32)))]) hx hb dJ18_bitCount_47 rfl hl_4 (by decide) rfl (fun ls hl_5 => ?_)
  clear hl_4
  refine lv_iload_n hx hb dJ18_bitCount_48 rfl (lv_at hl_5 0 rfl) ?_
  refine lv_bipush (v := nI 63) hx hb dJ18_bitCount_49 (by decide) ?_
  refine lv_iand hx hb dJ18_bitCount_51 ?_
  exact g_iret hx hb hr hlocks (Nat.zero_le _) (Nat.zero_le _) hG hS rfl ⟨rfl, hvc⟩ dJ18_bitCount_52
set_option maxHeartbeats 4000000 in
set_option maxRecDepth 100000 in
theorem met_J5_init (l : Launch) (E : g_E) (G : g_G) (o : Nat) (mc0 ms0 : Nat) (post : g_G → Prop) (hvc : wp_J5_init E G o mc0 ms0 post) : g_MV E l yJ5_init (ws_ yJ5_init cJ5_init 1 (Option.none : Option Jvm.ClassFile.FieldType)) ({ frames := 2, cells := mc0, slots := ms0, locals := 32 } : Room) (g_X E) [.ref o] G (post) := by
  refine g_enter (by decide +kernel) (Nat.le_of_ble_eq_true rfl) ?_
  intro p e s m below meth c ls hx hb hr hts hown hlocks hml hin hz hX hK hG hS hl
  have hl : lv_has ls 1 [(0, .ref o)] := hl
  have hown : s.vm.findClass RJ5 = some m.cls := hown
  have hMC : 0 + mc0 ≤ mc0 := Nat.le_of_eq (Nat.zero_add _)
  have hMS : 0 + ms0 ≤ ms0 := Nat.le_of_eq (Nat.zero_add _)
  unfold wp_J5_init at hvc
  refine lv_aload_n hx hb dJ5_init_0 rfl (lv_at hl 0 rfl) ?_
  refine gw_cCVP (As := []) (rest := [])  ⟨hx, hb, hml, hown, hts⟩ (met_J4_init l E G o _ hvc) (cwI 0 hts (lw_meth q177) rfl rfl rfl (hts _ q95) (hts _ q175) (hts _ q176) rfl (by decide +kernel) ⟨Nat.le_of_ble_eq_true rfl, Nat.le_of_ble_eq_true rfl⟩) (by show _ ≤ mc0; omega) (by show _ ≤ ms0; omega) (g_St0 E) hz trivial hK hG hS rfl hl.1 rfl (Nat.le_of_ble_eq_true rfl) dJ5_init_1 (fun H locs hvc_1 hG_2 hS_3 => ?_)
  clear hvc hG hS
  refine lv_aload_n hx hb dJ5_init_4 rfl (lv_at hl 0 rfl) ?_
  refine lv_bipush (v := nI 17) hx hb dJ5_init_5 (by decide) ?_
  refine gw_newq hx hb hown (hts _ q179) hX hK hG_2 hS_3 hz hvc_1 hMC hMS (Nat.le_refl _) (Nat.le_refl _) dJ5_init_7 (fun n3 q4 G5 H ce sl hvc_4 hG_5 hS_6 hMC_7 hMS_8 => ?_)
  clear hvc_1 hG_2 hS_3 hMC hMS
  refine gw_put (ty := .array (.object "java/lang/Object")) (C := RJ5) (T := TJ5) (N := 3) (own := RJ5) hx hb hts in_J5 tyJ5 tyJ5_ok nmJ5 hown hK hG_5 hS_6 hvc_4 rfl (by decide) (hts _ q181) (fun _ h9 => h9) rfl (by decide +kernel) rfl rfl dJ5_init_10 (fun G6 H locs hvc_9 hG_10 hS_11 => ?_)
  clear hvc_4 hG_5 hS_6
  exact g_vret hx hb hr hlocks (by show _ ≤ mc0; omega) (by show _ ≤ ms0; omega) hG_10 hS_11 hvc_9 dJ5_init_13
set_option maxHeartbeats 4000000 in
set_option maxRecDepth 100000 in
theorem met_J5_sub (l : Launch) (E : g_E) (G : g_G) (p1 : Int32) (p2 : Int32) (p3 : Int32) (post : Int32 → Prop) (hvc : wp_J5_sub E G p1 p2 p3 post) : g_MI E l yJ5_sub (ws_ yJ5_sub cJ5_sub 3 (Option.some Jvm.ClassFile.FieldType.int)) ({ frames := 0, cells := 0, slots := 0, locals := 0 } : Room) (fun _ => True) [.int p1, .int p2, .int p3] G (fun v G9 => G9 = G ∧ post v) := by
  refine g_enter (by decide +kernel) (Nat.le_of_ble_eq_true rfl) ?_
  intro p e s m below meth c ls hx hb hr hts hown hlocks hml hin hz hX hK hG hS hl
  have hl : lv_has ls 3 [(0, .int p1), (1, .int p2), (2, .int p3)] := hl
  have hown : s.vm.findClass RJ5 = some m.cls := hown
  unfold wp_J5_sub at hvc
  refine lv_iload_n hx hb dJ5_sub_0 rfl (lv_at hl 0 rfl) ?_
  refine lv_iload_n hx hb dJ5_sub_1 rfl (lv_at hl 1 rfl) ?_
  refine lv_isub hx hb dJ5_sub_2 ?_
  refine lv_dup hx hb dJ5_sub_3 rfl ?_
  refine lv_istore_n (lv' := [(0, .int (p1 - p2)), (1, .int p2), (2, .int p3)]) hx hb dJ5_sub_4 rfl hl (by decide) rfl (fun ls hl_1 => ?_)
  clear hl
  refine lv_if_ge (tgt := 12) hx hb dJ5_sub_5 (by decide) (fun h9 => ?_) (fun h9 => ?_)
  · replace hvc := hvc.1 h9
    refine lv_iload_n hx hb dJ5_sub_12 rfl (lv_at hl_1 0 rfl) ?_
    exact g_iret hx hb hr hlocks (Nat.zero_le _) (Nat.zero_le _) hG hS rfl ⟨rfl, hvc⟩ dJ5_sub_13
  · replace hvc := hvc.2 h9
    refine lv_iload_n hx hb dJ5_sub_8 rfl (lv_at hl_1 0 rfl) ?_
    refine lv_iload_n hx hb dJ5_sub_9 rfl (lv_at hl_1 2 rfl) ?_
    refine lv_iadd hx hb dJ5_sub_10 ?_
    refine lv_istore_n (lv' := [(0, .int ((p1 - p2) + p3)), (1, .int p2), (2, .int p3)]) hx hb dJ5_sub_11 rfl hl_1 (by decide) rfl (fun ls hl_2 => ?_)
    clear hl_1
    refine lv_iload_n hx hb dJ5_sub_12 rfl (lv_at hl_2 0 rfl) ?_
    exact g_iret hx hb hr hlocks (Nat.zero_le _) (Nat.zero_le _) hG hS rfl ⟨rfl, hvc⟩ dJ5_sub_13
set_option maxHeartbeats 4000000 in
set_option maxRecDepth 100000 in
theorem met_J5_size (l : Launch) (E : g_E) (G : g_G) (o : Nat) (post : Int32 → Prop) (hvc : wp_J5_size E G o post) : g_MI E l yJ5_size (ws_ yJ5_size cJ5_size 1 (Option.some Jvm.ClassFile.FieldType.int)) ({ frames := 1, cells := 0, slots := 0, locals := 22 } : Room) (g_X E) [.ref o] G (fun v G9 => G9 = G ∧ post v) := by
  refine g_enter (by decide +kernel) (Nat.le_of_ble_eq_true rfl) ?_
  intro p e s m below meth c ls hx hb hr hts hown hlocks hml hin hz hX hK hG hS hl
  have hl : lv_has ls 1 [(0, .ref o)] := hl
  have hown : s.vm.findClass RJ5 = some m.cls := hown
  unfold wp_J5_size at hvc
  refine lv_aload_n hx hb dJ5_size_0 rfl (lv_at hl 0 rfl) ?_
  refine gw_gi (C := RJ5) (T := TJ5) (N := 3) (own := RJ5) hx hb hts in_J5 hown hK hG hvc rfl (by decide) (hts _ q183) (fun _ h9 => h9) dJ5_size_1 (fun x1 hvc_1 => ?_)
  clear hvc
  refine lv_aload_n hx hb dJ5_size_4 rfl (lv_at hl 0 rfl) ?_
  refine gw_gi (C := RJ5) (T := TJ5) (N := 3) (own := RJ5) hx hb hts in_J5 hown hK hG hvc_1 rfl (by decide) (hts _ q182) (fun _ h9 => h9) dJ5_size_5 (fun x2 hvc_2 => ?_)
  clear hvc_1
  refine lv_aload_n hx hb dJ5_size_8 rfl (lv_at hl 0 rfl) ?_
  refine gw_gr (C := RJ5) (T := TJ5) (N := 3) (own := RJ5) hx hb hts in_J5 hown hK hG hvc_2 rfl (by decide) (hts _ q181) (fun _ h9 => h9) dJ5_size_9 (fun x3 hvc_3 => ?_)
  clear hvc_2
  refine gw_alenX hx hb hK hG hX hS hvc_3 dJ5_size_12 (fun x4 hvc_4 => ?_)
  clear hvc_3
  refine gw_cSIP (As := [.int x1, .int x2, .int x4]) (rest := [])  ⟨hx, hb, hml, hown, hts⟩ (met_J5_sub l E G x1 x2 x4 _ hvc_4) (va_cwS 3 hts (lw_S q371 q372 q96 q373) rfl rfl rfl (by decide +kernel) ⟨Nat.le_of_ble_eq_true rfl, Nat.le_of_ble_eq_true rfl⟩) (Nat.zero_le _) (Nat.zero_le _) (g_St0 E) hz trivial hK hG hS rfl hl.1 rfl (Nat.le_of_ble_eq_true rfl) dJ5_size_13 (fun x5 H locs hvc_5 hG_6 hS_7 => ?_)
  clear hvc_4 hG hS
  exact g_iret hx hb hr hlocks (Nat.zero_le _) (Nat.zero_le _) hG_6 hS_7 rfl ⟨rfl, hvc_5⟩ dJ5_size_16
set_option maxHeartbeats 4000000 in
set_option maxRecDepth 100000 in
theorem met_J5_elementAt (l : Launch) (E : g_E) (G : g_G) (p1 : Nat) (p2 : Int32) (post : Option Nat → Prop) (hvc : wp_J5_elementAt E G p1 p2 post) : g_MQ E l yJ5_elementAt (ws_ yJ5_elementAt cJ5_elementAt 2 (Option.some (Jvm.ClassFile.FieldType.object "java/lang/Object"))) ({ frames := 0, cells := 0, slots := 0, locals := 0 } : Room) (fun _ => True) [.ref p1, .int p2] G (fun v G9 => G9 = G ∧ post v) := by
  refine g_enter (by decide +kernel) (Nat.le_of_ble_eq_true rfl) ?_
  intro p e s m below meth c ls hx hb hr hts hown hlocks hml hin hz hX hK hG hS hl
  have hl : lv_has ls 2 [(0, .ref p1), (1, .int p2)] := hl
  have hown : s.vm.findClass RJ5 = some m.cls := hown
  unfold wp_J5_elementAt at hvc
  refine lv_aload_n hx hb dJ5_elementAt_0 rfl (lv_at hl 0 rfl) ?_
  refine lv_iload_n hx hb dJ5_elementAt_1 rfl (lv_at hl 1 rfl) ?_
  refine gw_qld hx hb hK hG hvc dJ5_elementAt_2 (fun x1 hvc_1 => ?_)
  clear hvc
  exact g_aret (v := x1) hx hb hr (Or.inl ⟨_, rfl⟩) hlocks (Nat.zero_le _) (Nat.zero_le _) hG hS ⟨rfl, hvc_1⟩ dJ5_elementAt_3
set_option maxHeartbeats 4000000 in
set_option maxRecDepth 100000 in
theorem met_J5_inc (l : Launch) (E : g_E) (G : g_G) (p1 : Int32) (p2 : Int32) (post : Int32 → Prop) (hvc : wp_J5_inc E G p1 p2 post) : g_MI E l yJ5_inc (ws_ yJ5_inc cJ5_inc 2 (Option.some Jvm.ClassFile.FieldType.int)) ({ frames := 0, cells := 0, slots := 0, locals := 0 } : Room) (fun _ => True) [.int p1, .int p2] G (fun v G9 => G9 = G ∧ post v) := by
  refine g_enter (by decide +kernel) (Nat.le_of_ble_eq_true rfl) ?_
  intro p e s m below meth c ls hx hb hr hts hown hlocks hml hin hz hX hK hG hS hl
  have hl : lv_has ls 2 [(0, .int p1), (1, .int p2)] := hl
  have hown : s.vm.findClass RJ5 = some m.cls := hown
  unfold wp_J5_inc at hvc
  refine lv_iinc (k := 0) (v := p1 + (nI 1)) (lv' := [(0, .int (p1 + (nI 1))), (1, .int p2)]) hx hb dJ5_inc_0 hl rfl (congrArg (p1 + ·) (by decide : Int32.ofInt (1) = nI 1)) (by decide) rfl (fun ls hl_1 => ?_)
  clear hl
  refine lv_iload_n hx hb dJ5_inc_3 rfl (lv_at hl_1 0 rfl) ?_
  refine lv_iload_n hx hb dJ5_inc_4 rfl (lv_at hl_1 1 rfl) ?_
  refine lv_icmp_lt (tgt := 10) hx hb dJ5_inc_5 (by decide) (fun h9 => ?_) (fun h9 => ?_)
  · replace hvc := hvc.1 h9
    refine lv_iload_n hx hb dJ5_inc_10 rfl (lv_at hl_1 0 rfl) ?_
    exact g_iret hx hb hr hlocks (Nat.zero_le _) (Nat.zero_le _) hG hS rfl ⟨rfl, hvc⟩ dJ5_inc_11
  · replace hvc := hvc.2 h9
    refine lv_iconst (v := nI 0) hx hb dJ5_inc_8 (by decide) ?_
    refine lv_istore_n (lv' := [(0, .int (nI 0)), (1, .int p2)]) hx hb dJ5_inc_9 rfl hl_1 (by decide) rfl (fun ls hl_2 => ?_)
    clear hl_1
    refine lv_iload_n hx hb dJ5_inc_10 rfl (lv_at hl_2 0 rfl) ?_
    exact g_iret hx hb hr hlocks (Nat.zero_le _) (Nat.zero_le _) hG hS rfl ⟨rfl, hvc⟩ dJ5_inc_11
set_option maxHeartbeats 4000000 in
set_option maxRecDepth 100000 in
theorem met_J5_pollFirst (l : Launch) (E : g_E) (G : g_G) (o : Nat) (post : Option Nat → g_G → Prop) (hvc : wp_J5_pollFirst E G o post) : g_MQ E l yJ5_pollFirst (ws_ yJ5_pollFirst cJ5_pollFirst 4 (Option.some (Jvm.ClassFile.FieldType.object "java/lang/Object"))) ({ frames := 1, cells := 0, slots := 0, locals := 21 } : Room) (g_X E) [.ref o] G (post) := by
  refine g_enter (by decide +kernel) (Nat.le_of_ble_eq_true rfl) ?_
  intro p e s m below meth c ls hx hb hr hts hown hlocks hml hin hz hX hK hG hS hl
  have hl : lv_has ls 4 [(0, .ref o)] := hl
  have hown : s.vm.findClass RJ5 = some m.cls := hown
  unfold wp_J5_pollFirst at hvc
  refine lv_aload_n hx hb dJ5_pollFirst_0 rfl (lv_at hl 0 rfl) ?_
  refine gw_gr (C := RJ5) (T := TJ5) (N := 3) (own := RJ5) hx hb hts in_J5 hown hK hG hvc rfl (by decide) (hts _ q181) (fun _ h9 => h9) dJ5_pollFirst_1 (fun x1 hvc_1 => ?_)
  clear hvc
  refine lv_dup hx hb dJ5_pollFirst_4 rfl ?_
  refine lv_astore_n (lv' := [(1, .ref x1), (0, .ref o)]) hx hb dJ5_pollFirst_5 rfl hl (by decide) rfl (fun ls hl_2 => ?_)
  clear hl
  refine lv_aload_n hx hb dJ5_pollFirst_6 rfl (lv_at hl_2 1 rfl) ?_
  refine gw_gi (C := RJ5) (T := TJ5) (N := 3) (own := RJ5) hx hb hts in_J5 hown hK hG hvc_1 rfl (by decide) (hts _ q182) (fun _ h9 => h9) dJ5_pollFirst_7 (fun x2 hvc_3 => ?_)
  clear hvc_1
  refine lv_dup hx hb dJ5_pollFirst_10 rfl ?_
  refine lv_istore_n (lv' := [(2, .int x2), (1, .ref x1), (0, .ref o)]) hx hb dJ5_pollFirst_11 rfl hl_2 (by decide) rfl (fun ls hl_4 => ?_)
  clear hl_2
  refine gw_cSQP (As := [.ref x1, .int x2]) (rest := [])  ⟨hx, hb, hml, hown, hts⟩ (met_J5_elementAt l E G x1 x2 _ hvc_3) (va_cwS 2 hts (lw_S q382 q383 q96 q384) rfl rfl rfl (by decide +kernel) ⟨Nat.le_of_ble_eq_true rfl, Nat.le_of_ble_eq_true rfl⟩) (Nat.zero_le _) (Nat.zero_le _) (g_St0 E) hz trivial hK hG hS rfl hl_4.1 rfl (Nat.le_of_ble_eq_true rfl) dJ5_pollFirst_12 (fun x3 H locs hvc_5 hG_6 hS_7 => ?_)
  clear hvc_3 hG hS
  refine gq_astore_n (lv' := [(3, va_rf x3), (2, .int x2), (1, .ref x1), (0, .ref o)]) hx hb dJ5_pollFirst_15 rfl hl_4 (by decide) rfl (fun ls hl_8 => ?_)
  clear hl_4
  refine gq_aload_n hx hb dJ5_pollFirst_16 rfl (lv_at hl_8 0 rfl) ?_
  refine gq_ifnull (o := x3) (tgt := 34) hx hb dJ5_pollFirst_17 (by decide) (fun h9 => ?_) (fun h9 => ?_)
  · replace hvc_5 := hvc_5.1 h9
    refine gq_aload_n hx hb dJ5_pollFirst_34 rfl (lv_at hl_8 0 rfl) ?_
    exact g_aret (v := x3) hx hb hr (Or.inl ⟨_, rfl⟩) hlocks (Nat.zero_le _) (Nat.zero_le _) hG_6 hS_7 hvc_5 dJ5_pollFirst_35
  · replace hvc_5 := hvc_5.2 h9
    refine lv_aload_n hx hb dJ5_pollFirst_20 rfl (lv_at hl_8 2 rfl) ?_
    refine lv_iload_n hx hb dJ5_pollFirst_21 rfl (lv_at hl_8 1 rfl) ?_
    refine lv_null hx hb dJ5_pollFirst_22 ?_
    refine gw_qst (v := none) hx hb hK hG_6 hX hS_7 hvc_5 dJ5_pollFirst_23 (fun G5 H locs hvc_9 hG_10 hS_11 => ?_)
    clear hvc_5 hG_6 hS_7
    refine lv_aload_n hx hb dJ5_pollFirst_24 rfl (lv_at hl_8 3 rfl) ?_
    refine lv_iload_n hx hb dJ5_pollFirst_25 rfl (lv_at hl_8 1 rfl) ?_
    refine lv_aload_n hx hb dJ5_pollFirst_26 rfl (lv_at hl_8 2 rfl) ?_
    refine gw_alenX hx hb hK hG_10 hX hS_11 hvc_9 dJ5_pollFirst_27 (fun x6 hvc_12 => ?_)
    clear hvc_9
    refine gw_cSIP (As := [.int x2, .int x6]) (rest := [.ref o])  ⟨hx, hb, hml, hown, hts⟩ (met_J5_inc l E G5 x2 x6 _ hvc_12) (va_cwS 2 hts (lw_S q385 q386 q96 q387) rfl rfl rfl (by decide +kernel) ⟨Nat.le_of_ble_eq_true rfl, Nat.le_of_ble_eq_true rfl⟩) (Nat.zero_le _) (Nat.zero_le _) (g_St0 E) hz trivial hK hG_10 hS_11 rfl hl_8.1 rfl (Nat.le_of_ble_eq_true rfl) dJ5_pollFirst_28 (fun x7 H locs hvc_13 hG_14 hS_15 => ?_)
    clear hvc_12 hG_10 hS_11
    refine gw_put (ty := .int) (C := RJ5) (T := TJ5) (N := 3) (own := RJ5) hx hb hts in_J5 tyJ5 tyJ5_ok nmJ5 hown hK hG_14 hS_15 hvc_13 rfl (by decide) (hts _ q182) (fun _ h9 => h9) rfl (by decide +kernel) rfl rfl dJ5_pollFirst_31 (fun G9 H locs hvc_16 hG_17 hS_18 => ?_)
    clear hvc_13 hG_14 hS_15
    refine gq_aload_n hx hb dJ5_pollFirst_34 rfl (lv_at hl_8 0 rfl) ?_
    exact g_aret (v := x3) hx hb hr (Or.inl ⟨_, rfl⟩) hlocks (Nat.zero_le _) (Nat.zero_le _) hG_17 hS_18 hvc_16 dJ5_pollFirst_35
set_option maxHeartbeats 4000000 in
set_option maxRecDepth 100000 in
theorem met_J5_removeFirst (l : Launch) (E : g_E) (G : g_G) (o : Nat) (mc0 ms0 : Nat) (post : Option Nat → g_G → Prop) (hvc : wp_J5_removeFirst E G o mc0 ms0 post) : g_MQ E l yJ5_removeFirst (ws_ yJ5_removeFirst cJ5_removeFirst 2 (Option.some (Jvm.ClassFile.FieldType.object "java/lang/Object"))) ({ frames := 2, cells := mc0, slots := ms0, locals := 44 } : Room) (g_X E) [.ref o] G (post) := by
  refine g_enter (by decide +kernel) (Nat.le_of_ble_eq_true rfl) ?_
  intro p e s m below meth c ls hx hb hr hts hown hlocks hml hin hz hX hK hG hS hl
  have hl : lv_has ls 2 [(0, .ref o)] := hl
  have hown : s.vm.findClass RJ5 = some m.cls := hown
  have hMC : 0 + mc0 ≤ mc0 := Nat.le_of_eq (Nat.zero_add _)
  have hMS : 0 + ms0 ≤ ms0 := Nat.le_of_eq (Nat.zero_add _)
  unfold wp_J5_removeFirst at hvc
  refine lv_aload_n hx hb dJ5_removeFirst_0 rfl (lv_at hl 0 rfl) ?_
  refine gw_cVQN (As := []) (rest := [])  ⟨hx, hb, hml, hown, hts⟩ (met_J5_pollFirst l E G o _ hvc.2) (cwV 0 hts (lw_V q378 q379 q380 q96 q381) rfl rfl rfl (by decide +kernel) ⟨Nat.le_of_ble_eq_true rfl, Nat.le_of_ble_eq_true rfl⟩) (gw_rc (q := (RJ5, TJ5, 3)) hK hG hvc.1 rfl) (by show _ ≤ mc0; omega) (by show _ ≤ ms0; omega) (g_X.st E) hz hX hK hG hS rfl hl.1 rfl (Nat.le_of_ble_eq_true rfl) dJ5_removeFirst_1 (fun x1 G2 H locs hvc_1 hG_2 hS_3 => ?_)
  clear hvc hG hS
  refine gq_astore_n (lv' := [(1, va_rf x1), (0, .ref o)]) hx hb dJ5_removeFirst_4 rfl hl (by decide) rfl (fun ls hl_4 => ?_)
  clear hl
  refine gq_aload_n hx hb dJ5_removeFirst_5 rfl (lv_at hl_4 0 rfl) ?_
  refine gq_ifnonnull (o := x1) (tgt := 17) hx hb dJ5_removeFirst_6 (by decide) (fun h9 => ?_) (fun h9 => ?_)
  · replace hvc_1 := hvc_1.1 h9
    refine gq_aload_n hx hb dJ5_removeFirst_17 rfl (lv_at hl_4 0 rfl) ?_
    exact g_aret (v := x1) hx hb hr (Or.inl ⟨_, rfl⟩) hlocks (by show _ ≤ mc0; omega) (by show _ ≤ ms0; omega) hG_2 hS_3 hvc_1 dJ5_removeFirst_18
  · replace hvc_1 := hvc_1.2 h9
    exact False.elim hvc_1
set_option maxHeartbeats 4000000 in
set_option maxRecDepth 100000 in
theorem met_J5_newCapacity (l : Launch) (E : g_E) (G : g_G) (o : Nat) (p1 : Int32) (p2 : Int32) (mc0 ms0 : Nat) (post : Int32 → g_G → Prop) (hvc : wp_J5_newCapacity E G o p1 p2 mc0 ms0 post) : g_MI E l yJ5_newCapacity (ws_ yJ5_newCapacity cJ5_newCapacity 5 (Option.some Jvm.ClassFile.FieldType.int)) ({ frames := 5, cells := mc0, slots := ms0, locals := 96 } : Room) (g_X E) [.ref o, .int p1, .int p2] G (post) := by
  refine g_enter (by decide +kernel) (Nat.le_of_ble_eq_true rfl) ?_
  intro p e s m below meth c ls hx hb hr hts hown hlocks hml hin hz hX hK hG hS hl
  have hl : lv_has ls 5 [(0, .ref o), (1, .int p1), (2, .int p2)] := hl
  have hown : s.vm.findClass RJ5 = some m.cls := hown
  have hMC : 0 + mc0 ≤ mc0 := Nat.le_of_eq (Nat.zero_add _)
  have hMS : 0 + ms0 ≤ ms0 := Nat.le_of_eq (Nat.zero_add _)
  unfold wp_J5_newCapacity at hvc
  refine lv_aload_n hx hb dJ5_newCapacity_0 rfl (lv_at hl 0 rfl) ?_
  refine gw_gr (C := RJ5) (T := TJ5) (N := 3) (own := RJ5) hx hb hts in_J5 hown hK hG hvc rfl (by decide) (hts _ q181) (fun _ h9 => h9) dJ5_newCapacity_1 (fun x1 hvc_1 => ?_)
  clear hvc
  refine gw_alenX hx hb hK hG hX hS hvc_1 dJ5_newCapacity_4 (fun x2 hvc_2 => ?_)
  clear hvc_1
  refine lv_istore_n (lv' := [(3, .int x2), (0, .ref o), (1, .int p1), (2, .int p2)]) hx hb dJ5_newCapacity_5 rfl hl (by decide) rfl (fun ls hl_3 => ?_)
  clear hl
  refine lv_iload_n hx hb dJ5_newCapacity_6 rfl (lv_at hl_3 0 rfl) ?_
  refine lv_iload_n hx hb dJ5_newCapacity_7 rfl (lv_at hl_3 2 rfl) ?_
  refine lv_iadd hx hb dJ5_newCapacity_8 ?_
  refine lv_dup hx hb dJ5_newCapacity_9 rfl ?_
  refine lv_istore (lv' := [(4, .int (x2 + p1)), (3, .int x2), (0, .ref o), (1, .int p1), (2, .int p2)]) hx hb dJ5_newCapacity_10 hl_3 (by decide) rfl (fun ls hl_4 => ?_)
  clear hl_3
  refine lv_ldc (v := nI 2147483639) hx hb hown (by exact hts _ q767) dJ5_newCapacity_12 ?_
  refine lv_isub hx hb dJ5_newCapacity_14 ?_
  refine lv_if_le (tgt := 36) hx hb dJ5_newCapacity_15 (by decide) (fun h9 => ?_) (fun h9 => ?_)
  · replace hvc_2 := hvc_2.1 h9
    refine lv_iload_n hx hb dJ5_newCapacity_36 rfl (lv_at hl_4 3 rfl) ?_
    refine lv_iload_n hx hb dJ5_newCapacity_37 rfl (lv_at hl_4 4 rfl) ?_
    refine lv_icmp_le (tgt := 44) hx hb dJ5_newCapacity_38 (by decide) (fun h9 => ?_) (fun h9 => ?_)
    · replace hvc_2 := hvc_2.1 h9
      refine lv_iload_n hx hb dJ5_newCapacity_44 rfl (lv_at hl_4 1 rfl) ?_
      refine lv_iload_n hx hb dJ5_newCapacity_45 rfl (lv_at hl_4 4 rfl) ?_
      refine lv_iadd hx hb dJ5_newCapacity_46 ?_
      refine lv_ldc (v := nI 2147483639) hx hb hown (by exact hts _ q767) dJ5_newCapacity_47 ?_
      refine lv_isub hx hb dJ5_newCapacity_49 ?_
      refine lv_if_ge (tgt := 59) hx hb dJ5_newCapacity_50 (by decide) (fun h9 => ?_) (fun h9 => ?_)
      · replace hvc_2 := hvc_2.1 h9
        refine lv_ldc (v := nI 2147483639) hx hb hown (by exact hts _ q767) dJ5_newCapacity_59 ?_
        exact g_iret hx hb hr hlocks (by show _ ≤ mc0; omega) (by show _ ≤ ms0; omega) hG hS rfl hvc_2 dJ5_newCapacity_61
      · replace hvc_2 := hvc_2.2 h9
        refine lv_iload_n hx hb dJ5_newCapacity_53 rfl (lv_at hl_4 1 rfl) ?_
        refine lv_iload_n hx hb dJ5_newCapacity_54 rfl (lv_at hl_4 4 rfl) ?_
        refine lv_iadd hx hb dJ5_newCapacity_55 ?_
        refine lv_goto (tgt := 61) hx hb dJ5_newCapacity_56 (by decide) ?_
        exact g_iret hx hb hr hlocks (by show _ ≤ mc0; omega) (by show _ ≤ ms0; omega) hG hS rfl hvc_2 dJ5_newCapacity_61
    · replace hvc_2 := hvc_2.2 h9
      refine lv_iload hx hb dJ5_newCapacity_41 (lv_at hl_4 0 rfl) ?_
      exact g_iret hx hb hr hlocks (by show _ ≤ mc0; omega) (by show _ ≤ ms0; omega) hG hS rfl hvc_2 dJ5_newCapacity_43
  · replace hvc_2 := hvc_2.2 h9
    refine lv_iload hx hb dJ5_newCapacity_18 (lv_at hl_4 0 rfl) ?_
    refine lv_if_ge (tgt := 33) hx hb dJ5_newCapacity_20 (by decide) (fun h9 => ?_) (fun h9 => ?_)
    · replace hvc_2 := hvc_2.1 h9
      refine lv_ldc (v := nI 2147483647) hx hb hown (by exact hts _ q788) dJ5_newCapacity_33 ?_
      exact g_iret hx hb hr hlocks (by show _ ≤ mc0; omega) (by show _ ≤ ms0; omega) hG hS rfl hvc_2 dJ5_newCapacity_35
    · replace hvc_2 := hvc_2.2 h9
      exact False.elim hvc_2
set_option maxHeartbeats 4000000 in
set_option maxRecDepth 100000 in
theorem met_J5_grow (l : Launch) (E : g_E) (G : g_G) (o : Nat) (p1 : Int32) (mc0 ms0 : Nat) (post : g_G → Prop) (hvc : wp_J5_grow E G o p1 mc0 ms0 post) : g_MV E l yJ5_grow (ws_ yJ5_grow cJ5_grow 9 (Option.none : Option Jvm.ClassFile.FieldType)) ({ frames := 6, cells := mc0, slots := ms0, locals := 120 } : Room) (g_X E) [.ref o, .int p1] G (post) := by
  refine g_enter (by decide +kernel) (Nat.le_of_ble_eq_true rfl) ?_
  intro p e s m below meth c ls hx hb hr hts hown hlocks hml hin hz hX hK hG hS hl
  have hl : lv_has ls 9 [(0, .ref o), (1, .int p1)] := hl
  have hown : s.vm.findClass RJ5 = some m.cls := hown
  have hMC : 0 + mc0 ≤ mc0 := Nat.le_of_eq (Nat.zero_add _)
  have hMS : 0 + ms0 ≤ ms0 := Nat.le_of_eq (Nat.zero_add _)
  unfold wp_J5_grow at hvc
  refine lv_aload_n hx hb dJ5_grow_0 rfl (lv_at hl 0 rfl) ?_
  refine gw_gr (C := RJ5) (T := TJ5) (N := 3) (own := RJ5) hx hb hts in_J5 hown hK hG hvc rfl (by decide) (hts _ q181) (fun _ h9 => h9) dJ5_grow_1 (fun x1 hvc_1 => ?_)
  clear hvc
  refine gw_alenX hx hb hK hG hX hS hvc_1 dJ5_grow_4 (fun x2 hvc_2 => ?_)
  clear hvc_1
  refine lv_istore_n (lv' := [(2, .int x2), (0, .ref o), (1, .int p1)]) hx hb dJ5_grow_5 rfl hl (by decide) rfl (fun ls hl_3 => ?_)
  clear hl
  refine lv_iload_n hx hb dJ5_grow_6 rfl (lv_at hl_3 0 rfl) ?_
  refine lv_bipush (v := nI 64) hx hb dJ5_grow_7 (by decide) ?_
  have jn21 : ∀ (y0 : Nat) (y1 : Int32) (y2 : Int32) (s0 : Int32) (G : g_G) (mc : Nat) (ms : Nat) (H : Heap) (locs : List Loc) (ls : Array Slot) (ce sl : Nat), wp_J5_grow_21 E post y0 y1 y2 s0 G mc ms → g_H E G H → va_S (g_A E) s.heap H locs → lv_has ls 9 [(0, .ref y0), (1, .int y1), (2, .int y2)] → ce + mc ≤ mc0 → sl + ms ≤ ms0 → W p l e ({ frames := 6, cells := mc0, slots := ms0, locals := 120 } : Room) s m ([.ref o, .int p1] : List Value).toArray below meth c H locs ce sl (MQ below (va_Qv (post) (g_Bk E) (g_A E)) ([.ref o, .int p1] : List Value).toArray s mc0 ms0 (g_A E)) (F0 m 21 ls [.int s0]) := by
    clear hvc_2 hG hS hl_3 hMC hMS
    intro y0 y1 y2 s0 G mc ms H locs ls ce sl hvc_4 hG_5 hS_6 hl_7 hMC_8 hMS_9
    refine lv_istore (lv' := [(4, .int s0), (0, .ref y0), (1, .int y1), (2, .int y2)]) hx hb dJ5_grow_21 hl_7 (by decide) rfl (fun ls hl_10 => ?_)
    clear hl_7
    refine lv_iload hx hb dJ5_grow_23 (lv_at hl_10 0 rfl) ?_
    refine lv_iload_n hx hb dJ5_grow_25 rfl (lv_at hl_10 2 rfl) ?_
    have jn49 : ∀ (y0 : Nat) (y2 : Int32) (y3 : Int32) (G : g_G) (mc : Nat) (ms : Nat) (H : Heap) (locs : List Loc) (ls : Array Slot) (ce sl : Nat), wp_J5_grow_49 E post y0 y2 y3 G mc ms → g_H E G H → va_S (g_A E) s.heap H locs → lv_has ls 9 [(0, .ref y0), (2, .int y2), (3, .int y3)] → ce + mc ≤ mc0 → sl + ms ≤ ms0 → W p l e ({ frames := 6, cells := mc0, slots := ms0, locals := 120 } : Room) s m ([.ref o, .int p1] : List Value).toArray below meth c H locs ce sl (MQ below (va_Qv (post) (g_Bk E) (g_A E)) ([.ref o, .int p1] : List Value).toArray s mc0 ms0 (g_A E)) (F0 m 49 ls []) := by
      clear hvc_4 hG_5 hS_6 hl_10 hMC_8 hMS_9
      intro y0 y2 y3 G mc ms H locs ls ce sl hvc_11 hG_12 hS_13 hl_14 hMC_15 hMS_16
      refine lv_aload_n hx hb dJ5_grow_49 rfl (lv_at hl_14 0 rfl) ?_
      refine lv_aload_n hx hb dJ5_grow_50 rfl (lv_at hl_14 0 rfl) ?_
      refine gw_gr (C := RJ5) (T := TJ5) (N := 3) (own := RJ5) hx hb hts in_J5 hown hK hG_12 hvc_11 rfl (by decide) (hts _ q181) (fun _ h9 => h9) dJ5_grow_51 (fun x3 hvc_17 => ?_)
      clear hvc_11
      refine lv_iload_n hx hb dJ5_grow_54 rfl (lv_at hl_14 2 rfl) ?_
      obtain ⟨c6, t7, hc1, hs1, hvc_17⟩ := hvc_17
      refine gw_cSQA (As := [.ref x3, .int y3]) (rest := [.ref y0])  ⟨hx, hb, hml, hown, hts⟩ (met_J10_copyOf l E G x3 y3 c6 t7 _ hvc_17) (va_cwS 2 hts (lw_S q789 q256 q102 q257) rfl rfl rfl (by decide +kernel) ⟨Nat.le_of_ble_eq_true rfl, Nat.le_of_ble_eq_true rfl⟩) hc1 hs1 hMC_15 hMS_16 (Nat.le_refl _) (Nat.le_refl _) (g_X.st E) hz hX hK hG_12 hS_13 rfl hl_14.1 rfl (Nat.le_of_ble_eq_true rfl) dJ5_grow_55 (fun x4 G5 H locs ce sl hvc_18 hG_19 hS_20 hMC_21 hMS_22 => ?_)
      clear hvc_17 hG_12 hS_13 hMC_15 hMS_16
      refine lv_dup_x1 hx hb dJ5_grow_58 (g_catq _) rfl ?_
      obtain ⟨z8, rfl, hvc_18⟩ := hvc_18
      refine gw_put (ty := .array (.object "java/lang/Object")) (C := RJ5) (T := TJ5) (N := 3) (own := RJ5) hx hb hts in_J5 tyJ5 tyJ5_ok nmJ5 hown hK hG_19 hS_20 hvc_18 rfl (by decide) (hts _ q181) (fun _ h9 => h9) rfl (by decide +kernel) rfl rfl dJ5_grow_59 (fun G9 H locs hvc_23 hG_24 hS_25 => ?_)
      clear hvc_18 hG_19 hS_20
      refine lv_astore (lv' := [(5, .ref z8), (0, .ref y0), (2, .int y2), (3, .int y3)]) hx hb dJ5_grow_62 hl_14 (by decide) rfl (fun ls hl_26 => ?_)
      clear hl_14
      refine lv_aload_n hx hb dJ5_grow_64 rfl (lv_at hl_26 1 rfl) ?_
      refine gw_gi (C := RJ5) (T := TJ5) (N := 3) (own := RJ5) hx hb hts in_J5 hown hK hG_24 hvc_23 rfl (by decide) (hts _ q183) (fun _ h9 => h9) dJ5_grow_65 (fun x10 hvc_27 => ?_)
      clear hvc_23
      refine lv_aload_n hx hb dJ5_grow_68 rfl (lv_at hl_26 1 rfl) ?_
      refine gw_gi (C := RJ5) (T := TJ5) (N := 3) (own := RJ5) hx hb hts in_J5 hown hK hG_24 hvc_27 rfl (by decide) (hts _ q182) (fun _ h9 => h9) dJ5_grow_69 (fun x11 hvc_28 => ?_)
      clear hvc_27
      have jn96 : ∀ (y0 : Nat) (y2 : Int32) (y3 : Int32) (y5 : Option Nat) (G : g_G) (mc : Nat) (ms : Nat) (H : Heap) (locs : List Loc) (ls : Array Slot) (ce sl : Nat), wp_J5_grow_96 E post y0 y2 y3 y5 G mc ms → g_H E G H → va_S (g_A E) s.heap H locs → lv_has ls 9 [(0, .ref y0), (2, .int y2), (3, .int y3), (5, va_rf y5)] → ce + mc ≤ mc0 → sl + ms ≤ ms0 → W p l e ({ frames := 6, cells := mc0, slots := ms0, locals := 120 } : Room) s m ([.ref o, .int p1] : List Value).toArray below meth c H locs ce sl (MQ below (va_Qv (post) (g_Bk E) (g_A E)) ([.ref o, .int p1] : List Value).toArray s mc0 ms0 (g_A E)) (F0 m 96 ls []) := by
        clear hvc_28 hG_24 hS_25 hl_26 hMC_21 hMS_22
        intro y0 y2 y3 y5 G mc ms H locs ls ce sl hvc_29 hG_30 hS_31 hl_32 hMC_33 hMS_34
        refine lv_iload_n hx hb dJ5_grow_96 rfl (lv_at hl_32 2 rfl) ?_
        refine lv_iload_n hx hb dJ5_grow_97 rfl (lv_at hl_32 1 rfl) ?_
        refine lv_isub hx hb dJ5_grow_98 ?_
        refine lv_istore (lv' := [(6, .int (y3 - y2)), (0, .ref y0), (2, .int y2), (3, .int y3), (5, va_rf y5)]) hx hb dJ5_grow_99 hl_32 (by decide) (by cases y5 <;> rfl) (fun ls hl_35 => ?_)
        clear hl_32
        refine gq_aload hx hb dJ5_grow_101 (lv_at hl_35 4 rfl) ?_
        refine lv_aload_n hx hb dJ5_grow_103 rfl (lv_at hl_35 1 rfl) ?_
        refine gw_gi (C := RJ5) (T := TJ5) (N := 3) (own := RJ5) hx hb hts in_J5 hown hK hG_30 hvc_29 rfl (by decide) (hts _ q182) (fun _ h9 => h9) dJ5_grow_104 (fun x12 hvc_36 => ?_)
        clear hvc_29
        refine gq_aload hx hb dJ5_grow_107 (lv_at hl_35 4 rfl) ?_
        refine lv_aload_n hx hb dJ5_grow_109 rfl (lv_at hl_35 1 rfl) ?_
        refine gw_gi (C := RJ5) (T := TJ5) (N := 3) (own := RJ5) hx hb hts in_J5 hown hK hG_30 hvc_36 rfl (by decide) (hts _ q182) (fun _ h9 => h9) dJ5_grow_110 (fun x13 hvc_37 => ?_)
        clear hvc_36
        refine lv_iload hx hb dJ5_grow_113 (lv_at hl_35 0 rfl) ?_
        refine lv_iadd hx hb dJ5_grow_115 ?_
        refine lv_iload_n hx hb dJ5_grow_116 rfl (lv_at hl_35 2 rfl) ?_
        refine lv_aload_n hx hb dJ5_grow_117 rfl (lv_at hl_35 1 rfl) ?_
        refine gw_gi (C := RJ5) (T := TJ5) (N := 3) (own := RJ5) hx hb hts in_J5 hown hK hG_30 hvc_37 rfl (by decide) (hts _ q182) (fun _ h9 => h9) dJ5_grow_118 (fun x14 hvc_38 => ?_)
        clear hvc_37
        refine lv_isub hx hb dJ5_grow_121 ?_
        obtain ⟨z15, rfl, hvc_38⟩ := hvc_38
        refine gw_copyq hx hb (by rw [hml]; exact hl_35.1.symm) hown (hts _ q679) (hts _ q298) (hts _ q297) (hts _ q103) hX hK hG_30 hS_31 hvc_38 (Nat.le_of_ble_eq_true rfl) (Nat.le_of_ble_eq_true rfl) dJ5_grow_122 (fun G16 H locs hvc_39 hG_40 hS_41 => ?_)
        clear hvc_38 hG_30 hS_31
        refine lv_aload_n hx hb dJ5_grow_125 rfl (lv_at hl_35 1 rfl) ?_
        refine gw_gi (C := RJ5) (T := TJ5) (N := 3) (own := RJ5) hx hb hts in_J5 hown hK hG_40 hvc_39 rfl (by decide) (hts _ q182) (fun _ h9 => h9) dJ5_grow_126 (fun x17 hvc_42 => ?_)
        clear hvc_39
        refine lv_istore (lv' := [(7, .int x17), (6, .int (y3 - y2)), (0, .ref y0), (2, .int y2), (3, .int y3), (5, .ref z15)]) hx hb dJ5_grow_129 hl_35 (by decide) rfl (fun ls hl_43 => ?_)
        clear hl_35
        refine lv_aload_n hx hb dJ5_grow_131 rfl (lv_at hl_43 2 rfl) ?_
        refine lv_dup hx hb dJ5_grow_132 rfl ?_
        refine gw_gi (C := RJ5) (T := TJ5) (N := 3) (own := RJ5) hx hb hts in_J5 hown hK hG_40 hvc_42 rfl (by decide) (hts _ q182) (fun _ h9 => h9) dJ5_grow_133 (fun x18 hvc_44 => ?_)
        clear hvc_42
        refine lv_iload hx hb dJ5_grow_136 (lv_at hl_43 1 rfl) ?_
        refine lv_iadd hx hb dJ5_grow_138 ?_
        refine lv_dup_x1 hx hb dJ5_grow_139 rfl rfl ?_
        refine gw_put (ty := .int) (C := RJ5) (T := TJ5) (N := 3) (own := RJ5) hx hb hts in_J5 tyJ5 tyJ5_ok nmJ5 hown hK hG_40 hS_41 hvc_44 rfl (by decide) (hts _ q182) (fun _ h9 => h9) rfl (by decide +kernel) rfl rfl dJ5_grow_140 (fun G19 H locs hvc_45 hG_46 hS_47 => ?_)
        clear hvc_44 hG_40 hS_41
        have lp145 : ∀ (n145 : Nat) (y5 : Option Nat) (y7 : Int32) (y8 : Int32) (G : g_G) (mc : Nat) (ms : Nat) (H : Heap) (locs : List Loc) (ls : Array Slot) (ce sl : Nat), wp_J5_grow_145 E post n145 y5 y7 y8 G mc ms → g_H E G H → va_S (g_A E) s.heap H locs → lv_has ls 9 [(5, va_rf y5), (7, .int y7), (8, .int y8)] → ce + mc ≤ mc0 → sl + ms ≤ ms0 → W p l e ({ frames := 6, cells := mc0, slots := ms0, locals := 120 } : Room) s m ([.ref o, .int p1] : List Value).toArray below meth c H locs ce sl (MQ below (va_Qv (post) (g_Bk E) (g_A E)) ([.ref o, .int p1] : List Value).toArray s mc0 ms0 (g_A E)) (F0 m 145 ls []) := by
          clear hvc_45 hG_46 hS_47 hl_43 hMC_33 hMS_34
          intro n145
          induction n145 with
          | zero =>
            intro y5 y7 y8 G mc ms H locs ls ce sl hvc_48 hG_49 hS_50 hl_51 hMC_52 hMS_53
            exact False.elim hvc_48
          | succ n145 ih145 =>
            intro y5 y7 y8 G mc ms H locs ls ce sl hvc_54 hG_55 hS_56 hl_57 hMC_58 hMS_59
            refine lv_iload hx hb dJ5_grow_145 (lv_at hl_57 1 rfl) ?_
            refine lv_iload hx hb dJ5_grow_147 (lv_at hl_57 2 rfl) ?_
            refine lv_icmp_ge (tgt := 164) hx hb dJ5_grow_149 (by decide) (fun h9 => ?_) (fun h9 => ?_)
            · replace hvc_54 := hvc_54.1 h9
              exact g_vret hx hb hr hlocks (by show _ ≤ mc0; omega) (by show _ ≤ ms0; omega) hG_55 hS_56 hvc_54 dJ5_grow_164
            · replace hvc_54 := hvc_54.2 h9
              refine gq_aload hx hb dJ5_grow_152 (lv_at hl_57 0 rfl) ?_
              refine lv_iload hx hb dJ5_grow_154 (lv_at hl_57 1 rfl) ?_
              refine lv_null hx hb dJ5_grow_156 ?_
              obtain ⟨z20, rfl, hvc_54⟩ := hvc_54
              refine gw_qst (v := none) hx hb hK hG_55 hX hS_56 hvc_54 dJ5_grow_157 (fun G21 H locs hvc_60 hG_61 hS_62 => ?_)
              clear hvc_54 hG_55 hS_56
              refine lv_iinc (k := 1) (v := y7 + (nI 1)) (lv' := [(7, .int (y7 + (nI 1))), (5, .ref z20), (8, .int y8)]) hx hb dJ5_grow_158 hl_57 rfl (congrArg (y7 + ·) (by decide : Int32.ofInt (1) = nI 1)) (by decide) rfl (fun ls hl_63 => ?_)
              clear hl_57
              refine lv_goto (tgt := 145) hx hb dJ5_grow_161 (by decide) ?_
              exact ih145 (some z20) (y7 + (nI 1)) y8 G21 mc ms _ _ _ _ _ hvc_60 hG_61 hS_62 (lv_sub hl_63 [1, 0, 2] rfl) hMC_58 hMS_59
        refine lv_istore (lv' := [(8, .int (x18 + (y3 - y2))), (7, .int x17), (6, .int (y3 - y2)), (0, .ref y0), (2, .int y2), (3, .int y3), (5, .ref z15)]) hx hb dJ5_grow_143 hl_43 (by decide) rfl (fun ls hl_64 => ?_)
        clear hl_43
        obtain ⟨nf145, hvc_45⟩ := hvc_45
        exact lp145 nf145 (some z15) x17 (x18 + (y3 - y2)) G19 mc ms _ _ _ _ _ hvc_45 hG_46 hS_47 (lv_sub hl_64 [6, 1, 0] rfl) hMC_33 hMS_34
      refine lv_icmp_lt (tgt := 96) hx hb dJ5_grow_72 (by decide) (fun h9 => ?_) (fun h9 => ?_)
      · replace hvc_28 := hvc_28.1 h9
        exact jn96 y0 y2 y3 (some z8) G9 (mc - c6) (ms - t7) _ _ _ _ _ hvc_28 hG_24 hS_25 (lv_sub hl_26 [1, 2, 3, 0] rfl) hMC_21 hMS_22
      · replace hvc_28 := hvc_28.2 h9
        refine lv_aload_n hx hb dJ5_grow_75 rfl (lv_at hl_26 1 rfl) ?_
        refine gw_gi (C := RJ5) (T := TJ5) (N := 3) (own := RJ5) hx hb hts in_J5 hown hK hG_24 hvc_28 rfl (by decide) (hts _ q183) (fun _ h9 => h9) dJ5_grow_76 (fun x22 hvc_65 => ?_)
        clear hvc_28
        refine lv_aload_n hx hb dJ5_grow_79 rfl (lv_at hl_26 1 rfl) ?_
        refine gw_gi (C := RJ5) (T := TJ5) (N := 3) (own := RJ5) hx hb hts in_J5 hown hK hG_24 hvc_65 rfl (by decide) (hts _ q182) (fun _ h9 => h9) dJ5_grow_80 (fun x23 hvc_66 => ?_)
        clear hvc_65
        refine lv_icmp_ne (tgt := 164) hx hb dJ5_grow_83 (by decide) (fun h9 => ?_) (fun h9 => ?_)
        · replace hvc_66 := hvc_66.1 h9
          exact g_vret hx hb hr hlocks (by show _ ≤ mc0; omega) (by show _ ≤ ms0; omega) hG_24 hS_25 hvc_66 dJ5_grow_164
        · replace hvc_66 := hvc_66.2 h9
          refine lv_aload hx hb dJ5_grow_86 (lv_at hl_26 0 rfl) ?_
          refine lv_aload_n hx hb dJ5_grow_88 rfl (lv_at hl_26 1 rfl) ?_
          refine gw_gi (C := RJ5) (T := TJ5) (N := 3) (own := RJ5) hx hb hts in_J5 hown hK hG_24 hvc_66 rfl (by decide) (hts _ q182) (fun _ h9 => h9) dJ5_grow_89 (fun x24 hvc_67 => ?_)
          clear hvc_66
          refine gw_qld hx hb hK hG_24 hvc_67 dJ5_grow_92 (fun x25 hvc_68 => ?_)
          clear hvc_67
          refine gq_ifnull (o := x25) (tgt := 164) hx hb dJ5_grow_93 (by decide) (fun h9 => ?_) (fun h9 => ?_)
          · replace hvc_68 := hvc_68.1 h9
            exact g_vret hx hb hr hlocks (by show _ ≤ mc0; omega) (by show _ ≤ ms0; omega) hG_24 hS_25 hvc_68 dJ5_grow_164
          · replace hvc_68 := hvc_68.2 h9
            exact jn96 y0 y2 y3 (some z8) G9 (mc - c6) (ms - t7) _ _ _ _ _ hvc_68 hG_24 hS_25 (lv_sub hl_26 [1, 2, 3, 0] rfl) hMC_21 hMS_22
    have jn41 : ∀ (y0 : Nat) (y1 : Int32) (y2 : Int32) (y4 : Int32) (G : g_G) (mc : Nat) (ms : Nat) (H : Heap) (locs : List Loc) (ls : Array Slot) (ce sl : Nat), wp_J5_grow_41 E post (wp_J5_grow_49 E post) y0 y1 y2 y4 G mc ms → g_H E G H → va_S (g_A E) s.heap H locs → lv_has ls 9 [(0, .ref y0), (1, .int y1), (2, .int y2), (4, .int y4)] → ce + mc ≤ mc0 → sl + ms ≤ ms0 → W p l e ({ frames := 6, cells := mc0, slots := ms0, locals := 120 } : Room) s m ([.ref o, .int p1] : List Value).toArray below meth c H locs ce sl (MQ below (va_Qv (post) (g_Bk E) (g_A E)) ([.ref o, .int p1] : List Value).toArray s mc0 ms0 (g_A E)) (F0 m 41 ls []) := by
      clear hvc_4 hG_5 hS_6 hl_10 hMC_8 hMS_9
      intro y0 y1 y2 y4 G mc ms H locs ls ce sl hvc_69 hG_70 hS_71 hl_72 hMC_73 hMS_74
      refine lv_aload_n hx hb dJ5_grow_41 rfl (lv_at hl_72 0 rfl) ?_
      refine lv_iload_n hx hb dJ5_grow_42 rfl (lv_at hl_72 1 rfl) ?_
      refine lv_iload hx hb dJ5_grow_43 (lv_at hl_72 3 rfl) ?_
      obtain ⟨c28, t29, hc1, hs1, hvc_69⟩ := hvc_69
      refine gw_cVIA (As := [.int y1, .int y4]) (rest := [])  ⟨hx, hb, hml, hown, hts⟩ (met_J5_newCapacity l E G y0 y1 y4 c28 t29 _ hvc_69.2) (cwV 2 hts (lw_V q768 q770 qs7 q96 q771) rfl rfl rfl (by decide +kernel) ⟨Nat.le_of_ble_eq_true rfl, Nat.le_of_ble_eq_true rfl⟩) (gw_rc (q := (RJ5, TJ5, 3)) hK hG_70 hvc_69.1 rfl) hc1 hs1 hMC_73 hMS_74 (Nat.le_refl _) (Nat.le_refl _) (g_X.st E) hz hX hK hG_70 hS_71 rfl hl_72.1 rfl (Nat.le_of_ble_eq_true rfl) dJ5_grow_45 (fun x26 G27 H locs ce sl hvc_75 hG_76 hS_77 hMC_78 hMS_79 => ?_)
      clear hvc_69 hG_70 hS_71 hMC_73 hMS_74
      refine lv_istore_n (lv' := [(3, .int x26), (0, .ref y0), (1, .int y1), (2, .int y2), (4, .int y4)]) hx hb dJ5_grow_48 rfl hl_72 (by decide) rfl (fun ls hl_80 => ?_)
      clear hl_72
      exact jn49 y0 y2 x26 G27 (mc - c28) (ms - t29) _ _ _ _ _ hvc_75 hG_76 hS_77 (lv_sub hl_80 [1, 3, 0] rfl) hMC_78 hMS_79
    refine lv_icmp_lt (tgt := 41) hx hb dJ5_grow_26 (by decide) (fun h9 => ?_) (fun h9 => ?_)
    · replace hvc_4 := hvc_4.1 h9
      exact jn41 y0 y1 y2 s0 G mc ms _ _ _ _ _ hvc_4 hG_5 hS_6 (lv_sub hl_10 [1, 2, 3, 0] rfl) hMC_8 hMS_9
    · replace hvc_4 := hvc_4.2 h9
      refine lv_iload_n hx hb dJ5_grow_29 rfl (lv_at hl_10 3 rfl) ?_
      refine lv_iload hx hb dJ5_grow_30 (lv_at hl_10 0 rfl) ?_
      refine lv_iadd hx hb dJ5_grow_32 ?_
      refine lv_dup hx hb dJ5_grow_33 rfl ?_
      refine lv_istore_n (lv' := [(3, .int (y2 + s0)), (4, .int s0), (0, .ref y0), (1, .int y1), (2, .int y2)]) hx hb dJ5_grow_34 rfl hl_10 (by decide) rfl (fun ls hl_81 => ?_)
      clear hl_10
      refine lv_ldc (v := nI 2147483639) hx hb hown (by exact hts _ q767) dJ5_grow_35 ?_
      refine lv_isub hx hb dJ5_grow_37 ?_
      refine lv_if_le (tgt := 49) hx hb dJ5_grow_38 (by decide) (fun h9 => ?_) (fun h9 => ?_)
      · replace hvc_4 := hvc_4.1 h9
        exact jn49 y0 y2 (y2 + s0) G mc ms _ _ _ _ _ hvc_4 hG_5 hS_6 (lv_sub hl_81 [2, 4, 0] rfl) hMC_8 hMS_9
      · replace hvc_4 := hvc_4.2 h9
        exact jn41 y0 y1 y2 s0 G mc ms _ _ _ _ _ hvc_4 hG_5 hS_6 (lv_sub hl_81 [2, 3, 4, 1] rfl) hMC_8 hMS_9
  refine lv_icmp_ge (tgt := 18) hx hb dJ5_grow_9 (by decide) (fun h9 => ?_) (fun h9 => ?_)
  · replace hvc_2 := hvc_2.1 h9
    refine lv_iload_n hx hb dJ5_grow_18 rfl (lv_at hl_3 0 rfl) ?_
    refine lv_iconst (v := nI 1) hx hb dJ5_grow_19 (by decide) ?_
    refine lv_ishr hx hb dJ5_grow_20 ?_
    exact jn21 o p1 x2 (x2 >>> ((nI 1) &&& 31)) G mc0 ms0 _ _ _ _ _ hvc_2 hG hS (lv_sub hl_3 [1, 2, 0] rfl) hMC hMS
  · replace hvc_2 := hvc_2.2 h9
    refine lv_iload_n hx hb dJ5_grow_12 rfl (lv_at hl_3 0 rfl) ?_
    refine lv_iconst (v := nI 2) hx hb dJ5_grow_13 (by decide) ?_
    refine lv_iadd hx hb dJ5_grow_14 ?_
    refine lv_goto (tgt := 21) hx hb dJ5_grow_15 (by decide) ?_
    exact jn21 o p1 x2 (x2 + (nI 2)) G mc0 ms0 _ _ _ _ _ hvc_2 hG hS (lv_sub hl_3 [1, 2, 0] rfl) hMC hMS
set_option maxHeartbeats 4000000 in
set_option maxRecDepth 100000 in
theorem met_J5_addLast (l : Launch) (E : g_E) (G : g_G) (o : Nat) (p1 : Nat) (mc0 ms0 : Nat) (post : g_G → Prop) (hvc : wp_J5_addLast E G o p1 mc0 ms0 post) : g_MV E l yJ5_addLast (ws_ yJ5_addLast cJ5_addLast 3 (Option.none : Option Jvm.ClassFile.FieldType)) ({ frames := 7, cells := mc0, slots := ms0, locals := 148 } : Room) (g_X E) [.ref o, .ref p1] G (post) := by
  refine g_enter (by decide +kernel) (Nat.le_of_ble_eq_true rfl) ?_
  intro p e s m below meth c ls hx hb hr hts hown hlocks hml hin hz hX hK hG hS hl
  have hl : lv_has ls 3 [(0, .ref o), (1, .ref p1)] := hl
  have hown : s.vm.findClass RJ5 = some m.cls := hown
  have hMC : 0 + mc0 ≤ mc0 := Nat.le_of_eq (Nat.zero_add _)
  have hMS : 0 + ms0 ≤ ms0 := Nat.le_of_eq (Nat.zero_add _)
  unfold wp_J5_addLast at hvc
  refine lv_aload_n hx hb dJ5_addLast_0 rfl (lv_at hl 1 rfl) ?_
  refine gq_ifnonnull (o := (some p1)) (tgt := 12) hx hb dJ5_addLast_1 (by decide) (fun h9 => ?_) (fun h9 => ?_)
  · replace hvc := hvc.1 h9
    refine lv_aload_n hx hb dJ5_addLast_12 rfl (lv_at hl 0 rfl) ?_
    refine gw_gr (C := RJ5) (T := TJ5) (N := 3) (own := RJ5) hx hb hts in_J5 hown hK hG hvc rfl (by decide) (hts _ q181) (fun _ h9 => h9) dJ5_addLast_13 (fun x1 hvc_1 => ?_)
    clear hvc
    refine lv_astore_n (lv' := [(2, .ref x1), (0, .ref o), (1, .ref p1)]) hx hb dJ5_addLast_16 rfl hl (by decide) rfl (fun ls hl_2 => ?_)
    clear hl
    refine lv_aload_n hx hb dJ5_addLast_17 rfl (lv_at hl_2 0 rfl) ?_
    refine lv_aload_n hx hb dJ5_addLast_18 rfl (lv_at hl_2 1 rfl) ?_
    refine gw_gi (C := RJ5) (T := TJ5) (N := 3) (own := RJ5) hx hb hts in_J5 hown hK hG hvc_1 rfl (by decide) (hts _ q183) (fun _ h9 => h9) dJ5_addLast_19 (fun x2 hvc_3 => ?_)
    clear hvc_1
    refine lv_aload_n hx hb dJ5_addLast_22 rfl (lv_at hl_2 2 rfl) ?_
    refine gw_qst (v := (some p1)) hx hb hK hG hX hS hvc_3 dJ5_addLast_23 (fun G3 H locs hvc_4 hG_5 hS_6 => ?_)
    clear hvc_3 hG hS
    refine lv_aload_n hx hb dJ5_addLast_24 rfl (lv_at hl_2 1 rfl) ?_
    refine gw_gi (C := RJ5) (T := TJ5) (N := 3) (own := RJ5) hx hb hts in_J5 hown hK hG_5 hvc_4 rfl (by decide) (hts _ q182) (fun _ h9 => h9) dJ5_addLast_25 (fun x4 hvc_7 => ?_)
    clear hvc_4
    refine lv_aload_n hx hb dJ5_addLast_28 rfl (lv_at hl_2 1 rfl) ?_
    refine lv_aload_n hx hb dJ5_addLast_29 rfl (lv_at hl_2 1 rfl) ?_
    refine gw_gi (C := RJ5) (T := TJ5) (N := 3) (own := RJ5) hx hb hts in_J5 hown hK hG_5 hvc_7 rfl (by decide) (hts _ q183) (fun _ h9 => h9) dJ5_addLast_30 (fun x5 hvc_8 => ?_)
    clear hvc_7
    refine lv_aload_n hx hb dJ5_addLast_33 rfl (lv_at hl_2 0 rfl) ?_
    refine gw_alenX hx hb hK hG_5 hX hS_6 hvc_8 dJ5_addLast_34 (fun x6 hvc_9 => ?_)
    clear hvc_8
    refine gw_cSIP (As := [.int x5, .int x6]) (rest := [.ref o, .int x4])  ⟨hx, hb, hml, hown, hts⟩ (met_J5_inc l E G3 x5 x6 _ hvc_9) (va_cwS 2 hts (lw_S q385 q386 q96 q387) rfl rfl rfl (by decide +kernel) ⟨Nat.le_of_ble_eq_true rfl, Nat.le_of_ble_eq_true rfl⟩) (by show _ ≤ mc0; omega) (by show _ ≤ ms0; omega) (g_St0 E) hz trivial hK hG_5 hS_6 rfl hl_2.1 rfl (Nat.le_of_ble_eq_true rfl) dJ5_addLast_35 (fun x7 H locs hvc_10 hG_11 hS_12 => ?_)
    clear hvc_9 hG_5 hS_6
    refine lv_dup_x1 hx hb dJ5_addLast_38 rfl rfl ?_
    refine gw_put (ty := .int) (C := RJ5) (T := TJ5) (N := 3) (own := RJ5) hx hb hts in_J5 tyJ5 tyJ5_ok nmJ5 hown hK hG_11 hS_12 hvc_10 rfl (by decide) (hts _ q183) (fun _ h9 => h9) rfl (by decide +kernel) rfl rfl dJ5_addLast_39 (fun G9 H locs hvc_13 hG_14 hS_15 => ?_)
    clear hvc_10 hG_11 hS_12
    refine lv_icmp_ne (tgt := 50) hx hb dJ5_addLast_42 (by decide) (fun h9 => ?_) (fun h9 => ?_)
    · replace hvc_13 := hvc_13.1 h9
      exact g_vret hx hb hr hlocks (by show _ ≤ mc0; omega) (by show _ ≤ ms0; omega) hG_14 hS_15 hvc_13 dJ5_addLast_50
    · replace hvc_13 := hvc_13.2 h9
      refine lv_aload_n hx hb dJ5_addLast_45 rfl (lv_at hl_2 1 rfl) ?_
      refine lv_iconst (v := nI 1) hx hb dJ5_addLast_46 (by decide) ?_
      obtain ⟨c12, t13, hc1, hs1, hvc_13⟩ := hvc_13
      refine gw_cVVA (As := [.int (nI 1)]) (rest := [])  ⟨hx, hb, hml, hown, hts⟩ (met_J5_grow l E G9 o (nI 1) c12 t13 _ hvc_13.2) (cwV 1 hts (lw_V q763 q765 qs6 q96 q766) rfl rfl rfl (by decide +kernel) ⟨Nat.le_of_ble_eq_true rfl, Nat.le_of_ble_eq_true rfl⟩) (gw_rc (q := (RJ5, TJ5, 3)) hK hG_14 hvc_13.1 rfl) hc1 hs1 hMC hMS (Nat.le_refl _) (Nat.le_refl _) (g_X.st E) hz hX hK hG_14 hS_15 rfl hl_2.1 rfl (Nat.le_of_ble_eq_true rfl) dJ5_addLast_47 (fun G11 H locs ce sl hvc_16 hG_17 hS_18 hMC_19 hMS_20 => ?_)
      clear hvc_13 hG_14 hS_15 hMC hMS
      exact g_vret hx hb hr hlocks (by show _ ≤ mc0; omega) (by show _ ≤ ms0; omega) hG_17 hS_18 hvc_16 dJ5_addLast_50
  · replace hvc := hvc.2 h9
    exact False.elim hvc
set_option maxHeartbeats 4000000 in
set_option maxRecDepth 100000 in
theorem met_J5_isEmpty (l : Launch) (E : g_E) (G : g_G) (o : Nat) (post : Int32 → Prop) (hvc : wp_J5_isEmpty E G o post) : g_MI E l yJ5_isEmpty (ws_ yJ5_isEmpty cJ5_isEmpty 1 (Option.some Jvm.ClassFile.FieldType.boolean)) ({ frames := 0, cells := 0, slots := 0, locals := 0 } : Room) (fun _ => True) [.ref o] G (fun v G9 => G9 = G ∧ post v) := by
  refine g_enter (by decide +kernel) (Nat.le_of_ble_eq_true rfl) ?_
  intro p e s m below meth c ls hx hb hr hts hown hlocks hml hin hz hX hK hG hS hl
  have hl : lv_has ls 1 [(0, .ref o)] := hl
  have hown : s.vm.findClass RJ5 = some m.cls := hown
  unfold wp_J5_isEmpty at hvc
  refine lv_aload_n hx hb dJ5_isEmpty_0 rfl (lv_at hl 0 rfl) ?_
  refine gw_gi (C := RJ5) (T := TJ5) (N := 3) (own := RJ5) hx hb hts in_J5 hown hK hG hvc rfl (by decide) (hts _ q182) (fun _ h9 => h9) dJ5_isEmpty_1 (fun x1 hvc_1 => ?_)
  clear hvc
  refine lv_aload_n hx hb dJ5_isEmpty_4 rfl (lv_at hl 0 rfl) ?_
  refine gw_gi (C := RJ5) (T := TJ5) (N := 3) (own := RJ5) hx hb hts in_J5 hown hK hG hvc_1 rfl (by decide) (hts _ q183) (fun _ h9 => h9) dJ5_isEmpty_5 (fun x2 hvc_2 => ?_)
  clear hvc_1
  refine lv_icmp_ne (tgt := 15) hx hb dJ5_isEmpty_8 (by decide) (fun h9 => ?_) (fun h9 => ?_)
  · replace hvc_2 := hvc_2.1 h9
    refine lv_iconst (v := nI 0) hx hb dJ5_isEmpty_15 (by decide) ?_
    exact g_iret hx hb hr hlocks (Nat.zero_le _) (Nat.zero_le _) hG hS rfl ⟨rfl, hvc_2⟩ dJ5_isEmpty_16
  · replace hvc_2 := hvc_2.2 h9
    refine lv_iconst (v := nI 1) hx hb dJ5_isEmpty_11 (by decide) ?_
    refine lv_goto (tgt := 16) hx hb dJ5_isEmpty_12 (by decide) ?_
    exact g_iret hx hb hr hlocks (Nat.zero_le _) (Nat.zero_le _) hG hS rfl ⟨rfl, hvc_2⟩ dJ5_isEmpty_16
set_option maxHeartbeats 4000000 in
set_option maxRecDepth 100000 in
theorem met_J5_dec (l : Launch) (E : g_E) (G : g_G) (p1 : Int32) (p2 : Int32) (post : Int32 → Prop) (hvc : wp_J5_dec E G p1 p2 post) : g_MI E l yJ5_dec (ws_ yJ5_dec cJ5_dec 2 (Option.some Jvm.ClassFile.FieldType.int)) ({ frames := 0, cells := 0, slots := 0, locals := 0 } : Room) (fun _ => True) [.int p1, .int p2] G (fun v G9 => G9 = G ∧ post v) := by
  refine g_enter (by decide +kernel) (Nat.le_of_ble_eq_true rfl) ?_
  intro p e s m below meth c ls hx hb hr hts hown hlocks hml hin hz hX hK hG hS hl
  have hl : lv_has ls 2 [(0, .int p1), (1, .int p2)] := hl
  have hown : s.vm.findClass RJ5 = some m.cls := hown
  unfold wp_J5_dec at hvc
  refine lv_iinc (k := 0) (v := p1 + (-nI 1)) (lv' := [(0, .int (p1 + (-nI 1))), (1, .int p2)]) hx hb dJ5_dec_0 hl rfl (congrArg (p1 + ·) (by decide : Int32.ofInt (-1) = -nI 1)) (by decide) rfl (fun ls hl_1 => ?_)
  clear hl
  refine lv_iload_n hx hb dJ5_dec_3 rfl (lv_at hl_1 0 rfl) ?_
  refine lv_if_ge (tgt := 11) hx hb dJ5_dec_4 (by decide) (fun h9 => ?_) (fun h9 => ?_)
  · replace hvc := hvc.1 h9
    refine lv_iload_n hx hb dJ5_dec_11 rfl (lv_at hl_1 0 rfl) ?_
    exact g_iret hx hb hr hlocks (Nat.zero_le _) (Nat.zero_le _) hG hS rfl ⟨rfl, hvc⟩ dJ5_dec_12
  · replace hvc := hvc.2 h9
    refine lv_iload_n hx hb dJ5_dec_7 rfl (lv_at hl_1 1 rfl) ?_
    refine lv_iconst (v := nI 1) hx hb dJ5_dec_8 (by decide) ?_
    refine lv_isub hx hb dJ5_dec_9 ?_
    refine lv_istore_n (lv' := [(0, .int (p2 - (nI 1))), (1, .int p2)]) hx hb dJ5_dec_10 rfl hl_1 (by decide) rfl (fun ls hl_2 => ?_)
    clear hl_1
    refine lv_iload_n hx hb dJ5_dec_11 rfl (lv_at hl_2 0 rfl) ?_
    exact g_iret hx hb hr hlocks (Nat.zero_le _) (Nat.zero_le _) hG hS rfl ⟨rfl, hvc⟩ dJ5_dec_12
set_option maxHeartbeats 4000000 in
set_option maxRecDepth 100000 in
theorem met_J5_pollLast (l : Launch) (E : g_E) (G : g_G) (o : Nat) (post : Option Nat → g_G → Prop) (hvc : wp_J5_pollLast E G o post) : g_MQ E l yJ5_pollLast (ws_ yJ5_pollLast cJ5_pollLast 4 (Option.some (Jvm.ClassFile.FieldType.object "java/lang/Object"))) ({ frames := 1, cells := 0, slots := 0, locals := 21 } : Room) (g_X E) [.ref o] G (post) := by
  refine g_enter (by decide +kernel) (Nat.le_of_ble_eq_true rfl) ?_
  intro p e s m below meth c ls hx hb hr hts hown hlocks hml hin hz hX hK hG hS hl
  have hl : lv_has ls 4 [(0, .ref o)] := hl
  have hown : s.vm.findClass RJ5 = some m.cls := hown
  unfold wp_J5_pollLast at hvc
  refine lv_aload_n hx hb dJ5_pollLast_0 rfl (lv_at hl 0 rfl) ?_
  refine gw_gr (C := RJ5) (T := TJ5) (N := 3) (own := RJ5) hx hb hts in_J5 hown hK hG hvc rfl (by decide) (hts _ q181) (fun _ h9 => h9) dJ5_pollLast_1 (fun x1 hvc_1 => ?_)
  clear hvc
  refine lv_dup hx hb dJ5_pollLast_4 rfl ?_
  refine lv_astore_n (lv' := [(1, .ref x1), (0, .ref o)]) hx hb dJ5_pollLast_5 rfl hl (by decide) rfl (fun ls hl_2 => ?_)
  clear hl
  refine lv_aload_n hx hb dJ5_pollLast_6 rfl (lv_at hl_2 1 rfl) ?_
  refine gw_gi (C := RJ5) (T := TJ5) (N := 3) (own := RJ5) hx hb hts in_J5 hown hK hG hvc_1 rfl (by decide) (hts _ q183) (fun _ h9 => h9) dJ5_pollLast_7 (fun x2 hvc_3 => ?_)
  clear hvc_1
  refine lv_aload_n hx hb dJ5_pollLast_10 rfl (lv_at hl_2 0 rfl) ?_
  refine gw_alenX hx hb hK hG hX hS hvc_3 dJ5_pollLast_11 (fun x3 hvc_4 => ?_)
  clear hvc_3
  refine gw_cSIP (As := [.int x2, .int x3]) (rest := [.ref x1])  ⟨hx, hb, hml, hown, hts⟩ (met_J5_dec l E G x2 x3 _ hvc_4) (va_cwS 2 hts (lw_S q1613 q1614 q96 q1615) rfl rfl rfl (by decide +kernel) ⟨Nat.le_of_ble_eq_true rfl, Nat.le_of_ble_eq_true rfl⟩) (Nat.zero_le _) (Nat.zero_le _) (g_St0 E) hz trivial hK hG hS rfl hl_2.1 rfl (Nat.le_of_ble_eq_true rfl) dJ5_pollLast_12 (fun x4 H locs hvc_5 hG_6 hS_7 => ?_)
  clear hvc_4 hG hS
  refine lv_dup hx hb dJ5_pollLast_15 rfl ?_
  refine lv_istore_n (lv' := [(2, .int x4), (1, .ref x1), (0, .ref o)]) hx hb dJ5_pollLast_16 rfl hl_2 (by decide) rfl (fun ls hl_8 => ?_)
  clear hl_2
  refine gw_cSQP (As := [.ref x1, .int x4]) (rest := [])  ⟨hx, hb, hml, hown, hts⟩ (met_J5_elementAt l E G x1 x4 _ hvc_5) (va_cwS 2 hts (lw_S q382 q383 q96 q384) rfl rfl rfl (by decide +kernel) ⟨Nat.le_of_ble_eq_true rfl, Nat.le_of_ble_eq_true rfl⟩) (Nat.zero_le _) (Nat.zero_le _) (g_St0 E) hz trivial hK hG_6 hS_7 rfl hl_8.1 rfl (Nat.le_of_ble_eq_true rfl) dJ5_pollLast_17 (fun x6 H locs hvc_9 hG_10 hS_11 => ?_)
  clear hvc_5 hG_6 hS_7
  refine gq_astore_n (lv' := [(3, va_rf x6), (2, .int x4), (1, .ref x1), (0, .ref o)]) hx hb dJ5_pollLast_20 rfl hl_8 (by decide) rfl (fun ls hl_12 => ?_)
  clear hl_8
  refine gq_aload_n hx hb dJ5_pollLast_21 rfl (lv_at hl_12 0 rfl) ?_
  refine gq_ifnull (o := x6) (tgt := 34) hx hb dJ5_pollLast_22 (by decide) (fun h9 => ?_) (fun h9 => ?_)
  · replace hvc_9 := hvc_9.1 h9
    refine gq_aload_n hx hb dJ5_pollLast_34 rfl (lv_at hl_12 0 rfl) ?_
    exact g_aret (v := x6) hx hb hr (Or.inl ⟨_, rfl⟩) hlocks (Nat.zero_le _) (Nat.zero_le _) hG_10 hS_11 hvc_9 dJ5_pollLast_35
  · replace hvc_9 := hvc_9.2 h9
    refine lv_aload_n hx hb dJ5_pollLast_25 rfl (lv_at hl_12 2 rfl) ?_
    refine lv_aload_n hx hb dJ5_pollLast_26 rfl (lv_at hl_12 3 rfl) ?_
    refine lv_iload_n hx hb dJ5_pollLast_27 rfl (lv_at hl_12 1 rfl) ?_
    refine lv_dup_x1 hx hb dJ5_pollLast_28 rfl rfl ?_
    refine gw_put (ty := .int) (C := RJ5) (T := TJ5) (N := 3) (own := RJ5) hx hb hts in_J5 tyJ5 tyJ5_ok nmJ5 hown hK hG_10 hS_11 hvc_9 rfl (by decide) (hts _ q183) (fun _ h9 => h9) rfl (by decide +kernel) rfl rfl dJ5_pollLast_29 (fun G8 H locs hvc_13 hG_14 hS_15 => ?_)
    clear hvc_9 hG_10 hS_11
    refine lv_null hx hb dJ5_pollLast_32 ?_
    refine gw_qst (v := none) hx hb hK hG_14 hX hS_15 hvc_13 dJ5_pollLast_33 (fun G9 H locs hvc_16 hG_17 hS_18 => ?_)
    clear hvc_13 hG_14 hS_15
    refine gq_aload_n hx hb dJ5_pollLast_34 rfl (lv_at hl_12 0 rfl) ?_
    exact g_aret (v := x6) hx hb hr (Or.inl ⟨_, rfl⟩) hlocks (Nat.zero_le _) (Nat.zero_le _) hG_17 hS_18 hvc_16 dJ5_pollLast_35
set_option maxHeartbeats 4000000 in
set_option maxRecDepth 100000 in
theorem met_J5_removeLast (l : Launch) (E : g_E) (G : g_G) (o : Nat) (mc0 ms0 : Nat) (post : Option Nat → g_G → Prop) (hvc : wp_J5_removeLast E G o mc0 ms0 post) : g_MQ E l yJ5_removeLast (ws_ yJ5_removeLast cJ5_removeLast 2 (Option.some (Jvm.ClassFile.FieldType.object "java/lang/Object"))) ({ frames := 2, cells := mc0, slots := ms0, locals := 44 } : Room) (g_X E) [.ref o] G (post) := by
  refine g_enter (by decide +kernel) (Nat.le_of_ble_eq_true rfl) ?_
  intro p e s m below meth c ls hx hb hr hts hown hlocks hml hin hz hX hK hG hS hl
  have hl : lv_has ls 2 [(0, .ref o)] := hl
  have hown : s.vm.findClass RJ5 = some m.cls := hown
  have hMC : 0 + mc0 ≤ mc0 := Nat.le_of_eq (Nat.zero_add _)
  have hMS : 0 + ms0 ≤ ms0 := Nat.le_of_eq (Nat.zero_add _)
  unfold wp_J5_removeLast at hvc
  refine lv_aload_n hx hb dJ5_removeLast_0 rfl (lv_at hl 0 rfl) ?_
  refine gw_cVQN (As := []) (rest := [])  ⟨hx, hb, hml, hown, hts⟩ (met_J5_pollLast l E G o _ hvc.2) (cwV 0 hts (lw_V q1609 q1610 q1611 q96 q1612) rfl rfl rfl (by decide +kernel) ⟨Nat.le_of_ble_eq_true rfl, Nat.le_of_ble_eq_true rfl⟩) (gw_rc (q := (RJ5, TJ5, 3)) hK hG hvc.1 rfl) (by show _ ≤ mc0; omega) (by show _ ≤ ms0; omega) (g_X.st E) hz hX hK hG hS rfl hl.1 rfl (Nat.le_of_ble_eq_true rfl) dJ5_removeLast_1 (fun x1 G2 H locs hvc_1 hG_2 hS_3 => ?_)
  clear hvc hG hS
  refine gq_astore_n (lv' := [(1, va_rf x1), (0, .ref o)]) hx hb dJ5_removeLast_4 rfl hl (by decide) rfl (fun ls hl_4 => ?_)
  clear hl
  refine gq_aload_n hx hb dJ5_removeLast_5 rfl (lv_at hl_4 0 rfl) ?_
  refine gq_ifnonnull (o := x1) (tgt := 17) hx hb dJ5_removeLast_6 (by decide) (fun h9 => ?_) (fun h9 => ?_)
  · replace hvc_1 := hvc_1.1 h9
    refine gq_aload_n hx hb dJ5_removeLast_17 rfl (lv_at hl_4 0 rfl) ?_
    exact g_aret (v := x1) hx hb hr (Or.inl ⟨_, rfl⟩) hlocks (by show _ ≤ mc0; omega) (by show _ ≤ ms0; omega) hG_2 hS_3 hvc_1 dJ5_removeLast_18
  · replace hvc_1 := hvc_1.2 h9
    exact False.elim hvc_1
