/-! printed by tools/gen.py -/
set_option maxHeartbeats 4000000 in
set_option maxRecDepth 100000 in
theorem met_X0_begin (l : Launch) (hfl : l.stackTraces = false) (E : g_E) (G : g_G) (p1 : Nat) (p2 : Int32) (p3 : Int32) (p4 : Int32) (p5 : Nat) (mc0 ms0 : Nat) (post : Int32 → g_G → Prop) (hvc : wp_X0_begin E G p1 p2 p3 p4 p5 mc0 ms0 post) : g_TI E l yX0_begin (wsW_ yX0_begin cX0_begin 6 (Option.some Jvm.ClassFile.FieldType.int) [((0 : Nat), (12 : Nat), (15 : Nat), (13 : Nat)), ((0 : Nat), (12 : Nat), (19 : Nat), (15 : Nat)), ((0 : Nat), (12 : Nat), (23 : Nat), (17 : Nat))]) ({ frames := 11, cells := mc0, slots := ms0, locals := 283 } : Room) (g_Z E) [.ref p1, .int p2, .int p3, .int p4, .ref p5] G post (fun _ _ => False) := by
  refine g_enterH (by decide +kernel) (Nat.le_of_ble_eq_true rfl) ?_
  intro p e s m below meth c ls hx hb hr hts hown hlocks hml hout hz hZ hK hG hS hl
  have hY := hZ.1
  have hX := hY.1
  have hl : lv_has ls 6 [(0, .ref p1), (1, .int p2), (2, .int p3), (3, .int p4), (4, .ref p5)] := hl
  have hown : s.vm.findClass RX0 = some m.cls := hown
  have hMC : 0 + mc0 ≤ mc0 := Nat.le_of_eq (Nat.zero_add _)
  have hMS : 0 + ms0 ≤ ms0 := Nat.le_of_eq (Nat.zero_add _)
  unfold wp_X0_begin at hvc
  refine lv_aload hx hb dX0_begin_0 (lv_at hl 4 rfl) ?_
  refine lv_iconst (v := nI 0) hx hb dX0_begin_2 (by decide) ?_
  refine lv_aload_n hx hb dX0_begin_3 rfl (lv_at hl 0 rfl) ?_
  refine lv_iload_n hx hb dX0_begin_4 rfl (lv_at hl 1 rfl) ?_
  refine lv_iload_n hx hb dX0_begin_5 rfl (lv_at hl 2 rfl) ?_
  refine lv_iload_n hx hb dX0_begin_6 rfl (lv_at hl 3 rfl) ?_
  obtain ⟨c3, t4, hc1, hs1, hvc⟩ := hvc
  have hkx : ∀ (X9 : String) (ce : Cell) (q9 : Nat) (G9 : g_G) (H9 : Heap) (locs9 : List Loc) (cells9 slots9 : Nat), (fun X9 G9 => (X9 = "java/lang/IndexOutOfBoundsException" ∧ post (nI 1) G9) ∨ (X9 = "java/lang/IllegalArgumentException" ∧ post (nI 2) G9) ∨ (X9 = "java/lang/IllegalStateException" ∧ post (nI 3) G9)) X9 G9 → g_H E G9 H9 → va_S (g_A E) s.heap H9 locs9 → H9[q9]? = some ce → ce.vm = .none → s.vm.findClass X9 = some ce.cls → cells9 + (mc0 - c3) ≤ mc0 → slots9 + (ms0 - t4) ≤ ms0 → vx_W p l e ({ frames := 11, cells := mc0, slots := ms0, locals := 283 } : Room) s m ([.ref p1, .int p2, .int p3, .int p4, .ref p5] : List Value).toArray below meth c H9 locs9 cells9 slots9 (vx_MQ below (va_Qi (post) (g_Bk E) (g_A E)) (g_XC E (fun _ _ => False)) ([.ref p1, .int p2, .int p3, .int p4, .ref p5] : List Value).toArray s mc0 ms0 (g_A E)) (F0 m 7 ls [.int (nI 0), .ref p5]) q9 := by
    intro X9 ce q9 G9 H9 locs9 cells9 slots9 hp a2 a3 a4 a5 a6 a7 a8
    rcases hp with ⟨rfl, hp⟩ | ⟨rfl, hp⟩ | ⟨rfl, hp⟩
    · refine vx_catch (E := "java/lang/IndexOutOfBoundsException") (name := "java/lang/IndexOutOfBoundsException") (own := RX0) hown [] (⟨0, 12, 15, 13⟩ : ExceptionTableEntry) [(⟨0, 12, 19, 15⟩ : ExceptionTableEntry), (⟨0, 12, 23, 17⟩ : ExceptionTableEntry)] (hout.trans rfl) (fun z hz9 => by cases hz9) rfl (by decide) (hts _ q1437) (va_Nw.use rfl (hX.1 _ q1364 rfl)) a4 a5 a6 ?_
      refine lv_astore (lv' := [(5, .ref q9), (0, .ref p1), (1, .int p2), (2, .int p3), (3, .int p4), (4, .ref p5)]) hx hb dX0_begin_15 hl (by decide) rfl (fun ls hl_1 => ?_)
      clear hl
      refine lv_iconst (v := nI 1) hx hb dX0_begin_17 (by decide) ?_
      exact vx_ret (g_iret hx hb hr hlocks (by show _ ≤ mc0; omega) (by show _ ≤ ms0; omega) a2 a3 rfl hp dX0_begin_18)
    · refine vx_catch (E := "java/lang/IllegalArgumentException") (name := "java/lang/IllegalArgumentException") (own := RX0) hown [(⟨0, 12, 15, 13⟩ : ExceptionTableEntry)] (⟨0, 12, 19, 15⟩ : ExceptionTableEntry) [(⟨0, 12, 23, 17⟩ : ExceptionTableEntry)] (hout.trans rfl) (fun z hz9 => by cases List.mem_singleton.mp hz9; exact Or.inr ⟨by decide, "java/lang/IndexOutOfBoundsException", hts _ q1437, hZ.ai⟩) rfl (by decide) (hts _ q1440) (va_Nw.use rfl (hX.1 _ q420 rfl)) a4 a5 a6 ?_
      refine lv_astore (lv' := [(5, .ref q9), (0, .ref p1), (1, .int p2), (2, .int p3), (3, .int p4), (4, .ref p5)]) hx hb dX0_begin_19 hl (by decide) rfl (fun ls hl_2 => ?_)
      clear hl
      refine lv_iconst (v := nI 2) hx hb dX0_begin_21 (by decide) ?_
      exact vx_ret (g_iret hx hb hr hlocks (by show _ ≤ mc0; omega) (by show _ ≤ ms0; omega) a2 a3 rfl hp dX0_begin_22)
    · refine vx_catch (E := "java/lang/IllegalStateException") (name := "java/lang/IllegalStateException") (own := RX0) hown [(⟨0, 12, 15, 13⟩ : ExceptionTableEntry), (⟨0, 12, 19, 15⟩ : ExceptionTableEntry)] (⟨0, 12, 23, 17⟩ : ExceptionTableEntry) [] (hout.trans rfl) (fun z hz9 => by rcases List.mem_cons.mp hz9 with rfl | hz9; · exact Or.inr ⟨by decide, "java/lang/IndexOutOfBoundsException", hts _ q1437, hZ.si⟩; · cases List.mem_singleton.mp hz9; exact Or.inr ⟨by decide, "java/lang/IllegalArgumentException", hts _ q1440, hZ.sa⟩) rfl (by decide) (hts _ q1441) (va_Nw.use rfl (hX.1 _ q774 rfl)) a4 a5 a6 ?_
      refine lv_astore (lv' := [(5, .ref q9), (0, .ref p1), (1, .int p2), (2, .int p3), (3, .int p4), (4, .ref p5)]) hx hb dX0_begin_23 hl (by decide) rfl (fun ls hl_3 => ?_)
      clear hl
      refine lv_iconst (v := nI 3) hx hb dX0_begin_25 (by decide) ?_
      exact vx_ret (g_iret hx hb hr hlocks (by show _ ≤ mc0; omega) (by show _ ≤ ms0; omega) a2 a3 rfl hp dX0_begin_26)
  refine gt_cVI (As := [.int p2, .int p3, .int p4]) (rest := [.int (nI 0), .ref p5])  ⟨hx, hb, hml, hown, hts⟩ (met_X1_begin l hfl E G p1 p2 p3 p4 c3 t4 _ _ hvc.2) (cwV 3 hts (lw_V q1442 q1443 q1444 q90 q1445) rfl rfl rfl (by decide +kernel) ⟨Nat.le_of_ble_eq_true rfl, Nat.le_of_ble_eq_true rfl⟩) (gw_rc (q := (RX1, TX1, 4)) hK hG hvc.1 rfl) hc1 hs1 hMC hMS (Nat.le_refl _) (Nat.le_refl _) (g_Y.st E) hz hY hK hG hS rfl hl.1 rfl (Nat.le_of_ble_eq_true rfl) dX0_begin_7 hkx (fun x1 G2 H locs ce sl hvc_4 hG_5 hS_6 hMC_7 hMS_8 => ?_)
  clear hvc hG hS hMC hMS
  refine lv_i2l (v := x1.toInt64) hx hb dX0_begin_10 rfl ?_
  refine gw_lst hx hb hK hG_5 hS_6 hvc_4 dX0_begin_11 (fun G5 H locs hvc_9 hG_10 hS_11 => ?_)
  clear hvc_4 hG_5 hS_6
  refine lv_goto (tgt := 27) hx hb dX0_begin_12 (by decide) ?_
  refine lv_iconst (v := nI 0) hx hb dX0_begin_27 (by decide) ?_
  exact vx_ret (g_iret hx hb hr hlocks (by show _ ≤ mc0; omega) (by show _ ≤ ms0; omega) hG_10 hS_11 rfl hvc_9 dX0_begin_28)
set_option maxHeartbeats 4000000 in
set_option maxRecDepth 100000 in
theorem met_X0_giveUp (l : Launch) (hfl : l.stackTraces = false) (E : g_E) (G : g_G) (p1 : Nat) (p2 : Int32) (p3 : Nat) (mc0 ms0 : Nat) (post : Int32 → g_G → Prop) (hvc : wp_X0_giveUp E G p1 p2 p3 mc0 ms0 post) : g_TI E l yX0_giveUp (wsW_ yX0_giveUp cX0_giveUp 4 (Option.some Jvm.ClassFile.FieldType.int) [((0 : Nat), (9 : Nat), (12 : Nat), (13 : Nat)), ((0 : Nat), (9 : Nat), (15 : Nat), (17 : Nat))]) ({ frames := 12, cells := mc0, slots := ms0, locals := 302 } : Room) (g_Z E) [.ref p1, .int p2, .ref p3] G post (fun _ _ => False) := by
  refine g_enterH (by decide +kernel) (Nat.le_of_ble_eq_true rfl) ?_
  intro p e s m below meth c ls hx hb hr hts hown hlocks hml hout hz hZ hK hG hS hl
  have hY := hZ.1
  have hX := hY.1
  have hl : lv_has ls 4 [(0, .ref p1), (1, .int p2), (2, .ref p3)] := hl
  have hown : s.vm.findClass RX0 = some m.cls := hown
  have hMC : 0 + mc0 ≤ mc0 := Nat.le_of_eq (Nat.zero_add _)
  have hMS : 0 + ms0 ≤ ms0 := Nat.le_of_eq (Nat.zero_add _)
  unfold wp_X0_giveUp at hvc
  refine lv_aload_n hx hb dX0_giveUp_0 rfl (lv_at hl 2 rfl) ?_
  refine lv_iconst (v := nI 0) hx hb dX0_giveUp_1 (by decide) ?_
  refine lv_aload_n hx hb dX0_giveUp_2 rfl (lv_at hl 0 rfl) ?_
  refine lv_iload_n hx hb dX0_giveUp_3 rfl (lv_at hl 1 rfl) ?_
  obtain ⟨c3, t4, hc1, hs1, hvc⟩ := hvc
  have hkx : ∀ (X9 : String) (ce : Cell) (q9 : Nat) (G9 : g_G) (H9 : Heap) (locs9 : List Loc) (cells9 slots9 : Nat), (fun X9 G9 => (X9 = "java/lang/IndexOutOfBoundsException" ∧ post (nI 1) G9) ∨ (X9 = "java/lang/IllegalStateException" ∧ post (nI 2) G9)) X9 G9 → g_H E G9 H9 → va_S (g_A E) s.heap H9 locs9 → H9[q9]? = some ce → ce.vm = .none → s.vm.findClass X9 = some ce.cls → cells9 + (mc0 - c3) ≤ mc0 → slots9 + (ms0 - t4) ≤ ms0 → vx_W p l e ({ frames := 12, cells := mc0, slots := ms0, locals := 302 } : Room) s m ([.ref p1, .int p2, .ref p3] : List Value).toArray below meth c H9 locs9 cells9 slots9 (vx_MQ below (va_Qi (post) (g_Bk E) (g_A E)) (g_XC E (fun _ _ => False)) ([.ref p1, .int p2, .ref p3] : List Value).toArray s mc0 ms0 (g_A E)) (F0 m 4 ls [.int (nI 0), .ref p3]) q9 := by
    intro X9 ce q9 G9 H9 locs9 cells9 slots9 hp a2 a3 a4 a5 a6 a7 a8
    rcases hp with ⟨rfl, hp⟩ | ⟨rfl, hp⟩
    · refine vx_catch (E := "java/lang/IndexOutOfBoundsException") (name := "java/lang/IndexOutOfBoundsException") (own := RX0) hown [] (⟨0, 9, 12, 13⟩ : ExceptionTableEntry) [(⟨0, 9, 15, 17⟩ : ExceptionTableEntry)] (hout.trans rfl) (fun z hz9 => by cases hz9) rfl (by decide) (hts _ q1437) (va_Nw.use rfl (hX.1 _ q1364 rfl)) a4 a5 a6 ?_
      refine lv_astore_n (lv' := [(3, .ref q9), (0, .ref p1), (1, .int p2), (2, .ref p3)]) hx hb dX0_giveUp_12 rfl hl (by decide) rfl (fun ls hl_1 => ?_)
      clear hl
      refine lv_iconst (v := nI 1) hx hb dX0_giveUp_13 (by decide) ?_
      exact vx_ret (g_iret hx hb hr hlocks (by show _ ≤ mc0; omega) (by show _ ≤ ms0; omega) a2 a3 rfl hp dX0_giveUp_14)
    · refine vx_catch (E := "java/lang/IllegalStateException") (name := "java/lang/IllegalStateException") (own := RX0) hown [(⟨0, 9, 12, 13⟩ : ExceptionTableEntry)] (⟨0, 9, 15, 17⟩ : ExceptionTableEntry) [] (hout.trans rfl) (fun z hz9 => by cases List.mem_singleton.mp hz9; exact Or.inr ⟨by decide, "java/lang/IndexOutOfBoundsException", hts _ q1437, hZ.si⟩) rfl (by decide) (hts _ q1441) (va_Nw.use rfl (hX.1 _ q774 rfl)) a4 a5 a6 ?_
      refine lv_astore_n (lv' := [(3, .ref q9), (0, .ref p1), (1, .int p2), (2, .ref p3)]) hx hb dX0_giveUp_15 rfl hl (by decide) rfl (fun ls hl_2 => ?_)
      clear hl
      refine lv_iconst (v := nI 2) hx hb dX0_giveUp_16 (by decide) ?_
      exact vx_ret (g_iret hx hb hr hlocks (by show _ ≤ mc0; omega) (by show _ ≤ ms0; omega) a2 a3 rfl hp dX0_giveUp_17)
  refine gt_cVI (As := [.int p2]) (rest := [.int (nI 0), .ref p3])  ⟨hx, hb, hml, hown, hts⟩ (met_X1_giveUp l hfl E G p1 p2 c3 t4 _ _ hvc.2) (cwV 1 hts (lw_V q1476 q1477 q1478 q90 q1479) rfl rfl rfl (by decide +kernel) ⟨Nat.le_of_ble_eq_true rfl, Nat.le_of_ble_eq_true rfl⟩) (gw_rc (q := (RX1, TX1, 4)) hK hG hvc.1 rfl) hc1 hs1 hMC hMS (Nat.le_refl _) (Nat.le_refl _) (g_Y.st E) hz hY hK hG hS rfl hl.1 rfl (Nat.le_of_ble_eq_true rfl) dX0_giveUp_4 hkx (fun x1 G2 H locs ce sl hvc_3 hG_4 hS_5 hMC_6 hMS_7 => ?_)
  clear hvc hG hS hMC hMS
  refine lv_i2l (v := x1.toInt64) hx hb dX0_giveUp_7 rfl ?_
  refine gw_lst hx hb hK hG_4 hS_5 hvc_3 dX0_giveUp_8 (fun G5 H locs hvc_8 hG_9 hS_10 => ?_)
  clear hvc_3 hG_4 hS_5
  refine lv_goto (tgt := 18) hx hb dX0_giveUp_9 (by decide) ?_
  refine lv_iconst (v := nI 0) hx hb dX0_giveUp_18 (by decide) ?_
  exact vx_ret (g_iret hx hb hr hlocks (by show _ ≤ mc0; omega) (by show _ ≤ ms0; omega) hG_9 hS_10 rfl hvc_8 dX0_giveUp_19)
set_option maxHeartbeats 4000000 in
set_option maxRecDepth 100000 in
theorem met_X0_ask (l : Launch) (hfl : l.stackTraces = false) (E : g_E) (G : g_G) (p1 : Nat) (p2 : Int32) (p3 : Int32) (p4 : Nat) (mc0 ms0 : Nat) (post : Int32 → g_G → Prop) (hvc : wp_X0_ask E G p1 p2 p3 p4 mc0 ms0 post) : g_TI E l yX0_ask (wsW_ yX0_ask cX0_ask 5 (Option.some Jvm.ClassFile.FieldType.int) [((0 : Nat), (10 : Nat), (13 : Nat), (13 : Nat)), ((0 : Nat), (10 : Nat), (17 : Nat), (17 : Nat))]) ({ frames := 10, cells := mc0, slots := ms0, locals := 258 } : Room) (g_Z E) [.ref p1, .int p2, .int p3, .ref p4] G post (fun _ _ => False) := by
  refine g_enterH (by decide +kernel) (Nat.le_of_ble_eq_true rfl) ?_
  intro p e s m below meth c ls hx hb hr hts hown hlocks hml hout hz hZ hK hG hS hl
  have hY := hZ.1
  have hX := hY.1
  have hl : lv_has ls 5 [(0, .ref p1), (1, .int p2), (2, .int p3), (3, .ref p4)] := hl
  have hown : s.vm.findClass RX0 = some m.cls := hown
  have hMC : 0 + mc0 ≤ mc0 := Nat.le_of_eq (Nat.zero_add _)
  have hMS : 0 + ms0 ≤ ms0 := Nat.le_of_eq (Nat.zero_add _)
  unfold wp_X0_ask at hvc
  refine lv_aload_n hx hb dX0_ask_0 rfl (lv_at hl 3 rfl) ?_
  refine lv_iconst (v := nI 0) hx hb dX0_ask_1 (by decide) ?_
  refine lv_aload_n hx hb dX0_ask_2 rfl (lv_at hl 0 rfl) ?_
  refine lv_iload_n hx hb dX0_ask_3 rfl (lv_at hl 1 rfl) ?_
  refine lv_iload_n hx hb dX0_ask_4 rfl (lv_at hl 2 rfl) ?_
  obtain ⟨c3, t4, hc1, hs1, hvc⟩ := hvc
  have hkx : ∀ (X9 : String) (ce : Cell) (q9 : Nat) (G9 : g_G) (H9 : Heap) (locs9 : List Loc) (cells9 slots9 : Nat), (fun X9 G9 => (X9 = "java/lang/IndexOutOfBoundsException" ∧ post (nI 1) G9) ∨ (X9 = "java/lang/IllegalStateException" ∧ post (nI 2) G9)) X9 G9 → g_H E G9 H9 → va_S (g_A E) s.heap H9 locs9 → H9[q9]? = some ce → ce.vm = .none → s.vm.findClass X9 = some ce.cls → cells9 + (mc0 - c3) ≤ mc0 → slots9 + (ms0 - t4) ≤ ms0 → vx_W p l e ({ frames := 10, cells := mc0, slots := ms0, locals := 258 } : Room) s m ([.ref p1, .int p2, .int p3, .ref p4] : List Value).toArray below meth c H9 locs9 cells9 slots9 (vx_MQ below (va_Qi (post) (g_Bk E) (g_A E)) (g_XC E (fun _ _ => False)) ([.ref p1, .int p2, .int p3, .ref p4] : List Value).toArray s mc0 ms0 (g_A E)) (F0 m 5 ls [.int (nI 0), .ref p4]) q9 := by
    intro X9 ce q9 G9 H9 locs9 cells9 slots9 hp a2 a3 a4 a5 a6 a7 a8
    rcases hp with ⟨rfl, hp⟩ | ⟨rfl, hp⟩
    · refine vx_catch (E := "java/lang/IndexOutOfBoundsException") (name := "java/lang/IndexOutOfBoundsException") (own := RX0) hown [] (⟨0, 10, 13, 13⟩ : ExceptionTableEntry) [(⟨0, 10, 17, 17⟩ : ExceptionTableEntry)] (hout.trans rfl) (fun z hz9 => by cases hz9) rfl (by decide) (hts _ q1437) (va_Nw.use rfl (hX.1 _ q1364 rfl)) a4 a5 a6 ?_
      refine lv_astore (lv' := [(4, .ref q9), (0, .ref p1), (1, .int p2), (2, .int p3), (3, .ref p4)]) hx hb dX0_ask_13 hl (by decide) rfl (fun ls hl_1 => ?_)
      clear hl
      refine lv_iconst (v := nI 1) hx hb dX0_ask_15 (by decide) ?_
      exact vx_ret (g_iret hx hb hr hlocks (by show _ ≤ mc0; omega) (by show _ ≤ ms0; omega) a2 a3 rfl hp dX0_ask_16)
    · refine vx_catch (E := "java/lang/IllegalStateException") (name := "java/lang/IllegalStateException") (own := RX0) hown [(⟨0, 10, 13, 13⟩ : ExceptionTableEntry)] (⟨0, 10, 17, 17⟩ : ExceptionTableEntry) [] (hout.trans rfl) (fun z hz9 => by cases List.mem_singleton.mp hz9; exact Or.inr ⟨by decide, "java/lang/IndexOutOfBoundsException", hts _ q1437, hZ.si⟩) rfl (by decide) (hts _ q1441) (va_Nw.use rfl (hX.1 _ q774 rfl)) a4 a5 a6 ?_
      refine lv_astore (lv' := [(4, .ref q9), (0, .ref p1), (1, .int p2), (2, .int p3), (3, .ref p4)]) hx hb dX0_ask_17 hl (by decide) rfl (fun ls hl_2 => ?_)
      clear hl
      refine lv_iconst (v := nI 2) hx hb dX0_ask_19 (by decide) ?_
      exact vx_ret (g_iret hx hb hr hlocks (by show _ ≤ mc0; omega) (by show _ ≤ ms0; omega) a2 a3 rfl hp dX0_ask_20)
  refine gt_cVI (As := [.int p2, .int p3]) (rest := [.int (nI 0), .ref p4])  ⟨hx, hb, hml, hown, hts⟩ (met_X1_ask l hfl E G p1 p2 p3 c3 t4 _ _ hvc.2) (cwV 2 hts (lw_V q1491 q1492 q1493 q90 q1494) rfl rfl rfl (by decide +kernel) ⟨Nat.le_of_ble_eq_true rfl, Nat.le_of_ble_eq_true rfl⟩) (gw_rc (q := (RX1, TX1, 4)) hK hG hvc.1 rfl) hc1 hs1 hMC hMS (Nat.le_refl _) (Nat.le_refl _) (g_Y.st E) hz hY hK hG hS rfl hl.1 rfl (Nat.le_of_ble_eq_true rfl) dX0_ask_5 hkx (fun x1 G2 H locs ce sl hvc_3 hG_4 hS_5 hMC_6 hMS_7 => ?_)
  clear hvc hG hS hMC hMS
  refine lv_i2l (v := x1.toInt64) hx hb dX0_ask_8 rfl ?_
  refine gw_lst hx hb hK hG_4 hS_5 hvc_3 dX0_ask_9 (fun G5 H locs hvc_8 hG_9 hS_10 => ?_)
  clear hvc_3 hG_4 hS_5
  refine lv_goto (tgt := 21) hx hb dX0_ask_10 (by decide) ?_
  refine lv_iconst (v := nI 0) hx hb dX0_ask_21 (by decide) ?_
  exact vx_ret (g_iret hx hb hr hlocks (by show _ ≤ mc0; omega) (by show _ ≤ ms0; omega) hG_9 hS_10 rfl hvc_8 dX0_ask_22)
set_option maxHeartbeats 4000000 in
set_option maxRecDepth 100000 in
theorem met_X0_deliver (l : Launch) (hfl : l.stackTraces = false) (E : g_E) (G : g_G) (p1 : Nat) (p2 : Int32) (p3 : Nat) (mc0 ms0 : Nat) (post : Int32 → g_G → Prop) (hvc : wp_X0_deliver E G p1 p2 p3 mc0 ms0 post) : g_TI E l yX0_deliver (wsW_ yX0_deliver cX0_deliver 4 (Option.some Jvm.ClassFile.FieldType.int) [((0 : Nat), (16 : Nat), (19 : Nat), (13 : Nat))]) ({ frames := 14, cells := mc0, slots := ms0, locals := 348 } : Room) (g_Z E) [.ref p1, .int p2, .ref p3] G post (fun _ _ => False) := by
  refine g_enterH (by decide +kernel) (Nat.le_of_ble_eq_true rfl) ?_
  intro p e s m below meth c ls hx hb hr hts hown hlocks hml hout hz hZ hK hG hS hl
  have hY := hZ.1
  have hX := hY.1
  have hl : lv_has ls 4 [(0, .ref p1), (1, .int p2), (2, .ref p3)] := hl
  have hown : s.vm.findClass RX0 = some m.cls := hown
  have hMC : 0 + mc0 ≤ mc0 := Nat.le_of_eq (Nat.zero_add _)
  have hMS : 0 + ms0 ≤ ms0 := Nat.le_of_eq (Nat.zero_add _)
  unfold wp_X0_deliver at hvc
  refine lv_aload_n hx hb dX0_deliver_0 rfl (lv_at hl 2 rfl) ?_
  refine lv_iconst (v := nI 0) hx hb dX0_deliver_1 (by decide) ?_
  refine lv_aload_n hx hb dX0_deliver_2 rfl (lv_at hl 0 rfl) ?_
  refine lv_iload_n hx hb dX0_deliver_3 rfl (lv_at hl 1 rfl) ?_
  obtain ⟨c3, t4, hc1, hs1, hvc⟩ := hvc
  have hkx : ∀ (X9 : String) (ce : Cell) (q9 : Nat) (G9 : g_G) (H9 : Heap) (locs9 : List Loc) (cells9 slots9 : Nat), (fun X9 G9 => (X9 = "java/lang/IndexOutOfBoundsException" ∧ post (nI 1) G9)) X9 G9 → g_H E G9 H9 → va_S (g_A E) s.heap H9 locs9 → H9[q9]? = some ce → ce.vm = .none → s.vm.findClass X9 = some ce.cls → cells9 + (mc0 - c3) ≤ mc0 → slots9 + (ms0 - t4) ≤ ms0 → vx_W p l e ({ frames := 14, cells := mc0, slots := ms0, locals := 348 } : Room) s m ([.ref p1, .int p2, .ref p3] : List Value).toArray below meth c H9 locs9 cells9 slots9 (vx_MQ below (va_Qi (post) (g_Bk E) (g_A E)) (g_XC E (fun _ _ => False)) ([.ref p1, .int p2, .ref p3] : List Value).toArray s mc0 ms0 (g_A E)) (F0 m 4 ls [.int (nI 0), .ref p3]) q9 := by
    intro X9 ce q9 G9 H9 locs9 cells9 slots9 hp a2 a3 a4 a5 a6 a7 a8
    obtain ⟨rfl, hp⟩ := hp
    · refine vx_catch (E := "java/lang/IndexOutOfBoundsException") (name := "java/lang/IndexOutOfBoundsException") (own := RX0) hown [] (⟨0, 16, 19, 13⟩ : ExceptionTableEntry) [] (hout.trans rfl) (fun z hz9 => by cases hz9) rfl (by decide) (hts _ q1437) (va_Nw.use rfl (hX.1 _ q1364 rfl)) a4 a5 a6 ?_
      refine lv_astore_n (lv' := [(3, .ref q9), (0, .ref p1), (1, .int p2), (2, .ref p3)]) hx hb dX0_deliver_19 rfl hl (by decide) rfl (fun ls hl_1 => ?_)
      clear hl
      refine lv_iconst (v := nI 1) hx hb dX0_deliver_20 (by decide) ?_
      exact vx_ret (g_iret hx hb hr hlocks (by show _ ≤ mc0; omega) (by show _ ≤ ms0; omega) a2 a3 rfl hp dX0_deliver_21)
  refine gt_cVI (As := [.int p2]) (rest := [.int (nI 0), .ref p3])  ⟨hx, hb, hml, hown, hts⟩ (met_X1_deliver l hfl E G p1 p2 c3 t4 _ _ hvc.2) (cwV 1 hts (lw_V q1510 q1511 q1512 q90 q1513) rfl rfl rfl (by decide +kernel) ⟨Nat.le_of_ble_eq_true rfl, Nat.le_of_ble_eq_true rfl⟩) (gw_rc (q := (RX1, TX1, 4)) hK hG hvc.1 rfl) hc1 hs1 hMC hMS (Nat.le_refl _) (Nat.le_refl _) (g_Y.st E) hz hY hK hG hS rfl hl.1 rfl (Nat.le_of_ble_eq_true rfl) dX0_deliver_4 hkx (fun x1 G2 H locs ce sl hvc_2 hG_3 hS_4 hMC_5 hMS_6 => ?_)
  clear hvc hG hS hMC hMS
  have jn15 : ∀ (s0 : Int64) (s1 : Int32) (s2 : Nat) (G : g_G) (mc : Nat) (ms : Nat) (H : Heap) (locs : List Loc) (ls : Array Slot) (ce sl : Nat), wp_X0_deliver_15 E post s0 s1 s2 G mc ms → g_H E G H → va_S (g_A E) s.heap H locs → lv_has ls 4 [] → ce + mc ≤ mc0 → sl + ms ≤ ms0 → W p l e ({ frames := 14, cells := mc0, slots := ms0, locals := 348 } : Room) s m ([.ref p1, .int p2, .ref p3] : List Value).toArray below meth c H locs ce sl (vx_MQ below (va_Qi (post) (g_Bk E) (g_A E)) (g_XC E (fun _ _ => False)) ([.ref p1, .int p2, .ref p3] : List Value).toArray s mc0 ms0 (g_A E)) (F0 m 15 ls [.long s0, .int s1, .ref s2]) := by
    clear hvc_2 hG_3 hS_4 hl hMC_5 hMS_6
    intro s0 s1 s2 G mc ms H locs ls ce sl hvc_7 hG_8 hS_9 hl_10 hMC_11 hMS_12
    refine gw_lst hx hb hK hG_8 hS_9 hvc_7 dX0_deliver_15 (fun G5 H locs hvc_13 hG_14 hS_15 => ?_)
    clear hvc_7 hG_8 hS_9
    refine lv_goto (tgt := 22) hx hb dX0_deliver_16 (by decide) ?_
    refine lv_iconst (v := nI 0) hx hb dX0_deliver_22 (by decide) ?_
    exact vx_ret (g_iret hx hb hr hlocks (by show _ ≤ mc0; omega) (by show _ ≤ ms0; omega) hG_14 hS_15 rfl hvc_13 dX0_deliver_23)
  refine lv_if_eq (tgt := 14) hx hb dX0_deliver_7 (by decide) (fun h9 => ?_) (fun h9 => ?_)
  · replace hvc_2 := hvc_2.1 h9
    refine lv_lconst (v := lN 0) hx hb dX0_deliver_14 rfl ?_
    exact jn15 (lN 0) (nI 0) p3 G2 (mc0 - c3) (ms0 - t4) _ _ _ _ _ hvc_2 hG_3 hS_4 (lv_sub hl [] rfl) hMC_5 hMS_6
  · replace hvc_2 := hvc_2.2 h9
    refine lv_lconst (v := lN 1) hx hb dX0_deliver_10 rfl ?_
    refine lv_goto (tgt := 15) hx hb dX0_deliver_11 (by decide) ?_
    exact jn15 (lN 1) (nI 0) p3 G2 (mc0 - c3) (ms0 - t4) _ _ _ _ _ hvc_2 hG_3 hS_4 (lv_sub hl [] rfl) hMC_5 hMS_6
set_option maxHeartbeats 4000000 in
set_option maxRecDepth 100000 in
theorem met_X0_lose (l : Launch) (hfl : l.stackTraces = false) (E : g_E) (G : g_G) (p1 : Nat) (p2 : Int32) (p3 : Nat) (mc0 ms0 : Nat) (post : Int32 → g_G → Prop) (hvc : wp_X0_lose E G p1 p2 p3 mc0 ms0 post) : g_TI E l yX0_lose (wsW_ yX0_lose cX0_lose 4 (Option.some Jvm.ClassFile.FieldType.int) [((0 : Nat), (9 : Nat), (12 : Nat), (13 : Nat))]) ({ frames := 10, cells := mc0, slots := ms0, locals := 255 } : Room) (g_Z E) [.ref p1, .int p2, .ref p3] G post (fun _ _ => False) := by
  refine g_enterH (by decide +kernel) (Nat.le_of_ble_eq_true rfl) ?_
  intro p e s m below meth c ls hx hb hr hts hown hlocks hml hout hz hZ hK hG hS hl
  have hY := hZ.1
  have hX := hY.1
  have hl : lv_has ls 4 [(0, .ref p1), (1, .int p2), (2, .ref p3)] := hl
  have hown : s.vm.findClass RX0 = some m.cls := hown
  have hMC : 0 + mc0 ≤ mc0 := Nat.le_of_eq (Nat.zero_add _)
  have hMS : 0 + ms0 ≤ ms0 := Nat.le_of_eq (Nat.zero_add _)
  unfold wp_X0_lose at hvc
  refine lv_aload_n hx hb dX0_lose_0 rfl (lv_at hl 2 rfl) ?_
  refine lv_iconst (v := nI 0) hx hb dX0_lose_1 (by decide) ?_
  refine lv_aload_n hx hb dX0_lose_2 rfl (lv_at hl 0 rfl) ?_
  refine lv_iload_n hx hb dX0_lose_3 rfl (lv_at hl 1 rfl) ?_
  obtain ⟨c3, t4, hc1, hs1, hvc⟩ := hvc
  have hkx : ∀ (X9 : String) (ce : Cell) (q9 : Nat) (G9 : g_G) (H9 : Heap) (locs9 : List Loc) (cells9 slots9 : Nat), (fun X9 G9 => (X9 = "java/lang/IndexOutOfBoundsException" ∧ post (nI 1) G9)) X9 G9 → g_H E G9 H9 → va_S (g_A E) s.heap H9 locs9 → H9[q9]? = some ce → ce.vm = .none → s.vm.findClass X9 = some ce.cls → cells9 + (mc0 - c3) ≤ mc0 → slots9 + (ms0 - t4) ≤ ms0 → vx_W p l e ({ frames := 10, cells := mc0, slots := ms0, locals := 255 } : Room) s m ([.ref p1, .int p2, .ref p3] : List Value).toArray below meth c H9 locs9 cells9 slots9 (vx_MQ below (va_Qi (post) (g_Bk E) (g_A E)) (g_XC E (fun _ _ => False)) ([.ref p1, .int p2, .ref p3] : List Value).toArray s mc0 ms0 (g_A E)) (F0 m 4 ls [.int (nI 0), .ref p3]) q9 := by
    intro X9 ce q9 G9 H9 locs9 cells9 slots9 hp a2 a3 a4 a5 a6 a7 a8
    obtain ⟨rfl, hp⟩ := hp
    · refine vx_catch (E := "java/lang/IndexOutOfBoundsException") (name := "java/lang/IndexOutOfBoundsException") (own := RX0) hown [] (⟨0, 9, 12, 13⟩ : ExceptionTableEntry) [] (hout.trans rfl) (fun z hz9 => by cases hz9) rfl (by decide) (hts _ q1437) (va_Nw.use rfl (hX.1 _ q1364 rfl)) a4 a5 a6 ?_
      refine lv_astore_n (lv' := [(3, .ref q9), (0, .ref p1), (1, .int p2), (2, .ref p3)]) hx hb dX0_lose_12 rfl hl (by decide) rfl (fun ls hl_1 => ?_)
      clear hl
      refine lv_iconst (v := nI 1) hx hb dX0_lose_13 (by decide) ?_
      exact vx_ret (g_iret hx hb hr hlocks (by show _ ≤ mc0; omega) (by show _ ≤ ms0; omega) a2 a3 rfl hp dX0_lose_14)
  refine gt_cVI (As := [.int p2]) (rest := [.int (nI 0), .ref p3])  ⟨hx, hb, hml, hown, hts⟩ (met_X1_lose l hfl E G p1 p2 c3 t4 _ _ hvc.2) (cwV 1 hts (lw_V q1517 q1518 q1519 q90 q1520) rfl rfl rfl (by decide +kernel) ⟨Nat.le_of_ble_eq_true rfl, Nat.le_of_ble_eq_true rfl⟩) (gw_rc (q := (RX1, TX1, 4)) hK hG hvc.1 rfl) hc1 hs1 hMC hMS (Nat.le_refl _) (Nat.le_refl _) (g_Y.st E) hz hY hK hG hS rfl hl.1 rfl (Nat.le_of_ble_eq_true rfl) dX0_lose_4 hkx (fun x1 G2 H locs ce sl hvc_2 hG_3 hS_4 hMC_5 hMS_6 => ?_)
  clear hvc hG hS hMC hMS
  refine lv_i2l (v := x1.toInt64) hx hb dX0_lose_7 rfl ?_
  refine gw_lst hx hb hK hG_3 hS_4 hvc_2 dX0_lose_8 (fun G5 H locs hvc_7 hG_8 hS_9 => ?_)
  clear hvc_2 hG_3 hS_4
  refine lv_goto (tgt := 15) hx hb dX0_lose_9 (by decide) ?_
  refine lv_iconst (v := nI 0) hx hb dX0_lose_15 (by decide) ?_
  exact vx_ret (g_iret hx hb hr hlocks (by show _ ≤ mc0; omega) (by show _ ≤ ms0; omega) hG_8 hS_9 rfl hvc_7 dX0_lose_16)
set_option maxHeartbeats 4000000 in
set_option maxRecDepth 100000 in
theorem met_X0_crash (l : Launch) (hfl : l.stackTraces = false) (E : g_E) (G : g_G) (p1 : Nat) (p2 : Int32) (p3 : Nat) (mc0 ms0 : Nat) (post : Int32 → g_G → Prop) (hvc : wp_X0_crash E G p1 p2 p3 mc0 ms0 post) : g_TI E l yX0_crash (wsW_ yX0_crash cX0_crash 4 (Option.some Jvm.ClassFile.FieldType.int) [((0 : Nat), (9 : Nat), (12 : Nat), (13 : Nat)), ((0 : Nat), (9 : Nat), (15 : Nat), (17 : Nat))]) ({ frames := 10, cells := mc0, slots := ms0, locals := 255 } : Room) (g_Z E) [.ref p1, .int p2, .ref p3] G post (fun _ _ => False) := by
  refine g_enterH (by decide +kernel) (Nat.le_of_ble_eq_true rfl) ?_
  intro p e s m below meth c ls hx hb hr hts hown hlocks hml hout hz hZ hK hG hS hl
  have hY := hZ.1
  have hX := hY.1
  have hl : lv_has ls 4 [(0, .ref p1), (1, .int p2), (2, .ref p3)] := hl
  have hown : s.vm.findClass RX0 = some m.cls := hown
  have hMC : 0 + mc0 ≤ mc0 := Nat.le_of_eq (Nat.zero_add _)
  have hMS : 0 + ms0 ≤ ms0 := Nat.le_of_eq (Nat.zero_add _)
  unfold wp_X0_crash at hvc
  refine lv_aload_n hx hb dX0_crash_0 rfl (lv_at hl 2 rfl) ?_
  refine lv_iconst (v := nI 0) hx hb dX0_crash_1 (by decide) ?_
  refine lv_aload_n hx hb dX0_crash_2 rfl (lv_at hl 0 rfl) ?_
  refine lv_iload_n hx hb dX0_crash_3 rfl (lv_at hl 1 rfl) ?_
  obtain ⟨c3, t4, hc1, hs1, hvc⟩ := hvc
  have hkx : ∀ (X9 : String) (ce : Cell) (q9 : Nat) (G9 : g_G) (H9 : Heap) (locs9 : List Loc) (cells9 slots9 : Nat), (fun X9 G9 => (X9 = "java/lang/IndexOutOfBoundsException" ∧ post (nI 1) G9) ∨ (X9 = "java/lang/IllegalStateException" ∧ post (nI 2) G9)) X9 G9 → g_H E G9 H9 → va_S (g_A E) s.heap H9 locs9 → H9[q9]? = some ce → ce.vm = .none → s.vm.findClass X9 = some ce.cls → cells9 + (mc0 - c3) ≤ mc0 → slots9 + (ms0 - t4) ≤ ms0 → vx_W p l e ({ frames := 10, cells := mc0, slots := ms0, locals := 255 } : Room) s m ([.ref p1, .int p2, .ref p3] : List Value).toArray below meth c H9 locs9 cells9 slots9 (vx_MQ below (va_Qi (post) (g_Bk E) (g_A E)) (g_XC E (fun _ _ => False)) ([.ref p1, .int p2, .ref p3] : List Value).toArray s mc0 ms0 (g_A E)) (F0 m 4 ls [.int (nI 0), .ref p3]) q9 := by
    intro X9 ce q9 G9 H9 locs9 cells9 slots9 hp a2 a3 a4 a5 a6 a7 a8
    rcases hp with ⟨rfl, hp⟩ | ⟨rfl, hp⟩
    · refine vx_catch (E := "java/lang/IndexOutOfBoundsException") (name := "java/lang/IndexOutOfBoundsException") (own := RX0) hown [] (⟨0, 9, 12, 13⟩ : ExceptionTableEntry) [(⟨0, 9, 15, 17⟩ : ExceptionTableEntry)] (hout.trans rfl) (fun z hz9 => by cases hz9) rfl (by decide) (hts _ q1437) (va_Nw.use rfl (hX.1 _ q1364 rfl)) a4 a5 a6 ?_
      refine lv_astore_n (lv' := [(3, .ref q9), (0, .ref p1), (1, .int p2), (2, .ref p3)]) hx hb dX0_crash_12 rfl hl (by decide) rfl (fun ls hl_1 => ?_)
      clear hl
      refine lv_iconst (v := nI 1) hx hb dX0_crash_13 (by decide) ?_
      exact vx_ret (g_iret hx hb hr hlocks (by show _ ≤ mc0; omega) (by show _ ≤ ms0; omega) a2 a3 rfl hp dX0_crash_14)
    · refine vx_catch (E := "java/lang/IllegalStateException") (name := "java/lang/IllegalStateException") (own := RX0) hown [(⟨0, 9, 12, 13⟩ : ExceptionTableEntry)] (⟨0, 9, 15, 17⟩ : ExceptionTableEntry) [] (hout.trans rfl) (fun z hz9 => by cases List.mem_singleton.mp hz9; exact Or.inr ⟨by decide, "java/lang/IndexOutOfBoundsException", hts _ q1437, hZ.si⟩) rfl (by decide) (hts _ q1441) (va_Nw.use rfl (hX.1 _ q774 rfl)) a4 a5 a6 ?_
      refine lv_astore_n (lv' := [(3, .ref q9), (0, .ref p1), (1, .int p2), (2, .ref p3)]) hx hb dX0_crash_15 rfl hl (by decide) rfl (fun ls hl_2 => ?_)
      clear hl
      refine lv_iconst (v := nI 2) hx hb dX0_crash_16 (by decide) ?_
      exact vx_ret (g_iret hx hb hr hlocks (by show _ ≤ mc0; omega) (by show _ ≤ ms0; omega) a2 a3 rfl hp dX0_crash_17)
  refine gt_cVI (As := [.int p2]) (rest := [.int (nI 0), .ref p3])  ⟨hx, hb, hml, hown, hts⟩ (met_X1_crash l hfl E G p1 p2 c3 t4 _ _ hvc.2) (cwV 1 hts (lw_V q1529 q1530 q1531 q90 q1532) rfl rfl rfl (by decide +kernel) ⟨Nat.le_of_ble_eq_true rfl, Nat.le_of_ble_eq_true rfl⟩) (gw_rc (q := (RX1, TX1, 4)) hK hG hvc.1 rfl) hc1 hs1 hMC hMS (Nat.le_refl _) (Nat.le_refl _) (g_Y.st E) hz hY hK hG hS rfl hl.1 rfl (Nat.le_of_ble_eq_true rfl) dX0_crash_4 hkx (fun x1 G2 H locs ce sl hvc_3 hG_4 hS_5 hMC_6 hMS_7 => ?_)
  clear hvc hG hS hMC hMS
  refine lv_i2l (v := x1.toInt64) hx hb dX0_crash_7 rfl ?_
  refine gw_lst hx hb hK hG_4 hS_5 hvc_3 dX0_crash_8 (fun G5 H locs hvc_8 hG_9 hS_10 => ?_)
  clear hvc_3 hG_4 hS_5
  refine lv_goto (tgt := 18) hx hb dX0_crash_9 (by decide) ?_
  refine lv_iconst (v := nI 0) hx hb dX0_crash_18 (by decide) ?_
  exact vx_ret (g_iret hx hb hr hlocks (by show _ ≤ mc0; omega) (by show _ ≤ ms0; omega) hG_9 hS_10 rfl hvc_8 dX0_crash_19)
set_option maxHeartbeats 4000000 in
set_option maxRecDepth 100000 in
theorem met_X0_recover (l : Launch) (hfl : l.stackTraces = false) (E : g_E) (G : g_G) (p1 : Nat) (p2 : Int32) (p3 : Nat) (mc0 ms0 : Nat) (post : Int32 → g_G → Prop) (hvc : wp_X0_recover E G p1 p2 p3 mc0 ms0 post) : g_TI E l yX0_recover (wsW_ yX0_recover cX0_recover 4 (Option.some Jvm.ClassFile.FieldType.int) [((0 : Nat), (9 : Nat), (12 : Nat), (13 : Nat)), ((0 : Nat), (9 : Nat), (15 : Nat), (17 : Nat))]) ({ frames := 13, cells := mc0, slots := ms0, locals := 324 } : Room) (g_Z E) [.ref p1, .int p2, .ref p3] G post (fun _ _ => False) := by
  refine g_enterH (by decide +kernel) (Nat.le_of_ble_eq_true rfl) ?_
  intro p e s m below meth c ls hx hb hr hts hown hlocks hml hout hz hZ hK hG hS hl
  have hY := hZ.1
  have hX := hY.1
  have hl : lv_has ls 4 [(0, .ref p1), (1, .int p2), (2, .ref p3)] := hl
  have hown : s.vm.findClass RX0 = some m.cls := hown
  have hMC : 0 + mc0 ≤ mc0 := Nat.le_of_eq (Nat.zero_add _)
  have hMS : 0 + ms0 ≤ ms0 := Nat.le_of_eq (Nat.zero_add _)
  unfold wp_X0_recover at hvc
  refine lv_aload_n hx hb dX0_recover_0 rfl (lv_at hl 2 rfl) ?_
  refine lv_iconst (v := nI 0) hx hb dX0_recover_1 (by decide) ?_
  refine lv_aload_n hx hb dX0_recover_2 rfl (lv_at hl 0 rfl) ?_
  refine lv_iload_n hx hb dX0_recover_3 rfl (lv_at hl 1 rfl) ?_
  obtain ⟨c3, t4, hc1, hs1, hvc⟩ := hvc
  have hkx : ∀ (X9 : String) (ce : Cell) (q9 : Nat) (G9 : g_G) (H9 : Heap) (locs9 : List Loc) (cells9 slots9 : Nat), (fun X9 G9 => (X9 = "java/lang/IndexOutOfBoundsException" ∧ post (nI 1) G9) ∨ (X9 = "java/lang/IllegalStateException" ∧ post (nI 2) G9)) X9 G9 → g_H E G9 H9 → va_S (g_A E) s.heap H9 locs9 → H9[q9]? = some ce → ce.vm = .none → s.vm.findClass X9 = some ce.cls → cells9 + (mc0 - c3) ≤ mc0 → slots9 + (ms0 - t4) ≤ ms0 → vx_W p l e ({ frames := 13, cells := mc0, slots := ms0, locals := 324 } : Room) s m ([.ref p1, .int p2, .ref p3] : List Value).toArray below meth c H9 locs9 cells9 slots9 (vx_MQ below (va_Qi (post) (g_Bk E) (g_A E)) (g_XC E (fun _ _ => False)) ([.ref p1, .int p2, .ref p3] : List Value).toArray s mc0 ms0 (g_A E)) (F0 m 4 ls [.int (nI 0), .ref p3]) q9 := by
    intro X9 ce q9 G9 H9 locs9 cells9 slots9 hp a2 a3 a4 a5 a6 a7 a8
    rcases hp with ⟨rfl, hp⟩ | ⟨rfl, hp⟩
    · refine vx_catch (E := "java/lang/IndexOutOfBoundsException") (name := "java/lang/IndexOutOfBoundsException") (own := RX0) hown [] (⟨0, 9, 12, 13⟩ : ExceptionTableEntry) [(⟨0, 9, 15, 17⟩ : ExceptionTableEntry)] (hout.trans rfl) (fun z hz9 => by cases hz9) rfl (by decide) (hts _ q1437) (va_Nw.use rfl (hX.1 _ q1364 rfl)) a4 a5 a6 ?_
      refine lv_astore_n (lv' := [(3, .ref q9), (0, .ref p1), (1, .int p2), (2, .ref p3)]) hx hb dX0_recover_12 rfl hl (by decide) rfl (fun ls hl_1 => ?_)
      clear hl
      refine lv_iconst (v := nI 1) hx hb dX0_recover_13 (by decide) ?_
      exact vx_ret (g_iret hx hb hr hlocks (by show _ ≤ mc0; omega) (by show _ ≤ ms0; omega) a2 a3 rfl hp dX0_recover_14)
    · refine vx_catch (E := "java/lang/IllegalStateException") (name := "java/lang/IllegalStateException") (own := RX0) hown [(⟨0, 9, 12, 13⟩ : ExceptionTableEntry)] (⟨0, 9, 15, 17⟩ : ExceptionTableEntry) [] (hout.trans rfl) (fun z hz9 => by cases List.mem_singleton.mp hz9; exact Or.inr ⟨by decide, "java/lang/IndexOutOfBoundsException", hts _ q1437, hZ.si⟩) rfl (by decide) (hts _ q1441) (va_Nw.use rfl (hX.1 _ q774 rfl)) a4 a5 a6 ?_
      refine lv_astore_n (lv' := [(3, .ref q9), (0, .ref p1), (1, .int p2), (2, .ref p3)]) hx hb dX0_recover_15 rfl hl (by decide) rfl (fun ls hl_2 => ?_)
      clear hl
      refine lv_iconst (v := nI 2) hx hb dX0_recover_16 (by decide) ?_
      exact vx_ret (g_iret hx hb hr hlocks (by show _ ≤ mc0; omega) (by show _ ≤ ms0; omega) a2 a3 rfl hp dX0_recover_17)
  refine gt_cVI (As := [.int p2]) (rest := [.int (nI 0), .ref p3])  ⟨hx, hb, hml, hown, hts⟩ (met_X1_recover l hfl E G p1 p2 c3 t4 _ _ hvc.2) (cwV 1 hts (lw_V q1540 q1541 q1542 q90 q1543) rfl rfl rfl (by decide +kernel) ⟨Nat.le_of_ble_eq_true rfl, Nat.le_of_ble_eq_true rfl⟩) (gw_rc (q := (RX1, TX1, 4)) hK hG hvc.1 rfl) hc1 hs1 hMC hMS (Nat.le_refl _) (Nat.le_refl _) (g_Y.st E) hz hY hK hG hS rfl hl.1 rfl (Nat.le_of_ble_eq_true rfl) dX0_recover_4 hkx (fun x1 G2 H locs ce sl hvc_3 hG_4 hS_5 hMC_6 hMS_7 => ?_)
  clear hvc hG hS hMC hMS
  refine lv_i2l (v := x1.toInt64) hx hb dX0_recover_7 rfl ?_
  refine gw_lst hx hb hK hG_4 hS_5 hvc_3 dX0_recover_8 (fun G5 H locs hvc_8 hG_9 hS_10 => ?_)
  clear hvc_3 hG_4 hS_5
  refine lv_goto (tgt := 18) hx hb dX0_recover_9 (by decide) ?_
  refine lv_iconst (v := nI 0) hx hb dX0_recover_18 (by decide) ?_
  exact vx_ret (g_iret hx hb hr hlocks (by show _ ≤ mc0; omega) (by show _ ≤ ms0; omega) hG_9 hS_10 rfl hvc_8 dX0_recover_19)
set_option maxHeartbeats 4000000 in
set_option maxRecDepth 100000 in
theorem met_X0_append (l : Launch) (hfl : l.stackTraces = false) (E : g_E) (G : g_G) (p1 : Nat) (p2 : Int32) (p3 : Nat) (mc0 ms0 : Nat) (post : Int32 → g_G → Prop) (hvc : wp_X0_append E G p1 p2 p3 mc0 ms0 post) : g_TI E l yX0_append (wsW_ yX0_append cX0_append 4 (Option.some Jvm.ClassFile.FieldType.int) [((0 : Nat), (9 : Nat), (12 : Nat), (15 : Nat)), ((0 : Nat), (9 : Nat), (15 : Nat), (17 : Nat))]) ({ frames := 9, cells := mc0, slots := ms0, locals := 200 } : Room) (g_Z E) [.ref p1, .int p2, .ref p3] G post (fun _ _ => False) := by
  refine g_enterH (by decide +kernel) (Nat.le_of_ble_eq_true rfl) ?_
  intro p e s m below meth c ls hx hb hr hts hown hlocks hml hout hz hZ hK hG hS hl
  have hY := hZ.1
  have hX := hY.1
  have hl : lv_has ls 4 [(0, .ref p1), (1, .int p2), (2, .ref p3)] := hl
  have hown : s.vm.findClass RX0 = some m.cls := hown
  have hMC : 0 + mc0 ≤ mc0 := Nat.le_of_eq (Nat.zero_add _)
  have hMS : 0 + ms0 ≤ ms0 := Nat.le_of_eq (Nat.zero_add _)
  unfold wp_X0_append at hvc
  refine lv_aload_n hx hb dX0_append_0 rfl (lv_at hl 2 rfl) ?_
  refine lv_iconst (v := nI 0) hx hb dX0_append_1 (by decide) ?_
  refine lv_aload_n hx hb dX0_append_2 rfl (lv_at hl 0 rfl) ?_
  refine lv_iload_n hx hb dX0_append_3 rfl (lv_at hl 1 rfl) ?_
  obtain ⟨c3, t4, hc1, hs1, hvc⟩ := hvc
  have hkx : ∀ (X9 : String) (ce : Cell) (q9 : Nat) (G9 : g_G) (H9 : Heap) (locs9 : List Loc) (cells9 slots9 : Nat), (fun X9 G9 => (X9 = "java/lang/IllegalArgumentException" ∧ post (nI 1) G9) ∨ (X9 = "java/lang/IllegalStateException" ∧ post (nI 2) G9)) X9 G9 → g_H E G9 H9 → va_S (g_A E) s.heap H9 locs9 → H9[q9]? = some ce → ce.vm = .none → s.vm.findClass X9 = some ce.cls → cells9 + (mc0 - c3) ≤ mc0 → slots9 + (ms0 - t4) ≤ ms0 → vx_W p l e ({ frames := 9, cells := mc0, slots := ms0, locals := 200 } : Room) s m ([.ref p1, .int p2, .ref p3] : List Value).toArray below meth c H9 locs9 cells9 slots9 (vx_MQ below (va_Qi (post) (g_Bk E) (g_A E)) (g_XC E (fun _ _ => False)) ([.ref p1, .int p2, .ref p3] : List Value).toArray s mc0 ms0 (g_A E)) (F0 m 4 ls [.int (nI 0), .ref p3]) q9 := by
    intro X9 ce q9 G9 H9 locs9 cells9 slots9 hp a2 a3 a4 a5 a6 a7 a8
    rcases hp with ⟨rfl, hp⟩ | ⟨rfl, hp⟩
    · refine vx_catch (E := "java/lang/IllegalArgumentException") (name := "java/lang/IllegalArgumentException") (own := RX0) hown [] (⟨0, 9, 12, 15⟩ : ExceptionTableEntry) [(⟨0, 9, 15, 17⟩ : ExceptionTableEntry)] (hout.trans rfl) (fun z hz9 => by cases hz9) rfl (by decide) (hts _ q1440) (va_Nw.use rfl (hX.1 _ q420 rfl)) a4 a5 a6 ?_
      refine lv_astore_n (lv' := [(3, .ref q9), (0, .ref p1), (1, .int p2), (2, .ref p3)]) hx hb dX0_append_12 rfl hl (by decide) rfl (fun ls hl_1 => ?_)
      clear hl
      refine lv_iconst (v := nI 1) hx hb dX0_append_13 (by decide) ?_
      exact vx_ret (g_iret hx hb hr hlocks (by show _ ≤ mc0; omega) (by show _ ≤ ms0; omega) a2 a3 rfl hp dX0_append_14)
    · refine vx_catch (E := "java/lang/IllegalStateException") (name := "java/lang/IllegalStateException") (own := RX0) hown [(⟨0, 9, 12, 15⟩ : ExceptionTableEntry)] (⟨0, 9, 15, 17⟩ : ExceptionTableEntry) [] (hout.trans rfl) (fun z hz9 => by cases List.mem_singleton.mp hz9; exact Or.inr ⟨by decide, "java/lang/IllegalArgumentException", hts _ q1440, hZ.sa⟩) rfl (by decide) (hts _ q1441) (va_Nw.use rfl (hX.1 _ q774 rfl)) a4 a5 a6 ?_
      refine lv_astore_n (lv' := [(3, .ref q9), (0, .ref p1), (1, .int p2), (2, .ref p3)]) hx hb dX0_append_15 rfl hl (by decide) rfl (fun ls hl_2 => ?_)
      clear hl
      refine lv_iconst (v := nI 2) hx hb dX0_append_16 (by decide) ?_
      exact vx_ret (g_iret hx hb hr hlocks (by show _ ≤ mc0; omega) (by show _ ≤ ms0; omega) a2 a3 rfl hp dX0_append_17)
  refine gt_cVI (As := [.int p2]) (rest := [.int (nI 0), .ref p3])  ⟨hx, hb, hml, hown, hts⟩ (met_X1_append l hfl E G p1 p2 c3 t4 _ _ hvc.2) (cwV 1 hts (lw_V q1548 q1549 q1550 q90 q1551) rfl rfl rfl (by decide +kernel) ⟨Nat.le_of_ble_eq_true rfl, Nat.le_of_ble_eq_true rfl⟩) (gw_rc (q := (RX1, TX1, 4)) hK hG hvc.1 rfl) hc1 hs1 hMC hMS (Nat.le_refl _) (Nat.le_refl _) (g_Y.st E) hz hY hK hG hS rfl hl.1 rfl (Nat.le_of_ble_eq_true rfl) dX0_append_4 hkx (fun x1 G2 H locs ce sl hvc_3 hG_4 hS_5 hMC_6 hMS_7 => ?_)
  clear hvc hG hS hMC hMS
  refine lv_i2l (v := x1.toInt64) hx hb dX0_append_7 rfl ?_
  refine gw_lst hx hb hK hG_4 hS_5 hvc_3 dX0_append_8 (fun G5 H locs hvc_8 hG_9 hS_10 => ?_)
  clear hvc_3 hG_4 hS_5
  refine lv_goto (tgt := 18) hx hb dX0_append_9 (by decide) ?_
  refine lv_iconst (v := nI 0) hx hb dX0_append_18 (by decide) ?_
  exact vx_ret (g_iret hx hb hr hlocks (by show _ ≤ mc0; omega) (by show _ ≤ ms0; omega) hG_9 hS_10 rfl hvc_8 dX0_append_19)
set_option maxHeartbeats 4000000 in
set_option maxRecDepth 100000 in
theorem met_X0_runCourse (l : Launch) (hfl : l.stackTraces = false) (E : g_E) (G : g_G) (p1 : Nat) (p2 : Nat) (mc0 ms0 : Nat) (post : Int32 → g_G → Prop) (hvc : wp_X0_runCourse E G p1 p2 mc0 ms0 post) : g_TI E l yX0_runCourse (wsW_ yX0_runCourse cX0_runCourse 3 (Option.some Jvm.ClassFile.FieldType.int) [((0 : Nat), (8 : Nat), (11 : Nat), (15 : Nat))]) ({ frames := 24, cells := mc0, slots := ms0, locals := 533 } : Room) (g_Z E) [.ref p1, .ref p2] G post (fun _ _ => False) := by
  refine g_enterH (by decide +kernel) (Nat.le_of_ble_eq_true rfl) ?_
  intro p e s m below meth c ls hx hb hr hts hown hlocks hml hout hz hZ hK hG hS hl
  have hY := hZ.1
  have hX := hY.1
  have hl : lv_has ls 3 [(0, .ref p1), (1, .ref p2)] := hl
  have hown : s.vm.findClass RX0 = some m.cls := hown
  have hMC : 0 + mc0 ≤ mc0 := Nat.le_of_eq (Nat.zero_add _)
  have hMS : 0 + ms0 ≤ ms0 := Nat.le_of_eq (Nat.zero_add _)
  unfold wp_X0_runCourse at hvc
  refine lv_aload_n hx hb dX0_runCourse_0 rfl (lv_at hl 1 rfl) ?_
  refine lv_iconst (v := nI 0) hx hb dX0_runCourse_1 (by decide) ?_
  refine lv_aload_n hx hb dX0_runCourse_2 rfl (lv_at hl 0 rfl) ?_
  obtain ⟨c3, t4, hc1, hs1, hvc⟩ := hvc
  have hkx : ∀ (X9 : String) (ce : Cell) (q9 : Nat) (G9 : g_G) (H9 : Heap) (locs9 : List Loc) (cells9 slots9 : Nat), (fun X9 G9 => (X9 = "java/lang/IllegalArgumentException" ∧ post (nI 1) G9)) X9 G9 → g_H E G9 H9 → va_S (g_A E) s.heap H9 locs9 → H9[q9]? = some ce → ce.vm = .none → s.vm.findClass X9 = some ce.cls → cells9 + (mc0 - c3) ≤ mc0 → slots9 + (ms0 - t4) ≤ ms0 → vx_W p l e ({ frames := 24, cells := mc0, slots := ms0, locals := 533 } : Room) s m ([.ref p1, .ref p2] : List Value).toArray below meth c H9 locs9 cells9 slots9 (vx_MQ below (va_Qi (post) (g_Bk E) (g_A E)) (g_XC E (fun _ _ => False)) ([.ref p1, .ref p2] : List Value).toArray s mc0 ms0 (g_A E)) (F0 m 3 ls [.int (nI 0), .ref p2]) q9 := by
    intro X9 ce q9 G9 H9 locs9 cells9 slots9 hp a2 a3 a4 a5 a6 a7 a8
    obtain ⟨rfl, hp⟩ := hp
    · refine vx_catch (E := "java/lang/IllegalArgumentException") (name := "java/lang/IllegalArgumentException") (own := RX0) hown [] (⟨0, 8, 11, 15⟩ : ExceptionTableEntry) [] (hout.trans rfl) (fun z hz9 => by cases hz9) rfl (by decide) (hts _ q1440) (va_Nw.use rfl (hX.1 _ q420 rfl)) a4 a5 a6 ?_
      refine lv_astore_n (lv' := [(2, .ref q9), (0, .ref p1), (1, .ref p2)]) hx hb dX0_runCourse_11 rfl hl (by decide) rfl (fun ls hl_1 => ?_)
      clear hl
      refine lv_iconst (v := nI 1) hx hb dX0_runCourse_12 (by decide) ?_
      exact vx_ret (g_iret hx hb hr hlocks (by show _ ≤ mc0; omega) (by show _ ≤ ms0; omega) a2 a3 rfl hp dX0_runCourse_13)
  refine gt_cVI (As := []) (rest := [.int (nI 0), .ref p2])  ⟨hx, hb, hml, hown, hts⟩ (met_X1_runCourse l hfl E G p1 c3 t4 _ _ hvc.2) (cwV 0 hts (lw_V q1572 q1573 q1574 q90 q1575) rfl rfl rfl (by decide +kernel) ⟨Nat.le_of_ble_eq_true rfl, Nat.le_of_ble_eq_true rfl⟩) (gw_rc (q := (RX1, TX1, 4)) hK hG hvc.1 rfl) hc1 hs1 hMC hMS (Nat.le_refl _) (Nat.le_refl _) (g_Y.st E) hz hY hK hG hS rfl hl.1 rfl (Nat.le_of_ble_eq_true rfl) dX0_runCourse_3 hkx (fun x1 G2 H locs ce sl hvc_2 hG_3 hS_4 hMC_5 hMS_6 => ?_)
  clear hvc hG hS hMC hMS
  refine lv_i2l (v := x1.toInt64) hx hb dX0_runCourse_6 rfl ?_
  refine gw_lst hx hb hK hG_3 hS_4 hvc_2 dX0_runCourse_7 (fun G5 H locs hvc_7 hG_8 hS_9 => ?_)
  clear hvc_2 hG_3 hS_4
  refine lv_goto (tgt := 14) hx hb dX0_runCourse_8 (by decide) ?_
  refine lv_iconst (v := nI 0) hx hb dX0_runCourse_14 (by decide) ?_
  exact vx_ret (g_iret hx hb hr hlocks (by show _ ≤ mc0; omega) (by show _ ≤ ms0; omega) hG_8 hS_9 rfl hvc_7 dX0_runCourse_15)
set_option maxHeartbeats 4000000 in
set_option maxRecDepth 100000 in
theorem met_X0_goBack (l : Launch) (hfl : l.stackTraces = false) (E : g_E) (G : g_G) (p1 : Nat) (p2 : Nat) (mc0 ms0 : Nat) (post : Int32 → g_G → Prop) (hvc : wp_X0_goBack E G p1 p2 mc0 ms0 post) : g_TI E l yX0_goBack (wsW_ yX0_goBack cX0_goBack 3 (Option.some Jvm.ClassFile.FieldType.int) [((0 : Nat), (8 : Nat), (11 : Nat), (17 : Nat))]) ({ frames := 10, cells := mc0, slots := ms0, locals := 254 } : Room) (g_Z E) [.ref p1, .ref p2] G post (fun _ _ => False) := by
  refine g_enterH (by decide +kernel) (Nat.le_of_ble_eq_true rfl) ?_
  intro p e s m below meth c ls hx hb hr hts hown hlocks hml hout hz hZ hK hG hS hl
  have hY := hZ.1
  have hX := hY.1
  have hl : lv_has ls 3 [(0, .ref p1), (1, .ref p2)] := hl
  have hown : s.vm.findClass RX0 = some m.cls := hown
  have hMC : 0 + mc0 ≤ mc0 := Nat.le_of_eq (Nat.zero_add _)
  have hMS : 0 + ms0 ≤ ms0 := Nat.le_of_eq (Nat.zero_add _)
  unfold wp_X0_goBack at hvc
  refine lv_aload_n hx hb dX0_goBack_0 rfl (lv_at hl 1 rfl) ?_
  refine lv_iconst (v := nI 0) hx hb dX0_goBack_1 (by decide) ?_
  refine lv_aload_n hx hb dX0_goBack_2 rfl (lv_at hl 0 rfl) ?_
  obtain ⟨c3, t4, hc1, hs1, hvc⟩ := hvc
  have hkx : ∀ (X9 : String) (ce : Cell) (q9 : Nat) (G9 : g_G) (H9 : Heap) (locs9 : List Loc) (cells9 slots9 : Nat), (fun X9 G9 => (X9 = "java/lang/IllegalStateException" ∧ post (nI 1) G9)) X9 G9 → g_H E G9 H9 → va_S (g_A E) s.heap H9 locs9 → H9[q9]? = some ce → ce.vm = .none → s.vm.findClass X9 = some ce.cls → cells9 + (mc0 - c3) ≤ mc0 → slots9 + (ms0 - t4) ≤ ms0 → vx_W p l e ({ frames := 10, cells := mc0, slots := ms0, locals := 254 } : Room) s m ([.ref p1, .ref p2] : List Value).toArray below meth c H9 locs9 cells9 slots9 (vx_MQ below (va_Qi (post) (g_Bk E) (g_A E)) (g_XC E (fun _ _ => False)) ([.ref p1, .ref p2] : List Value).toArray s mc0 ms0 (g_A E)) (F0 m 3 ls [.int (nI 0), .ref p2]) q9 := by
    intro X9 ce q9 G9 H9 locs9 cells9 slots9 hp a2 a3 a4 a5 a6 a7 a8
    obtain ⟨rfl, hp⟩ := hp
    · refine vx_catch (E := "java/lang/IllegalStateException") (name := "java/lang/IllegalStateException") (own := RX0) hown [] (⟨0, 8, 11, 17⟩ : ExceptionTableEntry) [] (hout.trans rfl) (fun z hz9 => by cases hz9) rfl (by decide) (hts _ q1441) (va_Nw.use rfl (hX.1 _ q774 rfl)) a4 a5 a6 ?_
      refine lv_astore_n (lv' := [(2, .ref q9), (0, .ref p1), (1, .ref p2)]) hx hb dX0_goBack_11 rfl hl (by decide) rfl (fun ls hl_1 => ?_)
      clear hl
      refine lv_iconst (v := nI 1) hx hb dX0_goBack_12 (by decide) ?_
      exact vx_ret (g_iret hx hb hr hlocks (by show _ ≤ mc0; omega) (by show _ ≤ ms0; omega) a2 a3 rfl hp dX0_goBack_13)
  refine gt_cVI (As := []) (rest := [.int (nI 0), .ref p2])  ⟨hx, hb, hml, hown, hts⟩ (met_X1_goBack l hfl E G p1 c3 t4 _ _ hvc.2) (cwV 0 hts (lw_V q1590 q1591 q1592 q90 q1593) rfl rfl rfl (by decide +kernel) ⟨Nat.le_of_ble_eq_true rfl, Nat.le_of_ble_eq_true rfl⟩) (gw_rc (q := (RX1, TX1, 4)) hK hG hvc.1 rfl) hc1 hs1 hMC hMS (Nat.le_refl _) (Nat.le_refl _) (g_Y.st E) hz hY hK hG hS rfl hl.1 rfl (Nat.le_of_ble_eq_true rfl) dX0_goBack_3 hkx (fun x1 G2 H locs ce sl hvc_2 hG_3 hS_4 hMC_5 hMS_6 => ?_)
  clear hvc hG hS hMC hMS
  refine lv_i2l (v := x1.toInt64) hx hb dX0_goBack_6 rfl ?_
  refine gw_lst hx hb hK hG_3 hS_4 hvc_2 dX0_goBack_7 (fun G5 H locs hvc_7 hG_8 hS_9 => ?_)
  clear hvc_2 hG_3 hS_4
  refine lv_goto (tgt := 14) hx hb dX0_goBack_8 (by decide) ?_
  refine lv_iconst (v := nI 0) hx hb dX0_goBack_14 (by decide) ?_
  exact vx_ret (g_iret hx hb hr hlocks (by show _ ≤ mc0; omega) (by show _ ≤ ms0; omega) hG_8 hS_9 rfl hvc_7 dX0_goBack_15)
set_option maxHeartbeats 4000000 in
set_option maxRecDepth 100000 in
theorem met_X0_undo (l : Launch) (hfl : l.stackTraces = false) (E : g_E) (G : g_G) (p1 : Nat) (p2 : Nat) (mc0 ms0 : Nat) (post : Int32 → g_G → Prop) (hvc : wp_X0_undo E G p1 p2 mc0 ms0 post) : g_TI E l yX0_undo (wsW_ yX0_undo cX0_undo 3 (Option.some Jvm.ClassFile.FieldType.int) [((0 : Nat), (8 : Nat), (11 : Nat), (17 : Nat))]) ({ frames := 8, cells := mc0, slots := ms0, locals := 136 } : Room) (g_Z E) [.ref p1, .ref p2] G post (fun _ _ => False) := by
  refine g_enterH (by decide +kernel) (Nat.le_of_ble_eq_true rfl) ?_
  intro p e s m below meth c ls hx hb hr hts hown hlocks hml hout hz hZ hK hG hS hl
  have hY := hZ.1
  have hX := hY.1
  have hl : lv_has ls 3 [(0, .ref p1), (1, .ref p2)] := hl
  have hown : s.vm.findClass RX0 = some m.cls := hown
  have hMC : 0 + mc0 ≤ mc0 := Nat.le_of_eq (Nat.zero_add _)
  have hMS : 0 + ms0 ≤ ms0 := Nat.le_of_eq (Nat.zero_add _)
  unfold wp_X0_undo at hvc
  refine lv_aload_n hx hb dX0_undo_0 rfl (lv_at hl 1 rfl) ?_
  refine lv_iconst (v := nI 0) hx hb dX0_undo_1 (by decide) ?_
  refine lv_aload_n hx hb dX0_undo_2 rfl (lv_at hl 0 rfl) ?_
  obtain ⟨c3, t4, hc1, hs1, hvc⟩ := hvc
  have hkx : ∀ (X9 : String) (ce : Cell) (q9 : Nat) (G9 : g_G) (H9 : Heap) (locs9 : List Loc) (cells9 slots9 : Nat), (fun X9 G9 => (X9 = "java/lang/IllegalStateException" ∧ post (nI 1) G9)) X9 G9 → g_H E G9 H9 → va_S (g_A E) s.heap H9 locs9 → H9[q9]? = some ce → ce.vm = .none → s.vm.findClass X9 = some ce.cls → cells9 + (mc0 - c3) ≤ mc0 → slots9 + (ms0 - t4) ≤ ms0 → vx_W p l e ({ frames := 8, cells := mc0, slots := ms0, locals := 136 } : Room) s m ([.ref p1, .ref p2] : List Value).toArray below meth c H9 locs9 cells9 slots9 (vx_MQ below (va_Qi (post) (g_Bk E) (g_A E)) (g_XC E (fun _ _ => False)) ([.ref p1, .ref p2] : List Value).toArray s mc0 ms0 (g_A E)) (F0 m 3 ls [.int (nI 0), .ref p2]) q9 := by
    intro X9 ce q9 G9 H9 locs9 cells9 slots9 hp a2 a3 a4 a5 a6 a7 a8
    obtain ⟨rfl, hp⟩ := hp
    · refine vx_catch (E := "java/lang/IllegalStateException") (name := "java/lang/IllegalStateException") (own := RX0) hown [] (⟨0, 8, 11, 17⟩ : ExceptionTableEntry) [] (hout.trans rfl) (fun z hz9 => by cases hz9) rfl (by decide) (hts _ q1441) (va_Nw.use rfl (hX.1 _ q774 rfl)) a4 a5 a6 ?_
      refine lv_astore_n (lv' := [(2, .ref q9), (0, .ref p1), (1, .ref p2)]) hx hb dX0_undo_11 rfl hl (by decide) rfl (fun ls hl_1 => ?_)
      clear hl
      refine lv_iconst (v := nI 1) hx hb dX0_undo_12 (by decide) ?_
      exact vx_ret (g_iret hx hb hr hlocks (by show _ ≤ mc0; omega) (by show _ ≤ ms0; omega) a2 a3 rfl hp dX0_undo_13)
  refine gt_cVI (As := []) (rest := [.int (nI 0), .ref p2])  ⟨hx, hb, hml, hown, hts⟩ (met_X1_undo l hfl E G p1 c3 t4 _ _ hvc.2) (cwV 0 hts (lw_V q1597 q1598 q1599 q90 q1600) rfl rfl rfl (by decide +kernel) ⟨Nat.le_of_ble_eq_true rfl, Nat.le_of_ble_eq_true rfl⟩) (gw_rc (q := (RX1, TX1, 4)) hK hG hvc.1 rfl) hc1 hs1 hMC hMS (Nat.le_refl _) (Nat.le_refl _) (g_Y.st E) hz hY hK hG hS rfl hl.1 rfl (Nat.le_of_ble_eq_true rfl) dX0_undo_3 hkx (fun x1 G2 H locs ce sl hvc_2 hG_3 hS_4 hMC_5 hMS_6 => ?_)
  clear hvc hG hS hMC hMS
  refine lv_i2l (v := x1.toInt64) hx hb dX0_undo_6 rfl ?_
  refine gw_lst hx hb hK hG_3 hS_4 hvc_2 dX0_undo_7 (fun G5 H locs hvc_7 hG_8 hS_9 => ?_)
  clear hvc_2 hG_3 hS_4
  refine lv_goto (tgt := 14) hx hb dX0_undo_8 (by decide) ?_
  refine lv_iconst (v := nI 0) hx hb dX0_undo_14 (by decide) ?_
  exact vx_ret (g_iret hx hb hr hlocks (by show _ ≤ mc0; omega) (by show _ ≤ ms0; omega) hG_8 hS_9 rfl hvc_7 dX0_undo_15)
set_option maxHeartbeats 4000000 in
set_option maxRecDepth 100000 in
theorem met_X0_partners (l : Launch) (hfl : l.stackTraces = false) (E : g_E) (G : g_G) (p1 : Nat) (p2 : Int32) (p3 : Nat) (mc0 ms0 : Nat) (post : Int32 → g_G → Prop) (hvc : wp_X0_partners E G p1 p2 p3 mc0 ms0 post) : g_TI E l yX0_partners (wsW_ yX0_partners cX0_partners 4 (Option.some Jvm.ClassFile.FieldType.int) [((0 : Nat), (9 : Nat), (12 : Nat), (13 : Nat))]) ({ frames := 9, cells := mc0, slots := ms0, locals := 159 } : Room) (g_Z E) [.ref p1, .int p2, .ref p3] G post (fun _ _ => False) := by
  refine g_enterH (by decide +kernel) (Nat.le_of_ble_eq_true rfl) ?_
  intro p e s m below meth c ls hx hb hr hts hown hlocks hml hout hz hZ hK hG hS hl
  have hY := hZ.1
  have hX := hY.1
  have hl : lv_has ls 4 [(0, .ref p1), (1, .int p2), (2, .ref p3)] := hl
  have hown : s.vm.findClass RX0 = some m.cls := hown
  have hMC : 0 + mc0 ≤ mc0 := Nat.le_of_eq (Nat.zero_add _)
  have hMS : 0 + ms0 ≤ ms0 := Nat.le_of_eq (Nat.zero_add _)
  unfold wp_X0_partners at hvc
  refine lv_aload_n hx hb dX0_partners_0 rfl (lv_at hl 2 rfl) ?_
  refine lv_iconst (v := nI 0) hx hb dX0_partners_1 (by decide) ?_
  refine lv_aload_n hx hb dX0_partners_2 rfl (lv_at hl 0 rfl) ?_
  refine lv_iload_n hx hb dX0_partners_3 rfl (lv_at hl 1 rfl) ?_
  obtain ⟨c3, t4, hc1, hs1, hvc⟩ := hvc
  have hkx : ∀ (X9 : String) (ce : Cell) (q9 : Nat) (G9 : g_G) (H9 : Heap) (locs9 : List Loc) (cells9 slots9 : Nat), (fun X9 G9 => (X9 = "java/lang/IndexOutOfBoundsException" ∧ post (nI 1) G9)) X9 G9 → g_H E G9 H9 → va_S (g_A E) s.heap H9 locs9 → H9[q9]? = some ce → ce.vm = .none → s.vm.findClass X9 = some ce.cls → cells9 + (mc0 - c3) ≤ mc0 → slots9 + (ms0 - t4) ≤ ms0 → vx_W p l e ({ frames := 9, cells := mc0, slots := ms0, locals := 159 } : Room) s m ([.ref p1, .int p2, .ref p3] : List Value).toArray below meth c H9 locs9 cells9 slots9 (vx_MQ below (va_Qi (post) (g_Bk E) (g_A E)) (g_XC E (fun _ _ => False)) ([.ref p1, .int p2, .ref p3] : List Value).toArray s mc0 ms0 (g_A E)) (F0 m 4 ls [.int (nI 0), .ref p3]) q9 := by
    intro X9 ce q9 G9 H9 locs9 cells9 slots9 hp a2 a3 a4 a5 a6 a7 a8
    obtain ⟨rfl, hp⟩ := hp
    · refine vx_catch (E := "java/lang/IndexOutOfBoundsException") (name := "java/lang/IndexOutOfBoundsException") (own := RX0) hown [] (⟨0, 9, 12, 13⟩ : ExceptionTableEntry) [] (hout.trans rfl) (fun z hz9 => by cases hz9) rfl (by decide) (hts _ q1437) (va_Nw.use rfl (hX.1 _ q1364 rfl)) a4 a5 a6 ?_
      refine lv_astore_n (lv' := [(3, .ref q9), (0, .ref p1), (1, .int p2), (2, .ref p3)]) hx hb dX0_partners_12 rfl hl (by decide) rfl (fun ls hl_1 => ?_)
      clear hl
      refine lv_iconst (v := nI 1) hx hb dX0_partners_13 (by decide) ?_
      exact vx_ret (g_iret hx hb hr hlocks (by show _ ≤ mc0; omega) (by show _ ≤ ms0; omega) a2 a3 rfl hp dX0_partners_14)
  refine gt_cVI (As := [.int p2]) (rest := [.int (nI 0), .ref p3])  ⟨hx, hb, hml, hown, hts⟩ (met_X1_partners l hfl E G p1 p2 c3 t4 _ _ hvc.2) (cwV 1 hts (lw_V q1619 q1620 q1621 q90 q1622) rfl rfl rfl (by decide +kernel) ⟨Nat.le_of_ble_eq_true rfl, Nat.le_of_ble_eq_true rfl⟩) (gw_rc (q := (RX1, TX1, 4)) hK hG hvc.1 rfl) hc1 hs1 hMC hMS (Nat.le_refl _) (Nat.le_refl _) (g_Y.st E) hz hY hK hG hS rfl hl.1 rfl (Nat.le_of_ble_eq_true rfl) dX0_partners_4 hkx (fun x1 G2 H locs ce sl hvc_2 hG_3 hS_4 hMC_5 hMS_6 => ?_)
  clear hvc hG hS hMC hMS
  refine lv_i2l (v := x1.toInt64) hx hb dX0_partners_7 rfl ?_
  refine gw_lst hx hb hK hG_3 hS_4 hvc_2 dX0_partners_8 (fun G5 H locs hvc_7 hG_8 hS_9 => ?_)
  clear hvc_2 hG_3 hS_4
  refine lv_goto (tgt := 15) hx hb dX0_partners_9 (by decide) ?_
  refine lv_iconst (v := nI 0) hx hb dX0_partners_15 (by decide) ?_
  exact vx_ret (g_iret hx hb hr hlocks (by show _ ≤ mc0; omega) (by show _ ≤ ms0; omega) hG_8 hS_9 rfl hvc_7 dX0_partners_16)
set_option maxHeartbeats 4000000 in
set_option maxRecDepth 100000 in
theorem met_X0_share (l : Launch) (hfl : l.stackTraces = false) (E : g_E) (G : g_G) (p1 : Nat) (p2 : Int32) (p3 : Int32) (p4 : Nat) (mc0 ms0 : Nat) (post : Int32 → g_G → Prop) (hvc : wp_X0_share E G p1 p2 p3 p4 mc0 ms0 post) : g_TI E l yX0_share (wsW_ yX0_share cX0_share 5 (Option.some Jvm.ClassFile.FieldType.int) [((0 : Nat), (10 : Nat), (13 : Nat), (13 : Nat))]) ({ frames := 9, cells := mc0, slots := ms0, locals := 161 } : Room) (g_Z E) [.ref p1, .int p2, .int p3, .ref p4] G post (fun _ _ => False) := by
  refine g_enterH (by decide +kernel) (Nat.le_of_ble_eq_true rfl) ?_
  intro p e s m below meth c ls hx hb hr hts hown hlocks hml hout hz hZ hK hG hS hl
  have hY := hZ.1
  have hX := hY.1
  have hl : lv_has ls 5 [(0, .ref p1), (1, .int p2), (2, .int p3), (3, .ref p4)] := hl
  have hown : s.vm.findClass RX0 = some m.cls := hown
  have hMC : 0 + mc0 ≤ mc0 := Nat.le_of_eq (Nat.zero_add _)
  have hMS : 0 + ms0 ≤ ms0 := Nat.le_of_eq (Nat.zero_add _)
  unfold wp_X0_share at hvc
  refine lv_aload_n hx hb dX0_share_0 rfl (lv_at hl 3 rfl) ?_
  refine lv_iconst (v := nI 0) hx hb dX0_share_1 (by decide) ?_
  refine lv_aload_n hx hb dX0_share_2 rfl (lv_at hl 0 rfl) ?_
  refine lv_iload_n hx hb dX0_share_3 rfl (lv_at hl 1 rfl) ?_
  refine lv_iload_n hx hb dX0_share_4 rfl (lv_at hl 2 rfl) ?_
  obtain ⟨c3, t4, hc1, hs1, hvc⟩ := hvc
  have hkx : ∀ (X9 : String) (ce : Cell) (q9 : Nat) (G9 : g_G) (H9 : Heap) (locs9 : List Loc) (cells9 slots9 : Nat), (fun X9 G9 => (X9 = "java/lang/IndexOutOfBoundsException" ∧ post (nI 1) G9)) X9 G9 → g_H E G9 H9 → va_S (g_A E) s.heap H9 locs9 → H9[q9]? = some ce → ce.vm = .none → s.vm.findClass X9 = some ce.cls → cells9 + (mc0 - c3) ≤ mc0 → slots9 + (ms0 - t4) ≤ ms0 → vx_W p l e ({ frames := 9, cells := mc0, slots := ms0, locals := 161 } : Room) s m ([.ref p1, .int p2, .int p3, .ref p4] : List Value).toArray below meth c H9 locs9 cells9 slots9 (vx_MQ below (va_Qi (post) (g_Bk E) (g_A E)) (g_XC E (fun _ _ => False)) ([.ref p1, .int p2, .int p3, .ref p4] : List Value).toArray s mc0 ms0 (g_A E)) (F0 m 5 ls [.int (nI 0), .ref p4]) q9 := by
    intro X9 ce q9 G9 H9 locs9 cells9 slots9 hp a2 a3 a4 a5 a6 a7 a8
    obtain ⟨rfl, hp⟩ := hp
    · refine vx_catch (E := "java/lang/IndexOutOfBoundsException") (name := "java/lang/IndexOutOfBoundsException") (own := RX0) hown [] (⟨0, 10, 13, 13⟩ : ExceptionTableEntry) [] (hout.trans rfl) (fun z hz9 => by cases hz9) rfl (by decide) (hts _ q1437) (va_Nw.use rfl (hX.1 _ q1364 rfl)) a4 a5 a6 ?_
      refine lv_astore (lv' := [(4, .ref q9), (0, .ref p1), (1, .int p2), (2, .int p3), (3, .ref p4)]) hx hb dX0_share_13 hl (by decide) rfl (fun ls hl_1 => ?_)
      clear hl
      refine lv_iconst (v := nI 1) hx hb dX0_share_15 (by decide) ?_
      exact vx_ret (g_iret hx hb hr hlocks (by show _ ≤ mc0; omega) (by show _ ≤ ms0; omega) a2 a3 rfl hp dX0_share_16)
  refine gt_cVI (As := [.int p2, .int p3]) (rest := [.int (nI 0), .ref p4])  ⟨hx, hb, hml, hown, hts⟩ (met_X1_share l hfl E G p1 p2 p3 c3 t4 _ _ hvc.2) (cwV 2 hts (lw_V q1630 q1631 q1632 q90 q1633) rfl rfl rfl (by decide +kernel) ⟨Nat.le_of_ble_eq_true rfl, Nat.le_of_ble_eq_true rfl⟩) (gw_rc (q := (RX1, TX1, 4)) hK hG hvc.1 rfl) hc1 hs1 hMC hMS (Nat.le_refl _) (Nat.le_refl _) (g_Y.st E) hz hY hK hG hS rfl hl.1 rfl (Nat.le_of_ble_eq_true rfl) dX0_share_5 hkx (fun x1 G2 H locs ce sl hvc_2 hG_3 hS_4 hMC_5 hMS_6 => ?_)
  clear hvc hG hS hMC hMS
  refine lv_i2l (v := x1.toInt64) hx hb dX0_share_8 rfl ?_
  refine gw_lst hx hb hK hG_3 hS_4 hvc_2 dX0_share_9 (fun G5 H locs hvc_7 hG_8 hS_9 => ?_)
  clear hvc_2 hG_3 hS_4
  refine lv_goto (tgt := 17) hx hb dX0_share_10 (by decide) ?_
  refine lv_iconst (v := nI 0) hx hb dX0_share_17 (by decide) ?_
  exact vx_ret (g_iret hx hb hr hlocks (by show _ ≤ mc0; omega) (by show _ ≤ ms0; omega) hG_8 hS_9 rfl hvc_7 dX0_share_18)
set_option maxHeartbeats 4000000 in
set_option maxRecDepth 100000 in
theorem met_X0_isUp (l : Launch) (hfl : l.stackTraces = false) (E : g_E) (G : g_G) (p1 : Nat) (p2 : Int32) (p3 : Nat) (mc0 ms0 : Nat) (post : Int32 → g_G → Prop) (hvc : wp_X0_isUp E G p1 p2 p3 mc0 ms0 post) : g_TI E l yX0_isUp (wsW_ yX0_isUp cX0_isUp 4 (Option.some Jvm.ClassFile.FieldType.int) [((0 : Nat), (16 : Nat), (19 : Nat), (13 : Nat))]) ({ frames := 8, cells := mc0, slots := ms0, locals := 138 } : Room) (g_Z E) [.ref p1, .int p2, .ref p3] G post (fun _ _ => False) := by
  refine g_enterH (by decide +kernel) (Nat.le_of_ble_eq_true rfl) ?_
  intro p e s m below meth c ls hx hb hr hts hown hlocks hml hout hz hZ hK hG hS hl
  have hY := hZ.1
  have hX := hY.1
  have hl : lv_has ls 4 [(0, .ref p1), (1, .int p2), (2, .ref p3)] := hl
  have hown : s.vm.findClass RX0 = some m.cls := hown
  have hMC : 0 + mc0 ≤ mc0 := Nat.le_of_eq (Nat.zero_add _)
  have hMS : 0 + ms0 ≤ ms0 := Nat.le_of_eq (Nat.zero_add _)
  unfold wp_X0_isUp at hvc
  refine lv_aload_n hx hb dX0_isUp_0 rfl (lv_at hl 2 rfl) ?_
  refine lv_iconst (v := nI 0) hx hb dX0_isUp_1 (by decide) ?_
  refine lv_aload_n hx hb dX0_isUp_2 rfl (lv_at hl 0 rfl) ?_
  refine lv_iload_n hx hb dX0_isUp_3 rfl (lv_at hl 1 rfl) ?_
  obtain ⟨c3, t4, hc1, hs1, hvc⟩ := hvc
  have hkx : ∀ (X9 : String) (ce : Cell) (q9 : Nat) (G9 : g_G) (H9 : Heap) (locs9 : List Loc) (cells9 slots9 : Nat), (fun X9 G9 => (X9 = "java/lang/IndexOutOfBoundsException" ∧ post (nI 1) G9)) X9 G9 → g_H E G9 H9 → va_S (g_A E) s.heap H9 locs9 → H9[q9]? = some ce → ce.vm = .none → s.vm.findClass X9 = some ce.cls → cells9 + (mc0 - c3) ≤ mc0 → slots9 + (ms0 - t4) ≤ ms0 → vx_W p l e ({ frames := 8, cells := mc0, slots := ms0, locals := 138 } : Room) s m ([.ref p1, .int p2, .ref p3] : List Value).toArray below meth c H9 locs9 cells9 slots9 (vx_MQ below (va_Qi (post) (g_Bk E) (g_A E)) (g_XC E (fun _ _ => False)) ([.ref p1, .int p2, .ref p3] : List Value).toArray s mc0 ms0 (g_A E)) (F0 m 4 ls [.int (nI 0), .ref p3]) q9 := by
    intro X9 ce q9 G9 H9 locs9 cells9 slots9 hp a2 a3 a4 a5 a6 a7 a8
    obtain ⟨rfl, hp⟩ := hp
    · refine vx_catch (E := "java/lang/IndexOutOfBoundsException") (name := "java/lang/IndexOutOfBoundsException") (own := RX0) hown [] (⟨0, 16, 19, 13⟩ : ExceptionTableEntry) [] (hout.trans rfl) (fun z hz9 => by cases hz9) rfl (by decide) (hts _ q1437) (va_Nw.use rfl (hX.1 _ q1364 rfl)) a4 a5 a6 ?_
      refine lv_astore_n (lv' := [(3, .ref q9), (0, .ref p1), (1, .int p2), (2, .ref p3)]) hx hb dX0_isUp_19 rfl hl (by decide) rfl (fun ls hl_1 => ?_)
      clear hl
      refine lv_iconst (v := nI 1) hx hb dX0_isUp_20 (by decide) ?_
      exact vx_ret (g_iret hx hb hr hlocks (by show _ ≤ mc0; omega) (by show _ ≤ ms0; omega) a2 a3 rfl hp dX0_isUp_21)
  refine gt_cVI (As := [.int p2]) (rest := [.int (nI 0), .ref p3])  ⟨hx, hb, hml, hown, hts⟩ (met_X1_isUp l hfl E G p1 p2 c3 t4 _ _ hvc.2) (cwV 1 hts (lw_V q1637 q1638 q1639 q90 q1640) rfl rfl rfl (by decide +kernel) ⟨Nat.le_of_ble_eq_true rfl, Nat.le_of_ble_eq_true rfl⟩) (gw_rc (q := (RX1, TX1, 4)) hK hG hvc.1 rfl) hc1 hs1 hMC hMS (Nat.le_refl _) (Nat.le_refl _) (g_Y.st E) hz hY hK hG hS rfl hl.1 rfl (Nat.le_of_ble_eq_true rfl) dX0_isUp_4 hkx (fun x1 G2 H locs ce sl hvc_2 hG_3 hS_4 hMC_5 hMS_6 => ?_)
  clear hvc hG hS hMC hMS
  have jn15 : ∀ (s0 : Int64) (s1 : Int32) (s2 : Nat) (G : g_G) (mc : Nat) (ms : Nat) (H : Heap) (locs : List Loc) (ls : Array Slot) (ce sl : Nat), wp_X0_isUp_15 E post s0 s1 s2 G mc ms → g_H E G H → va_S (g_A E) s.heap H locs → lv_has ls 4 [] → ce + mc ≤ mc0 → sl + ms ≤ ms0 → W p l e ({ frames := 8, cells := mc0, slots := ms0, locals := 138 } : Room) s m ([.ref p1, .int p2, .ref p3] : List Value).toArray below meth c H locs ce sl (vx_MQ below (va_Qi (post) (g_Bk E) (g_A E)) (g_XC E (fun _ _ => False)) ([.ref p1, .int p2, .ref p3] : List Value).toArray s mc0 ms0 (g_A E)) (F0 m 15 ls [.long s0, .int s1, .ref s2]) := by
    clear hvc_2 hG_3 hS_4 hl hMC_5 hMS_6
    intro s0 s1 s2 G mc ms H locs ls ce sl hvc_7 hG_8 hS_9 hl_10 hMC_11 hMS_12
    refine gw_lst hx hb hK hG_8 hS_9 hvc_7 dX0_isUp_15 (fun G5 H locs hvc_13 hG_14 hS_15 => ?_)
    clear hvc_7 hG_8 hS_9
    refine lv_goto (tgt := 22) hx hb dX0_isUp_16 (by decide) ?_
    refine lv_iconst (v := nI 0) hx hb dX0_isUp_22 (by decide) ?_
    exact vx_ret (g_iret hx hb hr hlocks (by show _ ≤ mc0; omega) (by show _ ≤ ms0; omega) hG_14 hS_15 rfl hvc_13 dX0_isUp_23)
  refine lv_if_eq (tgt := 14) hx hb dX0_isUp_7 (by decide) (fun h9 => ?_) (fun h9 => ?_)
  · replace hvc_2 := hvc_2.1 h9
    refine lv_lconst (v := lN 0) hx hb dX0_isUp_14 rfl ?_
    exact jn15 (lN 0) (nI 0) p3 G2 (mc0 - c3) (ms0 - t4) _ _ _ _ _ hvc_2 hG_3 hS_4 (lv_sub hl [] rfl) hMC_5 hMS_6
  · replace hvc_2 := hvc_2.2 h9
    refine lv_lconst (v := lN 1) hx hb dX0_isUp_10 rfl ?_
    refine lv_goto (tgt := 15) hx hb dX0_isUp_11 (by decide) ?_
    exact jn15 (lN 1) (nI 0) p3 G2 (mc0 - c3) (ms0 - t4) _ _ _ _ _ hvc_2 hG_3 hS_4 (lv_sub hl [] rfl) hMC_5 hMS_6
set_option maxHeartbeats 4000000 in
set_option maxRecDepth 100000 in
theorem met_X0_amount (l : Launch) (hfl : l.stackTraces = false) (E : g_E) (G : g_G) (p1 : Nat) (p2 : Int32) (p3 : Nat) (mc0 ms0 : Nat) (post : Int32 → g_G → Prop) (hvc : wp_X0_amount E G p1 p2 p3 mc0 ms0 post) : g_TI E l yX0_amount (wsW_ yX0_amount cX0_amount 4 (Option.some Jvm.ClassFile.FieldType.int) [((0 : Nat), (9 : Nat), (12 : Nat), (13 : Nat))]) ({ frames := 8, cells := mc0, slots := ms0, locals := 138 } : Room) (g_Z E) [.ref p1, .int p2, .ref p3] G post (fun _ _ => False) := by
  refine g_enterH (by decide +kernel) (Nat.le_of_ble_eq_true rfl) ?_
  intro p e s m below meth c ls hx hb hr hts hown hlocks hml hout hz hZ hK hG hS hl
  have hY := hZ.1
  have hX := hY.1
  have hl : lv_has ls 4 [(0, .ref p1), (1, .int p2), (2, .ref p3)] := hl
  have hown : s.vm.findClass RX0 = some m.cls := hown
  have hMC : 0 + mc0 ≤ mc0 := Nat.le_of_eq (Nat.zero_add _)
  have hMS : 0 + ms0 ≤ ms0 := Nat.le_of_eq (Nat.zero_add _)
  unfold wp_X0_amount at hvc
  refine lv_aload_n hx hb dX0_amount_0 rfl (lv_at hl 2 rfl) ?_
  refine lv_iconst (v := nI 0) hx hb dX0_amount_1 (by decide) ?_
  refine lv_aload_n hx hb dX0_amount_2 rfl (lv_at hl 0 rfl) ?_
  refine lv_iload_n hx hb dX0_amount_3 rfl (lv_at hl 1 rfl) ?_
  obtain ⟨c3, t4, hc1, hs1, hvc⟩ := hvc
  have hkx : ∀ (X9 : String) (ce : Cell) (q9 : Nat) (G9 : g_G) (H9 : Heap) (locs9 : List Loc) (cells9 slots9 : Nat), (fun X9 G9 => (X9 = "java/lang/IndexOutOfBoundsException" ∧ post (nI 1) G9)) X9 G9 → g_H E G9 H9 → va_S (g_A E) s.heap H9 locs9 → H9[q9]? = some ce → ce.vm = .none → s.vm.findClass X9 = some ce.cls → cells9 + (mc0 - c3) ≤ mc0 → slots9 + (ms0 - t4) ≤ ms0 → vx_W p l e ({ frames := 8, cells := mc0, slots := ms0, locals := 138 } : Room) s m ([.ref p1, .int p2, .ref p3] : List Value).toArray below meth c H9 locs9 cells9 slots9 (vx_MQ below (va_Qi (post) (g_Bk E) (g_A E)) (g_XC E (fun _ _ => False)) ([.ref p1, .int p2, .ref p3] : List Value).toArray s mc0 ms0 (g_A E)) (F0 m 4 ls [.int (nI 0), .ref p3]) q9 := by
    intro X9 ce q9 G9 H9 locs9 cells9 slots9 hp a2 a3 a4 a5 a6 a7 a8
    obtain ⟨rfl, hp⟩ := hp
    · refine vx_catch (E := "java/lang/IndexOutOfBoundsException") (name := "java/lang/IndexOutOfBoundsException") (own := RX0) hown [] (⟨0, 9, 12, 13⟩ : ExceptionTableEntry) [] (hout.trans rfl) (fun z hz9 => by cases hz9) rfl (by decide) (hts _ q1437) (va_Nw.use rfl (hX.1 _ q1364 rfl)) a4 a5 a6 ?_
      refine lv_astore_n (lv' := [(3, .ref q9), (0, .ref p1), (1, .int p2), (2, .ref p3)]) hx hb dX0_amount_12 rfl hl (by decide) rfl (fun ls hl_1 => ?_)
      clear hl
      refine lv_iconst (v := nI 1) hx hb dX0_amount_13 (by decide) ?_
      exact vx_ret (g_iret hx hb hr hlocks (by show _ ≤ mc0; omega) (by show _ ≤ ms0; omega) a2 a3 rfl hp dX0_amount_14)
  refine gt_cVI (As := [.int p2]) (rest := [.int (nI 0), .ref p3])  ⟨hx, hb, hml, hown, hts⟩ (met_X1_amount l hfl E G p1 p2 c3 t4 _ _ hvc.2) (cwV 1 hts (lw_V q1644 q1645 q1646 q90 q1647) rfl rfl rfl (by decide +kernel) ⟨Nat.le_of_ble_eq_true rfl, Nat.le_of_ble_eq_true rfl⟩) (gw_rc (q := (RX1, TX1, 4)) hK hG hvc.1 rfl) hc1 hs1 hMC hMS (Nat.le_refl _) (Nat.le_refl _) (g_Y.st E) hz hY hK hG hS rfl hl.1 rfl (Nat.le_of_ble_eq_true rfl) dX0_amount_4 hkx (fun x1 G2 H locs ce sl hvc_2 hG_3 hS_4 hMC_5 hMS_6 => ?_)
  clear hvc hG hS hMC hMS
  refine lv_i2l (v := x1.toInt64) hx hb dX0_amount_7 rfl ?_
  refine gw_lst hx hb hK hG_3 hS_4 hvc_2 dX0_amount_8 (fun G5 H locs hvc_7 hG_8 hS_9 => ?_)
  clear hvc_2 hG_3 hS_4
  refine lv_goto (tgt := 15) hx hb dX0_amount_9 (by decide) ?_
  refine lv_iconst (v := nI 0) hx hb dX0_amount_15 (by decide) ?_
  exact vx_ret (g_iret hx hb hr hlocks (by show _ ≤ mc0; omega) (by show _ ≤ ms0; omega) hG_8 hS_9 rfl hvc_7 dX0_amount_16)
set_option maxHeartbeats 4000000 in
set_option maxRecDepth 100000 in
theorem met_X0_amountByLog (l : Launch) (hfl : l.stackTraces = false) (E : g_E) (G : g_G) (p1 : Nat) (p2 : Int32) (p3 : Nat) (mc0 ms0 : Nat) (post : Int32 → g_G → Prop) (hvc : wp_X0_amountByLog E G p1 p2 p3 mc0 ms0 post) : g_TI E l yX0_amountByLog (wsW_ yX0_amountByLog cX0_amountByLog 4 (Option.some Jvm.ClassFile.FieldType.int) [((0 : Nat), (9 : Nat), (12 : Nat), (13 : Nat))]) ({ frames := 8, cells := mc0, slots := ms0, locals := 138 } : Room) (g_Z E) [.ref p1, .int p2, .ref p3] G post (fun _ _ => False) := by
  refine g_enterH (by decide +kernel) (Nat.le_of_ble_eq_true rfl) ?_
  intro p e s m below meth c ls hx hb hr hts hown hlocks hml hout hz hZ hK hG hS hl
  have hY := hZ.1
  have hX := hY.1
  have hl : lv_has ls 4 [(0, .ref p1), (1, .int p2), (2, .ref p3)] := hl
  have hown : s.vm.findClass RX0 = some m.cls := hown
  have hMC : 0 + mc0 ≤ mc0 := Nat.le_of_eq (Nat.zero_add _)
  have hMS : 0 + ms0 ≤ ms0 := Nat.le_of_eq (Nat.zero_add _)
  unfold wp_X0_amountByLog at hvc
  refine lv_aload_n hx hb dX0_amountByLog_0 rfl (lv_at hl 2 rfl) ?_
  refine lv_iconst (v := nI 0) hx hb dX0_amountByLog_1 (by decide) ?_
  refine lv_aload_n hx hb dX0_amountByLog_2 rfl (lv_at hl 0 rfl) ?_
  refine lv_iload_n hx hb dX0_amountByLog_3 rfl (lv_at hl 1 rfl) ?_
  obtain ⟨c3, t4, hc1, hs1, hvc⟩ := hvc
  have hkx : ∀ (X9 : String) (ce : Cell) (q9 : Nat) (G9 : g_G) (H9 : Heap) (locs9 : List Loc) (cells9 slots9 : Nat), (fun X9 G9 => (X9 = "java/lang/IndexOutOfBoundsException" ∧ post (nI 1) G9)) X9 G9 → g_H E G9 H9 → va_S (g_A E) s.heap H9 locs9 → H9[q9]? = some ce → ce.vm = .none → s.vm.findClass X9 = some ce.cls → cells9 + (mc0 - c3) ≤ mc0 → slots9 + (ms0 - t4) ≤ ms0 → vx_W p l e ({ frames := 8, cells := mc0, slots := ms0, locals := 138 } : Room) s m ([.ref p1, .int p2, .ref p3] : List Value).toArray below meth c H9 locs9 cells9 slots9 (vx_MQ below (va_Qi (post) (g_Bk E) (g_A E)) (g_XC E (fun _ _ => False)) ([.ref p1, .int p2, .ref p3] : List Value).toArray s mc0 ms0 (g_A E)) (F0 m 4 ls [.int (nI 0), .ref p3]) q9 := by
    intro X9 ce q9 G9 H9 locs9 cells9 slots9 hp a2 a3 a4 a5 a6 a7 a8
    obtain ⟨rfl, hp⟩ := hp
    · refine vx_catch (E := "java/lang/IndexOutOfBoundsException") (name := "java/lang/IndexOutOfBoundsException") (own := RX0) hown [] (⟨0, 9, 12, 13⟩ : ExceptionTableEntry) [] (hout.trans rfl) (fun z hz9 => by cases hz9) rfl (by decide) (hts _ q1437) (va_Nw.use rfl (hX.1 _ q1364 rfl)) a4 a5 a6 ?_
      refine lv_astore_n (lv' := [(3, .ref q9), (0, .ref p1), (1, .int p2), (2, .ref p3)]) hx hb dX0_amountByLog_12 rfl hl (by decide) rfl (fun ls hl_1 => ?_)
      clear hl
      refine lv_iconst (v := nI 1) hx hb dX0_amountByLog_13 (by decide) ?_
      exact vx_ret (g_iret hx hb hr hlocks (by show _ ≤ mc0; omega) (by show _ ≤ ms0; omega) a2 a3 rfl hp dX0_amountByLog_14)
  refine gt_cVI (As := [.int p2]) (rest := [.int (nI 0), .ref p3])  ⟨hx, hb, hml, hown, hts⟩ (met_X1_amountByLog l hfl E G p1 p2 c3 t4 _ _ hvc.2) (cwV 1 hts (lw_V q1651 q1652 q1653 q90 q1654) rfl rfl rfl (by decide +kernel) ⟨Nat.le_of_ble_eq_true rfl, Nat.le_of_ble_eq_true rfl⟩) (gw_rc (q := (RX1, TX1, 4)) hK hG hvc.1 rfl) hc1 hs1 hMC hMS (Nat.le_refl _) (Nat.le_refl _) (g_Y.st E) hz hY hK hG hS rfl hl.1 rfl (Nat.le_of_ble_eq_true rfl) dX0_amountByLog_4 hkx (fun x1 G2 H locs ce sl hvc_2 hG_3 hS_4 hMC_5 hMS_6 => ?_)
  clear hvc hG hS hMC hMS
  refine lv_i2l (v := x1.toInt64) hx hb dX0_amountByLog_7 rfl ?_
  refine gw_lst hx hb hK hG_3 hS_4 hvc_2 dX0_amountByLog_8 (fun G5 H locs hvc_7 hG_8 hS_9 => ?_)
  clear hvc_2 hG_3 hS_4
  refine lv_goto (tgt := 15) hx hb dX0_amountByLog_9 (by decide) ?_
  refine lv_iconst (v := nI 0) hx hb dX0_amountByLog_15 (by decide) ?_
  exact vx_ret (g_iret hx hb hr hlocks (by show _ ≤ mc0; omega) (by show _ ≤ ms0; omega) hG_8 hS_9 rfl hvc_7 dX0_amountByLog_16)
set_option maxHeartbeats 4000000 in
set_option maxRecDepth 100000 in
theorem met_X0_state (l : Launch) (hfl : l.stackTraces = false) (E : g_E) (G : g_G) (p1 : Nat) (p2 : Int32) (p3 : Int32) (p4 : Nat) (mc0 ms0 : Nat) (post : Int32 → g_G → Prop) (hvc : wp_X0_state E G p1 p2 p3 p4 mc0 ms0 post) : g_TI E l yX0_state (wsW_ yX0_state cX0_state 5 (Option.some Jvm.ClassFile.FieldType.int) [((0 : Nat), (10 : Nat), (13 : Nat), (13 : Nat))]) ({ frames := 9, cells := mc0, slots := ms0, locals := 161 } : Room) (g_Z E) [.ref p1, .int p2, .int p3, .ref p4] G post (fun _ _ => False) := by
  refine g_enterH (by decide +kernel) (Nat.le_of_ble_eq_true rfl) ?_
  intro p e s m below meth c ls hx hb hr hts hown hlocks hml hout hz hZ hK hG hS hl
  have hY := hZ.1
  have hX := hY.1
  have hl : lv_has ls 5 [(0, .ref p1), (1, .int p2), (2, .int p3), (3, .ref p4)] := hl
  have hown : s.vm.findClass RX0 = some m.cls := hown
  have hMC : 0 + mc0 ≤ mc0 := Nat.le_of_eq (Nat.zero_add _)
  have hMS : 0 + ms0 ≤ ms0 := Nat.le_of_eq (Nat.zero_add _)
  unfold wp_X0_state at hvc
  refine lv_aload_n hx hb dX0_state_0 rfl (lv_at hl 3 rfl) ?_
  refine lv_iconst (v := nI 0) hx hb dX0_state_1 (by decide) ?_
  refine lv_aload_n hx hb dX0_state_2 rfl (lv_at hl 0 rfl) ?_
  refine lv_iload_n hx hb dX0_state_3 rfl (lv_at hl 1 rfl) ?_
  refine lv_iload_n hx hb dX0_state_4 rfl (lv_at hl 2 rfl) ?_
  obtain ⟨c3, t4, hc1, hs1, hvc⟩ := hvc
  have hkx : ∀ (X9 : String) (ce : Cell) (q9 : Nat) (G9 : g_G) (H9 : Heap) (locs9 : List Loc) (cells9 slots9 : Nat), (fun X9 G9 => (X9 = "java/lang/IndexOutOfBoundsException" ∧ post (nI 1) G9)) X9 G9 → g_H E G9 H9 → va_S (g_A E) s.heap H9 locs9 → H9[q9]? = some ce → ce.vm = .none → s.vm.findClass X9 = some ce.cls → cells9 + (mc0 - c3) ≤ mc0 → slots9 + (ms0 - t4) ≤ ms0 → vx_W p l e ({ frames := 9, cells := mc0, slots := ms0, locals := 161 } : Room) s m ([.ref p1, .int p2, .int p3, .ref p4] : List Value).toArray below meth c H9 locs9 cells9 slots9 (vx_MQ below (va_Qi (post) (g_Bk E) (g_A E)) (g_XC E (fun _ _ => False)) ([.ref p1, .int p2, .int p3, .ref p4] : List Value).toArray s mc0 ms0 (g_A E)) (F0 m 5 ls [.int (nI 0), .ref p4]) q9 := by
    intro X9 ce q9 G9 H9 locs9 cells9 slots9 hp a2 a3 a4 a5 a6 a7 a8
    obtain ⟨rfl, hp⟩ := hp
    · refine vx_catch (E := "java/lang/IndexOutOfBoundsException") (name := "java/lang/IndexOutOfBoundsException") (own := RX0) hown [] (⟨0, 10, 13, 13⟩ : ExceptionTableEntry) [] (hout.trans rfl) (fun z hz9 => by cases hz9) rfl (by decide) (hts _ q1437) (va_Nw.use rfl (hX.1 _ q1364 rfl)) a4 a5 a6 ?_
      refine lv_astore (lv' := [(4, .ref q9), (0, .ref p1), (1, .int p2), (2, .int p3), (3, .ref p4)]) hx hb dX0_state_13 hl (by decide) rfl (fun ls hl_1 => ?_)
      clear hl
      refine lv_iconst (v := nI 1) hx hb dX0_state_15 (by decide) ?_
      exact vx_ret (g_iret hx hb hr hlocks (by show _ ≤ mc0; omega) (by show _ ≤ ms0; omega) a2 a3 rfl hp dX0_state_16)
  refine gt_cVI (As := [.int p2, .int p3]) (rest := [.int (nI 0), .ref p4])  ⟨hx, hb, hml, hown, hts⟩ (met_X1_state_2 l hfl E G p1 p2 p3 c3 t4 _ _ hvc.2) (cwV 2 hts (lw_V q1658 q1659 q1660 q90 q1661) rfl rfl rfl (by decide +kernel) ⟨Nat.le_of_ble_eq_true rfl, Nat.le_of_ble_eq_true rfl⟩) (gw_rc (q := (RX1, TX1, 4)) hK hG hvc.1 rfl) hc1 hs1 hMC hMS (Nat.le_refl _) (Nat.le_refl _) (g_Y.st E) hz hY hK hG hS rfl hl.1 rfl (Nat.le_of_ble_eq_true rfl) dX0_state_5 hkx (fun x1 G2 H locs ce sl hvc_2 hG_3 hS_4 hMC_5 hMS_6 => ?_)
  clear hvc hG hS hMC hMS
  refine lv_i2l (v := x1.toInt64) hx hb dX0_state_8 rfl ?_
  refine gw_lst hx hb hK hG_3 hS_4 hvc_2 dX0_state_9 (fun G5 H locs hvc_7 hG_8 hS_9 => ?_)
  clear hvc_2 hG_3 hS_4
  refine lv_goto (tgt := 17) hx hb dX0_state_10 (by decide) ?_
  refine lv_iconst (v := nI 0) hx hb dX0_state_17 (by decide) ?_
  exact vx_ret (g_iret hx hb hr hlocks (by show _ ≤ mc0; omega) (by show _ ≤ ms0; omega) hG_8 hS_9 rfl hvc_7 dX0_state_18)
set_option maxHeartbeats 4000000 in
set_option maxRecDepth 100000 in
theorem met_X0_stateByLog (l : Launch) (hfl : l.stackTraces = false) (E : g_E) (G : g_G) (p1 : Nat) (p2 : Int32) (p3 : Int32) (p4 : Nat) (mc0 ms0 : Nat) (post : Int32 → g_G → Prop) (hvc : wp_X0_stateByLog E G p1 p2 p3 p4 mc0 ms0 post) : g_TI E l yX0_stateByLog (wsW_ yX0_stateByLog cX0_stateByLog 5 (Option.some Jvm.ClassFile.FieldType.int) [((0 : Nat), (10 : Nat), (13 : Nat), (13 : Nat))]) ({ frames := 9, cells := mc0, slots := ms0, locals := 161 } : Room) (g_Z E) [.ref p1, .int p2, .int p3, .ref p4] G post (fun _ _ => False) := by
  refine g_enterH (by decide +kernel) (Nat.le_of_ble_eq_true rfl) ?_
  intro p e s m below meth c ls hx hb hr hts hown hlocks hml hout hz hZ hK hG hS hl
  have hY := hZ.1
  have hX := hY.1
  have hl : lv_has ls 5 [(0, .ref p1), (1, .int p2), (2, .int p3), (3, .ref p4)] := hl
  have hown : s.vm.findClass RX0 = some m.cls := hown
  have hMC : 0 + mc0 ≤ mc0 := Nat.le_of_eq (Nat.zero_add _)
  have hMS : 0 + ms0 ≤ ms0 := Nat.le_of_eq (Nat.zero_add _)
  unfold wp_X0_stateByLog at hvc
  refine lv_aload_n hx hb dX0_stateByLog_0 rfl (lv_at hl 3 rfl) ?_
  refine lv_iconst (v := nI 0) hx hb dX0_stateByLog_1 (by decide) ?_
  refine lv_aload_n hx hb dX0_stateByLog_2 rfl (lv_at hl 0 rfl) ?_
  refine lv_iload_n hx hb dX0_stateByLog_3 rfl (lv_at hl 1 rfl) ?_
  refine lv_iload_n hx hb dX0_stateByLog_4 rfl (lv_at hl 2 rfl) ?_
  obtain ⟨c3, t4, hc1, hs1, hvc⟩ := hvc
  have hkx : ∀ (X9 : String) (ce : Cell) (q9 : Nat) (G9 : g_G) (H9 : Heap) (locs9 : List Loc) (cells9 slots9 : Nat), (fun X9 G9 => (X9 = "java/lang/IndexOutOfBoundsException" ∧ post (nI 1) G9)) X9 G9 → g_H E G9 H9 → va_S (g_A E) s.heap H9 locs9 → H9[q9]? = some ce → ce.vm = .none → s.vm.findClass X9 = some ce.cls → cells9 + (mc0 - c3) ≤ mc0 → slots9 + (ms0 - t4) ≤ ms0 → vx_W p l e ({ frames := 9, cells := mc0, slots := ms0, locals := 161 } : Room) s m ([.ref p1, .int p2, .int p3, .ref p4] : List Value).toArray below meth c H9 locs9 cells9 slots9 (vx_MQ below (va_Qi (post) (g_Bk E) (g_A E)) (g_XC E (fun _ _ => False)) ([.ref p1, .int p2, .int p3, .ref p4] : List Value).toArray s mc0 ms0 (g_A E)) (F0 m 5 ls [.int (nI 0), .ref p4]) q9 := by
    intro X9 ce q9 G9 H9 locs9 cells9 slots9 hp a2 a3 a4 a5 a6 a7 a8
    obtain ⟨rfl, hp⟩ := hp
    · refine vx_catch (E := "java/lang/IndexOutOfBoundsException") (name := "java/lang/IndexOutOfBoundsException") (own := RX0) hown [] (⟨0, 10, 13, 13⟩ : ExceptionTableEntry) [] (hout.trans rfl) (fun z hz9 => by cases hz9) rfl (by decide) (hts _ q1437) (va_Nw.use rfl (hX.1 _ q1364 rfl)) a4 a5 a6 ?_
      refine lv_astore (lv' := [(4, .ref q9), (0, .ref p1), (1, .int p2), (2, .int p3), (3, .ref p4)]) hx hb dX0_stateByLog_13 hl (by decide) rfl (fun ls hl_1 => ?_)
      clear hl
      refine lv_iconst (v := nI 1) hx hb dX0_stateByLog_15 (by decide) ?_
      exact vx_ret (g_iret hx hb hr hlocks (by show _ ≤ mc0; omega) (by show _ ≤ ms0; omega) a2 a3 rfl hp dX0_stateByLog_16)
  refine gt_cVI (As := [.int p2, .int p3]) (rest := [.int (nI 0), .ref p4])  ⟨hx, hb, hml, hown, hts⟩ (met_X1_stateByLog l hfl E G p1 p2 p3 c3 t4 _ _ hvc.2) (cwV 2 hts (lw_V q1665 q1666 q1667 q90 q1668) rfl rfl rfl (by decide +kernel) ⟨Nat.le_of_ble_eq_true rfl, Nat.le_of_ble_eq_true rfl⟩) (gw_rc (q := (RX1, TX1, 4)) hK hG hvc.1 rfl) hc1 hs1 hMC hMS (Nat.le_refl _) (Nat.le_refl _) (g_Y.st E) hz hY hK hG hS rfl hl.1 rfl (Nat.le_of_ble_eq_true rfl) dX0_stateByLog_5 hkx (fun x1 G2 H locs ce sl hvc_2 hG_3 hS_4 hMC_5 hMS_6 => ?_)
  clear hvc hG hS hMC hMS
  refine lv_i2l (v := x1.toInt64) hx hb dX0_stateByLog_8 rfl ?_
  refine gw_lst hx hb hK hG_3 hS_4 hvc_2 dX0_stateByLog_9 (fun G5 H locs hvc_7 hG_8 hS_9 => ?_)
  clear hvc_2 hG_3 hS_4
  refine lv_goto (tgt := 17) hx hb dX0_stateByLog_10 (by decide) ?_
  refine lv_iconst (v := nI 0) hx hb dX0_stateByLog_17 (by decide) ?_
  exact vx_ret (g_iret hx hb hr hlocks (by show _ ≤ mc0; omega) (by show _ ≤ ms0; omega) hG_8 hS_9 rfl hvc_7 dX0_stateByLog_18)
set_option maxHeartbeats 4000000 in
set_option maxRecDepth 100000 in
theorem met_X0_inDoubt (l : Launch) (hfl : l.stackTraces = false) (E : g_E) (G : g_G) (p1 : Nat) (p2 : Int32) (p3 : Nat) (mc0 ms0 : Nat) (post : Int32 → g_G → Prop) (hvc : wp_X0_inDoubt E G p1 p2 p3 mc0 ms0 post) : g_TI E l yX0_inDoubt (wsW_ yX0_inDoubt cX0_inDoubt 4 (Option.some Jvm.ClassFile.FieldType.int) [((0 : Nat), (9 : Nat), (12 : Nat), (13 : Nat))]) ({ frames := 8, cells := mc0, slots := ms0, locals := 138 } : Room) (g_Z E) [.ref p1, .int p2, .ref p3] G post (fun _ _ => False) := by
  refine g_enterH (by decide +kernel) (Nat.le_of_ble_eq_true rfl) ?_
  intro p e s m below meth c ls hx hb hr hts hown hlocks hml hout hz hZ hK hG hS hl
  have hY := hZ.1
  have hX := hY.1
  have hl : lv_has ls 4 [(0, .ref p1), (1, .int p2), (2, .ref p3)] := hl
  have hown : s.vm.findClass RX0 = some m.cls := hown
  have hMC : 0 + mc0 ≤ mc0 := Nat.le_of_eq (Nat.zero_add _)
  have hMS : 0 + ms0 ≤ ms0 := Nat.le_of_eq (Nat.zero_add _)
  unfold wp_X0_inDoubt at hvc
  refine lv_aload_n hx hb dX0_inDoubt_0 rfl (lv_at hl 2 rfl) ?_
  refine lv_iconst (v := nI 0) hx hb dX0_inDoubt_1 (by decide) ?_
  refine lv_aload_n hx hb dX0_inDoubt_2 rfl (lv_at hl 0 rfl) ?_
  refine lv_iload_n hx hb dX0_inDoubt_3 rfl (lv_at hl 1 rfl) ?_
  obtain ⟨c3, t4, hc1, hs1, hvc⟩ := hvc
  have hkx : ∀ (X9 : String) (ce : Cell) (q9 : Nat) (G9 : g_G) (H9 : Heap) (locs9 : List Loc) (cells9 slots9 : Nat), (fun X9 G9 => (X9 = "java/lang/IndexOutOfBoundsException" ∧ post (nI 1) G9)) X9 G9 → g_H E G9 H9 → va_S (g_A E) s.heap H9 locs9 → H9[q9]? = some ce → ce.vm = .none → s.vm.findClass X9 = some ce.cls → cells9 + (mc0 - c3) ≤ mc0 → slots9 + (ms0 - t4) ≤ ms0 → vx_W p l e ({ frames := 8, cells := mc0, slots := ms0, locals := 138 } : Room) s m ([.ref p1, .int p2, .ref p3] : List Value).toArray below meth c H9 locs9 cells9 slots9 (vx_MQ below (va_Qi (post) (g_Bk E) (g_A E)) (g_XC E (fun _ _ => False)) ([.ref p1, .int p2, .ref p3] : List Value).toArray s mc0 ms0 (g_A E)) (F0 m 4 ls [.int (nI 0), .ref p3]) q9 := by
    intro X9 ce q9 G9 H9 locs9 cells9 slots9 hp a2 a3 a4 a5 a6 a7 a8
    obtain ⟨rfl, hp⟩ := hp
    · refine vx_catch (E := "java/lang/IndexOutOfBoundsException") (name := "java/lang/IndexOutOfBoundsException") (own := RX0) hown [] (⟨0, 9, 12, 13⟩ : ExceptionTableEntry) [] (hout.trans rfl) (fun z hz9 => by cases hz9) rfl (by decide) (hts _ q1437) (va_Nw.use rfl (hX.1 _ q1364 rfl)) a4 a5 a6 ?_
      refine lv_astore_n (lv' := [(3, .ref q9), (0, .ref p1), (1, .int p2), (2, .ref p3)]) hx hb dX0_inDoubt_12 rfl hl (by decide) rfl (fun ls hl_1 => ?_)
      clear hl
      refine lv_iconst (v := nI 1) hx hb dX0_inDoubt_13 (by decide) ?_
      exact vx_ret (g_iret hx hb hr hlocks (by show _ ≤ mc0; omega) (by show _ ≤ ms0; omega) a2 a3 rfl hp dX0_inDoubt_14)
  refine gt_cVI (As := [.int p2]) (rest := [.int (nI 0), .ref p3])  ⟨hx, hb, hml, hown, hts⟩ (met_X1_inDoubt l hfl E G p1 p2 c3 t4 _ _ hvc.2) (cwV 1 hts (lw_V q1672 q1673 q1674 q90 q1675) rfl rfl rfl (by decide +kernel) ⟨Nat.le_of_ble_eq_true rfl, Nat.le_of_ble_eq_true rfl⟩) (gw_rc (q := (RX1, TX1, 4)) hK hG hvc.1 rfl) hc1 hs1 hMC hMS (Nat.le_refl _) (Nat.le_refl _) (g_Y.st E) hz hY hK hG hS rfl hl.1 rfl (Nat.le_of_ble_eq_true rfl) dX0_inDoubt_4 hkx (fun x1 G2 H locs ce sl hvc_2 hG_3 hS_4 hMC_5 hMS_6 => ?_)
  clear hvc hG hS hMC hMS
  refine lv_i2l (v := x1.toInt64) hx hb dX0_inDoubt_7 rfl ?_
  refine gw_lst hx hb hK hG_3 hS_4 hvc_2 dX0_inDoubt_8 (fun G5 H locs hvc_7 hG_8 hS_9 => ?_)
  clear hvc_2 hG_3 hS_4
  refine lv_goto (tgt := 15) hx hb dX0_inDoubt_9 (by decide) ?_
  refine lv_iconst (v := nI 0) hx hb dX0_inDoubt_15 (by decide) ?_
  exact vx_ret (g_iret hx hb hr hlocks (by show _ ≤ mc0; omega) (by show _ ≤ ms0; omega) hG_8 hS_9 rfl hvc_7 dX0_inDoubt_16)
set_option maxHeartbeats 4000000 in
set_option maxRecDepth 100000 in
theorem met_X0_outcome (l : Launch) (hfl : l.stackTraces = false) (E : g_E) (G : g_G) (p1 : Nat) (p2 : Int32) (p3 : Nat) (mc0 ms0 : Nat) (post : Int32 → g_G → Prop) (hvc : wp_X0_outcome E G p1 p2 p3 mc0 ms0 post) : g_TI E l yX0_outcome (wsW_ yX0_outcome cX0_outcome 4 (Option.some Jvm.ClassFile.FieldType.int) [((0 : Nat), (9 : Nat), (12 : Nat), (13 : Nat))]) ({ frames := 8, cells := mc0, slots := ms0, locals := 138 } : Room) (g_Z E) [.ref p1, .int p2, .ref p3] G post (fun _ _ => False) := by
  refine g_enterH (by decide +kernel) (Nat.le_of_ble_eq_true rfl) ?_
  intro p e s m below meth c ls hx hb hr hts hown hlocks hml hout hz hZ hK hG hS hl
  have hY := hZ.1
  have hX := hY.1
  have hl : lv_has ls 4 [(0, .ref p1), (1, .int p2), (2, .ref p3)] := hl
  have hown : s.vm.findClass RX0 = some m.cls := hown
  have hMC : 0 + mc0 ≤ mc0 := Nat.le_of_eq (Nat.zero_add _)
  have hMS : 0 + ms0 ≤ ms0 := Nat.le_of_eq (Nat.zero_add _)
  unfold wp_X0_outcome at hvc
  refine lv_aload_n hx hb dX0_outcome_0 rfl (lv_at hl 2 rfl) ?_
  refine lv_iconst (v := nI 0) hx hb dX0_outcome_1 (by decide) ?_
  refine lv_aload_n hx hb dX0_outcome_2 rfl (lv_at hl 0 rfl) ?_
  refine lv_iload_n hx hb dX0_outcome_3 rfl (lv_at hl 1 rfl) ?_
  obtain ⟨c3, t4, hc1, hs1, hvc⟩ := hvc
  have hkx : ∀ (X9 : String) (ce : Cell) (q9 : Nat) (G9 : g_G) (H9 : Heap) (locs9 : List Loc) (cells9 slots9 : Nat), (fun X9 G9 => (X9 = "java/lang/IndexOutOfBoundsException" ∧ post (nI 1) G9)) X9 G9 → g_H E G9 H9 → va_S (g_A E) s.heap H9 locs9 → H9[q9]? = some ce → ce.vm = .none → s.vm.findClass X9 = some ce.cls → cells9 + (mc0 - c3) ≤ mc0 → slots9 + (ms0 - t4) ≤ ms0 → vx_W p l e ({ frames := 8, cells := mc0, slots := ms0, locals := 138 } : Room) s m ([.ref p1, .int p2, .ref p3] : List Value).toArray below meth c H9 locs9 cells9 slots9 (vx_MQ below (va_Qi (post) (g_Bk E) (g_A E)) (g_XC E (fun _ _ => False)) ([.ref p1, .int p2, .ref p3] : List Value).toArray s mc0 ms0 (g_A E)) (F0 m 4 ls [.int (nI 0), .ref p3]) q9 := by
    intro X9 ce q9 G9 H9 locs9 cells9 slots9 hp a2 a3 a4 a5 a6 a7 a8
    obtain ⟨rfl, hp⟩ := hp
    · refine vx_catch (E := "java/lang/IndexOutOfBoundsException") (name := "java/lang/IndexOutOfBoundsException") (own := RX0) hown [] (⟨0, 9, 12, 13⟩ : ExceptionTableEntry) [] (hout.trans rfl) (fun z hz9 => by cases hz9) rfl (by decide) (hts _ q1437) (va_Nw.use rfl (hX.1 _ q1364 rfl)) a4 a5 a6 ?_
      refine lv_astore_n (lv' := [(3, .ref q9), (0, .ref p1), (1, .int p2), (2, .ref p3)]) hx hb dX0_outcome_12 rfl hl (by decide) rfl (fun ls hl_1 => ?_)
      clear hl
      refine lv_iconst (v := nI 1) hx hb dX0_outcome_13 (by decide) ?_
      exact vx_ret (g_iret hx hb hr hlocks (by show _ ≤ mc0; omega) (by show _ ≤ ms0; omega) a2 a3 rfl hp dX0_outcome_14)
  refine gt_cVI (As := [.int p2]) (rest := [.int (nI 0), .ref p3])  ⟨hx, hb, hml, hown, hts⟩ (met_X1_outcome l hfl E G p1 p2 c3 t4 _ _ hvc.2) (cwV 1 hts (lw_V q1679 q1680 q1681 q90 q1682) rfl rfl rfl (by decide +kernel) ⟨Nat.le_of_ble_eq_true rfl, Nat.le_of_ble_eq_true rfl⟩) (gw_rc (q := (RX1, TX1, 4)) hK hG hvc.1 rfl) hc1 hs1 hMC hMS (Nat.le_refl _) (Nat.le_refl _) (g_Y.st E) hz hY hK hG hS rfl hl.1 rfl (Nat.le_of_ble_eq_true rfl) dX0_outcome_4 hkx (fun x1 G2 H locs ce sl hvc_2 hG_3 hS_4 hMC_5 hMS_6 => ?_)
  clear hvc hG hS hMC hMS
  refine lv_i2l (v := x1.toInt64) hx hb dX0_outcome_7 rfl ?_
  refine gw_lst hx hb hK hG_3 hS_4 hvc_2 dX0_outcome_8 (fun G5 H locs hvc_7 hG_8 hS_9 => ?_)
  clear hvc_2 hG_3 hS_4
  refine lv_goto (tgt := 15) hx hb dX0_outcome_9 (by decide) ?_
  refine lv_iconst (v := nI 0) hx hb dX0_outcome_15 (by decide) ?_
  exact vx_ret (g_iret hx hb hr hlocks (by show _ ≤ mc0; omega) (by show _ ≤ ms0; omega) hG_8 hS_9 rfl hvc_7 dX0_outcome_16)
set_option maxHeartbeats 4000000 in
set_option maxRecDepth 100000 in
theorem met_X0_outcomeByStores (l : Launch) (hfl : l.stackTraces = false) (E : g_E) (G : g_G) (p1 : Nat) (p2 : Int32) (p3 : Nat) (mc0 ms0 : Nat) (post : Int32 → g_G → Prop) (hvc : wp_X0_outcomeByStores E G p1 p2 p3 mc0 ms0 post) : g_TI E l yX0_outcomeByStores (wsW_ yX0_outcomeByStores cX0_outcomeByStores 4 (Option.some Jvm.ClassFile.FieldType.int) [((0 : Nat), (9 : Nat), (12 : Nat), (13 : Nat))]) ({ frames := 8, cells := mc0, slots := ms0, locals := 138 } : Room) (g_Z E) [.ref p1, .int p2, .ref p3] G post (fun _ _ => False) := by
  refine g_enterH (by decide +kernel) (Nat.le_of_ble_eq_true rfl) ?_
  intro p e s m below meth c ls hx hb hr hts hown hlocks hml hout hz hZ hK hG hS hl
  have hY := hZ.1
  have hX := hY.1
  have hl : lv_has ls 4 [(0, .ref p1), (1, .int p2), (2, .ref p3)] := hl
  have hown : s.vm.findClass RX0 = some m.cls := hown
  have hMC : 0 + mc0 ≤ mc0 := Nat.le_of_eq (Nat.zero_add _)
  have hMS : 0 + ms0 ≤ ms0 := Nat.le_of_eq (Nat.zero_add _)
  unfold wp_X0_outcomeByStores at hvc
  refine lv_aload_n hx hb dX0_outcomeByStores_0 rfl (lv_at hl 2 rfl) ?_
  refine lv_iconst (v := nI 0) hx hb dX0_outcomeByStores_1 (by decide) ?_
  refine lv_aload_n hx hb dX0_outcomeByStores_2 rfl (lv_at hl 0 rfl) ?_
  refine lv_iload_n hx hb dX0_outcomeByStores_3 rfl (lv_at hl 1 rfl) ?_
  obtain ⟨c3, t4, hc1, hs1, hvc⟩ := hvc
  have hkx : ∀ (X9 : String) (ce : Cell) (q9 : Nat) (G9 : g_G) (H9 : Heap) (locs9 : List Loc) (cells9 slots9 : Nat), (fun X9 G9 => (X9 = "java/lang/IndexOutOfBoundsException" ∧ post (nI 1) G9)) X9 G9 → g_H E G9 H9 → va_S (g_A E) s.heap H9 locs9 → H9[q9]? = some ce → ce.vm = .none → s.vm.findClass X9 = some ce.cls → cells9 + (mc0 - c3) ≤ mc0 → slots9 + (ms0 - t4) ≤ ms0 → vx_W p l e ({ frames := 8, cells := mc0, slots := ms0, locals := 138 } : Room) s m ([.ref p1, .int p2, .ref p3] : List Value).toArray below meth c H9 locs9 cells9 slots9 (vx_MQ below (va_Qi (post) (g_Bk E) (g_A E)) (g_XC E (fun _ _ => False)) ([.ref p1, .int p2, .ref p3] : List Value).toArray s mc0 ms0 (g_A E)) (F0 m 4 ls [.int (nI 0), .ref p3]) q9 := by
    intro X9 ce q9 G9 H9 locs9 cells9 slots9 hp a2 a3 a4 a5 a6 a7 a8
    obtain ⟨rfl, hp⟩ := hp
    · refine vx_catch (E := "java/lang/IndexOutOfBoundsException") (name := "java/lang/IndexOutOfBoundsException") (own := RX0) hown [] (⟨0, 9, 12, 13⟩ : ExceptionTableEntry) [] (hout.trans rfl) (fun z hz9 => by cases hz9) rfl (by decide) (hts _ q1437) (va_Nw.use rfl (hX.1 _ q1364 rfl)) a4 a5 a6 ?_
      refine lv_astore_n (lv' := [(3, .ref q9), (0, .ref p1), (1, .int p2), (2, .ref p3)]) hx hb dX0_outcomeByStores_12 rfl hl (by decide) rfl (fun ls hl_1 => ?_)
      clear hl
      refine lv_iconst (v := nI 1) hx hb dX0_outcomeByStores_13 (by decide) ?_
      exact vx_ret (g_iret hx hb hr hlocks (by show _ ≤ mc0; omega) (by show _ ≤ ms0; omega) a2 a3 rfl hp dX0_outcomeByStores_14)
  refine gt_cVI (As := [.int p2]) (rest := [.int (nI 0), .ref p3])  ⟨hx, hb, hml, hown, hts⟩ (met_X1_outcomeByStores l hfl E G p1 p2 c3 t4 _ _ hvc.2) (cwV 1 hts (lw_V q1686 q1687 q1688 q90 q1689) rfl rfl rfl (by decide +kernel) ⟨Nat.le_of_ble_eq_true rfl, Nat.le_of_ble_eq_true rfl⟩) (gw_rc (q := (RX1, TX1, 4)) hK hG hvc.1 rfl) hc1 hs1 hMC hMS (Nat.le_refl _) (Nat.le_refl _) (g_Y.st E) hz hY hK hG hS rfl hl.1 rfl (Nat.le_of_ble_eq_true rfl) dX0_outcomeByStores_4 hkx (fun x1 G2 H locs ce sl hvc_2 hG_3 hS_4 hMC_5 hMS_6 => ?_)
  clear hvc hG hS hMC hMS
  refine lv_i2l (v := x1.toInt64) hx hb dX0_outcomeByStores_7 rfl ?_
  refine gw_lst hx hb hK hG_3 hS_4 hvc_2 dX0_outcomeByStores_8 (fun G5 H locs hvc_7 hG_8 hS_9 => ?_)
  clear hvc_2 hG_3 hS_4
  refine lv_goto (tgt := 15) hx hb dX0_outcomeByStores_9 (by decide) ?_
  refine lv_iconst (v := nI 0) hx hb dX0_outcomeByStores_15 (by decide) ?_
  exact vx_ret (g_iret hx hb hr hlocks (by show _ ≤ mc0; omega) (by show _ ≤ ms0; omega) hG_8 hS_9 rfl hvc_7 dX0_outcomeByStores_16)
set_option maxHeartbeats 4000000 in
set_option maxRecDepth 100000 in
theorem met_X0_hasEnded (l : Launch) (hfl : l.stackTraces = false) (E : g_E) (G : g_G) (p1 : Nat) (p2 : Int32) (p3 : Nat) (mc0 ms0 : Nat) (post : Int32 → g_G → Prop) (hvc : wp_X0_hasEnded E G p1 p2 p3 mc0 ms0 post) : g_TI E l yX0_hasEnded (wsW_ yX0_hasEnded cX0_hasEnded 4 (Option.some Jvm.ClassFile.FieldType.int) [((0 : Nat), (16 : Nat), (19 : Nat), (13 : Nat))]) ({ frames := 8, cells := mc0, slots := ms0, locals := 138 } : Room) (g_Z E) [.ref p1, .int p2, .ref p3] G post (fun _ _ => False) := by
  refine g_enterH (by decide +kernel) (Nat.le_of_ble_eq_true rfl) ?_
  intro p e s m below meth c ls hx hb hr hts hown hlocks hml hout hz hZ hK hG hS hl
  have hY := hZ.1
  have hX := hY.1
  have hl : lv_has ls 4 [(0, .ref p1), (1, .int p2), (2, .ref p3)] := hl
  have hown : s.vm.findClass RX0 = some m.cls := hown
  have hMC : 0 + mc0 ≤ mc0 := Nat.le_of_eq (Nat.zero_add _)
  have hMS : 0 + ms0 ≤ ms0 := Nat.le_of_eq (Nat.zero_add _)
  unfold wp_X0_hasEnded at hvc
  refine lv_aload_n hx hb dX0_hasEnded_0 rfl (lv_at hl 2 rfl) ?_
  refine lv_iconst (v := nI 0) hx hb dX0_hasEnded_1 (by decide) ?_
  refine lv_aload_n hx hb dX0_hasEnded_2 rfl (lv_at hl 0 rfl) ?_
  refine lv_iload_n hx hb dX0_hasEnded_3 rfl (lv_at hl 1 rfl) ?_
  obtain ⟨c3, t4, hc1, hs1, hvc⟩ := hvc
  have hkx : ∀ (X9 : String) (ce : Cell) (q9 : Nat) (G9 : g_G) (H9 : Heap) (locs9 : List Loc) (cells9 slots9 : Nat), (fun X9 G9 => (X9 = "java/lang/IndexOutOfBoundsException" ∧ post (nI 1) G9)) X9 G9 → g_H E G9 H9 → va_S (g_A E) s.heap H9 locs9 → H9[q9]? = some ce → ce.vm = .none → s.vm.findClass X9 = some ce.cls → cells9 + (mc0 - c3) ≤ mc0 → slots9 + (ms0 - t4) ≤ ms0 → vx_W p l e ({ frames := 8, cells := mc0, slots := ms0, locals := 138 } : Room) s m ([.ref p1, .int p2, .ref p3] : List Value).toArray below meth c H9 locs9 cells9 slots9 (vx_MQ below (va_Qi (post) (g_Bk E) (g_A E)) (g_XC E (fun _ _ => False)) ([.ref p1, .int p2, .ref p3] : List Value).toArray s mc0 ms0 (g_A E)) (F0 m 4 ls [.int (nI 0), .ref p3]) q9 := by
    intro X9 ce q9 G9 H9 locs9 cells9 slots9 hp a2 a3 a4 a5 a6 a7 a8
    obtain ⟨rfl, hp⟩ := hp
    · refine vx_catch (E := "java/lang/IndexOutOfBoundsException") (name := "java/lang/IndexOutOfBoundsException") (own := RX0) hown [] (⟨0, 16, 19, 13⟩ : ExceptionTableEntry) [] (hout.trans rfl) (fun z hz9 => by cases hz9) rfl (by decide) (hts _ q1437) (va_Nw.use rfl (hX.1 _ q1364 rfl)) a4 a5 a6 ?_
      refine lv_astore_n (lv' := [(3, .ref q9), (0, .ref p1), (1, .int p2), (2, .ref p3)]) hx hb dX0_hasEnded_19 rfl hl (by decide) rfl (fun ls hl_1 => ?_)
      clear hl
      refine lv_iconst (v := nI 1) hx hb dX0_hasEnded_20 (by decide) ?_
      exact vx_ret (g_iret hx hb hr hlocks (by show _ ≤ mc0; omega) (by show _ ≤ ms0; omega) a2 a3 rfl hp dX0_hasEnded_21)
  refine gt_cVI (As := [.int p2]) (rest := [.int (nI 0), .ref p3])  ⟨hx, hb, hml, hown, hts⟩ (met_X1_hasEnded l hfl E G p1 p2 c3 t4 _ _ hvc.2) (cwV 1 hts (lw_V q1693 q1694 q1695 q90 q1696) rfl rfl rfl (by decide +kernel) ⟨Nat.le_of_ble_eq_true rfl, Nat.le_of_ble_eq_true rfl⟩) (gw_rc (q := (RX1, TX1, 4)) hK hG hvc.1 rfl) hc1 hs1 hMC hMS (Nat.le_refl _) (Nat.le_refl _) (g_Y.st E) hz hY hK hG hS rfl hl.1 rfl (Nat.le_of_ble_eq_true rfl) dX0_hasEnded_4 hkx (fun x1 G2 H locs ce sl hvc_2 hG_3 hS_4 hMC_5 hMS_6 => ?_)
  clear hvc hG hS hMC hMS
  have jn15 : ∀ (s0 : Int64) (s1 : Int32) (s2 : Nat) (G : g_G) (mc : Nat) (ms : Nat) (H : Heap) (locs : List Loc) (ls : Array Slot) (ce sl : Nat), wp_X0_hasEnded_15 E post s0 s1 s2 G mc ms → g_H E G H → va_S (g_A E) s.heap H locs → lv_has ls 4 [] → ce + mc ≤ mc0 → sl + ms ≤ ms0 → W p l e ({ frames := 8, cells := mc0, slots := ms0, locals := 138 } : Room) s m ([.ref p1, .int p2, .ref p3] : List Value).toArray below meth c H locs ce sl (vx_MQ below (va_Qi (post) (g_Bk E) (g_A E)) (g_XC E (fun _ _ => False)) ([.ref p1, .int p2, .ref p3] : List Value).toArray s mc0 ms0 (g_A E)) (F0 m 15 ls [.long s0, .int s1, .ref s2]) := by
    clear hvc_2 hG_3 hS_4 hl hMC_5 hMS_6
    intro s0 s1 s2 G mc ms H locs ls ce sl hvc_7 hG_8 hS_9 hl_10 hMC_11 hMS_12
    refine gw_lst hx hb hK hG_8 hS_9 hvc_7 dX0_hasEnded_15 (fun G5 H locs hvc_13 hG_14 hS_15 => ?_)
    clear hvc_7 hG_8 hS_9
    refine lv_goto (tgt := 22) hx hb dX0_hasEnded_16 (by decide) ?_
    refine lv_iconst (v := nI 0) hx hb dX0_hasEnded_22 (by decide) ?_
    exact vx_ret (g_iret hx hb hr hlocks (by show _ ≤ mc0; omega) (by show _ ≤ ms0; omega) hG_14 hS_15 rfl hvc_13 dX0_hasEnded_23)
  refine lv_if_eq (tgt := 14) hx hb dX0_hasEnded_7 (by decide) (fun h9 => ?_) (fun h9 => ?_)
  · replace hvc_2 := hvc_2.1 h9
    refine lv_lconst (v := lN 0) hx hb dX0_hasEnded_14 rfl ?_
    exact jn15 (lN 0) (nI 0) p3 G2 (mc0 - c3) (ms0 - t4) _ _ _ _ _ hvc_2 hG_3 hS_4 (lv_sub hl [] rfl) hMC_5 hMS_6
  · replace hvc_2 := hvc_2.2 h9
    refine lv_lconst (v := lN 1) hx hb dX0_hasEnded_10 rfl ?_
    refine lv_goto (tgt := 15) hx hb dX0_hasEnded_11 (by decide) ?_
    exact jn15 (lN 1) (nI 0) p3 G2 (mc0 - c3) (ms0 - t4) _ _ _ _ _ hvc_2 hG_3 hS_4 (lv_sub hl [] rfl) hMC_5 hMS_6
set_option maxHeartbeats 4000000 in
set_option maxRecDepth 100000 in
theorem met_X0_saidYes (l : Launch) (hfl : l.stackTraces = false) (E : g_E) (G : g_G) (p1 : Nat) (p2 : Int32) (p3 : Nat) (mc0 ms0 : Nat) (post : Int32 → g_G → Prop) (hvc : wp_X0_saidYes E G p1 p2 p3 mc0 ms0 post) : g_TI E l yX0_saidYes (wsW_ yX0_saidYes cX0_saidYes 4 (Option.some Jvm.ClassFile.FieldType.int) [((0 : Nat), (9 : Nat), (12 : Nat), (13 : Nat))]) ({ frames := 8, cells := mc0, slots := ms0, locals := 138 } : Room) (g_Z E) [.ref p1, .int p2, .ref p3] G post (fun _ _ => False) := by
  refine g_enterH (by decide +kernel) (Nat.le_of_ble_eq_true rfl) ?_
  intro p e s m below meth c ls hx hb hr hts hown hlocks hml hout hz hZ hK hG hS hl
  have hY := hZ.1
  have hX := hY.1
  have hl : lv_has ls 4 [(0, .ref p1), (1, .int p2), (2, .ref p3)] := hl
  have hown : s.vm.findClass RX0 = some m.cls := hown
  have hMC : 0 + mc0 ≤ mc0 := Nat.le_of_eq (Nat.zero_add _)
  have hMS : 0 + ms0 ≤ ms0 := Nat.le_of_eq (Nat.zero_add _)
  unfold wp_X0_saidYes at hvc
  refine lv_aload_n hx hb dX0_saidYes_0 rfl (lv_at hl 2 rfl) ?_
  refine lv_iconst (v := nI 0) hx hb dX0_saidYes_1 (by decide) ?_
  refine lv_aload_n hx hb dX0_saidYes_2 rfl (lv_at hl 0 rfl) ?_
  refine lv_iload_n hx hb dX0_saidYes_3 rfl (lv_at hl 1 rfl) ?_
  obtain ⟨c3, t4, hc1, hs1, hvc⟩ := hvc
  have hkx : ∀ (X9 : String) (ce : Cell) (q9 : Nat) (G9 : g_G) (H9 : Heap) (locs9 : List Loc) (cells9 slots9 : Nat), (fun X9 G9 => (X9 = "java/lang/IndexOutOfBoundsException" ∧ post (nI 1) G9)) X9 G9 → g_H E G9 H9 → va_S (g_A E) s.heap H9 locs9 → H9[q9]? = some ce → ce.vm = .none → s.vm.findClass X9 = some ce.cls → cells9 + (mc0 - c3) ≤ mc0 → slots9 + (ms0 - t4) ≤ ms0 → vx_W p l e ({ frames := 8, cells := mc0, slots := ms0, locals := 138 } : Room) s m ([.ref p1, .int p2, .ref p3] : List Value).toArray below meth c H9 locs9 cells9 slots9 (vx_MQ below (va_Qi (post) (g_Bk E) (g_A E)) (g_XC E (fun _ _ => False)) ([.ref p1, .int p2, .ref p3] : List Value).toArray s mc0 ms0 (g_A E)) (F0 m 4 ls [.int (nI 0), .ref p3]) q9 := by
    intro X9 ce q9 G9 H9 locs9 cells9 slots9 hp a2 a3 a4 a5 a6 a7 a8
    obtain ⟨rfl, hp⟩ := hp
    · refine vx_catch (E := "java/lang/IndexOutOfBoundsException") (name := "java/lang/IndexOutOfBoundsException") (own := RX0) hown [] (⟨0, 9, 12, 13⟩ : ExceptionTableEntry) [] (hout.trans rfl) (fun z hz9 => by cases hz9) rfl (by decide) (hts _ q1437) (va_Nw.use rfl (hX.1 _ q1364 rfl)) a4 a5 a6 ?_
      refine lv_astore_n (lv' := [(3, .ref q9), (0, .ref p1), (1, .int p2), (2, .ref p3)]) hx hb dX0_saidYes_12 rfl hl (by decide) rfl (fun ls hl_1 => ?_)
      clear hl
      refine lv_iconst (v := nI 1) hx hb dX0_saidYes_13 (by decide) ?_
      exact vx_ret (g_iret hx hb hr hlocks (by show _ ≤ mc0; omega) (by show _ ≤ ms0; omega) a2 a3 rfl hp dX0_saidYes_14)
  refine gt_cVI (As := [.int p2]) (rest := [.int (nI 0), .ref p3])  ⟨hx, hb, hml, hown, hts⟩ (met_X1_saidYes l hfl E G p1 p2 c3 t4 _ _ hvc.2) (cwV 1 hts (lw_V q1700 q1701 q1702 q90 q1703) rfl rfl rfl (by decide +kernel) ⟨Nat.le_of_ble_eq_true rfl, Nat.le_of_ble_eq_true rfl⟩) (gw_rc (q := (RX1, TX1, 4)) hK hG hvc.1 rfl) hc1 hs1 hMC hMS (Nat.le_refl _) (Nat.le_refl _) (g_Y.st E) hz hY hK hG hS rfl hl.1 rfl (Nat.le_of_ble_eq_true rfl) dX0_saidYes_4 hkx (fun x1 G2 H locs ce sl hvc_2 hG_3 hS_4 hMC_5 hMS_6 => ?_)
  clear hvc hG hS hMC hMS
  refine lv_i2l (v := x1.toInt64) hx hb dX0_saidYes_7 rfl ?_
  refine gw_lst hx hb hK hG_3 hS_4 hvc_2 dX0_saidYes_8 (fun G5 H locs hvc_7 hG_8 hS_9 => ?_)
  clear hvc_2 hG_3 hS_4
  refine lv_goto (tgt := 15) hx hb dX0_saidYes_9 (by decide) ?_
  refine lv_iconst (v := nI 0) hx hb dX0_saidYes_15 (by decide) ?_
  exact vx_ret (g_iret hx hb hr hlocks (by show _ ≤ mc0; omega) (by show _ ≤ ms0; omega) hG_8 hS_9 rfl hvc_7 dX0_saidYes_16)
set_option maxHeartbeats 4000000 in
set_option maxRecDepth 100000 in
theorem met_X0_saidDone (l : Launch) (hfl : l.stackTraces = false) (E : g_E) (G : g_G) (p1 : Nat) (p2 : Int32) (p3 : Nat) (mc0 ms0 : Nat) (post : Int32 → g_G → Prop) (hvc : wp_X0_saidDone E G p1 p2 p3 mc0 ms0 post) : g_TI E l yX0_saidDone (wsW_ yX0_saidDone cX0_saidDone 4 (Option.some Jvm.ClassFile.FieldType.int) [((0 : Nat), (9 : Nat), (12 : Nat), (13 : Nat))]) ({ frames := 8, cells := mc0, slots := ms0, locals := 138 } : Room) (g_Z E) [.ref p1, .int p2, .ref p3] G post (fun _ _ => False) := by
  refine g_enterH (by decide +kernel) (Nat.le_of_ble_eq_true rfl) ?_
  intro p e s m below meth c ls hx hb hr hts hown hlocks hml hout hz hZ hK hG hS hl
  have hY := hZ.1
  have hX := hY.1
  have hl : lv_has ls 4 [(0, .ref p1), (1, .int p2), (2, .ref p3)] := hl
  have hown : s.vm.findClass RX0 = some m.cls := hown
  have hMC : 0 + mc0 ≤ mc0 := Nat.le_of_eq (Nat.zero_add _)
  have hMS : 0 + ms0 ≤ ms0 := Nat.le_of_eq (Nat.zero_add _)
  unfold wp_X0_saidDone at hvc
  refine lv_aload_n hx hb dX0_saidDone_0 rfl (lv_at hl 2 rfl) ?_
  refine lv_iconst (v := nI 0) hx hb dX0_saidDone_1 (by decide) ?_
  refine lv_aload_n hx hb dX0_saidDone_2 rfl (lv_at hl 0 rfl) ?_
  refine lv_iload_n hx hb dX0_saidDone_3 rfl (lv_at hl 1 rfl) ?_
  obtain ⟨c3, t4, hc1, hs1, hvc⟩ := hvc
  have hkx : ∀ (X9 : String) (ce : Cell) (q9 : Nat) (G9 : g_G) (H9 : Heap) (locs9 : List Loc) (cells9 slots9 : Nat), (fun X9 G9 => (X9 = "java/lang/IndexOutOfBoundsException" ∧ post (nI 1) G9)) X9 G9 → g_H E G9 H9 → va_S (g_A E) s.heap H9 locs9 → H9[q9]? = some ce → ce.vm = .none → s.vm.findClass X9 = some ce.cls → cells9 + (mc0 - c3) ≤ mc0 → slots9 + (ms0 - t4) ≤ ms0 → vx_W p l e ({ frames := 8, cells := mc0, slots := ms0, locals := 138 } : Room) s m ([.ref p1, .int p2, .ref p3] : List Value).toArray below meth c H9 locs9 cells9 slots9 (vx_MQ below (va_Qi (post) (g_Bk E) (g_A E)) (g_XC E (fun _ _ => False)) ([.ref p1, .int p2, .ref p3] : List Value).toArray s mc0 ms0 (g_A E)) (F0 m 4 ls [.int (nI 0), .ref p3]) q9 := by
    intro X9 ce q9 G9 H9 locs9 cells9 slots9 hp a2 a3 a4 a5 a6 a7 a8
    obtain ⟨rfl, hp⟩ := hp
    · refine vx_catch (E := "java/lang/IndexOutOfBoundsException") (name := "java/lang/IndexOutOfBoundsException") (own := RX0) hown [] (⟨0, 9, 12, 13⟩ : ExceptionTableEntry) [] (hout.trans rfl) (fun z hz9 => by cases hz9) rfl (by decide) (hts _ q1437) (va_Nw.use rfl (hX.1 _ q1364 rfl)) a4 a5 a6 ?_
      refine lv_astore_n (lv' := [(3, .ref q9), (0, .ref p1), (1, .int p2), (2, .ref p3)]) hx hb dX0_saidDone_12 rfl hl (by decide) rfl (fun ls hl_1 => ?_)
      clear hl
      refine lv_iconst (v := nI 1) hx hb dX0_saidDone_13 (by decide) ?_
      exact vx_ret (g_iret hx hb hr hlocks (by show _ ≤ mc0; omega) (by show _ ≤ ms0; omega) a2 a3 rfl hp dX0_saidDone_14)
  refine gt_cVI (As := [.int p2]) (rest := [.int (nI 0), .ref p3])  ⟨hx, hb, hml, hown, hts⟩ (met_X1_saidDone l hfl E G p1 p2 c3 t4 _ _ hvc.2) (cwV 1 hts (lw_V q1707 q1708 q1709 q90 q1710) rfl rfl rfl (by decide +kernel) ⟨Nat.le_of_ble_eq_true rfl, Nat.le_of_ble_eq_true rfl⟩) (gw_rc (q := (RX1, TX1, 4)) hK hG hvc.1 rfl) hc1 hs1 hMC hMS (Nat.le_refl _) (Nat.le_refl _) (g_Y.st E) hz hY hK hG hS rfl hl.1 rfl (Nat.le_of_ble_eq_true rfl) dX0_saidDone_4 hkx (fun x1 G2 H locs ce sl hvc_2 hG_3 hS_4 hMC_5 hMS_6 => ?_)
  clear hvc hG hS hMC hMS
  refine lv_i2l (v := x1.toInt64) hx hb dX0_saidDone_7 rfl ?_
  refine gw_lst hx hb hK hG_3 hS_4 hvc_2 dX0_saidDone_8 (fun G5 H locs hvc_7 hG_8 hS_9 => ?_)
  clear hvc_2 hG_3 hS_4
  refine lv_goto (tgt := 15) hx hb dX0_saidDone_9 (by decide) ?_
  refine lv_iconst (v := nI 0) hx hb dX0_saidDone_15 (by decide) ?_
  exact vx_ret (g_iret hx hb hr hlocks (by show _ ≤ mc0; omega) (by show _ ≤ ms0; omega) hG_8 hS_9 rfl hvc_7 dX0_saidDone_16)
set_option maxHeartbeats 4000000 in
set_option maxRecDepth 100000 in
theorem met_X0_records (l : Launch) (hfl : l.stackTraces = false) (E : g_E) (G : g_G) (p1 : Nat) (p2 : Int32) (p3 : Nat) (mc0 ms0 : Nat) (post : Int32 → g_G → Prop) (hvc : wp_X0_records E G p1 p2 p3 mc0 ms0 post) : g_TI E l yX0_records (wsW_ yX0_records cX0_records 4 (Option.some Jvm.ClassFile.FieldType.int) [((0 : Nat), (9 : Nat), (12 : Nat), (13 : Nat))]) ({ frames := 8, cells := mc0, slots := ms0, locals := 138 } : Room) (g_Z E) [.ref p1, .int p2, .ref p3] G post (fun _ _ => False) := by
  refine g_enterH (by decide +kernel) (Nat.le_of_ble_eq_true rfl) ?_
  intro p e s m below meth c ls hx hb hr hts hown hlocks hml hout hz hZ hK hG hS hl
  have hY := hZ.1
  have hX := hY.1
  have hl : lv_has ls 4 [(0, .ref p1), (1, .int p2), (2, .ref p3)] := hl
  have hown : s.vm.findClass RX0 = some m.cls := hown
  have hMC : 0 + mc0 ≤ mc0 := Nat.le_of_eq (Nat.zero_add _)
  have hMS : 0 + ms0 ≤ ms0 := Nat.le_of_eq (Nat.zero_add _)
  unfold wp_X0_records at hvc
  refine lv_aload_n hx hb dX0_records_0 rfl (lv_at hl 2 rfl) ?_
  refine lv_iconst (v := nI 0) hx hb dX0_records_1 (by decide) ?_
  refine lv_aload_n hx hb dX0_records_2 rfl (lv_at hl 0 rfl) ?_
  refine lv_iload_n hx hb dX0_records_3 rfl (lv_at hl 1 rfl) ?_
  obtain ⟨c3, t4, hc1, hs1, hvc⟩ := hvc
  have hkx : ∀ (X9 : String) (ce : Cell) (q9 : Nat) (G9 : g_G) (H9 : Heap) (locs9 : List Loc) (cells9 slots9 : Nat), (fun X9 G9 => (X9 = "java/lang/IndexOutOfBoundsException" ∧ post (nI 1) G9)) X9 G9 → g_H E G9 H9 → va_S (g_A E) s.heap H9 locs9 → H9[q9]? = some ce → ce.vm = .none → s.vm.findClass X9 = some ce.cls → cells9 + (mc0 - c3) ≤ mc0 → slots9 + (ms0 - t4) ≤ ms0 → vx_W p l e ({ frames := 8, cells := mc0, slots := ms0, locals := 138 } : Room) s m ([.ref p1, .int p2, .ref p3] : List Value).toArray below meth c H9 locs9 cells9 slots9 (vx_MQ below (va_Qi (post) (g_Bk E) (g_A E)) (g_XC E (fun _ _ => False)) ([.ref p1, .int p2, .ref p3] : List Value).toArray s mc0 ms0 (g_A E)) (F0 m 4 ls [.int (nI 0), .ref p3]) q9 := by
    intro X9 ce q9 G9 H9 locs9 cells9 slots9 hp a2 a3 a4 a5 a6 a7 a8
    obtain ⟨rfl, hp⟩ := hp
    · refine vx_catch (E := "java/lang/IndexOutOfBoundsException") (name := "java/lang/IndexOutOfBoundsException") (own := RX0) hown [] (⟨0, 9, 12, 13⟩ : ExceptionTableEntry) [] (hout.trans rfl) (fun z hz9 => by cases hz9) rfl (by decide) (hts _ q1437) (va_Nw.use rfl (hX.1 _ q1364 rfl)) a4 a5 a6 ?_
      refine lv_astore_n (lv' := [(3, .ref q9), (0, .ref p1), (1, .int p2), (2, .ref p3)]) hx hb dX0_records_12 rfl hl (by decide) rfl (fun ls hl_1 => ?_)
      clear hl
      refine lv_iconst (v := nI 1) hx hb dX0_records_13 (by decide) ?_
      exact vx_ret (g_iret hx hb hr hlocks (by show _ ≤ mc0; omega) (by show _ ≤ ms0; omega) a2 a3 rfl hp dX0_records_14)
  refine gt_cVI (As := [.int p2]) (rest := [.int (nI 0), .ref p3])  ⟨hx, hb, hml, hown, hts⟩ (met_X1_records l hfl E G p1 p2 c3 t4 _ _ hvc.2) (cwV 1 hts (lw_V q1714 q1715 q1716 q90 q1717) rfl rfl rfl (by decide +kernel) ⟨Nat.le_of_ble_eq_true rfl, Nat.le_of_ble_eq_true rfl⟩) (gw_rc (q := (RX1, TX1, 4)) hK hG hvc.1 rfl) hc1 hs1 hMC hMS (Nat.le_refl _) (Nat.le_refl _) (g_Y.st E) hz hY hK hG hS rfl hl.1 rfl (Nat.le_of_ble_eq_true rfl) dX0_records_4 hkx (fun x1 G2 H locs ce sl hvc_2 hG_3 hS_4 hMC_5 hMS_6 => ?_)
  clear hvc hG hS hMC hMS
  refine lv_i2l (v := x1.toInt64) hx hb dX0_records_7 rfl ?_
  refine gw_lst hx hb hK hG_3 hS_4 hvc_2 dX0_records_8 (fun G5 H locs hvc_7 hG_8 hS_9 => ?_)
  clear hvc_2 hG_3 hS_4
  refine lv_goto (tgt := 15) hx hb dX0_records_9 (by decide) ?_
  refine lv_iconst (v := nI 0) hx hb dX0_records_15 (by decide) ?_
  exact vx_ret (g_iret hx hb hr hlocks (by show _ ≤ mc0; omega) (by show _ ≤ ms0; omega) hG_8 hS_9 rfl hvc_7 dX0_records_16)
set_option maxHeartbeats 4000000 in
set_option maxRecDepth 100000 in
theorem met_X0_recordKind (l : Launch) (hfl : l.stackTraces = false) (E : g_E) (G : g_G) (p1 : Nat) (p2 : Int32) (p3 : Int32) (p4 : Nat) (mc0 ms0 : Nat) (post : Int32 → g_G → Prop) (hvc : wp_X0_recordKind E G p1 p2 p3 p4 mc0 ms0 post) : g_TI E l yX0_recordKind (wsW_ yX0_recordKind cX0_recordKind 5 (Option.some Jvm.ClassFile.FieldType.int) [((0 : Nat), (10 : Nat), (13 : Nat), (13 : Nat))]) ({ frames := 9, cells := mc0, slots := ms0, locals := 163 } : Room) (g_Z E) [.ref p1, .int p2, .int p3, .ref p4] G post (fun _ _ => False) := by
  refine g_enterH (by decide +kernel) (Nat.le_of_ble_eq_true rfl) ?_
  intro p e s m below meth c ls hx hb hr hts hown hlocks hml hout hz hZ hK hG hS hl
  have hY := hZ.1
  have hX := hY.1
  have hl : lv_has ls 5 [(0, .ref p1), (1, .int p2), (2, .int p3), (3, .ref p4)] := hl
  have hown : s.vm.findClass RX0 = some m.cls := hown
  have hMC : 0 + mc0 ≤ mc0 := Nat.le_of_eq (Nat.zero_add _)
  have hMS : 0 + ms0 ≤ ms0 := Nat.le_of_eq (Nat.zero_add _)
  unfold wp_X0_recordKind at hvc
  refine lv_aload_n hx hb dX0_recordKind_0 rfl (lv_at hl 3 rfl) ?_
  refine lv_iconst (v := nI 0) hx hb dX0_recordKind_1 (by decide) ?_
  refine lv_aload_n hx hb dX0_recordKind_2 rfl (lv_at hl 0 rfl) ?_
  refine lv_iload_n hx hb dX0_recordKind_3 rfl (lv_at hl 1 rfl) ?_
  refine lv_iload_n hx hb dX0_recordKind_4 rfl (lv_at hl 2 rfl) ?_
  obtain ⟨c3, t4, hc1, hs1, hvc⟩ := hvc
  have hkx : ∀ (X9 : String) (ce : Cell) (q9 : Nat) (G9 : g_G) (H9 : Heap) (locs9 : List Loc) (cells9 slots9 : Nat), (fun X9 G9 => (X9 = "java/lang/IndexOutOfBoundsException" ∧ post (nI 1) G9)) X9 G9 → g_H E G9 H9 → va_S (g_A E) s.heap H9 locs9 → H9[q9]? = some ce → ce.vm = .none → s.vm.findClass X9 = some ce.cls → cells9 + (mc0 - c3) ≤ mc0 → slots9 + (ms0 - t4) ≤ ms0 → vx_W p l e ({ frames := 9, cells := mc0, slots := ms0, locals := 163 } : Room) s m ([.ref p1, .int p2, .int p3, .ref p4] : List Value).toArray below meth c H9 locs9 cells9 slots9 (vx_MQ below (va_Qi (post) (g_Bk E) (g_A E)) (g_XC E (fun _ _ => False)) ([.ref p1, .int p2, .int p3, .ref p4] : List Value).toArray s mc0 ms0 (g_A E)) (F0 m 5 ls [.int (nI 0), .ref p4]) q9 := by
    intro X9 ce q9 G9 H9 locs9 cells9 slots9 hp a2 a3 a4 a5 a6 a7 a8
    obtain ⟨rfl, hp⟩ := hp
    · refine vx_catch (E := "java/lang/IndexOutOfBoundsException") (name := "java/lang/IndexOutOfBoundsException") (own := RX0) hown [] (⟨0, 10, 13, 13⟩ : ExceptionTableEntry) [] (hout.trans rfl) (fun z hz9 => by cases hz9) rfl (by decide) (hts _ q1437) (va_Nw.use rfl (hX.1 _ q1364 rfl)) a4 a5 a6 ?_
      refine lv_astore (lv' := [(4, .ref q9), (0, .ref p1), (1, .int p2), (2, .int p3), (3, .ref p4)]) hx hb dX0_recordKind_13 hl (by decide) rfl (fun ls hl_1 => ?_)
      clear hl
      refine lv_iconst (v := nI 1) hx hb dX0_recordKind_15 (by decide) ?_
      exact vx_ret (g_iret hx hb hr hlocks (by show _ ≤ mc0; omega) (by show _ ≤ ms0; omega) a2 a3 rfl hp dX0_recordKind_16)
  refine gt_cVI (As := [.int p2, .int p3]) (rest := [.int (nI 0), .ref p4])  ⟨hx, hb, hml, hown, hts⟩ (met_X1_recordKind l hfl E G p1 p2 p3 c3 t4 _ _ hvc.2) (cwV 2 hts (lw_V q1721 q1722 q1723 q90 q1724) rfl rfl rfl (by decide +kernel) ⟨Nat.le_of_ble_eq_true rfl, Nat.le_of_ble_eq_true rfl⟩) (gw_rc (q := (RX1, TX1, 4)) hK hG hvc.1 rfl) hc1 hs1 hMC hMS (Nat.le_refl _) (Nat.le_refl _) (g_Y.st E) hz hY hK hG hS rfl hl.1 rfl (Nat.le_of_ble_eq_true rfl) dX0_recordKind_5 hkx (fun x1 G2 H locs ce sl hvc_2 hG_3 hS_4 hMC_5 hMS_6 => ?_)
  clear hvc hG hS hMC hMS
  refine lv_i2l (v := x1.toInt64) hx hb dX0_recordKind_8 rfl ?_
  refine gw_lst hx hb hK hG_3 hS_4 hvc_2 dX0_recordKind_9 (fun G5 H locs hvc_7 hG_8 hS_9 => ?_)
  clear hvc_2 hG_3 hS_4
  refine lv_goto (tgt := 17) hx hb dX0_recordKind_10 (by decide) ?_
  refine lv_iconst (v := nI 0) hx hb dX0_recordKind_17 (by decide) ?_
  exact vx_ret (g_iret hx hb hr hlocks (by show _ ≤ mc0; omega) (by show _ ≤ ms0; omega) hG_8 hS_9 rfl hvc_7 dX0_recordKind_18)
set_option maxHeartbeats 4000000 in
set_option maxRecDepth 100000 in
theorem met_X0_recordTransfer (l : Launch) (hfl : l.stackTraces = false) (E : g_E) (G : g_G) (p1 : Nat) (p2 : Int32) (p3 : Int32) (p4 : Nat) (mc0 ms0 : Nat) (post : Int32 → g_G → Prop) (hvc : wp_X0_recordTransfer E G p1 p2 p3 p4 mc0 ms0 post) : g_TI E l yX0_recordTransfer (wsW_ yX0_recordTransfer cX0_recordTransfer 5 (Option.some Jvm.ClassFile.FieldType.int) [((0 : Nat), (10 : Nat), (13 : Nat), (13 : Nat))]) ({ frames := 9, cells := mc0, slots := ms0, locals := 163 } : Room) (g_Z E) [.ref p1, .int p2, .int p3, .ref p4] G post (fun _ _ => False) := by
  refine g_enterH (by decide +kernel) (Nat.le_of_ble_eq_true rfl) ?_
  intro p e s m below meth c ls hx hb hr hts hown hlocks hml hout hz hZ hK hG hS hl
  have hY := hZ.1
  have hX := hY.1
  have hl : lv_has ls 5 [(0, .ref p1), (1, .int p2), (2, .int p3), (3, .ref p4)] := hl
  have hown : s.vm.findClass RX0 = some m.cls := hown
  have hMC : 0 + mc0 ≤ mc0 := Nat.le_of_eq (Nat.zero_add _)
  have hMS : 0 + ms0 ≤ ms0 := Nat.le_of_eq (Nat.zero_add _)
  unfold wp_X0_recordTransfer at hvc
  refine lv_aload_n hx hb dX0_recordTransfer_0 rfl (lv_at hl 3 rfl) ?_
  refine lv_iconst (v := nI 0) hx hb dX0_recordTransfer_1 (by decide) ?_
  refine lv_aload_n hx hb dX0_recordTransfer_2 rfl (lv_at hl 0 rfl) ?_
  refine lv_iload_n hx hb dX0_recordTransfer_3 rfl (lv_at hl 1 rfl) ?_
  refine lv_iload_n hx hb dX0_recordTransfer_4 rfl (lv_at hl 2 rfl) ?_
  obtain ⟨c3, t4, hc1, hs1, hvc⟩ := hvc
  have hkx : ∀ (X9 : String) (ce : Cell) (q9 : Nat) (G9 : g_G) (H9 : Heap) (locs9 : List Loc) (cells9 slots9 : Nat), (fun X9 G9 => (X9 = "java/lang/IndexOutOfBoundsException" ∧ post (nI 1) G9)) X9 G9 → g_H E G9 H9 → va_S (g_A E) s.heap H9 locs9 → H9[q9]? = some ce → ce.vm = .none → s.vm.findClass X9 = some ce.cls → cells9 + (mc0 - c3) ≤ mc0 → slots9 + (ms0 - t4) ≤ ms0 → vx_W p l e ({ frames := 9, cells := mc0, slots := ms0, locals := 163 } : Room) s m ([.ref p1, .int p2, .int p3, .ref p4] : List Value).toArray below meth c H9 locs9 cells9 slots9 (vx_MQ below (va_Qi (post) (g_Bk E) (g_A E)) (g_XC E (fun _ _ => False)) ([.ref p1, .int p2, .int p3, .ref p4] : List Value).toArray s mc0 ms0 (g_A E)) (F0 m 5 ls [.int (nI 0), .ref p4]) q9 := by
    intro X9 ce q9 G9 H9 locs9 cells9 slots9 hp a2 a3 a4 a5 a6 a7 a8
    obtain ⟨rfl, hp⟩ := hp
    · refine vx_catch (E := "java/lang/IndexOutOfBoundsException") (name := "java/lang/IndexOutOfBoundsException") (own := RX0) hown [] (⟨0, 10, 13, 13⟩ : ExceptionTableEntry) [] (hout.trans rfl) (fun z hz9 => by cases hz9) rfl (by decide) (hts _ q1437) (va_Nw.use rfl (hX.1 _ q1364 rfl)) a4 a5 a6 ?_
      refine lv_astore (lv' := [(4, .ref q9), (0, .ref p1), (1, .int p2), (2, .int p3), (3, .ref p4)]) hx hb dX0_recordTransfer_13 hl (by decide) rfl (fun ls hl_1 => ?_)
      clear hl
      refine lv_iconst (v := nI 1) hx hb dX0_recordTransfer_15 (by decide) ?_
      exact vx_ret (g_iret hx hb hr hlocks (by show _ ≤ mc0; omega) (by show _ ≤ ms0; omega) a2 a3 rfl hp dX0_recordTransfer_16)
  refine gt_cVI (As := [.int p2, .int p3]) (rest := [.int (nI 0), .ref p4])  ⟨hx, hb, hml, hown, hts⟩ (met_X1_recordTransfer l hfl E G p1 p2 p3 c3 t4 _ _ hvc.2) (cwV 2 hts (lw_V q1732 q1733 q1734 q90 q1735) rfl rfl rfl (by decide +kernel) ⟨Nat.le_of_ble_eq_true rfl, Nat.le_of_ble_eq_true rfl⟩) (gw_rc (q := (RX1, TX1, 4)) hK hG hvc.1 rfl) hc1 hs1 hMC hMS (Nat.le_refl _) (Nat.le_refl _) (g_Y.st E) hz hY hK hG hS rfl hl.1 rfl (Nat.le_of_ble_eq_true rfl) dX0_recordTransfer_5 hkx (fun x1 G2 H locs ce sl hvc_2 hG_3 hS_4 hMC_5 hMS_6 => ?_)
  clear hvc hG hS hMC hMS
  refine lv_i2l (v := x1.toInt64) hx hb dX0_recordTransfer_8 rfl ?_
  refine gw_lst hx hb hK hG_3 hS_4 hvc_2 dX0_recordTransfer_9 (fun G5 H locs hvc_7 hG_8 hS_9 => ?_)
  clear hvc_2 hG_3 hS_4
  refine lv_goto (tgt := 17) hx hb dX0_recordTransfer_10 (by decide) ?_
  refine lv_iconst (v := nI 0) hx hb dX0_recordTransfer_17 (by decide) ?_
  exact vx_ret (g_iret hx hb hr hlocks (by show _ ≤ mc0; omega) (by show _ ≤ ms0; omega) hG_8 hS_9 rfl hvc_7 dX0_recordTransfer_18)
set_option maxHeartbeats 4000000 in
set_option maxRecDepth 100000 in
theorem met_X0_kindOf (l : Launch) (hfl : l.stackTraces = false) (E : g_E) (G : g_G) (p1 : Nat) (p2 : Int32) (p3 : Nat) (mc0 ms0 : Nat) (post : Int32 → g_G → Prop) (hvc : wp_X0_kindOf E G p1 p2 p3 mc0 ms0 post) : g_TI E l yX0_kindOf (wsW_ yX0_kindOf cX0_kindOf 4 (Option.some Jvm.ClassFile.FieldType.int) [((0 : Nat), (9 : Nat), (12 : Nat), (13 : Nat))]) ({ frames := 9, cells := mc0, slots := ms0, locals := 160 } : Room) (g_Z E) [.ref p1, .int p2, .ref p3] G post (fun _ _ => False) := by
  refine g_enterH (by decide +kernel) (Nat.le_of_ble_eq_true rfl) ?_
  intro p e s m below meth c ls hx hb hr hts hown hlocks hml hout hz hZ hK hG hS hl
  have hY := hZ.1
  have hX := hY.1
  have hl : lv_has ls 4 [(0, .ref p1), (1, .int p2), (2, .ref p3)] := hl
  have hown : s.vm.findClass RX0 = some m.cls := hown
  have hMC : 0 + mc0 ≤ mc0 := Nat.le_of_eq (Nat.zero_add _)
  have hMS : 0 + ms0 ≤ ms0 := Nat.le_of_eq (Nat.zero_add _)
  unfold wp_X0_kindOf at hvc
  refine lv_aload_n hx hb dX0_kindOf_0 rfl (lv_at hl 2 rfl) ?_
  refine lv_iconst (v := nI 0) hx hb dX0_kindOf_1 (by decide) ?_
  refine lv_aload_n hx hb dX0_kindOf_2 rfl (lv_at hl 0 rfl) ?_
  refine lv_iload_n hx hb dX0_kindOf_3 rfl (lv_at hl 1 rfl) ?_
  obtain ⟨c3, t4, hc1, hs1, hvc⟩ := hvc
  have hkx : ∀ (X9 : String) (ce : Cell) (q9 : Nat) (G9 : g_G) (H9 : Heap) (locs9 : List Loc) (cells9 slots9 : Nat), (fun X9 G9 => (X9 = "java/lang/IndexOutOfBoundsException" ∧ post (nI 1) G9)) X9 G9 → g_H E G9 H9 → va_S (g_A E) s.heap H9 locs9 → H9[q9]? = some ce → ce.vm = .none → s.vm.findClass X9 = some ce.cls → cells9 + (mc0 - c3) ≤ mc0 → slots9 + (ms0 - t4) ≤ ms0 → vx_W p l e ({ frames := 9, cells := mc0, slots := ms0, locals := 160 } : Room) s m ([.ref p1, .int p2, .ref p3] : List Value).toArray below meth c H9 locs9 cells9 slots9 (vx_MQ below (va_Qi (post) (g_Bk E) (g_A E)) (g_XC E (fun _ _ => False)) ([.ref p1, .int p2, .ref p3] : List Value).toArray s mc0 ms0 (g_A E)) (F0 m 4 ls [.int (nI 0), .ref p3]) q9 := by
    intro X9 ce q9 G9 H9 locs9 cells9 slots9 hp a2 a3 a4 a5 a6 a7 a8
    obtain ⟨rfl, hp⟩ := hp
    · refine vx_catch (E := "java/lang/IndexOutOfBoundsException") (name := "java/lang/IndexOutOfBoundsException") (own := RX0) hown [] (⟨0, 9, 12, 13⟩ : ExceptionTableEntry) [] (hout.trans rfl) (fun z hz9 => by cases hz9) rfl (by decide) (hts _ q1437) (va_Nw.use rfl (hX.1 _ q1364 rfl)) a4 a5 a6 ?_
      refine lv_astore_n (lv' := [(3, .ref q9), (0, .ref p1), (1, .int p2), (2, .ref p3)]) hx hb dX0_kindOf_12 rfl hl (by decide) rfl (fun ls hl_1 => ?_)
      clear hl
      refine lv_iconst (v := nI 1) hx hb dX0_kindOf_13 (by decide) ?_
      exact vx_ret (g_iret hx hb hr hlocks (by show _ ≤ mc0; omega) (by show _ ≤ ms0; omega) a2 a3 rfl hp dX0_kindOf_14)
  refine gt_cVI (As := [.int p2]) (rest := [.int (nI 0), .ref p3])  ⟨hx, hb, hml, hown, hts⟩ (met_X1_kindOf l hfl E G p1 p2 c3 t4 _ _ hvc.2) (cwV 1 hts (lw_V q1739 q1351 q1352 q90 q1353) rfl rfl rfl (by decide +kernel) ⟨Nat.le_of_ble_eq_true rfl, Nat.le_of_ble_eq_true rfl⟩) (gw_rc (q := (RX1, TX1, 4)) hK hG hvc.1 rfl) hc1 hs1 hMC hMS (Nat.le_refl _) (Nat.le_refl _) (g_Y.st E) hz hY hK hG hS rfl hl.1 rfl (Nat.le_of_ble_eq_true rfl) dX0_kindOf_4 hkx (fun x1 G2 H locs ce sl hvc_2 hG_3 hS_4 hMC_5 hMS_6 => ?_)
  clear hvc hG hS hMC hMS
  refine lv_i2l (v := x1.toInt64) hx hb dX0_kindOf_7 rfl ?_
  refine gw_lst hx hb hK hG_3 hS_4 hvc_2 dX0_kindOf_8 (fun G5 H locs hvc_7 hG_8 hS_9 => ?_)
  clear hvc_2 hG_3 hS_4
  refine lv_goto (tgt := 15) hx hb dX0_kindOf_9 (by decide) ?_
  refine lv_iconst (v := nI 0) hx hb dX0_kindOf_15 (by decide) ?_
  exact vx_ret (g_iret hx hb hr hlocks (by show _ ≤ mc0; omega) (by show _ ≤ ms0; omega) hG_8 hS_9 rfl hvc_7 dX0_kindOf_16)
set_option maxHeartbeats 4000000 in
set_option maxRecDepth 100000 in
theorem met_X0_transferOf (l : Launch) (hfl : l.stackTraces = false) (E : g_E) (G : g_G) (p1 : Nat) (p2 : Int32) (p3 : Nat) (mc0 ms0 : Nat) (post : Int32 → g_G → Prop) (hvc : wp_X0_transferOf E G p1 p2 p3 mc0 ms0 post) : g_TI E l yX0_transferOf (wsW_ yX0_transferOf cX0_transferOf 4 (Option.some Jvm.ClassFile.FieldType.int) [((0 : Nat), (9 : Nat), (12 : Nat), (13 : Nat))]) ({ frames := 9, cells := mc0, slots := ms0, locals := 160 } : Room) (g_Z E) [.ref p1, .int p2, .ref p3] G post (fun _ _ => False) := by
  refine g_enterH (by decide +kernel) (Nat.le_of_ble_eq_true rfl) ?_
  intro p e s m below meth c ls hx hb hr hts hown hlocks hml hout hz hZ hK hG hS hl
  have hY := hZ.1
  have hX := hY.1
  have hl : lv_has ls 4 [(0, .ref p1), (1, .int p2), (2, .ref p3)] := hl
  have hown : s.vm.findClass RX0 = some m.cls := hown
  have hMC : 0 + mc0 ≤ mc0 := Nat.le_of_eq (Nat.zero_add _)
  have hMS : 0 + ms0 ≤ ms0 := Nat.le_of_eq (Nat.zero_add _)
  unfold wp_X0_transferOf at hvc
  refine lv_aload_n hx hb dX0_transferOf_0 rfl (lv_at hl 2 rfl) ?_
  refine lv_iconst (v := nI 0) hx hb dX0_transferOf_1 (by decide) ?_
  refine lv_aload_n hx hb dX0_transferOf_2 rfl (lv_at hl 0 rfl) ?_
  refine lv_iload_n hx hb dX0_transferOf_3 rfl (lv_at hl 1 rfl) ?_
  obtain ⟨c3, t4, hc1, hs1, hvc⟩ := hvc
  have hkx : ∀ (X9 : String) (ce : Cell) (q9 : Nat) (G9 : g_G) (H9 : Heap) (locs9 : List Loc) (cells9 slots9 : Nat), (fun X9 G9 => (X9 = "java/lang/IndexOutOfBoundsException" ∧ post (nI 1) G9)) X9 G9 → g_H E G9 H9 → va_S (g_A E) s.heap H9 locs9 → H9[q9]? = some ce → ce.vm = .none → s.vm.findClass X9 = some ce.cls → cells9 + (mc0 - c3) ≤ mc0 → slots9 + (ms0 - t4) ≤ ms0 → vx_W p l e ({ frames := 9, cells := mc0, slots := ms0, locals := 160 } : Room) s m ([.ref p1, .int p2, .ref p3] : List Value).toArray below meth c H9 locs9 cells9 slots9 (vx_MQ below (va_Qi (post) (g_Bk E) (g_A E)) (g_XC E (fun _ _ => False)) ([.ref p1, .int p2, .ref p3] : List Value).toArray s mc0 ms0 (g_A E)) (F0 m 4 ls [.int (nI 0), .ref p3]) q9 := by
    intro X9 ce q9 G9 H9 locs9 cells9 slots9 hp a2 a3 a4 a5 a6 a7 a8
    obtain ⟨rfl, hp⟩ := hp
    · refine vx_catch (E := "java/lang/IndexOutOfBoundsException") (name := "java/lang/IndexOutOfBoundsException") (own := RX0) hown [] (⟨0, 9, 12, 13⟩ : ExceptionTableEntry) [] (hout.trans rfl) (fun z hz9 => by cases hz9) rfl (by decide) (hts _ q1437) (va_Nw.use rfl (hX.1 _ q1364 rfl)) a4 a5 a6 ?_
      refine lv_astore_n (lv' := [(3, .ref q9), (0, .ref p1), (1, .int p2), (2, .ref p3)]) hx hb dX0_transferOf_12 rfl hl (by decide) rfl (fun ls hl_1 => ?_)
      clear hl
      refine lv_iconst (v := nI 1) hx hb dX0_transferOf_13 (by decide) ?_
      exact vx_ret (g_iret hx hb hr hlocks (by show _ ≤ mc0; omega) (by show _ ≤ ms0; omega) a2 a3 rfl hp dX0_transferOf_14)
  refine gt_cVI (As := [.int p2]) (rest := [.int (nI 0), .ref p3])  ⟨hx, hb, hml, hown, hts⟩ (met_X1_transferOf l hfl E G p1 p2 c3 t4 _ _ hvc.2) (cwV 1 hts (lw_V q1743 q1389 q1390 q90 q1391) rfl rfl rfl (by decide +kernel) ⟨Nat.le_of_ble_eq_true rfl, Nat.le_of_ble_eq_true rfl⟩) (gw_rc (q := (RX1, TX1, 4)) hK hG hvc.1 rfl) hc1 hs1 hMC hMS (Nat.le_refl _) (Nat.le_refl _) (g_Y.st E) hz hY hK hG hS rfl hl.1 rfl (Nat.le_of_ble_eq_true rfl) dX0_transferOf_4 hkx (fun x1 G2 H locs ce sl hvc_2 hG_3 hS_4 hMC_5 hMS_6 => ?_)
  clear hvc hG hS hMC hMS
  refine lv_i2l (v := x1.toInt64) hx hb dX0_transferOf_7 rfl ?_
  refine gw_lst hx hb hK hG_3 hS_4 hvc_2 dX0_transferOf_8 (fun G5 H locs hvc_7 hG_8 hS_9 => ?_)
  clear hvc_2 hG_3 hS_4
  refine lv_goto (tgt := 15) hx hb dX0_transferOf_9 (by decide) ?_
  refine lv_iconst (v := nI 0) hx hb dX0_transferOf_15 (by decide) ?_
  exact vx_ret (g_iret hx hb hr hlocks (by show _ ≤ mc0; omega) (by show _ ≤ ms0; omega) hG_8 hS_9 rfl hvc_7 dX0_transferOf_16)
set_option maxHeartbeats 4000000 in
set_option maxRecDepth 100000 in
theorem met_X0_storeOf (l : Launch) (hfl : l.stackTraces = false) (E : g_E) (G : g_G) (p1 : Nat) (p2 : Int32) (p3 : Nat) (mc0 ms0 : Nat) (post : Int32 → g_G → Prop) (hvc : wp_X0_storeOf E G p1 p2 p3 mc0 ms0 post) : g_TI E l yX0_storeOf (wsW_ yX0_storeOf cX0_storeOf 4 (Option.some Jvm.ClassFile.FieldType.int) [((0 : Nat), (9 : Nat), (12 : Nat), (13 : Nat))]) ({ frames := 9, cells := mc0, slots := ms0, locals := 160 } : Room) (g_Z E) [.ref p1, .int p2, .ref p3] G post (fun _ _ => False) := by
  refine g_enterH (by decide +kernel) (Nat.le_of_ble_eq_true rfl) ?_
  intro p e s m below meth c ls hx hb hr hts hown hlocks hml hout hz hZ hK hG hS hl
  have hY := hZ.1
  have hX := hY.1
  have hl : lv_has ls 4 [(0, .ref p1), (1, .int p2), (2, .ref p3)] := hl
  have hown : s.vm.findClass RX0 = some m.cls := hown
  have hMC : 0 + mc0 ≤ mc0 := Nat.le_of_eq (Nat.zero_add _)
  have hMS : 0 + ms0 ≤ ms0 := Nat.le_of_eq (Nat.zero_add _)
  unfold wp_X0_storeOf at hvc
  refine lv_aload_n hx hb dX0_storeOf_0 rfl (lv_at hl 2 rfl) ?_
  refine lv_iconst (v := nI 0) hx hb dX0_storeOf_1 (by decide) ?_
  refine lv_aload_n hx hb dX0_storeOf_2 rfl (lv_at hl 0 rfl) ?_
  refine lv_iload_n hx hb dX0_storeOf_3 rfl (lv_at hl 1 rfl) ?_
  obtain ⟨c3, t4, hc1, hs1, hvc⟩ := hvc
  have hkx : ∀ (X9 : String) (ce : Cell) (q9 : Nat) (G9 : g_G) (H9 : Heap) (locs9 : List Loc) (cells9 slots9 : Nat), (fun X9 G9 => (X9 = "java/lang/IndexOutOfBoundsException" ∧ post (nI 1) G9)) X9 G9 → g_H E G9 H9 → va_S (g_A E) s.heap H9 locs9 → H9[q9]? = some ce → ce.vm = .none → s.vm.findClass X9 = some ce.cls → cells9 + (mc0 - c3) ≤ mc0 → slots9 + (ms0 - t4) ≤ ms0 → vx_W p l e ({ frames := 9, cells := mc0, slots := ms0, locals := 160 } : Room) s m ([.ref p1, .int p2, .ref p3] : List Value).toArray below meth c H9 locs9 cells9 slots9 (vx_MQ below (va_Qi (post) (g_Bk E) (g_A E)) (g_XC E (fun _ _ => False)) ([.ref p1, .int p2, .ref p3] : List Value).toArray s mc0 ms0 (g_A E)) (F0 m 4 ls [.int (nI 0), .ref p3]) q9 := by
    intro X9 ce q9 G9 H9 locs9 cells9 slots9 hp a2 a3 a4 a5 a6 a7 a8
    obtain ⟨rfl, hp⟩ := hp
    · refine vx_catch (E := "java/lang/IndexOutOfBoundsException") (name := "java/lang/IndexOutOfBoundsException") (own := RX0) hown [] (⟨0, 9, 12, 13⟩ : ExceptionTableEntry) [] (hout.trans rfl) (fun z hz9 => by cases hz9) rfl (by decide) (hts _ q1437) (va_Nw.use rfl (hX.1 _ q1364 rfl)) a4 a5 a6 ?_
      refine lv_astore_n (lv' := [(3, .ref q9), (0, .ref p1), (1, .int p2), (2, .ref p3)]) hx hb dX0_storeOf_12 rfl hl (by decide) rfl (fun ls hl_1 => ?_)
      clear hl
      refine lv_iconst (v := nI 1) hx hb dX0_storeOf_13 (by decide) ?_
      exact vx_ret (g_iret hx hb hr hlocks (by show _ ≤ mc0; omega) (by show _ ≤ ms0; omega) a2 a3 rfl hp dX0_storeOf_14)
  refine gt_cVI (As := [.int p2]) (rest := [.int (nI 0), .ref p3])  ⟨hx, hb, hml, hown, hts⟩ (met_X1_storeOf l hfl E G p1 p2 c3 t4 _ _ hvc.2) (cwV 1 hts (lw_V q1747 q1393 q1394 q90 q1395) rfl rfl rfl (by decide +kernel) ⟨Nat.le_of_ble_eq_true rfl, Nat.le_of_ble_eq_true rfl⟩) (gw_rc (q := (RX1, TX1, 4)) hK hG hvc.1 rfl) hc1 hs1 hMC hMS (Nat.le_refl _) (Nat.le_refl _) (g_Y.st E) hz hY hK hG hS rfl hl.1 rfl (Nat.le_of_ble_eq_true rfl) dX0_storeOf_4 hkx (fun x1 G2 H locs ce sl hvc_2 hG_3 hS_4 hMC_5 hMS_6 => ?_)
  clear hvc hG hS hMC hMS
  refine lv_i2l (v := x1.toInt64) hx hb dX0_storeOf_7 rfl ?_
  refine gw_lst hx hb hK hG_3 hS_4 hvc_2 dX0_storeOf_8 (fun G5 H locs hvc_7 hG_8 hS_9 => ?_)
  clear hvc_2 hG_3 hS_4
  refine lv_goto (tgt := 15) hx hb dX0_storeOf_9 (by decide) ?_
  refine lv_iconst (v := nI 0) hx hb dX0_storeOf_15 (by decide) ?_
  exact vx_ret (g_iret hx hb hr hlocks (by show _ ≤ mc0; omega) (by show _ ≤ ms0; omega) hG_8 hS_9 rfl hvc_7 dX0_storeOf_16)
set_option maxHeartbeats 4000000 in
set_option maxRecDepth 100000 in
theorem met_X0_wouldSend (l : Launch) (hfl : l.stackTraces = false) (E : g_E) (G : g_G) (p1 : Nat) (p2 : Int32) (p3 : Nat) (mc0 ms0 : Nat) (post : Int32 → g_G → Prop) (hvc : wp_X0_wouldSend E G p1 p2 p3 mc0 ms0 post) : g_TI E l yX0_wouldSend (wsW_ yX0_wouldSend cX0_wouldSend 4 (Option.some Jvm.ClassFile.FieldType.int) [((0 : Nat), (9 : Nat), (12 : Nat), (13 : Nat))]) ({ frames := 14, cells := mc0, slots := ms0, locals := 349 } : Room) (g_Z E) [.ref p1, .int p2, .ref p3] G post (fun _ _ => False) := by
  refine g_enterH (by decide +kernel) (Nat.le_of_ble_eq_true rfl) ?_
  intro p e s m below meth c ls hx hb hr hts hown hlocks hml hout hz hZ hK hG hS hl
  have hY := hZ.1
  have hX := hY.1
  have hl : lv_has ls 4 [(0, .ref p1), (1, .int p2), (2, .ref p3)] := hl
  have hown : s.vm.findClass RX0 = some m.cls := hown
  have hMC : 0 + mc0 ≤ mc0 := Nat.le_of_eq (Nat.zero_add _)
  have hMS : 0 + ms0 ≤ ms0 := Nat.le_of_eq (Nat.zero_add _)
  unfold wp_X0_wouldSend at hvc
  refine lv_aload_n hx hb dX0_wouldSend_0 rfl (lv_at hl 2 rfl) ?_
  refine lv_iconst (v := nI 0) hx hb dX0_wouldSend_1 (by decide) ?_
  refine lv_aload_n hx hb dX0_wouldSend_2 rfl (lv_at hl 0 rfl) ?_
  refine lv_iload_n hx hb dX0_wouldSend_3 rfl (lv_at hl 1 rfl) ?_
  obtain ⟨c3, t4, hc1, hs1, hvc⟩ := hvc
  have hkx : ∀ (X9 : String) (ce : Cell) (q9 : Nat) (G9 : g_G) (H9 : Heap) (locs9 : List Loc) (cells9 slots9 : Nat), (fun X9 G9 => (X9 = "java/lang/IndexOutOfBoundsException" ∧ post (nI 1) G9)) X9 G9 → g_H E G9 H9 → va_S (g_A E) s.heap H9 locs9 → H9[q9]? = some ce → ce.vm = .none → s.vm.findClass X9 = some ce.cls → cells9 + (mc0 - c3) ≤ mc0 → slots9 + (ms0 - t4) ≤ ms0 → vx_W p l e ({ frames := 14, cells := mc0, slots := ms0, locals := 349 } : Room) s m ([.ref p1, .int p2, .ref p3] : List Value).toArray below meth c H9 locs9 cells9 slots9 (vx_MQ below (va_Qi (post) (g_Bk E) (g_A E)) (g_XC E (fun _ _ => False)) ([.ref p1, .int p2, .ref p3] : List Value).toArray s mc0 ms0 (g_A E)) (F0 m 4 ls [.int (nI 0), .ref p3]) q9 := by
    intro X9 ce q9 G9 H9 locs9 cells9 slots9 hp a2 a3 a4 a5 a6 a7 a8
    obtain ⟨rfl, hp⟩ := hp
    · refine vx_catch (E := "java/lang/IndexOutOfBoundsException") (name := "java/lang/IndexOutOfBoundsException") (own := RX0) hown [] (⟨0, 9, 12, 13⟩ : ExceptionTableEntry) [] (hout.trans rfl) (fun z hz9 => by cases hz9) rfl (by decide) (hts _ q1437) (va_Nw.use rfl (hX.1 _ q1364 rfl)) a4 a5 a6 ?_
      refine lv_astore_n (lv' := [(3, .ref q9), (0, .ref p1), (1, .int p2), (2, .ref p3)]) hx hb dX0_wouldSend_12 rfl hl (by decide) rfl (fun ls hl_1 => ?_)
      clear hl
      refine lv_iconst (v := nI 1) hx hb dX0_wouldSend_13 (by decide) ?_
      exact vx_ret (g_iret hx hb hr hlocks (by show _ ≤ mc0; omega) (by show _ ≤ ms0; omega) a2 a3 rfl hp dX0_wouldSend_14)
  refine gt_cVI (As := [.int p2]) (rest := [.int (nI 0), .ref p3])  ⟨hx, hb, hml, hown, hts⟩ (met_X1_wouldSend l hfl E G p1 p2 c3 t4 _ _ hvc.2) (cwV 1 hts (lw_V q1751 q1397 q1398 q90 q1399) rfl rfl rfl (by decide +kernel) ⟨Nat.le_of_ble_eq_true rfl, Nat.le_of_ble_eq_true rfl⟩) (gw_rc (q := (RX1, TX1, 4)) hK hG hvc.1 rfl) hc1 hs1 hMC hMS (Nat.le_refl _) (Nat.le_refl _) (g_Y.st E) hz hY hK hG hS rfl hl.1 rfl (Nat.le_of_ble_eq_true rfl) dX0_wouldSend_4 hkx (fun x1 G2 H locs ce sl hvc_2 hG_3 hS_4 hMC_5 hMS_6 => ?_)
  clear hvc hG hS hMC hMS
  refine lv_i2l (v := x1.toInt64) hx hb dX0_wouldSend_7 rfl ?_
  refine gw_lst hx hb hK hG_3 hS_4 hvc_2 dX0_wouldSend_8 (fun G5 H locs hvc_7 hG_8 hS_9 => ?_)
  clear hvc_2 hG_3 hS_4
  refine lv_goto (tgt := 15) hx hb dX0_wouldSend_9 (by decide) ?_
  refine lv_iconst (v := nI 0) hx hb dX0_wouldSend_15 (by decide) ?_
  exact vx_ret (g_iret hx hb hr hlocks (by show _ ≤ mc0; omega) (by show _ ≤ ms0; omega) hG_8 hS_9 rfl hvc_7 dX0_wouldSend_16)
set_option maxHeartbeats 4000000 in
set_option maxRecDepth 100000 in
theorem met_X0_outcomeIfSettled (l : Launch) (hfl : l.stackTraces = false) (E : g_E) (G : g_G) (p1 : Nat) (p2 : Int32) (p3 : Nat) (mc0 ms0 : Nat) (post : Int32 → g_G → Prop) (hvc : wp_X0_outcomeIfSettled E G p1 p2 p3 mc0 ms0 post) : g_TI E l yX0_outcomeIfSettled (wsW_ yX0_outcomeIfSettled cX0_outcomeIfSettled 4 (Option.some Jvm.ClassFile.FieldType.int) [((0 : Nat), (9 : Nat), (12 : Nat), (13 : Nat))]) ({ frames := 17, cells := mc0, slots := ms0, locals := 413 } : Room) (g_Z E) [.ref p1, .int p2, .ref p3] G post (fun _ _ => False) := by
  refine g_enterH (by decide +kernel) (Nat.le_of_ble_eq_true rfl) ?_
  intro p e s m below meth c ls hx hb hr hts hown hlocks hml hout hz hZ hK hG hS hl
  have hY := hZ.1
  have hX := hY.1
  have hl : lv_has ls 4 [(0, .ref p1), (1, .int p2), (2, .ref p3)] := hl
  have hown : s.vm.findClass RX0 = some m.cls := hown
  have hMC : 0 + mc0 ≤ mc0 := Nat.le_of_eq (Nat.zero_add _)
  have hMS : 0 + ms0 ≤ ms0 := Nat.le_of_eq (Nat.zero_add _)
  unfold wp_X0_outcomeIfSettled at hvc
  refine lv_aload_n hx hb dX0_outcomeIfSettled_0 rfl (lv_at hl 2 rfl) ?_
  refine lv_iconst (v := nI 0) hx hb dX0_outcomeIfSettled_1 (by decide) ?_
  refine lv_aload_n hx hb dX0_outcomeIfSettled_2 rfl (lv_at hl 0 rfl) ?_
  refine lv_iload_n hx hb dX0_outcomeIfSettled_3 rfl (lv_at hl 1 rfl) ?_
  obtain ⟨c3, t4, hc1, hs1, hvc⟩ := hvc
  have hkx : ∀ (X9 : String) (ce : Cell) (q9 : Nat) (G9 : g_G) (H9 : Heap) (locs9 : List Loc) (cells9 slots9 : Nat), (fun X9 G9 => (X9 = "java/lang/IndexOutOfBoundsException" ∧ post (nI 1) G9)) X9 G9 → g_H E G9 H9 → va_S (g_A E) s.heap H9 locs9 → H9[q9]? = some ce → ce.vm = .none → s.vm.findClass X9 = some ce.cls → cells9 + (mc0 - c3) ≤ mc0 → slots9 + (ms0 - t4) ≤ ms0 → vx_W p l e ({ frames := 17, cells := mc0, slots := ms0, locals := 413 } : Room) s m ([.ref p1, .int p2, .ref p3] : List Value).toArray below meth c H9 locs9 cells9 slots9 (vx_MQ below (va_Qi (post) (g_Bk E) (g_A E)) (g_XC E (fun _ _ => False)) ([.ref p1, .int p2, .ref p3] : List Value).toArray s mc0 ms0 (g_A E)) (F0 m 4 ls [.int (nI 0), .ref p3]) q9 := by
    intro X9 ce q9 G9 H9 locs9 cells9 slots9 hp a2 a3 a4 a5 a6 a7 a8
    obtain ⟨rfl, hp⟩ := hp
    · refine vx_catch (E := "java/lang/IndexOutOfBoundsException") (name := "java/lang/IndexOutOfBoundsException") (own := RX0) hown [] (⟨0, 9, 12, 13⟩ : ExceptionTableEntry) [] (hout.trans rfl) (fun z hz9 => by cases hz9) rfl (by decide) (hts _ q1437) (va_Nw.use rfl (hX.1 _ q1364 rfl)) a4 a5 a6 ?_
      refine lv_astore_n (lv' := [(3, .ref q9), (0, .ref p1), (1, .int p2), (2, .ref p3)]) hx hb dX0_outcomeIfSettled_12 rfl hl (by decide) rfl (fun ls hl_1 => ?_)
      clear hl
      refine lv_iconst (v := nI 1) hx hb dX0_outcomeIfSettled_13 (by decide) ?_
      exact vx_ret (g_iret hx hb hr hlocks (by show _ ≤ mc0; omega) (by show _ ≤ ms0; omega) a2 a3 rfl hp dX0_outcomeIfSettled_14)
  refine gt_cVI (As := [.int p2]) (rest := [.int (nI 0), .ref p3])  ⟨hx, hb, hml, hown, hts⟩ (met_X1_outcomeIfSettled l hfl E G p1 p2 c3 t4 _ _ hvc.2) (cwV 1 hts (lw_V q1755 q1756 q1757 q90 q1758) rfl rfl rfl (by decide +kernel) ⟨Nat.le_of_ble_eq_true rfl, Nat.le_of_ble_eq_true rfl⟩) (gw_rc (q := (RX1, TX1, 4)) hK hG hvc.1 rfl) hc1 hs1 hMC hMS (Nat.le_refl _) (Nat.le_refl _) (g_Y.st E) hz hY hK hG hS rfl hl.1 rfl (Nat.le_of_ble_eq_true rfl) dX0_outcomeIfSettled_4 hkx (fun x1 G2 H locs ce sl hvc_2 hG_3 hS_4 hMC_5 hMS_6 => ?_)
  clear hvc hG hS hMC hMS
  refine lv_i2l (v := x1.toInt64) hx hb dX0_outcomeIfSettled_7 rfl ?_
  refine gw_lst hx hb hK hG_3 hS_4 hvc_2 dX0_outcomeIfSettled_8 (fun G5 H locs hvc_7 hG_8 hS_9 => ?_)
  clear hvc_2 hG_3 hS_4
  refine lv_goto (tgt := 15) hx hb dX0_outcomeIfSettled_9 (by decide) ?_
  refine lv_iconst (v := nI 0) hx hb dX0_outcomeIfSettled_15 (by decide) ?_
  exact vx_ret (g_iret hx hb hr hlocks (by show _ ≤ mc0; omega) (by show _ ≤ ms0; omega) hG_8 hS_9 rfl hvc_7 dX0_outcomeIfSettled_16)
set_option maxHeartbeats 4000000 in
set_option maxRecDepth 100000 in
theorem met_X0_amountIfSettled (l : Launch) (hfl : l.stackTraces = false) (E : g_E) (G : g_G) (p1 : Nat) (p2 : Int32) (p3 : Nat) (mc0 ms0 : Nat) (post : Int32 → g_G → Prop) (hvc : wp_X0_amountIfSettled E G p1 p2 p3 mc0 ms0 post) : g_TI E l yX0_amountIfSettled (wsW_ yX0_amountIfSettled cX0_amountIfSettled 4 (Option.some Jvm.ClassFile.FieldType.int) [((0 : Nat), (9 : Nat), (12 : Nat), (13 : Nat))]) ({ frames := 17, cells := mc0, slots := ms0, locals := 413 } : Room) (g_Z E) [.ref p1, .int p2, .ref p3] G post (fun _ _ => False) := by
  refine g_enterH (by decide +kernel) (Nat.le_of_ble_eq_true rfl) ?_
  intro p e s m below meth c ls hx hb hr hts hown hlocks hml hout hz hZ hK hG hS hl
  have hY := hZ.1
  have hX := hY.1
  have hl : lv_has ls 4 [(0, .ref p1), (1, .int p2), (2, .ref p3)] := hl
  have hown : s.vm.findClass RX0 = some m.cls := hown
  have hMC : 0 + mc0 ≤ mc0 := Nat.le_of_eq (Nat.zero_add _)
  have hMS : 0 + ms0 ≤ ms0 := Nat.le_of_eq (Nat.zero_add _)
  unfold wp_X0_amountIfSettled at hvc
  refine lv_aload_n hx hb dX0_amountIfSettled_0 rfl (lv_at hl 2 rfl) ?_
  refine lv_iconst (v := nI 0) hx hb dX0_amountIfSettled_1 (by decide) ?_
  refine lv_aload_n hx hb dX0_amountIfSettled_2 rfl (lv_at hl 0 rfl) ?_
  refine lv_iload_n hx hb dX0_amountIfSettled_3 rfl (lv_at hl 1 rfl) ?_
  obtain ⟨c3, t4, hc1, hs1, hvc⟩ := hvc
  have hkx : ∀ (X9 : String) (ce : Cell) (q9 : Nat) (G9 : g_G) (H9 : Heap) (locs9 : List Loc) (cells9 slots9 : Nat), (fun X9 G9 => (X9 = "java/lang/IndexOutOfBoundsException" ∧ post (nI 1) G9)) X9 G9 → g_H E G9 H9 → va_S (g_A E) s.heap H9 locs9 → H9[q9]? = some ce → ce.vm = .none → s.vm.findClass X9 = some ce.cls → cells9 + (mc0 - c3) ≤ mc0 → slots9 + (ms0 - t4) ≤ ms0 → vx_W p l e ({ frames := 17, cells := mc0, slots := ms0, locals := 413 } : Room) s m ([.ref p1, .int p2, .ref p3] : List Value).toArray below meth c H9 locs9 cells9 slots9 (vx_MQ below (va_Qi (post) (g_Bk E) (g_A E)) (g_XC E (fun _ _ => False)) ([.ref p1, .int p2, .ref p3] : List Value).toArray s mc0 ms0 (g_A E)) (F0 m 4 ls [.int (nI 0), .ref p3]) q9 := by
    intro X9 ce q9 G9 H9 locs9 cells9 slots9 hp a2 a3 a4 a5 a6 a7 a8
    obtain ⟨rfl, hp⟩ := hp
    · refine vx_catch (E := "java/lang/IndexOutOfBoundsException") (name := "java/lang/IndexOutOfBoundsException") (own := RX0) hown [] (⟨0, 9, 12, 13⟩ : ExceptionTableEntry) [] (hout.trans rfl) (fun z hz9 => by cases hz9) rfl (by decide) (hts _ q1437) (va_Nw.use rfl (hX.1 _ q1364 rfl)) a4 a5 a6 ?_
      refine lv_astore_n (lv' := [(3, .ref q9), (0, .ref p1), (1, .int p2), (2, .ref p3)]) hx hb dX0_amountIfSettled_12 rfl hl (by decide) rfl (fun ls hl_1 => ?_)
      clear hl
      refine lv_iconst (v := nI 1) hx hb dX0_amountIfSettled_13 (by decide) ?_
      exact vx_ret (g_iret hx hb hr hlocks (by show _ ≤ mc0; omega) (by show _ ≤ ms0; omega) a2 a3 rfl hp dX0_amountIfSettled_14)
  refine gt_cVI (As := [.int p2]) (rest := [.int (nI 0), .ref p3])  ⟨hx, hb, hml, hown, hts⟩ (met_X1_amountIfSettled l hfl E G p1 p2 c3 t4 _ _ hvc.2) (cwV 1 hts (lw_V q1766 q1767 q1768 q90 q1769) rfl rfl rfl (by decide +kernel) ⟨Nat.le_of_ble_eq_true rfl, Nat.le_of_ble_eq_true rfl⟩) (gw_rc (q := (RX1, TX1, 4)) hK hG hvc.1 rfl) hc1 hs1 hMC hMS (Nat.le_refl _) (Nat.le_refl _) (g_Y.st E) hz hY hK hG hS rfl hl.1 rfl (Nat.le_of_ble_eq_true rfl) dX0_amountIfSettled_4 hkx (fun x1 G2 H locs ce sl hvc_2 hG_3 hS_4 hMC_5 hMS_6 => ?_)
  clear hvc hG hS hMC hMS
  refine lv_i2l (v := x1.toInt64) hx hb dX0_amountIfSettled_7 rfl ?_
  refine gw_lst hx hb hK hG_3 hS_4 hvc_2 dX0_amountIfSettled_8 (fun G5 H locs hvc_7 hG_8 hS_9 => ?_)
  clear hvc_2 hG_3 hS_4
  refine lv_goto (tgt := 15) hx hb dX0_amountIfSettled_9 (by decide) ?_
  refine lv_iconst (v := nI 0) hx hb dX0_amountIfSettled_15 (by decide) ?_
  exact vx_ret (g_iret hx hb hr hlocks (by show _ ≤ mc0; omega) (by show _ ≤ ms0; omega) hG_8 hS_9 rfl hvc_7 dX0_amountIfSettled_16)
set_option maxHeartbeats 4000000 in
set_option maxRecDepth 100000 in
theorem met_X0_greatestSize (l : Launch) (hfl : l.stackTraces = false) (E : g_E) (G : g_G) (p1 : Nat) (p2 : Int32) (p3 : Int32) (p4 : Nat) (mc0 ms0 : Nat) (post : Int32 → g_G → Prop) (hvc : wp_X0_greatestSize E G p1 p2 p3 p4 mc0 ms0 post) : g_TI E l yX0_greatestSize (wsW_ yX0_greatestSize cX0_greatestSize 5 (Option.some Jvm.ClassFile.FieldType.int) [((0 : Nat), (10 : Nat), (13 : Nat), (13 : Nat)), ((0 : Nat), (10 : Nat), (17 : Nat), (15 : Nat))]) ({ frames := 9, cells := mc0, slots := ms0, locals := 161 } : Room) (g_Z E) [.ref p1, .int p2, .int p3, .ref p4] G post (fun _ _ => False) := by
  refine g_enterH (by decide +kernel) (Nat.le_of_ble_eq_true rfl) ?_
  intro p e s m below meth c ls hx hb hr hts hown hlocks hml hout hz hZ hK hG hS hl
  have hY := hZ.1
  have hX := hY.1
  have hl : lv_has ls 5 [(0, .ref p1), (1, .int p2), (2, .int p3), (3, .ref p4)] := hl
  have hown : s.vm.findClass RX0 = some m.cls := hown
  have hMC : 0 + mc0 ≤ mc0 := Nat.le_of_eq (Nat.zero_add _)
  have hMS : 0 + ms0 ≤ ms0 := Nat.le_of_eq (Nat.zero_add _)
  unfold wp_X0_greatestSize at hvc
  refine lv_aload_n hx hb dX0_greatestSize_0 rfl (lv_at hl 3 rfl) ?_
  refine lv_iconst (v := nI 0) hx hb dX0_greatestSize_1 (by decide) ?_
  refine lv_aload_n hx hb dX0_greatestSize_2 rfl (lv_at hl 0 rfl) ?_
  refine lv_iload_n hx hb dX0_greatestSize_3 rfl (lv_at hl 1 rfl) ?_
  refine lv_iload_n hx hb dX0_greatestSize_4 rfl (lv_at hl 2 rfl) ?_
  obtain ⟨c3, t4, hc1, hs1, hvc⟩ := hvc
  have hkx : ∀ (X9 : String) (ce : Cell) (q9 : Nat) (G9 : g_G) (H9 : Heap) (locs9 : List Loc) (cells9 slots9 : Nat), (fun X9 G9 => (X9 = "java/lang/IndexOutOfBoundsException" ∧ post (nI 1) G9) ∨ (X9 = "java/lang/IllegalArgumentException" ∧ post (nI 2) G9)) X9 G9 → g_H E G9 H9 → va_S (g_A E) s.heap H9 locs9 → H9[q9]? = some ce → ce.vm = .none → s.vm.findClass X9 = some ce.cls → cells9 + (mc0 - c3) ≤ mc0 → slots9 + (ms0 - t4) ≤ ms0 → vx_W p l e ({ frames := 9, cells := mc0, slots := ms0, locals := 161 } : Room) s m ([.ref p1, .int p2, .int p3, .ref p4] : List Value).toArray below meth c H9 locs9 cells9 slots9 (vx_MQ below (va_Qi (post) (g_Bk E) (g_A E)) (g_XC E (fun _ _ => False)) ([.ref p1, .int p2, .int p3, .ref p4] : List Value).toArray s mc0 ms0 (g_A E)) (F0 m 5 ls [.int (nI 0), .ref p4]) q9 := by
    intro X9 ce q9 G9 H9 locs9 cells9 slots9 hp a2 a3 a4 a5 a6 a7 a8
    rcases hp with ⟨rfl, hp⟩ | ⟨rfl, hp⟩
    · refine vx_catch (E := "java/lang/IndexOutOfBoundsException") (name := "java/lang/IndexOutOfBoundsException") (own := RX0) hown [] (⟨0, 10, 13, 13⟩ : ExceptionTableEntry) [(⟨0, 10, 17, 15⟩ : ExceptionTableEntry)] (hout.trans rfl) (fun z hz9 => by cases hz9) rfl (by decide) (hts _ q1437) (va_Nw.use rfl (hX.1 _ q1364 rfl)) a4 a5 a6 ?_
      refine lv_astore (lv' := [(4, .ref q9), (0, .ref p1), (1, .int p2), (2, .int p3), (3, .ref p4)]) hx hb dX0_greatestSize_13 hl (by decide) rfl (fun ls hl_1 => ?_)
      clear hl
      refine lv_iconst (v := nI 1) hx hb dX0_greatestSize_15 (by decide) ?_
      exact vx_ret (g_iret hx hb hr hlocks (by show _ ≤ mc0; omega) (by show _ ≤ ms0; omega) a2 a3 rfl hp dX0_greatestSize_16)
    · refine vx_catch (E := "java/lang/IllegalArgumentException") (name := "java/lang/IllegalArgumentException") (own := RX0) hown [(⟨0, 10, 13, 13⟩ : ExceptionTableEntry)] (⟨0, 10, 17, 15⟩ : ExceptionTableEntry) [] (hout.trans rfl) (fun z hz9 => by cases List.mem_singleton.mp hz9; exact Or.inr ⟨by decide, "java/lang/IndexOutOfBoundsException", hts _ q1437, hZ.ai⟩) rfl (by decide) (hts _ q1440) (va_Nw.use rfl (hX.1 _ q420 rfl)) a4 a5 a6 ?_
      refine lv_astore (lv' := [(4, .ref q9), (0, .ref p1), (1, .int p2), (2, .int p3), (3, .ref p4)]) hx hb dX0_greatestSize_17 hl (by decide) rfl (fun ls hl_2 => ?_)
      clear hl
      refine lv_iconst (v := nI 2) hx hb dX0_greatestSize_19 (by decide) ?_
      exact vx_ret (g_iret hx hb hr hlocks (by show _ ≤ mc0; omega) (by show _ ≤ ms0; omega) a2 a3 rfl hp dX0_greatestSize_20)
  refine gt_cVI (As := [.int p2, .int p3]) (rest := [.int (nI 0), .ref p4])  ⟨hx, hb, hml, hown, hts⟩ (met_X1_greatestSize l hfl E G p1 p2 p3 c3 t4 _ _ hvc.2) (cwV 2 hts (lw_V q1773 q1774 q1775 q90 q1776) rfl rfl rfl (by decide +kernel) ⟨Nat.le_of_ble_eq_true rfl, Nat.le_of_ble_eq_true rfl⟩) (gw_rc (q := (RX1, TX1, 4)) hK hG hvc.1 rfl) hc1 hs1 hMC hMS (Nat.le_refl _) (Nat.le_refl _) (g_Y.st E) hz hY hK hG hS rfl hl.1 rfl (Nat.le_of_ble_eq_true rfl) dX0_greatestSize_5 hkx (fun x1 G2 H locs ce sl hvc_3 hG_4 hS_5 hMC_6 hMS_7 => ?_)
  clear hvc hG hS hMC hMS
  refine lv_i2l (v := x1.toInt64) hx hb dX0_greatestSize_8 rfl ?_
  refine gw_lst hx hb hK hG_4 hS_5 hvc_3 dX0_greatestSize_9 (fun G5 H locs hvc_8 hG_9 hS_10 => ?_)
  clear hvc_3 hG_4 hS_5
  refine lv_goto (tgt := 21) hx hb dX0_greatestSize_10 (by decide) ?_
  refine lv_iconst (v := nI 0) hx hb dX0_greatestSize_21 (by decide) ?_
  exact vx_ret (g_iret hx hb hr hlocks (by show _ ≤ mc0; omega) (by show _ ≤ ms0; omega) hG_9 hS_10 rfl hvc_8 dX0_greatestSize_22)
