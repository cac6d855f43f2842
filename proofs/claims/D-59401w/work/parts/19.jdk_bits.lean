/-! printed by tools/gen.py -/
set_option maxHeartbeats 4000000 in
set_option maxRecDepth 100000 in
theorem met_J25_isNaN (l : Launch) (E : g_E) (G : g_G) (p1 : UInt64) (post : Int32 → Prop) (hvc : wp_J25_isNaN E G p1 post) : g_MI E l yJ25_isNaN (ws_ yJ25_isNaN cJ25_isNaN 2 (Option.some Jvm.ClassFile.FieldType.boolean)) ({ frames := 0, cells := 0, slots := 0, locals := 0 } : Room) (fun _ => True) [.double p1] G (fun v G9 => G9 = G ∧ post v) := by
  refine g_enterF (by decide +kernel) (Nat.le_of_ble_eq_true rfl) ?_
  intro p e s m below meth c ls hx hb hr hts hown hlocks hml hin hz hX hK hG hS hl
  have hl : lv_has ls 2 [(0, .double p1)] := hl
  have hown : s.vm.findClass RJ25 = some m.cls := hown
  unfold wp_J25_isNaN at hvc
  refine lv_dload_n hx hb dJ25_isNaN_0 rfl (lv_at hl 0 rfl) ?_
  refine lv_dload_n hx hb dJ25_isNaN_1 rfl (lv_at hl 0 rfl) ?_
  refine lv_dcmp hx hb dJ25_isNaN_2 ?_
  refine lv_if_eq (tgt := 10) hx hb dJ25_isNaN_3 (by decide) (fun h9 => ?_) (fun h9 => ?_)
  · replace hvc := hvc.1 h9
    refine lv_iconst (v := nI 0) hx hb dJ25_isNaN_10 (by decide) ?_
    exact g_iret hx hb hr hlocks (Nat.zero_le _) (Nat.zero_le _) hG hS rfl ⟨rfl, hvc⟩ dJ25_isNaN_11
  · replace hvc := hvc.2 h9
    refine lv_iconst (v := nI 1) hx hb dJ25_isNaN_6 (by decide) ?_
    refine lv_goto (tgt := 11) hx hb dJ25_isNaN_7 (by decide) ?_
    exact g_iret hx hb hr hlocks (Nat.zero_le _) (Nat.zero_le _) hG hS rfl ⟨rfl, hvc⟩ dJ25_isNaN_11
set_option maxHeartbeats 4000000 in
set_option maxRecDepth 100000 in
theorem met_J25_doubleToLongBits (l : Launch) (E : g_E) (G : g_G) (p1 : UInt64) (post : Int64 → Prop) (hvc : wp_J25_doubleToLongBits E G p1 post) : g_ML E l yJ25_doubleToLongBits (ws_ yJ25_doubleToLongBits cJ25_doubleToLongBits 2 (Option.some Jvm.ClassFile.FieldType.long)) ({ frames := 1, cells := 0, slots := 0, locals := 40 } : Room) (fun _ => True) [.double p1] G (fun v G9 => G9 = G ∧ post v) := by
  refine g_enterF (by decide +kernel) (Nat.le_of_ble_eq_true rfl) ?_
  intro p e s m below meth c ls hx hb hr hts hown hlocks hml hin hz hX hK hG hS hl
  have hl : lv_has ls 2 [(0, .double p1)] := hl
  have hown : s.vm.findClass RJ25 = some m.cls := hown
  unfold wp_J25_doubleToLongBits at hvc
  refine lv_dload_n hx hb dJ25_doubleToLongBits_0 rfl (lv_at hl 0 rfl) ?_
  refine gw_cSIP (As := [.double p1]) (rest := [])  ⟨hx, hb, hml, hown, hts⟩ (met_J25_isNaN l E G p1 _ hvc) (va_cwS 1 hts (lw_S q1415 q1416 q127 q1417) rfl rfl rfl (by decide +kernel) ⟨Nat.le_of_ble_eq_true rfl, Nat.le_of_ble_eq_true rfl⟩) (Nat.zero_le _) (Nat.zero_le _) (g_St0 E) hz trivial hK hG hS rfl hl.1 rfl (Nat.le_of_ble_eq_true rfl) dJ25_doubleToLongBits_1 (fun x1 H locs hvc_1 hG_2 hS_3 => ?_)
  clear hvc hG hS
  refine lv_if_ne (tgt := 12) hx hb dJ25_doubleToLongBits_4 (by decide) (fun h9 => ?_) (fun h9 => ?_)
  · replace hvc_1 := hvc_1.1 h9
    refine lv_ldc2 (v := lN 9221120237041090560) hx hb hown (by exact hts _ q1421) dJ25_doubleToLongBits_12 ?_
    exact g_lret hx hb hr hlocks (Nat.zero_le _) (Nat.zero_le _) hG_2 hS_3 ⟨rfl, hvc_1⟩ dJ25_doubleToLongBits_15
  · replace hvc_1 := hvc_1.2 h9
    refine lv_dload_n hx hb dJ25_doubleToLongBits_7 rfl (lv_at hl 0 rfl) ?_
    refine vn_d2l hx hb (by rw [hml]; exact hl.1.symm) hown (hts _ q1418) (hts _ q1420) (hts _ q1419) (hts _ q127) (Nat.le_of_ble_eq_true rfl) (Nat.le_of_ble_eq_true rfl) dJ25_doubleToLongBits_8 ?_
    exact g_lret hx hb hr hlocks (Nat.zero_le _) (Nat.zero_le _) hG_2 hS_3 ⟨rfl, hvc_1⟩ dJ25_doubleToLongBits_11
set_option maxHeartbeats 4000000 in
set_option maxRecDepth 100000 in
theorem met_J26_isNaN (l : Launch) (E : g_E) (G : g_G) (p1 : UInt32) (post : Int32 → Prop) (hvc : wp_J26_isNaN E G p1 post) : g_MI E l yJ26_isNaN (ws_ yJ26_isNaN cJ26_isNaN 1 (Option.some Jvm.ClassFile.FieldType.boolean)) ({ frames := 0, cells := 0, slots := 0, locals := 0 } : Room) (fun _ => True) [.float p1] G (fun v G9 => G9 = G ∧ post v) := by
  refine g_enterF (by decide +kernel) (Nat.le_of_ble_eq_true rfl) ?_
  intro p e s m below meth c ls hx hb hr hts hown hlocks hml hin hz hX hK hG hS hl
  have hl : lv_has ls 1 [(0, .float p1)] := hl
  have hown : s.vm.findClass RJ26 = some m.cls := hown
  unfold wp_J26_isNaN at hvc
  refine lv_fload_n hx hb dJ26_isNaN_0 rfl (lv_at hl 0 rfl) ?_
  refine lv_fload_n hx hb dJ26_isNaN_1 rfl (lv_at hl 0 rfl) ?_
  refine lv_fcmp hx hb dJ26_isNaN_2 ?_
  refine lv_if_eq (tgt := 10) hx hb dJ26_isNaN_3 (by decide) (fun h9 => ?_) (fun h9 => ?_)
  · replace hvc := hvc.1 h9
    refine lv_iconst (v := nI 0) hx hb dJ26_isNaN_10 (by decide) ?_
    exact g_iret hx hb hr hlocks (Nat.zero_le _) (Nat.zero_le _) hG hS rfl ⟨rfl, hvc⟩ dJ26_isNaN_11
  · replace hvc := hvc.2 h9
    refine lv_iconst (v := nI 1) hx hb dJ26_isNaN_6 (by decide) ?_
    refine lv_goto (tgt := 11) hx hb dJ26_isNaN_7 (by decide) ?_
    exact g_iret hx hb hr hlocks (Nat.zero_le _) (Nat.zero_le _) hG hS rfl ⟨rfl, hvc⟩ dJ26_isNaN_11
set_option maxHeartbeats 4000000 in
set_option maxRecDepth 100000 in
theorem met_J26_floatToIntBits (l : Launch) (E : g_E) (G : g_G) (p1 : UInt32) (post : Int32 → Prop) (hvc : wp_J26_floatToIntBits E G p1 post) : g_MI E l yJ26_floatToIntBits (ws_ yJ26_floatToIntBits cJ26_floatToIntBits 1 (Option.some Jvm.ClassFile.FieldType.int)) ({ frames := 1, cells := 0, slots := 0, locals := 40 } : Room) (fun _ => True) [.float p1] G (fun v G9 => G9 = G ∧ post v) := by
  refine g_enterF (by decide +kernel) (Nat.le_of_ble_eq_true rfl) ?_
  intro p e s m below meth c ls hx hb hr hts hown hlocks hml hin hz hX hK hG hS hl
  have hl : lv_has ls 1 [(0, .float p1)] := hl
  have hown : s.vm.findClass RJ26 = some m.cls := hown
  unfold wp_J26_floatToIntBits at hvc
  refine lv_fload_n hx hb dJ26_floatToIntBits_0 rfl (lv_at hl 0 rfl) ?_
  refine gw_cSIP (As := [.float p1]) (rest := [])  ⟨hx, hb, hml, hown, hts⟩ (met_J26_isNaN l E G p1 _ hvc) (va_cwS 1 hts (lw_S q1426 q1427 q128 q1428) rfl rfl rfl (by decide +kernel) ⟨Nat.le_of_ble_eq_true rfl, Nat.le_of_ble_eq_true rfl⟩) (Nat.zero_le _) (Nat.zero_le _) (g_St0 E) hz trivial hK hG hS rfl hl.1 rfl (Nat.le_of_ble_eq_true rfl) dJ26_floatToIntBits_1 (fun x1 H locs hvc_1 hG_2 hS_3 => ?_)
  clear hvc hG hS
  refine lv_if_ne (tgt := 12) hx hb dJ26_floatToIntBits_4 (by decide) (fun h9 => ?_) (fun h9 => ?_)
  · replace hvc_1 := hvc_1.1 h9
    refine lv_ldc (v := nI 2143289344) hx hb hown (by exact hts _ q1432) dJ26_floatToIntBits_12 ?_
    exact g_iret hx hb hr hlocks (Nat.zero_le _) (Nat.zero_le _) hG_2 hS_3 rfl ⟨rfl, hvc_1⟩ dJ26_floatToIntBits_14
  · replace hvc_1 := hvc_1.2 h9
    refine lv_fload_n hx hb dJ26_floatToIntBits_7 rfl (lv_at hl 0 rfl) ?_
    refine vn_f2i hx hb (by rw [hml]; exact hl.1.symm) hown (hts _ q1429) (hts _ q1431) (hts _ q1430) (hts _ q128) (Nat.le_of_ble_eq_true rfl) (Nat.le_of_ble_eq_true rfl) dJ26_floatToIntBits_8 ?_
    exact g_iret hx hb hr hlocks (Nat.zero_le _) (Nat.zero_le _) hG_2 hS_3 rfl ⟨rfl, hvc_1⟩ dJ26_floatToIntBits_11
