/-! printed by tools/gen.py -/
theorem met_J23_ordinal (l : Launch) (E : g_E) (G : g_G) (i : Nat) (hi : i < 7) (K : Int32 → Prop) (h : K (nI i)) : g_MI E l yJ23_ordinal (ws_ yJ23_ordinal cJ23_ordinal 1 (some .int)) ({ frames := 0, cells := 0, slots := 0, locals := 0 } : Room) (g_X E) [.ref (g_k E i)] G (fun v G9 => G9 = G ∧ K v) := by
  refine g_enter (by decide +kernel) (Nat.le_of_ble_eq_true rfl) ?_
  intro p e s m below meth c ls hx hb hr hts hown hlocks hml hin hz hX hK hG hS hl
  have hl : lv_has ls 1 [(0, .ref (g_k E i))] := hl
  have hown : s.vm.findClass RJ23 = some m.cls := hown
  refine lv_aload_n hx hb dJ23_ordinal_0 rfl (lv_at hl 0 rfl) ?_
  refine vk_getf (A := g_A E) hx hb (hX.kd hi) hS hown (hts _ q2327) (fun _ h9 => h9) dJ23_ordinal_1 ?_
  exact g_iret hx hb hr hlocks (Nat.zero_le _) (Nat.zero_le _) hG hS rfl ⟨rfl, h⟩ dJ23_ordinal_4
set_option maxHeartbeats 4000000 in
theorem gw_ord {p : Program} {l : Launch} {e : Env} {R : Room} {s : State} {m : MethodId} {args : Array Value} {below : List Frame} {meth : Method} {c : Code} {H : Heap} {locs : List Loc} {cells slots : Nat} {Q : State → Prop} {cc : ByteArray} {pc nL index : Nat} {ls : Array Slot} {rest : List Value} {E : g_E} {G : g_G} {own : String} {v : Option Nat} {K : Int32 → Prop} (Sx : CallFix p m c cc nL s args lw_all own) (hX : g_X E s) (hz : E.2.2 ≤ s.heap.size) (hK : g_K E s) (hG : g_H E G H) (hS : va_S (g_A E) s.heap H locs) (hvc : w_ord E v K) (hlink : Cond.methodLink own index ⟨"VoteLogs$Kind", "ordinal", "()I"⟩ ∈ lw_all) (hRC : cells ≤ R.cells) (hRS : slots ≤ R.slots) (hfr : 1 ≤ R.frames) (hlo : 20 ≤ R.locals) (hsize : ls.size = nL) (hW : (rest.map fun v => v.category).sum ≤ 8) (hdg : decode cc pc = .ok (.invokevirtual index, 3))
    (kk : ∀ (x : Int32) (H1 : Heap) (locs1 : List Loc), K x → g_H E G H1 → va_S (g_A E) s.heap H1 locs1 → W p l e R s m args below meth c H1 locs1 cells slots Q (F0 m (pc + 3) ls (.int x :: rest))) : W p l e R s m args below meth c H locs cells slots Q (F0 m pc ls (va_rf v :: rest)) := by
  obtain ⟨i, hi, rfl, hk⟩ := hvc
  match i, hi with
  | 0, _ =>
    exact va_calli (va_runU (As := []) (rest := rest) Sx (met_J23_ordinal l E G 0 (by decide) K hk) (va_cwU (C := "VoteLogs$Kind$1") (owner := "java/lang/Enum") 0 Sx.2.2.2.2 (lw_U hlink q1377 q1379 q1386 q120 q1387) rfl rfl rfl rfl (by decide +kernel) ⟨by show 0 + 1 ≤ _; omega, by show 8 + (1 + 11) + 0 ≤ _; omega⟩) ⟨g_blind (g_X.st E), g_krecv hX hS (i := 0) (by decide), (g_pre (g_X.st E) hz hX hK hG hS).2⟩ rfl rfl hsize rfl (lv_room hW) hdg ⟨hRC, hRS⟩) hS (fun _ _ h => h) (fun _ h => h) (fun v u t H1 locs1 ht _ hp hB _ _ hS1 => kk v H1 locs1 hp.2 (hp.1 ▸ (by rw [← ht]; exact hB)) hS1)
  | 1, _ =>
    exact va_calli (va_runU (As := []) (rest := rest) Sx (met_J23_ordinal l E G 1 (by decide) K hk) (va_cwU (C := "VoteLogs$Kind$2") (owner := "java/lang/Enum") 0 Sx.2.2.2.2 (lw_U hlink q1377 q1380 q1386 q120 q1387) rfl rfl rfl rfl (by decide +kernel) ⟨by show 0 + 1 ≤ _; omega, by show 8 + (1 + 11) + 0 ≤ _; omega⟩) ⟨g_blind (g_X.st E), g_krecv hX hS (i := 1) (by decide), (g_pre (g_X.st E) hz hX hK hG hS).2⟩ rfl rfl hsize rfl (lv_room hW) hdg ⟨hRC, hRS⟩) hS (fun _ _ h => h) (fun _ h => h) (fun v u t H1 locs1 ht _ hp hB _ _ hS1 => kk v H1 locs1 hp.2 (hp.1 ▸ (by rw [← ht]; exact hB)) hS1)
  | 2, _ =>
    exact va_calli (va_runU (As := []) (rest := rest) Sx (met_J23_ordinal l E G 2 (by decide) K hk) (va_cwU (C := "VoteLogs$Kind$3") (owner := "java/lang/Enum") 0 Sx.2.2.2.2 (lw_U hlink q1377 q1381 q1386 q120 q1387) rfl rfl rfl rfl (by decide +kernel) ⟨by show 0 + 1 ≤ _; omega, by show 8 + (1 + 11) + 0 ≤ _; omega⟩) ⟨g_blind (g_X.st E), g_krecv hX hS (i := 2) (by decide), (g_pre (g_X.st E) hz hX hK hG hS).2⟩ rfl rfl hsize rfl (lv_room hW) hdg ⟨hRC, hRS⟩) hS (fun _ _ h => h) (fun _ h => h) (fun v u t H1 locs1 ht _ hp hB _ _ hS1 => kk v H1 locs1 hp.2 (hp.1 ▸ (by rw [← ht]; exact hB)) hS1)
  | 3, _ =>
    exact va_calli (va_runU (As := []) (rest := rest) Sx (met_J23_ordinal l E G 3 (by decide) K hk) (va_cwU (C := "VoteLogs$Kind$4") (owner := "java/lang/Enum") 0 Sx.2.2.2.2 (lw_U hlink q1377 q1382 q1386 q120 q1387) rfl rfl rfl rfl (by decide +kernel) ⟨by show 0 + 1 ≤ _; omega, by show 8 + (1 + 11) + 0 ≤ _; omega⟩) ⟨g_blind (g_X.st E), g_krecv hX hS (i := 3) (by decide), (g_pre (g_X.st E) hz hX hK hG hS).2⟩ rfl rfl hsize rfl (lv_room hW) hdg ⟨hRC, hRS⟩) hS (fun _ _ h => h) (fun _ h => h) (fun v u t H1 locs1 ht _ hp hB _ _ hS1 => kk v H1 locs1 hp.2 (hp.1 ▸ (by rw [← ht]; exact hB)) hS1)
  | 4, _ =>
    exact va_calli (va_runU (As := []) (rest := rest) Sx (met_J23_ordinal l E G 4 (by decide) K hk) (va_cwU (C := "VoteLogs$Kind$5") (owner := "java/lang/Enum") 0 Sx.2.2.2.2 (lw_U hlink q1377 q1383 q1386 q120 q1387) rfl rfl rfl rfl (by decide +kernel) ⟨by show 0 + 1 ≤ _; omega, by show 8 + (1 + 11) + 0 ≤ _; omega⟩) ⟨g_blind (g_X.st E), g_krecv hX hS (i := 4) (by decide), (g_pre (g_X.st E) hz hX hK hG hS).2⟩ rfl rfl hsize rfl (lv_room hW) hdg ⟨hRC, hRS⟩) hS (fun _ _ h => h) (fun _ h => h) (fun v u t H1 locs1 ht _ hp hB _ _ hS1 => kk v H1 locs1 hp.2 (hp.1 ▸ (by rw [← ht]; exact hB)) hS1)
  | 5, _ =>
    exact va_calli (va_runU (As := []) (rest := rest) Sx (met_J23_ordinal l E G 5 (by decide) K hk) (va_cwU (C := "VoteLogs$Kind$6") (owner := "java/lang/Enum") 0 Sx.2.2.2.2 (lw_U hlink q1377 q1384 q1386 q120 q1387) rfl rfl rfl rfl (by decide +kernel) ⟨by show 0 + 1 ≤ _; omega, by show 8 + (1 + 11) + 0 ≤ _; omega⟩) ⟨g_blind (g_X.st E), g_krecv hX hS (i := 5) (by decide), (g_pre (g_X.st E) hz hX hK hG hS).2⟩ rfl rfl hsize rfl (lv_room hW) hdg ⟨hRC, hRS⟩) hS (fun _ _ h => h) (fun _ h => h) (fun v u t H1 locs1 ht _ hp hB _ _ hS1 => kk v H1 locs1 hp.2 (hp.1 ▸ (by rw [← ht]; exact hB)) hS1)
  | 6, _ =>
    exact va_calli (va_runU (As := []) (rest := rest) Sx (met_J23_ordinal l E G 6 (by decide) K hk) (va_cwU (C := "VoteLogs$Kind$7") (owner := "java/lang/Enum") 0 Sx.2.2.2.2 (lw_U hlink q1377 q1385 q1386 q120 q1387) rfl rfl rfl rfl (by decide +kernel) ⟨by show 0 + 1 ≤ _; omega, by show 8 + (1 + 11) + 0 ≤ _; omega⟩) ⟨g_blind (g_X.st E), g_krecv hX hS (i := 6) (by decide), (g_pre (g_X.st E) hz hX hK hG hS).2⟩ rfl rfl hsize rfl (lv_room hW) hdg ⟨hRC, hRS⟩) hS (fun _ _ h => h) (fun _ h => h) (fun v u t H1 locs1 ht _ hp hB _ _ hS1 => kk v H1 locs1 hp.2 (hp.1 ▸ (by rw [← ht]; exact hB)) hS1)
set_option maxHeartbeats 4000000 in
set_option maxRecDepth 100000 in
theorem met_X2_init (l : Launch) (E : g_E) (G : g_G) (o : Nat) (mc0 ms0 : Nat) (post : g_G → Prop) (hvc : wp_X2_init E G o mc0 ms0 post) : g_MV E l yX2_init (ws_ yX2_init cX2_init 2 (Option.none : Option Jvm.ClassFile.FieldType)) ({ frames := 7, cells := mc0, slots := ms0, locals := 191 } : Room) (g_X E) [.ref o] G (post) := by
  refine g_enter (by decide +kernel) (Nat.le_of_ble_eq_true rfl) ?_
  intro p e s m below meth c ls hx hb hr hts hown hlocks hml hin hz hX hK hG hS hl
  have hl : lv_has ls 2 [(0, .ref o)] := hl
  have hown : s.vm.findClass RX2 = some m.cls := hown
  have hMC : 0 + mc0 ≤ mc0 := Nat.le_of_eq (Nat.zero_add _)
  have hMS : 0 + ms0 ≤ ms0 := Nat.le_of_eq (Nat.zero_add _)
  unfold wp_X2_init at hvc
  refine lv_aload_n hx hb dX2_init_0 rfl (lv_at hl 0 rfl) ?_
  refine W.objInit hx hb hown (hts _ q196) (hts _ q135) (hts _ q136) rfl (by rw [hml]; exact hl.1) rfl dX2_init_1 (Nat.le_of_ble_eq_true rfl) (Nat.le_of_ble_eq_true rfl) ?_
  refine W.eq (g2 := F0 m 4 ls []) rfl ?_
  refine lv_aload_n hx hb dX2_init_4 rfl (lv_at hl 0 rfl) ?_
  refine gw_new (C := RJ7) (T := TJ7) (N := 3) (own := RX2) hx hb hts in_J7 tyJ7 tyJ7_ok hown (hts _ q197) (hts _ q198) (hts _ q99) hK hG hS hz hvc rfl (by decide) hMC hMS (Nat.le_refl _) (Nat.le_refl _) dX2_init_5 (fun q1 G2 H ce sl hvc_1 hG_2 hS_3 hMC_4 hMS_5 => ?_)
  clear hvc hG hS hMC hMS
  refine lv_dup hx hb dX2_init_8 rfl ?_
  refine gw_cCVN (As := []) (rest := [.ref q1, .ref o])  ⟨hx, hb, hml, hown, hts⟩ (met_J7_init l E G2 q1 _ hvc_1) (cwI 0 hts (lw_meth q201) rfl rfl rfl (hts _ q99) (hts _ q199) (hts _ q200) rfl (by decide +kernel) ⟨Nat.le_of_ble_eq_true rfl, Nat.le_of_ble_eq_true rfl⟩) (by show _ ≤ mc0; omega) (by show _ ≤ ms0; omega) (g_X.st E) hz hX hK hG_2 hS_3 rfl hl.1 rfl (Nat.le_of_ble_eq_true rfl) dX2_init_9 (fun G4 H locs hvc_6 hG_7 hS_8 => ?_)
  clear hvc_1 hG_2 hS_3
  refine gw_putF (ty := .object "java/util/List") (C := RX2) (T := TX2) (N := 11) (own := RX2) hx hb hts in_X2 tyX2 tyX2_ok nmX2 hown hK hG_7 hS_8 hvc_6 rfl (by decide) (hts _ q301) (fun _ h9 => h9) rfl hin rfl (by decide +kernel) rfl rfl dX2_init_12 (fun G5 H locs hvc_9 hG_10 hS_11 => ?_)
  clear hvc_6 hG_7 hS_8
  refine lv_aload_n hx hb dX2_init_15 rfl (lv_at hl 0 rfl) ?_
  refine gw_new (C := RJ7) (T := TJ7) (N := 3) (own := RX2) hx hb hts in_J7 tyJ7 tyJ7_ok hown (hts _ q197) (hts _ q198) (hts _ q99) hK hG_10 hS_11 hz hvc_9 rfl (by decide) hMC_4 hMS_5 (Nat.le_refl _) (Nat.le_refl _) dX2_init_16 (fun q6 G7 H ce sl hvc_12 hG_13 hS_14 hMC_15 hMS_16 => ?_)
  clear hvc_9 hG_10 hS_11 hMC_4 hMS_5
  refine lv_dup hx hb dX2_init_19 rfl ?_
  refine gw_cCVN (As := []) (rest := [.ref q6, .ref o])  ⟨hx, hb, hml, hown, hts⟩ (met_J7_init l E G7 q6 _ hvc_12) (cwI 0 hts (lw_meth q201) rfl rfl rfl (hts _ q99) (hts _ q199) (hts _ q200) rfl (by decide +kernel) ⟨Nat.le_of_ble_eq_true rfl, Nat.le_of_ble_eq_true rfl⟩) (by show _ ≤ mc0; omega) (by show _ ≤ ms0; omega) (g_X.st E) hz hX hK hG_13 hS_14 rfl hl.1 rfl (Nat.le_of_ble_eq_true rfl) dX2_init_20 (fun G9 H locs hvc_17 hG_18 hS_19 => ?_)
  clear hvc_12 hG_13 hS_14
  refine gw_putF (ty := .object "java/util/List") (C := RX2) (T := TX2) (N := 11) (own := RX2) hx hb hts in_X2 tyX2 tyX2_ok nmX2 hown hK hG_18 hS_19 hvc_17 rfl (by decide) (hts _ q303) (fun _ h9 => h9) rfl hin rfl (by decide +kernel) rfl rfl dX2_init_23 (fun G10 H locs hvc_20 hG_21 hS_22 => ?_)
  clear hvc_17 hG_18 hS_19
  refine lv_aload_n hx hb dX2_init_26 rfl (lv_at hl 0 rfl) ?_
  refine gw_new (C := RJ7) (T := TJ7) (N := 3) (own := RX2) hx hb hts in_J7 tyJ7 tyJ7_ok hown (hts _ q197) (hts _ q198) (hts _ q99) hK hG_21 hS_22 hz hvc_20 rfl (by decide) hMC_15 hMS_16 (Nat.le_refl _) (Nat.le_refl _) dX2_init_27 (fun q11 G12 H ce sl hvc_23 hG_24 hS_25 hMC_26 hMS_27 => ?_)
  clear hvc_20 hG_21 hS_22 hMC_15 hMS_16
  refine lv_dup hx hb dX2_init_30 rfl ?_
  refine gw_cCVN (As := []) (rest := [.ref q11, .ref o])  ⟨hx, hb, hml, hown, hts⟩ (met_J7_init l E G12 q11 _ hvc_23) (cwI 0 hts (lw_meth q201) rfl rfl rfl (hts _ q99) (hts _ q199) (hts _ q200) rfl (by decide +kernel) ⟨Nat.le_of_ble_eq_true rfl, Nat.le_of_ble_eq_true rfl⟩) (by show _ ≤ mc0; omega) (by show _ ≤ ms0; omega) (g_X.st E) hz hX hK hG_24 hS_25 rfl hl.1 rfl (Nat.le_of_ble_eq_true rfl) dX2_init_31 (fun G14 H locs hvc_28 hG_29 hS_30 => ?_)
  clear hvc_23 hG_24 hS_25
  refine gw_putF (ty := .object "java/util/List") (C := RX2) (T := TX2) (N := 11) (own := RX2) hx hb hts in_X2 tyX2 tyX2_ok nmX2 hown hK hG_29 hS_30 hvc_28 rfl (by decide) (hts _ q305) (fun _ h9 => h9) rfl hin rfl (by decide +kernel) rfl rfl dX2_init_34 (fun G15 H locs hvc_31 hG_32 hS_33 => ?_)
  clear hvc_28 hG_29 hS_30
  refine lv_aload_n hx hb dX2_init_37 rfl (lv_at hl 0 rfl) ?_
  refine lv_bipush (v := nI 31) hx hb dX2_init_38 (by decide) ?_
  refine gw_put (ty := .int) (C := RX2) (T := TX2) (N := 11) (own := RX2) hx hb hts in_X2 tyX2 tyX2_ok nmX2 hown hK hG_32 hS_33 hvc_31 rfl (by decide) (hts _ q314) (fun _ h9 => h9) rfl (by decide +kernel) rfl rfl dX2_init_40 (fun G16 H locs hvc_34 hG_35 hS_36 => ?_)
  clear hvc_31 hG_32 hS_33
  refine lv_aload_n hx hb dX2_init_43 rfl (lv_at hl 0 rfl) ?_
  refine lv_iconst (v := nI 4) hx hb dX2_init_44 (by decide) ?_
  refine gw_newi hx hb (by exact hts _ q344) hK hG_35 hS_36 hz hvc_34 hMC_26 hMS_27 (Nat.le_refl _) (Nat.le_refl _) dX2_init_45 (fun n17 q18 G19 H ce sl hvc_37 hG_38 hS_39 hMC_40 hMS_41 => ?_)
  clear hvc_34 hG_35 hS_36 hMC_26 hMS_27
  refine lv_dup hx hb dX2_init_47 rfl ?_
  refine lv_iconst (v := nI 0) hx hb dX2_init_48 (by decide) ?_
  refine lv_bipush (v := nI 100) hx hb dX2_init_49 (by decide) ?_
  refine gw_ist hx hb hK hG_38 hS_39 hvc_37 dX2_init_51 (fun G20 H locs hvc_42 hG_43 hS_44 => ?_)
  clear hvc_37 hG_38 hS_39
  refine lv_dup hx hb dX2_init_52 rfl ?_
  refine lv_iconst (v := nI 1) hx hb dX2_init_53 (by decide) ?_
  refine lv_bipush (v := nI 100) hx hb dX2_init_54 (by decide) ?_
  refine gw_ist hx hb hK hG_43 hS_44 hvc_42 dX2_init_56 (fun G21 H locs hvc_45 hG_46 hS_47 => ?_)
  clear hvc_42 hG_43 hS_44
  refine lv_dup hx hb dX2_init_57 rfl ?_
  refine lv_iconst (v := nI 2) hx hb dX2_init_58 (by decide) ?_
  refine lv_bipush (v := nI 100) hx hb dX2_init_59 (by decide) ?_
  refine gw_ist hx hb hK hG_46 hS_47 hvc_45 dX2_init_61 (fun G22 H locs hvc_48 hG_49 hS_50 => ?_)
  clear hvc_45 hG_46 hS_47
  refine lv_dup hx hb dX2_init_62 rfl ?_
  refine lv_iconst (v := nI 3) hx hb dX2_init_63 (by decide) ?_
  refine lv_bipush (v := nI 100) hx hb dX2_init_64 (by decide) ?_
  refine gw_ist hx hb hK hG_49 hS_50 hvc_48 dX2_init_66 (fun G23 H locs hvc_51 hG_52 hS_53 => ?_)
  clear hvc_48 hG_49 hS_50
  refine gw_putF (ty := .array .int) (C := RX2) (T := TX2) (N := 11) (own := RX2) hx hb hts in_X2 tyX2 tyX2_ok nmX2 hown hK hG_52 hS_53 hvc_51 rfl (by decide) (hts _ q307) (fun _ h9 => h9) rfl hin rfl (by decide +kernel) rfl rfl dX2_init_67 (fun G24 H locs hvc_54 hG_55 hS_56 => ?_)
  clear hvc_51 hG_52 hS_53
  refine lv_aload_n hx hb dX2_init_70 rfl (lv_at hl 0 rfl) ?_
  refine lv_bipush (v := nI 32) hx hb dX2_init_71 (by decide) ?_
  refine gw_newi hx hb (by exact hts _ q344) hK hG_55 hS_56 hz hvc_54 hMC_40 hMS_41 (Nat.le_refl _) (Nat.le_refl _) dX2_init_73 (fun n25 q26 G27 H ce sl hvc_57 hG_58 hS_59 hMC_60 hMS_61 => ?_)
  clear hvc_54 hG_55 hS_56 hMC_40 hMS_41
  refine gw_putF (ty := .array .int) (C := RX2) (T := TX2) (N := 11) (own := RX2) hx hb hts in_X2 tyX2 tyX2_ok nmX2 hown hK hG_58 hS_59 hvc_57 rfl (by decide) (hts _ q309) (fun _ h9 => h9) rfl hin rfl (by decide +kernel) rfl rfl dX2_init_75 (fun G28 H locs hvc_62 hG_63 hS_64 => ?_)
  clear hvc_57 hG_58 hS_59
  refine lv_aload_n hx hb dX2_init_78 rfl (lv_at hl 0 rfl) ?_
  refine lv_bipush (v := nI 8) hx hb dX2_init_79 (by decide) ?_
  refine gw_newi hx hb (by exact hts _ q344) hK hG_63 hS_64 hz hvc_62 hMC_60 hMS_61 (Nat.le_refl _) (Nat.le_refl _) dX2_init_81 (fun n29 q30 G31 H ce sl hvc_65 hG_66 hS_67 hMC_68 hMS_69 => ?_)
  clear hvc_62 hG_63 hS_64 hMC_60 hMS_61
  refine gw_putF (ty := .array .int) (C := RX2) (T := TX2) (N := 11) (own := RX2) hx hb hts in_X2 tyX2 tyX2_ok nmX2 hown hK hG_66 hS_67 hvc_65 rfl (by decide) (hts _ q310) (fun _ h9 => h9) rfl hin rfl (by decide +kernel) rfl rfl dX2_init_83 (fun G32 H locs hvc_70 hG_71 hS_72 => ?_)
  clear hvc_65 hG_66 hS_67
  refine lv_aload_n hx hb dX2_init_86 rfl (lv_at hl 0 rfl) ?_
  refine lv_bipush (v := nI 8) hx hb dX2_init_87 (by decide) ?_
  refine gw_newi hx hb (by exact hts _ q344) hK hG_71 hS_72 hz hvc_70 hMC_68 hMS_69 (Nat.le_refl _) (Nat.le_refl _) dX2_init_89 (fun n33 q34 G35 H ce sl hvc_73 hG_74 hS_75 hMC_76 hMS_77 => ?_)
  clear hvc_70 hG_71 hS_72 hMC_68 hMS_69
  refine gw_putF (ty := .array .int) (C := RX2) (T := TX2) (N := 11) (own := RX2) hx hb hts in_X2 tyX2 tyX2_ok nmX2 hown hK hG_74 hS_75 hvc_73 rfl (by decide) (hts _ q312) (fun _ h9 => h9) rfl hin rfl (by decide +kernel) rfl rfl dX2_init_91 (fun G36 H locs hvc_78 hG_79 hS_80 => ?_)
  clear hvc_73 hG_74 hS_75
  refine lv_iconst (v := nI 0) hx hb dX2_init_94 (by decide) ?_
  have lp96 : ∀ (n96 : Nat) (y0 : Nat) (y1 : Int32) (G : g_G) (mc : Nat) (ms : Nat) (H : Heap) (locs : List Loc) (ls : Array Slot) (ce sl : Nat), wp_X2_init_96 E post n96 y0 y1 G mc ms → g_H E G H → va_S (g_A E) s.heap H locs → lv_has ls 2 [(0, .ref y0), (1, .int y1)] → ce + mc ≤ mc0 → sl + ms ≤ ms0 → W p l e ({ frames := 7, cells := mc0, slots := ms0, locals := 191 } : Room) s m ([.ref o] : List Value).toArray below meth c H locs ce sl (MQ below (va_Qv (post) (g_Bk E) (g_A E)) ([.ref o] : List Value).toArray s mc0 ms0 (g_A E)) (F0 m 96 ls []) := by
    clear hvc_78 hG_79 hS_80 hl hMC_76 hMS_77
    intro n96
    induction n96 with
    | zero =>
      intro y0 y1 G mc ms H locs ls ce sl hvc_81 hG_82 hS_83 hl_84 hMC_85 hMS_86
      exact False.elim hvc_81
    | succ n96 ih96 =>
      intro y0 y1 G mc ms H locs ls ce sl hvc_87 hG_88 hS_89 hl_90 hMC_91 hMS_92
      refine lv_iload_n hx hb dX2_init_96 rfl (lv_at hl_90 1 rfl) ?_
      refine lv_iconst (v := nI 5) hx hb dX2_init_97 (by decide) ?_
      refine lv_icmp_ge (tgt := 124) hx hb dX2_init_98 (by decide) (fun h9 => ?_) (fun h9 => ?_)
      · replace hvc_87 := hvc_87.1 h9
        exact g_vret hx hb hr hlocks (by show _ ≤ mc0; omega) (by show _ ≤ ms0; omega) hG_88 hS_89 hvc_87 dX2_init_124
      · replace hvc_87 := hvc_87.2 h9
        refine lv_aload_n hx hb dX2_init_101 rfl (lv_at hl_90 0 rfl) ?_
        refine gw_gr (C := RX2) (T := TX2) (N := 11) (own := RX2) hx hb hts in_X2 hown hK hG_88 hvc_87 rfl (by decide) (hts _ q303) (fun _ h9 => h9) dX2_init_102 (fun x37 hvc_93 => ?_)
        clear hvc_87
        refine gw_new (C := RJ7) (T := TJ7) (N := 3) (own := RX2) hx hb hts in_J7 tyJ7 tyJ7_ok hown (hts _ q197) (hts _ q198) (hts _ q99) hK hG_88 hS_89 hz hvc_93 rfl (by decide) hMC_91 hMS_92 (Nat.le_refl _) (Nat.le_refl _) dX2_init_105 (fun q38 G39 H ce sl hvc_94 hG_95 hS_96 hMC_97 hMS_98 => ?_)
        clear hvc_93 hG_88 hS_89 hMC_91 hMS_92
        refine lv_dup hx hb dX2_init_108 rfl ?_
        refine gw_cCVN (As := []) (rest := [.ref q38, .ref x37])  ⟨hx, hb, hml, hown, hts⟩ (met_J7_init l E G39 q38 _ hvc_94) (cwI 0 hts (lw_meth q201) rfl rfl rfl (hts _ q99) (hts _ q199) (hts _ q200) rfl (by decide +kernel) ⟨Nat.le_of_ble_eq_true rfl, Nat.le_of_ble_eq_true rfl⟩) (by show _ ≤ mc0; omega) (by show _ ≤ ms0; omega) (g_X.st E) hz hX hK hG_95 hS_96 rfl hl_90.1 rfl (Nat.le_of_ble_eq_true rfl) dX2_init_109 (fun G41 H locs hvc_99 hG_100 hS_101 => ?_)
        clear hvc_94 hG_95 hS_96
        obtain ⟨c44, t45, hc1, hs1, hvc_99⟩ := hvc_99
        refine gw_cFIA (As := [.ref q38]) (rest := []) (hK.1 9 _ rfl).2  ⟨hx, hb, hml, hown, hts⟩ (met_J7_add l E G41 x37 q38 c44 t45 _ hvc_99.2) (va_cwF 1 hts (lw_F q224 q228 q230 q99 q232) rfl rfl rfl (hX.fw (List.mem_of_getElem? (i := 0) rfl)) (by decide +kernel) ⟨Nat.le_of_ble_eq_true rfl, Nat.le_of_ble_eq_true rfl⟩) (gw_rc (q := (RJ7, TJ7, 3)) hK hG_100 hvc_99.1 rfl) hc1 hs1 hMC_97 hMS_98 (Nat.le_refl _) (Nat.le_refl _) (g_X.st E) hz hX hK hG_100 hS_101 rfl hl_90.1 rfl (Nat.le_of_ble_eq_true rfl) dX2_init_112 (fun x42 G43 H locs ce sl hvc_102 hG_103 hS_104 hMC_105 hMS_106 => ?_)
        clear hvc_99 hG_100 hS_101 hMC_97 hMS_98
        refine lv_pop hx hb dX2_init_117 rfl ?_
        refine lv_iinc (k := 1) (v := y1 + (nI 1)) (lv' := [(1, .int (y1 + (nI 1))), (0, .ref y0)]) hx hb dX2_init_118 hl_90 rfl (congrArg (y1 + ·) (by decide : Int32.ofInt (1) = nI 1)) (by decide) rfl (fun ls hl_107 => ?_)
        clear hl_90
        refine lv_goto (tgt := 96) hx hb dX2_init_121 (by decide) ?_
        exact ih96 y0 (y1 + (nI 1)) G43 (mc - 1 - c44) (ms - 3 - t45) _ _ _ _ _ hvc_102 hG_103 hS_104 (lv_sub hl_107 [1, 0] rfl) hMC_105 hMS_106
  refine lv_istore_n (lv' := [(1, .int (nI 0)), (0, .ref o)]) hx hb dX2_init_95 rfl hl (by decide) rfl (fun ls hl_108 => ?_)
  clear hl
  obtain ⟨nf96, hvc_78⟩ := hvc_78
  exact lp96 nf96 o (nI 0) G36 (mc0 - 1 - 1 - 1 - 1 - 1 - 1 - 1) (ms0 - 3 - 3 - 3 - n17 - n25 - n29 - n33) _ _ _ _ _ hvc_78 hG_79 hS_80 (lv_sub hl_108 [1, 0] rfl) hMC_76 hMS_77
set_option maxHeartbeats 4000000 in
set_option maxRecDepth 100000 in
theorem met_X2_init_2 (l : Launch) (E : g_E) (G : g_G) (o : Nat) (p1 : Nat) (mc0 ms0 : Nat) (post : g_G → Prop) (hvc : wp_X2_init_2 E G o p1 mc0 ms0 post) : g_MV E l yX2_init_2 (ws_ yX2_init_2 cX2_init_2 4 (Option.none : Option Jvm.ClassFile.FieldType)) ({ frames := 7, cells := mc0, slots := ms0, locals := 191 } : Room) (g_X E) [.ref o, .ref p1] G (post) := by
  refine g_enter (by decide +kernel) (Nat.le_of_ble_eq_true rfl) ?_
  intro p e s m below meth c ls hx hb hr hts hown hlocks hml hin hz hX hK hG hS hl
  have hl : lv_has ls 4 [(0, .ref o), (1, .ref p1)] := hl
  have hown : s.vm.findClass RX2 = some m.cls := hown
  have hMC : 0 + mc0 ≤ mc0 := Nat.le_of_eq (Nat.zero_add _)
  have hMS : 0 + ms0 ≤ ms0 := Nat.le_of_eq (Nat.zero_add _)
  unfold wp_X2_init_2 at hvc
  refine lv_aload_n hx hb dX2_init_2_0 rfl (lv_at hl 0 rfl) ?_
  refine W.objInit hx hb hown (hts _ q196) (hts _ q135) (hts _ q136) rfl (by rw [hml]; exact hl.1) rfl dX2_init_2_1 (Nat.le_of_ble_eq_true rfl) (Nat.le_of_ble_eq_true rfl) ?_
  refine W.eq (g2 := F0 m 4 ls []) rfl ?_
  refine lv_aload_n hx hb dX2_init_2_4 rfl (lv_at hl 0 rfl) ?_
  refine gw_new (C := RJ7) (T := TJ7) (N := 3) (own := RX2) hx hb hts in_J7 tyJ7 tyJ7_ok hown (hts _ q197) (hts _ q198) (hts _ q99) hK hG hS hz hvc rfl (by decide) hMC hMS (Nat.le_refl _) (Nat.le_refl _) dX2_init_2_5 (fun q1 G2 H ce sl hvc_1 hG_2 hS_3 hMC_4 hMS_5 => ?_)
  clear hvc hG hS hMC hMS
  refine lv_dup hx hb dX2_init_2_8 rfl ?_
  refine gw_cCVN (As := []) (rest := [.ref q1, .ref o])  ⟨hx, hb, hml, hown, hts⟩ (met_J7_init l E G2 q1 _ hvc_1) (cwI 0 hts (lw_meth q201) rfl rfl rfl (hts _ q99) (hts _ q199) (hts _ q200) rfl (by decide +kernel) ⟨Nat.le_of_ble_eq_true rfl, Nat.le_of_ble_eq_true rfl⟩) (by show _ ≤ mc0; omega) (by show _ ≤ ms0; omega) (g_X.st E) hz hX hK hG_2 hS_3 rfl hl.1 rfl (Nat.le_of_ble_eq_true rfl) dX2_init_2_9 (fun G4 H locs hvc_6 hG_7 hS_8 => ?_)
  clear hvc_1 hG_2 hS_3
  refine gw_putF (ty := .object "java/util/List") (C := RX2) (T := TX2) (N := 11) (own := RX2) hx hb hts in_X2 tyX2 tyX2_ok nmX2 hown hK hG_7 hS_8 hvc_6 rfl (by decide) (hts _ q301) (fun _ h9 => h9) rfl hin rfl (by decide +kernel) rfl rfl dX2_init_2_12 (fun G5 H locs hvc_9 hG_10 hS_11 => ?_)
  clear hvc_6 hG_7 hS_8
  refine lv_aload_n hx hb dX2_init_2_15 rfl (lv_at hl 0 rfl) ?_
  refine gw_new (C := RJ7) (T := TJ7) (N := 3) (own := RX2) hx hb hts in_J7 tyJ7 tyJ7_ok hown (hts _ q197) (hts _ q198) (hts _ q99) hK hG_10 hS_11 hz hvc_9 rfl (by decide) hMC_4 hMS_5 (Nat.le_refl _) (Nat.le_refl _) dX2_init_2_16 (fun q6 G7 H ce sl hvc_12 hG_13 hS_14 hMC_15 hMS_16 => ?_)
  clear hvc_9 hG_10 hS_11 hMC_4 hMS_5
  refine lv_dup hx hb dX2_init_2_19 rfl ?_
  refine gw_cCVN (As := []) (rest := [.ref q6, .ref o])  ⟨hx, hb, hml, hown, hts⟩ (met_J7_init l E G7 q6 _ hvc_12) (cwI 0 hts (lw_meth q201) rfl rfl rfl (hts _ q99) (hts _ q199) (hts _ q200) rfl (by decide +kernel) ⟨Nat.le_of_ble_eq_true rfl, Nat.le_of_ble_eq_true rfl⟩) (by show _ ≤ mc0; omega) (by show _ ≤ ms0; omega) (g_X.st E) hz hX hK hG_13 hS_14 rfl hl.1 rfl (Nat.le_of_ble_eq_true rfl) dX2_init_2_20 (fun G9 H locs hvc_17 hG_18 hS_19 => ?_)
  clear hvc_12 hG_13 hS_14
  refine gw_putF (ty := .object "java/util/List") (C := RX2) (T := TX2) (N := 11) (own := RX2) hx hb hts in_X2 tyX2 tyX2_ok nmX2 hown hK hG_18 hS_19 hvc_17 rfl (by decide) (hts _ q303) (fun _ h9 => h9) rfl hin rfl (by decide +kernel) rfl rfl dX2_init_2_23 (fun G10 H locs hvc_20 hG_21 hS_22 => ?_)
  clear hvc_17 hG_18 hS_19
  refine lv_aload_n hx hb dX2_init_2_26 rfl (lv_at hl 0 rfl) ?_
  refine gw_new (C := RJ7) (T := TJ7) (N := 3) (own := RX2) hx hb hts in_J7 tyJ7 tyJ7_ok hown (hts _ q197) (hts _ q198) (hts _ q99) hK hG_21 hS_22 hz hvc_20 rfl (by decide) hMC_15 hMS_16 (Nat.le_refl _) (Nat.le_refl _) dX2_init_2_27 (fun q11 G12 H ce sl hvc_23 hG_24 hS_25 hMC_26 hMS_27 => ?_)
  clear hvc_20 hG_21 hS_22 hMC_15 hMS_16
  refine lv_dup hx hb dX2_init_2_30 rfl ?_
  refine gw_cCVN (As := []) (rest := [.ref q11, .ref o])  ⟨hx, hb, hml, hown, hts⟩ (met_J7_init l E G12 q11 _ hvc_23) (cwI 0 hts (lw_meth q201) rfl rfl rfl (hts _ q99) (hts _ q199) (hts _ q200) rfl (by decide +kernel) ⟨Nat.le_of_ble_eq_true rfl, Nat.le_of_ble_eq_true rfl⟩) (by show _ ≤ mc0; omega) (by show _ ≤ ms0; omega) (g_X.st E) hz hX hK hG_24 hS_25 rfl hl.1 rfl (Nat.le_of_ble_eq_true rfl) dX2_init_2_31 (fun G14 H locs hvc_28 hG_29 hS_30 => ?_)
  clear hvc_23 hG_24 hS_25
  refine gw_putF (ty := .object "java/util/List") (C := RX2) (T := TX2) (N := 11) (own := RX2) hx hb hts in_X2 tyX2 tyX2_ok nmX2 hown hK hG_29 hS_30 hvc_28 rfl (by decide) (hts _ q305) (fun _ h9 => h9) rfl hin rfl (by decide +kernel) rfl rfl dX2_init_2_34 (fun G15 H locs hvc_31 hG_32 hS_33 => ?_)
  clear hvc_28 hG_29 hS_30
  refine lv_aload_n hx hb dX2_init_2_37 rfl (lv_at hl 0 rfl) ?_
  refine lv_bipush (v := nI 31) hx hb dX2_init_2_38 (by decide) ?_
  refine gw_put (ty := .int) (C := RX2) (T := TX2) (N := 11) (own := RX2) hx hb hts in_X2 tyX2 tyX2_ok nmX2 hown hK hG_32 hS_33 hvc_31 rfl (by decide) (hts _ q314) (fun _ h9 => h9) rfl (by decide +kernel) rfl rfl dX2_init_2_40 (fun G16 H locs hvc_34 hG_35 hS_36 => ?_)
  clear hvc_31 hG_32 hS_33
  refine lv_aload_n hx hb dX2_init_2_43 rfl (lv_at hl 0 rfl) ?_
  refine gw_gr (C := RX2) (T := TX2) (N := 11) (own := RX2) hx hb hts in_X2 hown hK hG_35 hvc_34 rfl (by decide) (hts _ q301) (fun _ h9 => h9) dX2_init_2_44 (fun x17 hvc_37 => ?_)
  clear hvc_34
  refine lv_aload_n hx hb dX2_init_2_47 rfl (lv_at hl 1 rfl) ?_
  refine gw_gr (C := RX2) (T := TX2) (N := 11) (own := RX2) hx hb hts in_X2 hown hK hG_35 hvc_37 rfl (by decide) (hts _ q301) (fun _ h9 => h9) dX2_init_2_48 (fun x18 hvc_38 => ?_)
  clear hvc_37
  obtain ⟨c21, t22, hc1, hs1, hvc_38⟩ := hvc_38
  refine gw_cFIA (As := [.ref x18]) (rest := []) (hK.1 9 _ rfl).2  ⟨hx, hb, hml, hown, hts⟩ (met_J7_addAll l E G16 x17 x18 c21 t22 _ hvc_38.2) (va_cwF 1 hts (lw_F q392 q395 q397 q99 q399) rfl rfl rfl (hX.fw (List.mem_of_getElem? (i := 1) rfl)) (by decide +kernel) ⟨Nat.le_of_ble_eq_true rfl, Nat.le_of_ble_eq_true rfl⟩) (gw_rc (q := (RJ7, TJ7, 3)) hK hG_35 hvc_38.1 rfl) hc1 hs1 hMC_26 hMS_27 (Nat.le_refl _) (Nat.le_refl _) (g_X.st E) hz hX hK hG_35 hS_36 rfl hl.1 rfl (Nat.le_of_ble_eq_true rfl) dX2_init_2_51 (fun x19 G20 H locs ce sl hvc_39 hG_40 hS_41 hMC_42 hMS_43 => ?_)
  clear hvc_38 hG_35 hS_36 hMC_26 hMS_27
  refine lv_pop hx hb dX2_init_2_56 rfl ?_
  refine lv_aload_n hx hb dX2_init_2_57 rfl (lv_at hl 1 rfl) ?_
  refine gw_gr (C := RX2) (T := TX2) (N := 11) (own := RX2) hx hb hts in_X2 hown hK hG_40 hvc_39 rfl (by decide) (hts _ q303) (fun _ h9 => h9) dX2_init_2_58 (fun x23 hvc_44 => ?_)
  clear hvc_39
  obtain ⟨c26, t27, hc1, hs1, hvc_44⟩ := hvc_44
  refine gw_cFQA (As := []) (rest := []) (hK.1 9 _ rfl).2  ⟨hx, hb, hml, hown, hts⟩ (met_J7_iterator l E G20 x23 c26 t27 _ hvc_44.2) (va_cwF 0 hts (lw_F q688 q691 q693 q99 q695) rfl rfl rfl (hX.fw (List.mem_of_getElem? (i := 2) rfl)) (by decide +kernel) ⟨Nat.le_of_ble_eq_true rfl, Nat.le_of_ble_eq_true rfl⟩) (gw_rc (q := (RJ7, TJ7, 3)) hK hG_40 hvc_44.1 rfl) hc1 hs1 hMC_42 hMS_43 (Nat.le_refl _) (Nat.le_refl _) (g_St0 E) hz trivial hK hG_40 hS_41 rfl hl.1 rfl (Nat.le_of_ble_eq_true rfl) dX2_init_2_61 (fun x24 G25 H locs ce sl hvc_45 hG_46 hS_47 hMC_48 hMS_49 => ?_)
  clear hvc_44 hG_40 hS_41 hMC_42 hMS_43
  have lp67 : ∀ (n67 : Nat) (y0 : Nat) (y1 : Nat) (y2 : Option Nat) (G : g_G) (mc : Nat) (ms : Nat) (H : Heap) (locs : List Loc) (ls : Array Slot) (ce sl : Nat), wp_X2_init_2_67 E post n67 y0 y1 y2 G mc ms → g_H E G H → va_S (g_A E) s.heap H locs → lv_has ls 4 [(0, .ref y0), (1, .ref y1), (2, va_rf y2)] → ce + mc ≤ mc0 → sl + ms ≤ ms0 → W p l e ({ frames := 7, cells := mc0, slots := ms0, locals := 191 } : Room) s m ([.ref o, .ref p1] : List Value).toArray below meth c H locs ce sl (MQ below (va_Qv (post) (g_Bk E) (g_A E)) ([.ref o, .ref p1] : List Value).toArray s mc0 ms0 (g_A E)) (F0 m 67 ls []) := by
    clear hvc_45 hG_46 hS_47 hl hMC_48 hMS_49
    intro n67
    induction n67 with
    | zero =>
      intro y0 y1 y2 G mc ms H locs ls ce sl hvc_50 hG_51 hS_52 hl_53 hMC_54 hMS_55
      exact False.elim hvc_50
    | succ n67 ih67 =>
      intro y0 y1 y2 G mc ms H locs ls ce sl hvc_56 hG_57 hS_58 hl_59 hMC_60 hMS_61
      refine gq_aload_n hx hb dX2_init_2_67 rfl (lv_at hl_59 2 rfl) ?_
      obtain ⟨z28, rfl, hvc_56⟩ := hvc_56
      refine gw_cFIP (As := []) (rest := []) (hK.1 10 _ rfl).2  ⟨hx, hb, hml, hown, hts⟩ (met_J21_hasNext l E G z28 _ hvc_56.2) (va_cwF 0 hts (lw_F q716 q720 q722 q116 q724) rfl rfl rfl (hX.fw (List.mem_of_getElem? (i := 8) rfl)) (by decide +kernel) ⟨Nat.le_of_ble_eq_true rfl, Nat.le_of_ble_eq_true rfl⟩) (gw_rc (q := (RJ21, TJ21, 4)) hK hG_57 hvc_56.1 rfl) (by show _ ≤ mc0; omega) (by show _ ≤ ms0; omega) (g_X.st E) hz hX hK hG_57 hS_58 rfl hl_59.1 rfl (Nat.le_of_ble_eq_true rfl) dX2_init_2_68 (fun x29 H locs hvc_62 hG_63 hS_64 => ?_)
      clear hvc_56 hG_57 hS_58
      refine lv_if_eq (tgt := 107) hx hb dX2_init_2_73 (by decide) (fun h9 => ?_) (fun h9 => ?_)
      · replace hvc_62 := hvc_62.1 h9
        refine lv_aload_n hx hb dX2_init_2_107 rfl (lv_at hl_59 0 rfl) ?_
        refine gw_gr (C := RX2) (T := TX2) (N := 11) (own := RX2) hx hb hts in_X2 hown hK hG_63 hvc_62 rfl (by decide) (hts _ q305) (fun _ h9 => h9) dX2_init_2_108 (fun x31 hvc_65 => ?_)
        clear hvc_62
        refine lv_aload_n hx hb dX2_init_2_111 rfl (lv_at hl_59 1 rfl) ?_
        refine gw_gr (C := RX2) (T := TX2) (N := 11) (own := RX2) hx hb hts in_X2 hown hK hG_63 hvc_65 rfl (by decide) (hts _ q305) (fun _ h9 => h9) dX2_init_2_112 (fun x32 hvc_66 => ?_)
        clear hvc_65
        obtain ⟨c35, t36, hc1, hs1, hvc_66⟩ := hvc_66
        refine gw_cFIA (As := [.ref x32]) (rest := []) (hK.1 9 _ rfl).2  ⟨hx, hb, hml, hown, hts⟩ (met_J7_addAll l E G x31 x32 c35 t36 _ hvc_66.2) (va_cwF 1 hts (lw_F q392 q395 q397 q99 q399) rfl rfl rfl (hX.fw (List.mem_of_getElem? (i := 1) rfl)) (by decide +kernel) ⟨Nat.le_of_ble_eq_true rfl, Nat.le_of_ble_eq_true rfl⟩) (gw_rc (q := (RJ7, TJ7, 3)) hK hG_63 hvc_66.1 rfl) hc1 hs1 hMC_60 hMS_61 (Nat.le_refl _) (Nat.le_refl _) (g_X.st E) hz hX hK hG_63 hS_64 rfl hl_59.1 rfl (Nat.le_of_ble_eq_true rfl) dX2_init_2_115 (fun x33 G34 H locs ce sl hvc_67 hG_68 hS_69 hMC_70 hMS_71 => ?_)
        clear hvc_66 hG_63 hS_64 hMC_60 hMS_61
        refine lv_pop hx hb dX2_init_2_120 rfl ?_
        refine lv_aload_n hx hb dX2_init_2_121 rfl (lv_at hl_59 0 rfl) ?_
        refine lv_aload_n hx hb dX2_init_2_122 rfl (lv_at hl_59 1 rfl) ?_
        refine gw_gr (C := RX2) (T := TX2) (N := 11) (own := RX2) hx hb hts in_X2 hown hK hG_68 hvc_67 rfl (by decide) (hts _ q307) (fun _ h9 => h9) dX2_init_2_123 (fun x37 hvc_72 => ?_)
        clear hvc_67
        refine gw_clonei hx hb (by rw [hml]; exact hl_59.1.symm) hown (hts _ q754) (hts _ q755) (hts _ q488) (hts _ q489) (hts _ q756) (hX.1 _ q757 rfl) hK hG_68 hS_69 hz hvc_72 hMC_70 hMS_71 (Nat.le_refl _) (Nat.le_refl _) (Nat.le_of_ble_eq_true rfl) (Nat.le_of_ble_eq_true rfl) dX2_init_2_126 (fun n38 q39 G40 H ce sl hvc_73 hG_74 hS_75 hMC_76 hMS_77 => ?_)
        clear hvc_72 hG_68 hS_69 hMC_70 hMS_71
        refine gw_castA (t := 0) hx hb hown (hts _ q758) hK hG_74 (hK.2 0 _ rfl).2 hvc_73.1 dX2_init_2_129 ?_
        replace hvc_73 := hvc_73.2
        refine gw_putF (ty := .array .int) (C := RX2) (T := TX2) (N := 11) (own := RX2) hx hb hts in_X2 tyX2 tyX2_ok nmX2 hown hK hG_74 hS_75 hvc_73 rfl (by decide) (hts _ q307) (fun _ h9 => h9) rfl hin rfl (by decide +kernel) rfl rfl dX2_init_2_132 (fun G42 H locs hvc_78 hG_79 hS_80 => ?_)
        clear hvc_73 hG_74 hS_75
        refine lv_aload_n hx hb dX2_init_2_135 rfl (lv_at hl_59 0 rfl) ?_
        refine lv_aload_n hx hb dX2_init_2_136 rfl (lv_at hl_59 1 rfl) ?_
        refine gw_gr (C := RX2) (T := TX2) (N := 11) (own := RX2) hx hb hts in_X2 hown hK hG_79 hvc_78 rfl (by decide) (hts _ q309) (fun _ h9 => h9) dX2_init_2_137 (fun x43 hvc_81 => ?_)
        clear hvc_78
        refine gw_clonei hx hb (by rw [hml]; exact hl_59.1.symm) hown (hts _ q754) (hts _ q755) (hts _ q488) (hts _ q489) (hts _ q756) (hX.1 _ q757 rfl) hK hG_79 hS_80 hz hvc_81 hMC_76 hMS_77 (Nat.le_refl _) (Nat.le_refl _) (Nat.le_of_ble_eq_true rfl) (Nat.le_of_ble_eq_true rfl) dX2_init_2_140 (fun n44 q45 G46 H ce sl hvc_82 hG_83 hS_84 hMC_85 hMS_86 => ?_)
        clear hvc_81 hG_79 hS_80 hMC_76 hMS_77
        refine gw_castA (t := 0) hx hb hown (hts _ q758) hK hG_83 (hK.2 0 _ rfl).2 hvc_82.1 dX2_init_2_143 ?_
        replace hvc_82 := hvc_82.2
        refine gw_putF (ty := .array .int) (C := RX2) (T := TX2) (N := 11) (own := RX2) hx hb hts in_X2 tyX2 tyX2_ok nmX2 hown hK hG_83 hS_84 hvc_82 rfl (by decide) (hts _ q309) (fun _ h9 => h9) rfl hin rfl (by decide +kernel) rfl rfl dX2_init_2_146 (fun G48 H locs hvc_87 hG_88 hS_89 => ?_)
        clear hvc_82 hG_83 hS_84
        refine lv_aload_n hx hb dX2_init_2_149 rfl (lv_at hl_59 0 rfl) ?_
        refine lv_aload_n hx hb dX2_init_2_150 rfl (lv_at hl_59 1 rfl) ?_
        refine gw_gr (C := RX2) (T := TX2) (N := 11) (own := RX2) hx hb hts in_X2 hown hK hG_88 hvc_87 rfl (by decide) (hts _ q310) (fun _ h9 => h9) dX2_init_2_151 (fun x49 hvc_90 => ?_)
        clear hvc_87
        refine gw_clonei hx hb (by rw [hml]; exact hl_59.1.symm) hown (hts _ q754) (hts _ q755) (hts _ q488) (hts _ q489) (hts _ q756) (hX.1 _ q757 rfl) hK hG_88 hS_89 hz hvc_90 hMC_85 hMS_86 (Nat.le_refl _) (Nat.le_refl _) (Nat.le_of_ble_eq_true rfl) (Nat.le_of_ble_eq_true rfl) dX2_init_2_154 (fun n50 q51 G52 H ce sl hvc_91 hG_92 hS_93 hMC_94 hMS_95 => ?_)
        clear hvc_90 hG_88 hS_89 hMC_85 hMS_86
        refine gw_castA (t := 0) hx hb hown (hts _ q758) hK hG_92 (hK.2 0 _ rfl).2 hvc_91.1 dX2_init_2_157 ?_
        replace hvc_91 := hvc_91.2
        refine gw_putF (ty := .array .int) (C := RX2) (T := TX2) (N := 11) (own := RX2) hx hb hts in_X2 tyX2 tyX2_ok nmX2 hown hK hG_92 hS_93 hvc_91 rfl (by decide) (hts _ q310) (fun _ h9 => h9) rfl hin rfl (by decide +kernel) rfl rfl dX2_init_2_160 (fun G54 H locs hvc_96 hG_97 hS_98 => ?_)
        clear hvc_91 hG_92 hS_93
        refine lv_aload_n hx hb dX2_init_2_163 rfl (lv_at hl_59 0 rfl) ?_
        refine lv_aload_n hx hb dX2_init_2_164 rfl (lv_at hl_59 1 rfl) ?_
        refine gw_gr (C := RX2) (T := TX2) (N := 11) (own := RX2) hx hb hts in_X2 hown hK hG_97 hvc_96 rfl (by decide) (hts _ q312) (fun _ h9 => h9) dX2_init_2_165 (fun x55 hvc_99 => ?_)
        clear hvc_96
        refine gw_clonei hx hb (by rw [hml]; exact hl_59.1.symm) hown (hts _ q754) (hts _ q755) (hts _ q488) (hts _ q489) (hts _ q756) (hX.1 _ q757 rfl) hK hG_97 hS_98 hz hvc_99 hMC_94 hMS_95 (Nat.le_refl _) (Nat.le_refl _) (Nat.le_of_ble_eq_true rfl) (Nat.le_of_ble_eq_true rfl) dX2_init_2_168 (fun n56 q57 G58 H ce sl hvc_100 hG_101 hS_102 hMC_103 hMS_104 => ?_)
        clear hvc_99 hG_97 hS_98 hMC_94 hMS_95
        refine gw_castA (t := 0) hx hb hown (hts _ q758) hK hG_101 (hK.2 0 _ rfl).2 hvc_100.1 dX2_init_2_171 ?_
        replace hvc_100 := hvc_100.2
        refine gw_putF (ty := .array .int) (C := RX2) (T := TX2) (N := 11) (own := RX2) hx hb hts in_X2 tyX2 tyX2_ok nmX2 hown hK hG_101 hS_102 hvc_100 rfl (by decide) (hts _ q312) (fun _ h9 => h9) rfl hin rfl (by decide +kernel) rfl rfl dX2_init_2_174 (fun G60 H locs hvc_105 hG_106 hS_107 => ?_)
        clear hvc_100 hG_101 hS_102
        refine lv_aload_n hx hb dX2_init_2_177 rfl (lv_at hl_59 0 rfl) ?_
        refine lv_aload_n hx hb dX2_init_2_178 rfl (lv_at hl_59 1 rfl) ?_
        refine gw_gi (C := RX2) (T := TX2) (N := 11) (own := RX2) hx hb hts in_X2 hown hK hG_106 hvc_105 rfl (by decide) (hts _ q314) (fun _ h9 => h9) dX2_init_2_179 (fun x61 hvc_108 => ?_)
        clear hvc_105
        refine gw_put (ty := .int) (C := RX2) (T := TX2) (N := 11) (own := RX2) hx hb hts in_X2 tyX2 tyX2_ok nmX2 hown hK hG_106 hS_107 hvc_108 rfl (by decide) (hts _ q314) (fun _ h9 => h9) rfl (by decide +kernel) rfl rfl dX2_init_2_182 (fun G62 H locs hvc_109 hG_110 hS_111 => ?_)
        clear hvc_108 hG_106 hS_107
        refine lv_aload_n hx hb dX2_init_2_185 rfl (lv_at hl_59 0 rfl) ?_
        refine lv_aload_n hx hb dX2_init_2_186 rfl (lv_at hl_59 1 rfl) ?_
        refine gw_gi (C := RX2) (T := TX2) (N := 11) (own := RX2) hx hb hts in_X2 hown hK hG_110 hvc_109 rfl (by decide) (hts _ q315) (fun _ h9 => h9) dX2_init_2_187 (fun x63 hvc_112 => ?_)
        clear hvc_109
        refine gw_put (ty := .int) (C := RX2) (T := TX2) (N := 11) (own := RX2) hx hb hts in_X2 tyX2 tyX2_ok nmX2 hown hK hG_110 hS_111 hvc_112 rfl (by decide) (hts _ q315) (fun _ h9 => h9) rfl (by decide +kernel) rfl rfl dX2_init_2_190 (fun G64 H locs hvc_113 hG_114 hS_115 => ?_)
        clear hvc_112 hG_110 hS_111
        refine lv_aload_n hx hb dX2_init_2_193 rfl (lv_at hl_59 0 rfl) ?_
        refine lv_aload_n hx hb dX2_init_2_194 rfl (lv_at hl_59 1 rfl) ?_
        refine gw_gi (C := RX2) (T := TX2) (N := 11) (own := RX2) hx hb hts in_X2 hown hK hG_114 hvc_113 rfl (by decide) (hts _ q317) (fun _ h9 => h9) dX2_init_2_195 (fun x65 hvc_116 => ?_)
        clear hvc_113
        refine gw_put (ty := .int) (C := RX2) (T := TX2) (N := 11) (own := RX2) hx hb hts in_X2 tyX2 tyX2_ok nmX2 hown hK hG_114 hS_115 hvc_116 rfl (by decide) (hts _ q317) (fun _ h9 => h9) rfl (by decide +kernel) rfl rfl dX2_init_2_198 (fun G66 H locs hvc_117 hG_118 hS_119 => ?_)
        clear hvc_116 hG_114 hS_115
        refine lv_aload_n hx hb dX2_init_2_201 rfl (lv_at hl_59 0 rfl) ?_
        refine lv_aload_n hx hb dX2_init_2_202 rfl (lv_at hl_59 1 rfl) ?_
        refine gw_gi (C := RX2) (T := TX2) (N := 11) (own := RX2) hx hb hts in_X2 hown hK hG_118 hvc_117 rfl (by decide) (hts _ q319) (fun _ h9 => h9) dX2_init_2_203 (fun x67 hvc_120 => ?_)
        clear hvc_117
        refine gw_put (ty := .int) (C := RX2) (T := TX2) (N := 11) (own := RX2) hx hb hts in_X2 tyX2 tyX2_ok nmX2 hown hK hG_118 hS_119 hvc_120 rfl (by decide) (hts _ q319) (fun _ h9 => h9) rfl (by decide +kernel) rfl rfl dX2_init_2_206 (fun G68 H locs hvc_121 hG_122 hS_123 => ?_)
        clear hvc_120 hG_118 hS_119
        exact g_vret hx hb hr hlocks (by show _ ≤ mc0; omega) (by show _ ≤ ms0; omega) hG_122 hS_123 hvc_121 dX2_init_2_209
      · replace hvc_62 := hvc_62.2 h9
        refine lv_aload_n hx hb dX2_init_2_76 rfl (lv_at hl_59 2 rfl) ?_
        obtain ⟨c71, t72, hc1, hs1, hvc_62⟩ := hvc_62
        refine gw_cFQA (As := []) (rest := []) (hK.1 10 _ rfl).2  ⟨hx, hb, hml, hown, hts⟩ (met_J21_next l E G z28 c71 t72 _ hvc_62.2) (va_cwF 0 hts (lw_F q726 q729 q731 q116 q733) rfl rfl rfl (hX.fw (List.mem_of_getElem? (i := 9) rfl)) (by decide +kernel) ⟨Nat.le_of_ble_eq_true rfl, Nat.le_of_ble_eq_true rfl⟩) (gw_rc (q := (RJ21, TJ21, 4)) hK hG_63 hvc_62.1 rfl) hc1 hs1 hMC_60 hMS_61 (Nat.le_refl _) (Nat.le_refl _) (g_X.st E) hz hX hK hG_63 hS_64 rfl hl_59.1 rfl (Nat.le_of_ble_eq_true rfl) dX2_init_2_77 (fun x69 G70 H locs ce sl hvc_124 hG_125 hS_126 hMC_127 hMS_128 => ?_)
        clear hvc_62 hG_63 hS_64 hMC_60 hMS_61
        refine gw_castY (v := x69) (ci := 9) hx hb hown (hts _ q738) hK hG_125 rfl (hX.1 _ q227 rfl) hvc_124 dX2_init_2_82 (fun z73 hy9 hvc_129 => ?_)
        clear hvc_124
        subst hy9
        refine lv_astore_n (lv' := [(3, .ref z73), (0, .ref y0), (1, .ref y1), (2, .ref z28)]) hx hb dX2_init_2_85 rfl hl_59 (by decide) rfl (fun ls hl_130 => ?_)
        clear hl_59
        refine lv_aload_n hx hb dX2_init_2_86 rfl (lv_at hl_130 1 rfl) ?_
        refine gw_gr (C := RX2) (T := TX2) (N := 11) (own := RX2) hx hb hts in_X2 hown hK hG_125 hvc_129 rfl (by decide) (hts _ q303) (fun _ h9 => h9) dX2_init_2_87 (fun x74 hvc_131 => ?_)
        clear hvc_129
        refine gw_new (C := RJ7) (T := TJ7) (N := 3) (own := RX2) hx hb hts in_J7 tyJ7 tyJ7_ok hown (hts _ q197) (hts _ q198) (hts _ q99) hK hG_125 hS_126 hz hvc_131 rfl (by decide) hMC_127 hMS_128 (Nat.le_refl _) (Nat.le_refl _) dX2_init_2_90 (fun q75 G76 H ce sl hvc_132 hG_133 hS_134 hMC_135 hMS_136 => ?_)
        clear hvc_131 hG_125 hS_126 hMC_127 hMS_128
        refine lv_dup hx hb dX2_init_2_93 rfl ?_
        refine lv_aload_n hx hb dX2_init_2_94 rfl (lv_at hl_130 0 rfl) ?_
        obtain ⟨c79, t80, hc1, hs1, hvc_132⟩ := hvc_132
        refine gw_cCVA (As := [.ref z73]) (rest := [.ref q75, .ref x74])  ⟨hx, hb, hml, hown, hts⟩ (met_J7_init_2 l E G76 q75 z73 c79 t80 _ hvc_132) (cwI 1 hts (lw_meth q741) rfl rfl rfl (hts _ q99) (hts _ q739) (hts _ q740) rfl (by decide +kernel) ⟨Nat.le_of_ble_eq_true rfl, Nat.le_of_ble_eq_true rfl⟩) hc1 hs1 hMC_135 hMS_136 (Nat.le_refl _) (Nat.le_refl _) (g_X.st E) hz hX hK hG_133 hS_134 rfl hl_130.1 rfl (Nat.le_of_ble_eq_true rfl) dX2_init_2_95 (fun G78 H locs ce sl hvc_137 hG_138 hS_139 hMC_140 hMS_141 => ?_)
        clear hvc_132 hG_133 hS_134 hMC_135 hMS_136
        obtain ⟨c83, t84, hc1, hs1, hvc_137⟩ := hvc_137
        refine gw_cFIA (As := [.ref q75]) (rest := []) (hK.1 9 _ rfl).2  ⟨hx, hb, hml, hown, hts⟩ (met_J7_add l E G78 x74 q75 c83 t84 _ hvc_137.2) (va_cwF 1 hts (lw_F q224 q228 q230 q99 q232) rfl rfl rfl (hX.fw (List.mem_of_getElem? (i := 0) rfl)) (by decide +kernel) ⟨Nat.le_of_ble_eq_true rfl, Nat.le_of_ble_eq_true rfl⟩) (gw_rc (q := (RJ7, TJ7, 3)) hK hG_138 hvc_137.1 rfl) hc1 hs1 hMC_140 hMS_141 (Nat.le_refl _) (Nat.le_refl _) (g_X.st E) hz hX hK hG_138 hS_139 rfl hl_130.1 rfl (Nat.le_of_ble_eq_true rfl) dX2_init_2_98 (fun x81 G82 H locs ce sl hvc_142 hG_143 hS_144 hMC_145 hMS_146 => ?_)
        clear hvc_137 hG_138 hS_139 hMC_140 hMS_141
        refine lv_pop hx hb dX2_init_2_103 rfl ?_
        refine lv_goto (tgt := 67) hx hb dX2_init_2_104 (by decide) ?_
        exact ih67 y0 y1 (some z28) G82 (mc - c71 - 1 - c79 - c83) (ms - t72 - 3 - t80 - t84) _ _ _ _ _ hvc_142 hG_143 hS_144 (lv_sub hl_130 [1, 2, 3] rfl) hMC_145 hMS_146
  refine gq_astore_n (lv' := [(2, va_rf x24), (0, .ref o), (1, .ref p1)]) hx hb dX2_init_2_66 rfl hl (by decide) rfl (fun ls hl_147 => ?_)
  clear hl
  obtain ⟨nf67, hvc_45⟩ := hvc_45
  exact lp67 nf67 o p1 x24 G25 (mc0 - 1 - 1 - 1 - c21 - c26) (ms0 - 3 - 3 - 3 - t22 - t27) _ _ _ _ _ hvc_45 hG_46 hS_47 (lv_sub hl_147 [1, 2, 0] rfl) hMC_48 hMS_49
set_option maxHeartbeats 4000000 in
set_option maxRecDepth 100000 in
theorem met_X6_receiver (l : Launch) (E : g_E) (G : g_G) (o : Nat) (post : Int32 → Prop) (hvc : wp_X6_receiver E G o post) : g_MI E l yX6_receiver (ws_ yX6_receiver cX6_receiver 1 (Option.some Jvm.ClassFile.FieldType.int)) ({ frames := 0, cells := 0, slots := 0, locals := 0 } : Room) (g_X E) [.ref o] G (fun v G9 => G9 = G ∧ post v) := by
  refine g_enter (by decide +kernel) (Nat.le_of_ble_eq_true rfl) ?_
  intro p e s m below meth c ls hx hb hr hts hown hlocks hml hin hz hX hK hG hS hl
  have hl : lv_has ls 1 [(0, .ref o)] := hl
  have hown : s.vm.findClass RX6 = some m.cls := hown
  unfold wp_X6_receiver at hvc
  refine lv_aload_n hx hb dX6_receiver_0 rfl (lv_at hl 0 rfl) ?_
  refine gw_gr (C := RX6) (T := TX6) (N := 3) (own := RX6) hx hb hts in_X6 hown hK hG hvc rfl (by decide) (hts _ q929) (fun _ h9 => h9) dX6_receiver_1 (fun x1 hvc_1 => ?_)
  clear hvc
  refine gw_kf (v := (some x1)) hx hb hown (hX.1 _ q2326 rfl) hX hS hvc_1 dX6_receiver_4 (fun x2 hvc_2 => ?_)
  clear hvc_1
  refine lv_if_eq (tgt := 17) hx hb dX6_receiver_7 (by decide) (fun h9 => ?_) (fun h9 => ?_)
  · replace hvc_2 := hvc_2.1 h9
    refine lv_iconst (v := nI 4) hx hb dX6_receiver_17 (by decide) ?_
    exact g_iret hx hb hr hlocks (Nat.zero_le _) (Nat.zero_le _) hG hS rfl ⟨rfl, hvc_2⟩ dX6_receiver_18
  · replace hvc_2 := hvc_2.2 h9
    refine lv_aload_n hx hb dX6_receiver_10 rfl (lv_at hl 0 rfl) ?_
    refine gw_gi (C := RX6) (T := TX6) (N := 3) (own := RX6) hx hb hts in_X6 hown hK hG hvc_2 rfl (by decide) (hts _ q935) (fun _ h9 => h9) dX6_receiver_11 (fun x3 hvc_3 => ?_)
    clear hvc_2
    refine lv_goto (tgt := 18) hx hb dX6_receiver_14 (by decide) ?_
    exact g_iret hx hb hr hlocks (Nat.zero_le _) (Nat.zero_le _) hG hS rfl ⟨rfl, hvc_3⟩ dX6_receiver_18
set_option maxHeartbeats 4000000 in
set_option maxRecDepth 100000 in
theorem met_X1_has (l : Launch) (E : g_E) (G : g_G) (p1 : Int32) (p2 : Int32) (post : Int32 → Prop) (hvc : wp_X1_has E G p1 p2 post) : g_MI E l yX1_has (ws_ yX1_has cX1_has 2 (Option.some Jvm.ClassFile.FieldType.boolean)) ({ frames := 0, cells := 0, slots := 0, locals := 0 } : Room) (fun _ => True) [.int p1, .int p2] G (fun v G9 => G9 = G ∧ post v) := by
  refine g_enter (by decide +kernel) (Nat.le_of_ble_eq_true rfl) ?_
  intro p e s m below meth c ls hx hb hr hts hown hlocks hml hin hz hX hK hG hS hl
  have hl : lv_has ls 2 [(0, .int p1), (1, .int p2)] := hl
  have hown : s.vm.findClass RX1 = some m.cls := hown
  unfold wp_X1_has at hvc
  refine lv_iload_n hx hb dX1_has_0 rfl (lv_at hl 0 rfl) ?_
  refine lv_iload_n hx hb dX1_has_1 rfl (lv_at hl 1 rfl) ?_
  refine lv_ishr hx hb dX1_has_2 ?_
  refine lv_iconst (v := nI 1) hx hb dX1_has_3 (by decide) ?_
  refine lv_iand hx hb dX1_has_4 ?_
  refine lv_iconst (v := nI 1) hx hb dX1_has_5 (by decide) ?_
  refine lv_icmp_ne (tgt := 13) hx hb dX1_has_6 (by decide) (fun h9 => ?_) (fun h9 => ?_)
  · replace hvc := hvc.1 h9
    refine lv_iconst (v := nI 0) hx hb dX1_has_13 (by decide) ?_
    exact g_iret hx hb hr hlocks (Nat.zero_le _) (Nat.zero_le _) hG hS rfl ⟨rfl, hvc⟩ dX1_has_14
  · replace hvc := hvc.2 h9
    refine lv_iconst (v := nI 1) hx hb dX1_has_9 (by decide) ?_
    refine lv_goto (tgt := 14) hx hb dX1_has_10 (by decide) ?_
    exact g_iret hx hb hr hlocks (Nat.zero_le _) (Nat.zero_le _) hG hS rfl ⟨rfl, hvc⟩ dX1_has_14
set_option maxHeartbeats 4000000 in
set_option maxRecDepth 100000 in
theorem met_X2_isUp (l : Launch) (E : g_E) (G : g_G) (o : Nat) (p1 : Int32) (post : Int32 → Prop) (hvc : wp_X2_isUp E G o p1 post) : g_MI E l yX2_isUp (ws_ yX2_isUp cX2_isUp 2 (Option.some Jvm.ClassFile.FieldType.boolean)) ({ frames := 1, cells := 0, slots := 0, locals := 21 } : Room) (g_X E) [.ref o, .int p1] G (fun v G9 => G9 = G ∧ post v) := by
  refine g_enter (by decide +kernel) (Nat.le_of_ble_eq_true rfl) ?_
  intro p e s m below meth c ls hx hb hr hts hown hlocks hml hin hz hX hK hG hS hl
  have hl : lv_has ls 2 [(0, .ref o), (1, .int p1)] := hl
  have hown : s.vm.findClass RX2 = some m.cls := hown
  unfold wp_X2_isUp at hvc
  refine lv_aload_n hx hb dX2_isUp_0 rfl (lv_at hl 0 rfl) ?_
  refine gw_gi (C := RX2) (T := TX2) (N := 11) (own := RX2) hx hb hts in_X2 hown hK hG hvc rfl (by decide) (hts _ q314) (fun _ h9 => h9) dX2_isUp_1 (fun x1 hvc_1 => ?_)
  clear hvc
  refine lv_iload_n hx hb dX2_isUp_4 rfl (lv_at hl 1 rfl) ?_
  refine gw_cMIP (As := [.int x1, .int p1]) (rest := [])  ⟨hx, hb, hml, hown, hts⟩ (met_X1_has l E G x1 p1 _ hvc_1) ⟨va_cnB 2 hts (lw_meth q838) rfl rfl rfl (hX.1 _ q836 rfl) (hts _ q90) (by decide +kernel) ⟨Nat.le_of_ble_eq_true rfl, Nat.le_of_ble_eq_true rfl⟩, hts _ q837, trivial⟩ (Nat.zero_le _) (Nat.zero_le _) (g_St0 E) hz trivial hK hG hS rfl hl.1 rfl (Nat.le_of_ble_eq_true rfl) dX2_isUp_5 (fun x2 H locs hvc_2 hG_3 hS_4 => ?_)
  clear hvc_1 hG hS
  exact g_iret hx hb hr hlocks (Nat.zero_le _) (Nat.zero_le _) hG_3 hS_4 hvc_2.1 ⟨rfl, hvc_2.2⟩ dX2_isUp_8
set_option maxHeartbeats 4000000 in
set_option maxRecDepth 100000 in
theorem met_X2_state (l : Launch) (E : g_E) (G : g_G) (o : Nat) (p1 : Int32) (p2 : Int32) (post : Int32 → Prop) (hvc : wp_X2_state E G o p1 p2 post) : g_MI E l yX2_state (ws_ yX2_state cX2_state 3 (Option.some Jvm.ClassFile.FieldType.int)) ({ frames := 0, cells := 0, slots := 0, locals := 0 } : Room) (fun _ => True) [.ref o, .int p1, .int p2] G (fun v G9 => G9 = G ∧ post v) := by
  refine g_enter (by decide +kernel) (Nat.le_of_ble_eq_true rfl) ?_
  intro p e s m below meth c ls hx hb hr hts hown hlocks hml hin hz hX hK hG hS hl
  have hl : lv_has ls 3 [(0, .ref o), (1, .int p1), (2, .int p2)] := hl
  have hown : s.vm.findClass RX2 = some m.cls := hown
  unfold wp_X2_state at hvc
  refine lv_aload_n hx hb dX2_state_0 rfl (lv_at hl 0 rfl) ?_
  refine gw_gr (C := RX2) (T := TX2) (N := 11) (own := RX2) hx hb hts in_X2 hown hK hG hvc rfl (by decide) (hts _ q309) (fun _ h9 => h9) dX2_state_1 (fun x1 hvc_1 => ?_)
  clear hvc
  refine lv_bipush (v := nI 8) hx hb dX2_state_4 (by decide) ?_
  refine lv_iload_n hx hb dX2_state_6 rfl (lv_at hl 1 rfl) ?_
  refine lv_imul hx hb dX2_state_7 ?_
  refine lv_iload_n hx hb dX2_state_8 rfl (lv_at hl 2 rfl) ?_
  refine lv_iadd hx hb dX2_state_9 ?_
  refine gw_ild hx hb hK hG hvc_1 dX2_state_10 (fun x2 hvc_2 => ?_)
  clear hvc_1
  exact g_iret hx hb hr hlocks (Nat.zero_le _) (Nat.zero_le _) hG hS rfl ⟨rfl, hvc_2⟩ dX2_state_11
set_option maxHeartbeats 4000000 in
set_option maxRecDepth 100000 in
theorem met_X4_share (l : Launch) (E : g_E) (G : g_G) (o : Nat) (p1 : Int32) (post : Int32 → Prop) (hvc : wp_X4_share E G o p1 post) : g_MI E l yX4_share (ws_ yX4_share cX4_share 2 (Option.some Jvm.ClassFile.FieldType.int)) ({ frames := 1, cells := 0, slots := 0, locals := 21 } : Room) (g_X E) [.ref o, .int p1] G (fun v G9 => G9 = G ∧ post v) := by
  refine g_enter (by decide +kernel) (Nat.le_of_ble_eq_true rfl) ?_
  intro p e s m below meth c ls hx hb hr hts hown hlocks hml hin hz hX hK hG hS hl
  have hl : lv_has ls 2 [(0, .ref o), (1, .int p1)] := hl
  have hown : s.vm.findClass RX4 = some m.cls := hown
  unfold wp_X4_share at hvc
  refine lv_iload_n hx hb dX4_share_0 rfl (lv_at hl 1 rfl) ?_
  refine lv_aload_n hx hb dX4_share_1 rfl (lv_at hl 0 rfl) ?_
  refine gw_gi (C := RX4) (T := TX4) (N := 3) (own := RX4) hx hb hts in_X4 hown hK hG hvc rfl (by decide) (hts _ q1175) (fun _ h9 => h9) dX4_share_2 (fun x1 hvc_1 => ?_)
  clear hvc
  refine lv_icmp_ne (tgt := 24) hx hb dX4_share_5 (by decide) (fun h9 => ?_) (fun h9 => ?_)
  · replace hvc_1 := hvc_1.1 h9
    refine lv_aload_n hx hb dX4_share_24 rfl (lv_at hl 0 rfl) ?_
    refine gw_gi (C := RX4) (T := TX4) (N := 3) (own := RX4) hx hb hts in_X4 hown hK hG hvc_1 rfl (by decide) (hts _ q1176) (fun _ h9 => h9) dX4_share_25 (fun x2 hvc_2 => ?_)
    clear hvc_1
    refine lv_iload_n hx hb dX4_share_28 rfl (lv_at hl 1 rfl) ?_
    refine gw_cMIP (As := [.int x2, .int p1]) (rest := [])  ⟨hx, hb, hml, hown, hts⟩ (met_X1_has l E G x2 p1 _ hvc_2) ⟨va_cnB 2 hts (lw_meth q838) rfl rfl rfl (hX.1 _ q877 rfl) (hts _ q90) (by decide +kernel) ⟨Nat.le_of_ble_eq_true rfl, Nat.le_of_ble_eq_true rfl⟩, hts _ q837, trivial⟩ (Nat.zero_le _) (Nat.zero_le _) (g_St0 E) hz trivial hK hG hS rfl hl.1 rfl (Nat.le_of_ble_eq_true rfl) dX4_share_29 (fun x3 H locs hvc_3 hG_4 hS_5 => ?_)
    clear hvc_2 hG hS
    refine lv_if_eq (tgt := 42) hx hb dX4_share_32 (by decide) (fun h9 => ?_) (fun h9 => ?_)
    · replace hvc_3 := hvc_3.1 h9
      refine lv_iconst (v := nI 0) hx hb dX4_share_42 (by decide) ?_
      exact g_iret hx hb hr hlocks (Nat.zero_le _) (Nat.zero_le _) hG_4 hS_5 rfl ⟨rfl, hvc_3⟩ dX4_share_43
    · replace hvc_3 := hvc_3.2 h9
      refine lv_aload_n hx hb dX4_share_35 rfl (lv_at hl 0 rfl) ?_
      refine gw_gi (C := RX4) (T := TX4) (N := 3) (own := RX4) hx hb hts in_X4 hown hK hG_4 hvc_3 rfl (by decide) (hts _ q1177) (fun _ h9 => h9) dX4_share_36 (fun x5 hvc_6 => ?_)
      clear hvc_3
      refine lv_goto (tgt := 43) hx hb dX4_share_39 (by decide) ?_
      exact g_iret hx hb hr hlocks (Nat.zero_le _) (Nat.zero_le _) hG_4 hS_5 rfl ⟨rfl, hvc_6⟩ dX4_share_43
  · replace hvc_1 := hvc_1.2 h9
    refine lv_aload_n hx hb dX4_share_8 rfl (lv_at hl 0 rfl) ?_
    refine gw_gi (C := RX4) (T := TX4) (N := 3) (own := RX4) hx hb hts in_X4 hown hK hG hvc_1 rfl (by decide) (hts _ q1177) (fun _ h9 => h9) dX4_share_9 (fun x6 hvc_7 => ?_)
    clear hvc_1
    refine lv_ineg hx hb dX4_share_12 ?_
    refine lv_aload_n hx hb dX4_share_13 rfl (lv_at hl 0 rfl) ?_
    refine gw_gi (C := RX4) (T := TX4) (N := 3) (own := RX4) hx hb hts in_X4 hown hK hG hvc_7 rfl (by decide) (hts _ q1176) (fun _ h9 => h9) dX4_share_14 (fun x7 hvc_8 => ?_)
    clear hvc_7
    refine gw_cSIP (As := [.int x7]) (rest := [.int (-x6)])  ⟨hx, hb, hml, hown, hts⟩ (met_J18_bitCount l E G x7 _ hvc_8) (va_cwS 1 hts (lw_S q871 q872 q113 q873) rfl rfl rfl (by decide +kernel) ⟨Nat.le_of_ble_eq_true rfl, Nat.le_of_ble_eq_true rfl⟩) (Nat.zero_le _) (Nat.zero_le _) (g_St0 E) hz trivial hK hG hS rfl hl.1 rfl (Nat.le_of_ble_eq_true rfl) dX4_share_17 (fun x8 H locs hvc_9 hG_10 hS_11 => ?_)
    clear hvc_8 hG hS
    refine lv_imul hx hb dX4_share_20 ?_
    refine lv_goto (tgt := 43) hx hb dX4_share_21 (by decide) ?_
    exact g_iret hx hb hr hlocks (Nat.zero_le _) (Nat.zero_le _) hG_10 hS_11 rfl ⟨rfl, hvc_9⟩ dX4_share_43
set_option maxHeartbeats 4000000 in
set_option maxRecDepth 100000 in
theorem met_X2_canTake (l : Launch) (E : g_E) (G : g_G) (o : Nat) (p1 : Int32) (p2 : Int32) (post : Int32 → Prop) (hvc : wp_X2_canTake E G o p1 p2 post) : g_MI E l yX2_canTake (ws_ yX2_canTake cX2_canTake 6 (Option.some Jvm.ClassFile.FieldType.boolean)) ({ frames := 3, cells := 0, slots := 0, locals := 64 } : Room) (g_X E) [.ref o, .int p1, .int p2] G (fun v G9 => G9 = G ∧ post v) := by
  refine g_enter (by decide +kernel) (Nat.le_of_ble_eq_true rfl) ?_
  intro p e s m below meth c ls hx hb hr hts hown hlocks hml hin hz hX hK hG hS hl
  have hl : lv_has ls 6 [(0, .ref o), (1, .int p1), (2, .int p2)] := hl
  have hown : s.vm.findClass RX2 = some m.cls := hown
  unfold wp_X2_canTake at hvc
  refine lv_aload_n hx hb dX2_canTake_0 rfl (lv_at hl 0 rfl) ?_
  refine gw_gr (C := RX2) (T := TX2) (N := 11) (own := RX2) hx hb hts in_X2 hown hK hG hvc rfl (by decide) (hts _ q307) (fun _ h9 => h9) dX2_canTake_1 (fun x1 hvc_1 => ?_)
  clear hvc
  refine lv_iload_n hx hb dX2_canTake_4 rfl (lv_at hl 1 rfl) ?_
  refine gw_ild hx hb hK hG hvc_1 dX2_canTake_5 (fun x2 hvc_2 => ?_)
  clear hvc_1
  refine lv_iload_n hx hb dX2_canTake_6 rfl (lv_at hl 2 rfl) ?_
  refine lv_iadd hx hb dX2_canTake_7 ?_
  refine lv_istore_n (lv' := [(3, .int (x2 + p2)), (0, .ref o), (1, .int p1), (2, .int p2)]) hx hb dX2_canTake_8 rfl hl (by decide) rfl (fun ls hl_3 => ?_)
  clear hl
  refine lv_iconst (v := nI 0) hx hb dX2_canTake_9 (by decide) ?_
  have lp12 : ∀ (n12 : Nat) (y0 : Nat) (y1 : Int32) (y2 : Int32) (y3 : Int32) (y4 : Int32) (H : Heap) (locs : List Loc) (ls : Array Slot), wp_X2_canTake_12 E G post n12 y0 y1 y2 y3 y4 → g_H E G H → va_S (g_A E) s.heap H locs → lv_has ls 6 [(0, .ref y0), (1, .int y1), (2, .int y2), (3, .int y3), (4, .int y4)] → W p l e ({ frames := 3, cells := 0, slots := 0, locals := 64 } : Room) s m ([.ref o, .int p1, .int p2] : List Value).toArray below meth c H locs 0 0 (MQ below (va_Qi (fun v G9 => G9 = G ∧ post v) (g_Bk E) (g_A E)) ([.ref o, .int p1, .int p2] : List Value).toArray s 0 0 (g_A E)) (F0 m 12 ls []) := by
    clear hvc_2 hG hS hl_3
    intro n12
    induction n12 with
    | zero =>
      intro y0 y1 y2 y3 y4 H locs ls hvc_4 hG_5 hS_6 hl_7
      exact False.elim hvc_4
    | succ n12 ih12 =>
      intro y0 y1 y2 y3 y4 H locs ls hvc_8 hG_9 hS_10 hl_11
      refine lv_iload hx hb dX2_canTake_12 (lv_at hl_11 4 rfl) ?_
      refine lv_aload_n hx hb dX2_canTake_14 rfl (lv_at hl_11 0 rfl) ?_
      refine gw_gr (C := RX2) (T := TX2) (N := 11) (own := RX2) hx hb hts in_X2 hown hK hG_9 hvc_8 rfl (by decide) (hts _ q301) (fun _ h9 => h9) dX2_canTake_15 (fun x3 hvc_12 => ?_)
      clear hvc_8
      refine gw_cFIP (As := []) (rest := [.int y4]) (hK.1 9 _ rfl).2  ⟨hx, hb, hml, hown, hts⟩ (met_J7_size l E G x3 _ hvc_12.2) (va_cwF 0 hts (lw_F q883 q886 q888 q99 q890) rfl rfl rfl (hX.fw (List.mem_of_getElem? (i := 6) rfl)) (by decide +kernel) ⟨Nat.le_of_ble_eq_true rfl, Nat.le_of_ble_eq_true rfl⟩) (gw_rc (q := (RJ7, TJ7, 3)) hK hG_9 hvc_12.1 rfl) (Nat.zero_le _) (Nat.zero_le _) (g_St0 E) hz trivial hK hG_9 hS_10 rfl hl_11.1 rfl (Nat.le_of_ble_eq_true rfl) dX2_canTake_18 (fun x4 H locs hvc_13 hG_14 hS_15 => ?_)
      clear hvc_12 hG_9 hS_10
      refine lv_icmp_ge (tgt := 94) hx hb dX2_canTake_23 (by decide) (fun h9 => ?_) (fun h9 => ?_)
      · replace hvc_13 := hvc_13.1 h9
        refine lv_iload_n hx hb dX2_canTake_94 rfl (lv_at hl_11 3 rfl) ?_
        refine lv_if_lt (tgt := 109) hx hb dX2_canTake_95 (by decide) (fun h9 => ?_) (fun h9 => ?_)
        · replace hvc_13 := hvc_13.1 h9
          refine lv_iconst (v := nI 0) hx hb dX2_canTake_109 (by decide) ?_
          exact g_iret hx hb hr hlocks (Nat.zero_le _) (Nat.zero_le _) hG_14 hS_15 rfl ⟨rfl, hvc_13⟩ dX2_canTake_110
        · replace hvc_13 := hvc_13.2 h9
          refine lv_iload_n hx hb dX2_canTake_98 rfl (lv_at hl_11 3 rfl) ?_
          refine lv_sipush (v := nI 999) hx hb dX2_canTake_99 (by decide) ?_
          refine lv_icmp_gt (tgt := 109) hx hb dX2_canTake_102 (by decide) (fun h9 => ?_) (fun h9 => ?_)
          · replace hvc_13 := hvc_13.1 h9
            refine lv_iconst (v := nI 0) hx hb dX2_canTake_109 (by decide) ?_
            exact g_iret hx hb hr hlocks (Nat.zero_le _) (Nat.zero_le _) hG_14 hS_15 rfl ⟨rfl, hvc_13⟩ dX2_canTake_110
          · replace hvc_13 := hvc_13.2 h9
            refine lv_iconst (v := nI 1) hx hb dX2_canTake_105 (by decide) ?_
            refine lv_goto (tgt := 110) hx hb dX2_canTake_106 (by decide) ?_
            exact g_iret hx hb hr hlocks (Nat.zero_le _) (Nat.zero_le _) hG_14 hS_15 rfl ⟨rfl, hvc_13⟩ dX2_canTake_110
      · replace hvc_13 := hvc_13.2 h9
        refine lv_aload_n hx hb dX2_canTake_26 rfl (lv_at hl_11 0 rfl) ?_
        refine gw_gr (C := RX2) (T := TX2) (N := 11) (own := RX2) hx hb hts in_X2 hown hK hG_14 hvc_13 rfl (by decide) (hts _ q301) (fun _ h9 => h9) dX2_canTake_27 (fun x6 hvc_16 => ?_)
        clear hvc_13
        refine lv_iload hx hb dX2_canTake_30 (lv_at hl_11 4 rfl) ?_
        refine gw_cFQP (As := [.int y4]) (rest := []) (hK.1 9 _ rfl).2  ⟨hx, hb, hml, hown, hts⟩ (met_J7_get l E G x6 y4 _ hvc_16.2) (va_cwF 1 hts (lw_F q854 q857 q859 q99 q861) rfl rfl rfl (hX.fw (List.mem_of_getElem? (i := 5) rfl)) (by decide +kernel) ⟨Nat.le_of_ble_eq_true rfl, Nat.le_of_ble_eq_true rfl⟩) (gw_rc (q := (RJ7, TJ7, 3)) hK hG_14 hvc_16.1 rfl) (Nat.zero_le _) (Nat.zero_le _) (g_St0 E) hz trivial hK hG_14 hS_15 rfl hl_11.1 rfl (Nat.le_of_ble_eq_true rfl) dX2_canTake_32 (fun x7 H locs hvc_17 hG_18 hS_19 => ?_)
        clear hvc_16 hG_14 hS_15
        refine gw_castS (v := x7) (ci := 3) hx hb hown (hts _ q866) hK hG_18 rfl rfl hvc_17 dX2_canTake_37 (fun z9 hy9 hvc_20 => ?_)
        clear hvc_17
        subst hy9
        refine lv_iload_n hx hb dX2_canTake_40 rfl (lv_at hl_11 1 rfl) ?_
        refine gw_cVIP (As := [.int y1]) (rest := [])  ⟨hx, hb, hml, hown, hts⟩ (met_X4_share l E G z9 y1 _ hvc_20.2) (cwV 1 hts (lw_V q867 q868 q869 q117 q870) rfl rfl rfl (by decide +kernel) ⟨Nat.le_of_ble_eq_true rfl, Nat.le_of_ble_eq_true rfl⟩) (gw_rc (q := (RX4, TX4, 3)) hK hG_18 hvc_20.1 rfl) (Nat.zero_le _) (Nat.zero_le _) (g_X.st E) hz hX hK hG_18 hS_19 rfl hl_11.1 rfl (Nat.le_of_ble_eq_true rfl) dX2_canTake_41 (fun x10 H locs hvc_21 hG_22 hS_23 => ?_)
        clear hvc_20 hG_18 hS_19
        refine lv_istore (lv' := [(5, .int x10), (0, .ref y0), (1, .int y1), (2, .int y2), (3, .int y3), (4, .int y4)]) hx hb dX2_canTake_44 hl_11 (by decide) rfl (fun ls hl_24 => ?_)
        clear hl_11
        refine lv_iload_n hx hb dX2_canTake_46 rfl (lv_at hl_24 4 rfl) ?_
        refine lv_aload_n hx hb dX2_canTake_47 rfl (lv_at hl_24 1 rfl) ?_
        refine lv_iload_n hx hb dX2_canTake_48 rfl (lv_at hl_24 2 rfl) ?_
        refine lv_iload hx hb dX2_canTake_49 (lv_at hl_24 5 rfl) ?_
        refine gw_cVIP (As := [.int y1, .int y4]) (rest := [.int y3])  ⟨hx, hb, hml, hown, hts⟩ (met_X2_state l E G y0 y1 y4 _ hvc_21.2) (cwV 2 hts (lw_V q849 q850 q851 q97 q852) rfl rfl rfl (by decide +kernel) ⟨Nat.le_of_ble_eq_true rfl, Nat.le_of_ble_eq_true rfl⟩) (gw_rc (q := (RX2, TX2, 11)) hK hG_22 hvc_21.1 rfl) (Nat.zero_le _) (Nat.zero_le _) (g_St0 E) hz trivial hK hG_22 hS_23 rfl hl_24.1 rfl (Nat.le_of_ble_eq_true rfl) dX2_canTake_51 (fun x12 H locs hvc_25 hG_26 hS_27 => ?_)
        clear hvc_21 hG_22 hS_23
        refine lv_iconst (v := nI 1) hx hb dX2_canTake_54 (by decide) ?_
        have jn86 : ∀ (y0 : Nat) (y1 : Int32) (y2 : Int32) (y4 : Int32) (s0 : Int32) (s1 : Int32) (H : Heap) (locs : List Loc) (ls : Array Slot), wp_X2_canTake_86 E G post (wp_X2_canTake_12 E G post n12) y0 y1 y2 y4 s0 s1 → g_H E G H → va_S (g_A E) s.heap H locs → lv_has ls 6 [(0, .ref y0), (1, .int y1), (2, .int y2), (4, .int y4)] → W p l e ({ frames := 3, cells := 0, slots := 0, locals := 64 } : Room) s m ([.ref o, .int p1, .int p2] : List Value).toArray below meth c H locs 0 0 (MQ below (va_Qi (fun v G9 => G9 = G ∧ post v) (g_Bk E) (g_A E)) ([.ref o, .int p1, .int p2] : List Value).toArray s 0 0 (g_A E)) (F0 m 86 ls [.int s0, .int s1]) := by
          clear hvc_25 hG_26 hS_27 hl_24
          intro y0 y1 y2 y4 s0 s1 H locs ls hvc_28 hG_29 hS_30 hl_31
          refine lv_iadd hx hb dX2_canTake_86 ?_
          refine lv_istore_n (lv' := [(3, .int (s1 + s0)), (0, .ref y0), (1, .int y1), (2, .int y2), (4, .int y4)]) hx hb dX2_canTake_87 rfl hl_31 (by decide) rfl (fun ls hl_32 => ?_)
          clear hl_31
          refine lv_iinc (k := 4) (v := y4 + (nI 1)) (lv' := [(4, .int (y4 + (nI 1))), (3, .int (s1 + s0)), (0, .ref y0), (1, .int y1), (2, .int y2)]) hx hb dX2_canTake_88 hl_32 rfl (congrArg (y4 + ·) (by decide : Int32.ofInt (1) = nI 1)) (by decide) rfl (fun ls hl_33 => ?_)
          clear hl_32
          refine lv_goto (tgt := 12) hx hb dX2_canTake_91 (by decide) ?_
          exact ih12 y0 y1 y2 (s1 + s0) (y4 + (nI 1)) _ _ _ hvc_28 hG_29 hS_30 (lv_sub hl_33 [2, 3, 4, 1, 0] rfl)
        have jn85 : ∀ (y0 : Nat) (y1 : Int32) (y2 : Int32) (y4 : Int32) (s0 : Int32) (H : Heap) (locs : List Loc) (ls : Array Slot), wp_X2_canTake_85 E G post (wp_X2_canTake_86 E G post (wp_X2_canTake_12 E G post n12)) y0 y1 y2 y4 s0 → g_H E G H → va_S (g_A E) s.heap H locs → lv_has ls 6 [(0, .ref y0), (1, .int y1), (2, .int y2), (4, .int y4)] → W p l e ({ frames := 3, cells := 0, slots := 0, locals := 64 } : Room) s m ([.ref o, .int p1, .int p2] : List Value).toArray below meth c H locs 0 0 (MQ below (va_Qi (fun v G9 => G9 = G ∧ post v) (g_Bk E) (g_A E)) ([.ref o, .int p1, .int p2] : List Value).toArray s 0 0 (g_A E)) (F0 m 85 ls [.int s0]) := by
          clear hvc_25 hG_26 hS_27 hl_24
          intro y0 y1 y2 y4 s0 H locs ls hvc_34 hG_35 hS_36 hl_37
          refine lv_iconst (v := nI 0) hx hb dX2_canTake_85 (by decide) ?_
          exact jn86 y0 y1 y2 y4 (nI 0) s0 _ _ _ hvc_34 hG_35 hS_36 (lv_sub hl_37 [0, 1, 2, 3] rfl)
        refine lv_icmp_ne (tgt := 85) hx hb dX2_canTake_55 (by decide) (fun h9 => ?_) (fun h9 => ?_)
        · replace hvc_25 := hvc_25.1 h9
          exact jn85 y0 y1 y2 y4 y3 _ _ _ hvc_25 hG_26 hS_27 (lv_sub hl_24 [1, 2, 3, 5] rfl)
        · replace hvc_25 := hvc_25.2 h9
          refine lv_iload hx hb dX2_canTake_58 (lv_at hl_24 0 rfl) ?_
          have jn68 : ∀ (y0 : Nat) (y1 : Int32) (y2 : Int32) (y4 : Int32) (y5 : Int32) (s0 : Int32) (s1 : Int32) (H : Heap) (locs : List Loc) (ls : Array Slot), wp_X2_canTake_68 E G post (wp_X2_canTake_85 E G post (wp_X2_canTake_86 E G post (wp_X2_canTake_12 E G post n12))) (wp_X2_canTake_86 E G post (wp_X2_canTake_12 E G post n12)) y0 y1 y2 y4 y5 s0 s1 → g_H E G H → va_S (g_A E) s.heap H locs → lv_has ls 6 [(0, .ref y0), (1, .int y1), (2, .int y2), (4, .int y4), (5, .int y5)] → W p l e ({ frames := 3, cells := 0, slots := 0, locals := 64 } : Room) s m ([.ref o, .int p1, .int p2] : List Value).toArray below meth c H locs 0 0 (MQ below (va_Qi (fun v G9 => G9 = G ∧ post v) (g_Bk E) (g_A E)) ([.ref o, .int p1, .int p2] : List Value).toArray s 0 0 (g_A E)) (F0 m 68 ls [.int s0, .int s1]) := by
            clear hvc_25 hG_26 hS_27 hl_24
            intro y0 y1 y2 y4 y5 s0 s1 H locs ls hvc_38 hG_39 hS_40 hl_41
            refine lv_iload_n hx hb dX2_canTake_68 rfl (lv_at hl_41 2 rfl) ?_
            have jn77 : ∀ (y0 : Nat) (y1 : Int32) (y2 : Int32) (y4 : Int32) (y5 : Int32) (s0 : Int32) (s1 : Int32) (s2 : Int32) (H : Heap) (locs : List Loc) (ls : Array Slot), wp_X2_canTake_77 E G post (wp_X2_canTake_85 E G post (wp_X2_canTake_86 E G post (wp_X2_canTake_12 E G post n12))) (wp_X2_canTake_86 E G post (wp_X2_canTake_12 E G post n12)) y0 y1 y2 y4 y5 s0 s1 s2 → g_H E G H → va_S (g_A E) s.heap H locs → lv_has ls 6 [(0, .ref y0), (1, .int y1), (2, .int y2), (4, .int y4), (5, .int y5)] → W p l e ({ frames := 3, cells := 0, slots := 0, locals := 64 } : Room) s m ([.ref o, .int p1, .int p2] : List Value).toArray below meth c H locs 0 0 (MQ below (va_Qi (fun v G9 => G9 = G ∧ post v) (g_Bk E) (g_A E)) ([.ref o, .int p1, .int p2] : List Value).toArray s 0 0 (g_A E)) (F0 m 77 ls [.int s0, .int s1, .int s2]) := by
              clear hvc_38 hG_39 hS_40 hl_41
              intro y0 y1 y2 y4 y5 s0 s1 s2 H locs ls hvc_42 hG_43 hS_44 hl_45
              refine lv_icmp_ne (tgt := 85) hx hb dX2_canTake_77 (by decide) (fun h9 => ?_) (fun h9 => ?_)
              · replace hvc_42 := hvc_42.1 h9
                exact jn85 y0 y1 y2 y4 s2 _ _ _ hvc_42 hG_43 hS_44 (lv_sub hl_45 [0, 1, 2, 3] rfl)
              · replace hvc_42 := hvc_42.2 h9
                refine lv_iload hx hb dX2_canTake_80 (lv_at hl_45 4 rfl) ?_
                refine lv_goto (tgt := 86) hx hb dX2_canTake_82 (by decide) ?_
                exact jn86 y0 y1 y2 y4 y5 s2 _ _ _ hvc_42 hG_43 hS_44 (lv_sub hl_45 [0, 1, 2, 3] rfl)
            refine lv_if_ge (tgt := 76) hx hb dX2_canTake_69 (by decide) (fun h9 => ?_) (fun h9 => ?_)
            · replace hvc_38 := hvc_38.1 h9
              refine lv_iconst (v := nI 0) hx hb dX2_canTake_76 (by decide) ?_
              exact jn77 y0 y1 y2 y4 y5 (nI 0) s0 s1 _ _ _ hvc_38 hG_39 hS_40 (lv_sub hl_41 [0, 1, 2, 3, 4] rfl)
            · replace hvc_38 := hvc_38.2 h9
              refine lv_iconst (v := nI 1) hx hb dX2_canTake_72 (by decide) ?_
              refine lv_goto (tgt := 77) hx hb dX2_canTake_73 (by decide) ?_
              exact jn77 y0 y1 y2 y4 y5 (nI 1) s0 s1 _ _ _ hvc_38 hG_39 hS_40 (lv_sub hl_41 [0, 1, 2, 3, 4] rfl)
          refine lv_if_ge (tgt := 67) hx hb dX2_canTake_60 (by decide) (fun h9 => ?_) (fun h9 => ?_)
          · replace hvc_25 := hvc_25.1 h9
            refine lv_iconst (v := nI 0) hx hb dX2_canTake_67 (by decide) ?_
            exact jn68 y0 y1 y2 y4 x10 (nI 0) y3 _ _ _ hvc_25 hG_26 hS_27 (lv_sub hl_24 [1, 2, 3, 5, 0] rfl)
          · replace hvc_25 := hvc_25.2 h9
            refine lv_iconst (v := nI 1) hx hb dX2_canTake_63 (by decide) ?_
            refine lv_goto (tgt := 68) hx hb dX2_canTake_64 (by decide) ?_
            exact jn68 y0 y1 y2 y4 x10 (nI 1) y3 _ _ _ hvc_25 hG_26 hS_27 (lv_sub hl_24 [1, 2, 3, 5, 0] rfl)
  refine lv_istore (lv' := [(4, .int (nI 0)), (3, .int (x2 + p2)), (0, .ref o), (1, .int p1), (2, .int p2)]) hx hb dX2_canTake_10 hl_3 (by decide) rfl (fun ls hl_46 => ?_)
  clear hl_3
  obtain ⟨nf12, hvc_2⟩ := hvc_2
  exact lp12 nf12 o p1 p2 (x2 + p2) (nI 0) _ _ _ hvc_2 hG hS (lv_sub hl_46 [2, 3, 4, 1, 0] rfl)
set_option maxHeartbeats 4000000 in
set_option maxRecDepth 100000 in
theorem met_X5_init (l : Launch) (E : g_E) (G : g_G) (o : Nat) (p1 : Int32) (p2 : Int32) (post : g_G → Prop) (hvc : wp_X5_init E G o p1 p2 post) : g_MV E l yX5_init (ws_ yX5_init cX5_init 3 (Option.none : Option Jvm.ClassFile.FieldType)) ({ frames := 1, cells := 0, slots := 0, locals := 12 } : Room) (fun _ => True) [.ref o, .int p1, .int p2] G (post) := by
  refine g_enter (by decide +kernel) (Nat.le_of_ble_eq_true rfl) ?_
  intro p e s m below meth c ls hx hb hr hts hown hlocks hml hin hz hX hK hG hS hl
  have hl : lv_has ls 3 [(0, .ref o), (1, .int p1), (2, .int p2)] := hl
  have hown : s.vm.findClass RX5 = some m.cls := hown
  unfold wp_X5_init at hvc
  refine lv_aload_n hx hb dX5_init_0 rfl (lv_at hl 0 rfl) ?_
  refine W.objInit hx hb hown (hts _ q900) (hts _ q135) (hts _ q136) rfl (by rw [hml]; exact hl.1) rfl dX5_init_1 (Nat.le_of_ble_eq_true rfl) (Nat.le_of_ble_eq_true rfl) ?_
  refine W.eq (g2 := F0 m 4 ls []) rfl ?_
  refine lv_aload_n hx hb dX5_init_4 rfl (lv_at hl 0 rfl) ?_
  refine lv_iload_n hx hb dX5_init_5 rfl (lv_at hl 1 rfl) ?_
  refine gw_putF (ty := .int) (C := RX5) (T := TX5) (N := 2) (own := RX5) hx hb hts in_X5 tyX5 tyX5_ok nmX5 hown hK hG hS hvc rfl (by decide) (hts _ q901) (fun _ h9 => h9) rfl hin rfl (by decide +kernel) rfl rfl dX5_init_6 (fun G1 H locs hvc_1 hG_2 hS_3 => ?_)
  clear hvc hG hS
  refine lv_aload_n hx hb dX5_init_9 rfl (lv_at hl 0 rfl) ?_
  refine lv_iload_n hx hb dX5_init_10 rfl (lv_at hl 2 rfl) ?_
  refine gw_putF (ty := .int) (C := RX5) (T := TX5) (N := 2) (own := RX5) hx hb hts in_X5 tyX5 tyX5_ok nmX5 hown hK hG_2 hS_3 hvc_1 rfl (by decide) (hts _ q904) (fun _ h9 => h9) rfl hin rfl (by decide +kernel) rfl rfl dX5_init_11 (fun G2 H locs hvc_4 hG_5 hS_6 => ?_)
  clear hvc_1 hG_2 hS_3
  exact g_vret hx hb hr hlocks (Nat.zero_le _) (Nat.zero_le _) hG_5 hS_6 hvc_4 dX5_init_14
set_option maxHeartbeats 4000000 in
set_option maxRecDepth 100000 in
theorem met_X2_writes (l : Launch) (E : g_E) (G : g_G) (o : Nat) (p1 : Int32) (p2 : Int32) (p3 : Int32) (mc0 ms0 : Nat) (post : g_G → Prop) (hvc : wp_X2_writes E G o p1 p2 p3 mc0 ms0 post) : g_MV E l yX2_writes (ws_ yX2_writes cX2_writes 4 (Option.none : Option Jvm.ClassFile.FieldType)) ({ frames := 7, cells := mc0, slots := ms0, locals := 191 } : Room) (g_X E) [.ref o, .int p1, .int p2, .int p3] G (post) := by
  refine g_enter (by decide +kernel) (Nat.le_of_ble_eq_true rfl) ?_
  intro p e s m below meth c ls hx hb hr hts hown hlocks hml hin hz hX hK hG hS hl
  have hl : lv_has ls 4 [(0, .ref o), (1, .int p1), (2, .int p2), (3, .int p3)] := hl
  have hown : s.vm.findClass RX2 = some m.cls := hown
  have hMC : 0 + mc0 ≤ mc0 := Nat.le_of_eq (Nat.zero_add _)
  have hMS : 0 + ms0 ≤ ms0 := Nat.le_of_eq (Nat.zero_add _)
  unfold wp_X2_writes at hvc
  refine lv_aload_n hx hb dX2_writes_0 rfl (lv_at hl 0 rfl) ?_
  refine gw_gr (C := RX2) (T := TX2) (N := 11) (own := RX2) hx hb hts in_X2 hown hK hG hvc rfl (by decide) (hts _ q303) (fun _ h9 => h9) dX2_writes_1 (fun x1 hvc_1 => ?_)
  clear hvc
  refine lv_iload_n hx hb dX2_writes_4 rfl (lv_at hl 1 rfl) ?_
  refine gw_cFQP (As := [.int p1]) (rest := []) (hK.1 9 _ rfl).2  ⟨hx, hb, hml, hown, hts⟩ (met_J7_get l E G x1 p1 _ hvc_1.2) (va_cwF 1 hts (lw_F q854 q857 q859 q99 q861) rfl rfl rfl (hX.fw (List.mem_of_getElem? (i := 5) rfl)) (by decide +kernel) ⟨Nat.le_of_ble_eq_true rfl, Nat.le_of_ble_eq_true rfl⟩) (gw_rc (q := (RJ7, TJ7, 3)) hK hG hvc_1.1 rfl) (by show _ ≤ mc0; omega) (by show _ ≤ ms0; omega) (g_St0 E) hz trivial hK hG hS rfl hl.1 rfl (Nat.le_of_ble_eq_true rfl) dX2_writes_5 (fun x2 H locs hvc_2 hG_3 hS_4 => ?_)
  clear hvc_1 hG hS
  refine gw_castY (v := x2) (ci := 9) hx hb hown (hts _ q738) hK hG_3 rfl (hX.1 _ q227 rfl) hvc_2 dX2_writes_10 (fun z4 hy9 hvc_5 => ?_)
  clear hvc_2
  subst hy9
  refine gw_new (C := RX5) (T := TX5) (N := 2) (own := RX2) hx hb hts in_X5 tyX5 tyX5_ok hown (hts _ q895) (hts _ q896) (hts _ q119) hK hG_3 hS_4 hz hvc_5 rfl (by decide) hMC hMS (Nat.le_refl _) (Nat.le_refl _) dX2_writes_13 (fun q5 G6 H ce sl hvc_6 hG_7 hS_8 hMC_9 hMS_10 => ?_)
  clear hvc_5 hG_3 hS_4 hMC hMS
  refine lv_dup hx hb dX2_writes_16 rfl ?_
  refine lv_iload_n hx hb dX2_writes_17 rfl (lv_at hl 2 rfl) ?_
  refine lv_iload_n hx hb dX2_writes_18 rfl (lv_at hl 3 rfl) ?_
  refine gw_cCVN (As := [.int p2, .int p3]) (rest := [.ref q5, .ref z4])  ⟨hx, hb, hml, hown, hts⟩ (met_X5_init l E G6 q5 p2 p3 _ hvc_6) (cwI 2 hts (lw_meth q899) rfl rfl rfl (hts _ q119) (hts _ q897) (hts _ q898) rfl (by decide +kernel) ⟨Nat.le_of_ble_eq_true rfl, Nat.le_of_ble_eq_true rfl⟩) (by show _ ≤ mc0; omega) (by show _ ≤ ms0; omega) (g_St0 E) hz trivial hK hG_7 hS_8 rfl hl.1 rfl (Nat.le_of_ble_eq_true rfl) dX2_writes_19 (fun G8 H locs hvc_11 hG_12 hS_13 => ?_)
  clear hvc_6 hG_7 hS_8
  obtain ⟨c11, t12, hc1, hs1, hvc_11⟩ := hvc_11
  refine gw_cFIA (As := [.ref q5]) (rest := []) (hK.1 9 _ rfl).2  ⟨hx, hb, hml, hown, hts⟩ (met_J7_add l E G8 z4 q5 c11 t12 _ hvc_11.2) (va_cwF 1 hts (lw_F q224 q228 q230 q99 q232) rfl rfl rfl (hX.fw (List.mem_of_getElem? (i := 0) rfl)) (by decide +kernel) ⟨Nat.le_of_ble_eq_true rfl, Nat.le_of_ble_eq_true rfl⟩) (gw_rc (q := (RJ7, TJ7, 3)) hK hG_12 hvc_11.1 rfl) hc1 hs1 hMC_9 hMS_10 (Nat.le_refl _) (Nat.le_refl _) (g_X.st E) hz hX hK hG_12 hS_13 rfl hl.1 rfl (Nat.le_of_ble_eq_true rfl) dX2_writes_22 (fun x9 G10 H locs ce sl hvc_14 hG_15 hS_16 hMC_17 hMS_18 => ?_)
  clear hvc_11 hG_12 hS_13 hMC_9 hMS_10
  refine lv_pop hx hb dX2_writes_27 rfl ?_
  exact g_vret hx hb hr hlocks (by show _ ≤ mc0; omega) (by show _ ≤ ms0; omega) hG_15 hS_16 hvc_14 dX2_writes_28
set_option maxHeartbeats 4000000 in
set_option maxRecDepth 100000 in
theorem met_X2_becomes (l : Launch) (E : g_E) (G : g_G) (o : Nat) (p1 : Int32) (p2 : Int32) (p3 : Int32) (post : g_G → Prop) (hvc : wp_X2_becomes E G o p1 p2 p3 post) : g_MV E l yX2_becomes (ws_ yX2_becomes cX2_becomes 4 (Option.none : Option Jvm.ClassFile.FieldType)) ({ frames := 0, cells := 0, slots := 0, locals := 0 } : Room) (fun _ => True) [.ref o, .int p1, .int p2, .int p3] G (post) := by
  refine g_enter (by decide +kernel) (Nat.le_of_ble_eq_true rfl) ?_
  intro p e s m below meth c ls hx hb hr hts hown hlocks hml hin hz hX hK hG hS hl
  have hl : lv_has ls 4 [(0, .ref o), (1, .int p1), (2, .int p2), (3, .int p3)] := hl
  have hown : s.vm.findClass RX2 = some m.cls := hown
  unfold wp_X2_becomes at hvc
  refine lv_aload_n hx hb dX2_becomes_0 rfl (lv_at hl 0 rfl) ?_
  refine gw_gr (C := RX2) (T := TX2) (N := 11) (own := RX2) hx hb hts in_X2 hown hK hG hvc rfl (by decide) (hts _ q309) (fun _ h9 => h9) dX2_becomes_1 (fun x1 hvc_1 => ?_)
  clear hvc
  refine lv_bipush (v := nI 8) hx hb dX2_becomes_4 (by decide) ?_
  refine lv_iload_n hx hb dX2_becomes_6 rfl (lv_at hl 1 rfl) ?_
  refine lv_imul hx hb dX2_becomes_7 ?_
  refine lv_iload_n hx hb dX2_becomes_8 rfl (lv_at hl 2 rfl) ?_
  refine lv_iadd hx hb dX2_becomes_9 ?_
  refine lv_iload_n hx hb dX2_becomes_10 rfl (lv_at hl 3 rfl) ?_
  refine gw_ist hx hb hK hG hS hvc_1 dX2_becomes_11 (fun G2 H locs hvc_2 hG_3 hS_4 => ?_)
  clear hvc_1 hG hS
  exact g_vret hx hb hr hlocks (Nat.zero_le _) (Nat.zero_le _) hG_3 hS_4 hvc_2 dX2_becomes_12
set_option maxHeartbeats 4000000 in
set_option maxRecDepth 100000 in
theorem met_X6_init (l : Launch) (E : g_E) (G : g_G) (o : Nat) (p1 : Nat) (p2 : Int32) (p3 : Int32) (post : g_G → Prop) (hvc : wp_X6_init E G o p1 p2 p3 post) : g_MV E l yX6_init (ws_ yX6_init cX6_init 4 (Option.none : Option Jvm.ClassFile.FieldType)) ({ frames := 1, cells := 0, slots := 0, locals := 12 } : Room) (fun _ => True) [.ref o, .ref p1, .int p2, .int p3] G (post) := by
  refine g_enter (by decide +kernel) (Nat.le_of_ble_eq_true rfl) ?_
  intro p e s m below meth c ls hx hb hr hts hown hlocks hml hin hz hX hK hG hS hl
  have hl : lv_has ls 4 [(0, .ref o), (1, .ref p1), (2, .int p2), (3, .int p3)] := hl
  have hown : s.vm.findClass RX6 = some m.cls := hown
  unfold wp_X6_init at hvc
  refine lv_aload_n hx hb dX6_init_0 rfl (lv_at hl 0 rfl) ?_
  refine W.objInit hx hb hown (hts _ q928) (hts _ q135) (hts _ q136) rfl (by rw [hml]; exact hl.1) rfl dX6_init_1 (Nat.le_of_ble_eq_true rfl) (Nat.le_of_ble_eq_true rfl) ?_
  refine W.eq (g2 := F0 m 4 ls []) rfl ?_
  refine lv_aload_n hx hb dX6_init_4 rfl (lv_at hl 0 rfl) ?_
  refine lv_aload_n hx hb dX6_init_5 rfl (lv_at hl 1 rfl) ?_
  refine gw_putF (ty := .object "VoteLogs$Kind") (C := RX6) (T := TX6) (N := 3) (own := RX6) hx hb hts in_X6 tyX6 tyX6_ok nmX6 hown hK hG hS hvc rfl (by decide) (hts _ q929) (fun _ h9 => h9) rfl hin rfl (by decide +kernel) rfl rfl dX6_init_6 (fun G1 H locs hvc_1 hG_2 hS_3 => ?_)
  clear hvc hG hS
  refine lv_aload_n hx hb dX6_init_9 rfl (lv_at hl 0 rfl) ?_
  refine lv_iload_n hx hb dX6_init_10 rfl (lv_at hl 2 rfl) ?_
  refine gw_putF (ty := .int) (C := RX6) (T := TX6) (N := 3) (own := RX6) hx hb hts in_X6 tyX6 tyX6_ok nmX6 hown hK hG_2 hS_3 hvc_1 rfl (by decide) (hts _ q932) (fun _ h9 => h9) rfl hin rfl (by decide +kernel) rfl rfl dX6_init_11 (fun G2 H locs hvc_4 hG_5 hS_6 => ?_)
  clear hvc_1 hG_2 hS_3
  refine lv_aload_n hx hb dX6_init_14 rfl (lv_at hl 0 rfl) ?_
  refine lv_iload_n hx hb dX6_init_15 rfl (lv_at hl 3 rfl) ?_
  refine gw_putF (ty := .int) (C := RX6) (T := TX6) (N := 3) (own := RX6) hx hb hts in_X6 tyX6 tyX6_ok nmX6 hown hK hG_5 hS_6 hvc_4 rfl (by decide) (hts _ q935) (fun _ h9 => h9) rfl hin rfl (by decide +kernel) rfl rfl dX6_init_16 (fun G3 H locs hvc_7 hG_8 hS_9 => ?_)
  clear hvc_4 hG_5 hS_6
  exact g_vret hx hb hr hlocks (Nat.zero_le _) (Nat.zero_le _) hG_8 hS_9 hvc_7 dX6_init_19
set_option maxHeartbeats 4000000 in
set_option maxRecDepth 100000 in
theorem met_X2_sends (l : Launch) (E : g_E) (G : g_G) (o : Nat) (p1 : Nat) (p2 : Int32) (p3 : Int32) (mc0 ms0 : Nat) (post : g_G → Prop) (hvc : wp_X2_sends E G o p1 p2 p3 mc0 ms0 post) : g_MV E l yX2_sends (ws_ yX2_sends cX2_sends 4 (Option.none : Option Jvm.ClassFile.FieldType)) ({ frames := 7, cells := mc0, slots := ms0, locals := 191 } : Room) (g_X E) [.ref o, .ref p1, .int p2, .int p3] G (post) := by
  refine g_enter (by decide +kernel) (Nat.le_of_ble_eq_true rfl) ?_
  intro p e s m below meth c ls hx hb hr hts hown hlocks hml hin hz hX hK hG hS hl
  have hl : lv_has ls 4 [(0, .ref o), (1, .ref p1), (2, .int p2), (3, .int p3)] := hl
  have hown : s.vm.findClass RX2 = some m.cls := hown
  have hMC : 0 + mc0 ≤ mc0 := Nat.le_of_eq (Nat.zero_add _)
  have hMS : 0 + ms0 ≤ ms0 := Nat.le_of_eq (Nat.zero_add _)
  unfold wp_X2_sends at hvc
  refine lv_aload_n hx hb dX2_sends_0 rfl (lv_at hl 0 rfl) ?_
  refine lv_dup hx hb dX2_sends_1 rfl ?_
  refine gw_gi (C := RX2) (T := TX2) (N := 11) (own := RX2) hx hb hts in_X2 hown hK hG hvc rfl (by decide) (hts _ q315) (fun _ h9 => h9) dX2_sends_2 (fun x1 hvc_1 => ?_)
  clear hvc
  refine lv_iconst (v := nI 1) hx hb dX2_sends_5 (by decide) ?_
  refine lv_iadd hx hb dX2_sends_6 ?_
  refine gw_put (ty := .int) (C := RX2) (T := TX2) (N := 11) (own := RX2) hx hb hts in_X2 tyX2 tyX2_ok nmX2 hown hK hG hS hvc_1 rfl (by decide) (hts _ q315) (fun _ h9 => h9) rfl (by decide +kernel) rfl rfl dX2_sends_7 (fun G2 H locs hvc_2 hG_3 hS_4 => ?_)
  clear hvc_1 hG hS
  refine lv_aload_n hx hb dX2_sends_10 rfl (lv_at hl 0 rfl) ?_
  refine gw_gr (C := RX2) (T := TX2) (N := 11) (own := RX2) hx hb hts in_X2 hown hK hG_3 hvc_2 rfl (by decide) (hts _ q305) (fun _ h9 => h9) dX2_sends_11 (fun x3 hvc_5 => ?_)
  clear hvc_2
  refine gw_cFIP (As := []) (rest := []) (hK.1 9 _ rfl).2  ⟨hx, hb, hml, hown, hts⟩ (met_J7_size l E G2 x3 _ hvc_5.2) (va_cwF 0 hts (lw_F q883 q886 q888 q99 q890) rfl rfl rfl (hX.fw (List.mem_of_getElem? (i := 6) rfl)) (by decide +kernel) ⟨Nat.le_of_ble_eq_true rfl, Nat.le_of_ble_eq_true rfl⟩) (gw_rc (q := (RJ7, TJ7, 3)) hK hG_3 hvc_5.1 rfl) (by show _ ≤ mc0; omega) (by show _ ≤ ms0; omega) (g_St0 E) hz trivial hK hG_3 hS_4 rfl hl.1 rfl (Nat.le_of_ble_eq_true rfl) dX2_sends_14 (fun x4 H locs hvc_6 hG_7 hS_8 => ?_)
  clear hvc_5 hG_3 hS_4
  refine lv_bipush (v := nI 60) hx hb dX2_sends_19 (by decide) ?_
  refine lv_icmp_ge (tgt := 47) hx hb dX2_sends_21 (by decide) (fun h9 => ?_) (fun h9 => ?_)
  · replace hvc_6 := hvc_6.1 h9
    refine lv_aload_n hx hb dX2_sends_47 rfl (lv_at hl 0 rfl) ?_
    refine lv_dup hx hb dX2_sends_48 rfl ?_
    refine gw_gi (C := RX2) (T := TX2) (N := 11) (own := RX2) hx hb hts in_X2 hown hK hG_7 hvc_6 rfl (by decide) (hts _ q319) (fun _ h9 => h9) dX2_sends_49 (fun x6 hvc_9 => ?_)
    clear hvc_6
    refine lv_iconst (v := nI 1) hx hb dX2_sends_52 (by decide) ?_
    refine lv_iadd hx hb dX2_sends_53 ?_
    refine gw_put (ty := .int) (C := RX2) (T := TX2) (N := 11) (own := RX2) hx hb hts in_X2 tyX2 tyX2_ok nmX2 hown hK hG_7 hS_8 hvc_9 rfl (by decide) (hts _ q319) (fun _ h9 => h9) rfl (by decide +kernel) rfl rfl dX2_sends_54 (fun G7 H locs hvc_10 hG_11 hS_12 => ?_)
    clear hvc_9 hG_7 hS_8
    exact g_vret hx hb hr hlocks (by show _ ≤ mc0; omega) (by show _ ≤ ms0; omega) hG_11 hS_12 hvc_10 dX2_sends_57
  · replace hvc_6 := hvc_6.2 h9
    refine lv_aload_n hx hb dX2_sends_24 rfl (lv_at hl 0 rfl) ?_
    refine gw_gr (C := RX2) (T := TX2) (N := 11) (own := RX2) hx hb hts in_X2 hown hK hG_7 hvc_6 rfl (by decide) (hts _ q305) (fun _ h9 => h9) dX2_sends_25 (fun x8 hvc_13 => ?_)
    clear hvc_6
    refine gw_new (C := RX6) (T := TX6) (N := 3) (own := RX2) hx hb hts in_X6 tyX6 tyX6_ok hown (hts _ q827) (hts _ q924) (hts _ q122) hK hG_7 hS_8 hz hvc_13 rfl (by decide) hMC hMS (Nat.le_refl _) (Nat.le_refl _) dX2_sends_28 (fun q9 G10 H ce sl hvc_14 hG_15 hS_16 hMC_17 hMS_18 => ?_)
    clear hvc_13 hG_7 hS_8 hMC hMS
    refine lv_dup hx hb dX2_sends_31 rfl ?_
    refine lv_aload_n hx hb dX2_sends_32 rfl (lv_at hl 1 rfl) ?_
    refine lv_iload_n hx hb dX2_sends_33 rfl (lv_at hl 2 rfl) ?_
    refine lv_iload_n hx hb dX2_sends_34 rfl (lv_at hl 3 rfl) ?_
    refine gw_cCVN (As := [.ref p1, .int p2, .int p3]) (rest := [.ref q9, .ref x8])  ⟨hx, hb, hml, hown, hts⟩ (met_X6_init l E G10 q9 p1 p2 p3 _ hvc_14) (cwI 3 hts (lw_meth q927) rfl rfl rfl (hts _ q122) (hts _ q925) (hts _ q926) rfl (by decide +kernel) ⟨Nat.le_of_ble_eq_true rfl, Nat.le_of_ble_eq_true rfl⟩) (by show _ ≤ mc0; omega) (by show _ ≤ ms0; omega) (g_St0 E) hz trivial hK hG_15 hS_16 rfl hl.1 rfl (Nat.le_of_ble_eq_true rfl) dX2_sends_35 (fun G12 H locs hvc_19 hG_20 hS_21 => ?_)
    clear hvc_14 hG_15 hS_16
    obtain ⟨c15, t16, hc1, hs1, hvc_19⟩ := hvc_19
    refine gw_cFIA (As := [.ref q9]) (rest := []) (hK.1 9 _ rfl).2  ⟨hx, hb, hml, hown, hts⟩ (met_J7_add l E G12 x8 q9 c15 t16 _ hvc_19.2) (va_cwF 1 hts (lw_F q224 q228 q230 q99 q232) rfl rfl rfl (hX.fw (List.mem_of_getElem? (i := 0) rfl)) (by decide +kernel) ⟨Nat.le_of_ble_eq_true rfl, Nat.le_of_ble_eq_true rfl⟩) (gw_rc (q := (RJ7, TJ7, 3)) hK hG_20 hvc_19.1 rfl) hc1 hs1 hMC_17 hMS_18 (Nat.le_refl _) (Nat.le_refl _) (g_X.st E) hz hX hK hG_20 hS_21 rfl hl.1 rfl (Nat.le_of_ble_eq_true rfl) dX2_sends_38 (fun x13 G14 H locs ce sl hvc_22 hG_23 hS_24 hMC_25 hMS_26 => ?_)
    clear hvc_19 hG_20 hS_21 hMC_17 hMS_18
    refine lv_pop hx hb dX2_sends_43 rfl ?_
    refine lv_goto (tgt := 57) hx hb dX2_sends_44 (by decide) ?_
    exact g_vret hx hb hr hlocks (by show _ ≤ mc0; omega) (by show _ ≤ ms0; omega) hG_23 hS_24 hvc_22 dX2_sends_57
set_option maxHeartbeats 4000000 in
set_option maxRecDepth 100000 in
theorem met_X2_hearsAsking (l : Launch) (E : g_E) (G : g_G) (o : Nat) (p1 : Nat) (mc0 ms0 : Nat) (post : g_G → Prop) (hvc : wp_X2_hearsAsking E G o p1 mc0 ms0 post) : g_MV E l yX2_hearsAsking (ws_ yX2_hearsAsking cX2_hearsAsking 5 (Option.none : Option Jvm.ClassFile.FieldType)) ({ frames := 8, cells := mc0, slots := ms0, locals := 214 } : Room) (g_X E) [.ref o, .ref p1] G (post) := by
  refine g_enter (by decide +kernel) (Nat.le_of_ble_eq_true rfl) ?_
  intro p e s m below meth c ls hx hb hr hts hown hlocks hml hin hz hX hK hG hS hl
  have hl : lv_has ls 5 [(0, .ref o), (1, .ref p1)] := hl
  have hown : s.vm.findClass RX2 = some m.cls := hown
  have hMC : 0 + mc0 ≤ mc0 := Nat.le_of_eq (Nat.zero_add _)
  have hMS : 0 + ms0 ≤ ms0 := Nat.le_of_eq (Nat.zero_add _)
  unfold wp_X2_hearsAsking at hvc
  refine lv_aload_n hx hb dX2_hearsAsking_0 rfl (lv_at hl 1 rfl) ?_
  refine gw_giN (C := RX6) (T := TX6) (N := 3) (own := RX2) hx hb hts in_X6 hown hK hG hvc rfl (by decide) (hX.1 _ q936 rfl) (fun _ h9 => h9) dX2_hearsAsking_1 (fun x1 hvc_1 => ?_)
  clear hvc
  refine lv_istore_n (lv' := [(2, .int x1), (0, .ref o), (1, .ref p1)]) hx hb dX2_hearsAsking_4 rfl hl (by decide) rfl (fun ls hl_2 => ?_)
  clear hl
  refine lv_aload_n hx hb dX2_hearsAsking_5 rfl (lv_at hl_2 2 rfl) ?_
  refine gw_giN (C := RX6) (T := TX6) (N := 3) (own := RX2) hx hb hts in_X6 hown hK hG hvc_1 rfl (by decide) (hX.1 _ q933 rfl) (fun _ h9 => h9) dX2_hearsAsking_6 (fun x2 hvc_3 => ?_)
  clear hvc_1
  refine lv_istore_n (lv' := [(3, .int x2), (2, .int x1), (0, .ref o), (1, .ref p1)]) hx hb dX2_hearsAsking_9 rfl hl_2 (by decide) rfl (fun ls hl_4 => ?_)
  clear hl_2
  refine lv_aload_n hx hb dX2_hearsAsking_10 rfl (lv_at hl_4 2 rfl) ?_
  refine lv_iload_n hx hb dX2_hearsAsking_11 rfl (lv_at hl_4 1 rfl) ?_
  refine lv_iload_n hx hb dX2_hearsAsking_12 rfl (lv_at hl_4 0 rfl) ?_
  refine gw_cVIP (As := [.int x1, .int x2]) (rest := [])  ⟨hx, hb, hml, hown, hts⟩ (met_X2_state l E G o x1 x2 _ hvc_3.2) (cwV 2 hts (lw_V q849 q850 q851 q97 q852) rfl rfl rfl (by decide +kernel) ⟨Nat.le_of_ble_eq_true rfl, Nat.le_of_ble_eq_true rfl⟩) (gw_rc (q := (RX2, TX2, 11)) hK hG hvc_3.1 rfl) (by show _ ≤ mc0; omega) (by show _ ≤ ms0; omega) (g_St0 E) hz trivial hK hG hS rfl hl_4.1 rfl (Nat.le_of_ble_eq_true rfl) dX2_hearsAsking_13 (fun x3 H locs hvc_5 hG_6 hS_7 => ?_)
  clear hvc_3 hG hS
  have jn75 : ∀ (y0 : Nat) (y2 : Int32) (y3 : Int32) (G : g_G) (mc : Nat) (ms : Nat) (H : Heap) (locs : List Loc) (ls : Array Slot) (ce sl : Nat), wp_X2_hearsAsking_75 E post y0 y2 y3 G mc ms → g_H E G H → va_S (g_A E) s.heap H locs → lv_has ls 5 [(0, .ref y0), (2, .int y2), (3, .int y3)] → ce + mc ≤ mc0 → sl + ms ≤ ms0 → W p l e ({ frames := 8, cells := mc0, slots := ms0, locals := 214 } : Room) s m ([.ref o, .ref p1] : List Value).toArray below meth c H locs ce sl (MQ below (va_Qv (post) (g_Bk E) (g_A E)) ([.ref o, .ref p1] : List Value).toArray s mc0 ms0 (g_A E)) (F0 m 75 ls []) := by
    clear hvc_5 hG_6 hS_7 hl_4 hMC hMS
    intro y0 y2 y3 G mc ms H locs ls ce sl hvc_8 hG_9 hS_10 hl_11 hMC_12 hMS_13
    refine lv_aload_n hx hb dX2_hearsAsking_75 rfl (lv_at hl_11 0 rfl) ?_
    refine lv_aload_n hx hb dX2_hearsAsking_76 rfl (lv_at hl_11 0 rfl) ?_
    refine lv_iload_n hx hb dX2_hearsAsking_77 rfl (lv_at hl_11 1 rfl) ?_
    refine lv_iload_n hx hb dX2_hearsAsking_78 rfl (lv_at hl_11 2 rfl) ?_
    refine gw_cVIP (As := [.int y2, .int y3]) (rest := [.ref y0])  ⟨hx, hb, hml, hown, hts⟩ (met_X2_state l E G y0 y2 y3 _ hvc_8.2) (cwV 2 hts (lw_V q849 q850 q851 q97 q852) rfl rfl rfl (by decide +kernel) ⟨Nat.le_of_ble_eq_true rfl, Nat.le_of_ble_eq_true rfl⟩) (gw_rc (q := (RX2, TX2, 11)) hK hG_9 hvc_8.1 rfl) (by show _ ≤ mc0; omega) (by show _ ≤ ms0; omega) (g_St0 E) hz trivial hK hG_9 hS_10 rfl hl_11.1 rfl (Nat.le_of_ble_eq_true rfl) dX2_hearsAsking_79 (fun x5 H locs hvc_14 hG_15 hS_16 => ?_)
    clear hvc_8 hG_9 hS_10
    refine lv_iconst (v := nI 3) hx hb dX2_hearsAsking_82 (by decide) ?_
    have jn95 : ∀ (y2 : Int32) (y3 : Int32) (s0 : Nat) (s1 : Nat) (G : g_G) (mc : Nat) (ms : Nat) (H : Heap) (locs : List Loc) (ls : Array Slot) (ce sl : Nat), wp_X2_hearsAsking_95 E post y2 y3 s0 s1 G mc ms → g_H E G H → va_S (g_A E) s.heap H locs → lv_has ls 5 [(2, .int y2), (3, .int y3)] → ce + mc ≤ mc0 → sl + ms ≤ ms0 → W p l e ({ frames := 8, cells := mc0, slots := ms0, locals := 214 } : Room) s m ([.ref o, .ref p1] : List Value).toArray below meth c H locs ce sl (MQ below (va_Qv (post) (g_Bk E) (g_A E)) ([.ref o, .ref p1] : List Value).toArray s mc0 ms0 (g_A E)) (F0 m 95 ls [.ref s0, .ref s1]) := by
      clear hvc_14 hG_15 hS_16 hl_11 hMC_12 hMS_13
      intro y2 y3 s0 s1 G mc ms H locs ls ce sl hvc_17 hG_18 hS_19 hl_20 hMC_21 hMS_22
      refine lv_iload_n hx hb dX2_hearsAsking_95 rfl (lv_at hl_20 1 rfl) ?_
      refine lv_iload_n hx hb dX2_hearsAsking_96 rfl (lv_at hl_20 0 rfl) ?_
      obtain ⟨c9, t10, hc1, hs1, hvc_17⟩ := hvc_17
      refine gw_cVVA (As := [.ref s0, .int y3, .int y2]) (rest := [])  ⟨hx, hb, hml, hown, hts⟩ (met_X2_sends l E G s1 s0 y3 y2 c9 t10 _ hvc_17.2) (cwV 3 hts (lw_V q920 q922 qs11 q97 q923) rfl rfl rfl (by decide +kernel) ⟨Nat.le_of_ble_eq_true rfl, Nat.le_of_ble_eq_true rfl⟩) (gw_rc (q := (RX2, TX2, 11)) hK hG_18 hvc_17.1 rfl) hc1 hs1 hMC_21 hMS_22 (Nat.le_refl _) (Nat.le_refl _) (g_X.st E) hz hX hK hG_18 hS_19 rfl hl_20.1 rfl (Nat.le_of_ble_eq_true rfl) dX2_hearsAsking_97 (fun G8 H locs ce sl hvc_23 hG_24 hS_25 hMC_26 hMS_27 => ?_)
      clear hvc_17 hG_18 hS_19 hMC_21 hMS_22
      exact g_vret hx hb hr hlocks (by show _ ≤ mc0; omega) (by show _ ≤ ms0; omega) hG_24 hS_25 hvc_23 dX2_hearsAsking_100
    refine lv_icmp_ne (tgt := 92) hx hb dX2_hearsAsking_83 (by decide) (fun h9 => ?_) (fun h9 => ?_)
    · replace hvc_14 := hvc_14.1 h9
      refine va_gets (A := g_A E) hx hb (hX.kz 1 (by decide)) hS_16 hown (hts _ q918) (fun _ h9 => h9) dX2_hearsAsking_92 ?_
      exact jn95 y2 y3 (g_k E 1) y0 G mc ms _ _ _ _ _ hvc_14 hG_15 hS_16 (lv_sub hl_11 [1, 2] rfl) hMC_12 hMS_13
    · replace hvc_14 := hvc_14.2 h9
      refine va_gets (A := g_A E) hx hb (hX.kz 2 (by decide)) hS_16 hown (hts _ q916) (fun _ h9 => h9) dX2_hearsAsking_86 ?_
      refine lv_goto (tgt := 95) hx hb dX2_hearsAsking_89 (by decide) ?_
      exact jn95 y2 y3 (g_k E 2) y0 G mc ms _ _ _ _ _ hvc_14 hG_15 hS_16 (lv_sub hl_11 [1, 2] rfl) hMC_12 hMS_13
  refine lv_if_ne (tgt := 75) hx hb dX2_hearsAsking_16 (by decide) (fun h9 => ?_) (fun h9 => ?_)
  · replace hvc_5 := hvc_5.1 h9
    exact jn75 o x1 x2 G mc0 ms0 _ _ _ _ _ hvc_5 hG_6 hS_7 (lv_sub hl_4 [2, 1, 0] rfl) hMC hMS
  · replace hvc_5 := hvc_5.2 h9
    refine lv_aload_n hx hb dX2_hearsAsking_19 rfl (lv_at hl_4 2 rfl) ?_
    refine lv_iload_n hx hb dX2_hearsAsking_20 rfl (lv_at hl_4 1 rfl) ?_
    refine lv_aload_n hx hb dX2_hearsAsking_21 rfl (lv_at hl_4 2 rfl) ?_
    refine gw_gr (C := RX2) (T := TX2) (N := 11) (own := RX2) hx hb hts in_X2 hown hK hG_6 hvc_5 rfl (by decide) (hts _ q301) (fun _ h9 => h9) dX2_hearsAsking_22 (fun x11 hvc_28 => ?_)
    clear hvc_5
    refine lv_iload_n hx hb dX2_hearsAsking_25 rfl (lv_at hl_4 0 rfl) ?_
    refine gw_cFQP (As := [.int x2]) (rest := [.int x1, .ref o]) (hK.1 9 _ rfl).2  ⟨hx, hb, hml, hown, hts⟩ (met_J7_get l E G x11 x2 _ hvc_28.2) (va_cwF 1 hts (lw_F q854 q857 q859 q99 q861) rfl rfl rfl (hX.fw (List.mem_of_getElem? (i := 5) rfl)) (by decide +kernel) ⟨Nat.le_of_ble_eq_true rfl, Nat.le_of_ble_eq_true rfl⟩) (gw_rc (q := (RJ7, TJ7, 3)) hK hG_6 hvc_28.1 rfl) (by show _ ≤ mc0; omega) (by show _ ≤ ms0; omega) (g_St0 E) hz trivial hK hG_6 hS_7 rfl hl_4.1 rfl (Nat.le_of_ble_eq_true rfl) dX2_hearsAsking_26 (fun x12 H locs hvc_29 hG_30 hS_31 => ?_)
    clear hvc_28 hG_6 hS_7
    refine gw_castS (v := x12) (ci := 3) hx hb hown (hts _ q866) hK hG_30 rfl rfl hvc_29 dX2_hearsAsking_31 (fun z14 hy9 hvc_32 => ?_)
    clear hvc_29
    subst hy9
    refine lv_iload_n hx hb dX2_hearsAsking_34 rfl (lv_at hl_4 1 rfl) ?_
    refine gw_cVIP (As := [.int x1]) (rest := [.int x1, .ref o])  ⟨hx, hb, hml, hown, hts⟩ (met_X4_share l E G z14 x1 _ hvc_32.2) (cwV 1 hts (lw_V q867 q868 q869 q117 q870) rfl rfl rfl (by decide +kernel) ⟨Nat.le_of_ble_eq_true rfl, Nat.le_of_ble_eq_true rfl⟩) (gw_rc (q := (RX4, TX4, 3)) hK hG_30 hvc_32.1 rfl) (by show _ ≤ mc0; omega) (by show _ ≤ ms0; omega) (g_X.st E) hz hX hK hG_30 hS_31 rfl hl_4.1 rfl (Nat.le_of_ble_eq_true rfl) dX2_hearsAsking_35 (fun x15 H locs hvc_33 hG_34 hS_35 => ?_)
    clear hvc_32 hG_30 hS_31
    refine gw_cVIP (As := [.int x1, .int x15]) (rest := [])  ⟨hx, hb, hml, hown, hts⟩ (met_X2_canTake l E G o x1 x15 _ hvc_33.2) (cwV 2 hts (lw_V q878 q879 q880 q97 q881) rfl rfl rfl (by decide +kernel) ⟨Nat.le_of_ble_eq_true rfl, Nat.le_of_ble_eq_true rfl⟩) (gw_rc (q := (RX2, TX2, 11)) hK hG_34 hvc_33.1 rfl) (by show _ ≤ mc0; omega) (by show _ ≤ ms0; omega) (g_X.st E) hz hX hK hG_34 hS_35 rfl hl_4.1 rfl (Nat.le_of_ble_eq_true rfl) dX2_hearsAsking_38 (fun x17 H locs hvc_36 hG_37 hS_38 => ?_)
    clear hvc_33 hG_34 hS_35
    refine lv_istore (lv' := [(4, .int x17), (3, .int x2), (2, .int x1), (0, .ref o), (1, .ref p1)]) hx hb dX2_hearsAsking_41 hl_4 (by decide) rfl (fun ls hl_39 => ?_)
    clear hl_4
    refine lv_aload_n hx hb dX2_hearsAsking_43 rfl (lv_at hl_39 3 rfl) ?_
    refine lv_iload_n hx hb dX2_hearsAsking_44 rfl (lv_at hl_39 2 rfl) ?_
    refine lv_iload hx hb dX2_hearsAsking_45 (lv_at hl_39 0 rfl) ?_
    have jn55 : ∀ (y0 : Nat) (y2 : Int32) (y3 : Int32) (y4 : Int32) (s0 : Int32) (s1 : Int32) (s2 : Nat) (G : g_G) (mc : Nat) (ms : Nat) (H : Heap) (locs : List Loc) (ls : Array Slot) (ce sl : Nat), wp_X2_hearsAsking_55 E post (wp_X2_hearsAsking_75 E post) y0 y2 y3 y4 s0 s1 s2 G mc ms → g_H E G H → va_S (g_A E) s.heap H locs → lv_has ls 5 [(0, .ref y0), (2, .int y2), (3, .int y3), (4, .int y4)] → ce + mc ≤ mc0 → sl + ms ≤ ms0 → W p l e ({ frames := 8, cells := mc0, slots := ms0, locals := 214 } : Room) s m ([.ref o, .ref p1] : List Value).toArray below meth c H locs ce sl (MQ below (va_Qv (post) (g_Bk E) (g_A E)) ([.ref o, .ref p1] : List Value).toArray s mc0 ms0 (g_A E)) (F0 m 55 ls [.int s0, .int s1, .ref s2]) := by
      clear hvc_36 hG_37 hS_38 hl_39 hMC hMS
      intro y0 y2 y3 y4 s0 s1 s2 G mc ms H locs ls ce sl hvc_40 hG_41 hS_42 hl_43 hMC_44 hMS_45
      refine lv_iload_n hx hb dX2_hearsAsking_55 rfl (lv_at hl_43 2 rfl) ?_
      obtain ⟨c21, t22, hc1, hs1, hvc_40⟩ := hvc_40
      refine gw_cVVA (As := [.int s1, .int s0, .int y3]) (rest := [])  ⟨hx, hb, hml, hown, hts⟩ (met_X2_writes l E G s2 s1 s0 y3 c21 t22 _ hvc_40.2) (cwV 3 hts (lw_V q891 q893 qs9 q97 q894) rfl rfl rfl (by decide +kernel) ⟨Nat.le_of_ble_eq_true rfl, Nat.le_of_ble_eq_true rfl⟩) (gw_rc (q := (RX2, TX2, 11)) hK hG_41 hvc_40.1 rfl) hc1 hs1 hMC_44 hMS_45 (Nat.le_refl _) (Nat.le_refl _) (g_X.st E) hz hX hK hG_41 hS_42 rfl hl_43.1 rfl (Nat.le_of_ble_eq_true rfl) dX2_hearsAsking_56 (fun G20 H locs ce sl hvc_46 hG_47 hS_48 hMC_49 hMS_50 => ?_)
      clear hvc_40 hG_41 hS_42 hMC_44 hMS_45
      refine lv_aload_n hx hb dX2_hearsAsking_59 rfl (lv_at hl_43 0 rfl) ?_
      refine lv_iload_n hx hb dX2_hearsAsking_60 rfl (lv_at hl_43 1 rfl) ?_
      refine lv_iload_n hx hb dX2_hearsAsking_61 rfl (lv_at hl_43 2 rfl) ?_
      refine lv_iload hx hb dX2_hearsAsking_62 (lv_at hl_43 3 rfl) ?_
      have jn72 : ∀ (y0 : Nat) (y2 : Int32) (y3 : Int32) (s0 : Int32) (s1 : Int32) (s2 : Int32) (s3 : Nat) (G : g_G) (mc : Nat) (ms : Nat) (H : Heap) (locs : List Loc) (ls : Array Slot) (ce sl : Nat), wp_X2_hearsAsking_72 E post (wp_X2_hearsAsking_75 E post) y0 y2 y3 s0 s1 s2 s3 G mc ms → g_H E G H → va_S (g_A E) s.heap H locs → lv_has ls 5 [(0, .ref y0), (2, .int y2), (3, .int y3)] → ce + mc ≤ mc0 → sl + ms ≤ ms0 → W p l e ({ frames := 8, cells := mc0, slots := ms0, locals := 214 } : Room) s m ([.ref o, .ref p1] : List Value).toArray below meth c H locs ce sl (MQ below (va_Qv (post) (g_Bk E) (g_A E)) ([.ref o, .ref p1] : List Value).toArray s mc0 ms0 (g_A E)) (F0 m 72 ls [.int s0, .int s1, .int s2, .ref s3]) := by
        clear hvc_46 hG_47 hS_48 hl_43 hMC_49 hMS_50
        intro y0 y2 y3 s0 s1 s2 s3 G mc ms H locs ls ce sl hvc_51 hG_52 hS_53 hl_54 hMC_55 hMS_56
        refine gw_cVVN (As := [.int s2, .int s1, .int s0]) (rest := [])  ⟨hx, hb, hml, hown, hts⟩ (met_X2_becomes l E G s3 s2 s1 s0 _ hvc_51.2) (cwV 3 hts (lw_V q912 q914 qs10 q97 q915) rfl rfl rfl (by decide +kernel) ⟨Nat.le_of_ble_eq_true rfl, Nat.le_of_ble_eq_true rfl⟩) (gw_rc (q := (RX2, TX2, 11)) hK hG_52 hvc_51.1 rfl) (by show _ ≤ mc0; omega) (by show _ ≤ ms0; omega) (g_St0 E) hz trivial hK hG_52 hS_53 rfl hl_54.1 rfl (Nat.le_of_ble_eq_true rfl) dX2_hearsAsking_72 (fun G24 H locs hvc_57 hG_58 hS_59 => ?_)
        clear hvc_51 hG_52 hS_53
        exact jn75 y0 y2 y3 G24 mc ms _ _ _ _ _ hvc_57 hG_58 hS_59 (lv_sub hl_54 [0, 1, 2] rfl) hMC_55 hMS_56
      refine lv_if_eq (tgt := 71) hx hb dX2_hearsAsking_64 (by decide) (fun h9 => ?_) (fun h9 => ?_)
      · replace hvc_46 := hvc_46.1 h9
        refine lv_iconst (v := nI 3) hx hb dX2_hearsAsking_71 (by decide) ?_
        exact jn72 y0 y2 y3 (nI 3) y3 y2 y0 G20 (mc - c21) (ms - t22) _ _ _ _ _ hvc_46 hG_47 hS_48 (lv_sub hl_43 [0, 1, 2] rfl) hMC_49 hMS_50
      · replace hvc_46 := hvc_46.2 h9
        refine lv_iconst (v := nI 1) hx hb dX2_hearsAsking_67 (by decide) ?_
        refine lv_goto (tgt := 72) hx hb dX2_hearsAsking_68 (by decide) ?_
        exact jn72 y0 y2 y3 (nI 1) y3 y2 y0 G20 (mc - c21) (ms - t22) _ _ _ _ _ hvc_46 hG_47 hS_48 (lv_sub hl_43 [0, 1, 2] rfl) hMC_49 hMS_50
    refine lv_if_eq (tgt := 54) hx hb dX2_hearsAsking_47 (by decide) (fun h9 => ?_) (fun h9 => ?_)
    · replace hvc_36 := hvc_36.1 h9
      refine lv_iconst (v := nI 2) hx hb dX2_hearsAsking_54 (by decide) ?_
      exact jn55 o x1 x2 x17 (nI 2) x1 o G mc0 ms0 _ _ _ _ _ hvc_36 hG_37 hS_38 (lv_sub hl_39 [3, 2, 1, 0] rfl) hMC hMS
    · replace hvc_36 := hvc_36.2 h9
      refine lv_iconst (v := nI 4) hx hb dX2_hearsAsking_50 (by decide) ?_
      refine lv_goto (tgt := 55) hx hb dX2_hearsAsking_51 (by decide) ?_
      exact jn55 o x1 x2 x17 (nI 4) x1 o G mc0 ms0 _ _ _ _ _ hvc_36 hG_37 hS_38 (lv_sub hl_39 [3, 2, 1, 0] rfl) hMC hMS
set_option maxHeartbeats 4000000 in
set_option maxRecDepth 100000 in
theorem wlk_X10_comes (l : Launch) (E : g_E) (G : g_G) (o : Nat) (p1 : Nat) (p2 : Nat) (mc0 ms0 : Nat) (post : g_G → Prop) (hvc : wp_X10_comes E G o p1 p2 mc0 ms0 post) (p : Program) (e : Env) (s : State) (m : MethodId) (below : List Frame) (meth : Method) (c : Code) (ls : Array Slot) (hx : p.tables.exec = Jvm.exec) (hb : c.code = cX10_comes) (hr : meth.sig.returnType = (Option.none : Option Jvm.ClassFile.FieldType)) (hts : ∀ w ∈ lw_all, w.before ([.ref o, .ref p1, .ref p2] : List Value).toArray s = true) (hown : s.vm.findClass RX10 = some m.cls) (hlocks : meth.locks = false) (hml : c.maxLocals = 3) (hin : meth.name = yX10_comes.name) (hz : E.2.2 ≤ s.heap.size) (hX : g_X E s) (hK : g_K E s) (hG : g_H E G s.heap) (hS : va_S (g_A E) s.heap s.heap []) (hl : lv_has ls 3 (lv_args 0 [.ref o, .ref p1, .ref p2])) : W p l e ({ frames := 9, cells := mc0, slots := ms0, locals := 238 } : Room) s m ([.ref o, .ref p1, .ref p2] : List Value).toArray below meth c s.heap [] 0 0 (MQ below (va_Qv (post) (g_Bk E) (g_A E)) ([.ref o, .ref p1, .ref p2] : List Value).toArray s mc0 ms0 (g_A E)) (F0 m 0 ls []) := by
  have hl : lv_has ls 3 [(0, .ref o), (1, .ref p1), (2, .ref p2)] := hl
  have hMC : 0 + mc0 ≤ mc0 := Nat.le_of_eq (Nat.zero_add _)
  have hMS : 0 + ms0 ≤ ms0 := Nat.le_of_eq (Nat.zero_add _)
  unfold wp_X10_comes at hvc
  refine lv_aload_n hx hb dX10_comes_0 rfl (lv_at hl 1 rfl) ?_
  refine lv_aload_n hx hb dX10_comes_1 rfl (lv_at hl 2 rfl) ?_
  obtain ⟨c3, t4, hc1, hs1, hvc⟩ := hvc
  refine gw_cVVA (As := [.ref p2]) (rest := [])  ⟨hx, hb, hml, hown, hts⟩ (met_X2_hearsAsking l E G p1 p2 c3 t4 _ hvc.2) (cwV 1 hts (lw_V q845 q846 q847 q97 q848) rfl rfl rfl (by decide +kernel) ⟨Nat.le_of_ble_eq_true rfl, Nat.le_of_ble_eq_true rfl⟩) (gw_rc (q := (RX2, TX2, 11)) hK hG hvc.1 rfl) hc1 hs1 hMC hMS (Nat.le_refl _) (Nat.le_refl _) (g_X.st E) hz hX hK hG hS rfl hl.1 rfl (Nat.le_of_ble_eq_true rfl) dX10_comes_2 (fun G2 H locs ce sl hvc_1 hG_2 hS_3 hMC_4 hMS_5 => ?_)
  clear hvc hG hS hMC hMS
  exact g_vret hx hb hr hlocks (by show _ ≤ mc0; omega) (by show _ ≤ ms0; omega) hG_2 hS_3 hvc_1 dX10_comes_5
set_option maxHeartbeats 4000000 in
set_option maxRecDepth 100000 in
theorem met_X2_lastKind (l : Launch) (E : g_E) (G : g_G) (o : Nat) (p1 : Int32) (p2 : Int32) (p3 : Int32) (mc0 ms0 : Nat) (post : Int32 → g_G → Prop) (hvc : wp_X2_lastKind E G o p1 p2 p3 mc0 ms0 post) : g_MI E l yX2_lastKind (ws_ yX2_lastKind cX2_lastKind 7 (Option.some Jvm.ClassFile.FieldType.int)) ({ frames := 3, cells := mc0, slots := ms0, locals := 64 } : Room) (g_X E) [.ref o, .int p1, .int p2, .int p3] G (post) := by
  refine g_enter (by decide +kernel) (Nat.le_of_ble_eq_true rfl) ?_
  intro p e s m below meth c ls hx hb hr hts hown hlocks hml hin hz hX hK hG hS hl
  have hl : lv_has ls 7 [(0, .ref o), (1, .int p1), (2, .int p2), (3, .int p3)] := hl
  have hown : s.vm.findClass RX2 = some m.cls := hown
  have hMC : 0 + mc0 ≤ mc0 := Nat.le_of_eq (Nat.zero_add _)
  have hMS : 0 + ms0 ≤ ms0 := Nat.le_of_eq (Nat.zero_add _)
  unfold wp_X2_lastKind at hvc
  refine lv_iconst (v := -nI 1) hx hb dX2_lastKind_0 (by decide) ?_
  refine lv_istore (lv' := [(4, .int (-nI 1)), (0, .ref o), (1, .int p1), (2, .int p2), (3, .int p3)]) hx hb dX2_lastKind_1 hl (by decide) rfl (fun ls hl_1 => ?_)
  clear hl
  refine lv_aload_n hx hb dX2_lastKind_3 rfl (lv_at hl_1 1 rfl) ?_
  refine gw_gr (C := RX2) (T := TX2) (N := 11) (own := RX2) hx hb hts in_X2 hown hK hG hvc rfl (by decide) (hts _ q303) (fun _ h9 => h9) dX2_lastKind_4 (fun x1 hvc_2 => ?_)
  clear hvc
  refine lv_iload_n hx hb dX2_lastKind_7 rfl (lv_at hl_1 2 rfl) ?_
  refine gw_cFQP (As := [.int p1]) (rest := []) (hK.1 9 _ rfl).2  ⟨hx, hb, hml, hown, hts⟩ (met_J7_get l E G x1 p1 _ hvc_2.2) (va_cwF 1 hts (lw_F q854 q857 q859 q99 q861) rfl rfl rfl (hX.fw (List.mem_of_getElem? (i := 5) rfl)) (by decide +kernel) ⟨Nat.le_of_ble_eq_true rfl, Nat.le_of_ble_eq_true rfl⟩) (gw_rc (q := (RJ7, TJ7, 3)) hK hG hvc_2.1 rfl) (by show _ ≤ mc0; omega) (by show _ ≤ ms0; omega) (g_St0 E) hz trivial hK hG hS rfl hl_1.1 rfl (Nat.le_of_ble_eq_true rfl) dX2_lastKind_8 (fun x2 H locs hvc_3 hG_4 hS_5 => ?_)
  clear hvc_2 hG hS
  refine gw_castY (v := x2) (ci := 9) hx hb hown (hts _ q738) hK hG_4 rfl (hX.1 _ q227 rfl) hvc_3 dX2_lastKind_13 (fun z4 hy9 hvc_6 => ?_)
  clear hvc_3
  subst hy9
  obtain ⟨c7, t8, hc1, hs1, hvc_6⟩ := hvc_6
  refine gw_cFQA (As := []) (rest := []) (hK.1 9 _ rfl).2  ⟨hx, hb, hml, hown, hts⟩ (met_J7_iterator l E G z4 c7 t8 _ hvc_6.2) (va_cwF 0 hts (lw_F q688 q691 q693 q99 q695) rfl rfl rfl (hX.fw (List.mem_of_getElem? (i := 2) rfl)) (by decide +kernel) ⟨Nat.le_of_ble_eq_true rfl, Nat.le_of_ble_eq_true rfl⟩) (gw_rc (q := (RJ7, TJ7, 3)) hK hG_4 hvc_6.1 rfl) hc1 hs1 hMC hMS (Nat.le_refl _) (Nat.le_refl _) (g_St0 E) hz trivial hK hG_4 hS_5 rfl hl_1.1 rfl (Nat.le_of_ble_eq_true rfl) dX2_lastKind_16 (fun x5 G6 H locs ce sl hvc_7 hG_8 hS_9 hMC_10 hMS_11 => ?_)
  clear hvc_6 hG_4 hS_5 hMC hMS
  have lp23 : ∀ (n23 : Nat) (y2 : Int32) (y3 : Int32) (y4 : Int32) (y5 : Option Nat) (G : g_G) (mc : Nat) (ms : Nat) (H : Heap) (locs : List Loc) (ls : Array Slot) (ce sl : Nat), wp_X2_lastKind_23 E post n23 y2 y3 y4 y5 G mc ms → g_H E G H → va_S (g_A E) s.heap H locs → lv_has ls 7 [(2, .int y2), (3, .int y3), (4, .int y4), (5, va_rf y5)] → ce + mc ≤ mc0 → sl + ms ≤ ms0 → W p l e ({ frames := 3, cells := mc0, slots := ms0, locals := 64 } : Room) s m ([.ref o, .int p1, .int p2, .int p3] : List Value).toArray below meth c H locs ce sl (MQ below (va_Qi (post) (g_Bk E) (g_A E)) ([.ref o, .int p1, .int p2, .int p3] : List Value).toArray s mc0 ms0 (g_A E)) (F0 m 23 ls []) := by
    clear hvc_7 hG_8 hS_9 hl_1 hMC_10 hMS_11
    intro n23
    induction n23 with
    | zero =>
      intro y2 y3 y4 y5 G mc ms H locs ls ce sl hvc_12 hG_13 hS_14 hl_15 hMC_16 hMS_17
      exact False.elim hvc_12
    | succ n23 ih23 =>
      intro y2 y3 y4 y5 G mc ms H locs ls ce sl hvc_18 hG_19 hS_20 hl_21 hMC_22 hMS_23
      refine gq_aload hx hb dX2_lastKind_23 (lv_at hl_21 3 rfl) ?_
      obtain ⟨z9, rfl, hvc_18⟩ := hvc_18
      refine gw_cFIP (As := []) (rest := []) (hK.1 10 _ rfl).2  ⟨hx, hb, hml, hown, hts⟩ (met_J21_hasNext l E G z9 _ hvc_18.2) (va_cwF 0 hts (lw_F q716 q720 q722 q116 q724) rfl rfl rfl (hX.fw (List.mem_of_getElem? (i := 8) rfl)) (by decide +kernel) ⟨Nat.le_of_ble_eq_true rfl, Nat.le_of_ble_eq_true rfl⟩) (gw_rc (q := (RJ21, TJ21, 4)) hK hG_19 hvc_18.1 rfl) (by show _ ≤ mc0; omega) (by show _ ≤ ms0; omega) (g_X.st E) hz hX hK hG_19 hS_20 rfl hl_21.1 rfl (Nat.le_of_ble_eq_true rfl) dX2_lastKind_25 (fun x10 H locs hvc_24 hG_25 hS_26 => ?_)
      clear hvc_18 hG_19 hS_20
      refine lv_if_eq (tgt := 78) hx hb dX2_lastKind_30 (by decide) (fun h9 => ?_) (fun h9 => ?_)
      · replace hvc_24 := hvc_24.1 h9
        refine lv_iload hx hb dX2_lastKind_78 (lv_at hl_21 2 rfl) ?_
        exact g_iret hx hb hr hlocks (by show _ ≤ mc0; omega) (by show _ ≤ ms0; omega) hG_25 hS_26 rfl hvc_24 dX2_lastKind_80
      · replace hvc_24 := hvc_24.2 h9
        refine lv_aload hx hb dX2_lastKind_33 (lv_at hl_21 3 rfl) ?_
        obtain ⟨c14, t15, hc1, hs1, hvc_24⟩ := hvc_24
        refine gw_cFQA (As := []) (rest := []) (hK.1 10 _ rfl).2  ⟨hx, hb, hml, hown, hts⟩ (met_J21_next l E G z9 c14 t15 _ hvc_24.2) (va_cwF 0 hts (lw_F q726 q729 q731 q116 q733) rfl rfl rfl (hX.fw (List.mem_of_getElem? (i := 9) rfl)) (by decide +kernel) ⟨Nat.le_of_ble_eq_true rfl, Nat.le_of_ble_eq_true rfl⟩) (gw_rc (q := (RJ21, TJ21, 4)) hK hG_25 hvc_24.1 rfl) hc1 hs1 hMC_22 hMS_23 (Nat.le_refl _) (Nat.le_refl _) (g_X.st E) hz hX hK hG_25 hS_26 rfl hl_21.1 rfl (Nat.le_of_ble_eq_true rfl) dX2_lastKind_35 (fun x12 G13 H locs ce sl hvc_27 hG_28 hS_29 hMC_30 hMS_31 => ?_)
        clear hvc_24 hG_25 hS_26 hMC_22 hMS_23
        refine gw_castS (v := x12) (ci := 4) hx hb hown (hts _ q895) hK hG_28 rfl rfl hvc_27 dX2_lastKind_40 (fun z16 hy9 hvc_32 => ?_)
        clear hvc_27
        subst hy9
        refine lv_astore (lv' := [(6, .ref z16), (2, .int y2), (3, .int y3), (4, .int y4), (5, .ref z9)]) hx hb dX2_lastKind_43 hl_21 (by decide) rfl (fun ls hl_33 => ?_)
        clear hl_21
        refine lv_aload hx hb dX2_lastKind_45 (lv_at hl_33 0 rfl) ?_
        refine gw_giN (C := RX5) (T := TX5) (N := 2) (own := RX2) hx hb hts in_X5 hown hK hG_28 hvc_32 rfl (by decide) (hX.1 _ q905 rfl) (fun _ h9 => h9) dX2_lastKind_47 (fun x17 hvc_34 => ?_)
        clear hvc_32
        refine lv_iload_n hx hb dX2_lastKind_50 rfl (lv_at hl_33 1 rfl) ?_
        have jn73 : ∀ (y2 : Int32) (y3 : Int32) (y5 : Option Nat) (s0 : Int32) (G : g_G) (mc : Nat) (ms : Nat) (H : Heap) (locs : List Loc) (ls : Array Slot) (ce sl : Nat), wp_X2_lastKind_73 E post (wp_X2_lastKind_23 E post n23) y2 y3 y5 s0 G mc ms → g_H E G H → va_S (g_A E) s.heap H locs → lv_has ls 7 [(2, .int y2), (3, .int y3), (5, va_rf y5)] → ce + mc ≤ mc0 → sl + ms ≤ ms0 → W p l e ({ frames := 3, cells := mc0, slots := ms0, locals := 64 } : Room) s m ([.ref o, .int p1, .int p2, .int p3] : List Value).toArray below meth c H locs ce sl (MQ below (va_Qi (post) (g_Bk E) (g_A E)) ([.ref o, .int p1, .int p2, .int p3] : List Value).toArray s mc0 ms0 (g_A E)) (F0 m 73 ls [.int s0]) := by
          clear hvc_34 hG_28 hS_29 hl_33 hMC_30 hMS_31
          intro y2 y3 y5 s0 G mc ms H locs ls ce sl hvc_35 hG_36 hS_37 hl_38 hMC_39 hMS_40
          refine lv_istore (lv' := [(4, .int s0), (2, .int y2), (3, .int y3), (5, va_rf y5)]) hx hb dX2_lastKind_73 hl_38 (by decide) rfl (fun ls hl_41 => ?_)
          clear hl_38
          refine lv_goto (tgt := 23) hx hb dX2_lastKind_75 (by decide) ?_
          exact ih23 y2 y3 s0 y5 G mc ms _ _ _ _ _ hvc_35 hG_36 hS_37 (lv_sub hl_41 [1, 2, 0, 3] rfl) hMC_39 hMS_40
        have jn71 : ∀ (y2 : Int32) (y3 : Int32) (y4 : Int32) (y5 : Option Nat) (G : g_G) (mc : Nat) (ms : Nat) (H : Heap) (locs : List Loc) (ls : Array Slot) (ce sl : Nat), wp_X2_lastKind_71 E post (wp_X2_lastKind_73 E post (wp_X2_lastKind_23 E post n23)) y2 y3 y4 y5 G mc ms → g_H E G H → va_S (g_A E) s.heap H locs → lv_has ls 7 [(2, .int y2), (3, .int y3), (4, .int y4), (5, va_rf y5)] → ce + mc ≤ mc0 → sl + ms ≤ ms0 → W p l e ({ frames := 3, cells := mc0, slots := ms0, locals := 64 } : Room) s m ([.ref o, .int p1, .int p2, .int p3] : List Value).toArray below meth c H locs ce sl (MQ below (va_Qi (post) (g_Bk E) (g_A E)) ([.ref o, .int p1, .int p2, .int p3] : List Value).toArray s mc0 ms0 (g_A E)) (F0 m 71 ls []) := by
          clear hvc_34 hG_28 hS_29 hl_33 hMC_30 hMS_31
          intro y2 y3 y4 y5 G mc ms H locs ls ce sl hvc_42 hG_43 hS_44 hl_45 hMC_46 hMS_47
          refine lv_iload hx hb dX2_lastKind_71 (lv_at hl_45 2 rfl) ?_
          exact jn73 y2 y3 y5 y4 G mc ms _ _ _ _ _ hvc_42 hG_43 hS_44 (lv_sub hl_45 [0, 1, 3] rfl) hMC_46 hMS_47
        refine lv_icmp_ne (tgt := 71) hx hb dX2_lastKind_51 (by decide) (fun h9 => ?_) (fun h9 => ?_)
        · replace hvc_34 := hvc_34.1 h9
          exact jn71 y2 y3 y4 (some z9) G13 (mc - c14) (ms - t15) _ _ _ _ _ hvc_34 hG_28 hS_29 (lv_sub hl_33 [1, 2, 3, 4] rfl) hMC_30 hMS_31
        · replace hvc_34 := hvc_34.2 h9
          refine lv_aload hx hb dX2_lastKind_54 (lv_at hl_33 0 rfl) ?_
          refine gw_giN (C := RX5) (T := TX5) (N := 2) (own := RX2) hx hb hts in_X5 hown hK hG_28 hvc_34 rfl (by decide) (hX.1 _ q902 rfl) (fun _ h9 => h9) dX2_lastKind_56 (fun x18 hvc_48 => ?_)
          clear hvc_34
          refine lv_iload_n hx hb dX2_lastKind_59 rfl (lv_at hl_33 2 rfl) ?_
          refine lv_icmp_gt (tgt := 71) hx hb dX2_lastKind_60 (by decide) (fun h9 => ?_) (fun h9 => ?_)
          · replace hvc_48 := hvc_48.1 h9
            exact jn71 y2 y3 y4 (some z9) G13 (mc - c14) (ms - t15) _ _ _ _ _ hvc_48 hG_28 hS_29 (lv_sub hl_33 [1, 2, 3, 4] rfl) hMC_30 hMS_31
          · replace hvc_48 := hvc_48.2 h9
            refine lv_aload hx hb dX2_lastKind_63 (lv_at hl_33 0 rfl) ?_
            refine gw_giN (C := RX5) (T := TX5) (N := 2) (own := RX2) hx hb hts in_X5 hown hK hG_28 hvc_48 rfl (by decide) (hX.1 _ q902 rfl) (fun _ h9 => h9) dX2_lastKind_65 (fun x19 hvc_49 => ?_)
            clear hvc_48
            refine lv_goto (tgt := 73) hx hb dX2_lastKind_68 (by decide) ?_
            exact jn73 y2 y3 (some z9) x19 G13 (mc - c14) (ms - t15) _ _ _ _ _ hvc_49 hG_28 hS_29 (lv_sub hl_33 [1, 2, 4] rfl) hMC_30 hMS_31
  refine gq_astore (lv' := [(5, va_rf x5), (4, .int (-nI 1)), (0, .ref o), (1, .int p1), (2, .int p2), (3, .int p3)]) hx hb dX2_lastKind_21 hl_1 (by decide) rfl (fun ls hl_50 => ?_)
  clear hl_1
  obtain ⟨nf23, hvc_7⟩ := hvc_7
  exact lp23 nf23 p2 p3 (-nI 1) x5 G6 (mc0 - c7) (ms0 - t8) _ _ _ _ _ hvc_7 hG_8 hS_9 (lv_sub hl_50 [4, 5, 1, 0] rfl) hMC_10 hMS_11
set_option maxHeartbeats 4000000 in
set_option maxRecDepth 100000 in
theorem met_X2_outcome (l : Launch) (E : g_E) (G : g_G) (o : Nat) (p1 : Int32) (mc0 ms0 : Nat) (post : Int32 → g_G → Prop) (hvc : wp_X2_outcome E G o p1 mc0 ms0 post) : g_MI E l yX2_outcome (ws_ yX2_outcome cX2_outcome 2 (Option.some Jvm.ClassFile.FieldType.int)) ({ frames := 4, cells := mc0, slots := ms0, locals := 90 } : Room) (g_X E) [.ref o, .int p1] G (post) := by
  refine g_enter (by decide +kernel) (Nat.le_of_ble_eq_true rfl) ?_
  intro p e s m below meth c ls hx hb hr hts hown hlocks hml hin hz hX hK hG hS hl
  have hl : lv_has ls 2 [(0, .ref o), (1, .int p1)] := hl
  have hown : s.vm.findClass RX2 = some m.cls := hown
  have hMC : 0 + mc0 ≤ mc0 := Nat.le_of_eq (Nat.zero_add _)
  have hMS : 0 + ms0 ≤ ms0 := Nat.le_of_eq (Nat.zero_add _)
  unfold wp_X2_outcome at hvc
  refine lv_aload_n hx hb dX2_outcome_0 rfl (lv_at hl 0 rfl) ?_
  refine lv_iconst (v := nI 4) hx hb dX2_outcome_1 (by decide) ?_
  refine lv_iload_n hx hb dX2_outcome_2 rfl (lv_at hl 1 rfl) ?_
  refine lv_iconst (v := nI 2) hx hb dX2_outcome_3 (by decide) ?_
  obtain ⟨c3, t4, hc1, hs1, hvc⟩ := hvc
  refine gw_cVIA (As := [.int (nI 4), .int p1, .int (nI 2)]) (rest := [])  ⟨hx, hb, hml, hown, hts⟩ (met_X2_lastKind l E G o (nI 4) p1 (nI 2) c3 t4 _ hvc.2) (cwV 3 hts (lw_V q960 q961 q962 q97 q963) rfl rfl rfl (by decide +kernel) ⟨Nat.le_of_ble_eq_true rfl, Nat.le_of_ble_eq_true rfl⟩) (gw_rc (q := (RX2, TX2, 11)) hK hG hvc.1 rfl) hc1 hs1 hMC hMS (Nat.le_refl _) (Nat.le_refl _) (g_X.st E) hz hX hK hG hS rfl hl.1 rfl (Nat.le_of_ble_eq_true rfl) dX2_outcome_4 (fun x1 G2 H locs ce sl hvc_1 hG_2 hS_3 hMC_4 hMS_5 => ?_)
  clear hvc hG hS hMC hMS
  exact g_iret hx hb hr hlocks (by show _ ≤ mc0; omega) (by show _ ≤ ms0; omega) hG_2 hS_3 rfl hvc_1 dX2_outcome_7
set_option maxHeartbeats 4000000 in
set_option maxRecDepth 100000 in
theorem met_X2_isUndecided (l : Launch) (E : g_E) (G : g_G) (o : Nat) (p1 : Int32) (mc0 ms0 : Nat) (post : Int32 → g_G → Prop) (hvc : wp_X2_isUndecided E G o p1 mc0 ms0 post) : g_MI E l yX2_isUndecided (ws_ yX2_isUndecided cX2_isUndecided 2 (Option.some Jvm.ClassFile.FieldType.boolean)) ({ frames := 5, cells := mc0, slots := ms0, locals := 111 } : Room) (g_X E) [.ref o, .int p1] G (post) := by
  refine g_enter (by decide +kernel) (Nat.le_of_ble_eq_true rfl) ?_
  intro p e s m below meth c ls hx hb hr hts hown hlocks hml hin hz hX hK hG hS hl
  have hl : lv_has ls 2 [(0, .ref o), (1, .int p1)] := hl
  have hown : s.vm.findClass RX2 = some m.cls := hown
  have hMC : 0 + mc0 ≤ mc0 := Nat.le_of_eq (Nat.zero_add _)
  have hMS : 0 + ms0 ≤ ms0 := Nat.le_of_eq (Nat.zero_add _)
  unfold wp_X2_isUndecided at hvc
  refine lv_aload_n hx hb dX2_isUndecided_0 rfl (lv_at hl 0 rfl) ?_
  refine lv_iload_n hx hb dX2_isUndecided_1 rfl (lv_at hl 1 rfl) ?_
  obtain ⟨c3, t4, hc1, hs1, hvc⟩ := hvc
  refine gw_cVIA (As := [.int p1]) (rest := [])  ⟨hx, hb, hml, hown, hts⟩ (met_X2_outcome l E G o p1 c3 t4 _ hvc.2) (cwV 1 hts (lw_V q956 q957 q958 q97 q959) rfl rfl rfl (by decide +kernel) ⟨Nat.le_of_ble_eq_true rfl, Nat.le_of_ble_eq_true rfl⟩) (gw_rc (q := (RX2, TX2, 11)) hK hG hvc.1 rfl) hc1 hs1 hMC hMS (Nat.le_refl _) (Nat.le_refl _) (g_X.st E) hz hX hK hG hS rfl hl.1 rfl (Nat.le_of_ble_eq_true rfl) dX2_isUndecided_2 (fun x1 G2 H locs ce sl hvc_1 hG_2 hS_3 hMC_4 hMS_5 => ?_)
  clear hvc hG hS hMC hMS
  refine lv_if_ne (tgt := 12) hx hb dX2_isUndecided_5 (by decide) (fun h9 => ?_) (fun h9 => ?_)
  · replace hvc_1 := hvc_1.1 h9
    refine lv_iconst (v := nI 0) hx hb dX2_isUndecided_12 (by decide) ?_
    exact g_iret hx hb hr hlocks (by show _ ≤ mc0; omega) (by show _ ≤ ms0; omega) hG_2 hS_3 rfl hvc_1 dX2_isUndecided_13
  · replace hvc_1 := hvc_1.2 h9
    refine lv_iconst (v := nI 1) hx hb dX2_isUndecided_8 (by decide) ?_
    refine lv_goto (tgt := 13) hx hb dX2_isUndecided_9 (by decide) ?_
    exact g_iret hx hb hr hlocks (by show _ ≤ mc0; omega) (by show _ ≤ ms0; omega) hG_2 hS_3 rfl hvc_1 dX2_isUndecided_13
set_option maxHeartbeats 4000000 in
set_option maxRecDepth 100000 in
theorem met_X4_partners (l : Launch) (E : g_E) (G : g_G) (o : Nat) (post : Int32 → Prop) (hvc : wp_X4_partners E G o post) : g_MI E l yX4_partners (ws_ yX4_partners cX4_partners 1 (Option.some Jvm.ClassFile.FieldType.int)) ({ frames := 0, cells := 0, slots := 0, locals := 0 } : Room) (fun _ => True) [.ref o] G (fun v G9 => G9 = G ∧ post v) := by
  refine g_enter (by decide +kernel) (Nat.le_of_ble_eq_true rfl) ?_
  intro p e s m below meth c ls hx hb hr hts hown hlocks hml hin hz hX hK hG hS hl
  have hl : lv_has ls 1 [(0, .ref o)] := hl
  have hown : s.vm.findClass RX4 = some m.cls := hown
  unfold wp_X4_partners at hvc
  refine lv_aload_n hx hb dX4_partners_0 rfl (lv_at hl 0 rfl) ?_
  refine gw_gi (C := RX4) (T := TX4) (N := 3) (own := RX4) hx hb hts in_X4 hown hK hG hvc rfl (by decide) (hts _ q1176) (fun _ h9 => h9) dX4_partners_1 (fun x1 hvc_1 => ?_)
  clear hvc
  refine lv_iconst (v := nI 1) hx hb dX4_partners_4 (by decide) ?_
  refine lv_aload_n hx hb dX4_partners_5 rfl (lv_at hl 0 rfl) ?_
  refine gw_gi (C := RX4) (T := TX4) (N := 3) (own := RX4) hx hb hts in_X4 hown hK hG hvc_1 rfl (by decide) (hts _ q1175) (fun _ h9 => h9) dX4_partners_6 (fun x2 hvc_2 => ?_)
  clear hvc_1
  refine lv_ishl hx hb dX4_partners_9 ?_
  refine lv_ior hx hb dX4_partners_10 ?_
  exact g_iret hx hb hr hlocks (Nat.zero_le _) (Nat.zero_le _) hG hS rfl ⟨rfl, hvc_2⟩ dX4_partners_11
set_option maxHeartbeats 4000000 in
set_option maxRecDepth 100000 in
theorem met_X2_tells (l : Launch) (E : g_E) (G : g_G) (p1 : Int32) (post : Option Nat → Prop) (hvc : wp_X2_tells E G p1 post) : g_MQ E l yX2_tells (ws_ yX2_tells cX2_tells 1 (Option.some (Jvm.ClassFile.FieldType.object "VoteLogs$Kind"))) ({ frames := 0, cells := 0, slots := 0, locals := 0 } : Room) (g_X E) [.int p1] G (fun v G9 => G9 = G ∧ post v) := by
  refine g_enter (by decide +kernel) (Nat.le_of_ble_eq_true rfl) ?_
  intro p e s m below meth c ls hx hb hr hts hown hlocks hml hin hz hX hK hG hS hl
  have hl : lv_has ls 1 [(0, .int p1)] := hl
  have hown : s.vm.findClass RX2 = some m.cls := hown
  unfold wp_X2_tells at hvc
  refine lv_iload_n hx hb dX2_tells_0 rfl (lv_at hl 0 rfl) ?_
  refine lv_iconst (v := nI 1) hx hb dX2_tells_1 (by decide) ?_
  refine lv_icmp_ne (tgt := 11) hx hb dX2_tells_2 (by decide) (fun h9 => ?_) (fun h9 => ?_)
  · replace hvc := hvc.1 h9
    refine va_gets (A := g_A E) hx hb (hX.kz 4 (by decide)) hS hown (hts _ q977) (fun _ h9 => h9) dX2_tells_11 ?_
    exact g_aret (v := (some (g_k E 4))) hx hb hr (Or.inl ⟨_, rfl⟩) hlocks (Nat.zero_le _) (Nat.zero_le _) hG hS ⟨rfl, hvc⟩ dX2_tells_14
  · replace hvc := hvc.2 h9
    refine va_gets (A := g_A E) hx hb (hX.kz 3 (by decide)) hS hown (hts _ q975) (fun _ h9 => h9) dX2_tells_5 ?_
    refine lv_goto (tgt := 14) hx hb dX2_tells_8 (by decide) ?_
    exact g_aret (v := (some (g_k E 3))) hx hb hr (Or.inl ⟨_, rfl⟩) hlocks (Nat.zero_le _) (Nat.zero_le _) hG hS ⟨rfl, hvc⟩ dX2_tells_14
set_option maxHeartbeats 4000000 in
set_option maxRecDepth 100000 in
theorem met_X2_sendsToAll (l : Launch) (E : g_E) (G : g_G) (o : Nat) (p1 : Nat) (p2 : Int32) (mc0 ms0 : Nat) (post : g_G → Prop) (hvc : wp_X2_sendsToAll E G o p1 p2 mc0 ms0 post) : g_MV E l yX2_sendsToAll (ws_ yX2_sendsToAll cX2_sendsToAll 5 (Option.none : Option Jvm.ClassFile.FieldType)) ({ frames := 8, cells := mc0, slots := ms0, locals := 214 } : Room) (g_X E) [.ref o, .ref p1, .int p2] G (post) := by
  refine g_enter (by decide +kernel) (Nat.le_of_ble_eq_true rfl) ?_
  intro p e s m below meth c ls hx hb hr hts hown hlocks hml hin hz hX hK hG hS hl
  have hl : lv_has ls 5 [(0, .ref o), (1, .ref p1), (2, .int p2)] := hl
  have hown : s.vm.findClass RX2 = some m.cls := hown
  have hMC : 0 + mc0 ≤ mc0 := Nat.le_of_eq (Nat.zero_add _)
  have hMS : 0 + ms0 ≤ ms0 := Nat.le_of_eq (Nat.zero_add _)
  unfold wp_X2_sendsToAll at hvc
  refine lv_aload_n hx hb dX2_sendsToAll_0 rfl (lv_at hl 0 rfl) ?_
  refine gw_gr (C := RX2) (T := TX2) (N := 11) (own := RX2) hx hb hts in_X2 hown hK hG hvc rfl (by decide) (hts _ q301) (fun _ h9 => h9) dX2_sendsToAll_1 (fun x1 hvc_1 => ?_)
  clear hvc
  refine lv_iload_n hx hb dX2_sendsToAll_4 rfl (lv_at hl 2 rfl) ?_
  refine gw_cFQP (As := [.int p2]) (rest := []) (hK.1 9 _ rfl).2  ⟨hx, hb, hml, hown, hts⟩ (met_J7_get l E G x1 p2 _ hvc_1.2) (va_cwF 1 hts (lw_F q854 q857 q859 q99 q861) rfl rfl rfl (hX.fw (List.mem_of_getElem? (i := 5) rfl)) (by decide +kernel) ⟨Nat.le_of_ble_eq_true rfl, Nat.le_of_ble_eq_true rfl⟩) (gw_rc (q := (RJ7, TJ7, 3)) hK hG hvc_1.1 rfl) (by show _ ≤ mc0; omega) (by show _ ≤ ms0; omega) (g_St0 E) hz trivial hK hG hS rfl hl.1 rfl (Nat.le_of_ble_eq_true rfl) dX2_sendsToAll_5 (fun x2 H locs hvc_2 hG_3 hS_4 => ?_)
  clear hvc_1 hG hS
  refine gw_castS (v := x2) (ci := 3) hx hb hown (hts _ q866) hK hG_3 rfl rfl hvc_2 dX2_sendsToAll_10 (fun z4 hy9 hvc_5 => ?_)
  clear hvc_2
  subst hy9
  refine gw_cVIP (As := []) (rest := [])  ⟨hx, hb, hml, hown, hts⟩ (met_X4_partners l E G z4 _ hvc_5.2) (cwV 0 hts (lw_V q964 q965 q966 q117 q967) rfl rfl rfl (by decide +kernel) ⟨Nat.le_of_ble_eq_true rfl, Nat.le_of_ble_eq_true rfl⟩) (gw_rc (q := (RX4, TX4, 3)) hK hG_3 hvc_5.1 rfl) (by show _ ≤ mc0; omega) (by show _ ≤ ms0; omega) (g_St0 E) hz trivial hK hG_3 hS_4 rfl hl.1 rfl (Nat.le_of_ble_eq_true rfl) dX2_sendsToAll_13 (fun x5 H locs hvc_6 hG_7 hS_8 => ?_)
  clear hvc_5 hG_3 hS_4
  refine lv_istore_n (lv' := [(3, .int x5), (0, .ref o), (1, .ref p1), (2, .int p2)]) hx hb dX2_sendsToAll_16 rfl hl (by decide) rfl (fun ls hl_9 => ?_)
  clear hl
  refine lv_iconst (v := nI 0) hx hb dX2_sendsToAll_17 (by decide) ?_
  have lp20 : ∀ (n20 : Nat) (y0 : Nat) (y1 : Nat) (y2 : Int32) (y3 : Int32) (y4 : Int32) (G : g_G) (mc : Nat) (ms : Nat) (H : Heap) (locs : List Loc) (ls : Array Slot) (ce sl : Nat), wp_X2_sendsToAll_20 E post n20 y0 y1 y2 y3 y4 G mc ms → g_H E G H → va_S (g_A E) s.heap H locs → lv_has ls 5 [(0, .ref y0), (1, .ref y1), (2, .int y2), (3, .int y3), (4, .int y4)] → ce + mc ≤ mc0 → sl + ms ≤ ms0 → W p l e ({ frames := 8, cells := mc0, slots := ms0, locals := 214 } : Room) s m ([.ref o, .ref p1, .int p2] : List Value).toArray below meth c H locs ce sl (MQ below (va_Qv (post) (g_Bk E) (g_A E)) ([.ref o, .ref p1, .int p2] : List Value).toArray s mc0 ms0 (g_A E)) (F0 m 20 ls []) := by
    clear hvc_6 hG_7 hS_8 hl_9 hMC hMS
    intro n20
    induction n20 with
    | zero =>
      intro y0 y1 y2 y3 y4 G mc ms H locs ls ce sl hvc_10 hG_11 hS_12 hl_13 hMC_14 hMS_15
      exact False.elim hvc_10
    | succ n20 ih20 =>
      intro y0 y1 y2 y3 y4 G mc ms H locs ls ce sl hvc_16 hG_17 hS_18 hl_19 hMC_20 hMS_21
      refine lv_iload hx hb dX2_sendsToAll_20 (lv_at hl_19 4 rfl) ?_
      refine lv_iconst (v := nI 4) hx hb dX2_sendsToAll_22 (by decide) ?_
      refine lv_icmp_ge (tgt := 49) hx hb dX2_sendsToAll_23 (by decide) (fun h9 => ?_) (fun h9 => ?_)
      · replace hvc_16 := hvc_16.1 h9
        exact g_vret hx hb hr hlocks (by show _ ≤ mc0; omega) (by show _ ≤ ms0; omega) hG_17 hS_18 hvc_16 dX2_sendsToAll_49
      · replace hvc_16 := hvc_16.2 h9
        refine lv_iload_n hx hb dX2_sendsToAll_26 rfl (lv_at hl_19 3 rfl) ?_
        refine lv_iload hx hb dX2_sendsToAll_27 (lv_at hl_19 4 rfl) ?_
        refine gw_cMIP (As := [.int y3, .int y4]) (rest := [])  ⟨hx, hb, hml, hown, hts⟩ (met_X1_has l E G y3 y4 _ hvc_16) ⟨va_cnB 2 hts (lw_meth q838) rfl rfl rfl (hX.1 _ q836 rfl) (hts _ q90) (by decide +kernel) ⟨Nat.le_of_ble_eq_true rfl, Nat.le_of_ble_eq_true rfl⟩, hts _ q837, trivial⟩ (by show _ ≤ mc0; omega) (by show _ ≤ ms0; omega) (g_St0 E) hz trivial hK hG_17 hS_18 rfl hl_19.1 rfl (Nat.le_of_ble_eq_true rfl) dX2_sendsToAll_29 (fun x7 H locs hvc_22 hG_23 hS_24 => ?_)
        clear hvc_16 hG_17 hS_18
        have jn43 : ∀ (y0 : Nat) (y1 : Nat) (y2 : Int32) (y3 : Int32) (y4 : Int32) (G : g_G) (mc : Nat) (ms : Nat) (H : Heap) (locs : List Loc) (ls : Array Slot) (ce sl : Nat), wp_X2_sendsToAll_43 E post (wp_X2_sendsToAll_20 E post n20) y0 y1 y2 y3 y4 G mc ms → g_H E G H → va_S (g_A E) s.heap H locs → lv_has ls 5 [(0, .ref y0), (1, .ref y1), (2, .int y2), (3, .int y3), (4, .int y4)] → ce + mc ≤ mc0 → sl + ms ≤ ms0 → W p l e ({ frames := 8, cells := mc0, slots := ms0, locals := 214 } : Room) s m ([.ref o, .ref p1, .int p2] : List Value).toArray below meth c H locs ce sl (MQ below (va_Qv (post) (g_Bk E) (g_A E)) ([.ref o, .ref p1, .int p2] : List Value).toArray s mc0 ms0 (g_A E)) (F0 m 43 ls []) := by
          clear hvc_22 hG_23 hS_24 hl_19 hMC_20 hMS_21
          intro y0 y1 y2 y3 y4 G mc ms H locs ls ce sl hvc_25 hG_26 hS_27 hl_28 hMC_29 hMS_30
          refine lv_iinc (k := 4) (v := y4 + (nI 1)) (lv' := [(4, .int (y4 + (nI 1))), (0, .ref y0), (1, .ref y1), (2, .int y2), (3, .int y3)]) hx hb dX2_sendsToAll_43 hl_28 rfl (congrArg (y4 + ·) (by decide : Int32.ofInt (1) = nI 1)) (by decide) rfl (fun ls hl_31 => ?_)
          clear hl_28
          refine lv_goto (tgt := 20) hx hb dX2_sendsToAll_46 (by decide) ?_
          exact ih20 y0 y1 y2 y3 (y4 + (nI 1)) G mc ms _ _ _ _ _ hvc_25 hG_26 hS_27 (lv_sub hl_31 [1, 2, 3, 4, 0] rfl) hMC_29 hMS_30
        refine lv_if_eq (tgt := 43) hx hb dX2_sendsToAll_32 (by decide) (fun h9 => ?_) (fun h9 => ?_)
        · replace hvc_22 := hvc_22.1 h9
          exact jn43 y0 y1 y2 y3 y4 G mc ms _ _ _ _ _ hvc_22 hG_23 hS_24 (lv_sub hl_19 [0, 1, 2, 3, 4] rfl) hMC_20 hMS_21
        · replace hvc_22 := hvc_22.2 h9
          refine lv_aload_n hx hb dX2_sendsToAll_35 rfl (lv_at hl_19 0 rfl) ?_
          refine lv_aload_n hx hb dX2_sendsToAll_36 rfl (lv_at hl_19 1 rfl) ?_
          refine lv_iload_n hx hb dX2_sendsToAll_37 rfl (lv_at hl_19 2 rfl) ?_
          refine lv_iload hx hb dX2_sendsToAll_38 (lv_at hl_19 4 rfl) ?_
          obtain ⟨c11, t12, hc1, hs1, hvc_22⟩ := hvc_22
          refine gw_cVVA (As := [.ref y1, .int y2, .int y4]) (rest := [])  ⟨hx, hb, hml, hown, hts⟩ (met_X2_sends l E G y0 y1 y2 y4 c11 t12 _ hvc_22.2) (cwV 3 hts (lw_V q920 q922 qs11 q97 q923) rfl rfl rfl (by decide +kernel) ⟨Nat.le_of_ble_eq_true rfl, Nat.le_of_ble_eq_true rfl⟩) (gw_rc (q := (RX2, TX2, 11)) hK hG_23 hvc_22.1 rfl) hc1 hs1 hMC_20 hMS_21 (Nat.le_refl _) (Nat.le_refl _) (g_X.st E) hz hX hK hG_23 hS_24 rfl hl_19.1 rfl (Nat.le_of_ble_eq_true rfl) dX2_sendsToAll_40 (fun G10 H locs ce sl hvc_32 hG_33 hS_34 hMC_35 hMS_36 => ?_)
          clear hvc_22 hG_23 hS_24 hMC_20 hMS_21
          exact jn43 y0 y1 y2 y3 y4 G10 (mc - c11) (ms - t12) _ _ _ _ _ hvc_32 hG_33 hS_34 (lv_sub hl_19 [0, 1, 2, 3, 4] rfl) hMC_35 hMS_36
  refine lv_istore (lv' := [(4, .int (nI 0)), (3, .int x5), (0, .ref o), (1, .ref p1), (2, .int p2)]) hx hb dX2_sendsToAll_18 hl_9 (by decide) rfl (fun ls hl_37 => ?_)
  clear hl_9
  obtain ⟨nf20, hvc_6⟩ := hvc_6
  exact lp20 nf20 o p1 p2 x5 (nI 0) G mc0 ms0 _ _ _ _ _ hvc_6 hG_7 hS_8 (lv_sub hl_37 [2, 3, 4, 1, 0] rfl) hMC hMS
set_option maxHeartbeats 4000000 in
set_option maxRecDepth 100000 in
theorem met_X2_decides (l : Launch) (E : g_E) (G : g_G) (o : Nat) (p1 : Int32) (p2 : Int32) (mc0 ms0 : Nat) (post : g_G → Prop) (hvc : wp_X2_decides E G o p1 p2 mc0 ms0 post) : g_MV E l yX2_decides (ws_ yX2_decides cX2_decides 3 (Option.none : Option Jvm.ClassFile.FieldType)) ({ frames := 9, cells := mc0, slots := ms0, locals := 238 } : Room) (g_X E) [.ref o, .int p1, .int p2] G (post) := by
  refine g_enter (by decide +kernel) (Nat.le_of_ble_eq_true rfl) ?_
  intro p e s m below meth c ls hx hb hr hts hown hlocks hml hin hz hX hK hG hS hl
  have hl : lv_has ls 3 [(0, .ref o), (1, .int p1), (2, .int p2)] := hl
  have hown : s.vm.findClass RX2 = some m.cls := hown
  have hMC : 0 + mc0 ≤ mc0 := Nat.le_of_eq (Nat.zero_add _)
  have hMS : 0 + ms0 ≤ ms0 := Nat.le_of_eq (Nat.zero_add _)
  unfold wp_X2_decides at hvc
  refine lv_aload_n hx hb dX2_decides_0 rfl (lv_at hl 0 rfl) ?_
  refine lv_iconst (v := nI 4) hx hb dX2_decides_1 (by decide) ?_
  refine lv_iload_n hx hb dX2_decides_2 rfl (lv_at hl 2 rfl) ?_
  refine lv_iload_n hx hb dX2_decides_3 rfl (lv_at hl 1 rfl) ?_
  obtain ⟨c3, t4, hc1, hs1, hvc⟩ := hvc
  refine gw_cVVA (As := [.int (nI 4), .int p2, .int p1]) (rest := [])  ⟨hx, hb, hml, hown, hts⟩ (met_X2_writes l E G o (nI 4) p2 p1 c3 t4 _ hvc.2) (cwV 3 hts (lw_V q891 q893 qs9 q97 q894) rfl rfl rfl (by decide +kernel) ⟨Nat.le_of_ble_eq_true rfl, Nat.le_of_ble_eq_true rfl⟩) (gw_rc (q := (RX2, TX2, 11)) hK hG hvc.1 rfl) hc1 hs1 hMC hMS (Nat.le_refl _) (Nat.le_refl _) (g_X.st E) hz hX hK hG hS rfl hl.1 rfl (Nat.le_of_ble_eq_true rfl) dX2_decides_4 (fun G2 H locs ce sl hvc_1 hG_2 hS_3 hMC_4 hMS_5 => ?_)
  clear hvc hG hS hMC hMS
  refine lv_aload_n hx hb dX2_decides_7 rfl (lv_at hl 0 rfl) ?_
  refine lv_iload_n hx hb dX2_decides_8 rfl (lv_at hl 2 rfl) ?_
  refine gw_cSQP (As := [.int p2]) (rest := [.ref o])  ⟨hx, hb, hml, hown, hts⟩ (met_X2_tells l E G2 p2 _ hvc_1) (va_cwS 1 hts (lw_S q972 q973 q97 q974) rfl rfl rfl (by decide +kernel) ⟨Nat.le_of_ble_eq_true rfl, Nat.le_of_ble_eq_true rfl⟩) (by show _ ≤ mc0; omega) (by show _ ≤ ms0; omega) (g_X.st E) hz hX hK hG_2 hS_3 rfl hl.1 rfl (Nat.le_of_ble_eq_true rfl) dX2_decides_9 (fun x5 H locs hvc_6 hG_7 hS_8 => ?_)
  clear hvc_1 hG_2 hS_3
  refine lv_iload_n hx hb dX2_decides_12 rfl (lv_at hl 1 rfl) ?_
  obtain ⟨z7, rfl, hvc_6⟩ := hvc_6
  obtain ⟨c10, t11, hc1, hs1, hvc_6⟩ := hvc_6
  refine gw_cVVA (As := [.ref z7, .int p1]) (rest := [])  ⟨hx, hb, hml, hown, hts⟩ (met_X2_sendsToAll l E G2 o z7 p1 c10 t11 _ hvc_6.2) (cwV 2 hts (lw_V q979 q981 qs13 q97 q982) rfl rfl rfl (by decide +kernel) ⟨Nat.le_of_ble_eq_true rfl, Nat.le_of_ble_eq_true rfl⟩) (gw_rc (q := (RX2, TX2, 11)) hK hG_7 hvc_6.1 rfl) hc1 hs1 hMC_4 hMS_5 (Nat.le_refl _) (Nat.le_refl _) (g_X.st E) hz hX hK hG_7 hS_8 rfl hl.1 rfl (Nat.le_of_ble_eq_true rfl) dX2_decides_13 (fun G9 H locs ce sl hvc_9 hG_10 hS_11 hMC_12 hMS_13 => ?_)
  clear hvc_6 hG_7 hS_8 hMC_4 hMS_5
  exact g_vret hx hb hr hlocks (by show _ ≤ mc0; omega) (by show _ ≤ ms0; omega) hG_10 hS_11 hvc_9 dX2_decides_16
set_option maxHeartbeats 4000000 in
set_option maxRecDepth 100000 in
theorem met_X2_hearsYes (l : Launch) (E : g_E) (G : g_G) (o : Nat) (p1 : Nat) (mc0 ms0 : Nat) (post : g_G → Prop) (hvc : wp_X2_hearsYes E G o p1 mc0 ms0 post) : g_MV E l yX2_hearsYes (ws_ yX2_hearsYes cX2_hearsYes 3 (Option.none : Option Jvm.ClassFile.FieldType)) ({ frames := 10, cells := mc0, slots := ms0, locals := 260 } : Room) (g_X E) [.ref o, .ref p1] G (post) := by
  refine g_enter (by decide +kernel) (Nat.le_of_ble_eq_true rfl) ?_
  intro p e s m below meth c ls hx hb hr hts hown hlocks hml hin hz hX hK hG hS hl
  have hl : lv_has ls 3 [(0, .ref o), (1, .ref p1)] := hl
  have hown : s.vm.findClass RX2 = some m.cls := hown
  have hMC : 0 + mc0 ≤ mc0 := Nat.le_of_eq (Nat.zero_add _)
  have hMS : 0 + ms0 ≤ ms0 := Nat.le_of_eq (Nat.zero_add _)
  unfold wp_X2_hearsYes at hvc
  refine lv_aload_n hx hb dX2_hearsYes_0 rfl (lv_at hl 1 rfl) ?_
  refine gw_giN (C := RX6) (T := TX6) (N := 3) (own := RX2) hx hb hts in_X6 hown hK hG hvc rfl (by decide) (hX.1 _ q933 rfl) (fun _ h9 => h9) dX2_hearsYes_1 (fun x1 hvc_1 => ?_)
  clear hvc
  refine lv_istore_n (lv' := [(2, .int x1), (0, .ref o), (1, .ref p1)]) hx hb dX2_hearsYes_4 rfl hl (by decide) rfl (fun ls hl_2 => ?_)
  clear hl
  refine lv_aload_n hx hb dX2_hearsYes_5 rfl (lv_at hl_2 1 rfl) ?_
  refine lv_iload_n hx hb dX2_hearsYes_6 rfl (lv_at hl_2 0 rfl) ?_
  obtain ⟨c4, t5, hc1, hs1, hvc_1⟩ := hvc_1
  refine gw_cVIA (As := [.int x1]) (rest := [])  ⟨hx, hb, hml, hown, hts⟩ (met_X2_isUndecided l E G o x1 c4 t5 _ hvc_1.2) (cwV 1 hts (lw_V q952 q953 q954 q97 q955) rfl rfl rfl (by decide +kernel) ⟨Nat.le_of_ble_eq_true rfl, Nat.le_of_ble_eq_true rfl⟩) (gw_rc (q := (RX2, TX2, 11)) hK hG hvc_1.1 rfl) hc1 hs1 hMC hMS (Nat.le_refl _) (Nat.le_refl _) (g_X.st E) hz hX hK hG hS rfl hl_2.1 rfl (Nat.le_of_ble_eq_true rfl) dX2_hearsYes_7 (fun x2 G3 H locs ce sl hvc_3 hG_4 hS_5 hMC_6 hMS_7 => ?_)
  clear hvc_1 hG hS hMC hMS
  refine lv_if_eq (tgt := 59) hx hb dX2_hearsYes_10 (by decide) (fun h9 => ?_) (fun h9 => ?_)
  · replace hvc_3 := hvc_3.1 h9
    exact g_vret hx hb hr hlocks (by show _ ≤ mc0; omega) (by show _ ≤ ms0; omega) hG_4 hS_5 hvc_3 dX2_hearsYes_59
  · replace hvc_3 := hvc_3.2 h9
    refine lv_aload_n hx hb dX2_hearsYes_13 rfl (lv_at hl_2 1 rfl) ?_
    refine gw_gr (C := RX2) (T := TX2) (N := 11) (own := RX2) hx hb hts in_X2 hown hK hG_4 hvc_3 rfl (by decide) (hts _ q310) (fun _ h9 => h9) dX2_hearsYes_14 (fun x6 hvc_8 => ?_)
    clear hvc_3
    refine lv_iload_n hx hb dX2_hearsYes_17 rfl (lv_at hl_2 0 rfl) ?_
    refine lv_dup2_11 hx hb dX2_hearsYes_18 rfl rfl ?_
    refine gw_ild hx hb hK hG_4 hvc_8 dX2_hearsYes_19 (fun x7 hvc_9 => ?_)
    clear hvc_8
    refine lv_iconst (v := nI 1) hx hb dX2_hearsYes_20 (by decide) ?_
    refine lv_aload_n hx hb dX2_hearsYes_21 rfl (lv_at hl_2 2 rfl) ?_
    refine gw_giN (C := RX6) (T := TX6) (N := 3) (own := RX2) hx hb hts in_X6 hown hK hG_4 hvc_9 rfl (by decide) (hX.1 _ q936 rfl) (fun _ h9 => h9) dX2_hearsYes_22 (fun x8 hvc_10 => ?_)
    clear hvc_9
    refine lv_ishl hx hb dX2_hearsYes_25 ?_
    refine lv_ior hx hb dX2_hearsYes_26 ?_
    refine gw_ist hx hb hK hG_4 hS_5 hvc_10 dX2_hearsYes_27 (fun G9 H locs hvc_11 hG_12 hS_13 => ?_)
    clear hvc_10 hG_4 hS_5
    refine lv_aload_n hx hb dX2_hearsYes_28 rfl (lv_at hl_2 1 rfl) ?_
    refine gw_gr (C := RX2) (T := TX2) (N := 11) (own := RX2) hx hb hts in_X2 hown hK hG_12 hvc_11 rfl (by decide) (hts _ q310) (fun _ h9 => h9) dX2_hearsYes_29 (fun x10 hvc_14 => ?_)
    clear hvc_11
    refine lv_iload_n hx hb dX2_hearsYes_32 rfl (lv_at hl_2 0 rfl) ?_
    refine gw_ild hx hb hK hG_12 hvc_14 dX2_hearsYes_33 (fun x11 hvc_15 => ?_)
    clear hvc_14
    refine lv_aload_n hx hb dX2_hearsYes_34 rfl (lv_at hl_2 1 rfl) ?_
    refine gw_gr (C := RX2) (T := TX2) (N := 11) (own := RX2) hx hb hts in_X2 hown hK hG_12 hvc_15 rfl (by decide) (hts _ q301) (fun _ h9 => h9) dX2_hearsYes_35 (fun x12 hvc_16 => ?_)
    clear hvc_15
    refine lv_iload_n hx hb dX2_hearsYes_38 rfl (lv_at hl_2 0 rfl) ?_
    refine gw_cFQP (As := [.int x1]) (rest := [.int x11]) (hK.1 9 _ rfl).2  ⟨hx, hb, hml, hown, hts⟩ (met_J7_get l E G9 x12 x1 _ hvc_16.2) (va_cwF 1 hts (lw_F q854 q857 q859 q99 q861) rfl rfl rfl (hX.fw (List.mem_of_getElem? (i := 5) rfl)) (by decide +kernel) ⟨Nat.le_of_ble_eq_true rfl, Nat.le_of_ble_eq_true rfl⟩) (gw_rc (q := (RJ7, TJ7, 3)) hK hG_12 hvc_16.1 rfl) (by show _ ≤ mc0; omega) (by show _ ≤ ms0; omega) (g_St0 E) hz trivial hK hG_12 hS_13 rfl hl_2.1 rfl (Nat.le_of_ble_eq_true rfl) dX2_hearsYes_39 (fun x13 H locs hvc_17 hG_18 hS_19 => ?_)
    clear hvc_16 hG_12 hS_13
    refine gw_castS (v := x13) (ci := 3) hx hb hown (hts _ q866) hK hG_18 rfl rfl hvc_17 dX2_hearsYes_44 (fun z15 hy9 hvc_20 => ?_)
    clear hvc_17
    subst hy9
    refine gw_cVIP (As := []) (rest := [.int x11])  ⟨hx, hb, hml, hown, hts⟩ (met_X4_partners l E G9 z15 _ hvc_20.2) (cwV 0 hts (lw_V q964 q965 q966 q117 q967) rfl rfl rfl (by decide +kernel) ⟨Nat.le_of_ble_eq_true rfl, Nat.le_of_ble_eq_true rfl⟩) (gw_rc (q := (RX4, TX4, 3)) hK hG_18 hvc_20.1 rfl) (by show _ ≤ mc0; omega) (by show _ ≤ ms0; omega) (g_St0 E) hz trivial hK hG_18 hS_19 rfl hl_2.1 rfl (Nat.le_of_ble_eq_true rfl) dX2_hearsYes_47 (fun x16 H locs hvc_21 hG_22 hS_23 => ?_)
    clear hvc_20 hG_18 hS_19
    refine lv_icmp_ne (tgt := 59) hx hb dX2_hearsYes_50 (by decide) (fun h9 => ?_) (fun h9 => ?_)
    · replace hvc_21 := hvc_21.1 h9
      exact g_vret hx hb hr hlocks (by show _ ≤ mc0; omega) (by show _ ≤ ms0; omega) hG_22 hS_23 hvc_21 dX2_hearsYes_59
    · replace hvc_21 := hvc_21.2 h9
      refine lv_aload_n hx hb dX2_hearsYes_53 rfl (lv_at hl_2 1 rfl) ?_
      refine lv_iload_n hx hb dX2_hearsYes_54 rfl (lv_at hl_2 0 rfl) ?_
      refine lv_iconst (v := nI 1) hx hb dX2_hearsYes_55 (by decide) ?_
      obtain ⟨c20, t21, hc1, hs1, hvc_21⟩ := hvc_21
      refine gw_cVVA (As := [.int x1, .int (nI 1)]) (rest := [])  ⟨hx, hb, hml, hown, hts⟩ (met_X2_decides l E G9 o x1 (nI 1) c20 t21 _ hvc_21.2) (cwV 2 hts (lw_V q968 q970 qs12 q97 q971) rfl rfl rfl (by decide +kernel) ⟨Nat.le_of_ble_eq_true rfl, Nat.le_of_ble_eq_true rfl⟩) (gw_rc (q := (RX2, TX2, 11)) hK hG_22 hvc_21.1 rfl) hc1 hs1 hMC_6 hMS_7 (Nat.le_refl _) (Nat.le_refl _) (g_X.st E) hz hX hK hG_22 hS_23 rfl hl_2.1 rfl (Nat.le_of_ble_eq_true rfl) dX2_hearsYes_56 (fun G19 H locs ce sl hvc_24 hG_25 hS_26 hMC_27 hMS_28 => ?_)
      clear hvc_21 hG_22 hS_23 hMC_6 hMS_7
      exact g_vret hx hb hr hlocks (by show _ ≤ mc0; omega) (by show _ ≤ ms0; omega) hG_25 hS_26 hvc_24 dX2_hearsYes_59
set_option maxHeartbeats 4000000 in
set_option maxRecDepth 100000 in
theorem wlk_X11_comes (l : Launch) (E : g_E) (G : g_G) (o : Nat) (p1 : Nat) (p2 : Nat) (mc0 ms0 : Nat) (post : g_G → Prop) (hvc : wp_X11_comes E G o p1 p2 mc0 ms0 post) (p : Program) (e : Env) (s : State) (m : MethodId) (below : List Frame) (meth : Method) (c : Code) (ls : Array Slot) (hx : p.tables.exec = Jvm.exec) (hb : c.code = cX11_comes) (hr : meth.sig.returnType = (Option.none : Option Jvm.ClassFile.FieldType)) (hts : ∀ w ∈ lw_all, w.before ([.ref o, .ref p1, .ref p2] : List Value).toArray s = true) (hown : s.vm.findClass RX11 = some m.cls) (hlocks : meth.locks = false) (hml : c.maxLocals = 3) (hin : meth.name = yX11_comes.name) (hz : E.2.2 ≤ s.heap.size) (hX : g_X E s) (hK : g_K E s) (hG : g_H E G s.heap) (hS : va_S (g_A E) s.heap s.heap []) (hl : lv_has ls 3 (lv_args 0 [.ref o, .ref p1, .ref p2])) : W p l e ({ frames := 11, cells := mc0, slots := ms0, locals := 282 } : Room) s m ([.ref o, .ref p1, .ref p2] : List Value).toArray below meth c s.heap [] 0 0 (MQ below (va_Qv (post) (g_Bk E) (g_A E)) ([.ref o, .ref p1, .ref p2] : List Value).toArray s mc0 ms0 (g_A E)) (F0 m 0 ls []) := by
  have hl : lv_has ls 3 [(0, .ref o), (1, .ref p1), (2, .ref p2)] := hl
  have hMC : 0 + mc0 ≤ mc0 := Nat.le_of_eq (Nat.zero_add _)
  have hMS : 0 + ms0 ≤ ms0 := Nat.le_of_eq (Nat.zero_add _)
  unfold wp_X11_comes at hvc
  refine lv_aload_n hx hb dX11_comes_0 rfl (lv_at hl 1 rfl) ?_
  refine lv_aload_n hx hb dX11_comes_1 rfl (lv_at hl 2 rfl) ?_
  obtain ⟨c3, t4, hc1, hs1, hvc⟩ := hvc
  refine gw_cVVA (As := [.ref p2]) (rest := [])  ⟨hx, hb, hml, hown, hts⟩ (met_X2_hearsYes l E G p1 p2 c3 t4 _ hvc.2) (cwV 1 hts (lw_V q948 q949 q950 q97 q951) rfl rfl rfl (by decide +kernel) ⟨Nat.le_of_ble_eq_true rfl, Nat.le_of_ble_eq_true rfl⟩) (gw_rc (q := (RX2, TX2, 11)) hK hG hvc.1 rfl) hc1 hs1 hMC hMS (Nat.le_refl _) (Nat.le_refl _) (g_X.st E) hz hX hK hG hS rfl hl.1 rfl (Nat.le_of_ble_eq_true rfl) dX11_comes_2 (fun G2 H locs ce sl hvc_1 hG_2 hS_3 hMC_4 hMS_5 => ?_)
  clear hvc hG hS hMC hMS
  exact g_vret hx hb hr hlocks (by show _ ≤ mc0; omega) (by show _ ≤ ms0; omega) hG_2 hS_3 hvc_1 dX11_comes_5
set_option maxHeartbeats 4000000 in
set_option maxRecDepth 100000 in
theorem met_X2_hearsNo (l : Launch) (E : g_E) (G : g_G) (o : Nat) (p1 : Nat) (mc0 ms0 : Nat) (post : g_G → Prop) (hvc : wp_X2_hearsNo E G o p1 mc0 ms0 post) : g_MV E l yX2_hearsNo (ws_ yX2_hearsNo cX2_hearsNo 2 (Option.none : Option Jvm.ClassFile.FieldType)) ({ frames := 10, cells := mc0, slots := ms0, locals := 260 } : Room) (g_X E) [.ref o, .ref p1] G (post) := by
  refine g_enter (by decide +kernel) (Nat.le_of_ble_eq_true rfl) ?_
  intro p e s m below meth c ls hx hb hr hts hown hlocks hml hin hz hX hK hG hS hl
  have hl : lv_has ls 2 [(0, .ref o), (1, .ref p1)] := hl
  have hown : s.vm.findClass RX2 = some m.cls := hown
  have hMC : 0 + mc0 ≤ mc0 := Nat.le_of_eq (Nat.zero_add _)
  have hMS : 0 + ms0 ≤ ms0 := Nat.le_of_eq (Nat.zero_add _)
  unfold wp_X2_hearsNo at hvc
  refine lv_aload_n hx hb dX2_hearsNo_0 rfl (lv_at hl 0 rfl) ?_
  refine lv_aload_n hx hb dX2_hearsNo_1 rfl (lv_at hl 1 rfl) ?_
  refine gw_giN (C := RX6) (T := TX6) (N := 3) (own := RX2) hx hb hts in_X6 hown hK hG hvc rfl (by decide) (hX.1 _ q933 rfl) (fun _ h9 => h9) dX2_hearsNo_2 (fun x1 hvc_1 => ?_)
  clear hvc
  obtain ⟨c4, t5, hc1, hs1, hvc_1⟩ := hvc_1
  refine gw_cVIA (As := [.int x1]) (rest := [])  ⟨hx, hb, hml, hown, hts⟩ (met_X2_isUndecided l E G o x1 c4 t5 _ hvc_1.2) (cwV 1 hts (lw_V q952 q953 q954 q97 q955) rfl rfl rfl (by decide +kernel) ⟨Nat.le_of_ble_eq_true rfl, Nat.le_of_ble_eq_true rfl⟩) (gw_rc (q := (RX2, TX2, 11)) hK hG hvc_1.1 rfl) hc1 hs1 hMC hMS (Nat.le_refl _) (Nat.le_refl _) (g_X.st E) hz hX hK hG hS rfl hl.1 rfl (Nat.le_of_ble_eq_true rfl) dX2_hearsNo_5 (fun x2 G3 H locs ce sl hvc_2 hG_3 hS_4 hMC_5 hMS_6 => ?_)
  clear hvc_1 hG hS hMC hMS
  refine lv_if_eq (tgt := 20) hx hb dX2_hearsNo_8 (by decide) (fun h9 => ?_) (fun h9 => ?_)
  · replace hvc_2 := hvc_2.1 h9
    exact g_vret hx hb hr hlocks (by show _ ≤ mc0; omega) (by show _ ≤ ms0; omega) hG_3 hS_4 hvc_2 dX2_hearsNo_20
  · replace hvc_2 := hvc_2.2 h9
    refine lv_aload_n hx hb dX2_hearsNo_11 rfl (lv_at hl 0 rfl) ?_
    refine lv_aload_n hx hb dX2_hearsNo_12 rfl (lv_at hl 1 rfl) ?_
    refine gw_giN (C := RX6) (T := TX6) (N := 3) (own := RX2) hx hb hts in_X6 hown hK hG_3 hvc_2 rfl (by decide) (hX.1 _ q933 rfl) (fun _ h9 => h9) dX2_hearsNo_13 (fun x6 hvc_7 => ?_)
    clear hvc_2
    refine lv_iconst (v := nI 2) hx hb dX2_hearsNo_16 (by decide) ?_
    obtain ⟨c9, t10, hc1, hs1, hvc_7⟩ := hvc_7
    refine gw_cVVA (As := [.int x6, .int (nI 2)]) (rest := [])  ⟨hx, hb, hml, hown, hts⟩ (met_X2_decides l E G3 o x6 (nI 2) c9 t10 _ hvc_7.2) (cwV 2 hts (lw_V q968 q970 qs12 q97 q971) rfl rfl rfl (by decide +kernel) ⟨Nat.le_of_ble_eq_true rfl, Nat.le_of_ble_eq_true rfl⟩) (gw_rc (q := (RX2, TX2, 11)) hK hG_3 hvc_7.1 rfl) hc1 hs1 hMC_5 hMS_6 (Nat.le_refl _) (Nat.le_refl _) (g_X.st E) hz hX hK hG_3 hS_4 rfl hl.1 rfl (Nat.le_of_ble_eq_true rfl) dX2_hearsNo_17 (fun G8 H locs ce sl hvc_8 hG_9 hS_10 hMC_11 hMS_12 => ?_)
    clear hvc_7 hG_3 hS_4 hMC_5 hMS_6
    exact g_vret hx hb hr hlocks (by show _ ≤ mc0; omega) (by show _ ≤ ms0; omega) hG_9 hS_10 hvc_8 dX2_hearsNo_20
set_option maxHeartbeats 4000000 in
set_option maxRecDepth 100000 in
theorem wlk_X12_comes (l : Launch) (E : g_E) (G : g_G) (o : Nat) (p1 : Nat) (p2 : Nat) (mc0 ms0 : Nat) (post : g_G → Prop) (hvc : wp_X12_comes E G o p1 p2 mc0 ms0 post) (p : Program) (e : Env) (s : State) (m : MethodId) (below : List Frame) (meth : Method) (c : Code) (ls : Array Slot) (hx : p.tables.exec = Jvm.exec) (hb : c.code = cX12_comes) (hr : meth.sig.returnType = (Option.none : Option Jvm.ClassFile.FieldType)) (hts : ∀ w ∈ lw_all, w.before ([.ref o, .ref p1, .ref p2] : List Value).toArray s = true) (hown : s.vm.findClass RX12 = some m.cls) (hlocks : meth.locks = false) (hml : c.maxLocals = 3) (hin : meth.name = yX12_comes.name) (hz : E.2.2 ≤ s.heap.size) (hX : g_X E s) (hK : g_K E s) (hG : g_H E G s.heap) (hS : va_S (g_A E) s.heap s.heap []) (hl : lv_has ls 3 (lv_args 0 [.ref o, .ref p1, .ref p2])) : W p l e ({ frames := 11, cells := mc0, slots := ms0, locals := 281 } : Room) s m ([.ref o, .ref p1, .ref p2] : List Value).toArray below meth c s.heap [] 0 0 (MQ below (va_Qv (post) (g_Bk E) (g_A E)) ([.ref o, .ref p1, .ref p2] : List Value).toArray s mc0 ms0 (g_A E)) (F0 m 0 ls []) := by
  have hl : lv_has ls 3 [(0, .ref o), (1, .ref p1), (2, .ref p2)] := hl
  have hMC : 0 + mc0 ≤ mc0 := Nat.le_of_eq (Nat.zero_add _)
  have hMS : 0 + ms0 ≤ ms0 := Nat.le_of_eq (Nat.zero_add _)
  unfold wp_X12_comes at hvc
  refine lv_aload_n hx hb dX12_comes_0 rfl (lv_at hl 1 rfl) ?_
  refine lv_aload_n hx hb dX12_comes_1 rfl (lv_at hl 2 rfl) ?_
  obtain ⟨c3, t4, hc1, hs1, hvc⟩ := hvc
  refine gw_cVVA (As := [.ref p2]) (rest := [])  ⟨hx, hb, hml, hown, hts⟩ (met_X2_hearsNo l E G p1 p2 c3 t4 _ hvc.2) (cwV 1 hts (lw_V q986 q987 q988 q97 q989) rfl rfl rfl (by decide +kernel) ⟨Nat.le_of_ble_eq_true rfl, Nat.le_of_ble_eq_true rfl⟩) (gw_rc (q := (RX2, TX2, 11)) hK hG hvc.1 rfl) hc1 hs1 hMC hMS (Nat.le_refl _) (Nat.le_refl _) (g_X.st E) hz hX hK hG hS rfl hl.1 rfl (Nat.le_of_ble_eq_true rfl) dX12_comes_2 (fun G2 H locs ce sl hvc_1 hG_2 hS_3 hMC_4 hMS_5 => ?_)
  clear hvc hG hS hMC hMS
  exact g_vret hx hb hr hlocks (by show _ ≤ mc0; omega) (by show _ ≤ ms0; omega) hG_2 hS_3 hvc_1 dX12_comes_5
set_option maxHeartbeats 4000000 in
set_option maxRecDepth 100000 in
theorem met_X2_hearsMake (l : Launch) (E : g_E) (G : g_G) (o : Nat) (p1 : Nat) (mc0 ms0 : Nat) (post : g_G → Prop) (hvc : wp_X2_hearsMake E G o p1 mc0 ms0 post) : g_MV E l yX2_hearsMake (ws_ yX2_hearsMake cX2_hearsMake 4 (Option.none : Option Jvm.ClassFile.FieldType)) ({ frames := 8, cells := mc0, slots := ms0, locals := 214 } : Room) (g_X E) [.ref o, .ref p1] G (post) := by
  refine g_enter (by decide +kernel) (Nat.le_of_ble_eq_true rfl) ?_
  intro p e s m below meth c ls hx hb hr hts hown hlocks hml hin hz hX hK hG hS hl
  have hl : lv_has ls 4 [(0, .ref o), (1, .ref p1)] := hl
  have hown : s.vm.findClass RX2 = some m.cls := hown
  have hMC : 0 + mc0 ≤ mc0 := Nat.le_of_eq (Nat.zero_add _)
  have hMS : 0 + ms0 ≤ ms0 := Nat.le_of_eq (Nat.zero_add _)
  unfold wp_X2_hearsMake at hvc
  refine lv_aload_n hx hb dX2_hearsMake_0 rfl (lv_at hl 1 rfl) ?_
  refine gw_giN (C := RX6) (T := TX6) (N := 3) (own := RX2) hx hb hts in_X6 hown hK hG hvc rfl (by decide) (hX.1 _ q936 rfl) (fun _ h9 => h9) dX2_hearsMake_1 (fun x1 hvc_1 => ?_)
  clear hvc
  refine lv_istore_n (lv' := [(2, .int x1), (0, .ref o), (1, .ref p1)]) hx hb dX2_hearsMake_4 rfl hl (by decide) rfl (fun ls hl_2 => ?_)
  clear hl
  refine lv_aload_n hx hb dX2_hearsMake_5 rfl (lv_at hl_2 2 rfl) ?_
  refine gw_giN (C := RX6) (T := TX6) (N := 3) (own := RX2) hx hb hts in_X6 hown hK hG hvc_1 rfl (by decide) (hX.1 _ q933 rfl) (fun _ h9 => h9) dX2_hearsMake_6 (fun x2 hvc_3 => ?_)
  clear hvc_1
  refine lv_istore_n (lv' := [(3, .int x2), (2, .int x1), (0, .ref o), (1, .ref p1)]) hx hb dX2_hearsMake_9 rfl hl_2 (by decide) rfl (fun ls hl_4 => ?_)
  clear hl_2
  refine lv_aload_n hx hb dX2_hearsMake_10 rfl (lv_at hl_4 2 rfl) ?_
  refine lv_iload_n hx hb dX2_hearsMake_11 rfl (lv_at hl_4 1 rfl) ?_
  refine lv_iload_n hx hb dX2_hearsMake_12 rfl (lv_at hl_4 0 rfl) ?_
  refine gw_cVIP (As := [.int x1, .int x2]) (rest := [])  ⟨hx, hb, hml, hown, hts⟩ (met_X2_state l E G o x1 x2 _ hvc_3.2) (cwV 2 hts (lw_V q849 q850 q851 q97 q852) rfl rfl rfl (by decide +kernel) ⟨Nat.le_of_ble_eq_true rfl, Nat.le_of_ble_eq_true rfl⟩) (gw_rc (q := (RX2, TX2, 11)) hK hG hvc_3.1 rfl) (by show _ ≤ mc0; omega) (by show _ ≤ ms0; omega) (g_St0 E) hz trivial hK hG hS rfl hl_4.1 rfl (Nat.le_of_ble_eq_true rfl) dX2_hearsMake_13 (fun x3 H locs hvc_5 hG_6 hS_7 => ?_)
  clear hvc_3 hG hS
  refine lv_iconst (v := nI 1) hx hb dX2_hearsMake_16 (by decide) ?_
  have jn60 : ∀ (y0 : Nat) (y2 : Int32) (y3 : Int32) (G : g_G) (mc : Nat) (ms : Nat) (H : Heap) (locs : List Loc) (ls : Array Slot) (ce sl : Nat), wp_X2_hearsMake_60 E post y0 y2 y3 G mc ms → g_H E G H → va_S (g_A E) s.heap H locs → lv_has ls 4 [(0, .ref y0), (2, .int y2), (3, .int y3)] → ce + mc ≤ mc0 → sl + ms ≤ ms0 → W p l e ({ frames := 8, cells := mc0, slots := ms0, locals := 214 } : Room) s m ([.ref o, .ref p1] : List Value).toArray below meth c H locs ce sl (MQ below (va_Qv (post) (g_Bk E) (g_A E)) ([.ref o, .ref p1] : List Value).toArray s mc0 ms0 (g_A E)) (F0 m 60 ls []) := by
    clear hvc_5 hG_6 hS_7 hl_4 hMC hMS
    intro y0 y2 y3 G mc ms H locs ls ce sl hvc_8 hG_9 hS_10 hl_11 hMC_12 hMS_13
    refine lv_aload_n hx hb dX2_hearsMake_60 rfl (lv_at hl_11 0 rfl) ?_
    refine va_gets (A := g_A E) hx hb (hX.kz 5 (by decide)) hS_10 hown (hts _ q997) (fun _ h9 => h9) dX2_hearsMake_61 ?_
    refine lv_iload_n hx hb dX2_hearsMake_64 rfl (lv_at hl_11 2 rfl) ?_
    refine lv_iload_n hx hb dX2_hearsMake_65 rfl (lv_at hl_11 1 rfl) ?_
    obtain ⟨c7, t8, hc1, hs1, hvc_8⟩ := hvc_8
    refine gw_cVVA (As := [.ref (g_k E 5), .int y3, .int y2]) (rest := [])  ⟨hx, hb, hml, hown, hts⟩ (met_X2_sends l E G y0 (g_k E 5) y3 y2 c7 t8 _ hvc_8.2) (cwV 3 hts (lw_V q920 q922 qs11 q97 q923) rfl rfl rfl (by decide +kernel) ⟨Nat.le_of_ble_eq_true rfl, Nat.le_of_ble_eq_true rfl⟩) (gw_rc (q := (RX2, TX2, 11)) hK hG_9 hvc_8.1 rfl) hc1 hs1 hMC_12 hMS_13 (Nat.le_refl _) (Nat.le_refl _) (g_X.st E) hz hX hK hG_9 hS_10 rfl hl_11.1 rfl (Nat.le_of_ble_eq_true rfl) dX2_hearsMake_66 (fun G6 H locs ce sl hvc_14 hG_15 hS_16 hMC_17 hMS_18 => ?_)
    clear hvc_8 hG_9 hS_10 hMC_12 hMS_13
    exact g_vret hx hb hr hlocks (by show _ ≤ mc0; omega) (by show _ ≤ ms0; omega) hG_15 hS_16 hvc_14 dX2_hearsMake_69
  refine lv_icmp_ne (tgt := 60) hx hb dX2_hearsMake_17 (by decide) (fun h9 => ?_) (fun h9 => ?_)
  · replace hvc_5 := hvc_5.1 h9
    exact jn60 o x1 x2 G mc0 ms0 _ _ _ _ _ hvc_5 hG_6 hS_7 (lv_sub hl_4 [2, 1, 0] rfl) hMC hMS
  · replace hvc_5 := hvc_5.2 h9
    refine lv_aload_n hx hb dX2_hearsMake_20 rfl (lv_at hl_4 2 rfl) ?_
    refine lv_iload_n hx hb dX2_hearsMake_21 rfl (lv_at hl_4 1 rfl) ?_
    refine lv_iconst (v := nI 1) hx hb dX2_hearsMake_22 (by decide) ?_
    refine lv_iload_n hx hb dX2_hearsMake_23 rfl (lv_at hl_4 0 rfl) ?_
    obtain ⟨c11, t12, hc1, hs1, hvc_5⟩ := hvc_5
    refine gw_cVVA (As := [.int x1, .int (nI 1), .int x2]) (rest := [])  ⟨hx, hb, hml, hown, hts⟩ (met_X2_writes l E G o x1 (nI 1) x2 c11 t12 _ hvc_5.2) (cwV 3 hts (lw_V q891 q893 qs9 q97 q894) rfl rfl rfl (by decide +kernel) ⟨Nat.le_of_ble_eq_true rfl, Nat.le_of_ble_eq_true rfl⟩) (gw_rc (q := (RX2, TX2, 11)) hK hG_6 hvc_5.1 rfl) hc1 hs1 hMC hMS (Nat.le_refl _) (Nat.le_refl _) (g_X.st E) hz hX hK hG_6 hS_7 rfl hl_4.1 rfl (Nat.le_of_ble_eq_true rfl) dX2_hearsMake_24 (fun G10 H locs ce sl hvc_19 hG_20 hS_21 hMC_22 hMS_23 => ?_)
    clear hvc_5 hG_6 hS_7 hMC hMS
    refine lv_aload_n hx hb dX2_hearsMake_27 rfl (lv_at hl_4 2 rfl) ?_
    refine lv_iload_n hx hb dX2_hearsMake_28 rfl (lv_at hl_4 1 rfl) ?_
    refine lv_iload_n hx hb dX2_hearsMake_29 rfl (lv_at hl_4 0 rfl) ?_
    refine lv_iconst (v := nI 2) hx hb dX2_hearsMake_30 (by decide) ?_
    refine gw_cVVN (As := [.int x1, .int x2, .int (nI 2)]) (rest := [])  ⟨hx, hb, hml, hown, hts⟩ (met_X2_becomes l E G10 o x1 x2 (nI 2) _ hvc_19.2) (cwV 3 hts (lw_V q912 q914 qs10 q97 q915) rfl rfl rfl (by decide +kernel) ⟨Nat.le_of_ble_eq_true rfl, Nat.le_of_ble_eq_true rfl⟩) (gw_rc (q := (RX2, TX2, 11)) hK hG_20 hvc_19.1 rfl) (by show _ ≤ mc0; omega) (by show _ ≤ ms0; omega) (g_St0 E) hz trivial hK hG_20 hS_21 rfl hl_4.1 rfl (Nat.le_of_ble_eq_true rfl) dX2_hearsMake_31 (fun G14 H locs hvc_24 hG_25 hS_26 => ?_)
    clear hvc_19 hG_20 hS_21
    refine lv_aload_n hx hb dX2_hearsMake_34 rfl (lv_at hl_4 2 rfl) ?_
    refine gw_gr (C := RX2) (T := TX2) (N := 11) (own := RX2) hx hb hts in_X2 hown hK hG_25 hvc_24 rfl (by decide) (hts _ q307) (fun _ h9 => h9) dX2_hearsMake_35 (fun x15 hvc_27 => ?_)
    clear hvc_24
    refine lv_iload_n hx hb dX2_hearsMake_38 rfl (lv_at hl_4 1 rfl) ?_
    refine lv_dup2_11 hx hb dX2_hearsMake_39 rfl rfl ?_
    refine gw_ild hx hb hK hG_25 hvc_27 dX2_hearsMake_40 (fun x16 hvc_28 => ?_)
    clear hvc_27
    refine lv_aload_n hx hb dX2_hearsMake_41 rfl (lv_at hl_4 2 rfl) ?_
    refine gw_gr (C := RX2) (T := TX2) (N := 11) (own := RX2) hx hb hts in_X2 hown hK hG_25 hvc_28 rfl (by decide) (hts _ q301) (fun _ h9 => h9) dX2_hearsMake_42 (fun x17 hvc_29 => ?_)
    clear hvc_28
    refine lv_iload_n hx hb dX2_hearsMake_45 rfl (lv_at hl_4 0 rfl) ?_
    refine gw_cFQP (As := [.int x2]) (rest := [.int x16, .int x1, .ref x15]) (hK.1 9 _ rfl).2  ⟨hx, hb, hml, hown, hts⟩ (met_J7_get l E G14 x17 x2 _ hvc_29.2) (va_cwF 1 hts (lw_F q854 q857 q859 q99 q861) rfl rfl rfl (hX.fw (List.mem_of_getElem? (i := 5) rfl)) (by decide +kernel) ⟨Nat.le_of_ble_eq_true rfl, Nat.le_of_ble_eq_true rfl⟩) (gw_rc (q := (RJ7, TJ7, 3)) hK hG_25 hvc_29.1 rfl) (by show _ ≤ mc0; omega) (by show _ ≤ ms0; omega) (g_St0 E) hz trivial hK hG_25 hS_26 rfl hl_4.1 rfl (Nat.le_of_ble_eq_true rfl) dX2_hearsMake_46 (fun x18 H locs hvc_30 hG_31 hS_32 => ?_)
    clear hvc_29 hG_25 hS_26
    refine gw_castS (v := x18) (ci := 3) hx hb hown (hts _ q866) hK hG_31 rfl rfl hvc_30 dX2_hearsMake_51 (fun z20 hy9 hvc_33 => ?_)
    clear hvc_30
    subst hy9
    refine lv_iload_n hx hb dX2_hearsMake_54 rfl (lv_at hl_4 1 rfl) ?_
    refine gw_cVIP (As := [.int x1]) (rest := [.int x16, .int x1, .ref x15])  ⟨hx, hb, hml, hown, hts⟩ (met_X4_share l E G14 z20 x1 _ hvc_33.2) (cwV 1 hts (lw_V q867 q868 q869 q117 q870) rfl rfl rfl (by decide +kernel) ⟨Nat.le_of_ble_eq_true rfl, Nat.le_of_ble_eq_true rfl⟩) (gw_rc (q := (RX4, TX4, 3)) hK hG_31 hvc_33.1 rfl) (by show _ ≤ mc0; omega) (by show _ ≤ ms0; omega) (g_X.st E) hz hX hK hG_31 hS_32 rfl hl_4.1 rfl (Nat.le_of_ble_eq_true rfl) dX2_hearsMake_55 (fun x21 H locs hvc_34 hG_35 hS_36 => ?_)
    clear hvc_33 hG_31 hS_32
    refine lv_iadd hx hb dX2_hearsMake_58 ?_
    refine gw_ist hx hb hK hG_35 hS_36 hvc_34 dX2_hearsMake_59 (fun G23 H locs hvc_37 hG_38 hS_39 => ?_)
    clear hvc_34 hG_35 hS_36
    exact jn60 o x1 x2 G23 (mc0 - c11) (ms0 - t12) _ _ _ _ _ hvc_37 hG_38 hS_39 (lv_sub hl_4 [2, 1, 0] rfl) hMC_22 hMS_23
set_option maxHeartbeats 4000000 in
set_option maxRecDepth 100000 in
theorem wlk_X13_comes (l : Launch) (E : g_E) (G : g_G) (o : Nat) (p1 : Nat) (p2 : Nat) (mc0 ms0 : Nat) (post : g_G → Prop) (hvc : wp_X13_comes E G o p1 p2 mc0 ms0 post) (p : Program) (e : Env) (s : State) (m : MethodId) (below : List Frame) (meth : Method) (c : Code) (ls : Array Slot) (hx : p.tables.exec = Jvm.exec) (hb : c.code = cX13_comes) (hr : meth.sig.returnType = (Option.none : Option Jvm.ClassFile.FieldType)) (hts : ∀ w ∈ lw_all, w.before ([.ref o, .ref p1, .ref p2] : List Value).toArray s = true) (hown : s.vm.findClass RX13 = some m.cls) (hlocks : meth.locks = false) (hml : c.maxLocals = 3) (hin : meth.name = yX13_comes.name) (hz : E.2.2 ≤ s.heap.size) (hX : g_X E s) (hK : g_K E s) (hG : g_H E G s.heap) (hS : va_S (g_A E) s.heap s.heap []) (hl : lv_has ls 3 (lv_args 0 [.ref o, .ref p1, .ref p2])) : W p l e ({ frames := 9, cells := mc0, slots := ms0, locals := 237 } : Room) s m ([.ref o, .ref p1, .ref p2] : List Value).toArray below meth c s.heap [] 0 0 (MQ below (va_Qv (post) (g_Bk E) (g_A E)) ([.ref o, .ref p1, .ref p2] : List Value).toArray s mc0 ms0 (g_A E)) (F0 m 0 ls []) := by
  have hl : lv_has ls 3 [(0, .ref o), (1, .ref p1), (2, .ref p2)] := hl
  have hMC : 0 + mc0 ≤ mc0 := Nat.le_of_eq (Nat.zero_add _)
  have hMS : 0 + ms0 ≤ ms0 := Nat.le_of_eq (Nat.zero_add _)
  unfold wp_X13_comes at hvc
  refine lv_aload_n hx hb dX13_comes_0 rfl (lv_at hl 1 rfl) ?_
  refine lv_aload_n hx hb dX13_comes_1 rfl (lv_at hl 2 rfl) ?_
  obtain ⟨c3, t4, hc1, hs1, hvc⟩ := hvc
  refine gw_cVVA (As := [.ref p2]) (rest := [])  ⟨hx, hb, hml, hown, hts⟩ (met_X2_hearsMake l E G p1 p2 c3 t4 _ hvc.2) (cwV 1 hts (lw_V q993 q994 q995 q97 q996) rfl rfl rfl (by decide +kernel) ⟨Nat.le_of_ble_eq_true rfl, Nat.le_of_ble_eq_true rfl⟩) (gw_rc (q := (RX2, TX2, 11)) hK hG hvc.1 rfl) hc1 hs1 hMC hMS (Nat.le_refl _) (Nat.le_refl _) (g_X.st E) hz hX hK hG hS rfl hl.1 rfl (Nat.le_of_ble_eq_true rfl) dX13_comes_2 (fun G2 H locs ce sl hvc_1 hG_2 hS_3 hMC_4 hMS_5 => ?_)
  clear hvc hG hS hMC hMS
  exact g_vret hx hb hr hlocks (by show _ ≤ mc0; omega) (by show _ ≤ ms0; omega) hG_2 hS_3 hvc_1 dX13_comes_5
set_option maxHeartbeats 4000000 in
set_option maxRecDepth 100000 in
theorem met_X2_hearsDrop (l : Launch) (E : g_E) (G : g_G) (o : Nat) (p1 : Nat) (mc0 ms0 : Nat) (post : g_G → Prop) (hvc : wp_X2_hearsDrop E G o p1 mc0 ms0 post) : g_MV E l yX2_hearsDrop (ws_ yX2_hearsDrop cX2_hearsDrop 4 (Option.none : Option Jvm.ClassFile.FieldType)) ({ frames := 8, cells := mc0, slots := ms0, locals := 214 } : Room) (g_X E) [.ref o, .ref p1] G (post) := by
  refine g_enter (by decide +kernel) (Nat.le_of_ble_eq_true rfl) ?_
  intro p e s m below meth c ls hx hb hr hts hown hlocks hml hin hz hX hK hG hS hl
  have hl : lv_has ls 4 [(0, .ref o), (1, .ref p1)] := hl
  have hown : s.vm.findClass RX2 = some m.cls := hown
  have hMC : 0 + mc0 ≤ mc0 := Nat.le_of_eq (Nat.zero_add _)
  have hMS : 0 + ms0 ≤ ms0 := Nat.le_of_eq (Nat.zero_add _)
  unfold wp_X2_hearsDrop at hvc
  refine lv_aload_n hx hb dX2_hearsDrop_0 rfl (lv_at hl 1 rfl) ?_
  refine gw_giN (C := RX6) (T := TX6) (N := 3) (own := RX2) hx hb hts in_X6 hown hK hG hvc rfl (by decide) (hX.1 _ q936 rfl) (fun _ h9 => h9) dX2_hearsDrop_1 (fun x1 hvc_1 => ?_)
  clear hvc
  refine lv_istore_n (lv' := [(2, .int x1), (0, .ref o), (1, .ref p1)]) hx hb dX2_hearsDrop_4 rfl hl (by decide) rfl (fun ls hl_2 => ?_)
  clear hl
  refine lv_aload_n hx hb dX2_hearsDrop_5 rfl (lv_at hl_2 2 rfl) ?_
  refine gw_giN (C := RX6) (T := TX6) (N := 3) (own := RX2) hx hb hts in_X6 hown hK hG hvc_1 rfl (by decide) (hX.1 _ q933 rfl) (fun _ h9 => h9) dX2_hearsDrop_6 (fun x2 hvc_3 => ?_)
  clear hvc_1
  refine lv_istore_n (lv' := [(3, .int x2), (2, .int x1), (0, .ref o), (1, .ref p1)]) hx hb dX2_hearsDrop_9 rfl hl_2 (by decide) rfl (fun ls hl_4 => ?_)
  clear hl_2
  refine lv_aload_n hx hb dX2_hearsDrop_10 rfl (lv_at hl_4 2 rfl) ?_
  refine lv_iload_n hx hb dX2_hearsDrop_11 rfl (lv_at hl_4 1 rfl) ?_
  refine lv_iload_n hx hb dX2_hearsDrop_12 rfl (lv_at hl_4 0 rfl) ?_
  refine gw_cVIP (As := [.int x1, .int x2]) (rest := [])  ⟨hx, hb, hml, hown, hts⟩ (met_X2_state l E G o x1 x2 _ hvc_3.2) (cwV 2 hts (lw_V q849 q850 q851 q97 q852) rfl rfl rfl (by decide +kernel) ⟨Nat.le_of_ble_eq_true rfl, Nat.le_of_ble_eq_true rfl⟩) (gw_rc (q := (RX2, TX2, 11)) hK hG hvc_3.1 rfl) (by show _ ≤ mc0; omega) (by show _ ≤ ms0; omega) (g_St0 E) hz trivial hK hG hS rfl hl_4.1 rfl (Nat.le_of_ble_eq_true rfl) dX2_hearsDrop_13 (fun x3 H locs hvc_5 hG_6 hS_7 => ?_)
  clear hvc_3 hG hS
  have jn43 : ∀ (y0 : Nat) (y2 : Int32) (y3 : Int32) (G : g_G) (mc : Nat) (ms : Nat) (H : Heap) (locs : List Loc) (ls : Array Slot) (ce sl : Nat), wp_X2_hearsDrop_43 E post y0 y2 y3 G mc ms → g_H E G H → va_S (g_A E) s.heap H locs → lv_has ls 4 [(0, .ref y0), (2, .int y2), (3, .int y3)] → ce + mc ≤ mc0 → sl + ms ≤ ms0 → W p l e ({ frames := 8, cells := mc0, slots := ms0, locals := 214 } : Room) s m ([.ref o, .ref p1] : List Value).toArray below meth c H locs ce sl (MQ below (va_Qv (post) (g_Bk E) (g_A E)) ([.ref o, .ref p1] : List Value).toArray s mc0 ms0 (g_A E)) (F0 m 43 ls []) := by
    clear hvc_5 hG_6 hS_7 hl_4 hMC hMS
    intro y0 y2 y3 G mc ms H locs ls ce sl hvc_8 hG_9 hS_10 hl_11 hMC_12 hMS_13
    refine lv_aload_n hx hb dX2_hearsDrop_43 rfl (lv_at hl_11 0 rfl) ?_
    refine va_gets (A := g_A E) hx hb (hX.kz 5 (by decide)) hS_10 hown (hts _ q997) (fun _ h9 => h9) dX2_hearsDrop_44 ?_
    refine lv_iload_n hx hb dX2_hearsDrop_47 rfl (lv_at hl_11 2 rfl) ?_
    refine lv_iload_n hx hb dX2_hearsDrop_48 rfl (lv_at hl_11 1 rfl) ?_
    obtain ⟨c7, t8, hc1, hs1, hvc_8⟩ := hvc_8
    refine gw_cVVA (As := [.ref (g_k E 5), .int y3, .int y2]) (rest := [])  ⟨hx, hb, hml, hown, hts⟩ (met_X2_sends l E G y0 (g_k E 5) y3 y2 c7 t8 _ hvc_8.2) (cwV 3 hts (lw_V q920 q922 qs11 q97 q923) rfl rfl rfl (by decide +kernel) ⟨Nat.le_of_ble_eq_true rfl, Nat.le_of_ble_eq_true rfl⟩) (gw_rc (q := (RX2, TX2, 11)) hK hG_9 hvc_8.1 rfl) hc1 hs1 hMC_12 hMS_13 (Nat.le_refl _) (Nat.le_refl _) (g_X.st E) hz hX hK hG_9 hS_10 rfl hl_11.1 rfl (Nat.le_of_ble_eq_true rfl) dX2_hearsDrop_49 (fun G6 H locs ce sl hvc_14 hG_15 hS_16 hMC_17 hMS_18 => ?_)
    clear hvc_8 hG_9 hS_10 hMC_12 hMS_13
    exact g_vret hx hb hr hlocks (by show _ ≤ mc0; omega) (by show _ ≤ ms0; omega) hG_15 hS_16 hvc_14 dX2_hearsDrop_52
  have jn29 : ∀ (y0 : Nat) (y2 : Int32) (y3 : Int32) (G : g_G) (mc : Nat) (ms : Nat) (H : Heap) (locs : List Loc) (ls : Array Slot) (ce sl : Nat), wp_X2_hearsDrop_29 E post (wp_X2_hearsDrop_43 E post) y0 y2 y3 G mc ms → g_H E G H → va_S (g_A E) s.heap H locs → lv_has ls 4 [(0, .ref y0), (2, .int y2), (3, .int y3)] → ce + mc ≤ mc0 → sl + ms ≤ ms0 → W p l e ({ frames := 8, cells := mc0, slots := ms0, locals := 214 } : Room) s m ([.ref o, .ref p1] : List Value).toArray below meth c H locs ce sl (MQ below (va_Qv (post) (g_Bk E) (g_A E)) ([.ref o, .ref p1] : List Value).toArray s mc0 ms0 (g_A E)) (F0 m 29 ls []) := by
    clear hvc_5 hG_6 hS_7 hl_4 hMC hMS
    intro y0 y2 y3 G mc ms H locs ls ce sl hvc_19 hG_20 hS_21 hl_22 hMC_23 hMS_24
    refine lv_aload_n hx hb dX2_hearsDrop_29 rfl (lv_at hl_22 0 rfl) ?_
    refine lv_iload_n hx hb dX2_hearsDrop_30 rfl (lv_at hl_22 1 rfl) ?_
    refine lv_iconst (v := nI 2) hx hb dX2_hearsDrop_31 (by decide) ?_
    refine lv_iload_n hx hb dX2_hearsDrop_32 rfl (lv_at hl_22 2 rfl) ?_
    obtain ⟨c11, t12, hc1, hs1, hvc_19⟩ := hvc_19
    refine gw_cVVA (As := [.int y2, .int (nI 2), .int y3]) (rest := [])  ⟨hx, hb, hml, hown, hts⟩ (met_X2_writes l E G y0 y2 (nI 2) y3 c11 t12 _ hvc_19.2) (cwV 3 hts (lw_V q891 q893 qs9 q97 q894) rfl rfl rfl (by decide +kernel) ⟨Nat.le_of_ble_eq_true rfl, Nat.le_of_ble_eq_true rfl⟩) (gw_rc (q := (RX2, TX2, 11)) hK hG_20 hvc_19.1 rfl) hc1 hs1 hMC_23 hMS_24 (Nat.le_refl _) (Nat.le_refl _) (g_X.st E) hz hX hK hG_20 hS_21 rfl hl_22.1 rfl (Nat.le_of_ble_eq_true rfl) dX2_hearsDrop_33 (fun G10 H locs ce sl hvc_25 hG_26 hS_27 hMC_28 hMS_29 => ?_)
    clear hvc_19 hG_20 hS_21 hMC_23 hMS_24
    refine lv_aload_n hx hb dX2_hearsDrop_36 rfl (lv_at hl_22 0 rfl) ?_
    refine lv_iload_n hx hb dX2_hearsDrop_37 rfl (lv_at hl_22 1 rfl) ?_
    refine lv_iload_n hx hb dX2_hearsDrop_38 rfl (lv_at hl_22 2 rfl) ?_
    refine lv_iconst (v := nI 3) hx hb dX2_hearsDrop_39 (by decide) ?_
    refine gw_cVVN (As := [.int y2, .int y3, .int (nI 3)]) (rest := [])  ⟨hx, hb, hml, hown, hts⟩ (met_X2_becomes l E G10 y0 y2 y3 (nI 3) _ hvc_25.2) (cwV 3 hts (lw_V q912 q914 qs10 q97 q915) rfl rfl rfl (by decide +kernel) ⟨Nat.le_of_ble_eq_true rfl, Nat.le_of_ble_eq_true rfl⟩) (gw_rc (q := (RX2, TX2, 11)) hK hG_26 hvc_25.1 rfl) (by show _ ≤ mc0; omega) (by show _ ≤ ms0; omega) (g_St0 E) hz trivial hK hG_26 hS_27 rfl hl_22.1 rfl (Nat.le_of_ble_eq_true rfl) dX2_hearsDrop_40 (fun G14 H locs hvc_30 hG_31 hS_32 => ?_)
    clear hvc_25 hG_26 hS_27
    exact jn43 y0 y2 y3 G14 (mc - c11) (ms - t12) _ _ _ _ _ hvc_30 hG_31 hS_32 (lv_sub hl_22 [0, 1, 2] rfl) hMC_28 hMS_29
  refine lv_if_eq (tgt := 29) hx hb dX2_hearsDrop_16 (by decide) (fun h9 => ?_) (fun h9 => ?_)
  · replace hvc_5 := hvc_5.1 h9
    exact jn29 o x1 x2 G mc0 ms0 _ _ _ _ _ hvc_5 hG_6 hS_7 (lv_sub hl_4 [2, 1, 0] rfl) hMC hMS
  · replace hvc_5 := hvc_5.2 h9
    refine lv_aload_n hx hb dX2_hearsDrop_19 rfl (lv_at hl_4 2 rfl) ?_
    refine lv_iload_n hx hb dX2_hearsDrop_20 rfl (lv_at hl_4 1 rfl) ?_
    refine lv_iload_n hx hb dX2_hearsDrop_21 rfl (lv_at hl_4 0 rfl) ?_
    refine gw_cVIP (As := [.int x1, .int x2]) (rest := [])  ⟨hx, hb, hml, hown, hts⟩ (met_X2_state l E G o x1 x2 _ hvc_5.2) (cwV 2 hts (lw_V q849 q850 q851 q97 q852) rfl rfl rfl (by decide +kernel) ⟨Nat.le_of_ble_eq_true rfl, Nat.le_of_ble_eq_true rfl⟩) (gw_rc (q := (RX2, TX2, 11)) hK hG_6 hvc_5.1 rfl) (by show _ ≤ mc0; omega) (by show _ ≤ ms0; omega) (g_St0 E) hz trivial hK hG_6 hS_7 rfl hl_4.1 rfl (Nat.le_of_ble_eq_true rfl) dX2_hearsDrop_22 (fun x15 H locs hvc_33 hG_34 hS_35 => ?_)
    clear hvc_5 hG_6 hS_7
    refine lv_iconst (v := nI 1) hx hb dX2_hearsDrop_25 (by decide) ?_
    refine lv_icmp_ne (tgt := 43) hx hb dX2_hearsDrop_26 (by decide) (fun h9 => ?_) (fun h9 => ?_)
    · replace hvc_33 := hvc_33.1 h9
      exact jn43 o x1 x2 G mc0 ms0 _ _ _ _ _ hvc_33 hG_34 hS_35 (lv_sub hl_4 [2, 1, 0] rfl) hMC hMS
    · replace hvc_33 := hvc_33.2 h9
      exact jn29 o x1 x2 G mc0 ms0 _ _ _ _ _ hvc_33 hG_34 hS_35 (lv_sub hl_4 [2, 1, 0] rfl) hMC hMS
set_option maxHeartbeats 4000000 in
set_option maxRecDepth 100000 in
theorem wlk_X14_comes (l : Launch) (E : g_E) (G : g_G) (o : Nat) (p1 : Nat) (p2 : Nat) (mc0 ms0 : Nat) (post : g_G → Prop) (hvc : wp_X14_comes E G o p1 p2 mc0 ms0 post) (p : Program) (e : Env) (s : State) (m : MethodId) (below : List Frame) (meth : Method) (c : Code) (ls : Array Slot) (hx : p.tables.exec = Jvm.exec) (hb : c.code = cX14_comes) (hr : meth.sig.returnType = (Option.none : Option Jvm.ClassFile.FieldType)) (hts : ∀ w ∈ lw_all, w.before ([.ref o, .ref p1, .ref p2] : List Value).toArray s = true) (hown : s.vm.findClass RX14 = some m.cls) (hlocks : meth.locks = false) (hml : c.maxLocals = 3) (hin : meth.name = yX14_comes.name) (hz : E.2.2 ≤ s.heap.size) (hX : g_X E s) (hK : g_K E s) (hG : g_H E G s.heap) (hS : va_S (g_A E) s.heap s.heap []) (hl : lv_has ls 3 (lv_args 0 [.ref o, .ref p1, .ref p2])) : W p l e ({ frames := 9, cells := mc0, slots := ms0, locals := 237 } : Room) s m ([.ref o, .ref p1, .ref p2] : List Value).toArray below meth c s.heap [] 0 0 (MQ below (va_Qv (post) (g_Bk E) (g_A E)) ([.ref o, .ref p1, .ref p2] : List Value).toArray s mc0 ms0 (g_A E)) (F0 m 0 ls []) := by
  have hl : lv_has ls 3 [(0, .ref o), (1, .ref p1), (2, .ref p2)] := hl
  have hMC : 0 + mc0 ≤ mc0 := Nat.le_of_eq (Nat.zero_add _)
  have hMS : 0 + ms0 ≤ ms0 := Nat.le_of_eq (Nat.zero_add _)
  unfold wp_X14_comes at hvc
  refine lv_aload_n hx hb dX14_comes_0 rfl (lv_at hl 1 rfl) ?_
  refine lv_aload_n hx hb dX14_comes_1 rfl (lv_at hl 2 rfl) ?_
  obtain ⟨c3, t4, hc1, hs1, hvc⟩ := hvc
  refine gw_cVVA (As := [.ref p2]) (rest := [])  ⟨hx, hb, hml, hown, hts⟩ (met_X2_hearsDrop l E G p1 p2 c3 t4 _ hvc.2) (cwV 1 hts (lw_V q1002 q1003 q1004 q97 q1005) rfl rfl rfl (by decide +kernel) ⟨Nat.le_of_ble_eq_true rfl, Nat.le_of_ble_eq_true rfl⟩) (gw_rc (q := (RX2, TX2, 11)) hK hG hvc.1 rfl) hc1 hs1 hMC hMS (Nat.le_refl _) (Nat.le_refl _) (g_X.st E) hz hX hK hG hS rfl hl.1 rfl (Nat.le_of_ble_eq_true rfl) dX14_comes_2 (fun G2 H locs ce sl hvc_1 hG_2 hS_3 hMC_4 hMS_5 => ?_)
  clear hvc hG hS hMC hMS
  exact g_vret hx hb hr hlocks (by show _ ≤ mc0; omega) (by show _ ≤ ms0; omega) hG_2 hS_3 hvc_1 dX14_comes_5
set_option maxHeartbeats 4000000 in
set_option maxRecDepth 100000 in
theorem met_X2_hasEnded (l : Launch) (E : g_E) (G : g_G) (o : Nat) (p1 : Int32) (mc0 ms0 : Nat) (post : Int32 → g_G → Prop) (hvc : wp_X2_hasEnded E G o p1 mc0 ms0 post) : g_MI E l yX2_hasEnded (ws_ yX2_hasEnded cX2_hasEnded 2 (Option.some Jvm.ClassFile.FieldType.boolean)) ({ frames := 4, cells := mc0, slots := ms0, locals := 90 } : Room) (g_X E) [.ref o, .int p1] G (post) := by
  refine g_enter (by decide +kernel) (Nat.le_of_ble_eq_true rfl) ?_
  intro p e s m below meth c ls hx hb hr hts hown hlocks hml hin hz hX hK hG hS hl
  have hl : lv_has ls 2 [(0, .ref o), (1, .int p1)] := hl
  have hown : s.vm.findClass RX2 = some m.cls := hown
  have hMC : 0 + mc0 ≤ mc0 := Nat.le_of_eq (Nat.zero_add _)
  have hMS : 0 + ms0 ≤ ms0 := Nat.le_of_eq (Nat.zero_add _)
  unfold wp_X2_hasEnded at hvc
  refine lv_aload_n hx hb dX2_hasEnded_0 rfl (lv_at hl 0 rfl) ?_
  refine lv_iconst (v := nI 4) hx hb dX2_hasEnded_1 (by decide) ?_
  refine lv_iload_n hx hb dX2_hasEnded_2 rfl (lv_at hl 1 rfl) ?_
  refine lv_iconst (v := nI 3) hx hb dX2_hasEnded_3 (by decide) ?_
  obtain ⟨c3, t4, hc1, hs1, hvc⟩ := hvc
  refine gw_cVIA (As := [.int (nI 4), .int p1, .int (nI 3)]) (rest := [])  ⟨hx, hb, hml, hown, hts⟩ (met_X2_lastKind l E G o (nI 4) p1 (nI 3) c3 t4 _ hvc.2) (cwV 3 hts (lw_V q960 q961 q962 q97 q963) rfl rfl rfl (by decide +kernel) ⟨Nat.le_of_ble_eq_true rfl, Nat.le_of_ble_eq_true rfl⟩) (gw_rc (q := (RX2, TX2, 11)) hK hG hvc.1 rfl) hc1 hs1 hMC hMS (Nat.le_refl _) (Nat.le_refl _) (g_X.st E) hz hX hK hG hS rfl hl.1 rfl (Nat.le_of_ble_eq_true rfl) dX2_hasEnded_4 (fun x1 G2 H locs ce sl hvc_1 hG_2 hS_3 hMC_4 hMS_5 => ?_)
  clear hvc hG hS hMC hMS
  refine lv_iconst (v := nI 3) hx hb dX2_hasEnded_7 (by decide) ?_
  refine lv_icmp_ne (tgt := 15) hx hb dX2_hasEnded_8 (by decide) (fun h9 => ?_) (fun h9 => ?_)
  · replace hvc_1 := hvc_1.1 h9
    refine lv_iconst (v := nI 0) hx hb dX2_hasEnded_15 (by decide) ?_
    exact g_iret hx hb hr hlocks (by show _ ≤ mc0; omega) (by show _ ≤ ms0; omega) hG_2 hS_3 rfl hvc_1 dX2_hasEnded_16
  · replace hvc_1 := hvc_1.2 h9
    refine lv_iconst (v := nI 1) hx hb dX2_hasEnded_11 (by decide) ?_
    refine lv_goto (tgt := 16) hx hb dX2_hasEnded_12 (by decide) ?_
    exact g_iret hx hb hr hlocks (by show _ ≤ mc0; omega) (by show _ ≤ ms0; omega) hG_2 hS_3 rfl hvc_1 dX2_hasEnded_16
set_option maxHeartbeats 4000000 in
set_option maxRecDepth 100000 in
theorem met_X2_hearsDone (l : Launch) (E : g_E) (G : g_G) (o : Nat) (p1 : Nat) (mc0 ms0 : Nat) (post : g_G → Prop) (hvc : wp_X2_hearsDone E G o p1 mc0 ms0 post) : g_MV E l yX2_hearsDone (ws_ yX2_hearsDone cX2_hearsDone 3 (Option.none : Option Jvm.ClassFile.FieldType)) ({ frames := 8, cells := mc0, slots := ms0, locals := 214 } : Room) (g_X E) [.ref o, .ref p1] G (post) := by
  refine g_enter (by decide +kernel) (Nat.le_of_ble_eq_true rfl) ?_
  intro p e s m below meth c ls hx hb hr hts hown hlocks hml hin hz hX hK hG hS hl
  have hl : lv_has ls 3 [(0, .ref o), (1, .ref p1)] := hl
  have hown : s.vm.findClass RX2 = some m.cls := hown
  have hMC : 0 + mc0 ≤ mc0 := Nat.le_of_eq (Nat.zero_add _)
  have hMS : 0 + ms0 ≤ ms0 := Nat.le_of_eq (Nat.zero_add _)
  unfold wp_X2_hearsDone at hvc
  refine lv_aload_n hx hb dX2_hearsDone_0 rfl (lv_at hl 1 rfl) ?_
  refine gw_giN (C := RX6) (T := TX6) (N := 3) (own := RX2) hx hb hts in_X6 hown hK hG hvc rfl (by decide) (hX.1 _ q933 rfl) (fun _ h9 => h9) dX2_hearsDone_1 (fun x1 hvc_1 => ?_)
  clear hvc
  refine lv_istore_n (lv' := [(2, .int x1), (0, .ref o), (1, .ref p1)]) hx hb dX2_hearsDone_4 rfl hl (by decide) rfl (fun ls hl_2 => ?_)
  clear hl
  refine lv_aload_n hx hb dX2_hearsDone_5 rfl (lv_at hl_2 1 rfl) ?_
  refine gw_gr (C := RX2) (T := TX2) (N := 11) (own := RX2) hx hb hts in_X2 hown hK hG hvc_1 rfl (by decide) (hts _ q312) (fun _ h9 => h9) dX2_hearsDone_6 (fun x2 hvc_3 => ?_)
  clear hvc_1
  refine lv_iload_n hx hb dX2_hearsDone_9 rfl (lv_at hl_2 0 rfl) ?_
  refine lv_dup2_11 hx hb dX2_hearsDone_10 rfl rfl ?_
  refine gw_ild hx hb hK hG hvc_3 dX2_hearsDone_11 (fun x3 hvc_4 => ?_)
  clear hvc_3
  refine lv_iconst (v := nI 1) hx hb dX2_hearsDone_12 (by decide) ?_
  refine lv_aload_n hx hb dX2_hearsDone_13 rfl (lv_at hl_2 2 rfl) ?_
  refine gw_giN (C := RX6) (T := TX6) (N := 3) (own := RX2) hx hb hts in_X6 hown hK hG hvc_4 rfl (by decide) (hX.1 _ q936 rfl) (fun _ h9 => h9) dX2_hearsDone_14 (fun x4 hvc_5 => ?_)
  clear hvc_4
  refine lv_ishl hx hb dX2_hearsDone_17 ?_
  refine lv_ior hx hb dX2_hearsDone_18 ?_
  refine gw_ist hx hb hK hG hS hvc_5 dX2_hearsDone_19 (fun G5 H locs hvc_6 hG_7 hS_8 => ?_)
  clear hvc_5 hG hS
  refine lv_aload_n hx hb dX2_hearsDone_20 rfl (lv_at hl_2 1 rfl) ?_
  refine gw_gr (C := RX2) (T := TX2) (N := 11) (own := RX2) hx hb hts in_X2 hown hK hG_7 hvc_6 rfl (by decide) (hts _ q312) (fun _ h9 => h9) dX2_hearsDone_21 (fun x6 hvc_9 => ?_)
  clear hvc_6
  refine lv_iload_n hx hb dX2_hearsDone_24 rfl (lv_at hl_2 0 rfl) ?_
  refine gw_ild hx hb hK hG_7 hvc_9 dX2_hearsDone_25 (fun x7 hvc_10 => ?_)
  clear hvc_9
  refine lv_aload_n hx hb dX2_hearsDone_26 rfl (lv_at hl_2 1 rfl) ?_
  refine gw_gr (C := RX2) (T := TX2) (N := 11) (own := RX2) hx hb hts in_X2 hown hK hG_7 hvc_10 rfl (by decide) (hts _ q301) (fun _ h9 => h9) dX2_hearsDone_27 (fun x8 hvc_11 => ?_)
  clear hvc_10
  refine lv_iload_n hx hb dX2_hearsDone_30 rfl (lv_at hl_2 0 rfl) ?_
  refine gw_cFQP (As := [.int x1]) (rest := [.int x7]) (hK.1 9 _ rfl).2  ⟨hx, hb, hml, hown, hts⟩ (met_J7_get l E G5 x8 x1 _ hvc_11.2) (va_cwF 1 hts (lw_F q854 q857 q859 q99 q861) rfl rfl rfl (hX.fw (List.mem_of_getElem? (i := 5) rfl)) (by decide +kernel) ⟨Nat.le_of_ble_eq_true rfl, Nat.le_of_ble_eq_true rfl⟩) (gw_rc (q := (RJ7, TJ7, 3)) hK hG_7 hvc_11.1 rfl) (by show _ ≤ mc0; omega) (by show _ ≤ ms0; omega) (g_St0 E) hz trivial hK hG_7 hS_8 rfl hl_2.1 rfl (Nat.le_of_ble_eq_true rfl) dX2_hearsDone_31 (fun x9 H locs hvc_12 hG_13 hS_14 => ?_)
  clear hvc_11 hG_7 hS_8
  refine gw_castS (v := x9) (ci := 3) hx hb hown (hts _ q866) hK hG_13 rfl rfl hvc_12 dX2_hearsDone_36 (fun z11 hy9 hvc_15 => ?_)
  clear hvc_12
  subst hy9
  refine gw_cVIP (As := []) (rest := [.int x7])  ⟨hx, hb, hml, hown, hts⟩ (met_X4_partners l E G5 z11 _ hvc_15.2) (cwV 0 hts (lw_V q964 q965 q966 q117 q967) rfl rfl rfl (by decide +kernel) ⟨Nat.le_of_ble_eq_true rfl, Nat.le_of_ble_eq_true rfl⟩) (gw_rc (q := (RX4, TX4, 3)) hK hG_13 hvc_15.1 rfl) (by show _ ≤ mc0; omega) (by show _ ≤ ms0; omega) (g_St0 E) hz trivial hK hG_13 hS_14 rfl hl_2.1 rfl (Nat.le_of_ble_eq_true rfl) dX2_hearsDone_39 (fun x12 H locs hvc_16 hG_17 hS_18 => ?_)
  clear hvc_15 hG_13 hS_14
  refine lv_icmp_ne (tgt := 60) hx hb dX2_hearsDone_42 (by decide) (fun h9 => ?_) (fun h9 => ?_)
  · replace hvc_16 := hvc_16.1 h9
    exact g_vret hx hb hr hlocks (by show _ ≤ mc0; omega) (by show _ ≤ ms0; omega) hG_17 hS_18 hvc_16 dX2_hearsDone_60
  · replace hvc_16 := hvc_16.2 h9
    refine lv_aload_n hx hb dX2_hearsDone_45 rfl (lv_at hl_2 1 rfl) ?_
    refine lv_iload_n hx hb dX2_hearsDone_46 rfl (lv_at hl_2 0 rfl) ?_
    obtain ⟨c16, t17, hc1, hs1, hvc_16⟩ := hvc_16
    refine gw_cVIA (As := [.int x1]) (rest := [])  ⟨hx, hb, hml, hown, hts⟩ (met_X2_hasEnded l E G5 o x1 c16 t17 _ hvc_16.2) (cwV 1 hts (lw_V q1013 q1014 q1015 q97 q1016) rfl rfl rfl (by decide +kernel) ⟨Nat.le_of_ble_eq_true rfl, Nat.le_of_ble_eq_true rfl⟩) (gw_rc (q := (RX2, TX2, 11)) hK hG_17 hvc_16.1 rfl) hc1 hs1 hMC hMS (Nat.le_refl _) (Nat.le_refl _) (g_X.st E) hz hX hK hG_17 hS_18 rfl hl_2.1 rfl (Nat.le_of_ble_eq_true rfl) dX2_hearsDone_47 (fun x14 G15 H locs ce sl hvc_19 hG_20 hS_21 hMC_22 hMS_23 => ?_)
    clear hvc_16 hG_17 hS_18 hMC hMS
    refine lv_if_ne (tgt := 60) hx hb dX2_hearsDone_50 (by decide) (fun h9 => ?_) (fun h9 => ?_)
    · replace hvc_19 := hvc_19.1 h9
      exact g_vret hx hb hr hlocks (by show _ ≤ mc0; omega) (by show _ ≤ ms0; omega) hG_20 hS_21 hvc_19 dX2_hearsDone_60
    · replace hvc_19 := hvc_19.2 h9
      refine lv_aload_n hx hb dX2_hearsDone_53 rfl (lv_at hl_2 1 rfl) ?_
      refine lv_iconst (v := nI 4) hx hb dX2_hearsDone_54 (by decide) ?_
      refine lv_iconst (v := nI 3) hx hb dX2_hearsDone_55 (by decide) ?_
      refine lv_iload_n hx hb dX2_hearsDone_56 rfl (lv_at hl_2 0 rfl) ?_
      obtain ⟨c20, t21, hc1, hs1, hvc_19⟩ := hvc_19
      refine gw_cVVA (As := [.int (nI 4), .int (nI 3), .int x1]) (rest := [])  ⟨hx, hb, hml, hown, hts⟩ (met_X2_writes l E G15 o (nI 4) (nI 3) x1 c20 t21 _ hvc_19.2) (cwV 3 hts (lw_V q891 q893 qs9 q97 q894) rfl rfl rfl (by decide +kernel) ⟨Nat.le_of_ble_eq_true rfl, Nat.le_of_ble_eq_true rfl⟩) (gw_rc (q := (RX2, TX2, 11)) hK hG_20 hvc_19.1 rfl) hc1 hs1 hMC_22 hMS_23 (Nat.le_refl _) (Nat.le_refl _) (g_X.st E) hz hX hK hG_20 hS_21 rfl hl_2.1 rfl (Nat.le_of_ble_eq_true rfl) dX2_hearsDone_57 (fun G19 H locs ce sl hvc_24 hG_25 hS_26 hMC_27 hMS_28 => ?_)
      clear hvc_19 hG_20 hS_21 hMC_22 hMS_23
      exact g_vret hx hb hr hlocks (by show _ ≤ mc0; omega) (by show _ ≤ ms0; omega) hG_25 hS_26 hvc_24 dX2_hearsDone_60
set_option maxHeartbeats 4000000 in
set_option maxRecDepth 100000 in
theorem wlk_X15_comes (l : Launch) (E : g_E) (G : g_G) (o : Nat) (p1 : Nat) (p2 : Nat) (mc0 ms0 : Nat) (post : g_G → Prop) (hvc : wp_X15_comes E G o p1 p2 mc0 ms0 post) (p : Program) (e : Env) (s : State) (m : MethodId) (below : List Frame) (meth : Method) (c : Code) (ls : Array Slot) (hx : p.tables.exec = Jvm.exec) (hb : c.code = cX15_comes) (hr : meth.sig.returnType = (Option.none : Option Jvm.ClassFile.FieldType)) (hts : ∀ w ∈ lw_all, w.before ([.ref o, .ref p1, .ref p2] : List Value).toArray s = true) (hown : s.vm.findClass RX15 = some m.cls) (hlocks : meth.locks = false) (hml : c.maxLocals = 3) (hin : meth.name = yX15_comes.name) (hz : E.2.2 ≤ s.heap.size) (hX : g_X E s) (hK : g_K E s) (hG : g_H E G s.heap) (hS : va_S (g_A E) s.heap s.heap []) (hl : lv_has ls 3 (lv_args 0 [.ref o, .ref p1, .ref p2])) : W p l e ({ frames := 9, cells := mc0, slots := ms0, locals := 236 } : Room) s m ([.ref o, .ref p1, .ref p2] : List Value).toArray below meth c s.heap [] 0 0 (MQ below (va_Qv (post) (g_Bk E) (g_A E)) ([.ref o, .ref p1, .ref p2] : List Value).toArray s mc0 ms0 (g_A E)) (F0 m 0 ls []) := by
  have hl : lv_has ls 3 [(0, .ref o), (1, .ref p1), (2, .ref p2)] := hl
  have hMC : 0 + mc0 ≤ mc0 := Nat.le_of_eq (Nat.zero_add _)
  have hMS : 0 + ms0 ≤ ms0 := Nat.le_of_eq (Nat.zero_add _)
  unfold wp_X15_comes at hvc
  refine lv_aload_n hx hb dX15_comes_0 rfl (lv_at hl 1 rfl) ?_
  refine lv_aload_n hx hb dX15_comes_1 rfl (lv_at hl 2 rfl) ?_
  obtain ⟨c3, t4, hc1, hs1, hvc⟩ := hvc
  refine gw_cVVA (As := [.ref p2]) (rest := [])  ⟨hx, hb, hml, hown, hts⟩ (met_X2_hearsDone l E G p1 p2 c3 t4 _ hvc.2) (cwV 1 hts (lw_V q1009 q1010 q1011 q97 q1012) rfl rfl rfl (by decide +kernel) ⟨Nat.le_of_ble_eq_true rfl, Nat.le_of_ble_eq_true rfl⟩) (gw_rc (q := (RX2, TX2, 11)) hK hG hvc.1 rfl) hc1 hs1 hMC hMS (Nat.le_refl _) (Nat.le_refl _) (g_X.st E) hz hX hK hG hS rfl hl.1 rfl (Nat.le_of_ble_eq_true rfl) dX15_comes_2 (fun G2 H locs ce sl hvc_1 hG_2 hS_3 hMC_4 hMS_5 => ?_)
  clear hvc hG hS hMC hMS
  exact g_vret hx hb hr hlocks (by show _ ≤ mc0; omega) (by show _ ≤ ms0; omega) hG_2 hS_3 hvc_1 dX15_comes_5
set_option maxHeartbeats 4000000 in
set_option maxRecDepth 100000 in
theorem met_X2_hearsWhatNow (l : Launch) (E : g_E) (G : g_G) (o : Nat) (p1 : Nat) (mc0 ms0 : Nat) (post : g_G → Prop) (hvc : wp_X2_hearsWhatNow E G o p1 mc0 ms0 post) : g_MV E l yX2_hearsWhatNow (ws_ yX2_hearsWhatNow cX2_hearsWhatNow 2 (Option.none : Option Jvm.ClassFile.FieldType)) ({ frames := 8, cells := mc0, slots := ms0, locals := 214 } : Room) (g_X E) [.ref o, .ref p1] G (post) := by
  refine g_enter (by decide +kernel) (Nat.le_of_ble_eq_true rfl) ?_
  intro p e s m below meth c ls hx hb hr hts hown hlocks hml hin hz hX hK hG hS hl
  have hl : lv_has ls 2 [(0, .ref o), (1, .ref p1)] := hl
  have hown : s.vm.findClass RX2 = some m.cls := hown
  have hMC : 0 + mc0 ≤ mc0 := Nat.le_of_eq (Nat.zero_add _)
  have hMS : 0 + ms0 ≤ ms0 := Nat.le_of_eq (Nat.zero_add _)
  unfold wp_X2_hearsWhatNow at hvc
  refine lv_aload_n hx hb dX2_hearsWhatNow_0 rfl (lv_at hl 0 rfl) ?_
  refine lv_aload_n hx hb dX2_hearsWhatNow_1 rfl (lv_at hl 1 rfl) ?_
  refine gw_giN (C := RX6) (T := TX6) (N := 3) (own := RX2) hx hb hts in_X6 hown hK hG hvc rfl (by decide) (hX.1 _ q933 rfl) (fun _ h9 => h9) dX2_hearsWhatNow_2 (fun x1 hvc_1 => ?_)
  clear hvc
  obtain ⟨c4, t5, hc1, hs1, hvc_1⟩ := hvc_1
  refine gw_cVIA (As := [.int x1]) (rest := [])  ⟨hx, hb, hml, hown, hts⟩ (met_X2_isUndecided l E G o x1 c4 t5 _ hvc_1.2) (cwV 1 hts (lw_V q952 q953 q954 q97 q955) rfl rfl rfl (by decide +kernel) ⟨Nat.le_of_ble_eq_true rfl, Nat.le_of_ble_eq_true rfl⟩) (gw_rc (q := (RX2, TX2, 11)) hK hG hvc_1.1 rfl) hc1 hs1 hMC hMS (Nat.le_refl _) (Nat.le_refl _) (g_X.st E) hz hX hK hG hS rfl hl.1 rfl (Nat.le_of_ble_eq_true rfl) dX2_hearsWhatNow_5 (fun x2 G3 H locs ce sl hvc_2 hG_3 hS_4 hMC_5 hMS_6 => ?_)
  clear hvc_1 hG hS hMC hMS
  refine lv_if_ne (tgt := 34) hx hb dX2_hearsWhatNow_8 (by decide) (fun h9 => ?_) (fun h9 => ?_)
  · replace hvc_2 := hvc_2.1 h9
    exact g_vret hx hb hr hlocks (by show _ ≤ mc0; omega) (by show _ ≤ ms0; omega) hG_3 hS_4 hvc_2 dX2_hearsWhatNow_34
  · replace hvc_2 := hvc_2.2 h9
    refine lv_aload_n hx hb dX2_hearsWhatNow_11 rfl (lv_at hl 0 rfl) ?_
    refine lv_aload_n hx hb dX2_hearsWhatNow_12 rfl (lv_at hl 0 rfl) ?_
    refine lv_aload_n hx hb dX2_hearsWhatNow_13 rfl (lv_at hl 1 rfl) ?_
    refine gw_giN (C := RX6) (T := TX6) (N := 3) (own := RX2) hx hb hts in_X6 hown hK hG_3 hvc_2 rfl (by decide) (hX.1 _ q933 rfl) (fun _ h9 => h9) dX2_hearsWhatNow_14 (fun x6 hvc_7 => ?_)
    clear hvc_2
    obtain ⟨c9, t10, hc1, hs1, hvc_7⟩ := hvc_7
    refine gw_cVIA (As := [.int x6]) (rest := [.ref o])  ⟨hx, hb, hml, hown, hts⟩ (met_X2_outcome l E G3 o x6 c9 t10 _ hvc_7.2) (cwV 1 hts (lw_V q956 q957 q958 q97 q959) rfl rfl rfl (by decide +kernel) ⟨Nat.le_of_ble_eq_true rfl, Nat.le_of_ble_eq_true rfl⟩) (gw_rc (q := (RX2, TX2, 11)) hK hG_3 hvc_7.1 rfl) hc1 hs1 hMC_5 hMS_6 (Nat.le_refl _) (Nat.le_refl _) (g_X.st E) hz hX hK hG_3 hS_4 rfl hl.1 rfl (Nat.le_of_ble_eq_true rfl) dX2_hearsWhatNow_17 (fun x7 G8 H locs ce sl hvc_8 hG_9 hS_10 hMC_11 hMS_12 => ?_)
    clear hvc_7 hG_3 hS_4 hMC_5 hMS_6
    refine gw_cSQP (As := [.int x7]) (rest := [.ref o])  ⟨hx, hb, hml, hown, hts⟩ (met_X2_tells l E G8 x7 _ hvc_8) (va_cwS 1 hts (lw_S q972 q973 q97 q974) rfl rfl rfl (by decide +kernel) ⟨Nat.le_of_ble_eq_true rfl, Nat.le_of_ble_eq_true rfl⟩) (by show _ ≤ mc0; omega) (by show _ ≤ ms0; omega) (g_X.st E) hz hX hK hG_9 hS_10 rfl hl.1 rfl (Nat.le_of_ble_eq_true rfl) dX2_hearsWhatNow_20 (fun x11 H locs hvc_13 hG_14 hS_15 => ?_)
    clear hvc_8 hG_9 hS_10
    refine lv_aload_n hx hb dX2_hearsWhatNow_23 rfl (lv_at hl 1 rfl) ?_
    refine gw_giN (C := RX6) (T := TX6) (N := 3) (own := RX2) hx hb hts in_X6 hown hK hG_14 hvc_13 rfl (by decide) (hX.1 _ q933 rfl) (fun _ h9 => h9) dX2_hearsWhatNow_24 (fun x13 hvc_16 => ?_)
    clear hvc_13
    refine lv_aload_n hx hb dX2_hearsWhatNow_27 rfl (lv_at hl 1 rfl) ?_
    refine gw_giN (C := RX6) (T := TX6) (N := 3) (own := RX2) hx hb hts in_X6 hown hK hG_14 hvc_16 rfl (by decide) (hX.1 _ q936 rfl) (fun _ h9 => h9) dX2_hearsWhatNow_28 (fun x14 hvc_17 => ?_)
    clear hvc_16
    obtain ⟨z15, rfl, hvc_17⟩ := hvc_17
    obtain ⟨c18, t19, hc1, hs1, hvc_17⟩ := hvc_17
    refine gw_cVVA (As := [.ref z15, .int x13, .int x14]) (rest := [])  ⟨hx, hb, hml, hown, hts⟩ (met_X2_sends l E G8 o z15 x13 x14 c18 t19 _ hvc_17.2) (cwV 3 hts (lw_V q920 q922 qs11 q97 q923) rfl rfl rfl (by decide +kernel) ⟨Nat.le_of_ble_eq_true rfl, Nat.le_of_ble_eq_true rfl⟩) (gw_rc (q := (RX2, TX2, 11)) hK hG_14 hvc_17.1 rfl) hc1 hs1 hMC_11 hMS_12 (Nat.le_refl _) (Nat.le_refl _) (g_X.st E) hz hX hK hG_14 hS_15 rfl hl.1 rfl (Nat.le_of_ble_eq_true rfl) dX2_hearsWhatNow_31 (fun G17 H locs ce sl hvc_18 hG_19 hS_20 hMC_21 hMS_22 => ?_)
    clear hvc_17 hG_14 hS_15 hMC_11 hMS_12
    exact g_vret hx hb hr hlocks (by show _ ≤ mc0; omega) (by show _ ≤ ms0; omega) hG_19 hS_20 hvc_18 dX2_hearsWhatNow_34
set_option maxHeartbeats 4000000 in
set_option maxRecDepth 100000 in
theorem wlk_X16_comes (l : Launch) (E : g_E) (G : g_G) (o : Nat) (p1 : Nat) (p2 : Nat) (mc0 ms0 : Nat) (post : g_G → Prop) (hvc : wp_X16_comes E G o p1 p2 mc0 ms0 post) (p : Program) (e : Env) (s : State) (m : MethodId) (below : List Frame) (meth : Method) (c : Code) (ls : Array Slot) (hx : p.tables.exec = Jvm.exec) (hb : c.code = cX16_comes) (hr : meth.sig.returnType = (Option.none : Option Jvm.ClassFile.FieldType)) (hts : ∀ w ∈ lw_all, w.before ([.ref o, .ref p1, .ref p2] : List Value).toArray s = true) (hown : s.vm.findClass RX16 = some m.cls) (hlocks : meth.locks = false) (hml : c.maxLocals = 3) (hin : meth.name = yX16_comes.name) (hz : E.2.2 ≤ s.heap.size) (hX : g_X E s) (hK : g_K E s) (hG : g_H E G s.heap) (hS : va_S (g_A E) s.heap s.heap []) (hl : lv_has ls 3 (lv_args 0 [.ref o, .ref p1, .ref p2])) : W p l e ({ frames := 9, cells := mc0, slots := ms0, locals := 235 } : Room) s m ([.ref o, .ref p1, .ref p2] : List Value).toArray below meth c s.heap [] 0 0 (MQ below (va_Qv (post) (g_Bk E) (g_A E)) ([.ref o, .ref p1, .ref p2] : List Value).toArray s mc0 ms0 (g_A E)) (F0 m 0 ls []) := by
  have hl : lv_has ls 3 [(0, .ref o), (1, .ref p1), (2, .ref p2)] := hl
  have hMC : 0 + mc0 ≤ mc0 := Nat.le_of_eq (Nat.zero_add _)
  have hMS : 0 + ms0 ≤ ms0 := Nat.le_of_eq (Nat.zero_add _)
  unfold wp_X16_comes at hvc
  refine lv_aload_n hx hb dX16_comes_0 rfl (lv_at hl 1 rfl) ?_
  refine lv_aload_n hx hb dX16_comes_1 rfl (lv_at hl 2 rfl) ?_
  obtain ⟨c3, t4, hc1, hs1, hvc⟩ := hvc
  refine gw_cVVA (As := [.ref p2]) (rest := [])  ⟨hx, hb, hml, hown, hts⟩ (met_X2_hearsWhatNow l E G p1 p2 c3 t4 _ hvc.2) (cwV 1 hts (lw_V q1020 q1021 q1022 q97 q1023) rfl rfl rfl (by decide +kernel) ⟨Nat.le_of_ble_eq_true rfl, Nat.le_of_ble_eq_true rfl⟩) (gw_rc (q := (RX2, TX2, 11)) hK hG hvc.1 rfl) hc1 hs1 hMC hMS (Nat.le_refl _) (Nat.le_refl _) (g_X.st E) hz hX hK hG hS rfl hl.1 rfl (Nat.le_of_ble_eq_true rfl) dX16_comes_2 (fun G2 H locs ce sl hvc_1 hG_2 hS_3 hMC_4 hMS_5 => ?_)
  clear hvc hG hS hMC hMS
  exact g_vret hx hb hr hlocks (by show _ ≤ mc0; omega) (by show _ ≤ ms0; omega) hG_2 hS_3 hvc_1 dX16_comes_5
