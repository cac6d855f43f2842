/-! printed by tools/gen.py, cut out by tools/split_wp.py: what the methods' contracts ask -/
def wp_J25_isNaN (E : g_E) (G : g_G) (p1 : UInt64) (post : Int32 → Prop) : Prop :=
  ((Op.cmpValue (FP.dcmp p1 p1) .l) = 0 →
    post (nI 0)
  ) ∧ (¬ (Op.cmpValue (FP.dcmp p1 p1) .l) = 0 →
    post (nI 1)
  )
def wp_J25_doubleToLongBits (E : g_E) (G : g_G) (p1 : UInt64) (post : Int64 → Prop) : Prop :=
  wp_J25_isNaN E G p1 (fun x1 =>
  (¬ x1 = 0 →
    post (lN 9221120237041090560)
  ) ∧ (x1 = 0 →
    post p1.toInt64
  ))
def wp_J26_isNaN (E : g_E) (G : g_G) (p1 : UInt32) (post : Int32 → Prop) : Prop :=
  ((Op.cmpValue (FP.fcmp p1 p1) .l) = 0 →
    post (nI 0)
  ) ∧ (¬ (Op.cmpValue (FP.fcmp p1 p1) .l) = 0 →
    post (nI 1)
  )
def wp_J26_floatToIntBits (E : g_E) (G : g_G) (p1 : UInt32) (post : Int32 → Prop) : Prop :=
  wp_J26_isNaN E G p1 (fun x1 =>
  (¬ x1 = 0 →
    post (nI 2143289344)
  ) ∧ (x1 = 0 →
    post p1.toInt32
  ))
def wp_X3_init_85 (E : g_E) (post : g_G → Prop) : Nat → Nat → Int32 → g_G → Nat → Nat → Prop
  | 0 => fun _ _ _ _ _ => False
  | n + 1 => fun y0 y1 G mc ms =>
    ((nI 4) ≤ y1 →
      post G
    ) ∧ (¬ (nI 4) ≤ y1 →
      w_gr G y0 2 1 (fun x26 =>
      w_ist E G x26 ((nI 5) + y1) (nI 100) (fun G27 =>
      wp_X3_init_85 E post n y0 (y1 + (nI 1)) G27 mc ms
    )))
def wp_X3_init_63 (E : g_E) (post : g_G → Prop) : Nat → Nat → Int32 → g_G → Nat → Nat → Prop
  | 0 => fun _ _ _ _ _ => False
  | n + 1 => fun y0 y1 G mc ms =>
    ((nI 5) ≤ y1 →
      ∃ nf : Nat, wp_X3_init_85 E post nf y0 (nI 0) G mc ms
    ) ∧ (¬ (nI 5) ≤ y1 →
      w_gr G y0 2 1 (fun x28 =>
      w_ist E G x28 ((nI 0) + y1) (nI 1) (fun G29 =>
      wp_X3_init_63 E post n y0 (y1 + (nI 1)) G29 mc ms
    )))
def wp_X3_init (E : g_E) (G : g_G) (o : Nat) (mc0 ms0 : Nat) (post : g_G → Prop) : Prop :=
  w_newi E G (nI 256) mc0 ms0 (fun n1 q2 G3 =>
  w_put G3 o 2 1 (.ref q2) (fun G4 =>
  w_newi E G4 (nI 256) (mc0 - 1) (ms0 - n1) (fun n5 q6 G7 =>
  w_put G7 o 2 2 (.ref q6) (fun G8 =>
  w_newi E G8 (nI 1536) (mc0 - 1 - 1) (ms0 - n1 - n5) (fun n9 q10 G11 =>
  w_put G11 o 2 3 (.ref q10) (fun G12 =>
  w_newi E G12 (nI 256) (mc0 - 1 - 1 - 1) (ms0 - n1 - n5 - n9) (fun n13 q14 G15 =>
  w_put G15 o 2 5 (.ref q14) (fun G16 =>
  w_newi E G16 (nI 60) (mc0 - 1 - 1 - 1 - 1) (ms0 - n1 - n5 - n9 - n13) (fun n17 q18 G19 =>
  w_put G19 o 2 7 (.ref q18) (fun G20 =>
  w_newi E G20 (nI 124) (mc0 - 1 - 1 - 1 - 1 - 1) (ms0 - n1 - n5 - n9 - n13 - n17) (fun n21 q22 G23 =>
  w_put G23 o 2 11 (.ref q22) (fun G24 =>
  w_put G24 o 2 0 (.int (nI 0)) (fun G25 =>
  ∃ nf : Nat, wp_X3_init_63 E post nf o (nI 0) G25 (mc0 - 1 - 1 - 1 - 1 - 1 - 1) (ms0 - n1 - n5 - n9 - n13 - n17 - n21))))))))))))))
def wp_X3_thrown (E : g_E) (G : g_G) (o : Nat) (post : Int32 → Prop) : Prop :=
  w_gi G o 2 0 (fun x1 =>
  post x1)
def wp_X3_in (E : g_E) (G : g_G) (p1 : Int32) (p2 : Int32) (p3 : Int32) (post : Int32 → Prop) : Prop :=
  (p1 < p2 →
    post (nI 0)
  ) ∧ (¬ p1 < p2 →
    (p3 < p1 →
      post (nI 0)
    ) ∧ (¬ p3 < p1 →
      post (nI 1)
    )
  )
def wp_X3_isStore (E : g_E) (G : g_G) (p1 : Int32) (post : Int32 → Prop) : Prop :=
  wp_X3_in E G p1 (nI 0) (nI 3) (fun x1 =>
  narrow .boolean (.int x1) = .int x1 ∧ post x1)
def wp_X3_fails (E : g_E) (G : g_G) (o : Nat) (p1 : Int32) (post : Int32 → g_G → Prop) : Prop :=
  w_put G o 2 0 (.int p1) (fun G1 =>
  post (nI 0) G1)
def wp_X3_areStores (E : g_E) (G : g_G) (p1 : Int32) (p2 : Int32) (post : Int32 → Prop) : Prop :=
  wp_X3_in E G p2 (nI 1) (nI 15) (fun x1 =>
  (x1 = 0 →
    post (nI 0)
  ) ∧ (¬ x1 = 0 →
    (¬ ((p2 >>> (p1 &&& 31)) &&& (nI 1)) = 0 →
      post (nI 0)
    ) ∧ (((p2 >>> (p1 &&& 31)) &&& (nI 1)) = 0 →
      post (nI 1)
    )
  ))
def wp_X3_canBegin (E : g_E) (G : g_G) (o : Nat) (post : Int32 → Prop) : Prop :=
  w_gr G o 2 1 (fun x1 =>
  w_ild E G x1 (nI 4) (fun x2 =>
  (¬ x2 = (nI 1) →
    post (nI 0)
  ) ∧ (x2 = (nI 1) →
    w_gr G o 2 1 (fun x3 =>
    w_ild E G x3 (nI 9) (fun x4 =>
    ((nI 8) ≤ x4 →
      post (nI 0)
    ) ∧ (¬ (nI 8) ≤ x4 →
      post (nI 1)
    )
  )))))
def wp_X3_recordsState_52 (E : g_E) (post : g_G → Prop) : Nat → Nat → Int32 → g_G → Prop
  | 0 => fun _ _ _ => False
  | n + 1 => fun y0 y1 G =>
    ((nI 256) ≤ y1 →
      w_gi G y0 2 4 (fun x2 =>
      w_put G y0 2 4 (.int (x2 + (nI 1))) (fun G3 =>
      post G3
    ))) ∧ (¬ (nI 256) ≤ y1 →
      w_gr G y0 2 3 (fun x4 =>
      w_gi G y0 2 4 (fun x5 =>
      w_gr G y0 2 1 (fun x6 =>
      w_ild E G x6 y1 (fun x7 =>
      w_ist E G x4 (((nI 256) * x5) + y1) x7 (fun G8 =>
      wp_X3_recordsState_52 E post n y0 (y1 + (nI 1)) G8
    ))))))
def wp_X3_recordsState_50 (E : g_E) (post : g_G → Prop) (y0 : Nat) (G : g_G) : Prop :=
    ∃ nf : Nat, wp_X3_recordsState_52 E post nf y0 (nI 0) G
def wp_X3_recordsState_11 (E : g_E) (post : g_G → Prop) (B50 : Nat → g_G → Prop) : Nat → Nat → Int32 → g_G → Prop
  | 0 => fun _ _ _ => False
  | n + 1 => fun y0 y1 G =>
    ((nI 1280) ≤ y1 →
      w_gi G y0 2 4 (fun x9 =>
      w_put G y0 2 4 (.int (x9 - (nI 1))) (fun G10 =>
      B50 y0 G10
    ))) ∧ (¬ (nI 1280) ≤ y1 →
      w_gr G y0 2 3 (fun x11 =>
      w_gr G y0 2 3 (fun x12 =>
      w_ild E G x12 (y1 + (nI 256)) (fun x13 =>
      w_ist E G x11 y1 x13 (fun G14 =>
      wp_X3_recordsState_11 E post B50 n y0 (y1 + (nI 1)) G14
    )))))
def wp_X3_recordsState (E : g_E) (G : g_G) (o : Nat) (post : g_G → Prop) : Prop :=
  w_gi G o 2 4 (fun x1 =>
  (¬ x1 = (nI 6) →
    wp_X3_recordsState_50 E post o G
  ) ∧ (x1 = (nI 6) →
    ∃ nf : Nat, wp_X3_recordsState_11 E post (wp_X3_recordsState_50 E post) nf o (nI 0) G
  ))
def wp_X3_lay (E : g_E) (G : g_G) (o : Nat) (p1 : Int32) (p2 : Int32) (p3 : Int32) (post : g_G → Prop) : Prop :=
  w_gr G o 2 1 (fun x1 =>
  w_ist E G x1 (((nI 14) + ((nI 7) * p1)) + p2) p3 (fun G2 =>
  post G2))
def wp_X3_writes (E : g_E) (G : g_G) (o : Nat) (p1 : Int32) (p2 : Int32) (p3 : Int32) (post : g_G → Prop) : Prop :=
  w_gr G o 2 1 (fun x1 =>
  w_gr G o 2 1 (fun x2 =>
  w_ild E G x2 ((nI 102) + p1) (fun x3 =>
  w_ist E G x1 (((nI 107) + ((nI 16) * p1)) + x3) (((nI 8) * p2) + p3) (fun G4 =>
  w_gr G4 o 2 1 (fun x5 =>
  w_ild E G4 x5 ((nI 102) + p1) (fun x6 =>
  w_ist E G4 x5 ((nI 102) + p1) (x6 + (nI 1)) (fun G7 =>
  post G7)))))))
def wp_X3_of (E : g_E) (G : g_G) (o : Nat) (p1 : Int32) (p2 : Int32) (post : Int32 → Prop) : Prop :=
  w_gr G o 2 1 (fun x1 =>
  w_ild E G x1 (((nI 14) + ((nI 7) * p1)) + p2) (fun x2 =>
  post x2))
def wp_X3_all (E : g_E) (G : g_G) (o : Nat) (p1 : Int32) (post : Int32 → Prop) : Prop :=
  w_rc G o 2 ∧
  wp_X3_of E G o p1 (nI 1) (fun x1 =>
  w_rc G o 2 ∧
  wp_X3_of E G o p1 (nI 0) (fun x3 =>
  post (x1 ||| ((nI 1) <<< (x3 &&& 31)))))
def wp_X3_sends (E : g_E) (G : g_G) (o : Nat) (p1 : Int32) (p2 : Int32) (p3 : Int32) (post : g_G → Prop) : Prop :=
  w_gr G o 2 1 (fun x1 =>
  w_ild E G x1 (nI 10) (fun x2 =>
  w_ist E G x1 (nI 10) (x2 + (nI 1)) (fun G3 =>
  w_gr G3 o 2 1 (fun x4 =>
  w_ild E G3 x4 (nI 13) (fun x5 =>
  (¬ x5 = (nI 60) →
    w_gr G3 o 2 1 (fun x6 =>
    w_gr G3 o 2 1 (fun x7 =>
    w_ild E G3 x7 (nI 13) (fun x8 =>
    w_ist E G3 x6 ((nI 195) + x8) ((((nI 32) * p1) + ((nI 4) * p2)) + p3) (fun G9 =>
    w_gr G9 o 2 1 (fun x10 =>
    w_ild E G9 x10 (nI 13) (fun x11 =>
    w_ist E G9 x10 (nI 13) (x11 + (nI 1)) (fun G12 =>
    post G12
  )))))))) ∧ (x5 = (nI 60) →
    w_gr G3 o 2 1 (fun x13 =>
    w_ild E G3 x13 (nI 12) (fun x14 =>
    w_ist E G3 x13 (nI 12) (x14 + (nI 1)) (fun G15 =>
    post G15
  )))))))))
def wp_X3_sendsAll_27 (E : g_E) (post : g_G → Prop) (B2 : Nat → Int32 → Int32 → Int32 → g_G → Prop) (y0 : Nat) (y1 : Int32) (y2 : Int32) (y3 : Int32) (G : g_G) : Prop :=
    B2 y0 y1 y2 (y3 + (nI 1)) G
def wp_X3_sendsAll_2 (E : g_E) (post : g_G → Prop) : Nat → Nat → Int32 → Int32 → Int32 → g_G → Prop
  | 0 => fun _ _ _ _ _ => False
  | n + 1 => fun y0 y1 y2 y3 G =>
    ((nI 4) ≤ y3 →
      post G
    ) ∧ (¬ (nI 4) ≤ y3 →
      w_rc G y0 2 ∧
      wp_X3_all E G y0 y2 (fun x1 =>
      (¬ ((x1 >>> (y3 &&& 31)) &&& (nI 1)) = (nI 1) →
        wp_X3_sendsAll_27 E post (wp_X3_sendsAll_2 E post n) y0 y1 y2 y3 G
      ) ∧ (((x1 >>> (y3 &&& 31)) &&& (nI 1)) = (nI 1) →
        w_rc G y0 2 ∧
        wp_X3_sends E G y0 y1 y2 y3 (fun G4 =>
        wp_X3_sendsAll_27 E post (wp_X3_sendsAll_2 E post n) y0 y1 y2 y3 G4
      ))
    ))
def wp_X3_sendsAll (E : g_E) (G : g_G) (o : Nat) (p1 : Int32) (p2 : Int32) (post : g_G → Prop) : Prop :=
  ∃ nf : Nat, wp_X3_sendsAll_2 E post nf o p1 p2 (nI 0) G
def wp_X3_begins (E : g_E) (G : g_G) (o : Nat) (p1 : Int32) (p2 : Int32) (p3 : Int32) (post : Int32 → g_G → Prop) : Prop :=
  w_gr G o 2 1 (fun x1 =>
  w_ild E G x1 (nI 9) (fun x2 =>
  w_gr G o 2 1 (fun x3 =>
  w_ild E G x3 (nI 9) (fun x4 =>
  w_ist E G x3 (nI 9) (x4 + (nI 1)) (fun G5 =>
  w_rc G5 o 2 ∧
  wp_X3_lay E G5 o x2 (nI 0) p1 (fun G7 =>
  w_rc G7 o 2 ∧
  wp_X3_lay E G7 o x2 (nI 1) p2 (fun G9 =>
  w_rc G9 o 2 ∧
  wp_X3_lay E G9 o x2 (nI 2) p3 (fun G11 =>
  w_rc G11 o 2 ∧
  wp_X3_writes E G11 o (nI 4) (nI 0) x2 (fun G13 =>
  w_rc G13 o 2 ∧
  wp_X3_sendsAll E G13 o (nI 0) x2 (fun G15 =>
  post x2 G15))))))))))
def wp_X3_begin_36 (E : g_E) (post : Int32 → g_G → Prop) (y0 : Nat) (G : g_G) : Prop :=
    w_rc G y0 2 ∧
    wp_X3_fails E G y0 (nI 2) (fun x6 G7 =>
    post x6 G7)
def wp_X3_begin (E : g_E) (G : g_G) (o : Nat) (p1 : Int32) (p2 : Int32) (p3 : Int32) (post : Int32 → g_G → Prop) : Prop :=
  w_put G o 2 0 (.int (nI 0)) (fun G1 =>
  wp_X3_isStore E G1 p1 (fun x2 =>
  (¬ x2 = 0 →
    wp_X3_areStores E G1 p1 p2 (fun x4 =>
    (x4 = 0 →
      wp_X3_begin_36 E post o G1
    ) ∧ (¬ x4 = 0 →
      wp_X3_in E G1 p3 (nI 1) (nI 50) (fun x8 =>
      (¬ x8 = 0 →
        w_rc G1 o 2 ∧
        wp_X3_canBegin E G1 o (fun x10 =>
        (¬ x10 = 0 →
          w_rc G1 o 2 ∧
          wp_X3_recordsState E G1 o (fun G13 =>
          w_rc G13 o 2 ∧
          wp_X3_begins E G13 o p1 p2 p3 (fun x14 G15 =>
          post x14 G15
        ))) ∧ (x10 = 0 →
          w_rc G1 o 2 ∧
          wp_X3_fails E G1 o (nI 3) (fun x16 G17 =>
          post x16 G17
        ))
      )) ∧ (x8 = 0 →
        wp_X3_begin_36 E post o G1
      )
    ))
  )) ∧ (x2 = 0 →
    w_rc G1 o 2 ∧
    wp_X3_fails E G1 o (nI 1) (fun x18 G19 =>
    post x18 G19
  ))))
def wp_X3_isTransfer (E : g_E) (G : g_G) (o : Nat) (p1 : Int32) (post : Int32 → Prop) : Prop :=
  w_gr G o 2 1 (fun x1 =>
  w_ild E G x1 (nI 9) (fun x2 =>
  wp_X3_in E G p1 (nI 0) (x2 - (nI 1)) (fun x3 =>
  narrow .boolean (.int x3) = .int x3 ∧ post x3)))
def wp_X3_canGiveUp (E : g_E) (G : g_G) (o : Nat) (p1 : Int32) (post : Int32 → Prop) : Prop :=
  w_gr G o 2 1 (fun x1 =>
  w_ild E G x1 (nI 4) (fun x2 =>
  (¬ x2 = (nI 1) →
    post (nI 0)
  ) ∧ (x2 = (nI 1) →
    w_rc G o 2 ∧
    wp_X3_of E G o p1 (nI 5) (fun x3 =>
    (¬ x3 = 0 →
      post (nI 0)
    ) ∧ (x3 = 0 →
      post (nI 1)
    )
  ))))
def wp_X3_decides (E : g_E) (G : g_G) (o : Nat) (p1 : Int32) (p2 : Int32) (post : g_G → Prop) : Prop :=
  w_rc G o 2 ∧
  wp_X3_lay E G o p1 (nI 5) p2 (fun G2 =>
  w_rc G2 o 2 ∧
  wp_X3_writes E G2 o (nI 4) p2 p1 (fun G4 =>
  w_rc G4 o 2 ∧
  wp_X3_sendsAll E G4 o ((nI 2) + p2) p1 (fun G6 =>
  post G6)))
def wp_X3_giveUp (E : g_E) (G : g_G) (o : Nat) (p1 : Int32) (post : Int32 → g_G → Prop) : Prop :=
  w_put G o 2 0 (.int (nI 0)) (fun G1 =>
  w_rc G1 o 2 ∧
  wp_X3_isTransfer E G1 o p1 (fun x2 =>
  (¬ x2 = 0 →
    w_rc G1 o 2 ∧
    wp_X3_canGiveUp E G1 o p1 (fun x4 =>
    (¬ x4 = 0 →
      w_rc G1 o 2 ∧
      wp_X3_recordsState E G1 o (fun G7 =>
      w_rc G7 o 2 ∧
      wp_X3_decides E G7 o p1 (nI 2) (fun G9 =>
      w_gr G9 o 2 1 (fun x10 =>
      w_ild E G9 x10 (nI 13) (fun x11 =>
      post x11 G9
    ))))) ∧ (x4 = 0 →
      w_rc G1 o 2 ∧
      wp_X3_fails E G1 o (nI 2) (fun x12 G13 =>
      post x12 G13
    ))
  )) ∧ (x2 = 0 →
    w_rc G1 o 2 ∧
    wp_X3_fails E G1 o (nI 1) (fun x14 G15 =>
    post x14 G15
  ))))
def wp_X3_stateIn (E : g_E) (G : g_G) (o : Nat) (p1 : Int32) (p2 : Int32) (post : Int32 → Prop) : Prop :=
  w_gr G o 2 1 (fun x1 =>
  w_ild E G x1 (((nI 70) + ((nI 8) * p1)) + p2) (fun x2 =>
  post x2))
def wp_X3_canAsk (E : g_E) (G : g_G) (o : Nat) (p1 : Int32) (p2 : Int32) (post : Int32 → Prop) : Prop :=
  w_gr G o 2 1 (fun x1 =>
  w_ild E G x1 ((nI 0) + p1) (fun x2 =>
  (¬ x2 = (nI 1) →
    post (nI 0)
  ) ∧ (x2 = (nI 1) →
    w_rc G o 2 ∧
    wp_X3_stateIn E G o p1 p2 (fun x3 =>
    (¬ x3 = (nI 1) →
      post (nI 0)
    ) ∧ (x3 = (nI 1) →
      post (nI 1)
    )
  ))))
def wp_X3_ask_20 (E : g_E) (post : Int32 → g_G → Prop) (y0 : Nat) (G : g_G) : Prop :=
    w_rc G y0 2 ∧
    wp_X3_fails E G y0 (nI 1) (fun x4 G5 =>
    post x4 G5)
def wp_X3_ask (E : g_E) (G : g_G) (o : Nat) (p1 : Int32) (p2 : Int32) (post : Int32 → g_G → Prop) : Prop :=
  w_put G o 2 0 (.int (nI 0)) (fun G1 =>
  wp_X3_isStore E G1 p1 (fun x2 =>
  (x2 = 0 →
    wp_X3_ask_20 E post o G1
  ) ∧ (¬ x2 = 0 →
    w_rc G1 o 2 ∧
    wp_X3_isTransfer E G1 o p2 (fun x6 =>
    (¬ x6 = 0 →
      w_rc G1 o 2 ∧
      wp_X3_canAsk E G1 o p1 p2 (fun x8 =>
      (¬ x8 = 0 →
        w_rc G1 o 2 ∧
        wp_X3_recordsState E G1 o (fun G11 =>
        w_rc G11 o 2 ∧
        wp_X3_sends E G11 o (nI 6) p2 p1 (fun G13 =>
        w_gr G13 o 2 1 (fun x14 =>
        w_ild E G13 x14 (nI 13) (fun x15 =>
        post x15 G13
      ))))) ∧ (x8 = 0 →
        w_rc G1 o 2 ∧
        wp_X3_fails E G1 o (nI 2) (fun x16 G17 =>
        post x16 G17
      ))
    )) ∧ (x6 = 0 →
      wp_X3_ask_20 E post o G1
    )
  ))))
def wp_X3_isMessage (E : g_E) (G : g_G) (o : Nat) (p1 : Int32) (post : Int32 → Prop) : Prop :=
  w_gr G o 2 1 (fun x1 =>
  w_ild E G x1 (nI 13) (fun x2 =>
  wp_X3_in E G p1 (nI 0) (x2 - (nI 1)) (fun x3 =>
  narrow .boolean (.int x3) = .int x3 ∧ post x3)))
def wp_X3_goesToStore (E : g_E) (G : g_G) (p1 : Int32) (post : Int32 → Prop) : Prop :=
  (p1 = 0 →
    post (nI 1)
  ) ∧ (¬ p1 = 0 →
    (p1 = (nI 3) →
      post (nI 1)
    ) ∧ (¬ p1 = (nI 3) →
      (¬ p1 = (nI 4) →
        post (nI 0)
      ) ∧ (p1 = (nI 4) →
        post (nI 1)
      )
    )
  )
def wp_X3_isUpFor_33 (E : g_E) (G : g_G) (post : Int32 → Prop) (s0 : Int32) (s1 : Int32) (s2 : Nat) : Prop :=
    w_ild E G s2 (s1 + s0) (fun x6 =>
    (¬ x6 = (nI 1) →
      post (nI 0)
    ) ∧ (x6 = (nI 1) →
      post (nI 1)
    ))
def wp_X3_isUpFor (E : g_E) (G : g_G) (o : Nat) (p1 : Int32) (post : Int32 → Prop) : Prop :=
  w_gr G o 2 1 (fun x1 =>
  w_ild E G x1 ((nI 195) + p1) (fun x2 =>
  w_gr G o 2 1 (fun x3 =>
  wp_X3_goesToStore E G (x2 / (nI 32)) (fun x4 =>
  (x4 = 0 →
    wp_X3_isUpFor_33 E G post (nI 4) (nI 0) x3
  ) ∧ (¬ x4 = 0 →
    wp_X3_isUpFor_33 E G post (x2 - x2 / (nI 4) * (nI 4)) (nI 0) x3
  )))))
def wp_X3_takes_24 (E : g_E) (post : Int32 → g_G → Prop) : Nat → Nat → Int32 → Int32 → g_G → Prop
  | 0 => fun _ _ _ _ => False
  | n + 1 => fun y0 y2 y3 G =>
    w_gr G y0 2 1 (fun x6 =>
    w_ild E G x6 (nI 13) (fun x7 =>
    (x7 ≤ y3 →
      w_gr G y0 2 1 (fun x8 =>
      w_gr G y0 2 1 (fun x9 =>
      w_ild E G x9 (nI 13) (fun x10 =>
      w_ist E G x8 ((nI 195) + x10) (nI 0) (fun G11 =>
      post y2 G11
    ))))) ∧ (¬ x7 ≤ y3 →
      w_gr G y0 2 1 (fun x12 =>
      w_gr G y0 2 1 (fun x13 =>
      w_ild E G x13 (((nI 195) + y3) + (nI 1)) (fun x14 =>
      w_ist E G x12 ((nI 195) + y3) x14 (fun G15 =>
      wp_X3_takes_24 E post n y0 y2 (y3 + (nI 1)) G15
    )))))))
def wp_X3_takes (E : g_E) (G : g_G) (o : Nat) (p1 : Int32) (post : Int32 → g_G → Prop) : Prop :=
  w_gr G o 2 1 (fun x1 =>
  w_ild E G x1 ((nI 195) + p1) (fun x2 =>
  w_gr G o 2 1 (fun x3 =>
  w_ild E G x3 (nI 13) (fun x4 =>
  w_ist E G x3 (nI 13) (x4 - (nI 1)) (fun G5 =>
  ∃ nf : Nat, wp_X3_takes_24 E post nf o x2 p1 G5)))))
def wp_X3_bits_4 (E : g_E) (G : g_G) (post : Int32 → Prop) : Nat → Int32 → Int32 → Int32 → Prop
  | 0 => fun _ _ _ => False
  | n + 1 => fun y0 y1 y2 =>
    ((nI 4) ≤ y2 →
      post y1
    ) ∧ (¬ (nI 4) ≤ y2 →
      wp_X3_bits_4 E G post n y0 (y1 + ((y0 >>> (y2 &&& 31)) &&& (nI 1))) (y2 + (nI 1))
    )
def wp_X3_bits (E : g_E) (G : g_G) (p1 : Int32) (post : Int32 → Prop) : Prop :=
  ∃ nf : Nat, wp_X3_bits_4 E G post nf p1 (nI 0) (nI 0)
def wp_X3_shareOf_14 (E : g_E) (G : g_G) (post : Int32 → Prop) (y0 : Int32) (y1 : Int32) (y2 : Int32) (y3 : Int32) (s0 : Int32) : Prop :=
    (¬ y3 = y0 →
      post s0
    ) ∧ (y3 = y0 →
      wp_X3_bits E G y1 (fun x1 =>
      post ((-y2) * x1)
    ))
def wp_X3_shareOf (E : g_E) (G : g_G) (p1 : Int32) (p2 : Int32) (p3 : Int32) (p4 : Int32) (post : Int32 → Prop) : Prop :=
  (¬ ((p2 >>> (p4 &&& 31)) &&& (nI 1)) = (nI 1) →
    wp_X3_shareOf_14 E G post p1 p2 p3 p4 (nI 0)
  ) ∧ (((p2 >>> (p4 &&& 31)) &&& (nI 1)) = (nI 1) →
    wp_X3_shareOf_14 E G post p1 p2 p3 p4 p3
  )
def wp_X3_shareIn (E : g_E) (G : g_G) (o : Nat) (p1 : Int32) (p2 : Int32) (post : Int32 → Prop) : Prop :=
  w_rc G o 2 ∧
  wp_X3_of E G o p1 (nI 0) (fun x1 =>
  w_rc G o 2 ∧
  wp_X3_of E G o p1 (nI 1) (fun x3 =>
  w_rc G o 2 ∧
  wp_X3_of E G o p1 (nI 2) (fun x5 =>
  wp_X3_shareOf E G x1 x3 x5 p2 (fun x7 =>
  post x7))))
def wp_X3_canTake_75 (E : g_E) (G : g_G) (post : Int32 → Prop) (B14 : Nat → Int32 → Int32 → Int32 → Int32 → Prop) (y0 : Nat) (y1 : Int32) (y2 : Int32) (y4 : Int32) (s0 : Int32) (s1 : Int32) : Prop :=
    B14 y0 y1 y2 (s1 + s0) (y4 + (nI 1))
def wp_X3_canTake_69 (E : g_E) (G : g_G) (post : Int32 → Prop) (B75 : Nat → Int32 → Int32 → Int32 → Int32 → Int32 → Prop) (y0 : Nat) (y1 : Int32) (y2 : Int32) (y4 : Int32) (y5 : Int32) (s0 : Int32) : Prop :=
    B75 y0 y1 y2 y4 y5 s0
def wp_X3_canTake_74 (E : g_E) (G : g_G) (post : Int32 → Prop) (B75 : Nat → Int32 → Int32 → Int32 → Int32 → Int32 → Prop) (y0 : Nat) (y1 : Int32) (y2 : Int32) (y4 : Int32) (s0 : Int32) : Prop :=
    B75 y0 y1 y2 y4 (nI 0) s0
def wp_X3_canTake_60 (E : g_E) (G : g_G) (post : Int32 → Prop) (B69 : Nat → Int32 → Int32 → Int32 → Int32 → Int32 → Prop) (B75 : Nat → Int32 → Int32 → Int32 → Int32 → Int32 → Prop) (y0 : Nat) (y1 : Int32) (y2 : Int32) (y4 : Int32) (y5 : Int32) (s0 : Int32) : Prop :=
    (y2 ≤ 0 →
      wp_X3_canTake_74 E G post B75 y0 y1 y2 y4 s0
    ) ∧ (¬ y2 ≤ 0 →
      (y5 ≤ 0 →
        wp_X3_canTake_74 E G post B75 y0 y1 y2 y4 s0
      ) ∧ (¬ y5 ≤ 0 →
        B69 y0 y1 y2 y4 y5 s0
      )
    )
def wp_X3_canTake_48 (E : g_E) (G : g_G) (post : Int32 → Prop) (B14 : Nat → Int32 → Int32 → Int32 → Int32 → Prop) (y0 : Nat) (y1 : Int32) (y2 : Int32) (y3 : Int32) (y4 : Int32) (s0 : Int32) : Prop :=
    (0 ≤ y2 →
      wp_X3_canTake_60 E G post (wp_X3_canTake_69 E G post (wp_X3_canTake_75 E G post B14)) (wp_X3_canTake_75 E G post B14) y0 y1 y2 y4 s0 y3
    ) ∧ (¬ 0 ≤ y2 →
      (s0 < 0 →
        wp_X3_canTake_69 E G post (wp_X3_canTake_75 E G post B14) y0 y1 y2 y4 s0 y3
      ) ∧ (¬ s0 < 0 →
        wp_X3_canTake_60 E G post (wp_X3_canTake_69 E G post (wp_X3_canTake_75 E G post B14)) (wp_X3_canTake_75 E G post B14) y0 y1 y2 y4 s0 y3
      )
    )
def wp_X3_canTake_14 (E : g_E) (G : g_G) (post : Int32 → Prop) : Nat → Nat → Int32 → Int32 → Int32 → Int32 → Prop
  | 0 => fun _ _ _ _ _ => False
  | n + 1 => fun y0 y1 y2 y3 y4 =>
    w_gr G y0 2 1 (fun x3 =>
    w_ild E G x3 (nI 9) (fun x4 =>
    (x4 ≤ y4 →
      wp_X3_in E G y3 (nI 0) (nI 999) (fun x5 =>
      narrow .boolean (.int x5) = .int x5 ∧ post x5
    )) ∧ (¬ x4 ≤ y4 →
      w_rc G y0 2 ∧
      wp_X3_stateIn E G y0 y1 y4 (fun x7 =>
      (¬ x7 = (nI 1) →
        wp_X3_canTake_48 E G post (wp_X3_canTake_14 E G post n) y0 y1 y2 y3 y4 (nI 0)
      ) ∧ (x7 = (nI 1) →
        w_rc G y0 2 ∧
        wp_X3_shareIn E G y0 y4 y1 (fun x9 =>
        wp_X3_canTake_48 E G post (wp_X3_canTake_14 E G post n) y0 y1 y2 y3 y4 x9
      ))
    ))))
def wp_X3_canTake (E : g_E) (G : g_G) (o : Nat) (p1 : Int32) (p2 : Int32) (post : Int32 → Prop) : Prop :=
  w_gr G o 2 1 (fun x1 =>
  w_ild E G x1 ((nI 5) + p1) (fun x2 =>
  ∃ nf : Nat, wp_X3_canTake_14 E G post nf o p1 p2 (x2 + p2) (nI 0)))
def wp_X3_becomes_29 (E : g_E) (post : g_G → Prop) (y0 : Nat) (y1 : Int32) (y2 : Int32) (y3 : Int32) (s0 : Int32) (s1 : Int32) (s2 : Nat) (G : g_G) : Prop :=
    w_rc G s2 2 ∧
    wp_X3_writes E G s2 s1 s0 y2 (fun G4 =>
    w_gr G4 y0 2 1 (fun x5 =>
    w_ild E G4 x5 ((nI 5) + y1) (fun x6 =>
    (¬ y3 = (nI 2) →
      w_ist E G4 x5 ((nI 5) + y1) (x6 + (nI 0)) (fun G7 =>
      post G7
    )) ∧ (y3 = (nI 2) →
      w_rc G4 y0 2 ∧
      wp_X3_shareIn E G4 y0 y2 y1 (fun x8 =>
      w_ist E G4 x5 ((nI 5) + y1) (x6 + x8) (fun G10 =>
      post G10
    ))))))
def wp_X3_becomes (E : g_E) (G : g_G) (o : Nat) (p1 : Int32) (p2 : Int32) (p3 : Int32) (post : g_G → Prop) : Prop :=
  w_gr G o 2 1 (fun x1 =>
  w_ist E G x1 (((nI 70) + ((nI 8) * p1)) + p2) p3 (fun G2 =>
  (¬ p3 = (nI 1) →
    wp_X3_becomes_29 E post o p1 p2 p3 (p3 - (nI 1)) p1 o G2
  ) ∧ (p3 = (nI 1) →
    wp_X3_becomes_29 E post o p1 p2 p3 (nI 4) p1 o G2
  )))
def wp_X3_atStore_119 (E : g_E) (post : g_G → Prop) (y0 : Nat) (y2 : Int32) (y3 : Int32) (y4 : Int32) (G : g_G) : Prop :=
    (y4 = (nI 2) →
      post G
    ) ∧ (¬ y4 = (nI 2) →
      w_rc G y0 2 ∧
      wp_X3_sends E G y0 (nI 5) y2 y3 (fun G4 =>
      post G4
    ))
def wp_X3_atStore_96 (E : g_E) (post : g_G → Prop) (y0 : Nat) (y2 : Int32) (y3 : Int32) (G : g_G) : Prop :=
    w_rc G y0 2 ∧
    wp_X3_sends E G y0 (nI 5) y2 y3 (fun G8 =>
    post G8)
def wp_X3_atStore_84 (E : g_E) (post : g_G → Prop) (y0 : Nat) (y2 : Int32) (y3 : Int32) (y4 : Int32) (G : g_G) : Prop :=
    (y4 = (nI 1) →
      wp_X3_atStore_96 E post y0 y2 y3 G
    ) ∧ (¬ y4 = (nI 1) →
      (¬ y4 = (nI 2) →
        post G
      ) ∧ (y4 = (nI 2) →
        wp_X3_atStore_96 E post y0 y2 y3 G
      )
    )
def wp_X3_atStore_58 (E : g_E) (post : g_G → Prop) (y2 : Int32) (y3 : Int32) (s0 : Int32) (s1 : Nat) (G : g_G) : Prop :=
    w_rc G s1 2 ∧
    wp_X3_sends E G s1 s0 y2 y3 (fun G12 =>
    post G12)
def wp_X3_atStore_46 (E : g_E) (post : g_G → Prop) (y0 : Nat) (y2 : Int32) (y3 : Int32) (y4 : Int32) (G : g_G) : Prop :=
    (¬ y4 = (nI 3) →
      wp_X3_atStore_58 E post y2 y3 (nI 1) y0 G
    ) ∧ (y4 = (nI 3) →
      wp_X3_atStore_58 E post y2 y3 (nI 2) y0 G
    )
def wp_X3_atStore_36 (E : g_E) (post : g_G → Prop) (B46 : Nat → Int32 → Int32 → Int32 → g_G → Prop) (y0 : Nat) (y2 : Int32) (y3 : Int32) (s0 : Int32) (G : g_G) : Prop :=
    w_rc G y0 2 ∧
    wp_X3_becomes E G y0 y3 y2 s0 (fun G18 =>
    B46 y0 y2 y3 s0 G18)
def wp_X3_atStore (E : g_E) (G : g_G) (o : Nat) (p1 : Int32) (p2 : Int32) (p3 : Int32) (post : g_G → Prop) : Prop :=
  w_rc G o 2 ∧
  wp_X3_stateIn E G o p3 p2 (fun x1 =>
  (¬ p1 = 0 →
    (¬ p1 = (nI 3) →
      ((nI 2) ≤ x1 →
        wp_X3_atStore_119 E post o p2 p3 x1 G
      ) ∧ (¬ (nI 2) ≤ x1 →
        w_rc G o 2 ∧
        wp_X3_becomes E G o p3 p2 (nI 3) (fun G6 =>
        wp_X3_atStore_119 E post o p2 p3 x1 G6
      ))
    ) ∧ (p1 = (nI 3) →
      (¬ x1 = (nI 1) →
        wp_X3_atStore_84 E post o p2 p3 x1 G
      ) ∧ (x1 = (nI 1) →
        w_rc G o 2 ∧
        wp_X3_becomes E G o p3 p2 (nI 2) (fun G10 =>
        wp_X3_atStore_84 E post o p2 p3 x1 G10
      ))
    )
  ) ∧ (p1 = 0 →
    (¬ x1 = 0 →
      wp_X3_atStore_46 E post o p2 p3 x1 G
    ) ∧ (x1 = 0 →
      w_rc G o 2 ∧
      wp_X3_shareIn E G o p2 p3 (fun x13 =>
      w_rc G o 2 ∧
      wp_X3_canTake E G o p3 x13 (fun x15 =>
      (x15 = 0 →
        wp_X3_atStore_36 E post (wp_X3_atStore_46 E post) o p2 p3 (nI 3) G
      ) ∧ (¬ x15 = 0 →
        wp_X3_atStore_36 E post (wp_X3_atStore_46 E post) o p2 p3 (nI 1) G
      )
    )))
  ))
def wp_X3_atClerk_84 (E : g_E) (post : g_G → Prop) (y0 : Nat) (y1 : Int32) (y2 : Int32) (y3 : Int32) (y4 : Int32) (G : g_G) : Prop :=
    (¬ y1 = (nI 5) →
      (¬ y1 = (nI 6) →
        post G
      ) ∧ (y1 = (nI 6) →
        (¬ y4 = 0 →
          post G
        ) ∧ (y4 = 0 →
          w_rc G y0 2 ∧
          wp_X3_of E G y0 y2 (nI 5) (fun x3 =>
          w_rc G y0 2 ∧
          wp_X3_sends E G y0 ((nI 2) + x3) y2 y3 (fun G6 =>
          post G6
        )))
      )
    ) ∧ (y1 = (nI 5) →
      w_rc G y0 2 ∧
      wp_X3_of E G y0 y2 (nI 4) (fun x7 =>
      w_rc G y0 2 ∧
      wp_X3_lay E G y0 y2 (nI 4) (x7 ||| ((nI 1) <<< (y3 &&& 31))) (fun G10 =>
      w_rc G10 y0 2 ∧
      wp_X3_of E G10 y0 y2 (nI 4) (fun x11 =>
      w_rc G10 y0 2 ∧
      wp_X3_all E G10 y0 y2 (fun x13 =>
      (¬ x11 = x13 →
        post G10
      ) ∧ (x11 = x13 →
        w_rc G10 y0 2 ∧
        wp_X3_of E G10 y0 y2 (nI 6) (fun x15 =>
        (¬ x15 = 0 →
          post G10
        ) ∧ (x15 = 0 →
          w_rc G10 y0 2 ∧
          wp_X3_lay E G10 y0 y2 (nI 6) (nI 1) (fun G18 =>
          w_rc G18 y0 2 ∧
          wp_X3_writes E G18 y0 (nI 4) (nI 3) y2 (fun G20 =>
          post G20
        )))
      ))
    )))))
def wp_X3_atClerk_65 (E : g_E) (post : g_G → Prop) (y0 : Nat) (y1 : Int32) (y2 : Int32) (y3 : Int32) (y4 : Int32) (G : g_G) : Prop :=
    (¬ y1 = (nI 2) →
      wp_X3_atClerk_84 E post y0 y1 y2 y3 y4 G
    ) ∧ (y1 = (nI 2) →
      (y4 = 0 →
        wp_X3_atClerk_84 E post y0 y1 y2 y3 y4 G
      ) ∧ (¬ y4 = 0 →
        w_rc G y0 2 ∧
        wp_X3_decides E G y0 y2 (nI 2) (fun G22 =>
        post G22
      ))
    )
def wp_X3_atClerk_14 (E : g_E) (post : g_G → Prop) (y0 : Nat) (y1 : Int32) (y2 : Int32) (y3 : Int32) (s0 : Int32) (G : g_G) : Prop :=
    (¬ y1 = (nI 1) →
      wp_X3_atClerk_65 E post y0 y1 y2 y3 s0 G
    ) ∧ (y1 = (nI 1) →
      (s0 = 0 →
        wp_X3_atClerk_65 E post y0 y1 y2 y3 s0 G
      ) ∧ (¬ s0 = 0 →
        w_rc G y0 2 ∧
        wp_X3_of E G y0 y2 (nI 3) (fun x23 =>
        w_rc G y0 2 ∧
        wp_X3_lay E G y0 y2 (nI 3) (x23 ||| ((nI 1) <<< (y3 &&& 31))) (fun G26 =>
        w_rc G26 y0 2 ∧
        wp_X3_of E G26 y0 y2 (nI 3) (fun x27 =>
        w_rc G26 y0 2 ∧
        wp_X3_all E G26 y0 y2 (fun x29 =>
        (¬ x27 = x29 →
          post G26
        ) ∧ (x27 = x29 →
          w_rc G26 y0 2 ∧
          wp_X3_decides E G26 y0 y2 (nI 1) (fun G32 =>
          post G32
        ))
      )))))
    )
def wp_X3_atClerk (E : g_E) (G : g_G) (o : Nat) (p1 : Int32) (p2 : Int32) (p3 : Int32) (post : g_G → Prop) : Prop :=
  w_rc G o 2 ∧
  wp_X3_of E G o p2 (nI 5) (fun x1 =>
  (¬ x1 = 0 →
    wp_X3_atClerk_14 E post o p1 p2 p3 (nI 0) G
  ) ∧ (x1 = 0 →
    wp_X3_atClerk_14 E post o p1 p2 p3 (nI 1) G
  ))
def wp_X3_delivers_84 (E : g_E) (post : Int32 → g_G → Prop) (y0 : Nat) (y2 : Int32) (y3 : Int32) (G : g_G) : Prop :=
    (y2 = 0 →
      narrow .boolean (.int y2) = .int y2 ∧ post y2 G
    ) ∧ (¬ y2 = 0 →
      w_rc G y0 2 ∧
      wp_X3_atClerk E G y0 (y3 / (nI 32)) ((y3 / (nI 4)) - (y3 / (nI 4)) / (nI 8) * (nI 8)) (y3 - y3 / (nI 4) * (nI 4)) (fun G12 =>
      narrow .boolean (.int y2) = .int y2 ∧ post y2 G12
    ))
def wp_X3_delivers_48 (E : g_E) (post : Int32 → g_G → Prop) (y0 : Nat) (y2 : Int32) (y3 : Int32) (s0 : Int32) (s1 : Int32) (s2 : Int32) (s3 : Nat) (G : g_G) : Prop :=
    w_ist E G s3 s2 (s1 + s0) (fun G10 =>
    (y2 = 0 →
      wp_X3_delivers_84 E post y0 y2 y3 G10
    ) ∧ (¬ y2 = 0 →
      wp_X3_goesToStore E G10 (y3 / (nI 32)) (fun x13 =>
      (x13 = 0 →
        wp_X3_delivers_84 E post y0 y2 y3 G10
      ) ∧ (¬ x13 = 0 →
        w_rc G10 y0 2 ∧
        wp_X3_atStore E G10 y0 (y3 / (nI 32)) ((y3 / (nI 4)) - (y3 / (nI 4)) / (nI 8) * (nI 8)) (y3 - y3 / (nI 4) * (nI 4)) (fun G16 =>
        narrow .boolean (.int y2) = .int y2 ∧ post y2 G16
      ))
    )))
def wp_X3_delivers_29 (E : g_E) (post : Int32 → g_G → Prop) (y0 : Nat) (y2 : Int32) (y3 : Int32) (s0 : Int32) (s1 : Int32) (s2 : Int32) (s3 : Nat) (G : g_G) : Prop :=
    w_ist E G s3 s2 (s1 + s0) (fun G7 =>
    w_gr G7 y0 2 1 (fun x8 =>
    w_ild E G7 x8 (nI 12) (fun x9 =>
    (y2 = 0 →
      wp_X3_delivers_48 E post y0 y2 y3 (nI 1) x9 (nI 12) x8 G7
    ) ∧ (¬ y2 = 0 →
      wp_X3_delivers_48 E post y0 y2 y3 (nI 0) x9 (nI 12) x8 G7
    ))))
def wp_X3_delivers (E : g_E) (G : g_G) (o : Nat) (p1 : Int32) (post : Int32 → g_G → Prop) : Prop :=
  w_rc G o 2 ∧
  wp_X3_isUpFor E G o p1 (fun x1 =>
  w_rc G o 2 ∧
  wp_X3_takes E G o p1 (fun x3 G4 =>
  w_gr G4 o 2 1 (fun x5 =>
  w_ild E G4 x5 (nI 11) (fun x6 =>
  (x1 = 0 →
    wp_X3_delivers_29 E post o x1 x3 (nI 0) x6 (nI 11) x5 G4
  ) ∧ (¬ x1 = 0 →
    wp_X3_delivers_29 E post o x1 x3 (nI 1) x6 (nI 11) x5 G4
  )))))
def wp_X3_deliver (E : g_E) (G : g_G) (o : Nat) (p1 : Int32) (post : Int32 → g_G → Prop) : Prop :=
  w_put G o 2 0 (.int (nI 0)) (fun G1 =>
  w_rc G1 o 2 ∧
  wp_X3_isMessage E G1 o p1 (fun x2 =>
  (¬ x2 = 0 →
    w_rc G1 o 2 ∧
    wp_X3_recordsState E G1 o (fun G5 =>
    w_rc G5 o 2 ∧
    wp_X3_delivers E G5 o p1 (fun x6 G7 =>
    narrow .boolean (.int x6) = .int x6 ∧ post x6 G7
  ))) ∧ (x2 = 0 →
    w_rc G1 o 2 ∧
    wp_X3_fails E G1 o (nI 1) (fun x8 G9 =>
    (x8 ≤ 0 →
      post (nI 0) G9
    ) ∧ (¬ x8 ≤ 0 →
      post (nI 1) G9
    )
  ))))
def wp_X3_deliversFirst_2 (E : g_E) (post : Int32 → g_G → Prop) : Nat → Nat → Int32 → Int32 → g_G → Prop
  | 0 => fun _ _ _ _ => False
  | n + 1 => fun y0 y1 y2 G =>
    (y1 ≤ y2 →
      post y2 G
    ) ∧ (¬ y1 ≤ y2 →
      w_gr G y0 2 1 (fun x1 =>
      w_ild E G x1 (nI 13) (fun x2 =>
      (x2 ≤ 0 →
        post y2 G
      ) ∧ (¬ x2 ≤ 0 →
        w_rc G y0 2 ∧
        wp_X3_delivers E G y0 (nI 0) (fun x3 G4 =>
        wp_X3_deliversFirst_2 E post n y0 y1 (y2 + (nI 1)) G4
      ))
    )))
def wp_X3_deliversFirst (E : g_E) (G : g_G) (o : Nat) (p1 : Int32) (post : Int32 → g_G → Prop) : Prop :=
  ∃ nf : Nat, wp_X3_deliversFirst_2 E post nf o p1 (nI 0) G
def wp_X3_deliversAll (E : g_E) (G : g_G) (o : Nat) (post : Int32 → g_G → Prop) : Prop :=
  w_rc G o 2 ∧
  wp_X3_deliversFirst E G o (nI 99999) (fun x1 G2 =>
  post x1 G2)
def wp_X3_deliverAll (E : g_E) (G : g_G) (o : Nat) (post : Int32 → g_G → Prop) : Prop :=
  w_put G o 2 0 (.int (nI 0)) (fun G1 =>
  w_rc G1 o 2 ∧
  wp_X3_recordsState E G1 o (fun G3 =>
  w_rc G3 o 2 ∧
  wp_X3_deliversAll E G3 o (fun x4 G5 =>
  post x4 G5)))
def wp_X3_loses (E : g_E) (G : g_G) (o : Nat) (p1 : Int32) (post : Int32 → g_G → Prop) : Prop :=
  w_gr G o 2 1 (fun x1 =>
  w_ild E G x1 (nI 12) (fun x2 =>
  w_ist E G x1 (nI 12) (x2 + (nI 1)) (fun G3 =>
  w_rc G3 o 2 ∧
  wp_X3_takes E G3 o p1 (fun x4 G5 =>
  post (x4 / (nI 32)) G5))))
def wp_X3_lose (E : g_E) (G : g_G) (o : Nat) (p1 : Int32) (post : Int32 → g_G → Prop) : Prop :=
  w_put G o 2 0 (.int (nI 0)) (fun G1 =>
  w_rc G1 o 2 ∧
  wp_X3_isMessage E G1 o p1 (fun x2 =>
  (¬ x2 = 0 →
    w_rc G1 o 2 ∧
    wp_X3_recordsState E G1 o (fun G5 =>
    w_rc G5 o 2 ∧
    wp_X3_loses E G5 o p1 (fun x6 G7 =>
    post x6 G7
  ))) ∧ (x2 = 0 →
    w_rc G1 o 2 ∧
    wp_X3_fails E G1 o (nI 1) (fun x8 G9 =>
    post x8 G9
  ))))
def wp_X3_isSite (E : g_E) (G : g_G) (p1 : Int32) (post : Int32 → Prop) : Prop :=
  wp_X3_in E G p1 (nI 0) (nI 4) (fun x1 =>
  narrow .boolean (.int x1) = .int x1 ∧ post x1)
def wp_X3_crashes_51 (E : g_E) (post : Int32 → g_G → Prop) : Nat → Nat → Int32 → Int32 → g_G → Prop
  | 0 => fun _ _ _ _ => False
  | n + 1 => fun y0 y2 y3 G =>
    ((nI 5) ≤ y3 →
      post y2 G
    ) ∧ (¬ (nI 5) ≤ y3 →
      w_gr G y0 2 1 (fun x5 =>
      w_ild E G x5 ((nI 0) + y3) (fun x6 =>
      wp_X3_crashes_51 E post n y0 (y2 + x6) (y3 + (nI 1)) G
    )))
def wp_X3_crashes_47 (E : g_E) (post : Int32 → g_G → Prop) (y0 : Nat) (G : g_G) : Prop :=
    ∃ nf : Nat, wp_X3_crashes_51 E post nf y0 (nI 0) (nI 0) G
def wp_X3_crashes_11 (E : g_E) (post : Int32 → g_G → Prop) : Nat → Nat → Int32 → Int32 → g_G → Prop
  | 0 => fun _ _ _ _ => False
  | n + 1 => fun y0 y1 y2 G =>
    w_gr G y0 2 1 (fun x3 =>
    w_ild E G x3 (nI 9) (fun x4 =>
    (x4 ≤ y2 →
      wp_X3_crashes_47 E post y0 G
    ) ∧ (¬ x4 ≤ y2 →
      (¬ y1 = (nI 4) →
        wp_X3_crashes_47 E post y0 G
      ) ∧ (y1 = (nI 4) →
        w_rc G y0 2 ∧
        wp_X3_lay E G y0 y2 (nI 3) (nI 0) (fun G8 =>
        w_rc G8 y0 2 ∧
        wp_X3_lay E G8 y0 y2 (nI 4) (nI 0) (fun G10 =>
        wp_X3_crashes_11 E post n y0 y1 (y2 + (nI 1)) G10
      )))
    )))
def wp_X3_crashes (E : g_E) (G : g_G) (o : Nat) (p1 : Int32) (post : Int32 → g_G → Prop) : Prop :=
  w_gr G o 2 1 (fun x1 =>
  w_ist E G x1 ((nI 0) + p1) (nI 0) (fun G2 =>
  ∃ nf : Nat, wp_X3_crashes_11 E post nf o p1 (nI 0) G2))
def wp_X3_crash (E : g_E) (G : g_G) (o : Nat) (p1 : Int32) (post : Int32 → g_G → Prop) : Prop :=
  w_put G o 2 0 (.int (nI 0)) (fun G1 =>
  wp_X3_isSite E G1 p1 (fun x2 =>
  (¬ x2 = 0 →
    w_gr G1 o 2 1 (fun x4 =>
    w_ild E G1 x4 ((nI 0) + p1) (fun x5 =>
    (¬ x5 = 0 →
      w_rc G1 o 2 ∧
      wp_X3_recordsState E G1 o (fun G7 =>
      w_rc G7 o 2 ∧
      wp_X3_crashes E G7 o p1 (fun x8 G9 =>
      post x8 G9
    ))) ∧ (x5 = 0 →
      w_rc G1 o 2 ∧
      wp_X3_fails E G1 o (nI 2) (fun x10 G11 =>
      post x10 G11
    ))
  ))) ∧ (x2 = 0 →
    w_rc G1 o 2 ∧
    wp_X3_fails E G1 o (nI 1) (fun x12 G13 =>
    post x12 G13
  ))))
def wp_X3_recovers_99 (E : g_E) (post : g_G → Prop) (B11 : Nat → Int32 → Int32 → g_G → Prop) (y0 : Nat) (y1 : Int32) (y2 : Int32) (G : g_G) : Prop :=
    B11 y0 y1 (y2 + (nI 1)) G
def wp_X3_recovers_76 (E : g_E) (post : g_G → Prop) (B99 : Nat → Int32 → Int32 → g_G → Prop) (y0 : Nat) (y1 : Int32) (y2 : Int32) (G : g_G) : Prop :=
    (y1 = (nI 4) →
      B99 y0 y1 y2 G
    ) ∧ (¬ y1 = (nI 4) →
      w_rc G y0 2 ∧
      wp_X3_stateIn E G y0 y1 y2 (fun x5 =>
      (¬ x5 = (nI 1) →
        B99 y0 y1 y2 G
      ) ∧ (x5 = (nI 1) →
        w_rc G y0 2 ∧
        wp_X3_sends E G y0 (nI 6) y2 y1 (fun G8 =>
        B99 y0 y1 y2 G8
      ))
    ))
def wp_X3_recovers_45 (E : g_E) (post : g_G → Prop) (B99 : Nat → Int32 → Int32 → g_G → Prop) (y0 : Nat) (y1 : Int32) (y2 : Int32) (G : g_G) : Prop :=
    (¬ y1 = (nI 4) →
      wp_X3_recovers_76 E post B99 y0 y1 y2 G
    ) ∧ (y1 = (nI 4) →
      w_rc G y0 2 ∧
      wp_X3_of E G y0 y2 (nI 6) (fun x9 =>
      (¬ x9 = 0 →
        wp_X3_recovers_76 E post B99 y0 y1 y2 G
      ) ∧ (x9 = 0 →
        w_rc G y0 2 ∧
        wp_X3_of E G y0 y2 (nI 5) (fun x11 =>
        w_rc G y0 2 ∧
        wp_X3_sendsAll E G y0 ((nI 2) + x11) y2 (fun G14 =>
        B99 y0 y1 y2 G14
      )))
    ))
def wp_X3_recovers_11 (E : g_E) (post : g_G → Prop) : Nat → Nat → Int32 → Int32 → g_G → Prop
  | 0 => fun _ _ _ _ => False
  | n + 1 => fun y0 y1 y2 G =>
    w_gr G y0 2 1 (fun x3 =>
    w_ild E G x3 (nI 9) (fun x4 =>
    (x4 ≤ y2 →
      post G
    ) ∧ (¬ x4 ≤ y2 →
      (¬ y1 = (nI 4) →
        wp_X3_recovers_45 E post (wp_X3_recovers_99 E post (wp_X3_recovers_11 E post n)) y0 y1 y2 G
      ) ∧ (y1 = (nI 4) →
        w_rc G y0 2 ∧
        wp_X3_of E G y0 y2 (nI 5) (fun x15 =>
        (¬ x15 = 0 →
          wp_X3_recovers_45 E post (wp_X3_recovers_99 E post (wp_X3_recovers_11 E post n)) y0 y1 y2 G
        ) ∧ (x15 = 0 →
          w_rc G y0 2 ∧
          wp_X3_decides E G y0 y2 (nI 2) (fun G18 =>
          wp_X3_recovers_99 E post (wp_X3_recovers_11 E post n) y0 y1 y2 G18
        ))
      ))
    )))
def wp_X3_recovers (E : g_E) (G : g_G) (o : Nat) (p1 : Int32) (post : g_G → Prop) : Prop :=
  w_gr G o 2 1 (fun x1 =>
  w_ist E G x1 ((nI 0) + p1) (nI 1) (fun G2 =>
  ∃ nf : Nat, wp_X3_recovers_11 E post nf o p1 (nI 0) G2))
def wp_X3_recover (E : g_E) (G : g_G) (o : Nat) (p1 : Int32) (post : Int32 → g_G → Prop) : Prop :=
  w_put G o 2 0 (.int (nI 0)) (fun G1 =>
  wp_X3_isSite E G1 p1 (fun x2 =>
  (¬ x2 = 0 →
    w_gr G1 o 2 1 (fun x4 =>
    w_ild E G1 x4 ((nI 0) + p1) (fun x5 =>
    (¬ x5 = (nI 1) →
      w_rc G1 o 2 ∧
      wp_X3_recordsState E G1 o (fun G7 =>
      w_rc G7 o 2 ∧
      wp_X3_recovers E G7 o p1 (fun G9 =>
      w_gr G9 o 2 1 (fun x10 =>
      w_ild E G9 x10 (nI 13) (fun x11 =>
      post x11 G9
    ))))) ∧ (x5 = (nI 1) →
      w_rc G1 o 2 ∧
      wp_X3_fails E G1 o (nI 2) (fun x12 G13 =>
      post x12 G13
    ))
  ))) ∧ (x2 = 0 →
    w_rc G1 o 2 ∧
    wp_X3_fails E G1 o (nI 1) (fun x14 G15 =>
    post x14 G15
  ))))
def wp_X3_append (E : g_E) (G : g_G) (o : Nat) (p1 : Int32) (post : Int32 → g_G → Prop) : Prop :=
  w_put G o 2 0 (.int (nI 0)) (fun G1 =>
  wp_X3_in E G1 p1 (nI 33) (nI 126) (fun x2 =>
  (¬ x2 = 0 →
    w_gi G1 o 2 8 (fun x4 =>
    (¬ x4 = (nI 60) →
      w_gr G1 o 2 7 (fun x5 =>
      w_gi G1 o 2 8 (fun x6 =>
      w_ist E G1 x5 x6 p1 (fun G7 =>
      w_gi G7 o 2 8 (fun x8 =>
      w_put G7 o 2 8 (.int (x8 + (nI 1))) (fun G9 =>
      w_gi G9 o 2 8 (fun x10 =>
      post x10 G9
    ))))))) ∧ (x4 = (nI 60) →
      w_rc G1 o 2 ∧
      wp_X3_fails E G1 o (nI 2) (fun x11 G12 =>
      post x11 G12
    ))
  )) ∧ (x2 = 0 →
    w_rc G1 o 2 ∧
    wp_X3_fails E G1 o (nI 1) (fun x13 G14 =>
    post x13 G14
  ))))
def wp_X3_clearBuffer (E : g_E) (G : g_G) (o : Nat) (post : Int32 → g_G → Prop) : Prop :=
  w_put G o 2 0 (.int (nI 0)) (fun G1 =>
  w_gi G1 o 2 8 (fun x2 =>
  w_put G1 o 2 8 (.int (nI 0)) (fun G3 =>
  post x2 G3)))
def wp_X3_sign (E : g_E) (G : g_G) (o : Nat) (post : Int32 → Prop) : Prop :=
  w_gi G o 2 9 (fun x1 =>
  w_gi G o 2 8 (fun x2 =>
  (x2 ≤ x1 →
    post (nI 0)
  ) ∧ (¬ x2 ≤ x1 →
    w_gr G o 2 7 (fun x3 =>
    w_gi G o 2 9 (fun x4 =>
    w_ild E G x3 x4 (fun x5 =>
    post x5
  ))))))
def wp_X3_reads_53 (E : g_E) (post : Int32 → g_G → Prop) (y3 : Int32) (s0 : Int32) (s1 : Int32) (s2 : Nat) (G : g_G) : Prop :=
    w_put G s2 2 9 (.int (s1 + s0)) (fun G7 =>
    post y3 G7)
def wp_X3_reads_25 (E : g_E) (post : Int32 → g_G → Prop) (y0 : Nat) (s0 : Int32) (s1 : Nat) (G : g_G) : Prop :=
    w_putn G s1 2 10 (.boolean) (.int s0) (fun G2 =>
    w_rc G2 y0 2 ∧
    wp_X3_sign E G2 y0 (fun x3 =>
    w_gi G2 y0 2 9 (fun x5 =>
    w_gi G2 y0 2 10 (fun x6 =>
    (x6 = 0 →
      wp_X3_reads_53 E post (x3 - (nI 48)) (nI 0) x5 y0 G2
    ) ∧ (¬ x6 = 0 →
      wp_X3_reads_53 E post (x3 - (nI 48)) (nI 1) x5 y0 G2
    )))))
def wp_X3_reads_24 (E : g_E) (post : Int32 → g_G → Prop) (B25 : Nat → Int32 → Nat → g_G → Prop) (y0 : Nat) (s0 : Nat) (G : g_G) : Prop :=
    B25 y0 (nI 0) s0 G
def wp_X3_reads (E : g_E) (G : g_G) (o : Nat) (p1 : Int32) (p2 : Int32) (post : Int32 → g_G → Prop) : Prop :=
  w_gi G o 2 10 (fun x1 =>
  (x1 = 0 →
    wp_X3_reads_24 E post (wp_X3_reads_25 E post) o o G
  ) ∧ (¬ x1 = 0 →
    w_rc G o 2 ∧
    wp_X3_sign E G o (fun x8 =>
    wp_X3_in E G x8 p1 p2 (fun x10 =>
    (x10 = 0 →
      wp_X3_reads_24 E post (wp_X3_reads_25 E post) o o G
    ) ∧ (¬ x10 = 0 →
      wp_X3_reads_25 E post o (nI 1) o G
    )
  ))))
def wp_X3_readsStores_98 (E : g_E) (post : Int32 → g_G → Prop) (y2 : Int32) (s0 : Nat) (G : g_G) : Prop :=
    w_put G s0 2 10 (.int (nI 0)) (fun G3 =>
    post y2 G3)
def wp_X3_readsStores_79 (E : g_E) (post : Int32 → g_G → Prop) (B11 : Nat → Int32 → Int32 → Int32 → Int32 → g_G → Prop) (y0 : Nat) (y1 : Int32) (y2 : Int32) (y3 : Int32) (y4 : Int32) (G : g_G) : Prop :=
    B11 y0 y1 y2 y3 y4 G
def wp_X3_readsStores_47 (E : g_E) (post : Int32 → g_G → Prop) (B11 : Nat → Int32 → Int32 → Int32 → Int32 → g_G → Prop) (y0 : Nat) (y1 : Int32) (y2 : Int32) (y3 : Int32) (y5 : Int32) (s0 : Int32) (G : g_G) : Prop :=
    (s0 = 0 →
      wp_X3_readsStores_79 E post B11 y0 y1 y2 y3 s0 G
    ) ∧ (¬ s0 = 0 →
      w_gi G y0 2 9 (fun x9 =>
      w_put G y0 2 9 (.int (x9 + (nI 1))) (fun G10 =>
      wp_X3_readsStores_79 E post B11 y0 y1 (y2 ||| ((nI 1) <<< ((y5 - (nI 48)) &&& 31))) (y5 + (nI 1)) s0 G10
    )))
def wp_X3_readsStores_46 (E : g_E) (post : Int32 → g_G → Prop) (B47 : Nat → Int32 → Int32 → Int32 → Int32 → Int32 → g_G → Prop) (y0 : Nat) (y1 : Int32) (y2 : Int32) (y3 : Int32) (y5 : Int32) (G : g_G) : Prop :=
    B47 y0 y1 y2 y3 y5 (nI 0) G
def wp_X3_readsStores_11 (E : g_E) (post : Int32 → g_G → Prop) : Nat → Nat → Int32 → Int32 → Int32 → Int32 → g_G → Prop
  | 0 => fun _ _ _ _ _ _ => False
  | n + 1 => fun y0 y1 y2 y3 y4 G =>
    (y4 = 0 →
      w_gi G y0 2 10 (fun x2 =>
      (x2 = 0 →
        wp_X3_readsStores_98 E post y2 y0 G
      ) ∧ (¬ x2 = 0 →
        (y2 = 0 →
          wp_X3_readsStores_98 E post y2 y0 G
        ) ∧ (¬ y2 = 0 →
          w_put G y0 2 10 (.int (nI 1)) (fun G4 =>
          post y2 G4
        ))
      )
    )) ∧ (¬ y4 = 0 →
      w_rc G y0 2 ∧
      wp_X3_sign E G y0 (fun x5 =>
      wp_X3_in E G x5 y3 (nI 51) (fun x7 =>
      (x7 = 0 →
        wp_X3_readsStores_46 E post (wp_X3_readsStores_47 E post (wp_X3_readsStores_11 E post n)) y0 y1 y2 y3 x5 G
      ) ∧ (¬ x7 = 0 →
        ((x5 - (nI 48)) = y1 →
          wp_X3_readsStores_46 E post (wp_X3_readsStores_47 E post (wp_X3_readsStores_11 E post n)) y0 y1 y2 y3 x5 G
        ) ∧ (¬ (x5 - (nI 48)) = y1 →
          wp_X3_readsStores_47 E post (wp_X3_readsStores_11 E post n) y0 y1 y2 y3 x5 (nI 1) G
        )
      )
    )))
def wp_X3_readsStores (E : g_E) (G : g_G) (o : Nat) (p1 : Int32) (post : Int32 → g_G → Prop) : Prop :=
  w_gi G o 2 10 (fun x1 =>
  ∃ nf : Nat, wp_X3_readsStores_11 E post nf o p1 (nI 0) (nI 48) x1 G)
def wp_X3_readsSize (E : g_E) (G : g_G) (o : Nat) (post : Int32 → g_G → Prop) : Prop :=
  w_rc G o 2 ∧
  wp_X3_reads E G o (nI 49) (nI 57) (fun x1 G2 =>
  w_gi G2 o 2 10 (fun x3 =>
  (x3 = 0 →
    post x1 G2
  ) ∧ (¬ x3 = 0 →
    w_rc G2 o 2 ∧
    wp_X3_sign E G2 o (fun x4 =>
    wp_X3_in E G2 x4 (nI 48) (nI 57) (fun x6 =>
    (x6 = 0 →
      post x1 G2
    ) ∧ (¬ x6 = 0 →
      w_rc G2 o 2 ∧
      wp_X3_sign E G2 o (fun x8 =>
      ((nI 50) < ((((nI 10) * x1) + x8) - (nI 48)) →
        post x1 G2
      ) ∧ (¬ (nI 50) < ((((nI 10) * x1) + x8) - (nI 48)) →
        w_rc G2 o 2 ∧
        wp_X3_sign E G2 o (fun x10 =>
        w_gi G2 o 2 9 (fun x12 =>
        w_put G2 o 2 9 (.int (x12 + (nI 1))) (fun G13 =>
        post ((((nI 10) * x1) + x10) - (nI 48)) G13
      ))))
    ))
  )))))
def wp_X3_readsPart_323 (E : g_E) (post : g_G → Prop) (y0 : Nat) (G : g_G) : Prop :=
    w_gi G y0 2 12 (fun x11 =>
    w_gi G y0 2 10 (fun x12 =>
    (x12 = 0 →
      w_put G y0 2 12 (.int (x11 + (nI 0))) (fun G13 =>
      post G13
    )) ∧ (¬ x12 = 0 →
      w_put G y0 2 12 (.int (x11 + (nI 1))) (fun G14 =>
      post G14
    ))))
def wp_X3_readsPart (E : g_E) (G : g_G) (o : Nat) (post : g_G → Prop) : Prop :=
  w_gi G o 2 12 (fun x1 =>
  w_rc G o 2 ∧
  wp_X3_sign E G o (fun x2 =>
  w_put G o 2 10 (.int (nI 1)) (fun G4 =>
  w_gr G4 o 2 11 (fun x5 =>
  w_ist E G4 x5 ((nI 4) * x1) x2 (fun G6 =>
  w_gr G6 o 2 11 (fun x7 =>
  w_ist E G6 x7 (((nI 4) * x1) + (nI 2)) (nI 0) (fun G8 =>
  w_gi G8 o 2 9 (fun x9 =>
  w_put G8 o 2 9 (.int (x9 + (nI 1))) (fun G10 =>
  (x2 = nI 98 →
    w_gr G10 o 2 11 (fun x15 =>
    w_rc G10 o 2 ∧
    wp_X3_reads E G10 o (nI 48) (nI 51) (fun x16 G17 =>
    w_ist E G17 x15 (((nI 4) * x1) + (nI 1)) x16 (fun G18 =>
    w_rc G18 o 2 ∧
    wp_X3_reads E G18 o (nI 62) (nI 62) (fun x19 G20 =>
    w_gr G20 o 2 11 (fun x21 =>
    w_gr G20 o 2 11 (fun x22 =>
    w_ild E G20 x22 (((nI 4) * x1) + (nI 1)) (fun x23 =>
    w_rc G20 o 2 ∧
    wp_X3_readsStores E G20 o x23 (fun x24 G25 =>
    w_ist E G25 x21 (((nI 4) * x1) + (nI 2)) x24 (fun G26 =>
    w_rc G26 o 2 ∧
    wp_X3_reads E G26 o (nI 58) (nI 58) (fun x27 G28 =>
    w_gr G28 o 2 11 (fun x29 =>
    w_rc G28 o 2 ∧
    wp_X3_readsSize E G28 o (fun x30 G31 =>
    w_ist E G31 x29 (((nI 4) * x1) + (nI 3)) x30 (fun G32 =>
    wp_X3_readsPart_323 E post o G32
  )))))))))))))) ∧
  (x2 = nI 99 →
    w_gr G10 o 2 11 (fun x33 =>
    w_rc G10 o 2 ∧
    wp_X3_reads E G10 o (nI 48) (nI 52) (fun x34 G35 =>
    w_ist E G35 x33 (((nI 4) * x1) + (nI 1)) x34 (fun G36 =>
    wp_X3_readsPart_323 E post o G36
  )))) ∧
  (x2 = nI 100 →
    w_gr G10 o 2 11 (fun x37 =>
    w_rc G10 o 2 ∧
    wp_X3_reads E G10 o (nI 49) (nI 57) (fun x38 G39 =>
    w_ist E G39 x37 (((nI 4) * x1) + (nI 1)) x38 (fun G40 =>
    wp_X3_readsPart_323 E post o G40
  )))) ∧
  (x2 = nI 103 →
    w_gr G10 o 2 11 (fun x41 =>
    w_rc G10 o 2 ∧
    wp_X3_reads E G10 o (nI 48) (nI 55) (fun x42 G43 =>
    w_ist E G43 x41 (((nI 4) * x1) + (nI 1)) x42 (fun G44 =>
    wp_X3_readsPart_323 E post o G44
  )))) ∧
  (x2 = nI 108 →
    w_gr G10 o 2 11 (fun x45 =>
    w_rc G10 o 2 ∧
    wp_X3_reads E G10 o (nI 48) (nI 57) (fun x46 G47 =>
    w_ist E G47 x45 (((nI 4) * x1) + (nI 1)) x46 (fun G48 =>
    wp_X3_readsPart_323 E post o G48
  )))) ∧
  (x2 = nI 113 →
    w_gr G10 o 2 11 (fun x49 =>
    w_rc G10 o 2 ∧
    wp_X3_reads E G10 o (nI 48) (nI 51) (fun x50 G51 =>
    w_ist E G51 x49 (((nI 4) * x1) + (nI 1)) x50 (fun G52 =>
    w_gr G52 o 2 11 (fun x53 =>
    w_rc G52 o 2 ∧
    wp_X3_reads E G52 o (nI 48) (nI 55) (fun x54 G55 =>
    w_ist E G55 x53 (((nI 4) * x1) + (nI 2)) x54 (fun G56 =>
    wp_X3_readsPart_323 E post o G56
  ))))))) ∧
  (x2 = nI 114 →
    w_gr G10 o 2 11 (fun x57 =>
    w_rc G10 o 2 ∧
    wp_X3_reads E G10 o (nI 48) (nI 52) (fun x58 G59 =>
    w_ist E G59 x57 (((nI 4) * x1) + (nI 1)) x58 (fun G60 =>
    wp_X3_readsPart_323 E post o G60
  )))) ∧
  (¬ x2 = nI 98 → ¬ x2 = nI 99 → ¬ x2 = nI 100 → ¬ x2 = nI 103 → ¬ x2 = nI 108 → ¬ x2 = nI 113 → ¬ x2 = nI 114 → 
    w_gi G10 o 2 9 (fun x61 =>
    w_put G10 o 2 9 (.int (x61 - (nI 1))) (fun G62 =>
    w_put G62 o 2 10 (.int (nI 0)) (fun G63 =>
    wp_X3_readsPart_323 E post o G63
  )))))))))))))
def wp_X3_readsCourse_14 (E : g_E) (post : Int32 → g_G → Prop) : Nat → Nat → g_G → Prop
  | 0 => fun _ _ => False
  | n + 1 => fun y0 G =>
    w_gi G y0 2 10 (fun x3 =>
    (x3 = 0 →
      w_gi G y0 2 10 (fun x4 =>
      narrow .boolean (.int x4) = .int x4 ∧ post x4 G
    )) ∧ (¬ x3 = 0 →
      w_gi G y0 2 9 (fun x5 =>
      w_gi G y0 2 8 (fun x6 =>
      (x6 ≤ x5 →
        w_gi G y0 2 10 (fun x7 =>
        narrow .boolean (.int x7) = .int x7 ∧ post x7 G
      )) ∧ (¬ x6 ≤ x5 →
        w_rc G y0 2 ∧
        wp_X3_reads E G y0 (nI 59) (nI 59) (fun x8 G9 =>
        w_gi G9 y0 2 10 (fun x10 =>
        (x10 = 0 →
          wp_X3_readsCourse_14 E post n y0 G9
        ) ∧ (¬ x10 = 0 →
          w_rc G9 y0 2 ∧
          wp_X3_readsPart E G9 y0 (fun G12 =>
          wp_X3_readsCourse_14 E post n y0 G12
        ))
      )))
    ))))
def wp_X3_readsCourse (E : g_E) (G : g_G) (o : Nat) (post : Int32 → g_G → Prop) : Prop :=
  w_put G o 2 9 (.int (nI 0)) (fun G1 =>
  w_put G1 o 2 12 (.int (nI 0)) (fun G2 =>
  w_rc G2 o 2 ∧
  wp_X3_readsPart E G2 o (fun G14 =>
  ∃ nf : Nat, wp_X3_readsCourse_14 E post nf o G14)))
def wp_X3_firstError (E : g_E) (G : g_G) (o : Nat) (post : Int32 → g_G → Prop) : Prop :=
  w_put G o 2 0 (.int (nI 0)) (fun G1 =>
  w_rc G1 o 2 ∧
  wp_X3_readsCourse E G1 o (fun x2 G3 =>
  (x2 = 0 →
    w_gi G3 o 2 9 (fun x4 =>
    post x4 G3
  )) ∧ (¬ x2 = 0 →
    w_gi G3 o 2 8 (fun x5 =>
    post x5 G3
  ))))
def wp_X3_does_175 (E : g_E) (post : Int32 → g_G → Prop) (y0 : Nat) (y2 : Int32) (s0 : Int32) (G : g_G) : Prop :=
    (s0 = 0 →
      narrow .boolean (.int s0) = .int s0 ∧ post s0 G
    ) ∧ (¬ s0 = 0 →
      w_rc G y0 2 ∧
      wp_X3_crashes E G y0 y2 (fun x15 G16 =>
      narrow .boolean (.int s0) = .int s0 ∧ post s0 G16
    ))
def wp_X3_does_243 (E : g_E) (post : Int32 → g_G → Prop) (y0 : Nat) (y2 : Int32) (s0 : Int32) (G : g_G) : Prop :=
    (s0 = 0 →
      narrow .boolean (.int s0) = .int s0 ∧ post s0 G
    ) ∧ (¬ s0 = 0 →
      w_rc G y0 2 ∧
      wp_X3_decides E G y0 y2 (nI 2) (fun G20 =>
      narrow .boolean (.int s0) = .int s0 ∧ post s0 G20
    ))
def wp_X3_does_242 (E : g_E) (post : Int32 → g_G → Prop) (B243 : Nat → Int32 → Int32 → g_G → Prop) (y0 : Nat) (y2 : Int32) (G : g_G) : Prop :=
    B243 y0 y2 (nI 0) G
def wp_X3_does_281 (E : g_E) (post : Int32 → g_G → Prop) (y0 : Nat) (y2 : Int32) (y3 : Int32) (s0 : Int32) (G : g_G) : Prop :=
    (s0 = 0 →
      narrow .boolean (.int s0) = .int s0 ∧ post s0 G
    ) ∧ (¬ s0 = 0 →
      w_rc G y0 2 ∧
      wp_X3_sends E G y0 (nI 6) y3 y2 (fun G30 =>
      narrow .boolean (.int s0) = .int s0 ∧ post s0 G30
    ))
def wp_X3_does_280 (E : g_E) (post : Int32 → g_G → Prop) (B281 : Nat → Int32 → Int32 → Int32 → g_G → Prop) (y0 : Nat) (y2 : Int32) (y3 : Int32) (G : g_G) : Prop :=
    B281 y0 y2 y3 (nI 0) G
def wp_X3_does_207 (E : g_E) (post : Int32 → g_G → Prop) (y0 : Nat) (y2 : Int32) (s0 : Int32) (G : g_G) : Prop :=
    (s0 = 0 →
      narrow .boolean (.int s0) = .int s0 ∧ post s0 G
    ) ∧ (¬ s0 = 0 →
      w_rc G y0 2 ∧
      wp_X3_recovers E G y0 y2 (fun G36 =>
      narrow .boolean (.int s0) = .int s0 ∧ post s0 G36
    ))
def wp_X3_does (E : g_E) (G : g_G) (o : Nat) (p1 : Int32) (post : Int32 → g_G → Prop) : Prop :=
  w_gr G o 2 11 (fun x1 =>
  w_ild E G x1 (p1 + (nI 1)) (fun x2 =>
  w_gr G o 2 11 (fun x3 =>
  w_ild E G x3 (p1 + (nI 2)) (fun x4 =>
  w_gr G o 2 11 (fun x5 =>
  w_ild E G x5 p1 (fun x6 =>
  (x6 = nI 98 →
    w_rc G o 2 ∧
    wp_X3_canBegin E G o (fun x7 =>
    (x7 = 0 →
      narrow .boolean (.int x7) = .int x7 ∧ post x7 G
    ) ∧ (¬ x7 = 0 →
      w_gr G o 2 11 (fun x9 =>
      w_ild E G x9 (p1 + (nI 3)) (fun x10 =>
      w_rc G o 2 ∧
      wp_X3_begins E G o x2 x4 x10 (fun x11 G12 =>
      narrow .boolean (.int x7) = .int x7 ∧ post x7 G12
    ))))
  )) ∧
  (x6 = nI 99 →
    w_gr G o 2 1 (fun x13 =>
    w_ild E G x13 ((nI 0) + x2) (fun x14 =>
    (¬ x14 = (nI 1) →
      wp_X3_does_175 E post o x2 (nI 0) G
    ) ∧ (x14 = (nI 1) →
      wp_X3_does_175 E post o x2 (nI 1) G
    )
  ))) ∧
  (x6 = nI 103 →
    w_rc G o 2 ∧
    wp_X3_isTransfer E G o x2 (fun x17 =>
    (x17 = 0 →
      wp_X3_does_242 E post (wp_X3_does_243 E post) o x2 G
    ) ∧ (¬ x17 = 0 →
      w_rc G o 2 ∧
      wp_X3_canGiveUp E G o x2 (fun x21 =>
      (x21 = 0 →
        wp_X3_does_242 E post (wp_X3_does_243 E post) o x2 G
      ) ∧ (¬ x21 = 0 →
        wp_X3_does_243 E post o x2 (nI 1) G
      )
    ))
  )) ∧
  (x6 = nI 108 →
    w_rc G o 2 ∧
    wp_X3_isMessage E G o x2 (fun x23 =>
    (x23 = 0 →
      narrow .boolean (.int x23) = .int x23 ∧ post x23 G
    ) ∧ (¬ x23 = 0 →
      w_rc G o 2 ∧
      wp_X3_loses E G o x2 (fun x25 G26 =>
      narrow .boolean (.int x23) = .int x23 ∧ post x23 G26
    ))
  )) ∧
  (x6 = nI 113 →
    w_rc G o 2 ∧
    wp_X3_isTransfer E G o x4 (fun x27 =>
    (x27 = 0 →
      wp_X3_does_280 E post (wp_X3_does_281 E post) o x2 x4 G
    ) ∧ (¬ x27 = 0 →
      w_rc G o 2 ∧
      wp_X3_canAsk E G o x2 x4 (fun x31 =>
      (x31 = 0 →
        wp_X3_does_280 E post (wp_X3_does_281 E post) o x2 x4 G
      ) ∧ (¬ x31 = 0 →
        wp_X3_does_281 E post o x2 x4 (nI 1) G
      )
    ))
  )) ∧
  (x6 = nI 114 →
    w_gr G o 2 1 (fun x33 =>
    w_ild E G x33 ((nI 0) + x2) (fun x34 =>
    (¬ x34 = 0 →
      wp_X3_does_207 E post o x2 (nI 0) G
    ) ∧ (x34 = 0 →
      wp_X3_does_207 E post o x2 (nI 1) G
    )
  ))) ∧
  (¬ x6 = nI 98 → ¬ x6 = nI 99 → ¬ x6 = nI 103 → ¬ x6 = nI 108 → ¬ x6 = nI 113 → ¬ x6 = nI 114 → 
    w_rc G o 2 ∧
    wp_X3_deliversFirst E G o x2 (fun x37 G38 =>
    post (nI 1) G38
  ))))))))
def wp_X3_runCourse_29 (E : g_E) (post : Int32 → g_G → Prop) : Nat → Nat → Int32 → g_G → Prop
  | 0 => fun _ _ _ => False
  | n + 1 => fun y0 y1 G =>
    w_gi G y0 2 12 (fun x7 =>
    (x7 ≤ y1 →
      post y1 G
    ) ∧ (¬ x7 ≤ y1 →
      w_rc G y0 2 ∧
      wp_X3_does E G y0 ((nI 4) * y1) (fun x8 G9 =>
      (x8 = 0 →
        post y1 G9
      ) ∧ (¬ x8 = 0 →
        wp_X3_runCourse_29 E post n y0 (y1 + (nI 1)) G9
      )
    )))
def wp_X3_runCourse (E : g_E) (G : g_G) (o : Nat) (post : Int32 → g_G → Prop) : Prop :=
  w_put G o 2 0 (.int (nI 0)) (fun G1 =>
  w_rc G1 o 2 ∧
  wp_X3_readsCourse E G1 o (fun x2 G3 =>
  (¬ x2 = 0 →
    w_rc G3 o 2 ∧
    wp_X3_recordsState E G3 o (fun G5 =>
    w_put G5 o 2 8 (.int (nI 0)) (fun G6 =>
    ∃ nf : Nat, wp_X3_runCourse_29 E post nf o (nI 0) G6
  ))) ∧ (x2 = 0 →
    w_rc G3 o 2 ∧
    wp_X3_fails E G3 o (nI 1) (fun x10 G11 =>
    post x10 G11
  ))))
def wp_X3_keep_7 (E : g_E) (post : Int32 → g_G → Prop) : Nat → Nat → Int32 → g_G → Prop
  | 0 => fun _ _ _ => False
  | n + 1 => fun y0 y1 G =>
    ((nI 256) ≤ y1 →
      w_put G y0 2 6 (.int (nI 1)) (fun G2 =>
      w_gr G2 y0 2 1 (fun x3 =>
      w_ild E G2 x3 (nI 13) (fun x4 =>
      post x4 G2
    )))) ∧ (¬ (nI 256) ≤ y1 →
      w_gr G y0 2 5 (fun x5 =>
      w_gr G y0 2 1 (fun x6 =>
      w_ild E G x6 y1 (fun x7 =>
      w_ist E G x5 y1 x7 (fun G8 =>
      wp_X3_keep_7 E post n y0 (y1 + (nI 1)) G8
    )))))
def wp_X3_keep (E : g_E) (G : g_G) (o : Nat) (post : Int32 → g_G → Prop) : Prop :=
  w_put G o 2 0 (.int (nI 0)) (fun G1 =>
  ∃ nf : Nat, wp_X3_keep_7 E post nf o (nI 0) G1)
def wp_X3_goBack_24 (E : g_E) (post : Int32 → g_G → Prop) : Nat → Nat → Int32 → g_G → Prop
  | 0 => fun _ _ _ => False
  | n + 1 => fun y0 y1 G =>
    ((nI 256) ≤ y1 →
      w_gr G y0 2 1 (fun x5 =>
      w_ild E G x5 (nI 13) (fun x6 =>
      post x6 G
    ))) ∧ (¬ (nI 256) ≤ y1 →
      w_gr G y0 2 1 (fun x7 =>
      w_gr G y0 2 5 (fun x8 =>
      w_ild E G x8 y1 (fun x9 =>
      w_ist E G x7 y1 x9 (fun G10 =>
      wp_X3_goBack_24 E post n y0 (y1 + (nI 1)) G10
    )))))
def wp_X3_goBack (E : g_E) (G : g_G) (o : Nat) (post : Int32 → g_G → Prop) : Prop :=
  w_put G o 2 0 (.int (nI 0)) (fun G1 =>
  w_gi G1 o 2 6 (fun x2 =>
  (¬ x2 = 0 →
    w_rc G1 o 2 ∧
    wp_X3_recordsState E G1 o (fun G4 =>
    ∃ nf : Nat, wp_X3_goBack_24 E post nf o (nI 0) G4
  )) ∧ (x2 = 0 →
    w_rc G1 o 2 ∧
    wp_X3_fails E G1 o (nI 1) (fun x11 G12 =>
    post x11 G12
  ))))
def wp_X3_undo_30 (E : g_E) (post : Int32 → g_G → Prop) : Nat → Nat → Int32 → g_G → Prop
  | 0 => fun _ _ _ => False
  | n + 1 => fun y0 y1 G =>
    ((nI 256) ≤ y1 →
      w_gi G y0 2 4 (fun x5 =>
      post x5 G
    )) ∧ (¬ (nI 256) ≤ y1 →
      w_gr G y0 2 1 (fun x6 =>
      w_gr G y0 2 3 (fun x7 =>
      w_gi G y0 2 4 (fun x8 =>
      w_ild E G x7 (((nI 256) * x8) + y1) (fun x9 =>
      w_ist E G x6 y1 x9 (fun G10 =>
      wp_X3_undo_30 E post n y0 (y1 + (nI 1)) G10
    ))))))
def wp_X3_undo (E : g_E) (G : g_G) (o : Nat) (post : Int32 → g_G → Prop) : Prop :=
  w_put G o 2 0 (.int (nI 0)) (fun G1 =>
  w_gi G1 o 2 4 (fun x2 =>
  (¬ x2 = 0 →
    w_gi G1 o 2 4 (fun x3 =>
    w_put G1 o 2 4 (.int (x3 - (nI 1))) (fun G4 =>
    ∃ nf : Nat, wp_X3_undo_30 E post nf o (nI 0) G4
  ))) ∧ (x2 = 0 →
    w_rc G1 o 2 ∧
    wp_X3_fails E G1 o (nI 1) (fun x11 G12 =>
    post x11 G12
  ))))
def wp_X3_transfers (E : g_E) (G : g_G) (o : Nat) (post : Int32 → g_G → Prop) : Prop :=
  w_put G o 2 0 (.int (nI 0)) (fun G1 =>
  w_gr G1 o 2 1 (fun x2 =>
  w_ild E G1 x2 (nI 9) (fun x3 =>
  post x3 G1)))
def wp_X3_partners (E : g_E) (G : g_G) (o : Nat) (p1 : Int32) (post : Int32 → g_G → Prop) : Prop :=
  w_put G o 2 0 (.int (nI 0)) (fun G1 =>
  w_rc G1 o 2 ∧
  wp_X3_isTransfer E G1 o p1 (fun x2 =>
  (x2 = 0 →
    w_rc G1 o 2 ∧
    wp_X3_fails E G1 o (nI 1) (fun x4 G5 =>
    post x4 G5
  )) ∧ (¬ x2 = 0 →
    w_rc G1 o 2 ∧
    wp_X3_all E G1 o p1 (fun x6 =>
    post x6 G1
  ))))
def wp_X3_share_29 (E : g_E) (post : Int32 → g_G → Prop) (y0 : Nat) (G : g_G) : Prop :=
    w_rc G y0 2 ∧
    wp_X3_fails E G y0 (nI 1) (fun x4 G5 =>
    post x4 G5)
def wp_X3_share (E : g_E) (G : g_G) (o : Nat) (p1 : Int32) (p2 : Int32) (post : Int32 → g_G → Prop) : Prop :=
  w_put G o 2 0 (.int (nI 0)) (fun G1 =>
  w_rc G1 o 2 ∧
  wp_X3_isTransfer E G1 o p1 (fun x2 =>
  (x2 = 0 →
    wp_X3_share_29 E post o G1
  ) ∧ (¬ x2 = 0 →
    wp_X3_isStore E G1 p2 (fun x6 =>
    (x6 = 0 →
      wp_X3_share_29 E post o G1
    ) ∧ (¬ x6 = 0 →
      w_rc G1 o 2 ∧
      wp_X3_shareIn E G1 o p1 p2 (fun x8 =>
      post x8 G1
    ))
  ))))
def wp_X3_isUp (E : g_E) (G : g_G) (o : Nat) (p1 : Int32) (post : Int32 → g_G → Prop) : Prop :=
  w_put G o 2 0 (.int (nI 0)) (fun G1 =>
  wp_X3_isSite E G1 p1 (fun x2 =>
  (x2 = 0 →
    w_rc G1 o 2 ∧
    wp_X3_fails E G1 o (nI 1) (fun x4 G5 =>
    (x4 ≤ 0 →
      post (nI 0) G5
    ) ∧ (¬ x4 ≤ 0 →
      post (nI 1) G5
    )
  )) ∧ (¬ x2 = 0 →
    w_gr G1 o 2 1 (fun x6 =>
    w_ild E G1 x6 ((nI 0) + p1) (fun x7 =>
    (¬ x7 = (nI 1) →
      post (nI 0) G1
    ) ∧ (x7 = (nI 1) →
      post (nI 1) G1
    )
  )))))
def wp_X3_amount (E : g_E) (G : g_G) (o : Nat) (p1 : Int32) (post : Int32 → g_G → Prop) : Prop :=
  w_put G o 2 0 (.int (nI 0)) (fun G1 =>
  wp_X3_isStore E G1 p1 (fun x2 =>
  (x2 = 0 →
    w_rc G1 o 2 ∧
    wp_X3_fails E G1 o (nI 1) (fun x4 G5 =>
    post x4 G5
  )) ∧ (¬ x2 = 0 →
    w_gr G1 o 2 1 (fun x6 =>
    w_ild E G1 x6 ((nI 5) + p1) (fun x7 =>
    post x7 G1
  )))))
def wp_X3_amountLogged_58 (E : g_E) (G : g_G) (post : Int32 → Prop) (B5 : Nat → Int32 → Int32 → Int32 → Prop) (y0 : Nat) (y1 : Int32) (y3 : Int32) (s0 : Int32) (s1 : Int32) : Prop :=
    B5 y0 y1 (s1 + s0) (y3 + (nI 1))
def wp_X3_amountLogged_5 (E : g_E) (G : g_G) (post : Int32 → Prop) : Nat → Nat → Int32 → Int32 → Int32 → Prop
  | 0 => fun _ _ _ _ => False
  | n + 1 => fun y0 y1 y2 y3 =>
    w_gr G y0 2 1 (fun x1 =>
    w_ild E G x1 ((nI 102) + y1) (fun x2 =>
    (x2 ≤ y3 →
      post y2
    ) ∧ (¬ x2 ≤ y3 →
      w_gr G y0 2 1 (fun x3 =>
      w_ild E G x3 (((nI 107) + ((nI 16) * y1)) + y3) (fun x4 =>
      (¬ (x4 / (nI 8)) = (nI 1) →
        wp_X3_amountLogged_58 E G post (wp_X3_amountLogged_5 E G post n) y0 y1 y3 (nI 0) y2
      ) ∧ ((x4 / (nI 8)) = (nI 1) →
        w_rc G y0 2 ∧
        wp_X3_shareIn E G y0 (x4 - x4 / (nI 8) * (nI 8)) y1 (fun x5 =>
        wp_X3_amountLogged_58 E G post (wp_X3_amountLogged_5 E G post n) y0 y1 y3 x5 y2
      ))
    )))))
def wp_X3_amountLogged (E : g_E) (G : g_G) (o : Nat) (p1 : Int32) (post : Int32 → Prop) : Prop :=
  ∃ nf : Nat, wp_X3_amountLogged_5 E G post nf o p1 (nI 100) (nI 0)
def wp_X3_amountByLog (E : g_E) (G : g_G) (o : Nat) (p1 : Int32) (post : Int32 → g_G → Prop) : Prop :=
  w_put G o 2 0 (.int (nI 0)) (fun G1 =>
  wp_X3_isStore E G1 p1 (fun x2 =>
  (x2 = 0 →
    w_rc G1 o 2 ∧
    wp_X3_fails E G1 o (nI 1) (fun x4 G5 =>
    post x4 G5
  )) ∧ (¬ x2 = 0 →
    w_rc G1 o 2 ∧
    wp_X3_amountLogged E G1 o p1 (fun x6 =>
    post x6 G1
  ))))
def wp_X3_state_29 (E : g_E) (post : Int32 → g_G → Prop) (y0 : Nat) (G : g_G) : Prop :=
    w_rc G y0 2 ∧
    wp_X3_fails E G y0 (nI 1) (fun x4 G5 =>
    post x4 G5)
def wp_X3_state (E : g_E) (G : g_G) (o : Nat) (p1 : Int32) (p2 : Int32) (post : Int32 → g_G → Prop) : Prop :=
  w_put G o 2 0 (.int (nI 0)) (fun G1 =>
  wp_X3_isStore E G1 p1 (fun x2 =>
  (x2 = 0 →
    wp_X3_state_29 E post o G1
  ) ∧ (¬ x2 = 0 →
    w_rc G1 o 2 ∧
    wp_X3_isTransfer E G1 o p2 (fun x6 =>
    (x6 = 0 →
      wp_X3_state_29 E post o G1
    ) ∧ (¬ x6 = 0 →
      w_rc G1 o 2 ∧
      wp_X3_stateIn E G1 o p1 p2 (fun x8 =>
      post x8 G1
    ))
  ))))
def wp_X3_stateLogged_69 (E : g_E) (G : g_G) (post : Int32 → Prop) (B5 : Nat → Int32 → Int32 → Int32 → Int32 → Prop) (y0 : Nat) (y1 : Int32) (y2 : Int32) (y4 : Int32) (s0 : Int32) : Prop :=
    B5 y0 y1 y2 s0 (y4 + (nI 1))
def wp_X3_stateLogged_5 (E : g_E) (G : g_G) (post : Int32 → Prop) : Nat → Nat → Int32 → Int32 → Int32 → Int32 → Prop
  | 0 => fun _ _ _ _ _ => False
  | n + 1 => fun y0 y1 y2 y3 y4 =>
    w_gr G y0 2 1 (fun x1 =>
    w_ild E G x1 ((nI 102) + y1) (fun x2 =>
    (x2 ≤ y4 →
      post y3
    ) ∧ (¬ x2 ≤ y4 →
      w_gr G y0 2 1 (fun x3 =>
      w_ild E G x3 (((nI 107) + ((nI 16) * y1)) + y4) (fun x4 =>
      ((x4 - x4 / (nI 8) * (nI 8)) = y2 →
        (¬ (x4 / (nI 8)) = (nI 4) →
          wp_X3_stateLogged_69 E G post (wp_X3_stateLogged_5 E G post n) y0 y1 y2 y4 ((x4 / (nI 8)) + (nI 1))
        ) ∧ ((x4 / (nI 8)) = (nI 4) →
          wp_X3_stateLogged_69 E G post (wp_X3_stateLogged_5 E G post n) y0 y1 y2 y4 (nI 1)
        )
      ) ∧ (¬ (x4 - x4 / (nI 8) * (nI 8)) = y2 →
        wp_X3_stateLogged_69 E G post (wp_X3_stateLogged_5 E G post n) y0 y1 y2 y4 y3
      )
    )))))
def wp_X3_stateLogged (E : g_E) (G : g_G) (o : Nat) (p1 : Int32) (p2 : Int32) (post : Int32 → Prop) : Prop :=
  ∃ nf : Nat, wp_X3_stateLogged_5 E G post nf o p1 p2 (nI 0) (nI 0)
def wp_X3_stateByLog_29 (E : g_E) (post : Int32 → g_G → Prop) (y0 : Nat) (G : g_G) : Prop :=
    w_rc G y0 2 ∧
    wp_X3_fails E G y0 (nI 1) (fun x4 G5 =>
    post x4 G5)
def wp_X3_stateByLog (E : g_E) (G : g_G) (o : Nat) (p1 : Int32) (p2 : Int32) (post : Int32 → g_G → Prop) : Prop :=
  w_put G o 2 0 (.int (nI 0)) (fun G1 =>
  wp_X3_isStore E G1 p1 (fun x2 =>
  (x2 = 0 →
    wp_X3_stateByLog_29 E post o G1
  ) ∧ (¬ x2 = 0 →
    w_rc G1 o 2 ∧
    wp_X3_isTransfer E G1 o p2 (fun x6 =>
    (x6 = 0 →
      wp_X3_stateByLog_29 E post o G1
    ) ∧ (¬ x6 = 0 →
      w_rc G1 o 2 ∧
      wp_X3_stateLogged E G1 o p1 p2 (fun x8 =>
      post x8 G1
    ))
  ))))
def wp_X3_doubts_31 (E : g_E) (G : g_G) (post : Int32 → Prop) (B4 : Nat → Int32 → Int32 → Int32 → Prop) (y0 : Nat) (y1 : Int32) (y3 : Int32) (s0 : Int32) (s1 : Int32) : Prop :=
    B4 y0 y1 (s1 + s0) (y3 + (nI 1))
def wp_X3_doubts_4 (E : g_E) (G : g_G) (post : Int32 → Prop) : Nat → Nat → Int32 → Int32 → Int32 → Prop
  | 0 => fun _ _ _ _ => False
  | n + 1 => fun y0 y1 y2 y3 =>
    w_gr G y0 2 1 (fun x1 =>
    w_ild E G x1 (nI 9) (fun x2 =>
    (x2 ≤ y3 →
      post y2
    ) ∧ (¬ x2 ≤ y3 →
      w_rc G y0 2 ∧
      wp_X3_stateIn E G y0 y1 y3 (fun x3 =>
      (¬ x3 = (nI 1) →
        wp_X3_doubts_31 E G post (wp_X3_doubts_4 E G post n) y0 y1 y3 (nI 0) y2
      ) ∧ (x3 = (nI 1) →
        wp_X3_doubts_31 E G post (wp_X3_doubts_4 E G post n) y0 y1 y3 (nI 1) y2
      )
    ))))
def wp_X3_doubts (E : g_E) (G : g_G) (o : Nat) (p1 : Int32) (post : Int32 → Prop) : Prop :=
  ∃ nf : Nat, wp_X3_doubts_4 E G post nf o p1 (nI 0) (nI 0)
def wp_X3_inDoubt (E : g_E) (G : g_G) (o : Nat) (p1 : Int32) (post : Int32 → g_G → Prop) : Prop :=
  w_put G o 2 0 (.int (nI 0)) (fun G1 =>
  wp_X3_isStore E G1 p1 (fun x2 =>
  (x2 = 0 →
    w_rc G1 o 2 ∧
    wp_X3_fails E G1 o (nI 1) (fun x4 G5 =>
    post x4 G5
  )) ∧ (¬ x2 = 0 →
    w_rc G1 o 2 ∧
    wp_X3_doubts E G1 o p1 (fun x6 =>
    post x6 G1
  ))))
def wp_X3_outcome (E : g_E) (G : g_G) (o : Nat) (p1 : Int32) (post : Int32 → g_G → Prop) : Prop :=
  w_put G o 2 0 (.int (nI 0)) (fun G1 =>
  w_rc G1 o 2 ∧
  wp_X3_isTransfer E G1 o p1 (fun x2 =>
  (x2 = 0 →
    w_rc G1 o 2 ∧
    wp_X3_fails E G1 o (nI 1) (fun x4 G5 =>
    post x4 G5
  )) ∧ (¬ x2 = 0 →
    w_rc G1 o 2 ∧
    wp_X3_of E G1 o p1 (nI 5) (fun x6 =>
    post x6 G1
  ))))
def wp_X3_outcomeOf_39 (E : g_E) (G : g_G) (post : Int32 → Prop) (B4 : Nat → Int32 → Int32 → Int32 → Prop) (y0 : Nat) (y1 : Int32) (y3 : Int32) (s0 : Int32) (s1 : Int32) : Prop :=
    B4 y0 y1 (s1 ||| s0) (y3 + (nI 1))
def wp_X3_outcomeOf_4 (E : g_E) (G : g_G) (post : Int32 → Prop) : Nat → Nat → Int32 → Int32 → Int32 → Prop
  | 0 => fun _ _ _ _ => False
  | n + 1 => fun y0 y1 y2 y3 =>
    ((nI 4) ≤ y3 →
      post y2
    ) ∧ (¬ (nI 4) ≤ y3 →
      w_rc G y0 2 ∧
      wp_X3_stateIn E G y0 y3 y1 (fun x1 =>
      (¬ x1 = (nI 2) →
        w_rc G y0 2 ∧
        wp_X3_stateIn E G y0 y3 y1 (fun x3 =>
        (¬ x3 = (nI 3) →
          wp_X3_outcomeOf_39 E G post (wp_X3_outcomeOf_4 E G post n) y0 y1 y3 (nI 0) y2
        ) ∧ (x3 = (nI 3) →
          wp_X3_outcomeOf_39 E G post (wp_X3_outcomeOf_4 E G post n) y0 y1 y3 (nI 2) y2
        )
      )) ∧ (x1 = (nI 2) →
        wp_X3_outcomeOf_39 E G post (wp_X3_outcomeOf_4 E G post n) y0 y1 y3 (nI 1) y2
      )
    ))
def wp_X3_outcomeOf (E : g_E) (G : g_G) (o : Nat) (p1 : Int32) (post : Int32 → Prop) : Prop :=
  ∃ nf : Nat, wp_X3_outcomeOf_4 E G post nf o p1 (nI 0) (nI 0)
def wp_X3_outcomeByStores (E : g_E) (G : g_G) (o : Nat) (p1 : Int32) (post : Int32 → g_G → Prop) : Prop :=
  w_put G o 2 0 (.int (nI 0)) (fun G1 =>
  w_rc G1 o 2 ∧
  wp_X3_isTransfer E G1 o p1 (fun x2 =>
  (x2 = 0 →
    w_rc G1 o 2 ∧
    wp_X3_fails E G1 o (nI 1) (fun x4 G5 =>
    post x4 G5
  )) ∧ (¬ x2 = 0 →
    w_rc G1 o 2 ∧
    wp_X3_outcomeOf E G1 o p1 (fun x6 =>
    post x6 G1
  ))))
def wp_X3_hasEnded (E : g_E) (G : g_G) (o : Nat) (p1 : Int32) (post : Int32 → g_G → Prop) : Prop :=
  w_put G o 2 0 (.int (nI 0)) (fun G1 =>
  w_rc G1 o 2 ∧
  wp_X3_isTransfer E G1 o p1 (fun x2 =>
  (x2 = 0 →
    w_rc G1 o 2 ∧
    wp_X3_fails E G1 o (nI 1) (fun x4 G5 =>
    (x4 ≤ 0 →
      post (nI 0) G5
    ) ∧ (¬ x4 ≤ 0 →
      post (nI 1) G5
    )
  )) ∧ (¬ x2 = 0 →
    w_rc G1 o 2 ∧
    wp_X3_of E G1 o p1 (nI 6) (fun x6 =>
    (¬ x6 = (nI 1) →
      post (nI 0) G1
    ) ∧ (x6 = (nI 1) →
      post (nI 1) G1
    )
  ))))
def wp_X3_saidYes (E : g_E) (G : g_G) (o : Nat) (p1 : Int32) (post : Int32 → g_G → Prop) : Prop :=
  w_put G o 2 0 (.int (nI 0)) (fun G1 =>
  w_rc G1 o 2 ∧
  wp_X3_isTransfer E G1 o p1 (fun x2 =>
  (x2 = 0 →
    w_rc G1 o 2 ∧
    wp_X3_fails E G1 o (nI 1) (fun x4 G5 =>
    post x4 G5
  )) ∧ (¬ x2 = 0 →
    w_rc G1 o 2 ∧
    wp_X3_of E G1 o p1 (nI 3) (fun x6 =>
    post x6 G1
  ))))
def wp_X3_saidDone (E : g_E) (G : g_G) (o : Nat) (p1 : Int32) (post : Int32 → g_G → Prop) : Prop :=
  w_put G o 2 0 (.int (nI 0)) (fun G1 =>
  w_rc G1 o 2 ∧
  wp_X3_isTransfer E G1 o p1 (fun x2 =>
  (x2 = 0 →
    w_rc G1 o 2 ∧
    wp_X3_fails E G1 o (nI 1) (fun x4 G5 =>
    post x4 G5
  )) ∧ (¬ x2 = 0 →
    w_rc G1 o 2 ∧
    wp_X3_of E G1 o p1 (nI 4) (fun x6 =>
    post x6 G1
  ))))
def wp_X3_totalOf (E : g_E) (G : g_G) (o : Nat) (post : Int32 → Prop) : Prop :=
  w_gr G o 2 1 (fun x1 =>
  w_ild E G x1 (nI 5) (fun x2 =>
  w_gr G o 2 1 (fun x3 =>
  w_ild E G x3 (nI 6) (fun x4 =>
  w_gr G o 2 1 (fun x5 =>
  w_ild E G x5 (nI 7) (fun x6 =>
  w_gr G o 2 1 (fun x7 =>
  w_ild E G x7 (nI 8) (fun x8 =>
  post (((x2 + x4) + x6) + x8)))))))))
def wp_X3_total (E : g_E) (G : g_G) (o : Nat) (post : Int32 → g_G → Prop) : Prop :=
  w_put G o 2 0 (.int (nI 0)) (fun G1 =>
  w_rc G1 o 2 ∧
  wp_X3_totalOf E G1 o (fun x2 =>
  post x2 G1))
def wp_X3_away_53 (E : g_E) (G : g_G) (post : Int32 → Prop) (B17 : Nat → Int32 → Int32 → Int32 → Prop) (y0 : Nat) (y2 : Int32) (y3 : Int32) (s0 : Int32) (s1 : Int32) : Prop :=
    B17 y0 (s1 + s0) y2 (y3 + (nI 1))
def wp_X3_away_52 (E : g_E) (G : g_G) (post : Int32 → Prop) (B53 : Nat → Int32 → Int32 → Int32 → Int32 → Prop) (y0 : Nat) (y2 : Int32) (y3 : Int32) (s0 : Int32) : Prop :=
    B53 y0 y2 y3 (nI 0) s0
def wp_X3_away_17 (E : g_E) (G : g_G) (post : Int32 → Prop) (B4 : Nat → Int32 → Int32 → Prop) : Nat → Nat → Int32 → Int32 → Int32 → Prop
  | 0 => fun _ _ _ _ => False
  | n + 1 => fun y0 y1 y2 y3 =>
    ((nI 4) ≤ y3 →
      B4 y0 y1 (y2 + (nI 1))
    ) ∧ (¬ (nI 4) ≤ y3 →
      w_rc G y0 2 ∧
      wp_X3_of E G y0 y2 (nI 5) (fun x3 =>
      (¬ x3 = (nI 1) →
        wp_X3_away_52 E G post (wp_X3_away_53 E G post (wp_X3_away_17 E G post B4 n)) y0 y2 y3 y1
      ) ∧ (x3 = (nI 1) →
        w_rc G y0 2 ∧
        wp_X3_stateIn E G y0 y3 y2 (fun x5 =>
        (x5 = (nI 2) →
          wp_X3_away_52 E G post (wp_X3_away_53 E G post (wp_X3_away_17 E G post B4 n)) y0 y2 y3 y1
        ) ∧ (¬ x5 = (nI 2) →
          w_rc G y0 2 ∧
          wp_X3_shareIn E G y0 y2 y3 (fun x7 =>
          wp_X3_away_53 E G post (wp_X3_away_17 E G post B4 n) y0 y2 y3 x7 y1
        ))
      ))
    ))
def wp_X3_away_4 (E : g_E) (G : g_G) (post : Int32 → Prop) : Nat → Nat → Int32 → Int32 → Prop
  | 0 => fun _ _ _ => False
  | n + 1 => fun y0 y1 y2 =>
    w_gr G y0 2 1 (fun x1 =>
    w_ild E G x1 (nI 9) (fun x2 =>
    (x2 ≤ y2 →
      post y1
    ) ∧ (¬ x2 ≤ y2 →
      ∃ nf : Nat, wp_X3_away_17 E G post (wp_X3_away_4 E G post n) nf y0 y1 y2 (nI 0)
    )))
def wp_X3_away (E : g_E) (G : g_G) (o : Nat) (post : Int32 → Prop) : Prop :=
  ∃ nf : Nat, wp_X3_away_4 E G post nf o (nI 0) (nI 0)
def wp_X3_onTheWay (E : g_E) (G : g_G) (o : Nat) (post : Int32 → g_G → Prop) : Prop :=
  w_put G o 2 0 (.int (nI 0)) (fun G1 =>
  w_rc G1 o 2 ∧
  wp_X3_away E G1 o (fun x2 =>
  post x2 G1))
def wp_X3_records (E : g_E) (G : g_G) (o : Nat) (p1 : Int32) (post : Int32 → g_G → Prop) : Prop :=
  w_put G o 2 0 (.int (nI 0)) (fun G1 =>
  wp_X3_isSite E G1 p1 (fun x2 =>
  (x2 = 0 →
    w_rc G1 o 2 ∧
    wp_X3_fails E G1 o (nI 1) (fun x4 G5 =>
    post x4 G5
  )) ∧ (¬ x2 = 0 →
    w_gr G1 o 2 1 (fun x6 =>
    w_ild E G1 x6 ((nI 102) + p1) (fun x7 =>
    post x7 G1
  )))))
def wp_X3_record (E : g_E) (G : g_G) (o : Nat) (p1 : Int32) (p2 : Int32) (post : Int32 → Prop) : Prop :=
  w_gr G o 2 1 (fun x1 =>
  w_ild E G x1 ((nI 102) + p1) (fun x2 =>
  (x2 ≤ p2 →
    post (-nI 1)
  ) ∧ (¬ x2 ≤ p2 →
    w_gr G o 2 1 (fun x3 =>
    w_ild E G x3 (((nI 107) + ((nI 16) * p1)) + p2) (fun x4 =>
    post x4
  )))))
def wp_X3_recordKind_16 (E : g_E) (post : Int32 → g_G → Prop) (y0 : Nat) (G : g_G) : Prop :=
    w_rc G y0 2 ∧
    wp_X3_fails E G y0 (nI 1) (fun x4 G5 =>
    post x4 G5)
def wp_X3_recordKind (E : g_E) (G : g_G) (o : Nat) (p1 : Int32) (p2 : Int32) (post : Int32 → g_G → Prop) : Prop :=
  w_put G o 2 0 (.int (nI 0)) (fun G1 =>
  wp_X3_isSite E G1 p1 (fun x2 =>
  (x2 = 0 →
    wp_X3_recordKind_16 E post o G1
  ) ∧ (¬ x2 = 0 →
    (0 ≤ p2 →
      w_rc G1 o 2 ∧
      wp_X3_record E G1 o p1 p2 (fun x6 =>
      (¬ x6 = (-nI 1) →
        w_rc G1 o 2 ∧
        wp_X3_record E G1 o p1 p2 (fun x8 =>
        post (x8 / (nI 8)) G1
      )) ∧ (x6 = (-nI 1) →
        post (-nI 1) G1
      )
    )) ∧ (¬ 0 ≤ p2 →
      wp_X3_recordKind_16 E post o G1
    )
  )))
def wp_X3_recordTransfer_16 (E : g_E) (post : Int32 → g_G → Prop) (y0 : Nat) (G : g_G) : Prop :=
    w_rc G y0 2 ∧
    wp_X3_fails E G y0 (nI 1) (fun x4 G5 =>
    post x4 G5)
def wp_X3_recordTransfer (E : g_E) (G : g_G) (o : Nat) (p1 : Int32) (p2 : Int32) (post : Int32 → g_G → Prop) : Prop :=
  w_put G o 2 0 (.int (nI 0)) (fun G1 =>
  wp_X3_isSite E G1 p1 (fun x2 =>
  (x2 = 0 →
    wp_X3_recordTransfer_16 E post o G1
  ) ∧ (¬ x2 = 0 →
    (0 ≤ p2 →
      w_rc G1 o 2 ∧
      wp_X3_record E G1 o p1 p2 (fun x6 =>
      (¬ x6 = (-nI 1) →
        w_rc G1 o 2 ∧
        wp_X3_record E G1 o p1 p2 (fun x8 =>
        post (x8 - x8 / (nI 8) * (nI 8)) G1
      )) ∧ (x6 = (-nI 1) →
        post (-nI 1) G1
      )
    )) ∧ (¬ 0 ≤ p2 →
      wp_X3_recordTransfer_16 E post o G1
    )
  )))
def wp_X3_waiting (E : g_E) (G : g_G) (o : Nat) (post : Int32 → g_G → Prop) : Prop :=
  w_put G o 2 0 (.int (nI 0)) (fun G1 =>
  w_gr G1 o 2 1 (fun x2 =>
  w_ild E G1 x2 (nI 13) (fun x3 =>
  post x3 G1)))
def wp_X3_kindOf (E : g_E) (G : g_G) (o : Nat) (p1 : Int32) (post : Int32 → g_G → Prop) : Prop :=
  w_put G o 2 0 (.int (nI 0)) (fun G1 =>
  (0 ≤ p1 →
    w_rc G1 o 2 ∧
    wp_X3_isMessage E G1 o p1 (fun x2 =>
    (x2 = 0 →
      post (-nI 1) G1
    ) ∧ (¬ x2 = 0 →
      w_gr G1 o 2 1 (fun x4 =>
      w_ild E G1 x4 ((nI 195) + p1) (fun x5 =>
      post (x5 / (nI 32)) G1
    )))
  )) ∧ (¬ 0 ≤ p1 →
    w_rc G1 o 2 ∧
    wp_X3_fails E G1 o (nI 1) (fun x6 G7 =>
    post x6 G7
  )))
def wp_X3_transferOf (E : g_E) (G : g_G) (o : Nat) (p1 : Int32) (post : Int32 → g_G → Prop) : Prop :=
  w_put G o 2 0 (.int (nI 0)) (fun G1 =>
  (0 ≤ p1 →
    w_rc G1 o 2 ∧
    wp_X3_isMessage E G1 o p1 (fun x2 =>
    (x2 = 0 →
      post (-nI 1) G1
    ) ∧ (¬ x2 = 0 →
      w_gr G1 o 2 1 (fun x4 =>
      w_ild E G1 x4 ((nI 195) + p1) (fun x5 =>
      post ((x5 / (nI 4)) - (x5 / (nI 4)) / (nI 8) * (nI 8)) G1
    )))
  )) ∧ (¬ 0 ≤ p1 →
    w_rc G1 o 2 ∧
    wp_X3_fails E G1 o (nI 1) (fun x6 G7 =>
    post x6 G7
  )))
def wp_X3_storeOf (E : g_E) (G : g_G) (o : Nat) (p1 : Int32) (post : Int32 → g_G → Prop) : Prop :=
  w_put G o 2 0 (.int (nI 0)) (fun G1 =>
  (0 ≤ p1 →
    w_rc G1 o 2 ∧
    wp_X3_isMessage E G1 o p1 (fun x2 =>
    (x2 = 0 →
      post (-nI 1) G1
    ) ∧ (¬ x2 = 0 →
      w_gr G1 o 2 1 (fun x4 =>
      w_ild E G1 x4 ((nI 195) + p1) (fun x5 =>
      post (x5 - x5 / (nI 4) * (nI 4)) G1
    )))
  )) ∧ (¬ 0 ≤ p1 →
    w_rc G1 o 2 ∧
    wp_X3_fails E G1 o (nI 1) (fun x6 G7 =>
    post x6 G7
  )))
def wp_X3_sent (E : g_E) (G : g_G) (o : Nat) (post : Int32 → g_G → Prop) : Prop :=
  w_put G o 2 0 (.int (nI 0)) (fun G1 =>
  w_gr G1 o 2 1 (fun x2 =>
  w_ild E G1 x2 (nI 10) (fun x3 =>
  post x3 G1)))
def wp_X3_sentOf (E : g_E) (G : g_G) (o : Nat) (post : Int32 → Prop) : Prop :=
  w_gr G o 2 1 (fun x1 =>
  w_ild E G x1 (nI 11) (fun x2 =>
  w_gr G o 2 1 (fun x3 =>
  w_ild E G x3 (nI 12) (fun x4 =>
  w_gr G o 2 1 (fun x5 =>
  w_ild E G x5 (nI 13) (fun x6 =>
  post ((x2 + x4) + x6)))))))
def wp_X3_sentByAccount (E : g_E) (G : g_G) (o : Nat) (post : Int32 → g_G → Prop) : Prop :=
  w_put G o 2 0 (.int (nI 0)) (fun G1 =>
  w_rc G1 o 2 ∧
  wp_X3_sentOf E G1 o (fun x2 =>
  post x2 G1))
def wp_X3_lost (E : g_E) (G : g_G) (o : Nat) (post : Int32 → g_G → Prop) : Prop :=
  w_put G o 2 0 (.int (nI 0)) (fun G1 =>
  w_gr G1 o 2 1 (fun x2 =>
  w_ild E G1 x2 (nI 12) (fun x3 =>
  post x3 G1)))
def wp_X3_putAside_2 (E : g_E) (post : g_G → Prop) : Nat → Nat → Int32 → g_G → Prop
  | 0 => fun _ _ _ => False
  | n + 1 => fun y0 y1 G =>
    ((nI 256) ≤ y1 →
      post G
    ) ∧ (¬ (nI 256) ≤ y1 →
      w_gr G y0 2 2 (fun x1 =>
      w_gr G y0 2 1 (fun x2 =>
      w_ild E G x2 y1 (fun x3 =>
      w_ist E G x1 y1 x3 (fun G4 =>
      wp_X3_putAside_2 E post n y0 (y1 + (nI 1)) G4
    )))))
def wp_X3_putAside (E : g_E) (G : g_G) (o : Nat) (post : g_G → Prop) : Prop :=
  ∃ nf : Nat, wp_X3_putAside_2 E post nf o (nI 0) G
def wp_X3_takeBack_2 (E : g_E) (post : g_G → Prop) : Nat → Nat → Int32 → g_G → Prop
  | 0 => fun _ _ _ => False
  | n + 1 => fun y0 y1 G =>
    ((nI 256) ≤ y1 →
      post G
    ) ∧ (¬ (nI 256) ≤ y1 →
      w_gr G y0 2 1 (fun x1 =>
      w_gr G y0 2 2 (fun x2 =>
      w_ild E G x2 y1 (fun x3 =>
      w_ist E G x1 y1 x3 (fun G4 =>
      wp_X3_takeBack_2 E post n y0 (y1 + (nI 1)) G4
    )))))
def wp_X3_takeBack (E : g_E) (G : g_G) (o : Nat) (post : g_G → Prop) : Prop :=
  ∃ nf : Nat, wp_X3_takeBack_2 E post nf o (nI 0) G
def wp_X3_sendsBy (E : g_E) (G : g_G) (o : Nat) (p1 : Int32) (post : Int32 → g_G → Prop) : Prop :=
  w_rc G o 2 ∧
  wp_X3_isUpFor E G o p1 (fun x1 =>
  (¬ x1 = 0 →
    w_rc G o 2 ∧
    wp_X3_putAside E G o (fun G4 =>
    w_gr G4 o 2 1 (fun x5 =>
    w_ild E G4 x5 (nI 10) (fun x6 =>
    w_rc G4 o 2 ∧
    wp_X3_delivers E G4 o p1 (fun x7 G8 =>
    w_gr G8 o 2 1 (fun x9 =>
    w_ild E G8 x9 (nI 10) (fun x10 =>
    w_rc G8 o 2 ∧
    wp_X3_takeBack E G8 o (fun G12 =>
    post (x10 - x6) G12
  )))))))) ∧ (x1 = 0 →
    post (-nI 1) G
  ))
def wp_X3_wouldSend (E : g_E) (G : g_G) (o : Nat) (p1 : Int32) (post : Int32 → g_G → Prop) : Prop :=
  w_put G o 2 0 (.int (nI 0)) (fun G1 =>
  w_rc G1 o 2 ∧
  wp_X3_isMessage E G1 o p1 (fun x2 =>
  (x2 = 0 →
    w_rc G1 o 2 ∧
    wp_X3_fails E G1 o (nI 1) (fun x4 G5 =>
    post x4 G5
  )) ∧ (¬ x2 = 0 →
    w_rc G1 o 2 ∧
    wp_X3_sendsBy E G1 o p1 (fun x6 G7 =>
    post x6 G7
  ))))
def wp_X3_settles_41 (E : g_E) (post : Int32 → g_G → Prop) (B20 : Nat → Int32 → g_G → Prop) (y0 : Nat) (y1 : Int32) (G : g_G) : Prop :=
    B20 y0 (y1 + (nI 1)) G
def wp_X3_settles_20 (E : g_E) (post : Int32 → g_G → Prop) : Nat → Nat → Int32 → g_G → Prop
  | 0 => fun _ _ _ => False
  | n + 1 => fun y0 y1 G =>
    ((nI 4) ≤ y1 →
      w_rc G y0 2 ∧
      wp_X3_deliversAll E G y0 (fun x5 G6 =>
      post x5 G6
    )) ∧ (¬ (nI 4) ≤ y1 →
      w_gr G y0 2 1 (fun x7 =>
      w_ild E G x7 ((nI 0) + y1) (fun x8 =>
      (¬ x8 = 0 →
        wp_X3_settles_41 E post (wp_X3_settles_20 E post n) y0 y1 G
      ) ∧ (x8 = 0 →
        w_rc G y0 2 ∧
        wp_X3_recovers E G y0 y1 (fun G10 =>
        wp_X3_settles_41 E post (wp_X3_settles_20 E post n) y0 y1 G10
      ))
    )))
def wp_X3_settles_18 (E : g_E) (post : Int32 → g_G → Prop) (y0 : Nat) (G : g_G) : Prop :=
    ∃ nf : Nat, wp_X3_settles_20 E post nf y0 (nI 0) G
def wp_X3_settles (E : g_E) (G : g_G) (o : Nat) (post : Int32 → g_G → Prop) : Prop :=
  w_rc G o 2 ∧
  wp_X3_putAside E G o (fun G2 =>
  w_gr G2 o 2 1 (fun x3 =>
  w_ild E G2 x3 (nI 4) (fun x4 =>
  (¬ x4 = 0 →
    wp_X3_settles_18 E post o G2
  ) ∧ (x4 = 0 →
    w_rc G2 o 2 ∧
    wp_X3_recovers E G2 o (nI 4) (fun G12 =>
    wp_X3_settles_18 E post o G12
  )))))
def wp_X3_settledMany (E : g_E) (G : g_G) (o : Nat) (post : Int32 → g_G → Prop) : Prop :=
  w_rc G o 2 ∧
  wp_X3_settles E G o (fun x1 G2 =>
  w_rc G2 o 2 ∧
  wp_X3_takeBack E G2 o (fun G4 =>
  post x1 G4))
def wp_X3_messagesToSettle (E : g_E) (G : g_G) (o : Nat) (post : Int32 → g_G → Prop) : Prop :=
  w_put G o 2 0 (.int (nI 0)) (fun G1 =>
  w_rc G1 o 2 ∧
  wp_X3_settledMany E G1 o (fun x2 G3 =>
  post x2 G3))
def wp_X3_settledOutcome (E : g_E) (G : g_G) (o : Nat) (p1 : Int32) (post : Int32 → g_G → Prop) : Prop :=
  w_rc G o 2 ∧
  wp_X3_settles E G o (fun x1 G2 =>
  w_rc G2 o 2 ∧
  wp_X3_of E G2 o p1 (nI 5) (fun x3 =>
  w_rc G2 o 2 ∧
  wp_X3_takeBack E G2 o (fun G6 =>
  post x3 G6)))
def wp_X3_outcomeIfSettled (E : g_E) (G : g_G) (o : Nat) (p1 : Int32) (post : Int32 → g_G → Prop) : Prop :=
  w_put G o 2 0 (.int (nI 0)) (fun G1 =>
  w_rc G1 o 2 ∧
  wp_X3_isTransfer E G1 o p1 (fun x2 =>
  (x2 = 0 →
    w_rc G1 o 2 ∧
    wp_X3_fails E G1 o (nI 1) (fun x4 G5 =>
    post x4 G5
  )) ∧ (¬ x2 = 0 →
    w_rc G1 o 2 ∧
    wp_X3_settledOutcome E G1 o p1 (fun x6 G7 =>
    post x6 G7
  ))))
def wp_X3_settledAmount (E : g_E) (G : g_G) (o : Nat) (p1 : Int32) (post : Int32 → g_G → Prop) : Prop :=
  w_rc G o 2 ∧
  wp_X3_settles E G o (fun x1 G2 =>
  w_gr G2 o 2 1 (fun x3 =>
  w_ild E G2 x3 ((nI 5) + p1) (fun x4 =>
  w_rc G2 o 2 ∧
  wp_X3_takeBack E G2 o (fun G6 =>
  post x4 G6))))
def wp_X3_amountIfSettled (E : g_E) (G : g_G) (o : Nat) (p1 : Int32) (post : Int32 → g_G → Prop) : Prop :=
  w_put G o 2 0 (.int (nI 0)) (fun G1 =>
  wp_X3_isStore E G1 p1 (fun x2 =>
  (x2 = 0 →
    w_rc G1 o 2 ∧
    wp_X3_fails E G1 o (nI 1) (fun x4 G5 =>
    post x4 G5
  )) ∧ (¬ x2 = 0 →
    w_rc G1 o 2 ∧
    wp_X3_settledAmount E G1 o p1 (fun x6 G7 =>
    post x6 G7
  ))))
def wp_X3_greatest_80 (E : g_E) (G : g_G) (post : Int32 → Prop) (B5 : Nat → Int32 → Int32 → Int32 → Int32 → Prop) (y0 : Nat) (y1 : Int32) (y2 : Int32) (y4 : Int32) (s0 : Int32) : Prop :=
    B5 y0 y1 y2 s0 (y4 + (nI 1))
def wp_X3_greatest_61 (E : g_E) (G : g_G) (post : Int32 → Prop) (B18 : Nat → Int32 → Int32 → Int32 → Int32 → Int32 → Int32 → Prop) (y0 : Nat) (y1 : Int32) (y2 : Int32) (y3 : Int32) (y4 : Int32) (y6 : Int32) (s0 : Int32) : Prop :=
    B18 y0 y1 y2 y3 y4 s0 (y6 + (nI 1))
def wp_X3_greatest_60 (E : g_E) (G : g_G) (post : Int32 → Prop) (B61 : Nat → Int32 → Int32 → Int32 → Int32 → Int32 → Int32 → Prop) (y0 : Nat) (y1 : Int32) (y2 : Int32) (y3 : Int32) (y4 : Int32) (y6 : Int32) : Prop :=
    B61 y0 y1 y2 y3 y4 y6 (nI 0)
def wp_X3_greatest_56 (E : g_E) (G : g_G) (post : Int32 → Prop) (B61 : Nat → Int32 → Int32 → Int32 → Int32 → Int32 → Int32 → Prop) (y0 : Nat) (y1 : Int32) (y2 : Int32) (y3 : Int32) (y4 : Int32) (y6 : Int32) : Prop :=
    B61 y0 y1 y2 y3 y4 y6 (nI 1)
def wp_X3_greatest_18 (E : g_E) (G : g_G) (post : Int32 → Prop) (B5 : Nat → Int32 → Int32 → Int32 → Int32 → Prop) : Nat → Nat → Int32 → Int32 → Int32 → Int32 → Int32 → Int32 → Prop
  | 0 => fun _ _ _ _ _ _ _ => False
  | n + 1 => fun y0 y1 y2 y3 y4 y5 y6 =>
    ((nI 4) ≤ y6 →
      (y5 = 0 →
        wp_X3_greatest_80 E G post B5 y0 y1 y2 y4 y3
      ) ∧ (¬ y5 = 0 →
        wp_X3_greatest_80 E G post B5 y0 y1 y2 y4 y4
      )
    ) ∧ (¬ (nI 4) ≤ y6 →
      wp_X3_shareOf E G y1 y2 y4 y6 (fun x1 =>
      (y5 = 0 →
        wp_X3_greatest_60 E G post (wp_X3_greatest_61 E G post (wp_X3_greatest_18 E G post B5 n)) y0 y1 y2 y3 y4 y6
      ) ∧ (¬ y5 = 0 →
        (x1 = 0 →
          wp_X3_greatest_56 E G post (wp_X3_greatest_61 E G post (wp_X3_greatest_18 E G post B5 n)) y0 y1 y2 y3 y4 y6
        ) ∧ (¬ x1 = 0 →
          w_rc G y0 2 ∧
          wp_X3_canTake E G y0 y6 x1 (fun x3 =>
          (x3 = 0 →
            wp_X3_greatest_60 E G post (wp_X3_greatest_61 E G post (wp_X3_greatest_18 E G post B5 n)) y0 y1 y2 y3 y4 y6
          ) ∧ (¬ x3 = 0 →
            wp_X3_greatest_56 E G post (wp_X3_greatest_61 E G post (wp_X3_greatest_18 E G post B5 n)) y0 y1 y2 y3 y4 y6
          )
        ))
      )
    ))
def wp_X3_greatest_5 (E : g_E) (G : g_G) (post : Int32 → Prop) : Nat → Nat → Int32 → Int32 → Int32 → Int32 → Prop
  | 0 => fun _ _ _ _ _ => False
  | n + 1 => fun y0 y1 y2 y3 y4 =>
    ((nI 51) ≤ y4 →
      post y3
    ) ∧ (¬ (nI 51) ≤ y4 →
      ∃ nf : Nat, wp_X3_greatest_18 E G post (wp_X3_greatest_5 E G post n) nf y0 y1 y2 y3 y4 (nI 1) (nI 0)
    )
def wp_X3_greatest (E : g_E) (G : g_G) (o : Nat) (p1 : Int32) (p2 : Int32) (post : Int32 → Prop) : Prop :=
  ∃ nf : Nat, wp_X3_greatest_5 E G post nf o p1 p2 (nI 0) (nI 1)
def wp_X3_greatestSize (E : g_E) (G : g_G) (o : Nat) (p1 : Int32) (p2 : Int32) (post : Int32 → g_G → Prop) : Prop :=
  w_put G o 2 0 (.int (nI 0)) (fun G1 =>
  wp_X3_isStore E G1 p1 (fun x2 =>
  (¬ x2 = 0 →
    wp_X3_areStores E G1 p1 p2 (fun x4 =>
    (x4 = 0 →
      w_rc G1 o 2 ∧
      wp_X3_fails E G1 o (nI 2) (fun x6 G7 =>
      post x6 G7
    )) ∧ (¬ x4 = 0 →
      w_rc G1 o 2 ∧
      wp_X3_greatest E G1 o p1 p2 (fun x8 =>
      post x8 G1
    ))
  )) ∧ (x2 = 0 →
    w_rc G1 o 2 ∧
    wp_X3_fails E G1 o (nI 1) (fun x10 G11 =>
    post x10 G11
  ))))
def wp_X3_shareLost (E : g_E) (G : g_G) (o : Nat) (post : UInt64 → Prop) : Prop :=
  w_gr G o 2 1 (fun x1 =>
  w_ild E G x1 (nI 10) (fun x2 =>
  (¬ x2 = 0 →
    w_gr G o 2 1 (fun x3 =>
    w_ild E G x3 (nI 12) (fun x4 =>
    w_gr G o 2 1 (fun x5 =>
    w_ild E G x5 (nI 10) (fun x6 =>
    vf_n64 (FP.ddiv (FP.i2d x4) (FP.i2d x6)) ∧
    post (FP.ddiv (FP.i2d x4) (FP.i2d x6))
  ))))) ∧ (x2 = 0 →
    post FP.dconst0
  )))
def wp_X3_lostShare (E : g_E) (G : g_G) (o : Nat) (post : UInt64 → g_G → Prop) : Prop :=
  w_put G o 2 0 (.int (nI 0)) (fun G1 =>
  w_rc G1 o 2 ∧
  wp_X3_shareLost E G1 o (fun x2 =>
  post x2 G1))
def wp_X3_mean_4 (E : g_E) (G : g_G) (post : UInt32 → Prop) : Nat → Nat → Int32 → Int32 → Prop
  | 0 => fun _ _ _ => False
  | n + 1 => fun y0 y1 y2 =>
    w_gr G y0 2 1 (fun x1 =>
    w_ild E G x1 (nI 9) (fun x2 =>
    (x2 ≤ y2 →
      w_gr G y0 2 1 (fun x3 =>
      w_ild E G x3 (nI 9) (fun x4 =>
      (¬ x4 = 0 →
        w_gr G y0 2 1 (fun x5 =>
        w_ild E G x5 (nI 9) (fun x6 =>
        vf_n32 (FP.fdiv (FP.i2f y1) (FP.i2f x6)) ∧
        post (FP.fdiv (FP.i2f y1) (FP.i2f x6))
      ))) ∧ (x4 = 0 →
        post FP.fconst0
      )
    ))) ∧ (¬ x2 ≤ y2 →
      w_rc G y0 2 ∧
      wp_X3_of E G y0 y2 (nI 2) (fun x7 =>
      wp_X3_mean_4 E G post n y0 (y1 + x7) (y2 + (nI 1))
    ))))
def wp_X3_mean (E : g_E) (G : g_G) (o : Nat) (post : UInt32 → Prop) : Prop :=
  ∃ nf : Nat, wp_X3_mean_4 E G post nf o (nI 0) (nI 0)
def wp_X3_meanSize (E : g_E) (G : g_G) (o : Nat) (post : UInt32 → g_G → Prop) : Prop :=
  w_put G o 2 0 (.int (nI 0)) (fun G1 =>
  w_rc G1 o 2 ∧
  wp_X3_mean E G1 o (fun x2 =>
  post x2 G1))
def wp_X3_digestTransfer_96 (E : g_E) (post : Int64 → g_G → Prop) : Nat → Nat → Int32 → Int64 → Int32 → g_G → Prop
  | 0 => fun _ _ _ _ _ => False
  | n + 1 => fun y0 y3 y4 y6 G =>
    ((nI 4) ≤ y6 →
      post y4 G
    ) ∧ (¬ (nI 4) ≤ y6 →
      w_rc G y0 2 ∧
      wp_X3_shareIn E G y0 y3 y6 (fun x15 =>
      w_rc G y0 2 ∧
      wp_X3_stateIn E G y0 y6 y3 (fun x17 =>
      w_rc G y0 2 ∧
      wp_X3_stateLogged E G y0 y6 y3 (fun x19 =>
      wp_X3_digestTransfer_96 E post n y0 y3 (((lN 31) * (((lN 31) * (((lN 31) * y4) + x15.toInt64)) + x17.toInt64)) + x19.toInt64) (y6 + (nI 1)) G
    ))))
def wp_X3_digestTransfer (E : g_E) (G : g_G) (o : Nat) (p1 : Int64) (p2 : Int32) (post : Int64 → g_G → Prop) : Prop :=
  w_rc G o 2 ∧
  wp_X3_all E G o p2 (fun x1 =>
  w_rc G o 2 ∧
  wp_X3_of E G o p2 (nI 5) (fun x3 =>
  w_rc G o 2 ∧
  wp_X3_outcomeOf E G o p2 (fun x5 =>
  w_rc G o 2 ∧
  wp_X3_of E G o p2 (nI 6) (fun x7 =>
  w_rc G o 2 ∧
  wp_X3_of E G o p2 (nI 3) (fun x9 =>
  w_rc G o 2 ∧
  wp_X3_of E G o p2 (nI 4) (fun x11 =>
  w_rc G o 2 ∧
  wp_X3_settledOutcome E G o p2 (fun x13 G14 =>
  ∃ nf : Nat, wp_X3_digestTransfer_96 E post nf o p2 (((lN 31) * (((lN 31) * (((lN 31) * (((lN 31) * (((lN 31) * (((lN 31) * (((lN 31) * p1) + x1.toInt64)) + x3.toInt64)) + x5.toInt64)) + x7.toInt64)) + x9.toInt64)) + x11.toInt64)) + x13.toInt64) (nI 0) G14)))))))
def wp_X3_digestSite_35 (E : g_E) (G : g_G) (post : Int64 → Prop) : Nat → Nat → Int32 → Int64 → Int32 → Prop
  | 0 => fun _ _ _ _ => False
  | n + 1 => fun y0 y3 y4 y6 =>
    w_gr G y0 2 1 (fun x5 =>
    w_ild E G x5 ((nI 102) + y3) (fun x6 =>
    (x6 ≤ y6 →
      post y4
    ) ∧ (¬ x6 ≤ y6 →
      w_rc G y0 2 ∧
      wp_X3_record E G y0 y3 y6 (fun x7 =>
      w_rc G y0 2 ∧
      wp_X3_record E G y0 y3 y6 (fun x9 =>
      wp_X3_digestSite_35 E G post n y0 y3 (((lN 31) * (((lN 31) * y4) + ((x7 / (nI 8)).toInt64))) + ((x9 - x9 / (nI 8) * (nI 8)).toInt64)) (y6 + (nI 1))
    )))))
def wp_X3_digestSite (E : g_E) (G : g_G) (o : Nat) (p1 : Int64) (p2 : Int32) (post : Int64 → Prop) : Prop :=
  w_gr G o 2 1 (fun x1 =>
  w_ild E G x1 ((nI 0) + p2) (fun x2 =>
  w_gr G o 2 1 (fun x3 =>
  w_ild E G x3 ((nI 102) + p2) (fun x4 =>
  ∃ nf : Nat, wp_X3_digestSite_35 E G post nf o p2 (((lN 31) * (((lN 31) * p1) + x2.toInt64)) + x4.toInt64) (nI 0)))))
def wp_X3_digest_381 (E : g_E) (post : Int64 → g_G → Prop) : Nat → Nat → Int64 → Int32 → g_G → Prop
  | 0 => fun _ _ _ _ => False
  | n + 1 => fun y0 y1 y3 G =>
    w_gi G y0 2 8 (fun x35 =>
    (x35 ≤ y3 →
      post y1 G
    ) ∧ (¬ x35 ≤ y3 →
      w_gr G y0 2 7 (fun x36 =>
      w_ild E G x36 y3 (fun x37 =>
      wp_X3_digest_381 E post n y0 (((lN 31) * y1) + x37.toInt64) (y3 + (nI 1)) G
    ))))
def wp_X3_digest_369 (E : g_E) (post : Int64 → g_G → Prop) (y0 : Nat) (s0 : Int32) (s1 : Int64) (s2 : Int64) (G : g_G) : Prop :=
    w_gi G y0 2 8 (fun x34 =>
    ∃ nf : Nat, wp_X3_digest_381 E post nf y0 ((s2 * (s1 + s0.toInt64)) + x34.toInt64) (nI 0) G)
def wp_X3_digest_171 (E : g_E) (post : Int64 → g_G → Prop) : Nat → Nat → Int64 → Int32 → g_G → Prop
  | 0 => fun _ _ _ _ => False
  | n + 1 => fun y0 y1 y3 G =>
    w_gr G y0 2 1 (fun x12 =>
    w_ild E G x12 (nI 13) (fun x13 =>
    (x13 ≤ y3 →
      w_gr G y0 2 1 (fun x14 =>
      w_ild E G x14 (nI 10) (fun x15 =>
      w_rc G y0 2 ∧
      wp_X3_sentOf E G y0 (fun x16 =>
      w_gr G y0 2 1 (fun x18 =>
      w_ild E G x18 (nI 12) (fun x19 =>
      w_rc G y0 2 ∧
      wp_X3_settledMany E G y0 (fun x20 G21 =>
      w_rc G21 y0 2 ∧
      wp_X3_greatest E G21 y0 (nI 0) (nI 14) (fun x22 =>
      w_gi G21 y0 2 4 (fun x24 =>
      w_rc G21 y0 2 ∧
      wp_X3_shareLost E G21 y0 (fun x25 =>
      wp_J25_doubleToLongBits E G21 x25 (fun x27 =>
      w_rc G21 y0 2 ∧
      wp_X3_mean E G21 y0 (fun x29 =>
      wp_J26_floatToIntBits E G21 x29 (fun x31 =>
      w_gi G21 y0 2 6 (fun x33 =>
      (x33 = 0 →
        wp_X3_digest_369 E post y0 (nI 0) ((lN 31) * (((lN 31) * (((lN 31) * (((lN 31) * (((lN 31) * (((lN 31) * (((lN 31) * (((lN 31) * (((lN 31) * y1) + x15.toInt64)) + x16.toInt64)) + x19.toInt64)) + x20.toInt64)) + x22.toInt64)) + x24.toInt64)) + x27)) + x31.toInt64)) (lN 31) G21
      ) ∧ (¬ x33 = 0 →
        wp_X3_digest_369 E post y0 (nI 1) ((lN 31) * (((lN 31) * (((lN 31) * (((lN 31) * (((lN 31) * (((lN 31) * (((lN 31) * (((lN 31) * (((lN 31) * y1) + x15.toInt64)) + x16.toInt64)) + x19.toInt64)) + x20.toInt64)) + x22.toInt64)) + x24.toInt64)) + x27)) + x31.toInt64)) (lN 31) G21
      )
    )))))))))))))) ∧ (¬ x13 ≤ y3 →
      w_gr G y0 2 1 (fun x38 =>
      w_ild E G x38 ((nI 195) + y3) (fun x39 =>
      w_rc G y0 2 ∧
      wp_X3_sendsBy E G y0 y3 (fun x40 G41 =>
      wp_X3_digest_171 E post n y0 (((lN 31) * (((lN 31) * (((lN 31) * (((lN 31) * y1) + ((x39 / (nI 32)).toInt64))) + (((x39 / (nI 4)) - (x39 / (nI 4)) / (nI 8) * (nI 8)).toInt64))) + ((x39 - x39 / (nI 4) * (nI 4)).toInt64))) + x40.toInt64) (y3 + (nI 1)) G41
    ))))))
def wp_X3_digest_116 (E : g_E) (post : Int64 → g_G → Prop) : Nat → Nat → Int64 → Int32 → g_G → Prop
  | 0 => fun _ _ _ _ => False
  | n + 1 => fun y0 y1 y3 G =>
    ((nI 5) ≤ y3 →
      w_rc G y0 2 ∧
      wp_X3_totalOf E G y0 (fun x6 =>
      w_rc G y0 2 ∧
      wp_X3_away E G y0 (fun x8 =>
      w_gr G y0 2 1 (fun x10 =>
      w_ild E G x10 (nI 13) (fun x11 =>
      ∃ nf : Nat, wp_X3_digest_171 E post nf y0 (((lN 31) * (((lN 31) * (((lN 31) * y1) + x6.toInt64)) + x8.toInt64)) + x11.toInt64) (nI 0) G
    ))))) ∧ (¬ (nI 5) ≤ y3 →
      w_rc G y0 2 ∧
      wp_X3_digestSite E G y0 y1 y3 (fun x42 =>
      wp_X3_digest_116 E post n y0 x42 (y3 + (nI 1)) G
    ))
def wp_X3_digest_52 (E : g_E) (post : Int64 → g_G → Prop) : Nat → Nat → Int64 → Int32 → g_G → Prop
  | 0 => fun _ _ _ _ => False
  | n + 1 => fun y0 y1 y3 G =>
    ((nI 4) ≤ y3 →
      ∃ nf : Nat, wp_X3_digest_116 E post nf y0 y1 (nI 0) G
    ) ∧ (¬ (nI 4) ≤ y3 →
      w_gr G y0 2 1 (fun x44 =>
      w_ild E G x44 ((nI 5) + y3) (fun x45 =>
      w_rc G y0 2 ∧
      wp_X3_amountLogged E G y0 y3 (fun x46 =>
      w_rc G y0 2 ∧
      wp_X3_doubts E G y0 y3 (fun x48 =>
      w_rc G y0 2 ∧
      wp_X3_settledAmount E G y0 y3 (fun x50 G51 =>
      wp_X3_digest_52 E post n y0 (((lN 31) * (((lN 31) * (((lN 31) * (((lN 31) * y1) + x45.toInt64)) + x46.toInt64)) + x48.toInt64)) + x50.toInt64) (y3 + (nI 1)) G51
    ))))))
def wp_X3_digest_26 (E : g_E) (post : Int64 → g_G → Prop) : Nat → Nat → Int64 → Int32 → g_G → Prop
  | 0 => fun _ _ _ _ => False
  | n + 1 => fun y0 y1 y3 G =>
    w_gr G y0 2 1 (fun x4 =>
    w_ild E G x4 (nI 9) (fun x5 =>
    (x5 ≤ y3 →
      ∃ nf : Nat, wp_X3_digest_52 E post nf y0 y1 (nI 0) G
    ) ∧ (¬ x5 ≤ y3 →
      w_rc G y0 2 ∧
      wp_X3_digestTransfer E G y0 y1 y3 (fun x52 G53 =>
      wp_X3_digest_26 E post n y0 x52 (y3 + (nI 1)) G53
    ))))
def wp_X3_digest (E : g_E) (G : g_G) (o : Nat) (post : Int64 → g_G → Prop) : Prop :=
  w_put G o 2 0 (.int (nI 0)) (fun G1 =>
  w_gr G1 o 2 1 (fun x2 =>
  w_ild E G1 x2 (nI 9) (fun x3 =>
  ∃ nf : Nat, wp_X3_digest_26 E post nf o (((lN 31) * (lN 4219)) + x3.toInt64) (nI 0) G1)))
def wp_J21_init (E : g_E) (G : g_G) (o : Nat) (p1 : Nat) (post : g_G → Prop) : Prop :=
  w_put G o 10 3 (.ref p1) (fun G1 =>
  w_put G1 o 10 1 (.int (-nI 1)) (fun G2 =>
  w_gr G2 o 10 3 (fun x3 =>
  w_gi G2 x3 9 0 (fun x4 =>
  w_put G2 o 10 2 (.int x4) (fun G5 =>
  post G5)))))
def wp_J21_hasNext (E : g_E) (G : g_G) (o : Nat) (post : Int32 → Prop) : Prop :=
  w_gi G o 10 0 (fun x1 =>
  w_gr G o 10 3 (fun x2 =>
  w_gi G x2 9 2 (fun x3 =>
  (x1 = x3 →
    post (nI 0)
  ) ∧ (¬ x1 = x3 →
    post (nI 1)
  ))))
def wp_J21_checkForComodification (E : g_E) (G : g_G) (o : Nat) (mc0 ms0 : Nat) (post : g_G → Prop) : Prop :=
  w_gr G o 10 3 (fun x1 =>
  w_gi G x1 9 0 (fun x2 =>
  w_gi G o 10 2 (fun x3 =>
  (x2 = x3 →
    post G
  ) ∧ (¬ x2 = x3 →
    False
  ))))
def wp_J21_next (E : g_E) (G : g_G) (o : Nat) (mc0 ms0 : Nat) (post : Option Nat → g_G → Prop) : Prop :=
  ∃ c3 t4 : Nat, c3 ≤ mc0 ∧ t4 ≤ ms0 ∧
  w_rc G o 10 ∧
  wp_J21_checkForComodification E G o c3 t4 (fun G2 =>
  w_gi G2 o 10 0 (fun x5 =>
  w_gr G2 o 10 3 (fun x6 =>
  w_gi G2 x6 9 2 (fun x7 =>
  (x5 < x7 →
    w_gr G2 o 10 3 (fun x8 =>
    w_gr G2 x8 9 1 (fun x9 =>
    w_alen E G2 x9 (fun x10 =>
    (x5 < x10 →
      w_put G2 o 10 0 (.int (x5 + (nI 1))) (fun G11 =>
      w_put G11 o 10 1 (.int x5) (fun G12 =>
      w_qld E G12 x9 x5 (fun x13 =>
      post x13 G12
    )))) ∧ (¬ x5 < x10 →
      False
    )
  )))) ∧ (¬ x5 < x7 →
    False
  )))))
def wp_J4_init (E : g_E) (G : g_G) (o : Nat) (post : Prop) : Prop :=
  post
def wp_J6_init (E : g_E) (G : g_G) (o : Nat) (post : g_G → Prop) : Prop :=
  wp_J4_init E G o (
  w_put G o 9 0 (.int (nI 0)) (fun G3 =>
  post G3))
def wp_J7_init (E : g_E) (G : g_G) (o : Nat) (post : g_G → Prop) : Prop :=
  wp_J6_init E G o (fun G2 =>
  w_put G2 o 9 1 (.ref (g_k E 7)) (fun G3 =>
  post G3))
def wp_J8_newLength_21 (E : g_E) (post : Int32 → g_G → Prop) (y0 : Int32) (y1 : Int32) (G : g_G) (mc : Nat) (ms : Nat) : Prop :=
    False
def wp_J8_newLength (E : g_E) (G : g_G) (p1 : Int32) (p2 : Int32) (p3 : Int32) (mc0 ms0 : Nat) (post : Int32 → g_G → Prop) : Prop :=
  ((p1 + (if p2 < p3 then p3 else p2)) ≤ (nI 0) →
    wp_J8_newLength_21 E post p1 p2 G mc0 ms0
  ) ∧ (¬ (p1 + (if p2 < p3 then p3 else p2)) ≤ (nI 0) →
    ((nI 2147483639) < (p1 + (if p2 < p3 then p3 else p2)) →
      wp_J8_newLength_21 E post p1 p2 G mc0 ms0
    ) ∧ (¬ (nI 2147483639) < (p1 + (if p2 < p3 then p3 else p2)) →
      post (p1 + (if p2 < p3 then p3 else p2)) G
    )
  )
def wp_J10_copyOf_2_24 (E : g_E) (post : Option Nat → g_G → Prop) (y0 : Nat) (y1 : Int32) (s0 : Nat) (G : g_G) (mc : Nat) (ms : Nat) : Prop :=
    w_alenX E G y0 (fun x1 =>
    w_copyq E G y0 (nI 0) s0 (nI 0) (if y1 < x1 then y1 else x1) (fun G2 =>
    post (some s0) G2))
def wp_J10_copyOf_2 (E : g_E) (G : g_G) (p1 : Nat) (p2 : Int32) (p3 : Nat) (mc0 ms0 : Nat) (post : Option Nat → g_G → Prop) : Prop :=
  (¬ (some p3) = (some (g_k E 10)) →
    False
  ) ∧ ((some p3) = (some (g_k E 10)) →
    w_newq E G p2 mc0 ms0 (fun n3 q4 G5 =>
    wp_J10_copyOf_2_24 E post p1 p2 q4 G5 (mc0 - 1) (ms0 - n3)
  ))
def wp_J10_copyOf (E : g_E) (G : g_G) (p1 : Nat) (p2 : Int32) (mc0 ms0 : Nat) (post : Option Nat → g_G → Prop) : Prop :=
  w_arr E G p1 ∧
  ∃ c3 t4 : Nat, c3 ≤ mc0 ∧ t4 ≤ ms0 ∧
  wp_J10_copyOf_2 E G p1 p2 (g_k E 10) c3 t4 (fun x1 G2 =>
  post x1 G2)
def wp_J7_grow_2_20 (E : g_E) (post : Option Nat → g_G → Prop) (y0 : Nat) (y1 : Int32) (y2 : Int32) (G : g_G) (mc : Nat) (ms : Nat) : Prop :=
    ∃ c5 t6 : Nat, c5 ≤ mc ∧ t6 ≤ ms ∧
    wp_J8_newLength E G y2 (y1 - y2) (y2 >>> ((nI 1) &&& 31)) c5 t6 (fun x3 G4 =>
    w_gr G4 y0 9 1 (fun x7 =>
    ∃ c10 t11 : Nat, c10 ≤ (mc - c5) ∧ t11 ≤ (ms - t6) ∧
    wp_J10_copyOf E G4 x7 x3 c10 t11 (fun x8 G9 =>
    ∃ z12 : Nat, x8 = some z12 ∧
    w_put G9 y0 9 1 (.ref z12) (fun G13 =>
    post (some z12) G13))))
def wp_J7_grow_2 (E : g_E) (G : g_G) (o : Nat) (p1 : Int32) (mc0 ms0 : Nat) (post : Option Nat → g_G → Prop) : Prop :=
  w_gr G o 9 1 (fun x1 =>
  w_alenX E G x1 (fun x2 =>
  (0 < x2 →
    wp_J7_grow_2_20 E post o p1 x2 G mc0 ms0
  ) ∧ (¬ 0 < x2 →
    w_gr G o 9 1 (fun x14 =>
    ((some x14) = (some (g_k E 7)) →
      w_newq E G (if (nI 10) < p1 then p1 else (nI 10)) mc0 ms0 (fun n15 q16 G17 =>
      w_put G17 o 9 1 (.ref q16) (fun G18 =>
      post (some q16) G18
    ))) ∧ (¬ (some x14) = (some (g_k E 7)) →
      wp_J7_grow_2_20 E post o p1 x2 G mc0 ms0
    )
  ))))
def wp_J7_grow (E : g_E) (G : g_G) (o : Nat) (mc0 ms0 : Nat) (post : Option Nat → g_G → Prop) : Prop :=
  w_gi G o 9 2 (fun x1 =>
  ∃ c4 t5 : Nat, c4 ≤ mc0 ∧ t5 ≤ ms0 ∧
  w_rc G o 9 ∧
  wp_J7_grow_2 E G o (x1 + (nI 1)) c4 t5 (fun x2 G3 =>
  post x2 G3))
def wp_J7_add_2_11 (E : g_E) (post : g_G → Prop) (y0 : Nat) (y1 : Nat) (y2 : Option Nat) (y3 : Int32) (G : g_G) (mc : Nat) (ms : Nat) : Prop :=
    ∃ z2 : Nat, y2 = some z2 ∧
    w_qst E G z2 y3 (some y1) (fun G3 =>
    w_put G3 y0 9 2 (.int (y3 + (nI 1))) (fun G4 =>
    post G4))
def wp_J7_add_2 (E : g_E) (G : g_G) (o : Nat) (p1 : Nat) (p2 : Nat) (p3 : Int32) (mc0 ms0 : Nat) (post : g_G → Prop) : Prop :=
  w_alenX E G p2 (fun x1 =>
  (¬ p3 = x1 →
    wp_J7_add_2_11 E post o p1 (some p2) p3 G mc0 ms0
  ) ∧ (p3 = x1 →
    ∃ c7 t8 : Nat, c7 ≤ mc0 ∧ t8 ≤ ms0 ∧
    w_rc G o 9 ∧
    wp_J7_grow E G o c7 t8 (fun x5 G6 =>
    wp_J7_add_2_11 E post o p1 x5 p3 G6 (mc0 - c7) (ms0 - t8)
  )))
def wp_J7_add (E : g_E) (G : g_G) (o : Nat) (p1 : Nat) (mc0 ms0 : Nat) (post : Int32 → g_G → Prop) : Prop :=
  w_gi G o 9 0 (fun x1 =>
  w_put G o 9 0 (.int (x1 + (nI 1))) (fun G2 =>
  w_gr G2 o 9 1 (fun x3 =>
  w_gi G2 o 9 2 (fun x4 =>
  ∃ c7 t8 : Nat, c7 ≤ mc0 ∧ t8 ≤ ms0 ∧
  w_rc G2 o 9 ∧
  wp_J7_add_2 E G2 o p1 x3 x4 c7 t8 (fun G6 =>
  post (nI 1) G6)))))
def wp_J7_toArray (E : g_E) (G : g_G) (o : Nat) (mc0 ms0 : Nat) (post : Option Nat → g_G → Prop) : Prop :=
  w_gr G o 9 1 (fun x1 =>
  w_gi G o 9 2 (fun x2 =>
  ∃ c5 t6 : Nat, c5 ≤ mc0 ∧ t6 ≤ ms0 ∧
  wp_J10_copyOf E G x1 x2 c5 t6 (fun x3 G4 =>
  post x3 G4)))
def wp_J7_addAll_56 (E : g_E) (post : Int32 → g_G → Prop) (y0 : Nat) (y2 : Option Nat) (y3 : Int32) (y4 : Option Nat) (y5 : Int32) (G : g_G) (mc : Nat) (ms : Nat) : Prop :=
    ∃ z12 : Nat, y4 = some z12 ∧
    ∃ z13 : Nat, y2 = some z13 ∧
    w_copyq E G z13 (nI 0) z12 y5 y3 (fun G14 =>
    w_put G14 y0 9 2 (.int (y5 + y3)) (fun G15 =>
    post (nI 1) G15))
def wp_J7_addAll (E : g_E) (G : g_G) (o : Nat) (p1 : Nat) (mc0 ms0 : Nat) (post : Int32 → g_G → Prop) : Prop :=
  ∃ c3 t4 : Nat, c3 ≤ mc0 ∧ t4 ≤ ms0 ∧
  w_rc G p1 9 ∧
  wp_J7_toArray E G p1 c3 t4 (fun x1 G2 =>
  w_gi G2 o 9 0 (fun x5 =>
  w_put G2 o 9 0 (.int (x5 + (nI 1))) (fun G6 =>
  ∃ z8 : Nat, x1 = some z8 ∧
  w_alenX E G6 z8 (fun x7 =>
  (¬ x7 = 0 →
    w_gr G6 o 9 1 (fun x9 =>
    w_alenX E G6 x9 (fun x10 =>
    w_gi G6 o 9 2 (fun x11 =>
    (x7 ≤ (x10 - x11) →
      wp_J7_addAll_56 E post o (some z8) x7 (some x9) x11 G6 (mc0 - c3) (ms0 - t4)
    ) ∧ (¬ x7 ≤ (x10 - x11) →
      ∃ c18 t19 : Nat, c18 ≤ (mc0 - c3) ∧ t19 ≤ (ms0 - t4) ∧
      w_rc G6 o 9 ∧
      wp_J7_grow_2 E G6 o (x11 + x7) c18 t19 (fun x16 G17 =>
      wp_J7_addAll_56 E post o (some z8) x7 x16 x11 G17 (mc0 - c3 - c18) (ms0 - t4 - t19)
    ))
  )))) ∧ (x7 = 0 →
    post (nI 0) G6
  )))))
def wp_J7_iterator (E : g_E) (G : g_G) (o : Nat) (mc0 ms0 : Nat) (post : Option Nat → g_G → Prop) : Prop :=
  w_new E G 10 4 [.int 0, .int 0, .int 0, .null] mc0 ms0 (fun q1 G2 =>
  wp_J21_init E G2 q1 o (fun G4 =>
  post (some q1) G4))
def wp_J7_init_2 (E : g_E) (G : g_G) (o : Nat) (p1 : Nat) (mc0 ms0 : Nat) (post : g_G → Prop) : Prop :=
  wp_J6_init E G o (fun G2 =>
  ∃ c5 t6 : Nat, c5 ≤ mc0 ∧ t6 ≤ ms0 ∧
  w_rc G2 p1 9 ∧
  wp_J7_toArray E G2 p1 c5 t6 (fun x3 G4 =>
  ∃ z8 : Nat, x3 = some z8 ∧
  w_alenX E G4 z8 (fun x7 =>
  w_put G4 o 9 2 (.int x7) (fun G9 =>
  (x7 = 0 →
    w_put G9 o 9 1 (.ref (g_k E 8)) (fun G10 =>
    post G10
  )) ∧ (¬ x7 = 0 →
    w_rc G9 p1 9 ∧
    (¬ (some (g_k E 11)) = (some (g_k E 11)) →
      w_gi G9 o 9 2 (fun x11 =>
      ∃ c14 t15 : Nat, c14 ≤ (mc0 - c5) ∧ t15 ≤ (ms0 - t6) ∧
      wp_J10_copyOf_2 E G9 z8 x11 (g_k E 10) c14 t15 (fun x12 G13 =>
      ∃ z16 : Nat, x12 = some z16 ∧
      w_put G13 o 9 1 (.ref z16) (fun G17 =>
      post G17
    )))) ∧ ((some (g_k E 11)) = (some (g_k E 11)) →
      w_put G9 o 9 1 (.ref z8) (fun G18 =>
      post G18
    ))
  )))))
def wp_J7_isEmpty (E : g_E) (G : g_G) (o : Nat) (post : Int32 → Prop) : Prop :=
  w_gi G o 9 2 (fun x1 =>
  (¬ x1 = 0 →
    post (nI 0)
  ) ∧ (x1 = 0 →
    post (nI 1)
  ))
def wp_J19_checkIndex_9 (E : g_E) (G : g_G) (post : Int32 → Prop) (y0 : Int32) (y1 : Int32) (y2 : Option Nat) : Prop :=
    False
def wp_J19_checkIndex (E : g_E) (G : g_G) (p1 : Int32) (p2 : Int32) (p3 : Option Nat) (post : Int32 → Prop) : Prop :=
  (p1 < 0 →
    wp_J19_checkIndex_9 E G post p1 p2 p3
  ) ∧ (¬ p1 < 0 →
    (p1 < p2 →
      post p1
    ) ∧ (¬ p1 < p2 →
      wp_J19_checkIndex_9 E G post p1 p2 p3
    )
  )
def wp_J22_checkIndex (E : g_E) (G : g_G) (p1 : Int32) (p2 : Int32) (post : Int32 → Prop) : Prop :=
  wp_J19_checkIndex E G p1 p2 none (fun x1 =>
  post x1)
def wp_J7_fastRemove_34 (E : g_E) (post : g_G → Prop) (y0 : Nat) (y1 : Nat) (y3 : Int32) (G : g_G) : Prop :=
    w_put G y0 9 2 (.int y3) (fun G4 =>
    w_qst E G4 y1 y3 none (fun G5 =>
    post G5))
def wp_J7_fastRemove (E : g_E) (G : g_G) (o : Nat) (p1 : Nat) (p2 : Int32) (post : g_G → Prop) : Prop :=
  w_gi G o 9 0 (fun x1 =>
  w_put G o 9 0 (.int (x1 + (nI 1))) (fun G2 =>
  w_gi G2 o 9 2 (fun x3 =>
  ((x3 - (nI 1)) ≤ p2 →
    wp_J7_fastRemove_34 E post o p1 (x3 - (nI 1)) G2
  ) ∧ (¬ (x3 - (nI 1)) ≤ p2 →
    w_copyq E G2 p1 (p2 + (nI 1)) p1 p2 ((x3 - (nI 1)) - p2) (fun G6 =>
    wp_J7_fastRemove_34 E post o p1 (x3 - (nI 1)) G6
  )))))
def wp_J7_remove (E : g_E) (G : g_G) (o : Nat) (p1 : Int32) (post : Option Nat → g_G → Prop) : Prop :=
  w_gi G o 9 2 (fun x1 =>
  wp_J22_checkIndex E G p1 x1 (fun x2 =>
  w_gr G o 9 1 (fun x4 =>
  w_qld E G x4 p1 (fun x5 =>
  w_rc G o 9 ∧
  wp_J7_fastRemove E G o x4 p1 (fun G7 =>
  post x5 G7)))))
def wp_J7_elementData (E : g_E) (G : g_G) (o : Nat) (p1 : Int32) (post : Option Nat → Prop) : Prop :=
  w_gr G o 9 1 (fun x1 =>
  w_qld E G x1 p1 (fun x2 =>
  post x2))
def wp_J7_get (E : g_E) (G : g_G) (o : Nat) (p1 : Int32) (post : Option Nat → Prop) : Prop :=
  w_gi G o 9 2 (fun x1 =>
  wp_J22_checkIndex E G p1 x1 (fun x2 =>
  w_rc G o 9 ∧
  wp_J7_elementData E G o p1 (fun x4 =>
  post x4)))
def wp_J7_size (E : g_E) (G : g_G) (o : Nat) (post : Int32 → Prop) : Prop :=
  w_gi G o 9 2 (fun x1 =>
  post x1)
def wp_J0_init (E : g_E) (G : g_G) (o : Nat) (p1 : Int32) (mc0 ms0 : Nat) (post : g_G → Prop) : Prop :=
  ((1 : Int32) = 0 →
    False
  ) ∧ (¬ (1 : Int32) = 0 →
    w_newb E G p1 mc0 ms0 (fun n1 q2 G3 =>
    w_put G3 o 12 0 (.ref q2) (fun G4 =>
    w_putn G4 o 12 1 (.byte) (.int (nI 0)) (fun G5 =>
    post G5
  ))))
def wp_J1_init (E : g_E) (G : g_G) (o : Nat) (mc0 ms0 : Nat) (post : g_G → Prop) : Prop :=
  ∃ c3 t4 : Nat, c3 ≤ mc0 ∧ t4 ≤ ms0 ∧
  wp_J0_init E G o (nI 16) c3 t4 (fun G2 =>
  post G2)
def wp_J0_length (E : g_E) (G : g_G) (o : Nat) (post : Int32 → Prop) : Prop :=
  w_gi G o 12 3 (fun x1 =>
  post x1)
def wp_J1_length (E : g_E) (G : g_G) (o : Nat) (post : Int32 → Prop) : Prop :=
  w_rc G o 12 ∧
  wp_J0_length E G o (fun x1 =>
  post x1)
def wp_J0_newCapacity (E : g_E) (G : g_G) (o : Nat) (p1 : Int32) (mc0 ms0 : Nat) (post : Int32 → g_G → Prop) : Prop :=
  w_gr G o 12 0 (fun x1 =>
  w_alen E G x1 (fun x2 =>
  w_gi G o 12 1 (fun x3 =>
  w_gi G o 12 1 (fun x4 =>
  ∃ c7 t8 : Nat, c7 ≤ mc0 ∧ t8 ≤ ms0 ∧
  wp_J8_newLength E G x2 ((p1 <<< (x3 &&& 31)) - x2) (x2 + ((nI 2) <<< (x4 &&& 31))) c7 t8 (fun x5 G6 =>
  (¬ x5 = (nI 2147483647) →
    w_gi G6 o 12 1 (fun x9 =>
    post (x5 >>> (x9 &&& 31)) G6
  )) ∧ (x5 = (nI 2147483647) →
    False
  ))))))
def wp_J10_copyOf_3 (E : g_E) (G : g_G) (p1 : Nat) (p2 : Int32) (mc0 ms0 : Nat) (post : Option Nat → g_G → Prop) : Prop :=
  w_alenX E G p1 (fun x1 =>
  (¬ p2 = x1 →
    w_newb E G p2 mc0 ms0 (fun n2 q3 G4 =>
    w_alenX E G4 p1 (fun x5 =>
    w_copyb E G4 p1 (nI 0) q3 (nI 0) (if p2 < x5 then p2 else x5) (fun G6 =>
    post (some q3) G6
  )))) ∧ (p2 = x1 →
    False
  ))
def wp_J0_ensureCapacityInternal (E : g_E) (G : g_G) (o : Nat) (p1 : Int32) (mc0 ms0 : Nat) (post : g_G → Prop) : Prop :=
  w_gr G o 12 0 (fun x1 =>
  w_alen E G x1 (fun x2 =>
  w_gi G o 12 1 (fun x3 =>
  ((p1 - (x2 >>> (x3 &&& 31))) ≤ 0 →
    post G
  ) ∧ (¬ (p1 - (x2 >>> (x3 &&& 31))) ≤ 0 →
    w_gr G o 12 0 (fun x4 =>
    ∃ c7 t8 : Nat, c7 ≤ mc0 ∧ t8 ≤ ms0 ∧
    w_rc G o 12 ∧
    wp_J0_newCapacity E G o p1 c7 t8 (fun x5 G6 =>
    w_gi G6 o 12 1 (fun x9 =>
    ∃ c12 t13 : Nat, c12 ≤ (mc0 - c7) ∧ t13 ≤ (ms0 - t8) ∧
    wp_J10_copyOf_3 E G6 x4 (x5 <<< (x9 &&& 31)) c12 t13 (fun x10 G11 =>
    ∃ z14 : Nat, x10 = some z14 ∧
    w_put G11 o 12 0 (.ref z14) (fun G15 =>
    post G15
  )))))))))
def wp_J0_isLatin1 (E : g_E) (G : g_G) (o : Nat) (post : Int32 → Prop) : Prop :=
  ((1 : Int32) = 0 →
    post (nI 0)
  ) ∧ (¬ (1 : Int32) = 0 →
    w_gi G o 12 1 (fun x1 =>
    (¬ x1 = 0 →
      post (nI 0)
    ) ∧ (x1 = 0 →
      post (nI 1)
    )
  ))
def wp_J0_setLength_76 (E : g_E) (post : g_G → Prop) (y0 : Nat) (y1 : Int32) (G : g_G) (mc : Nat) (ms : Nat) : Prop :=
    w_put G y0 12 3 (.int y1) (fun G6 =>
    post G6)
def wp_J0_setLength (E : g_E) (G : g_G) (o : Nat) (p1 : Int32) (mc0 ms0 : Nat) (post : g_G → Prop) : Prop :=
  (0 ≤ p1 →
    ∃ c3 t4 : Nat, c3 ≤ mc0 ∧ t4 ≤ ms0 ∧
    w_rc G o 12 ∧
    wp_J0_ensureCapacityInternal E G o p1 c3 t4 (fun G2 =>
    w_gi G2 o 12 3 (fun x5 =>
    (p1 ≤ x5 →
      w_gi G2 o 12 3 (fun x7 =>
      (x7 ≤ p1 →
        wp_J0_setLength_76 E post o p1 G2 (mc0 - c3) (ms0 - t4)
      ) ∧ (¬ x7 ≤ p1 →
        w_put G2 o 12 2 (.int (nI 1)) (fun G8 =>
        wp_J0_setLength_76 E post o p1 G8 (mc0 - c3) (ms0 - t4)
      ))
    )) ∧ (¬ p1 ≤ x5 →
      w_rc G2 o 12 ∧
      wp_J0_isLatin1 E G2 o (fun x9 =>
      (x9 = 0 →
        w_gr G2 o 12 0 (fun x11 =>
        w_gi G2 o 12 3 (fun x12 =>
        False
      ))) ∧ (¬ x9 = 0 →
        w_gr G2 o 12 0 (fun x13 =>
        w_gi G2 o 12 3 (fun x14 =>
        False
      )))
    ))
  ))) ∧ (¬ 0 ≤ p1 →
    False
  )
def wp_J1_setLength (E : g_E) (G : g_G) (o : Nat) (p1 : Int32) (mc0 ms0 : Nat) (post : g_G → Prop) : Prop :=
  ∃ c3 t4 : Nat, c3 ≤ mc0 ∧ t4 ≤ ms0 ∧
  w_rc G o 12 ∧
  wp_J0_setLength E G o p1 c3 t4 (fun G2 =>
  post G2)
def wp_J2_checkIndex (E : g_E) (G : g_G) (p1 : Int32) (p2 : Int32) (post : Prop) : Prop :=
  (∀ x1 : Option Nat,
  wp_J19_checkIndex E G p1 p2 x1 (fun x2 =>
  post))
def wp_J0_charAt (E : g_E) (G : g_G) (o : Nat) (p1 : Int32) (mc0 ms0 : Nat) (post : Int32 → g_G → Prop) : Prop :=
  w_gi G o 12 1 (fun x1 =>
  w_gr G o 12 0 (fun x2 =>
  w_gi G o 12 3 (fun x3 =>
  w_alen E G x2 (fun x4 =>
  wp_J2_checkIndex E G p1 (if (x4 >>> (x1 &&& 31)) < x3 then (x4 >>> (x1 &&& 31)) else x3) (
  (¬ x1 = 0 →
    False
  ) ∧ (x1 = 0 →
    w_bld E G x2 p1 (fun x7 =>
    narrow .char (.int (((x7 &&& (nI 255)).toUInt32 % 65536).toInt32)) = .int (((x7 &&& (nI 255)).toUInt32 % 65536).toInt32) ∧ post (((x7 &&& (nI 255)).toUInt32 % 65536).toInt32) G
  )))))))
def wp_J1_charAt (E : g_E) (G : g_G) (o : Nat) (p1 : Int32) (mc0 ms0 : Nat) (post : Int32 → g_G → Prop) : Prop :=
  ∃ c3 t4 : Nat, c3 ≤ mc0 ∧ t4 ≤ ms0 ∧
  w_rc G o 12 ∧
  wp_J0_charAt E G o p1 c3 t4 (fun x1 G2 =>
  narrow .char (.int x1) = .int x1 ∧ post x1 G2)
def wp_J20_canEncode (E : g_E) (G : g_G) (p1 : Int32) (post : Int32 → Prop) : Prop :=
  ((nI 255) < p1 →
    post (nI 0)
  ) ∧ (¬ (nI 255) < p1 →
    post (nI 1)
  )
def wp_J0_append_3_56 (E : g_E) (post : Option Nat → g_G → Prop) (y0 : Nat) (y1 : Int32) (G : g_G) (mc : Nat) (ms : Nat) : Prop :=
    w_gr G y0 12 0 (fun x10 =>
    w_gi G y0 12 3 (fun x11 =>
    w_put G y0 12 3 (.int (x11 + (nI 1))) (fun G12 =>
    False)))
def wp_J0_append_3_45 (E : g_E) (post : Option Nat → g_G → Prop) (y0 : Nat) (y1 : Int32) (G : g_G) (mc : Nat) (ms : Nat) : Prop :=
    w_rc G y0 12 ∧
    wp_J0_isLatin1 E G y0 (fun x8 =>
    (x8 = 0 →
      wp_J0_append_3_56 E post y0 y1 G mc ms
    ) ∧ (¬ x8 = 0 →
      False
    ))
def wp_J0_append_3 (E : g_E) (G : g_G) (o : Nat) (p1 : Int32) (mc0 ms0 : Nat) (post : Option Nat → g_G → Prop) : Prop :=
  w_gi G o 12 3 (fun x1 =>
  ∃ c4 t5 : Nat, c4 ≤ mc0 ∧ t5 ≤ ms0 ∧
  w_rc G o 12 ∧
  wp_J0_ensureCapacityInternal E G o (x1 + (nI 1)) c4 t5 (fun G3 =>
  w_rc G3 o 12 ∧
  wp_J0_isLatin1 E G3 o (fun x6 =>
  (x6 = 0 →
    wp_J0_append_3_45 E post o p1 G3 (mc0 - c4) (ms0 - t5)
  ) ∧ (¬ x6 = 0 →
    wp_J20_canEncode E G3 p1 (fun x13 =>
    (x13 = 0 →
      wp_J0_append_3_45 E post o p1 G3 (mc0 - c4) (ms0 - t5)
    ) ∧ (¬ x13 = 0 →
      w_gr G3 o 12 0 (fun x15 =>
      w_gi G3 o 12 3 (fun x16 =>
      w_put G3 o 12 3 (.int (x16 + (nI 1))) (fun G17 =>
      w_bst E G17 x15 x16 p1.toInt8.toInt32 (fun G18 =>
      post (some o) G18
    )))))
  )))))
def wp_J1_append_3 (E : g_E) (G : g_G) (o : Nat) (p1 : Int32) (mc0 ms0 : Nat) (post : Option Nat → g_G → Prop) : Prop :=
  ∃ c3 t4 : Nat, c3 ≤ mc0 ∧ t4 ≤ ms0 ∧
  w_rc G o 12 ∧
  wp_J0_append_3 E G o p1 c3 t4 (fun x1 G2 =>
  post (some o) G2)
def wp_J18_bitCount (E : g_E) (G : g_G) (p1 : Int32) (post : Int32 → Prop) : Prop :=
  post ((((((((p1 - (((p1.toUInt32 >>> ((nI 1).toUInt32 &&& Int32.toUInt32 31)).toInt32) &&& (nI 1431655765))) &&& (nI 858993459)) + ((((p1 - (((p1.toUInt32 >>> ((nI 1).toUInt32 &&& Int32.toUInt32 31)).toInt32) &&& (nI 1431655765))).toUInt32 >>> ((nI 2).toUInt32 &&& Int32.toUInt32 31)).toInt32) &&& (nI 858993459))) + (((((p1 - (((p1.toUInt32 >>> ((nI 1).toUInt32 &&& Int32.toUInt32 31)).toInt32) &&& (nI 1431655765))) &&& (nI 858993459)) + ((((p1 - (((p1.toUInt32 >>> ((nI 1).toUInt32 &&& Int32.toUInt32 31)).toInt32) &&& (nI 1431655765))).toUInt32 >>> ((nI 2).toUInt32 &&& Int32.toUInt32 31)).toInt32) &&& (nI 858993459))).toUInt32 >>> ((nI 4).toUInt32 &&& Int32.toUInt32 31)).toInt32)) &&& (nI 252645135)) + (((((((p1 - (((p1.toUInt32 >>> ((nI 1).toUInt32 &&& Int32.toUInt32 31)).toInt32) &&& (nI 1431655765))) &&& (nI 858993459)) + ((((p1 - (((p1.toUInt32 >>> ((nI 1).toUInt32 &&& Int32.toUInt32 31)).toInt32) &&& (nI 1431655765))).toUInt32 >>> ((nI 2).toUInt32 &&& Int32.toUInt32 31)).toInt32) &&& (nI 858993459))) + (((((p1 - (((p1.toUInt32 >>> ((nI 1).toUInt32 &&& Int32.toUInt32 31)).toInt32) &&& (nI 1431655765))) &&& (nI 858993459)) + ((((p1 - (((p1.toUInt32 >>> ((nI 1).toUInt32 &&& Int32.toUInt32 31)).toInt32) &&& (nI 1431655765))).toUInt32 >>> ((nI 2).toUInt32 &&& Int32.toUInt32 31)).toInt32) &&& (nI 858993459))).toUInt32 >>> ((nI 4).toUInt32 &&& Int32.toUInt32 31)).toInt32)) &&& (nI 252645135)).toUInt32 >>> ((nI 8).toUInt32 &&& Int32.toUInt32 31)).toInt32)) + ((((((((p1 - (((p1.toUInt32 >>> ((nI 1).toUInt32 &&& Int32.toUInt32 31)).toInt32) &&& (nI 1431655765))) &&& (nI 858993459)) + ((((p1 - (((p1.toUInt32 >>> ((nI 1).toUInt32 &&& Int32.toUInt32 31)).toInt32) &&& (nI 1431655765))).toUInt32 >>> ((nI 2).toUInt32 &&& Int32.toUInt32 31)).toInt32) &&& (nI 858993459))) + (((((p1 - (((p1.toUInt32 >>> ((nI 1).toUInt32 &&& Int32.toUInt32 31)).toInt32) &&& (nI 1431655765))) &&& (nI 858993459)) + ((((p1 - (((p1.toUInt32 >>> ((nI 1).toUInt32 &&& Int32.toUInt32 31)).toInt32) &&& (nI 1431655765))).toUInt32 >>> ((nI 2).toUInt32 &&& Int32.toUInt32 31)).toInt32) &&& (nI 858993459))).toUInt32 >>> ((nI 4).toUInt32 &&& Int32.toUInt32 31)).toInt32)) &&& (nI 252645135)) + (((((((p1 - (((p1.toUInt32 >>> ((nI 1).toUInt32 &&& Int32.toUInt32 31)).toInt32) &&& (nI 1431655765))) &&& (nI 858993459)) + ((((p1 - (((p1.toUInt32 >>> ((nI 1).toUInt32 &&& Int32.toUInt32 31)).toInt32) &&& (nI 1431655765))).toUInt32 >>> ((nI 2).toUInt32 &&& Int32.toUInt32 31)).toInt32) &&& (nI 858993459))) + (((((p1 - (((p1.toUInt32 >>> ((nI 1).toUInt32 &&& Int32.toUInt32 31)).toInt32) &&& (nI 1431655765))) &&& (nI 858993459)) + ((((p1 - (((p1.toUInt32 >>> ((nI 1).toUInt32 &&& Int32.toUInt32 31)).toInt32) &&& (nI 1431655765))).toUInt32 >>> ((nI 2).toUInt32 &&& Int32.toUInt32 31)).toInt32) &&& (nI 858993459))).toUInt32 >>> ((nI 4).toUInt32 &&& Int32.toUInt32 31)).toInt32)) &&& (nI 252645135)).toUInt32 >>> ((nI 8).toUInt32 &&& Int32.toUInt32 31)).toInt32)).toUInt32 >>> ((nI 16).toUInt32 &&& Int32.toUInt32 31)).toInt32)) &&& (nI 63))
def wp_J5_init (E : g_E) (G : g_G) (o : Nat) (mc0 ms0 : Nat) (post : g_G → Prop) : Prop :=
  wp_J4_init E G o (
  w_newq E G (nI 17) mc0 ms0 (fun n3 q4 G5 =>
  w_put G5 o 11 0 (.ref q4) (fun G6 =>
  post G6)))
def wp_J5_sub (E : g_E) (G : g_G) (p1 : Int32) (p2 : Int32) (p3 : Int32) (post : Int32 → Prop) : Prop :=
  (0 ≤ (p1 - p2) →
    post (p1 - p2)
  ) ∧ (¬ 0 ≤ (p1 - p2) →
    post ((p1 - p2) + p3)
  )
def wp_J5_size (E : g_E) (G : g_G) (o : Nat) (post : Int32 → Prop) : Prop :=
  w_gi G o 11 2 (fun x1 =>
  w_gi G o 11 1 (fun x2 =>
  w_gr G o 11 0 (fun x3 =>
  w_alenX E G x3 (fun x4 =>
  wp_J5_sub E G x1 x2 x4 (fun x5 =>
  post x5)))))
def wp_J5_elementAt (E : g_E) (G : g_G) (p1 : Nat) (p2 : Int32) (post : Option Nat → Prop) : Prop :=
  w_qld E G p1 p2 (fun x1 =>
  post x1)
def wp_J5_inc (E : g_E) (G : g_G) (p1 : Int32) (p2 : Int32) (post : Int32 → Prop) : Prop :=
  ((p1 + (nI 1)) < p2 →
    post (p1 + (nI 1))
  ) ∧ (¬ (p1 + (nI 1)) < p2 →
    post (nI 0)
  )
def wp_J5_pollFirst (E : g_E) (G : g_G) (o : Nat) (post : Option Nat → g_G → Prop) : Prop :=
  w_gr G o 11 0 (fun x1 =>
  w_gi G o 11 1 (fun x2 =>
  wp_J5_elementAt E G x1 x2 (fun x3 =>
  (x3 = none →
    post x3 G
  ) ∧ (¬ x3 = none →
    w_qst E G x1 x2 none (fun G5 =>
    w_alenX E G5 x1 (fun x6 =>
    wp_J5_inc E G5 x2 x6 (fun x7 =>
    w_put G5 o 11 1 (.int x7) (fun G9 =>
    post x3 G9
  ))))))))
def wp_J5_removeFirst (E : g_E) (G : g_G) (o : Nat) (mc0 ms0 : Nat) (post : Option Nat → g_G → Prop) : Prop :=
  w_rc G o 11 ∧
  wp_J5_pollFirst E G o (fun x1 G2 =>
  (¬ x1 = none →
    post x1 G2
  ) ∧ (x1 = none →
    False
  ))
def wp_J5_newCapacity (E : g_E) (G : g_G) (o : Nat) (p1 : Int32) (p2 : Int32) (mc0 ms0 : Nat) (post : Int32 → g_G → Prop) : Prop :=
  w_gr G o 11 0 (fun x1 =>
  w_alenX E G x1 (fun x2 =>
  (((x2 + p1) - (nI 2147483639)) ≤ 0 →
    (p1 ≤ p2 →
      (0 ≤ ((x2 + p2) - (nI 2147483639)) →
        post (nI 2147483639) G
      ) ∧ (¬ 0 ≤ ((x2 + p2) - (nI 2147483639)) →
        post (x2 + p2) G
      )
    ) ∧ (¬ p1 ≤ p2 →
      post (x2 + p1) G
    )
  ) ∧ (¬ ((x2 + p1) - (nI 2147483639)) ≤ 0 →
    (0 ≤ (x2 + p1) →
      post (nI 2147483647) G
    ) ∧ (¬ 0 ≤ (x2 + p1) →
      False
    )
  )))
def wp_J5_grow_145 (E : g_E) (post : g_G → Prop) : Nat → Option Nat → Int32 → Int32 → g_G → Nat → Nat → Prop
  | 0 => fun _ _ _ _ _ _ => False
  | n + 1 => fun y5 y7 y8 G mc ms =>
    (y8 ≤ y7 →
      post G
    ) ∧ (¬ y8 ≤ y7 →
      ∃ z20 : Nat, y5 = some z20 ∧
      w_qst E G z20 y7 none (fun G21 =>
      wp_J5_grow_145 E post n (some z20) (y7 + (nI 1)) y8 G21 mc ms
    ))
def wp_J5_grow_96 (E : g_E) (post : g_G → Prop) (y0 : Nat) (y2 : Int32) (y3 : Int32) (y5 : Option Nat) (G : g_G) (mc : Nat) (ms : Nat) : Prop :=
    w_gi G y0 11 1 (fun x12 =>
    w_gi G y0 11 1 (fun x13 =>
    w_gi G y0 11 1 (fun x14 =>
    ∃ z15 : Nat, y5 = some z15 ∧
    w_copyq E G z15 x12 z15 (x13 + (y3 - y2)) (y2 - x14) (fun G16 =>
    w_gi G16 y0 11 1 (fun x17 =>
    w_gi G16 y0 11 1 (fun x18 =>
    w_put G16 y0 11 1 (.int (x18 + (y3 - y2))) (fun G19 =>
    ∃ nf : Nat, wp_J5_grow_145 E post nf (some z15) x17 (x18 + (y3 - y2)) G19 mc ms)))))))
def wp_J5_grow_49 (E : g_E) (post : g_G → Prop) (y0 : Nat) (y2 : Int32) (y3 : Int32) (G : g_G) (mc : Nat) (ms : Nat) : Prop :=
    w_gr G y0 11 0 (fun x3 =>
    ∃ c6 t7 : Nat, c6 ≤ mc ∧ t7 ≤ ms ∧
    wp_J10_copyOf E G x3 y3 c6 t7 (fun x4 G5 =>
    ∃ z8 : Nat, x4 = some z8 ∧
    w_put G5 y0 11 0 (.ref z8) (fun G9 =>
    w_gi G9 y0 11 2 (fun x10 =>
    w_gi G9 y0 11 1 (fun x11 =>
    (x10 < x11 →
      wp_J5_grow_96 E post y0 y2 y3 (some z8) G9 (mc - c6) (ms - t7)
    ) ∧ (¬ x10 < x11 →
      w_gi G9 y0 11 2 (fun x22 =>
      w_gi G9 y0 11 1 (fun x23 =>
      (¬ x22 = x23 →
        post G9
      ) ∧ (x22 = x23 →
        w_gi G9 y0 11 1 (fun x24 =>
        w_qld E G9 z8 x24 (fun x25 =>
        (x25 = none →
          post G9
        ) ∧ (¬ x25 = none →
          wp_J5_grow_96 E post y0 y2 y3 (some z8) G9 (mc - c6) (ms - t7)
        )
      )))
    ))))))))
def wp_J5_grow_41 (E : g_E) (post : g_G → Prop) (B49 : Nat → Int32 → Int32 → g_G → Nat → Nat → Prop) (y0 : Nat) (y1 : Int32) (y2 : Int32) (y4 : Int32) (G : g_G) (mc : Nat) (ms : Nat) : Prop :=
    ∃ c28 t29 : Nat, c28 ≤ mc ∧ t29 ≤ ms ∧
    w_rc G y0 11 ∧
    wp_J5_newCapacity E G y0 y1 y4 c28 t29 (fun x26 G27 =>
    B49 y0 y2 x26 G27 (mc - c28) (ms - t29))
def wp_J5_grow_21 (E : g_E) (post : g_G → Prop) (y0 : Nat) (y1 : Int32) (y2 : Int32) (s0 : Int32) (G : g_G) (mc : Nat) (ms : Nat) : Prop :=
    (s0 < y1 →
      wp_J5_grow_41 E post (wp_J5_grow_49 E post) y0 y1 y2 s0 G mc ms
    ) ∧ (¬ s0 < y1 →
      (((y2 + s0) - (nI 2147483639)) ≤ 0 →
        wp_J5_grow_49 E post y0 y2 (y2 + s0) G mc ms
      ) ∧ (¬ ((y2 + s0) - (nI 2147483639)) ≤ 0 →
        wp_J5_grow_41 E post (wp_J5_grow_49 E post) y0 y1 y2 s0 G mc ms
      )
    )
def wp_J5_grow (E : g_E) (G : g_G) (o : Nat) (p1 : Int32) (mc0 ms0 : Nat) (post : g_G → Prop) : Prop :=
  w_gr G o 11 0 (fun x1 =>
  w_alenX E G x1 (fun x2 =>
  ((nI 64) ≤ x2 →
    wp_J5_grow_21 E post o p1 x2 (x2 >>> ((nI 1) &&& 31)) G mc0 ms0
  ) ∧ (¬ (nI 64) ≤ x2 →
    wp_J5_grow_21 E post o p1 x2 (x2 + (nI 2)) G mc0 ms0
  )))
def wp_J5_addLast (E : g_E) (G : g_G) (o : Nat) (p1 : Nat) (mc0 ms0 : Nat) (post : g_G → Prop) : Prop :=
  (¬ (some p1) = none →
    w_gr G o 11 0 (fun x1 =>
    w_gi G o 11 2 (fun x2 =>
    w_qst E G x1 x2 (some p1) (fun G3 =>
    w_gi G3 o 11 1 (fun x4 =>
    w_gi G3 o 11 2 (fun x5 =>
    w_alenX E G3 x1 (fun x6 =>
    wp_J5_inc E G3 x5 x6 (fun x7 =>
    w_put G3 o 11 2 (.int x7) (fun G9 =>
    (¬ x4 = x7 →
      post G9
    ) ∧ (x4 = x7 →
      ∃ c12 t13 : Nat, c12 ≤ mc0 ∧ t13 ≤ ms0 ∧
      w_rc G9 o 11 ∧
      wp_J5_grow E G9 o (nI 1) c12 t13 (fun G11 =>
      post G11
    ))
  ))))))))) ∧ ((some p1) = none →
    False
  )
def wp_J5_isEmpty (E : g_E) (G : g_G) (o : Nat) (post : Int32 → Prop) : Prop :=
  w_gi G o 11 1 (fun x1 =>
  w_gi G o 11 2 (fun x2 =>
  (¬ x1 = x2 →
    post (nI 0)
  ) ∧ (x1 = x2 →
    post (nI 1)
  )))
def wp_J5_dec (E : g_E) (G : g_G) (p1 : Int32) (p2 : Int32) (post : Int32 → Prop) : Prop :=
  (0 ≤ (p1 + (-nI 1)) →
    post (p1 + (-nI 1))
  ) ∧ (¬ 0 ≤ (p1 + (-nI 1)) →
    post (p2 - (nI 1))
  )
def wp_J5_pollLast (E : g_E) (G : g_G) (o : Nat) (post : Option Nat → g_G → Prop) : Prop :=
  w_gr G o 11 0 (fun x1 =>
  w_gi G o 11 2 (fun x2 =>
  w_alenX E G x1 (fun x3 =>
  wp_J5_dec E G x2 x3 (fun x4 =>
  wp_J5_elementAt E G x1 x4 (fun x6 =>
  (x6 = none →
    post x6 G
  ) ∧ (¬ x6 = none →
    w_put G o 11 2 (.int x4) (fun G8 =>
    w_qst E G8 x1 x4 none (fun G9 =>
    post x6 G9
  ))))))))
def wp_J5_removeLast (E : g_E) (G : g_G) (o : Nat) (mc0 ms0 : Nat) (post : Option Nat → g_G → Prop) : Prop :=
  w_rc G o 11 ∧
  wp_J5_pollLast E G o (fun x1 G2 =>
  (¬ x1 = none →
    post x1 G2
  ) ∧ (x1 = none →
    False
  ))
def wp_X2_init_96 (E : g_E) (post : g_G → Prop) : Nat → Nat → Int32 → g_G → Nat → Nat → Prop
  | 0 => fun _ _ _ _ _ => False
  | n + 1 => fun y0 y1 G mc ms =>
    ((nI 5) ≤ y1 →
      post G
    ) ∧ (¬ (nI 5) ≤ y1 →
      w_gr G y0 1 1 (fun x37 =>
      w_new E G 9 3 [.int 0, .null, .int 0] mc ms (fun q38 G39 =>
      wp_J7_init E G39 q38 (fun G41 =>
      ∃ c44 t45 : Nat, c44 ≤ (mc - 1) ∧ t45 ≤ (ms - 3) ∧
      w_rc G41 x37 9 ∧
      wp_J7_add E G41 x37 q38 c44 t45 (fun x42 G43 =>
      wp_X2_init_96 E post n y0 (y1 + (nI 1)) G43 (mc - 1 - c44) (ms - 3 - t45)
    )))))
def wp_X2_init (E : g_E) (G : g_G) (o : Nat) (mc0 ms0 : Nat) (post : g_G → Prop) : Prop :=
  w_new E G 9 3 [.int 0, .null, .int 0] mc0 ms0 (fun q1 G2 =>
  wp_J7_init E G2 q1 (fun G4 =>
  w_put G4 o 1 0 (.ref q1) (fun G5 =>
  w_new E G5 9 3 [.int 0, .null, .int 0] (mc0 - 1) (ms0 - 3) (fun q6 G7 =>
  wp_J7_init E G7 q6 (fun G9 =>
  w_put G9 o 1 1 (.ref q6) (fun G10 =>
  w_new E G10 9 3 [.int 0, .null, .int 0] (mc0 - 1 - 1) (ms0 - 3 - 3) (fun q11 G12 =>
  wp_J7_init E G12 q11 (fun G14 =>
  w_put G14 o 1 2 (.ref q11) (fun G15 =>
  w_put G15 o 1 7 (.int (nI 31)) (fun G16 =>
  w_newi E G16 (nI 4) (mc0 - 1 - 1 - 1) (ms0 - 3 - 3 - 3) (fun n17 q18 G19 =>
  w_ist E G19 q18 (nI 0) (nI 100) (fun G20 =>
  w_ist E G20 q18 (nI 1) (nI 100) (fun G21 =>
  w_ist E G21 q18 (nI 2) (nI 100) (fun G22 =>
  w_ist E G22 q18 (nI 3) (nI 100) (fun G23 =>
  w_put G23 o 1 3 (.ref q18) (fun G24 =>
  w_newi E G24 (nI 32) (mc0 - 1 - 1 - 1 - 1) (ms0 - 3 - 3 - 3 - n17) (fun n25 q26 G27 =>
  w_put G27 o 1 4 (.ref q26) (fun G28 =>
  w_newi E G28 (nI 8) (mc0 - 1 - 1 - 1 - 1 - 1) (ms0 - 3 - 3 - 3 - n17 - n25) (fun n29 q30 G31 =>
  w_put G31 o 1 5 (.ref q30) (fun G32 =>
  w_newi E G32 (nI 8) (mc0 - 1 - 1 - 1 - 1 - 1 - 1) (ms0 - 3 - 3 - 3 - n17 - n25 - n29) (fun n33 q34 G35 =>
  w_put G35 o 1 6 (.ref q34) (fun G36 =>
  ∃ nf : Nat, wp_X2_init_96 E post nf o (nI 0) G36 (mc0 - 1 - 1 - 1 - 1 - 1 - 1 - 1) (ms0 - 3 - 3 - 3 - n17 - n25 - n29 - n33)))))))))))))))))))))))
def wp_X2_init_2_67 (E : g_E) (post : g_G → Prop) : Nat → Nat → Nat → Option Nat → g_G → Nat → Nat → Prop
  | 0 => fun _ _ _ _ _ _ => False
  | n + 1 => fun y0 y1 y2 G mc ms =>
    ∃ z28 : Nat, y2 = some z28 ∧
    w_rc G z28 10 ∧
    wp_J21_hasNext E G z28 (fun x29 =>
    (x29 = 0 →
      w_gr G y0 1 2 (fun x31 =>
      w_gr G y1 1 2 (fun x32 =>
      ∃ c35 t36 : Nat, c35 ≤ mc ∧ t36 ≤ ms ∧
      w_rc G x31 9 ∧
      wp_J7_addAll E G x31 x32 c35 t36 (fun x33 G34 =>
      w_gr G34 y1 1 3 (fun x37 =>
      w_clonei E G34 x37 (mc - c35) (ms - t36) (fun n38 q39 G40 =>
      (∃ (r : g_R) (x : vp_A), G40 q39 = some (r, .inl (E.2.1 0, x))) ∧
      w_put G40 y0 1 3 (.ref q39) (fun G42 =>
      w_gr G42 y1 1 4 (fun x43 =>
      w_clonei E G42 x43 (mc - c35 - 1) (ms - t36 - n38) (fun n44 q45 G46 =>
      (∃ (r : g_R) (x : vp_A), G46 q45 = some (r, .inl (E.2.1 0, x))) ∧
      w_put G46 y0 1 4 (.ref q45) (fun G48 =>
      w_gr G48 y1 1 5 (fun x49 =>
      w_clonei E G48 x49 (mc - c35 - 1 - 1) (ms - t36 - n38 - n44) (fun n50 q51 G52 =>
      (∃ (r : g_R) (x : vp_A), G52 q51 = some (r, .inl (E.2.1 0, x))) ∧
      w_put G52 y0 1 5 (.ref q51) (fun G54 =>
      w_gr G54 y1 1 6 (fun x55 =>
      w_clonei E G54 x55 (mc - c35 - 1 - 1 - 1) (ms - t36 - n38 - n44 - n50) (fun n56 q57 G58 =>
      (∃ (r : g_R) (x : vp_A), G58 q57 = some (r, .inl (E.2.1 0, x))) ∧
      w_put G58 y0 1 6 (.ref q57) (fun G60 =>
      w_gi G60 y1 1 7 (fun x61 =>
      w_put G60 y0 1 7 (.int x61) (fun G62 =>
      w_gi G62 y1 1 8 (fun x63 =>
      w_put G62 y0 1 8 (.int x63) (fun G64 =>
      w_gi G64 y1 1 9 (fun x65 =>
      w_put G64 y0 1 9 (.int x65) (fun G66 =>
      w_gi G66 y1 1 10 (fun x67 =>
      w_put G66 y0 1 10 (.int x67) (fun G68 =>
      post G68
    )))))))))))))))))))))))) ∧ (¬ x29 = 0 →
      ∃ c71 t72 : Nat, c71 ≤ mc ∧ t72 ≤ ms ∧
      w_rc G z28 10 ∧
      wp_J21_next E G z28 c71 t72 (fun x69 G70 =>
      w_cc G70 x69 9 (fun z73 =>
      w_gr G70 y0 1 1 (fun x74 =>
      w_new E G70 9 3 [.int 0, .null, .int 0] (mc - c71) (ms - t72) (fun q75 G76 =>
      ∃ c79 t80 : Nat, c79 ≤ (mc - c71 - 1) ∧ t80 ≤ (ms - t72 - 3) ∧
      wp_J7_init_2 E G76 q75 z73 c79 t80 (fun G78 =>
      ∃ c83 t84 : Nat, c83 ≤ (mc - c71 - 1 - c79) ∧ t84 ≤ (ms - t72 - 3 - t80) ∧
      w_rc G78 x74 9 ∧
      wp_J7_add E G78 x74 q75 c83 t84 (fun x81 G82 =>
      wp_X2_init_2_67 E post n y0 y1 (some z28) G82 (mc - c71 - 1 - c79 - c83) (ms - t72 - 3 - t80 - t84)
    ))))))))
def wp_X2_init_2 (E : g_E) (G : g_G) (o : Nat) (p1 : Nat) (mc0 ms0 : Nat) (post : g_G → Prop) : Prop :=
  w_new E G 9 3 [.int 0, .null, .int 0] mc0 ms0 (fun q1 G2 =>
  wp_J7_init E G2 q1 (fun G4 =>
  w_put G4 o 1 0 (.ref q1) (fun G5 =>
  w_new E G5 9 3 [.int 0, .null, .int 0] (mc0 - 1) (ms0 - 3) (fun q6 G7 =>
  wp_J7_init E G7 q6 (fun G9 =>
  w_put G9 o 1 1 (.ref q6) (fun G10 =>
  w_new E G10 9 3 [.int 0, .null, .int 0] (mc0 - 1 - 1) (ms0 - 3 - 3) (fun q11 G12 =>
  wp_J7_init E G12 q11 (fun G14 =>
  w_put G14 o 1 2 (.ref q11) (fun G15 =>
  w_put G15 o 1 7 (.int (nI 31)) (fun G16 =>
  w_gr G16 o 1 0 (fun x17 =>
  w_gr G16 p1 1 0 (fun x18 =>
  ∃ c21 t22 : Nat, c21 ≤ (mc0 - 1 - 1 - 1) ∧ t22 ≤ (ms0 - 3 - 3 - 3) ∧
  w_rc G16 x17 9 ∧
  wp_J7_addAll E G16 x17 x18 c21 t22 (fun x19 G20 =>
  w_gr G20 p1 1 1 (fun x23 =>
  ∃ c26 t27 : Nat, c26 ≤ (mc0 - 1 - 1 - 1 - c21) ∧ t27 ≤ (ms0 - 3 - 3 - 3 - t22) ∧
  w_rc G20 x23 9 ∧
  wp_J7_iterator E G20 x23 c26 t27 (fun x24 G25 =>
  ∃ nf : Nat, wp_X2_init_2_67 E post nf o p1 x24 G25 (mc0 - 1 - 1 - 1 - c21 - c26) (ms0 - 3 - 3 - 3 - t22 - t27))))))))))))))))
def wp_X6_receiver (E : g_E) (G : g_G) (o : Nat) (post : Int32 → Prop) : Prop :=
  w_gr G o 5 0 (fun x1 =>
  w_kf E (some x1) (fun x2 =>
  (x2 = 0 →
    post (nI 4)
  ) ∧ (¬ x2 = 0 →
    w_gi G o 5 2 (fun x3 =>
    post x3
  ))))
def wp_X1_has (E : g_E) (G : g_G) (p1 : Int32) (p2 : Int32) (post : Int32 → Prop) : Prop :=
  (¬ ((p1 >>> (p2 &&& 31)) &&& (nI 1)) = (nI 1) →
    post (nI 0)
  ) ∧ (((p1 >>> (p2 &&& 31)) &&& (nI 1)) = (nI 1) →
    post (nI 1)
  )
def wp_X2_isUp (E : g_E) (G : g_G) (o : Nat) (p1 : Int32) (post : Int32 → Prop) : Prop :=
  w_gi G o 1 7 (fun x1 =>
  wp_X1_has E G x1 p1 (fun x2 =>
  narrow .boolean (.int x2) = .int x2 ∧ post x2))
def wp_X2_state (E : g_E) (G : g_G) (o : Nat) (p1 : Int32) (p2 : Int32) (post : Int32 → Prop) : Prop :=
  w_gr G o 1 4 (fun x1 =>
  w_ild E G x1 (((nI 8) * p1) + p2) (fun x2 =>
  post x2))
def wp_X4_share (E : g_E) (G : g_G) (o : Nat) (p1 : Int32) (post : Int32 → Prop) : Prop :=
  w_gi G o 3 0 (fun x1 =>
  (¬ p1 = x1 →
    w_gi G o 3 1 (fun x2 =>
    wp_X1_has E G x2 p1 (fun x3 =>
    (x3 = 0 →
      post (nI 0)
    ) ∧ (¬ x3 = 0 →
      w_gi G o 3 2 (fun x5 =>
      post x5
    ))
  ))) ∧ (p1 = x1 →
    w_gi G o 3 2 (fun x6 =>
    w_gi G o 3 1 (fun x7 =>
    wp_J18_bitCount E G x7 (fun x8 =>
    post ((-x6) * x8)
  )))))
def wp_X2_canTake_86 (E : g_E) (G : g_G) (post : Int32 → Prop) (B12 : Nat → Int32 → Int32 → Int32 → Int32 → Prop) (y0 : Nat) (y1 : Int32) (y2 : Int32) (y4 : Int32) (s0 : Int32) (s1 : Int32) : Prop :=
    B12 y0 y1 y2 (s1 + s0) (y4 + (nI 1))
def wp_X2_canTake_85 (E : g_E) (G : g_G) (post : Int32 → Prop) (B86 : Nat → Int32 → Int32 → Int32 → Int32 → Int32 → Prop) (y0 : Nat) (y1 : Int32) (y2 : Int32) (y4 : Int32) (s0 : Int32) : Prop :=
    B86 y0 y1 y2 y4 (nI 0) s0
def wp_X2_canTake_77 (E : g_E) (G : g_G) (post : Int32 → Prop) (B85 : Nat → Int32 → Int32 → Int32 → Int32 → Prop) (B86 : Nat → Int32 → Int32 → Int32 → Int32 → Int32 → Prop) (y0 : Nat) (y1 : Int32) (y2 : Int32) (y4 : Int32) (y5 : Int32) (s0 : Int32) (s1 : Int32) (s2 : Int32) : Prop :=
    (¬ s1 = s0 →
      B85 y0 y1 y2 y4 s2
    ) ∧ (s1 = s0 →
      B86 y0 y1 y2 y4 y5 s2
    )
def wp_X2_canTake_68 (E : g_E) (G : g_G) (post : Int32 → Prop) (B85 : Nat → Int32 → Int32 → Int32 → Int32 → Prop) (B86 : Nat → Int32 → Int32 → Int32 → Int32 → Int32 → Prop) (y0 : Nat) (y1 : Int32) (y2 : Int32) (y4 : Int32) (y5 : Int32) (s0 : Int32) (s1 : Int32) : Prop :=
    (0 ≤ y2 →
      wp_X2_canTake_77 E G post B85 B86 y0 y1 y2 y4 y5 (nI 0) s0 s1
    ) ∧ (¬ 0 ≤ y2 →
      wp_X2_canTake_77 E G post B85 B86 y0 y1 y2 y4 y5 (nI 1) s0 s1
    )
def wp_X2_canTake_12 (E : g_E) (G : g_G) (post : Int32 → Prop) : Nat → Nat → Int32 → Int32 → Int32 → Int32 → Prop
  | 0 => fun _ _ _ _ _ => False
  | n + 1 => fun y0 y1 y2 y3 y4 =>
    w_gr G y0 1 0 (fun x3 =>
    w_rc G x3 9 ∧
    wp_J7_size E G x3 (fun x4 =>
    (x4 ≤ y4 →
      (y3 < 0 →
        post (nI 0)
      ) ∧ (¬ y3 < 0 →
        ((nI 999) < y3 →
          post (nI 0)
        ) ∧ (¬ (nI 999) < y3 →
          post (nI 1)
        )
      )
    ) ∧ (¬ x4 ≤ y4 →
      w_gr G y0 1 0 (fun x6 =>
      w_rc G x6 9 ∧
      wp_J7_get E G x6 y4 (fun x7 =>
      w_cc G x7 3 (fun z9 =>
      w_rc G z9 3 ∧
      wp_X4_share E G z9 y1 (fun x10 =>
      w_rc G y0 1 ∧
      wp_X2_state E G y0 y1 y4 (fun x12 =>
      (¬ x12 = (nI 1) →
        wp_X2_canTake_85 E G post (wp_X2_canTake_86 E G post (wp_X2_canTake_12 E G post n)) y0 y1 y2 y4 y3
      ) ∧ (x12 = (nI 1) →
        (0 ≤ x10 →
          wp_X2_canTake_68 E G post (wp_X2_canTake_85 E G post (wp_X2_canTake_86 E G post (wp_X2_canTake_12 E G post n))) (wp_X2_canTake_86 E G post (wp_X2_canTake_12 E G post n)) y0 y1 y2 y4 x10 (nI 0) y3
        ) ∧ (¬ 0 ≤ x10 →
          wp_X2_canTake_68 E G post (wp_X2_canTake_85 E G post (wp_X2_canTake_86 E G post (wp_X2_canTake_12 E G post n))) (wp_X2_canTake_86 E G post (wp_X2_canTake_12 E G post n)) y0 y1 y2 y4 x10 (nI 1) y3
        )
      )
    ))))))))
def wp_X2_canTake (E : g_E) (G : g_G) (o : Nat) (p1 : Int32) (p2 : Int32) (post : Int32 → Prop) : Prop :=
  w_gr G o 1 3 (fun x1 =>
  w_ild E G x1 p1 (fun x2 =>
  ∃ nf : Nat, wp_X2_canTake_12 E G post nf o p1 p2 (x2 + p2) (nI 0)))
def wp_X5_init (E : g_E) (G : g_G) (o : Nat) (p1 : Int32) (p2 : Int32) (post : g_G → Prop) : Prop :=
  w_put G o 4 0 (.int p1) (fun G1 =>
  w_put G1 o 4 1 (.int p2) (fun G2 =>
  post G2))
def wp_X2_writes (E : g_E) (G : g_G) (o : Nat) (p1 : Int32) (p2 : Int32) (p3 : Int32) (mc0 ms0 : Nat) (post : g_G → Prop) : Prop :=
  w_gr G o 1 1 (fun x1 =>
  w_rc G x1 9 ∧
  wp_J7_get E G x1 p1 (fun x2 =>
  w_cc G x2 9 (fun z4 =>
  w_new E G 4 2 [.int 0, .int 0] mc0 ms0 (fun q5 G6 =>
  wp_X5_init E G6 q5 p2 p3 (fun G8 =>
  ∃ c11 t12 : Nat, c11 ≤ (mc0 - 1) ∧ t12 ≤ (ms0 - 2) ∧
  w_rc G8 z4 9 ∧
  wp_J7_add E G8 z4 q5 c11 t12 (fun x9 G10 =>
  post G10))))))
def wp_X2_becomes (E : g_E) (G : g_G) (o : Nat) (p1 : Int32) (p2 : Int32) (p3 : Int32) (post : g_G → Prop) : Prop :=
  w_gr G o 1 4 (fun x1 =>
  w_ist E G x1 (((nI 8) * p1) + p2) p3 (fun G2 =>
  post G2))
def wp_X6_init (E : g_E) (G : g_G) (o : Nat) (p1 : Nat) (p2 : Int32) (p3 : Int32) (post : g_G → Prop) : Prop :=
  w_put G o 5 0 (.ref p1) (fun G1 =>
  w_put G1 o 5 1 (.int p2) (fun G2 =>
  w_put G2 o 5 2 (.int p3) (fun G3 =>
  post G3)))
def wp_X2_sends (E : g_E) (G : g_G) (o : Nat) (p1 : Nat) (p2 : Int32) (p3 : Int32) (mc0 ms0 : Nat) (post : g_G → Prop) : Prop :=
  w_gi G o 1 8 (fun x1 =>
  w_put G o 1 8 (.int (x1 + (nI 1))) (fun G2 =>
  w_gr G2 o 1 2 (fun x3 =>
  w_rc G2 x3 9 ∧
  wp_J7_size E G2 x3 (fun x4 =>
  ((nI 60) ≤ x4 →
    w_gi G2 o 1 10 (fun x6 =>
    w_put G2 o 1 10 (.int (x6 + (nI 1))) (fun G7 =>
    post G7
  ))) ∧ (¬ (nI 60) ≤ x4 →
    w_gr G2 o 1 2 (fun x8 =>
    w_new E G2 5 3 [.null, .int 0, .int 0] mc0 ms0 (fun q9 G10 =>
    wp_X6_init E G10 q9 p1 p2 p3 (fun G12 =>
    ∃ c15 t16 : Nat, c15 ≤ (mc0 - 1) ∧ t16 ≤ (ms0 - 3) ∧
    w_rc G12 x8 9 ∧
    wp_J7_add E G12 x8 q9 c15 t16 (fun x13 G14 =>
    post G14
  )))))))))
def wp_X2_hearsAsking_95 (E : g_E) (post : g_G → Prop) (y2 : Int32) (y3 : Int32) (s0 : Nat) (s1 : Nat) (G : g_G) (mc : Nat) (ms : Nat) : Prop :=
    ∃ c9 t10 : Nat, c9 ≤ mc ∧ t10 ≤ ms ∧
    w_rc G s1 1 ∧
    wp_X2_sends E G s1 s0 y3 y2 c9 t10 (fun G8 =>
    post G8)
def wp_X2_hearsAsking_75 (E : g_E) (post : g_G → Prop) (y0 : Nat) (y2 : Int32) (y3 : Int32) (G : g_G) (mc : Nat) (ms : Nat) : Prop :=
    w_rc G y0 1 ∧
    wp_X2_state E G y0 y2 y3 (fun x5 =>
    (¬ x5 = (nI 3) →
      wp_X2_hearsAsking_95 E post y2 y3 (g_k E 1) y0 G mc ms
    ) ∧ (x5 = (nI 3) →
      wp_X2_hearsAsking_95 E post y2 y3 (g_k E 2) y0 G mc ms
    ))
def wp_X2_hearsAsking_72 (E : g_E) (post : g_G → Prop) (B75 : Nat → Int32 → Int32 → g_G → Nat → Nat → Prop) (y0 : Nat) (y2 : Int32) (y3 : Int32) (s0 : Int32) (s1 : Int32) (s2 : Int32) (s3 : Nat) (G : g_G) (mc : Nat) (ms : Nat) : Prop :=
    w_rc G s3 1 ∧
    wp_X2_becomes E G s3 s2 s1 s0 (fun G24 =>
    B75 y0 y2 y3 G24 mc ms)
def wp_X2_hearsAsking_55 (E : g_E) (post : g_G → Prop) (B75 : Nat → Int32 → Int32 → g_G → Nat → Nat → Prop) (y0 : Nat) (y2 : Int32) (y3 : Int32) (y4 : Int32) (s0 : Int32) (s1 : Int32) (s2 : Nat) (G : g_G) (mc : Nat) (ms : Nat) : Prop :=
    ∃ c21 t22 : Nat, c21 ≤ mc ∧ t22 ≤ ms ∧
    w_rc G s2 1 ∧
    wp_X2_writes E G s2 s1 s0 y3 c21 t22 (fun G20 =>
    (y4 = 0 →
      wp_X2_hearsAsking_72 E post B75 y0 y2 y3 (nI 3) y3 y2 y0 G20 (mc - c21) (ms - t22)
    ) ∧ (¬ y4 = 0 →
      wp_X2_hearsAsking_72 E post B75 y0 y2 y3 (nI 1) y3 y2 y0 G20 (mc - c21) (ms - t22)
    ))
def wp_X2_hearsAsking (E : g_E) (G : g_G) (o : Nat) (p1 : Nat) (mc0 ms0 : Nat) (post : g_G → Prop) : Prop :=
  w_gi G p1 5 2 (fun x1 =>
  w_gi G p1 5 1 (fun x2 =>
  w_rc G o 1 ∧
  wp_X2_state E G o x1 x2 (fun x3 =>
  (¬ x3 = 0 →
    wp_X2_hearsAsking_75 E post o x1 x2 G mc0 ms0
  ) ∧ (x3 = 0 →
    w_gr G o 1 0 (fun x11 =>
    w_rc G x11 9 ∧
    wp_J7_get E G x11 x2 (fun x12 =>
    w_cc G x12 3 (fun z14 =>
    w_rc G z14 3 ∧
    wp_X4_share E G z14 x1 (fun x15 =>
    w_rc G o 1 ∧
    wp_X2_canTake E G o x1 x15 (fun x17 =>
    (x17 = 0 →
      wp_X2_hearsAsking_55 E post (wp_X2_hearsAsking_75 E post) o x1 x2 x17 (nI 2) x1 o G mc0 ms0
    ) ∧ (¬ x17 = 0 →
      wp_X2_hearsAsking_55 E post (wp_X2_hearsAsking_75 E post) o x1 x2 x17 (nI 4) x1 o G mc0 ms0
    )
  )))))))))
def wp_X10_comes (E : g_E) (G : g_G) (o : Nat) (p1 : Nat) (p2 : Nat) (mc0 ms0 : Nat) (post : g_G → Prop) : Prop :=
  ∃ c3 t4 : Nat, c3 ≤ mc0 ∧ t4 ≤ ms0 ∧
  w_rc G p1 1 ∧
  wp_X2_hearsAsking E G p1 p2 c3 t4 (fun G2 =>
  post G2)
def wp_X2_lastKind_73 (E : g_E) (post : Int32 → g_G → Prop) (B23 : Int32 → Int32 → Int32 → Option Nat → g_G → Nat → Nat → Prop) (y2 : Int32) (y3 : Int32) (y5 : Option Nat) (s0 : Int32) (G : g_G) (mc : Nat) (ms : Nat) : Prop :=
    B23 y2 y3 s0 y5 G mc ms
def wp_X2_lastKind_71 (E : g_E) (post : Int32 → g_G → Prop) (B73 : Int32 → Int32 → Option Nat → Int32 → g_G → Nat → Nat → Prop) (y2 : Int32) (y3 : Int32) (y4 : Int32) (y5 : Option Nat) (G : g_G) (mc : Nat) (ms : Nat) : Prop :=
    B73 y2 y3 y5 y4 G mc ms
def wp_X2_lastKind_23 (E : g_E) (post : Int32 → g_G → Prop) : Nat → Int32 → Int32 → Int32 → Option Nat → g_G → Nat → Nat → Prop
  | 0 => fun _ _ _ _ _ _ _ => False
  | n + 1 => fun y2 y3 y4 y5 G mc ms =>
    ∃ z9 : Nat, y5 = some z9 ∧
    w_rc G z9 10 ∧
    wp_J21_hasNext E G z9 (fun x10 =>
    (x10 = 0 →
      post y4 G
    ) ∧ (¬ x10 = 0 →
      ∃ c14 t15 : Nat, c14 ≤ mc ∧ t15 ≤ ms ∧
      w_rc G z9 10 ∧
      wp_J21_next E G z9 c14 t15 (fun x12 G13 =>
      w_cc G13 x12 4 (fun z16 =>
      w_gi G13 z16 4 1 (fun x17 =>
      (¬ x17 = y2 →
        wp_X2_lastKind_71 E post (wp_X2_lastKind_73 E post (wp_X2_lastKind_23 E post n)) y2 y3 y4 (some z9) G13 (mc - c14) (ms - t15)
      ) ∧ (x17 = y2 →
        w_gi G13 z16 4 0 (fun x18 =>
        (y3 < x18 →
          wp_X2_lastKind_71 E post (wp_X2_lastKind_73 E post (wp_X2_lastKind_23 E post n)) y2 y3 y4 (some z9) G13 (mc - c14) (ms - t15)
        ) ∧ (¬ y3 < x18 →
          w_gi G13 z16 4 0 (fun x19 =>
          wp_X2_lastKind_73 E post (wp_X2_lastKind_23 E post n) y2 y3 (some z9) x19 G13 (mc - c14) (ms - t15)
        ))
      ))
    )))))
def wp_X2_lastKind (E : g_E) (G : g_G) (o : Nat) (p1 : Int32) (p2 : Int32) (p3 : Int32) (mc0 ms0 : Nat) (post : Int32 → g_G → Prop) : Prop :=
  w_gr G o 1 1 (fun x1 =>
  w_rc G x1 9 ∧
  wp_J7_get E G x1 p1 (fun x2 =>
  w_cc G x2 9 (fun z4 =>
  ∃ c7 t8 : Nat, c7 ≤ mc0 ∧ t8 ≤ ms0 ∧
  w_rc G z4 9 ∧
  wp_J7_iterator E G z4 c7 t8 (fun x5 G6 =>
  ∃ nf : Nat, wp_X2_lastKind_23 E post nf p2 p3 (-nI 1) x5 G6 (mc0 - c7) (ms0 - t8)))))
def wp_X2_outcome (E : g_E) (G : g_G) (o : Nat) (p1 : Int32) (mc0 ms0 : Nat) (post : Int32 → g_G → Prop) : Prop :=
  ∃ c3 t4 : Nat, c3 ≤ mc0 ∧ t4 ≤ ms0 ∧
  w_rc G o 1 ∧
  wp_X2_lastKind E G o (nI 4) p1 (nI 2) c3 t4 (fun x1 G2 =>
  post x1 G2)
def wp_X2_isUndecided (E : g_E) (G : g_G) (o : Nat) (p1 : Int32) (mc0 ms0 : Nat) (post : Int32 → g_G → Prop) : Prop :=
  ∃ c3 t4 : Nat, c3 ≤ mc0 ∧ t4 ≤ ms0 ∧
  w_rc G o 1 ∧
  wp_X2_outcome E G o p1 c3 t4 (fun x1 G2 =>
  (¬ x1 = 0 →
    post (nI 0) G2
  ) ∧ (x1 = 0 →
    post (nI 1) G2
  ))
def wp_X4_partners (E : g_E) (G : g_G) (o : Nat) (post : Int32 → Prop) : Prop :=
  w_gi G o 3 1 (fun x1 =>
  w_gi G o 3 0 (fun x2 =>
  post (x1 ||| ((nI 1) <<< (x2 &&& 31)))))
def wp_X2_tells (E : g_E) (G : g_G) (p1 : Int32) (post : Option Nat → Prop) : Prop :=
  (¬ p1 = (nI 1) →
    post (some (g_k E 4))
  ) ∧ (p1 = (nI 1) →
    post (some (g_k E 3))
  )
def wp_X2_sendsToAll_43 (E : g_E) (post : g_G → Prop) (B20 : Nat → Nat → Int32 → Int32 → Int32 → g_G → Nat → Nat → Prop) (y0 : Nat) (y1 : Nat) (y2 : Int32) (y3 : Int32) (y4 : Int32) (G : g_G) (mc : Nat) (ms : Nat) : Prop :=
    B20 y0 y1 y2 y3 (y4 + (nI 1)) G mc ms
def wp_X2_sendsToAll_20 (E : g_E) (post : g_G → Prop) : Nat → Nat → Nat → Int32 → Int32 → Int32 → g_G → Nat → Nat → Prop
  | 0 => fun _ _ _ _ _ _ _ _ => False
  | n + 1 => fun y0 y1 y2 y3 y4 G mc ms =>
    ((nI 4) ≤ y4 →
      post G
    ) ∧ (¬ (nI 4) ≤ y4 →
      wp_X1_has E G y3 y4 (fun x7 =>
      (x7 = 0 →
        wp_X2_sendsToAll_43 E post (wp_X2_sendsToAll_20 E post n) y0 y1 y2 y3 y4 G mc ms
      ) ∧ (¬ x7 = 0 →
        ∃ c11 t12 : Nat, c11 ≤ mc ∧ t12 ≤ ms ∧
        w_rc G y0 1 ∧
        wp_X2_sends E G y0 y1 y2 y4 c11 t12 (fun G10 =>
        wp_X2_sendsToAll_43 E post (wp_X2_sendsToAll_20 E post n) y0 y1 y2 y3 y4 G10 (mc - c11) (ms - t12)
      ))
    ))
def wp_X2_sendsToAll (E : g_E) (G : g_G) (o : Nat) (p1 : Nat) (p2 : Int32) (mc0 ms0 : Nat) (post : g_G → Prop) : Prop :=
  w_gr G o 1 0 (fun x1 =>
  w_rc G x1 9 ∧
  wp_J7_get E G x1 p2 (fun x2 =>
  w_cc G x2 3 (fun z4 =>
  w_rc G z4 3 ∧
  wp_X4_partners E G z4 (fun x5 =>
  ∃ nf : Nat, wp_X2_sendsToAll_20 E post nf o p1 p2 x5 (nI 0) G mc0 ms0))))
def wp_X2_decides (E : g_E) (G : g_G) (o : Nat) (p1 : Int32) (p2 : Int32) (mc0 ms0 : Nat) (post : g_G → Prop) : Prop :=
  ∃ c3 t4 : Nat, c3 ≤ mc0 ∧ t4 ≤ ms0 ∧
  w_rc G o 1 ∧
  wp_X2_writes E G o (nI 4) p2 p1 c3 t4 (fun G2 =>
  wp_X2_tells E G2 p2 (fun x5 =>
  ∃ z7 : Nat, x5 = some z7 ∧
  ∃ c10 t11 : Nat, c10 ≤ (mc0 - c3) ∧ t11 ≤ (ms0 - t4) ∧
  w_rc G2 o 1 ∧
  wp_X2_sendsToAll E G2 o z7 p1 c10 t11 (fun G9 =>
  post G9)))
def wp_X2_hearsYes (E : g_E) (G : g_G) (o : Nat) (p1 : Nat) (mc0 ms0 : Nat) (post : g_G → Prop) : Prop :=
  w_gi G p1 5 1 (fun x1 =>
  ∃ c4 t5 : Nat, c4 ≤ mc0 ∧ t5 ≤ ms0 ∧
  w_rc G o 1 ∧
  wp_X2_isUndecided E G o x1 c4 t5 (fun x2 G3 =>
  (x2 = 0 →
    post G3
  ) ∧ (¬ x2 = 0 →
    w_gr G3 o 1 5 (fun x6 =>
    w_ild E G3 x6 x1 (fun x7 =>
    w_gi G3 p1 5 2 (fun x8 =>
    w_ist E G3 x6 x1 (x7 ||| ((nI 1) <<< (x8 &&& 31))) (fun G9 =>
    w_gr G9 o 1 5 (fun x10 =>
    w_ild E G9 x10 x1 (fun x11 =>
    w_gr G9 o 1 0 (fun x12 =>
    w_rc G9 x12 9 ∧
    wp_J7_get E G9 x12 x1 (fun x13 =>
    w_cc G9 x13 3 (fun z15 =>
    w_rc G9 z15 3 ∧
    wp_X4_partners E G9 z15 (fun x16 =>
    (¬ x11 = x16 →
      post G9
    ) ∧ (x11 = x16 →
      ∃ c20 t21 : Nat, c20 ≤ (mc0 - c4) ∧ t21 ≤ (ms0 - t5) ∧
      w_rc G9 o 1 ∧
      wp_X2_decides E G9 o x1 (nI 1) c20 t21 (fun G19 =>
      post G19
    ))
  )))))))))))))
def wp_X11_comes (E : g_E) (G : g_G) (o : Nat) (p1 : Nat) (p2 : Nat) (mc0 ms0 : Nat) (post : g_G → Prop) : Prop :=
  ∃ c3 t4 : Nat, c3 ≤ mc0 ∧ t4 ≤ ms0 ∧
  w_rc G p1 1 ∧
  wp_X2_hearsYes E G p1 p2 c3 t4 (fun G2 =>
  post G2)
def wp_X2_hearsNo (E : g_E) (G : g_G) (o : Nat) (p1 : Nat) (mc0 ms0 : Nat) (post : g_G → Prop) : Prop :=
  w_gi G p1 5 1 (fun x1 =>
  ∃ c4 t5 : Nat, c4 ≤ mc0 ∧ t5 ≤ ms0 ∧
  w_rc G o 1 ∧
  wp_X2_isUndecided E G o x1 c4 t5 (fun x2 G3 =>
  (x2 = 0 →
    post G3
  ) ∧ (¬ x2 = 0 →
    w_gi G3 p1 5 1 (fun x6 =>
    ∃ c9 t10 : Nat, c9 ≤ (mc0 - c4) ∧ t10 ≤ (ms0 - t5) ∧
    w_rc G3 o 1 ∧
    wp_X2_decides E G3 o x6 (nI 2) c9 t10 (fun G8 =>
    post G8
  )))))
def wp_X12_comes (E : g_E) (G : g_G) (o : Nat) (p1 : Nat) (p2 : Nat) (mc0 ms0 : Nat) (post : g_G → Prop) : Prop :=
  ∃ c3 t4 : Nat, c3 ≤ mc0 ∧ t4 ≤ ms0 ∧
  w_rc G p1 1 ∧
  wp_X2_hearsNo E G p1 p2 c3 t4 (fun G2 =>
  post G2)
def wp_X2_hearsMake_60 (E : g_E) (post : g_G → Prop) (y0 : Nat) (y2 : Int32) (y3 : Int32) (G : g_G) (mc : Nat) (ms : Nat) : Prop :=
    ∃ c7 t8 : Nat, c7 ≤ mc ∧ t8 ≤ ms ∧
    w_rc G y0 1 ∧
    wp_X2_sends E G y0 (g_k E 5) y3 y2 c7 t8 (fun G6 =>
    post G6)
def wp_X2_hearsMake (E : g_E) (G : g_G) (o : Nat) (p1 : Nat) (mc0 ms0 : Nat) (post : g_G → Prop) : Prop :=
  w_gi G p1 5 2 (fun x1 =>
  w_gi G p1 5 1 (fun x2 =>
  w_rc G o 1 ∧
  wp_X2_state E G o x1 x2 (fun x3 =>
  (¬ x3 = (nI 1) →
    wp_X2_hearsMake_60 E post o x1 x2 G mc0 ms0
  ) ∧ (x3 = (nI 1) →
    ∃ c11 t12 : Nat, c11 ≤ mc0 ∧ t12 ≤ ms0 ∧
    w_rc G o 1 ∧
    wp_X2_writes E G o x1 (nI 1) x2 c11 t12 (fun G10 =>
    w_rc G10 o 1 ∧
    wp_X2_becomes E G10 o x1 x2 (nI 2) (fun G14 =>
    w_gr G14 o 1 3 (fun x15 =>
    w_ild E G14 x15 x1 (fun x16 =>
    w_gr G14 o 1 0 (fun x17 =>
    w_rc G14 x17 9 ∧
    wp_J7_get E G14 x17 x2 (fun x18 =>
    w_cc G14 x18 3 (fun z20 =>
    w_rc G14 z20 3 ∧
    wp_X4_share E G14 z20 x1 (fun x21 =>
    w_ist E G14 x15 x1 (x16 + x21) (fun G23 =>
    wp_X2_hearsMake_60 E post o x1 x2 G23 (mc0 - c11) (ms0 - t12)
  )))))))))))))
def wp_X13_comes (E : g_E) (G : g_G) (o : Nat) (p1 : Nat) (p2 : Nat) (mc0 ms0 : Nat) (post : g_G → Prop) : Prop :=
  ∃ c3 t4 : Nat, c3 ≤ mc0 ∧ t4 ≤ ms0 ∧
  w_rc G p1 1 ∧
  wp_X2_hearsMake E G p1 p2 c3 t4 (fun G2 =>
  post G2)
def wp_X2_hearsDrop_43 (E : g_E) (post : g_G → Prop) (y0 : Nat) (y2 : Int32) (y3 : Int32) (G : g_G) (mc : Nat) (ms : Nat) : Prop :=
    ∃ c7 t8 : Nat, c7 ≤ mc ∧ t8 ≤ ms ∧
    w_rc G y0 1 ∧
    wp_X2_sends E G y0 (g_k E 5) y3 y2 c7 t8 (fun G6 =>
    post G6)
def wp_X2_hearsDrop_29 (E : g_E) (post : g_G → Prop) (B43 : Nat → Int32 → Int32 → g_G → Nat → Nat → Prop) (y0 : Nat) (y2 : Int32) (y3 : Int32) (G : g_G) (mc : Nat) (ms : Nat) : Prop :=
    ∃ c11 t12 : Nat, c11 ≤ mc ∧ t12 ≤ ms ∧
    w_rc G y0 1 ∧
    wp_X2_writes E G y0 y2 (nI 2) y3 c11 t12 (fun G10 =>
    w_rc G10 y0 1 ∧
    wp_X2_becomes E G10 y0 y2 y3 (nI 3) (fun G14 =>
    B43 y0 y2 y3 G14 (mc - c11) (ms - t12)))
def wp_X2_hearsDrop (E : g_E) (G : g_G) (o : Nat) (p1 : Nat) (mc0 ms0 : Nat) (post : g_G → Prop) : Prop :=
  w_gi G p1 5 2 (fun x1 =>
  w_gi G p1 5 1 (fun x2 =>
  w_rc G o 1 ∧
  wp_X2_state E G o x1 x2 (fun x3 =>
  (x3 = 0 →
    wp_X2_hearsDrop_29 E post (wp_X2_hearsDrop_43 E post) o x1 x2 G mc0 ms0
  ) ∧ (¬ x3 = 0 →
    w_rc G o 1 ∧
    wp_X2_state E G o x1 x2 (fun x15 =>
    (¬ x15 = (nI 1) →
      wp_X2_hearsDrop_43 E post o x1 x2 G mc0 ms0
    ) ∧ (x15 = (nI 1) →
      wp_X2_hearsDrop_29 E post (wp_X2_hearsDrop_43 E post) o x1 x2 G mc0 ms0
    )
  )))))
def wp_X14_comes (E : g_E) (G : g_G) (o : Nat) (p1 : Nat) (p2 : Nat) (mc0 ms0 : Nat) (post : g_G → Prop) : Prop :=
  ∃ c3 t4 : Nat, c3 ≤ mc0 ∧ t4 ≤ ms0 ∧
  w_rc G p1 1 ∧
  wp_X2_hearsDrop E G p1 p2 c3 t4 (fun G2 =>
  post G2)
def wp_X2_hasEnded (E : g_E) (G : g_G) (o : Nat) (p1 : Int32) (mc0 ms0 : Nat) (post : Int32 → g_G → Prop) : Prop :=
  ∃ c3 t4 : Nat, c3 ≤ mc0 ∧ t4 ≤ ms0 ∧
  w_rc G o 1 ∧
  wp_X2_lastKind E G o (nI 4) p1 (nI 3) c3 t4 (fun x1 G2 =>
  (¬ x1 = (nI 3) →
    post (nI 0) G2
  ) ∧ (x1 = (nI 3) →
    post (nI 1) G2
  ))
def wp_X2_hearsDone (E : g_E) (G : g_G) (o : Nat) (p1 : Nat) (mc0 ms0 : Nat) (post : g_G → Prop) : Prop :=
  w_gi G p1 5 1 (fun x1 =>
  w_gr G o 1 6 (fun x2 =>
  w_ild E G x2 x1 (fun x3 =>
  w_gi G p1 5 2 (fun x4 =>
  w_ist E G x2 x1 (x3 ||| ((nI 1) <<< (x4 &&& 31))) (fun G5 =>
  w_gr G5 o 1 6 (fun x6 =>
  w_ild E G5 x6 x1 (fun x7 =>
  w_gr G5 o 1 0 (fun x8 =>
  w_rc G5 x8 9 ∧
  wp_J7_get E G5 x8 x1 (fun x9 =>
  w_cc G5 x9 3 (fun z11 =>
  w_rc G5 z11 3 ∧
  wp_X4_partners E G5 z11 (fun x12 =>
  (¬ x7 = x12 →
    post G5
  ) ∧ (x7 = x12 →
    ∃ c16 t17 : Nat, c16 ≤ mc0 ∧ t17 ≤ ms0 ∧
    w_rc G5 o 1 ∧
    wp_X2_hasEnded E G5 o x1 c16 t17 (fun x14 G15 =>
    (¬ x14 = 0 →
      post G15
    ) ∧ (x14 = 0 →
      ∃ c20 t21 : Nat, c20 ≤ (mc0 - c16) ∧ t21 ≤ (ms0 - t17) ∧
      w_rc G15 o 1 ∧
      wp_X2_writes E G15 o (nI 4) (nI 3) x1 c20 t21 (fun G19 =>
      post G19
    ))
  )))))))))))))
def wp_X15_comes (E : g_E) (G : g_G) (o : Nat) (p1 : Nat) (p2 : Nat) (mc0 ms0 : Nat) (post : g_G → Prop) : Prop :=
  ∃ c3 t4 : Nat, c3 ≤ mc0 ∧ t4 ≤ ms0 ∧
  w_rc G p1 1 ∧
  wp_X2_hearsDone E G p1 p2 c3 t4 (fun G2 =>
  post G2)
def wp_X2_hearsWhatNow (E : g_E) (G : g_G) (o : Nat) (p1 : Nat) (mc0 ms0 : Nat) (post : g_G → Prop) : Prop :=
  w_gi G p1 5 1 (fun x1 =>
  ∃ c4 t5 : Nat, c4 ≤ mc0 ∧ t5 ≤ ms0 ∧
  w_rc G o 1 ∧
  wp_X2_isUndecided E G o x1 c4 t5 (fun x2 G3 =>
  (¬ x2 = 0 →
    post G3
  ) ∧ (x2 = 0 →
    w_gi G3 p1 5 1 (fun x6 =>
    ∃ c9 t10 : Nat, c9 ≤ (mc0 - c4) ∧ t10 ≤ (ms0 - t5) ∧
    w_rc G3 o 1 ∧
    wp_X2_outcome E G3 o x6 c9 t10 (fun x7 G8 =>
    wp_X2_tells E G8 x7 (fun x11 =>
    w_gi G8 p1 5 1 (fun x13 =>
    w_gi G8 p1 5 2 (fun x14 =>
    ∃ z15 : Nat, x11 = some z15 ∧
    ∃ c18 t19 : Nat, c18 ≤ (mc0 - c4 - c9) ∧ t19 ≤ (ms0 - t5 - t10) ∧
    w_rc G8 o 1 ∧
    wp_X2_sends E G8 o z15 x13 x14 c18 t19 (fun G17 =>
    post G17
  )))))))))
def wp_X16_comes (E : g_E) (G : g_G) (o : Nat) (p1 : Nat) (p2 : Nat) (mc0 ms0 : Nat) (post : g_G → Prop) : Prop :=
  ∃ c3 t4 : Nat, c3 ≤ mc0 ∧ t4 ≤ ms0 ∧
  w_rc G p1 1 ∧
  wp_X2_hearsWhatNow E G p1 p2 c3 t4 (fun G2 =>
  post G2)
def w_comes (E : g_E) (G : g_G) (v : Option Nat) (o msg mc ms : Nat) (K : g_G → Prop) : Prop := ∃ i, i < 7 ∧ v = some (g_k E i) ∧ (i = 0 → wp_X10_comes E G (g_k E 0) o msg mc ms K) ∧ (i = 1 → wp_X11_comes E G (g_k E 1) o msg mc ms K) ∧ (i = 2 → wp_X12_comes E G (g_k E 2) o msg mc ms K) ∧ (i = 3 → wp_X13_comes E G (g_k E 3) o msg mc ms K) ∧ (i = 4 → wp_X14_comes E G (g_k E 4) o msg mc ms K) ∧ (i = 5 → wp_X15_comes E G (g_k E 5) o msg mc ms K) ∧ (i = 6 → wp_X16_comes E G (g_k E 6) o msg mc ms K)
def wp_X2_delivers (E : g_E) (G : g_G) (o : Nat) (p1 : Int32) (mc0 ms0 : Nat) (post : Int32 → g_G → Prop) : Prop :=
  w_gr G o 1 2 (fun x1 =>
  w_rc G x1 9 ∧
  wp_J7_remove E G x1 p1 (fun x2 G3 =>
  w_cc G3 x2 5 (fun z4 =>
  w_rc G3 z4 5 ∧
  wp_X6_receiver E G3 z4 (fun x5 =>
  w_rc G3 o 1 ∧
  wp_X2_isUp E G3 o x5 (fun x7 =>
  (x7 = 0 →
    w_gi G3 o 1 10 (fun x9 =>
    w_put G3 o 1 10 (.int (x9 + (nI 1))) (fun G10 =>
    narrow .boolean (.int x7) = .int x7 ∧ post x7 G10
  ))) ∧ (¬ x7 = 0 →
    w_gi G3 o 1 9 (fun x11 =>
    w_put G3 o 1 9 (.int (x11 + (nI 1))) (fun G12 =>
    w_gr G12 z4 5 0 (fun x13 =>
    ∃ c14 t15 : Nat, c14 ≤ mc0 ∧ t15 ≤ ms0 ∧ w_comes E G12 (some x13) o z4 c14 t15 (fun G16 =>
    narrow .boolean (.int x7) = .int x7 ∧ post x7 G16
  ))))))))))
def wp_X2_deliversFirst_2 (E : g_E) (post : Int32 → g_G → Prop) : Nat → Nat → Int32 → Int32 → g_G → Nat → Nat → Prop
  | 0 => fun _ _ _ _ _ _ => False
  | n + 1 => fun y0 y1 y2 G mc ms =>
    (y1 ≤ y2 →
      post y2 G
    ) ∧ (¬ y1 ≤ y2 →
      w_gr G y0 1 2 (fun x1 =>
      w_rc G x1 9 ∧
      wp_J7_isEmpty E G x1 (fun x2 =>
      (¬ x2 = 0 →
        post y2 G
      ) ∧ (x2 = 0 →
        ∃ c6 t7 : Nat, c6 ≤ mc ∧ t7 ≤ ms ∧
        w_rc G y0 1 ∧
        wp_X2_delivers E G y0 (nI 0) c6 t7 (fun x4 G5 =>
        wp_X2_deliversFirst_2 E post n y0 y1 (y2 + (nI 1)) G5 (mc - c6) (ms - t7)
      ))
    )))
def wp_X2_deliversFirst (E : g_E) (G : g_G) (o : Nat) (p1 : Int32) (mc0 ms0 : Nat) (post : Int32 → g_G → Prop) : Prop :=
  ∃ nf : Nat, wp_X2_deliversFirst_2 E post nf o p1 (nI 0) G mc0 ms0
def wp_X2_total (E : g_E) (G : g_G) (o : Nat) (post : Int32 → Prop) : Prop :=
  w_gr G o 1 3 (fun x1 =>
  w_ild E G x1 (nI 0) (fun x2 =>
  w_gr G o 1 3 (fun x3 =>
  w_ild E G x3 (nI 1) (fun x4 =>
  w_gr G o 1 3 (fun x5 =>
  w_ild E G x5 (nI 2) (fun x6 =>
  w_gr G o 1 3 (fun x7 =>
  w_ild E G x7 (nI 3) (fun x8 =>
  post (((x2 + x4) + x6) + x8)))))))))
def wp_X2_onTheWay_80 (E : g_E) (post : Int32 → g_G → Prop) (B4 : Nat → Int32 → Int32 → g_G → Nat → Nat → Prop) (y0 : Nat) (y2 : Int32) (s0 : Int32) (s1 : Int32) (G : g_G) (mc : Nat) (ms : Nat) : Prop :=
    B4 y0 (s1 + s0) (y2 + (nI 1)) G mc ms
def wp_X2_onTheWay_49 (E : g_E) (post : Int32 → g_G → Prop) (B4 : Nat → Int32 → Int32 → g_G → Nat → Nat → Prop) (y0 : Nat) (y1 : Int32) (y2 : Int32) (s0 : Int32) (G : g_G) (mc : Nat) (ms : Nat) : Prop :=
    (s0 = 0 →
      wp_X2_onTheWay_80 E post B4 y0 y2 (nI 0) y1 G mc ms
    ) ∧ (¬ s0 = 0 →
      w_gr G y0 1 0 (fun x8 =>
      w_rc G x8 9 ∧
      wp_J7_get E G x8 (y2 / (nI 4)) (fun x9 =>
      w_cc G x9 3 (fun z11 =>
      w_rc G z11 3 ∧
      wp_X4_share E G z11 (y2 - y2 / (nI 4) * (nI 4)) (fun x12 =>
      wp_X2_onTheWay_80 E post B4 y0 y2 x12 y1 G mc ms
    )))))
def wp_X2_onTheWay_48 (E : g_E) (post : Int32 → g_G → Prop) (B49 : Nat → Int32 → Int32 → Int32 → g_G → Nat → Nat → Prop) (y0 : Nat) (y1 : Int32) (y2 : Int32) (G : g_G) (mc : Nat) (ms : Nat) : Prop :=
    B49 y0 y1 y2 (nI 0) G mc ms
def wp_X2_onTheWay_4 (E : g_E) (post : Int32 → g_G → Prop) : Nat → Nat → Int32 → Int32 → g_G → Nat → Nat → Prop
  | 0 => fun _ _ _ _ _ _ => False
  | n + 1 => fun y0 y1 y2 G mc ms =>
    w_gr G y0 1 0 (fun x1 =>
    w_rc G x1 9 ∧
    wp_J7_size E G x1 (fun x2 =>
    ((x2 * (nI 4)) ≤ y2 →
      post y1 G
    ) ∧ (¬ (x2 * (nI 4)) ≤ y2 →
      ∃ c6 t7 : Nat, c6 ≤ mc ∧ t7 ≤ ms ∧
      w_rc G y0 1 ∧
      wp_X2_outcome E G y0 (y2 / (nI 4)) c6 t7 (fun x4 G5 =>
      (¬ x4 = (nI 1) →
        wp_X2_onTheWay_48 E post (wp_X2_onTheWay_49 E post (wp_X2_onTheWay_4 E post n)) y0 y1 y2 G5 (mc - c6) (ms - t7)
      ) ∧ (x4 = (nI 1) →
        w_rc G5 y0 1 ∧
        wp_X2_state E G5 y0 (y2 - y2 / (nI 4) * (nI 4)) (y2 / (nI 4)) (fun x14 =>
        (x14 = (nI 2) →
          wp_X2_onTheWay_48 E post (wp_X2_onTheWay_49 E post (wp_X2_onTheWay_4 E post n)) y0 y1 y2 G5 (mc - c6) (ms - t7)
        ) ∧ (¬ x14 = (nI 2) →
          wp_X2_onTheWay_49 E post (wp_X2_onTheWay_4 E post n) y0 y1 y2 (nI 1) G5 (mc - c6) (ms - t7)
        )
      ))
    ))))
def wp_X2_onTheWay (E : g_E) (G : g_G) (o : Nat) (mc0 ms0 : Nat) (post : Int32 → g_G → Prop) : Prop :=
  ∃ nf : Nat, wp_X2_onTheWay_4 E post nf o (nI 0) (nI 0) G mc0 ms0
def wp_X2_clerkRecovers (E : g_E) (G : g_G) (o : Nat) (p1 : Int32) (mc0 ms0 : Nat) (post : g_G → Prop) : Prop :=
  ∃ c3 t4 : Nat, c3 ≤ mc0 ∧ t4 ≤ ms0 ∧
  w_rc G o 1 ∧
  wp_X2_isUndecided E G o p1 c3 t4 (fun x1 G2 =>
  (x1 = 0 →
    ∃ c7 t8 : Nat, c7 ≤ (mc0 - c3) ∧ t8 ≤ (ms0 - t4) ∧
    w_rc G2 o 1 ∧
    wp_X2_hasEnded E G2 o p1 c7 t8 (fun x5 G6 =>
    (¬ x5 = 0 →
      post G6
    ) ∧ (x5 = 0 →
      ∃ c11 t12 : Nat, c11 ≤ (mc0 - c3 - c7) ∧ t12 ≤ (ms0 - t4 - t8) ∧
      w_rc G6 o 1 ∧
      wp_X2_outcome E G6 o p1 c11 t12 (fun x9 G10 =>
      wp_X2_tells E G10 x9 (fun x13 =>
      ∃ z15 : Nat, x13 = some z15 ∧
      ∃ c18 t19 : Nat, c18 ≤ (mc0 - c3 - c7 - c11) ∧ t19 ≤ (ms0 - t4 - t8 - t12) ∧
      w_rc G10 o 1 ∧
      wp_X2_sendsToAll E G10 o z15 p1 c18 t19 (fun G17 =>
      post G17
    ))))
  )) ∧ (¬ x1 = 0 →
    ∃ c22 t23 : Nat, c22 ≤ (mc0 - c3) ∧ t23 ≤ (ms0 - t4) ∧
    w_rc G2 o 1 ∧
    wp_X2_decides E G2 o p1 (nI 2) c22 t23 (fun G21 =>
    post G21
  )))
def wp_X2_recovers_59 (E : g_E) (post : Int32 → g_G → Prop) (B14 : Nat → Int32 → Int32 → g_G → Nat → Nat → Prop) (y0 : Nat) (y1 : Int32) (y2 : Int32) (G : g_G) (mc : Nat) (ms : Nat) : Prop :=
    B14 y0 y1 (y2 + (nI 1)) G mc ms
def wp_X2_recovers_14 (E : g_E) (post : Int32 → g_G → Prop) : Nat → Nat → Int32 → Int32 → g_G → Nat → Nat → Prop
  | 0 => fun _ _ _ _ _ _ => False
  | n + 1 => fun y0 y1 y2 G mc ms =>
    w_gr G y0 1 0 (fun x3 =>
    w_rc G x3 9 ∧
    wp_J7_size E G x3 (fun x4 =>
    (x4 ≤ y2 →
      w_gr G y0 1 2 (fun x6 =>
      w_rc G x6 9 ∧
      wp_J7_size E G x6 (fun x7 =>
      post x7 G
    ))) ∧ (¬ x4 ≤ y2 →
      (¬ y1 = (nI 4) →
        w_rc G y0 1 ∧
        wp_X2_state E G y0 y1 y2 (fun x9 =>
        (¬ x9 = (nI 1) →
          wp_X2_recovers_59 E post (wp_X2_recovers_14 E post n) y0 y1 y2 G mc ms
        ) ∧ (x9 = (nI 1) →
          ∃ c13 t14 : Nat, c13 ≤ mc ∧ t14 ≤ ms ∧
          w_rc G y0 1 ∧
          wp_X2_sends E G y0 (g_k E 6) y2 y1 c13 t14 (fun G12 =>
          wp_X2_recovers_59 E post (wp_X2_recovers_14 E post n) y0 y1 y2 G12 (mc - c13) (ms - t14)
        ))
      )) ∧ (y1 = (nI 4) →
        ∃ c17 t18 : Nat, c17 ≤ mc ∧ t18 ≤ ms ∧
        w_rc G y0 1 ∧
        wp_X2_clerkRecovers E G y0 y2 c17 t18 (fun G16 =>
        wp_X2_recovers_59 E post (wp_X2_recovers_14 E post n) y0 y1 y2 G16 (mc - c17) (ms - t18)
      ))
    )))
def wp_X2_recovers (E : g_E) (G : g_G) (o : Nat) (p1 : Int32) (mc0 ms0 : Nat) (post : Int32 → g_G → Prop) : Prop :=
  w_gi G o 1 7 (fun x1 =>
  w_put G o 1 7 (.int (x1 ||| ((nI 1) <<< (p1 &&& 31)))) (fun G2 =>
  ∃ nf : Nat, wp_X2_recovers_14 E post nf o p1 (nI 0) G2 mc0 ms0))
def wp_X2_settles_27 (E : g_E) (post : Int32 → g_G → Prop) (B2 : Nat → Int32 → g_G → Nat → Nat → Prop) (y0 : Nat) (y1 : Int32) (G : g_G) (mc : Nat) (ms : Nat) : Prop :=
    B2 y0 (y1 + (nI 1)) G mc ms
def wp_X2_settles_2 (E : g_E) (post : Int32 → g_G → Prop) : Nat → Nat → Int32 → g_G → Nat → Nat → Prop
  | 0 => fun _ _ _ _ _ => False
  | n + 1 => fun y0 y1 G mc ms =>
    ((nI 5) ≤ y1 →
      ∃ c3 t4 : Nat, c3 ≤ mc ∧ t4 ≤ ms ∧
      w_rc G y0 1 ∧
      wp_X2_deliversFirst E G y0 (nI 2147483647) c3 t4 (fun x1 G2 =>
      post x1 G2
    )) ∧ (¬ (nI 5) ≤ y1 →
      w_rc G y0 1 ∧
      wp_X2_isUp E G y0 (((nI 4) + y1) - ((nI 4) + y1) / (nI 5) * (nI 5)) (fun x5 =>
      (¬ x5 = 0 →
        wp_X2_settles_27 E post (wp_X2_settles_2 E post n) y0 y1 G mc ms
      ) ∧ (x5 = 0 →
        ∃ c9 t10 : Nat, c9 ≤ mc ∧ t10 ≤ ms ∧
        w_rc G y0 1 ∧
        wp_X2_recovers E G y0 (((nI 4) + y1) - ((nI 4) + y1) / (nI 5) * (nI 5)) c9 t10 (fun x7 G8 =>
        wp_X2_settles_27 E post (wp_X2_settles_2 E post n) y0 y1 G8 (mc - c9) (ms - t10)
      ))
    ))
def wp_X2_settles (E : g_E) (G : g_G) (o : Nat) (mc0 ms0 : Nat) (post : Int32 → g_G → Prop) : Prop :=
  ∃ nf : Nat, wp_X2_settles_2 E post nf o (nI 0) G mc0 ms0
def wp_X2_sizes_12 (E : g_E) (post : Int32 → g_G → Prop) : Nat → Int32 → Option Nat → g_G → Nat → Nat → Prop
  | 0 => fun _ _ _ _ _ => False
  | n + 1 => fun y1 y2 G mc ms =>
    ∃ z6 : Nat, y2 = some z6 ∧
    w_rc G z6 10 ∧
    wp_J21_hasNext E G z6 (fun x7 =>
    (x7 = 0 →
      post y1 G
    ) ∧ (¬ x7 = 0 →
      ∃ c11 t12 : Nat, c11 ≤ mc ∧ t12 ≤ ms ∧
      w_rc G z6 10 ∧
      wp_J21_next E G z6 c11 t12 (fun x9 G10 =>
      w_cc G10 x9 3 (fun z13 =>
      w_gi G10 z13 3 2 (fun x14 =>
      wp_X2_sizes_12 E post n (y1 + x14) (some z6) G10 (mc - c11) (ms - t12)
    )))))
def wp_X2_sizes (E : g_E) (G : g_G) (o : Nat) (mc0 ms0 : Nat) (post : Int32 → g_G → Prop) : Prop :=
  w_gr G o 1 0 (fun x1 =>
  ∃ c4 t5 : Nat, c4 ≤ mc0 ∧ t5 ≤ ms0 ∧
  w_rc G x1 9 ∧
  wp_J7_iterator E G x1 c4 t5 (fun x2 G3 =>
  ∃ nf : Nat, wp_X2_sizes_12 E post nf (nI 0) x2 G3 (mc0 - c4) (ms0 - t5)))
def wp_X2_outcomeByStores_39 (E : g_E) (G : g_G) (post : Int32 → Prop) (B4 : Nat → Int32 → Int32 → Int32 → Prop) (y0 : Nat) (y1 : Int32) (y3 : Int32) (s0 : Int32) (s1 : Int32) : Prop :=
    B4 y0 y1 (s1 ||| s0) (y3 + (nI 1))
def wp_X2_outcomeByStores_4 (E : g_E) (G : g_G) (post : Int32 → Prop) : Nat → Nat → Int32 → Int32 → Int32 → Prop
  | 0 => fun _ _ _ _ => False
  | n + 1 => fun y0 y1 y2 y3 =>
    ((nI 4) ≤ y3 →
      post y2
    ) ∧ (¬ (nI 4) ≤ y3 →
      w_rc G y0 1 ∧
      wp_X2_state E G y0 y3 y1 (fun x1 =>
      (¬ x1 = (nI 2) →
        (¬ x1 = (nI 3) →
          wp_X2_outcomeByStores_39 E G post (wp_X2_outcomeByStores_4 E G post n) y0 y1 y3 (nI 0) y2
        ) ∧ (x1 = (nI 3) →
          wp_X2_outcomeByStores_39 E G post (wp_X2_outcomeByStores_4 E G post n) y0 y1 y3 (nI 2) y2
        )
      ) ∧ (x1 = (nI 2) →
        wp_X2_outcomeByStores_39 E G post (wp_X2_outcomeByStores_4 E G post n) y0 y1 y3 (nI 1) y2
      )
    ))
def wp_X2_outcomeByStores (E : g_E) (G : g_G) (o : Nat) (p1 : Int32) (post : Int32 → Prop) : Prop :=
  ∃ nf : Nat, wp_X2_outcomeByStores_4 E G post nf o p1 (nI 0) (nI 0)
def wp_X2_stateByLog (E : g_E) (G : g_G) (o : Nat) (p1 : Int32) (p2 : Int32) (mc0 ms0 : Nat) (post : Int32 → g_G → Prop) : Prop :=
  ∃ c3 t4 : Nat, c3 ≤ mc0 ∧ t4 ≤ ms0 ∧
  w_rc G o 1 ∧
  wp_X2_lastKind E G o p1 p2 (nI 4) c3 t4 (fun x1 G2 =>
  (¬ x1 = (-nI 1) →
    (¬ x1 = (nI 4) →
      (¬ x1 = (nI 1) →
        post (nI 3) G2
      ) ∧ (x1 = (nI 1) →
        post (nI 2) G2
      )
    ) ∧ (x1 = (nI 4) →
      post (nI 1) G2
    )
  ) ∧ (x1 = (-nI 1) →
    post (nI 0) G2
  ))
def wp_X2_amountByLog_77 (E : g_E) (post : Int32 → g_G → Prop) (B22 : Nat → Int32 → Int32 → Option Nat → g_G → Nat → Nat → Prop) (y0 : Nat) (y1 : Int32) (y3 : Option Nat) (s0 : Int32) (s1 : Int32) (G : g_G) (mc : Nat) (ms : Nat) : Prop :=
    B22 y0 y1 (s1 + s0) y3 G mc ms
def wp_X2_amountByLog_22 (E : g_E) (post : Int32 → g_G → Prop) : Nat → Nat → Int32 → Int32 → Option Nat → g_G → Nat → Nat → Prop
  | 0 => fun _ _ _ _ _ _ _ => False
  | n + 1 => fun y0 y1 y2 y3 G mc ms =>
    ∃ z9 : Nat, y3 = some z9 ∧
    w_rc G z9 10 ∧
    wp_J21_hasNext E G z9 (fun x10 =>
    (x10 = 0 →
      post y2 G
    ) ∧ (¬ x10 = 0 →
      ∃ c14 t15 : Nat, c14 ≤ mc ∧ t15 ≤ ms ∧
      w_rc G z9 10 ∧
      wp_J21_next E G z9 c14 t15 (fun x12 G13 =>
      w_cc G13 x12 4 (fun z16 =>
      w_gi G13 z16 4 0 (fun x17 =>
      (¬ x17 = (nI 1) →
        wp_X2_amountByLog_77 E post (wp_X2_amountByLog_22 E post n) y0 y1 (some z9) (nI 0) y2 G13 (mc - c14) (ms - t15)
      ) ∧ (x17 = (nI 1) →
        w_gr G13 y0 1 0 (fun x18 =>
        w_gi G13 z16 4 1 (fun x19 =>
        w_rc G13 x18 9 ∧
        wp_J7_get E G13 x18 x19 (fun x20 =>
        w_cc G13 x20 3 (fun z22 =>
        w_rc G13 z22 3 ∧
        wp_X4_share E G13 z22 y1 (fun x23 =>
        wp_X2_amountByLog_77 E post (wp_X2_amountByLog_22 E post n) y0 y1 (some z9) x23 y2 G13 (mc - c14) (ms - t15)
      ))))))
    )))))
def wp_X2_amountByLog (E : g_E) (G : g_G) (o : Nat) (p1 : Int32) (mc0 ms0 : Nat) (post : Int32 → g_G → Prop) : Prop :=
  w_gr G o 1 1 (fun x1 =>
  w_rc G x1 9 ∧
  wp_J7_get E G x1 p1 (fun x2 =>
  w_cc G x2 9 (fun z4 =>
  ∃ c7 t8 : Nat, c7 ≤ mc0 ∧ t8 ≤ ms0 ∧
  w_rc G z4 9 ∧
  wp_J7_iterator E G z4 c7 t8 (fun x5 G6 =>
  ∃ nf : Nat, wp_X2_amountByLog_22 E post nf o p1 (nI 100) x5 G6 (mc0 - c7) (ms0 - t8)))))
def wp_X2_inDoubt_33 (E : g_E) (G : g_G) (post : Int32 → Prop) (B4 : Nat → Int32 → Int32 → Int32 → Prop) (y0 : Nat) (y1 : Int32) (y3 : Int32) (s0 : Int32) (s1 : Int32) : Prop :=
    B4 y0 y1 (s1 + s0) (y3 + (nI 1))
def wp_X2_inDoubt_4 (E : g_E) (G : g_G) (post : Int32 → Prop) : Nat → Nat → Int32 → Int32 → Int32 → Prop
  | 0 => fun _ _ _ _ => False
  | n + 1 => fun y0 y1 y2 y3 =>
    w_gr G y0 1 0 (fun x1 =>
    w_rc G x1 9 ∧
    wp_J7_size E G x1 (fun x2 =>
    (x2 ≤ y3 →
      post y2
    ) ∧ (¬ x2 ≤ y3 →
      w_rc G y0 1 ∧
      wp_X2_state E G y0 y1 y3 (fun x4 =>
      (¬ x4 = (nI 1) →
        wp_X2_inDoubt_33 E G post (wp_X2_inDoubt_4 E G post n) y0 y1 y3 (nI 0) y2
      ) ∧ (x4 = (nI 1) →
        wp_X2_inDoubt_33 E G post (wp_X2_inDoubt_4 E G post n) y0 y1 y3 (nI 1) y2
      )
    ))))
def wp_X2_inDoubt (E : g_E) (G : g_G) (o : Nat) (p1 : Int32) (post : Int32 → Prop) : Prop :=
  ∃ nf : Nat, wp_X2_inDoubt_4 E G post nf o p1 (nI 0) (nI 0)
def wp_X2_allCanTake_52 (E : g_E) (G : g_G) (post : Int32 → Prop) (B17 : Nat → Int32 → Int32 → Int32 → Int32 → Prop) (y0 : Nat) (y2 : Int32) (y3 : Int32) (y5 : Int32) (s0 : Int32) : Prop :=
    B17 y0 y2 y3 s0 (y5 + (nI 1))
def wp_X2_allCanTake_51 (E : g_E) (G : g_G) (post : Int32 → Prop) (B52 : Nat → Int32 → Int32 → Int32 → Int32 → Prop) (y0 : Nat) (y2 : Int32) (y3 : Int32) (y5 : Int32) : Prop :=
    B52 y0 y2 y3 y5 (nI 0)
def wp_X2_allCanTake_47 (E : g_E) (G : g_G) (post : Int32 → Prop) (B52 : Nat → Int32 → Int32 → Int32 → Int32 → Prop) (y0 : Nat) (y2 : Int32) (y3 : Int32) (y5 : Int32) : Prop :=
    B52 y0 y2 y3 y5 (nI 1)
def wp_X2_allCanTake_17 (E : g_E) (G : g_G) (post : Int32 → Prop) : Nat → Nat → Int32 → Int32 → Int32 → Int32 → Prop
  | 0 => fun _ _ _ _ _ => False
  | n + 1 => fun y0 y2 y3 y4 y5 =>
    ((nI 4) ≤ y5 →
      narrow .boolean (.int y4) = .int y4 ∧ post y4
    ) ∧ (¬ (nI 4) ≤ y5 →
      (y4 = 0 →
        wp_X2_allCanTake_51 E G post (wp_X2_allCanTake_52 E G post (wp_X2_allCanTake_17 E G post n)) y0 y2 y3 y5
      ) ∧ (¬ y4 = 0 →
        wp_X1_has E G y2 y5 (fun x5 =>
        (x5 = 0 →
          wp_X2_allCanTake_47 E G post (wp_X2_allCanTake_52 E G post (wp_X2_allCanTake_17 E G post n)) y0 y2 y3 y5
        ) ∧ (¬ x5 = 0 →
          w_rc G y0 1 ∧
          wp_X2_canTake E G y0 y5 y3 (fun x7 =>
          (x7 = 0 →
            wp_X2_allCanTake_51 E G post (wp_X2_allCanTake_52 E G post (wp_X2_allCanTake_17 E G post n)) y0 y2 y3 y5
          ) ∧ (¬ x7 = 0 →
            wp_X2_allCanTake_47 E G post (wp_X2_allCanTake_52 E G post (wp_X2_allCanTake_17 E G post n)) y0 y2 y3 y5
          )
        ))
      ))
    )
def wp_X2_allCanTake (E : g_E) (G : g_G) (o : Nat) (p1 : Int32) (p2 : Int32) (p3 : Int32) (post : Int32 → Prop) : Prop :=
  wp_J18_bitCount E G p2 (fun x1 =>
  w_rc G o 1 ∧
  wp_X2_canTake E G o p1 ((-p3) * x1) (fun x3 =>
  ∃ nf : Nat, wp_X2_allCanTake_17 E G post nf o p2 p3 x3 (nI 0)))
def wp_X2_greatestSize_3 (E : g_E) (G : g_G) (post : Int32 → Prop) : Nat → Nat → Int32 → Int32 → Int32 → Prop
  | 0 => fun _ _ _ _ => False
  | n + 1 => fun y0 y1 y2 y3 =>
    (y3 ≤ 0 →
      post y3
    ) ∧ (¬ y3 ≤ 0 →
      w_rc G y0 1 ∧
      wp_X2_allCanTake E G y0 y1 y2 y3 (fun x1 =>
      (¬ x1 = 0 →
        post y3
      ) ∧ (x1 = 0 →
        wp_X2_greatestSize_3 E G post n y0 y1 y2 (y3 + (-nI 1))
      )
    ))
def wp_X2_greatestSize (E : g_E) (G : g_G) (o : Nat) (p1 : Int32) (p2 : Int32) (post : Int32 → Prop) : Prop :=
  ∃ nf : Nat, wp_X2_greatestSize_3 E G post nf o p1 p2 (nI 50)
def wp_X2_canBegin (E : g_E) (G : g_G) (o : Nat) (post : Int32 → Prop) : Prop :=
  w_rc G o 1 ∧
  wp_X2_isUp E G o (nI 4) (fun x1 =>
  (x1 = 0 →
    post (nI 0)
  ) ∧ (¬ x1 = 0 →
    w_gr G o 1 0 (fun x3 =>
    w_rc G x3 9 ∧
    wp_J7_size E G x3 (fun x4 =>
    ((nI 8) ≤ x4 →
      post (nI 0)
    ) ∧ (¬ (nI 8) ≤ x4 →
      post (nI 1)
    )
  ))))
def wp_X2_begins (E : g_E) (G : g_G) (o : Nat) (p1 : Nat) (mc0 ms0 : Nat) (post : Int32 → g_G → Prop) : Prop :=
  w_gr G o 1 0 (fun x1 =>
  w_rc G x1 9 ∧
  wp_J7_size E G x1 (fun x2 =>
  w_gr G o 1 0 (fun x4 =>
  ∃ c7 t8 : Nat, c7 ≤ mc0 ∧ t8 ≤ ms0 ∧
  w_rc G x4 9 ∧
  wp_J7_add E G x4 p1 c7 t8 (fun x5 G6 =>
  ∃ c11 t12 : Nat, c11 ≤ (mc0 - c7) ∧ t12 ≤ (ms0 - t8) ∧
  w_rc G6 o 1 ∧
  wp_X2_writes E G6 o (nI 4) (nI 0) x2 c11 t12 (fun G10 =>
  ∃ c15 t16 : Nat, c15 ≤ (mc0 - c7 - c11) ∧ t16 ≤ (ms0 - t8 - t12) ∧
  w_rc G10 o 1 ∧
  wp_X2_sendsToAll E G10 o (g_k E 0) x2 c15 t16 (fun G14 =>
  post x2 G14))))))
def wp_X2_canGiveUp (E : g_E) (G : g_G) (o : Nat) (p1 : Int32) (mc0 ms0 : Nat) (post : Int32 → g_G → Prop) : Prop :=
  w_gr G o 1 0 (fun x1 =>
  w_rc G x1 9 ∧
  wp_J7_size E G x1 (fun x2 =>
  (x2 ≤ p1 →
    post (nI 0) G
  ) ∧ (¬ x2 ≤ p1 →
    w_rc G o 1 ∧
    wp_X2_isUp E G o (nI 4) (fun x4 =>
    (x4 = 0 →
      post (nI 0) G
    ) ∧ (¬ x4 = 0 →
      ∃ c8 t9 : Nat, c8 ≤ mc0 ∧ t9 ≤ ms0 ∧
      w_rc G o 1 ∧
      wp_X2_isUndecided E G o p1 c8 t9 (fun x6 G7 =>
      (x6 = 0 →
        post (nI 0) G7
      ) ∧ (¬ x6 = 0 →
        post (nI 1) G7
      )
    ))
  ))))
def wp_X2_givesUp (E : g_E) (G : g_G) (o : Nat) (p1 : Int32) (mc0 ms0 : Nat) (post : Int32 → g_G → Prop) : Prop :=
  ∃ c3 t4 : Nat, c3 ≤ mc0 ∧ t4 ≤ ms0 ∧
  w_rc G o 1 ∧
  wp_X2_decides E G o p1 (nI 2) c3 t4 (fun G2 =>
  w_gr G2 o 1 2 (fun x5 =>
  w_rc G2 x5 9 ∧
  wp_J7_size E G2 x5 (fun x6 =>
  post x6 G2)))
def wp_X2_canAsk (E : g_E) (G : g_G) (o : Nat) (p1 : Int32) (p2 : Int32) (post : Int32 → Prop) : Prop :=
  w_gr G o 1 0 (fun x1 =>
  w_rc G x1 9 ∧
  wp_J7_size E G x1 (fun x2 =>
  (x2 ≤ p2 →
    post (nI 0)
  ) ∧ (¬ x2 ≤ p2 →
    w_rc G o 1 ∧
    wp_X2_isUp E G o p1 (fun x4 =>
    (x4 = 0 →
      post (nI 0)
    ) ∧ (¬ x4 = 0 →
      w_rc G o 1 ∧
      wp_X2_state E G o p1 p2 (fun x6 =>
      (¬ x6 = (nI 1) →
        post (nI 0)
      ) ∧ (x6 = (nI 1) →
        post (nI 1)
      )
    ))
  ))))
def wp_X2_asks (E : g_E) (G : g_G) (o : Nat) (p1 : Int32) (p2 : Int32) (mc0 ms0 : Nat) (post : Int32 → g_G → Prop) : Prop :=
  ∃ c3 t4 : Nat, c3 ≤ mc0 ∧ t4 ≤ ms0 ∧
  w_rc G o 1 ∧
  wp_X2_sends E G o (g_k E 6) p2 p1 c3 t4 (fun G2 =>
  w_gr G2 o 1 2 (fun x5 =>
  w_rc G2 x5 9 ∧
  wp_J7_size E G2 x5 (fun x6 =>
  post x6 G2)))
def wp_X2_loses (E : g_E) (G : g_G) (o : Nat) (p1 : Int32) (post : Int32 → g_G → Prop) : Prop :=
  w_gi G o 1 10 (fun x1 =>
  w_put G o 1 10 (.int (x1 + (nI 1))) (fun G2 =>
  w_gr G2 o 1 2 (fun x3 =>
  w_rc G2 x3 9 ∧
  wp_J7_remove E G2 x3 p1 (fun x4 G5 =>
  w_cc G5 x4 5 (fun z6 =>
  w_gr G5 z6 5 0 (fun x7 =>
  w_ord E (some x7) (fun x8 =>
  post x8 G5)))))))
def wp_X2_crashes_47 (E : g_E) (post : Int32 → g_G → Prop) (y0 : Nat) (G : g_G) : Prop :=
    w_gi G y0 1 7 (fun x3 =>
    wp_J18_bitCount E G x3 (fun x4 =>
    post x4 G))
def wp_X2_crashes_16 (E : g_E) (post : Int32 → g_G → Prop) : Nat → Nat → Int32 → Int32 → g_G → Prop
  | 0 => fun _ _ _ _ => False
  | n + 1 => fun y0 y1 y2 G =>
    ((nI 8) ≤ y2 →
      wp_X2_crashes_47 E post y0 G
    ) ∧ (¬ (nI 8) ≤ y2 →
      (¬ y1 = (nI 4) →
        wp_X2_crashes_47 E post y0 G
      ) ∧ (y1 = (nI 4) →
        w_gr G y0 1 5 (fun x6 =>
        w_ist E G x6 y2 (nI 0) (fun G7 =>
        w_gr G7 y0 1 6 (fun x8 =>
        w_ist E G7 x8 y2 (nI 0) (fun G9 =>
        wp_X2_crashes_16 E post n y0 y1 (y2 + (nI 1)) G9
      )))))
    )
def wp_X2_crashes (E : g_E) (G : g_G) (o : Nat) (p1 : Int32) (post : Int32 → g_G → Prop) : Prop :=
  w_gi G o 1 7 (fun x1 =>
  w_put G o 1 7 (.int (x1 &&& (((nI 1) <<< (p1 &&& 31)) ^^^ (-nI 1)))) (fun G2 =>
  ∃ nf : Nat, wp_X2_crashes_16 E post nf o p1 (nI 0) G2))
def wp_X4_init (E : g_E) (G : g_G) (o : Nat) (p1 : Int32) (p2 : Int32) (p3 : Int32) (post : g_G → Prop) : Prop :=
  w_put G o 3 0 (.int p1) (fun G1 =>
  w_put G1 o 3 1 (.int p2) (fun G2 =>
  w_put G2 o 3 2 (.int p3) (fun G3 =>
  post G3)))
def wp_X8_init (E : g_E) (G : g_G) (o : Nat) (p1 : Nat) (post : g_G → Prop) : Prop :=
  w_put G o 7 0 (.ref p1) (fun G1 =>
  post G1)
def wp_X9_init (E : g_E) (G : g_G) (o : Nat) (p1 : Int32) (p2 : Int32) (p3 : Int32) (post : g_G → Prop) : Prop :=
  w_putn G o 8 0 (.char) (.int p1) (fun G1 =>
  w_put G1 o 8 1 (.int p2) (fun G2 =>
  w_put G2 o 8 2 (.int p3) (fun G3 =>
  post G3)))
def wp_X7_init (E : g_E) (G : g_G) (o : Nat) (p1 : Nat) (mc0 ms0 : Nat) (post : g_G → Prop) : Prop :=
  w_put G o 6 3 (.ref p1) (fun G1 =>
  w_new E G1 9 3 [.int 0, .null, .int 0] mc0 ms0 (fun q2 G3 =>
  wp_J7_init E G3 q2 (fun G5 =>
  w_put G5 o 6 0 (.ref q2) (fun G6 =>
  post G6))))
def wp_X7_sees (E : g_E) (G : g_G) (o : Nat) (p1 : Int32) (p2 : Int32) (mc0 ms0 : Nat) (post : Int32 → g_G → Prop) : Prop :=
  w_gi G o 6 1 (fun x1 =>
  w_gr G o 6 3 (fun x2 =>
  w_gr G x2 0 0 (fun x3 =>
  w_rc G x3 12 ∧
  wp_J1_length E G x3 (fun x4 =>
  (x4 ≤ x1 →
    post (nI 0) G
  ) ∧ (¬ x4 ≤ x1 →
    w_gr G o 6 3 (fun x6 =>
    w_gr G x6 0 0 (fun x7 =>
    w_gi G o 6 1 (fun x8 =>
    ∃ c11 t12 : Nat, c11 ≤ mc0 ∧ t12 ≤ ms0 ∧
    w_rc G x7 12 ∧
    wp_J1_charAt E G x7 x8 c11 t12 (fun x9 G10 =>
    (x9 < p1 →
      post (nI 0) G10
    ) ∧ (¬ x9 < p1 →
      w_gr G10 o 6 3 (fun x13 =>
      w_gr G10 x13 0 0 (fun x14 =>
      w_gi G10 o 6 1 (fun x15 =>
      ∃ c18 t19 : Nat, c18 ≤ (mc0 - c11) ∧ t19 ≤ (ms0 - t12) ∧
      w_rc G10 x14 12 ∧
      wp_J1_charAt E G10 x14 x15 c18 t19 (fun x16 G17 =>
      (p2 < x16 →
        post (nI 0) G17
      ) ∧ (¬ p2 < x16 →
        post (nI 1) G17
      )
    )))))
  )))))))))
def wp_X7_next (E : g_E) (G : g_G) (o : Nat) (p1 : Int32) (p2 : Int32) (mc0 ms0 : Nat) (post : Int32 → g_G → Prop) : Prop :=
  ∃ c3 t4 : Nat, c3 ≤ mc0 ∧ t4 ≤ ms0 ∧
  w_rc G o 6 ∧
  wp_X7_sees E G o p1 p2 c3 t4 (fun x1 G2 =>
  (¬ x1 = 0 →
    w_gi G2 o 6 1 (fun x5 =>
    w_put G2 o 6 1 (.int (x5 + (nI 1))) (fun G6 =>
    w_gr G6 o 6 3 (fun x7 =>
    w_gr G6 x7 0 0 (fun x8 =>
    w_gi G6 o 6 1 (fun x9 =>
    ∃ c12 t13 : Nat, c12 ≤ (mc0 - c3) ∧ t13 ≤ (ms0 - t4) ∧
    w_rc G6 x8 12 ∧
    wp_J1_charAt E G6 x8 (x9 - (nI 1)) c12 t13 (fun x10 G11 =>
    post (x10 - p1) G11
  ))))))) ∧ (x1 = 0 →
    post (-nI 1) G2
  ))
def wp_X7_store_58 (E : g_E) (post : Int32 → g_G → Prop) (y0 : Nat) (s0 : Int32) (G : g_G) (mc : Nat) (ms : Nat) : Prop :=
    (s0 = 0 →
      post (-nI 1) G
    ) ∧ (¬ s0 = 0 →
      ∃ c7 t8 : Nat, c7 ≤ mc ∧ t8 ≤ ms ∧
      w_rc G y0 6 ∧
      wp_X7_next E G y0 (nI 48) (nI 51) c7 t8 (fun x5 G6 =>
      post x5 G6
    ))
def wp_X7_store_57 (E : g_E) (post : Int32 → g_G → Prop) (B58 : Nat → Int32 → g_G → Nat → Nat → Prop) (y0 : Nat) (G : g_G) (mc : Nat) (ms : Nat) : Prop :=
    B58 y0 (nI 0) G mc ms
def wp_X7_store (E : g_E) (G : g_G) (o : Nat) (p1 : Int32) (p2 : Int32) (mc0 ms0 : Nat) (post : Int32 → g_G → Prop) : Prop :=
  ∃ c3 t4 : Nat, c3 ≤ mc0 ∧ t4 ≤ ms0 ∧
  w_rc G o 6 ∧
  wp_X7_sees E G o (nI 48) (nI 51) c3 t4 (fun x1 G2 =>
  (x1 = 0 →
    wp_X7_store_57 E post (wp_X7_store_58 E post) o G2 (mc0 - c3) (ms0 - t4)
  ) ∧ (¬ x1 = 0 →
    w_gr G2 o 6 3 (fun x9 =>
    w_gr G2 x9 0 0 (fun x10 =>
    w_gi G2 o 6 1 (fun x11 =>
    ∃ c14 t15 : Nat, c14 ≤ (mc0 - c3) ∧ t15 ≤ (ms0 - t4) ∧
    w_rc G2 x10 12 ∧
    wp_J1_charAt E G2 x10 x11 c14 t15 (fun x12 G13 =>
    ((x12 - (nI 48)) < p1 →
      wp_X7_store_57 E post (wp_X7_store_58 E post) o G13 (mc0 - c3 - c14) (ms0 - t4 - t15)
    ) ∧ (¬ (x12 - (nI 48)) < p1 →
      w_gr G13 o 6 3 (fun x16 =>
      w_gr G13 x16 0 0 (fun x17 =>
      w_gi G13 o 6 1 (fun x18 =>
      ∃ c21 t22 : Nat, c21 ≤ (mc0 - c3 - c14) ∧ t22 ≤ (ms0 - t4 - t15) ∧
      w_rc G13 x17 12 ∧
      wp_J1_charAt E G13 x17 x18 c21 t22 (fun x19 G20 =>
      ((x19 - (nI 48)) = p2 →
        wp_X7_store_57 E post (wp_X7_store_58 E post) o G20 (mc0 - c3 - c14 - c21) (ms0 - t4 - t15 - t22)
      ) ∧ (¬ (x19 - (nI 48)) = p2 →
        wp_X7_store_58 E post o (nI 1) G20 (mc0 - c3 - c14 - c21) (ms0 - t4 - t15 - t22)
      )
    )))))
  ))))))
def wp_X7_size (E : g_E) (G : g_G) (o : Nat) (mc0 ms0 : Nat) (post : Int32 → g_G → Prop) : Prop :=
  ∃ c3 t4 : Nat, c3 ≤ mc0 ∧ t4 ≤ ms0 ∧
  w_rc G o 6 ∧
  wp_X7_next E G o (nI 49) (nI 57) c3 t4 (fun x1 G2 =>
  ((x1 + (nI 1)) ≤ 0 →
    post (x1 + (nI 1)) G2
  ) ∧ (¬ (x1 + (nI 1)) ≤ 0 →
    ∃ c7 t8 : Nat, c7 ≤ (mc0 - c3) ∧ t8 ≤ (ms0 - t4) ∧
    w_rc G2 o 6 ∧
    wp_X7_sees E G2 o (nI 48) (nI 57) c7 t8 (fun x5 G6 =>
    (x5 = 0 →
      post (x1 + (nI 1)) G6
    ) ∧ (¬ x5 = 0 →
      w_gr G6 o 6 3 (fun x9 =>
      w_gr G6 x9 0 0 (fun x10 =>
      w_gi G6 o 6 1 (fun x11 =>
      ∃ c14 t15 : Nat, c14 ≤ (mc0 - c3 - c7) ∧ t15 ≤ (ms0 - t4 - t8) ∧
      w_rc G6 x10 12 ∧
      wp_J1_charAt E G6 x10 x11 c14 t15 (fun x12 G13 =>
      ((nI 50) < ((((nI 10) * (x1 + (nI 1))) + x12) - (nI 48)) →
        post (x1 + (nI 1)) G13
      ) ∧ (¬ (nI 50) < ((((nI 10) * (x1 + (nI 1))) + x12) - (nI 48)) →
        ∃ c18 t19 : Nat, c18 ≤ (mc0 - c3 - c7 - c14) ∧ t19 ≤ (ms0 - t4 - t8 - t15) ∧
        w_rc G13 o 6 ∧
        wp_X7_next E G13 o (nI 48) (nI 57) c18 t19 (fun x16 G17 =>
        post (((nI 10) * (x1 + (nI 1))) + x16) G17
      ))
    )))))
  )))
def wp_X7_beginning_84 (E : g_E) (post : Int32 → g_G → Prop) (y0 : Nat) (y1 : Int32) (y3 : Int32) (s0 : Int32) (G : g_G) (mc : Nat) (ms : Nat) : Prop :=
    (s0 ≤ 0 →
      post (nI 0) G
    ) ∧ (¬ s0 ≤ 0 →
      w_gr G y0 6 0 (fun x5 =>
      w_new E G 7 1 [.null] mc ms (fun q6 G7 =>
      w_new E G7 3 3 [.int 0, .int 0, .int 0] (mc - 1) (ms - 1) (fun q8 G9 =>
      wp_X4_init E G9 q8 y1 y3 s0 (fun G11 =>
      wp_X8_init E G11 q6 q8 (fun G13 =>
      ∃ c16 t17 : Nat, c16 ≤ (mc - 1 - 1) ∧ t17 ≤ (ms - 1 - 3) ∧
      w_rc G13 x5 9 ∧
      wp_J7_add E G13 x5 q6 c16 t17 (fun x14 G15 =>
      (x14 = 0 →
        post (nI 0) G15
      ) ∧ (¬ x14 = 0 →
        post (nI 1) G15
      )
    )))))))
def wp_X7_beginning_83 (E : g_E) (post : Int32 → g_G → Prop) (B84 : Nat → Int32 → Int32 → Int32 → g_G → Nat → Nat → Prop) (y0 : Nat) (y1 : Int32) (y3 : Int32) (G : g_G) (mc : Nat) (ms : Nat) : Prop :=
    B84 y0 y1 y3 (nI 0) G mc ms
def wp_X7_beginning_38 (E : g_E) (post : Int32 → g_G → Prop) : Nat → Nat → Int32 → Int32 → Int32 → g_G → Nat → Nat → Prop
  | 0 => fun _ _ _ _ _ _ _ => False
  | n + 1 => fun y0 y1 y2 y3 G mc ms =>
    (y2 = (-nI 1) →
      (y3 = 0 →
        wp_X7_beginning_83 E post (wp_X7_beginning_84 E post) y0 y1 y3 G mc ms
      ) ∧ (¬ y3 = 0 →
        ∃ c20 t21 : Nat, c20 ≤ mc ∧ t21 ≤ ms ∧
        w_rc G y0 6 ∧
        wp_X7_next E G y0 (nI 58) (nI 58) c20 t21 (fun x18 G19 =>
        (¬ x18 = 0 →
          wp_X7_beginning_83 E post (wp_X7_beginning_84 E post) y0 y1 y3 G19 (mc - c20) (ms - t21)
        ) ∧ (x18 = 0 →
          ∃ c24 t25 : Nat, c24 ≤ (mc - c20) ∧ t25 ≤ (ms - t21) ∧
          w_rc G19 y0 6 ∧
          wp_X7_size E G19 y0 c24 t25 (fun x22 G23 =>
          wp_X7_beginning_84 E post y0 y1 y3 x22 G23 (mc - c20 - c24) (ms - t21 - t25)
        ))
      ))
    ) ∧ (¬ y2 = (-nI 1) →
      ∃ c28 t29 : Nat, c28 ≤ mc ∧ t29 ≤ ms ∧
      w_rc G y0 6 ∧
      wp_X7_store E G y0 (y2 + (nI 1)) y1 c28 t29 (fun x26 G27 =>
      wp_X7_beginning_38 E post n y0 y1 x26 (y3 ||| ((nI 1) <<< (y2 &&& 31))) G27 (mc - c28) (ms - t29)
    ))
def wp_X7_beginning_35 (E : g_E) (post : Int32 → g_G → Prop) (y0 : Nat) (y1 : Int32) (s0 : Int32) (G : g_G) (mc : Nat) (ms : Nat) : Prop :=
    ∃ nf : Nat, wp_X7_beginning_38 E post nf y0 y1 s0 (nI 0) G mc ms
def wp_X7_beginning_34 (E : g_E) (post : Int32 → g_G → Prop) (B35 : Nat → Int32 → Int32 → g_G → Nat → Nat → Prop) (y0 : Nat) (y1 : Int32) (G : g_G) (mc : Nat) (ms : Nat) : Prop :=
    B35 y0 y1 (-nI 1) G mc ms
def wp_X7_beginning (E : g_E) (G : g_G) (o : Nat) (mc0 ms0 : Nat) (post : Int32 → g_G → Prop) : Prop :=
  ∃ c3 t4 : Nat, c3 ≤ mc0 ∧ t4 ≤ ms0 ∧
  w_rc G o 6 ∧
  wp_X7_next E G o (nI 48) (nI 51) c3 t4 (fun x1 G2 =>
  (x1 = (-nI 1) →
    wp_X7_beginning_34 E post (wp_X7_beginning_35 E post) o x1 G2 (mc0 - c3) (ms0 - t4)
  ) ∧ (¬ x1 = (-nI 1) →
    ∃ c32 t33 : Nat, c32 ≤ (mc0 - c3) ∧ t33 ≤ (ms0 - t4) ∧
    w_rc G2 o 6 ∧
    wp_X7_next E G2 o (nI 62) (nI 62) c32 t33 (fun x30 G31 =>
    (¬ x30 = 0 →
      wp_X7_beginning_34 E post (wp_X7_beginning_35 E post) o x1 G31 (mc0 - c3 - c32) (ms0 - t4 - t33)
    ) ∧ (x30 = 0 →
      ∃ c36 t37 : Nat, c36 ≤ (mc0 - c3 - c32) ∧ t37 ≤ (ms0 - t4 - t33) ∧
      w_rc G31 o 6 ∧
      wp_X7_store E G31 o (nI 0) x1 c36 t37 (fun x34 G35 =>
      wp_X7_beginning_35 E post o x1 x34 G35 (mc0 - c3 - c32 - c36) (ms0 - t4 - t33 - t37)
    ))
  )))
def wp_X7_deed (E : g_E) (G : g_G) (o : Nat) (p1 : Int32) (p2 : Int32) (p3 : Int32) (mc0 ms0 : Nat) (post : Int32 → g_G → Prop) : Prop :=
  w_gi G o 6 1 (fun x1 =>
  w_put G o 6 1 (.int (x1 + (nI 1))) (fun G2 =>
  ∃ c5 t6 : Nat, c5 ≤ mc0 ∧ t6 ≤ ms0 ∧
  w_rc G2 o 6 ∧
  wp_X7_next E G2 o p2 p3 c5 t6 (fun x3 G4 =>
  (x3 = (-nI 1) →
    post (nI 0) G4
  ) ∧ (¬ x3 = (-nI 1) →
    w_gr G4 o 6 0 (fun x7 =>
    w_new E G4 8 3 [.int 0, .int 0, .int 0] (mc0 - c5) (ms0 - t6) (fun q8 G9 =>
    wp_X9_init E G9 q8 p1 x3 (-nI 1) (fun G11 =>
    ∃ c14 t15 : Nat, c14 ≤ (mc0 - c5 - 1) ∧ t15 ≤ (ms0 - t6 - 3) ∧
    w_rc G11 x7 9 ∧
    wp_J7_add E G11 x7 q8 c14 t15 (fun x12 G13 =>
    (x12 = 0 →
      post (nI 0) G13
    ) ∧ (¬ x12 = 0 →
      post (nI 1) G13
    )
  ))))))))
def wp_X7_asking_36 (E : g_E) (post : Int32 → g_G → Prop) (y0 : Nat) (y1 : Int32) (s0 : Int32) (G : g_G) (mc : Nat) (ms : Nat) : Prop :=
    (s0 = (-nI 1) →
      post (nI 0) G
    ) ∧ (¬ s0 = (-nI 1) →
      w_gr G y0 6 0 (fun x7 =>
      w_new E G 8 3 [.int 0, .int 0, .int 0] mc ms (fun q8 G9 =>
      wp_X9_init E G9 q8 (nI 113) s0 y1 (fun G11 =>
      ∃ c14 t15 : Nat, c14 ≤ (mc - 1) ∧ t15 ≤ (ms - 3) ∧
      w_rc G11 x7 9 ∧
      wp_J7_add E G11 x7 q8 c14 t15 (fun x12 G13 =>
      (x12 = 0 →
        post (nI 0) G13
      ) ∧ (¬ x12 = 0 →
        post (nI 1) G13
      )
    )))))
def wp_X7_asking (E : g_E) (G : g_G) (o : Nat) (mc0 ms0 : Nat) (post : Int32 → g_G → Prop) : Prop :=
  w_gi G o 6 1 (fun x1 =>
  w_put G o 6 1 (.int (x1 + (nI 1))) (fun G2 =>
  ∃ c5 t6 : Nat, c5 ≤ mc0 ∧ t6 ≤ ms0 ∧
  w_rc G2 o 6 ∧
  wp_X7_next E G2 o (nI 48) (nI 51) c5 t6 (fun x3 G4 =>
  (¬ x3 = (-nI 1) →
    ∃ c18 t19 : Nat, c18 ≤ (mc0 - c5) ∧ t19 ≤ (ms0 - t6) ∧
    w_rc G4 o 6 ∧
    wp_X7_next E G4 o (nI 48) (nI 55) c18 t19 (fun x16 G17 =>
    wp_X7_asking_36 E post o x3 x16 G17 (mc0 - c5 - c18) (ms0 - t6 - t19)
  )) ∧ (x3 = (-nI 1) →
    wp_X7_asking_36 E post o x3 (-nI 1) G4 (mc0 - c5) (ms0 - t6)
  ))))
def wp_X7_part_52 (E : g_E) (post : Int32 → g_G → Prop) (y0 : Nat) (s0 : Int32) (G : g_G) (mc : Nat) (ms : Nat) : Prop :=
    (s0 = nI 99 →
      ∃ c12 t13 : Nat, c12 ≤ mc ∧ t13 ≤ ms ∧
      w_rc G y0 6 ∧
      wp_X7_deed E G y0 s0 (nI 48) (nI 52) c12 t13 (fun x10 G11 =>
      narrow .boolean (.int x10) = .int x10 ∧ post x10 G11
    )) ∧
    (s0 = nI 100 →
      ∃ c16 t17 : Nat, c16 ≤ mc ∧ t17 ≤ ms ∧
      w_rc G y0 6 ∧
      wp_X7_deed E G y0 s0 (nI 49) (nI 57) c16 t17 (fun x14 G15 =>
      narrow .boolean (.int x14) = .int x14 ∧ post x14 G15
    )) ∧
    (s0 = nI 103 →
      ∃ c20 t21 : Nat, c20 ≤ mc ∧ t21 ≤ ms ∧
      w_rc G y0 6 ∧
      wp_X7_deed E G y0 s0 (nI 48) (nI 55) c20 t21 (fun x18 G19 =>
      narrow .boolean (.int x18) = .int x18 ∧ post x18 G19
    )) ∧
    (s0 = nI 108 →
      ∃ c24 t25 : Nat, c24 ≤ mc ∧ t25 ≤ ms ∧
      w_rc G y0 6 ∧
      wp_X7_deed E G y0 s0 (nI 48) (nI 57) c24 t25 (fun x22 G23 =>
      narrow .boolean (.int x22) = .int x22 ∧ post x22 G23
    )) ∧
    (s0 = nI 113 →
      ∃ c28 t29 : Nat, c28 ≤ mc ∧ t29 ≤ ms ∧
      w_rc G y0 6 ∧
      wp_X7_asking E G y0 c28 t29 (fun x26 G27 =>
      narrow .boolean (.int x26) = .int x26 ∧ post x26 G27
    )) ∧
    (s0 = nI 114 →
      ∃ c32 t33 : Nat, c32 ≤ mc ∧ t33 ≤ ms ∧
      w_rc G y0 6 ∧
      wp_X7_deed E G y0 s0 (nI 48) (nI 52) c32 t33 (fun x30 G31 =>
      narrow .boolean (.int x30) = .int x30 ∧ post x30 G31
    )) ∧
    (¬ s0 = nI 99 → ¬ s0 = nI 100 → ¬ s0 = nI 103 → ¬ s0 = nI 108 → ¬ s0 = nI 113 → ¬ s0 = nI 114 → 
      post (nI 0) G
    )
def wp_X7_part (E : g_E) (G : g_G) (o : Nat) (mc0 ms0 : Nat) (post : Int32 → g_G → Prop) : Prop :=
  ∃ c3 t4 : Nat, c3 ≤ mc0 ∧ t4 ≤ ms0 ∧
  w_rc G o 6 ∧
  wp_X7_next E G o (nI 98) (nI 98) c3 t4 (fun x1 G2 =>
  (¬ x1 = 0 →
    w_gi G2 o 6 1 (fun x5 =>
    w_gr G2 o 6 3 (fun x6 =>
    w_gr G2 x6 0 0 (fun x7 =>
    w_rc G2 x7 12 ∧
    wp_J1_length E G2 x7 (fun x8 =>
    (x8 ≤ x5 →
      wp_X7_part_52 E post o (nI 32) G2 (mc0 - c3) (ms0 - t4)
    ) ∧ (¬ x8 ≤ x5 →
      w_gr G2 o 6 3 (fun x34 =>
      w_gr G2 x34 0 0 (fun x35 =>
      w_gi G2 o 6 1 (fun x36 =>
      ∃ c39 t40 : Nat, c39 ≤ (mc0 - c3) ∧ t40 ≤ (ms0 - t4) ∧
      w_rc G2 x35 12 ∧
      wp_J1_charAt E G2 x35 x36 c39 t40 (fun x37 G38 =>
      wp_X7_part_52 E post o x37 G38 (mc0 - c3 - c39) (ms0 - t4 - t40)
    )))))
  ))))) ∧ (x1 = 0 →
    ∃ c43 t44 : Nat, c43 ≤ (mc0 - c3) ∧ t44 ≤ (ms0 - t4) ∧
    w_rc G2 o 6 ∧
    wp_X7_beginning E G2 o c43 t44 (fun x41 G42 =>
    narrow .boolean (.int x41) = .int x41 ∧ post x41 G42
  )))
def wp_X7_reads_54 (E : g_E) (post : Option Nat → g_G → Prop) (y0 : Nat) (s0 : Nat) (G : g_G) (mc : Nat) (ms : Nat) : Prop :=
    w_put G s0 6 2 (.int (nI 0)) (fun G5 =>
    post (some y0) G5)
def wp_X7_reads_28 (E : g_E) (post : Option Nat → g_G → Prop) (y0 : Nat) (y1 : Int32) (G : g_G) (mc : Nat) (ms : Nat) : Prop :=
    (y1 = 0 →
      wp_X7_reads_54 E post y0 y0 G mc ms
    ) ∧ (¬ y1 = 0 →
      w_gi G y0 6 1 (fun x6 =>
      w_gr G y0 6 3 (fun x7 =>
      w_gr G x7 0 0 (fun x8 =>
      w_rc G x8 12 ∧
      wp_J1_length E G x8 (fun x9 =>
      (¬ x6 = x9 →
        wp_X7_reads_54 E post y0 y0 G mc ms
      ) ∧ (x6 = x9 →
        w_put G y0 6 2 (.int (nI 1)) (fun G11 =>
        post (some y0) G11
      ))
    )))))
def wp_X7_reads_5 (E : g_E) (post : Option Nat → g_G → Prop) : Nat → Nat → Int32 → g_G → Nat → Nat → Prop
  | 0 => fun _ _ _ _ _ => False
  | n + 1 => fun y0 y1 G mc ms =>
    (y1 = 0 →
      wp_X7_reads_28 E post y0 y1 G mc ms
    ) ∧ (¬ y1 = 0 →
      ∃ c14 t15 : Nat, c14 ≤ mc ∧ t15 ≤ ms ∧
      w_rc G y0 6 ∧
      wp_X7_next E G y0 (nI 59) (nI 59) c14 t15 (fun x12 G13 =>
      (¬ x12 = 0 →
        wp_X7_reads_28 E post y0 y1 G13 (mc - c14) (ms - t15)
      ) ∧ (x12 = 0 →
        ∃ c18 t19 : Nat, c18 ≤ (mc - c14) ∧ t19 ≤ (ms - t15) ∧
        w_rc G13 y0 6 ∧
        wp_X7_part E G13 y0 c18 t19 (fun x16 G17 =>
        wp_X7_reads_5 E post n y0 x16 G17 (mc - c14 - c18) (ms - t15 - t19)
      ))
    ))
def wp_X7_reads (E : g_E) (G : g_G) (o : Nat) (mc0 ms0 : Nat) (post : Option Nat → g_G → Prop) : Prop :=
  ∃ c3 t4 : Nat, c3 ≤ mc0 ∧ t4 ≤ ms0 ∧
  w_rc G o 6 ∧
  wp_X7_part E G o c3 t4 (fun x1 G2 =>
  ∃ nf : Nat, wp_X7_reads_5 E post nf o x1 G2 (mc0 - c3) (ms0 - t4))
def wp_X1_init (E : g_E) (G : g_G) (o : Nat) (mc0 ms0 : Nat) (post : g_G → Prop) : Prop :=
  w_new E G 12 4 [.null, .int 0, .int 0, .int 0] mc0 ms0 (fun q1 G2 =>
  ∃ c5 t6 : Nat, c5 ≤ (mc0 - 1) ∧ t6 ≤ (ms0 - 4) ∧
  wp_J1_init E G2 q1 c5 t6 (fun G4 =>
  w_put G4 o 0 0 (.ref q1) (fun G7 =>
  w_new E G7 11 3 [.null, .int 0, .int 0] (mc0 - 1 - c5) (ms0 - 4 - t6) (fun q8 G9 =>
  ∃ c12 t13 : Nat, c12 ≤ (mc0 - 1 - c5 - 1) ∧ t13 ≤ (ms0 - 4 - t6 - 3) ∧
  wp_J5_init E G9 q8 c12 t13 (fun G11 =>
  w_put G11 o 0 1 (.ref q8) (fun G14 =>
  w_new E G14 1 11 [.null, .null, .null, .null, .null, .null, .null, .int 0, .int 0, .int 0, .int 0] (mc0 - 1 - c5 - 1 - c12) (ms0 - 4 - t6 - 3 - t13) (fun q15 G16 =>
  ∃ c19 t20 : Nat, c19 ≤ (mc0 - 1 - c5 - 1 - c12 - 1) ∧ t20 ≤ (ms0 - 4 - t6 - 3 - t13 - 11) ∧
  wp_X2_init E G16 q15 c19 t20 (fun G18 =>
  w_put G18 o 0 2 (.ref q15) (fun G21 =>
  post G21)))))))))
def wp_X1_saves_20 (E : g_E) (post : g_G → Prop) (y0 : Nat) (G : g_G) (mc : Nat) (ms : Nat) : Prop :=
    w_gr G y0 0 1 (fun x4 =>
    w_new E G 1 11 [.null, .null, .null, .null, .null, .null, .null, .int 0, .int 0, .int 0, .int 0] mc ms (fun q5 G6 =>
    w_gr G6 y0 0 2 (fun x7 =>
    ∃ c10 t11 : Nat, c10 ≤ (mc - 1) ∧ t11 ≤ (ms - 11) ∧
    wp_X2_init_2 E G6 q5 x7 c10 t11 (fun G9 =>
    ∃ c14 t15 : Nat, c14 ≤ (mc - 1 - c10) ∧ t15 ≤ (ms - 11 - t11) ∧
    w_rc G9 x4 11 ∧
    wp_J5_addLast E G9 x4 q5 c14 t15 (fun G13 =>
    post G13)))))
def wp_X1_saves (E : g_E) (G : g_G) (o : Nat) (mc0 ms0 : Nat) (post : g_G → Prop) : Prop :=
  w_gr G o 0 1 (fun x1 =>
  w_rc G x1 11 ∧
  wp_J5_size E G x1 (fun x2 =>
  (¬ x2 = (nI 6) →
    wp_X1_saves_20 E post o G mc0 ms0
  ) ∧ (x2 = (nI 6) →
    w_gr G o 0 1 (fun x16 =>
    ∃ c19 t20 : Nat, c19 ≤ mc0 ∧ t20 ≤ ms0 ∧
    w_rc G x16 11 ∧
    wp_J5_removeFirst E G x16 c19 t20 (fun x17 G18 =>
    wp_X1_saves_20 E post o G18 (mc0 - c19) (ms0 - t20)
  )))))
def wp_X1_deliverAll (E : g_E) (G : g_G) (o : Nat) (mc0 ms0 : Nat) (post : Int32 → g_G → Prop) : Prop :=
  ∃ c3 t4 : Nat, c3 ≤ mc0 ∧ t4 ≤ ms0 ∧
  w_rc G o 0 ∧
  wp_X1_saves E G o c3 t4 (fun G2 =>
  w_gr G2 o 0 2 (fun x5 =>
  ∃ c8 t9 : Nat, c8 ≤ (mc0 - c3) ∧ t9 ≤ (ms0 - t4) ∧
  w_rc G2 x5 1 ∧
  wp_X2_deliversFirst E G2 x5 (nI 2147483647) c8 t9 (fun x6 G7 =>
  post x6 G7)))
def wp_X1_clearBuffer (E : g_E) (G : g_G) (o : Nat) (mc0 ms0 : Nat) (post : Int32 → g_G → Prop) : Prop :=
  w_gr G o 0 0 (fun x1 =>
  w_rc G x1 12 ∧
  wp_J1_length E G x1 (fun x2 =>
  w_gr G o 0 0 (fun x4 =>
  ∃ c7 t8 : Nat, c7 ≤ mc0 ∧ t8 ≤ ms0 ∧
  w_rc G x4 12 ∧
  wp_J1_setLength E G x4 (nI 0) c7 t8 (fun G6 =>
  post x2 G6))))
def wp_X1_firstError (E : g_E) (G : g_G) (o : Nat) (mc0 ms0 : Nat) (post : Int32 → g_G → Prop) : Prop :=
  w_new E G 6 4 [.null, .int 0, .int 0, .null] mc0 ms0 (fun q1 G2 =>
  ∃ c5 t6 : Nat, c5 ≤ (mc0 - 1) ∧ t6 ≤ (ms0 - 4) ∧
  wp_X7_init E G2 q1 o c5 t6 (fun G4 =>
  ∃ c9 t10 : Nat, c9 ≤ (mc0 - 1 - c5) ∧ t10 ≤ (ms0 - 4 - t6) ∧
  w_rc G4 q1 6 ∧
  wp_X7_reads E G4 q1 c9 t10 (fun x7 G8 =>
  ∃ z11 : Nat, x7 = some z11 ∧
  w_gi G8 z11 6 1 (fun x12 =>
  post x12 G8))))
def wp_X1_keep (E : g_E) (G : g_G) (o : Nat) (mc0 ms0 : Nat) (post : Int32 → g_G → Prop) : Prop :=
  w_new E G 1 11 [.null, .null, .null, .null, .null, .null, .null, .int 0, .int 0, .int 0, .int 0] mc0 ms0 (fun q1 G2 =>
  w_gr G2 o 0 2 (fun x3 =>
  ∃ c6 t7 : Nat, c6 ≤ (mc0 - 1) ∧ t7 ≤ (ms0 - 11) ∧
  wp_X2_init_2 E G2 q1 x3 c6 t7 (fun G5 =>
  w_put G5 o 0 3 (.ref q1) (fun G8 =>
  w_gr G8 o 0 2 (fun x9 =>
  w_gr G8 x9 1 2 (fun x10 =>
  w_rc G8 x10 9 ∧
  wp_J7_size E G8 x10 (fun x11 =>
  post x11 G8)))))))
def wp_X1_transfers (E : g_E) (G : g_G) (o : Nat) (post : Int32 → Prop) : Prop :=
  w_gr G o 0 2 (fun x1 =>
  w_gr G x1 1 0 (fun x2 =>
  w_rc G x2 9 ∧
  wp_J7_size E G x2 (fun x3 =>
  post x3)))
def wp_X1_total (E : g_E) (G : g_G) (o : Nat) (post : Int32 → Prop) : Prop :=
  w_gr G o 0 2 (fun x1 =>
  w_rc G x1 1 ∧
  wp_X2_total E G x1 (fun x2 =>
  post x2))
def wp_X1_onTheWay (E : g_E) (G : g_G) (o : Nat) (mc0 ms0 : Nat) (post : Int32 → g_G → Prop) : Prop :=
  w_gr G o 0 2 (fun x1 =>
  ∃ c4 t5 : Nat, c4 ≤ mc0 ∧ t5 ≤ ms0 ∧
  w_rc G x1 1 ∧
  wp_X2_onTheWay E G x1 c4 t5 (fun x2 G3 =>
  post x2 G3))
def wp_X1_waiting (E : g_E) (G : g_G) (o : Nat) (post : Int32 → Prop) : Prop :=
  w_gr G o 0 2 (fun x1 =>
  w_gr G x1 1 2 (fun x2 =>
  w_rc G x2 9 ∧
  wp_J7_size E G x2 (fun x3 =>
  post x3)))
def wp_X1_sent (E : g_E) (G : g_G) (o : Nat) (post : Int32 → Prop) : Prop :=
  w_gr G o 0 2 (fun x1 =>
  w_gi G x1 1 8 (fun x2 =>
  post x2))
def wp_X1_sentByAccount (E : g_E) (G : g_G) (o : Nat) (post : Int32 → Prop) : Prop :=
  w_gr G o 0 2 (fun x1 =>
  w_gi G x1 1 9 (fun x2 =>
  w_gr G o 0 2 (fun x3 =>
  w_gi G x3 1 10 (fun x4 =>
  w_gr G o 0 2 (fun x5 =>
  w_gr G x5 1 2 (fun x6 =>
  w_rc G x6 9 ∧
  wp_J7_size E G x6 (fun x7 =>
  post ((x2 + x4) + x7))))))))
def wp_X1_lost (E : g_E) (G : g_G) (o : Nat) (post : Int32 → Prop) : Prop :=
  w_gr G o 0 2 (fun x1 =>
  w_gi G x1 1 10 (fun x2 =>
  post x2))
def wp_X1_messagesToSettle (E : g_E) (G : g_G) (o : Nat) (mc0 ms0 : Nat) (post : Int32 → g_G → Prop) : Prop :=
  w_new E G 1 11 [.null, .null, .null, .null, .null, .null, .null, .int 0, .int 0, .int 0, .int 0] mc0 ms0 (fun q1 G2 =>
  w_gr G2 o 0 2 (fun x3 =>
  ∃ c6 t7 : Nat, c6 ≤ (mc0 - 1) ∧ t7 ≤ (ms0 - 11) ∧
  wp_X2_init_2 E G2 q1 x3 c6 t7 (fun G5 =>
  ∃ c10 t11 : Nat, c10 ≤ (mc0 - 1 - c6) ∧ t11 ≤ (ms0 - 11 - t7) ∧
  w_rc G5 q1 1 ∧
  wp_X2_settles E G5 q1 c10 t11 (fun x8 G9 =>
  post x8 G9))))
def wp_X1_lostShare (E : g_E) (G : g_G) (o : Nat) (post : UInt64 → Prop) : Prop :=
  w_gr G o 0 2 (fun x1 =>
  w_gi G x1 1 8 (fun x2 =>
  (¬ x2 = 0 →
    w_gr G o 0 2 (fun x3 =>
    w_gi G x3 1 10 (fun x4 =>
    w_gr G o 0 2 (fun x5 =>
    w_gi G x5 1 8 (fun x6 =>
    vf_n64 (FP.ddiv (FP.i2d x4) (FP.i2d x6)) ∧
    post (FP.ddiv (FP.i2d x4) (FP.i2d x6))
  ))))) ∧ (x2 = 0 →
    post FP.dconst0
  )))
def wp_X1_meanSize (E : g_E) (G : g_G) (o : Nat) (mc0 ms0 : Nat) (post : UInt32 → g_G → Prop) : Prop :=
  w_gr G o 0 2 (fun x1 =>
  w_gr G x1 1 0 (fun x2 =>
  w_rc G x2 9 ∧
  wp_J7_isEmpty E G x2 (fun x3 =>
  (x3 = 0 →
    w_gr G o 0 2 (fun x5 =>
    ∃ c8 t9 : Nat, c8 ≤ mc0 ∧ t9 ≤ ms0 ∧
    w_rc G x5 1 ∧
    wp_X2_sizes E G x5 c8 t9 (fun x6 G7 =>
    w_gr G7 o 0 2 (fun x10 =>
    w_gr G7 x10 1 0 (fun x11 =>
    w_rc G7 x11 9 ∧
    wp_J7_size E G7 x11 (fun x12 =>
    vf_n32 (FP.fdiv (FP.i2f x6) (FP.i2f x12)) ∧
    post (FP.fdiv (FP.i2f x6) (FP.i2f x12)) G7
  )))))) ∧ (¬ x3 = 0 →
    post FP.fconst0 G
  ))))
def wp_X1_hashOfTransfer_131 (E : g_E) (post : Int64 → g_G → Prop) : Nat → Nat → Int32 → Int64 → Int32 → g_G → Nat → Nat → Prop
  | 0 => fun _ _ _ _ _ _ _ => False
  | n + 1 => fun y0 y3 y5 y7 G mc ms =>
    ((nI 4) ≤ y7 →
      post y5 G
    ) ∧ (¬ (nI 4) ≤ y7 →
      w_gr G y0 0 2 (fun x31 =>
      w_gr G x31 1 0 (fun x32 =>
      w_rc G x32 9 ∧
      wp_J7_get E G x32 y3 (fun x33 =>
      w_cc G x33 3 (fun z35 =>
      w_rc G z35 3 ∧
      wp_X4_share E G z35 y7 (fun x36 =>
      w_gr G y0 0 2 (fun x38 =>
      w_rc G x38 1 ∧
      wp_X2_state E G x38 y7 y3 (fun x39 =>
      w_gr G y0 0 2 (fun x41 =>
      ∃ c44 t45 : Nat, c44 ≤ mc ∧ t45 ≤ ms ∧
      w_rc G x41 1 ∧
      wp_X2_stateByLog E G x41 y7 y3 c44 t45 (fun x42 G43 =>
      wp_X1_hashOfTransfer_131 E post n y0 y3 (((lN 31) * (((lN 31) * (((lN 31) * y5) + x36.toInt64)) + x39.toInt64)) + x42.toInt64) (y7 + (nI 1)) G43 (mc - c44) (ms - t45)
    ))))))))))
def wp_X1_hashOfTransfer_78 (E : g_E) (post : Int64 → g_G → Prop) (y0 : Nat) (y3 : Int32) (y4 : Nat) (s0 : Int32) (s1 : Int64) (G : g_G) (mc : Nat) (ms : Nat) : Prop :=
    w_gr G y0 0 2 (fun x21 =>
    w_gr G x21 1 5 (fun x22 =>
    w_ild E G x22 y3 (fun x23 =>
    w_gr G y0 0 2 (fun x24 =>
    w_gr G x24 1 6 (fun x25 =>
    w_ild E G x25 y3 (fun x26 =>
    ∃ c29 t30 : Nat, c29 ≤ mc ∧ t30 ≤ ms ∧
    w_rc G y4 1 ∧
    wp_X2_outcome E G y4 y3 c29 t30 (fun x27 G28 =>
    ∃ nf : Nat, wp_X1_hashOfTransfer_131 E post nf y0 y3 (((lN 31) * (((lN 31) * (((lN 31) * (s1 + s0.toInt64)) + x23.toInt64)) + x26.toInt64)) + x27.toInt64) (nI 0) G28 (mc - c29) (ms - t30))))))))
def wp_X1_hashOfTransfer (E : g_E) (G : g_G) (o : Nat) (p1 : Int64) (p2 : Int32) (p3 : Nat) (mc0 ms0 : Nat) (post : Int64 → g_G → Prop) : Prop :=
  w_gr G o 0 2 (fun x1 =>
  w_gr G x1 1 0 (fun x2 =>
  w_rc G x2 9 ∧
  wp_J7_get E G x2 p2 (fun x3 =>
  w_cc G x3 3 (fun z5 =>
  w_rc G z5 3 ∧
  wp_X4_partners E G z5 (fun x6 =>
  w_gr G o 0 2 (fun x8 =>
  ∃ c11 t12 : Nat, c11 ≤ mc0 ∧ t12 ≤ ms0 ∧
  w_rc G x8 1 ∧
  wp_X2_outcome E G x8 p2 c11 t12 (fun x9 G10 =>
  w_gr G10 o 0 2 (fun x13 =>
  w_rc G10 x13 1 ∧
  wp_X2_outcomeByStores E G10 x13 p2 (fun x14 =>
  w_gr G10 o 0 2 (fun x16 =>
  ∃ c19 t20 : Nat, c19 ≤ (mc0 - c11) ∧ t20 ≤ (ms0 - t12) ∧
  w_rc G10 x16 1 ∧
  wp_X2_hasEnded E G10 x16 p2 c19 t20 (fun x17 G18 =>
  (x17 = 0 →
    wp_X1_hashOfTransfer_78 E post o p2 p3 (nI 0) ((lN 31) * (((lN 31) * (((lN 31) * (((lN 31) * p1) + x6.toInt64)) + x9.toInt64)) + x14.toInt64)) G18 (mc0 - c11 - c19) (ms0 - t12 - t20)
  ) ∧ (¬ x17 = 0 →
    wp_X1_hashOfTransfer_78 E post o p2 p3 (nI 1) ((lN 31) * (((lN 31) * (((lN 31) * (((lN 31) * p1) + x6.toInt64)) + x9.toInt64)) + x14.toInt64)) G18 (mc0 - c11 - c19) (ms0 - t12 - t20)
  ))))))))))))
def wp_X1_hashOfSites_173 (E : g_E) (post : Int64 → g_G → Prop) (B88 : Nat → Int64 → Int32 → g_G → Nat → Nat → Prop) : Nat → Nat → Int64 → Int32 → Option Nat → g_G → Nat → Nat → Prop
  | 0 => fun _ _ _ _ _ _ _ => False
  | n + 1 => fun y0 y4 y6 y7 G mc ms =>
    ∃ z20 : Nat, y7 = some z20 ∧
    w_rc G z20 10 ∧
    wp_J21_hasNext E G z20 (fun x21 =>
    (x21 = 0 →
      B88 y0 y4 (y6 + (nI 1)) G mc ms
    ) ∧ (¬ x21 = 0 →
      ∃ c25 t26 : Nat, c25 ≤ mc ∧ t26 ≤ ms ∧
      w_rc G z20 10 ∧
      wp_J21_next E G z20 c25 t26 (fun x23 G24 =>
      w_cc G24 x23 4 (fun z27 =>
      w_gi G24 z27 4 0 (fun x28 =>
      w_gi G24 z27 4 1 (fun x29 =>
      wp_X1_hashOfSites_173 E post B88 n y0 (((lN 31) * (((lN 31) * y4) + x28.toInt64)) + x29.toInt64) y6 (some z20) G24 (mc - c25) (ms - t26)
    ))))))
def wp_X1_hashOfSites_120 (E : g_E) (post : Int64 → g_G → Prop) (B88 : Nat → Int64 → Int32 → g_G → Nat → Nat → Prop) (y0 : Nat) (y6 : Int32) (s0 : Int32) (s1 : Int64) (s2 : Int64) (G : g_G) (mc : Nat) (ms : Nat) : Prop :=
    w_gr G y0 0 2 (fun x4 =>
    w_gr G x4 1 1 (fun x5 =>
    w_rc G x5 9 ∧
    wp_J7_get E G x5 y6 (fun x6 =>
    w_cc G x6 9 (fun z8 =>
    w_rc G z8 9 ∧
    wp_J7_size E G z8 (fun x9 =>
    w_gr G y0 0 2 (fun x11 =>
    w_gr G x11 1 1 (fun x12 =>
    w_rc G x12 9 ∧
    wp_J7_get E G x12 y6 (fun x13 =>
    w_cc G x13 9 (fun z15 =>
    ∃ c18 t19 : Nat, c18 ≤ mc ∧ t19 ≤ ms ∧
    w_rc G z15 9 ∧
    wp_J7_iterator E G z15 c18 t19 (fun x16 G17 =>
    ∃ nf : Nat, wp_X1_hashOfSites_173 E post B88 nf y0 ((s2 * (s1 + s0.toInt64)) + x9.toInt64) y6 x16 G17 (mc - c18) (ms - t19)))))))))))
def wp_X1_hashOfSites_88 (E : g_E) (post : Int64 → g_G → Prop) : Nat → Nat → Int64 → Int32 → g_G → Nat → Nat → Prop
  | 0 => fun _ _ _ _ _ _ => False
  | n + 1 => fun y0 y4 y6 G mc ms =>
    ((nI 5) ≤ y6 →
      post y4 G
    ) ∧ (¬ (nI 5) ≤ y6 →
      w_gr G y0 0 2 (fun x1 =>
      w_rc G x1 1 ∧
      wp_X2_isUp E G x1 y6 (fun x2 =>
      (x2 = 0 →
        wp_X1_hashOfSites_120 E post (wp_X1_hashOfSites_88 E post n) y0 y6 (nI 0) ((lN 31) * y4) (lN 31) G mc ms
      ) ∧ (¬ x2 = 0 →
        wp_X1_hashOfSites_120 E post (wp_X1_hashOfSites_88 E post n) y0 y6 (nI 1) ((lN 31) * y4) (lN 31) G mc ms
      )
    )))
def wp_X1_hashOfSites_6 (E : g_E) (post : Int64 → g_G → Prop) : Nat → Nat → Nat → Int64 → Int32 → g_G → Nat → Nat → Prop
  | 0 => fun _ _ _ _ _ _ _ => False
  | n + 1 => fun y0 y3 y4 y6 G mc ms =>
    ((nI 4) ≤ y6 →
      ∃ nf : Nat, wp_X1_hashOfSites_88 E post nf y0 y4 (nI 0) G mc ms
    ) ∧ (¬ (nI 4) ≤ y6 →
      w_gr G y0 0 2 (fun x30 =>
      w_gr G x30 1 3 (fun x31 =>
      w_ild E G x31 y6 (fun x32 =>
      w_gr G y0 0 2 (fun x33 =>
      ∃ c36 t37 : Nat, c36 ≤ mc ∧ t37 ≤ ms ∧
      w_rc G x33 1 ∧
      wp_X2_amountByLog E G x33 y6 c36 t37 (fun x34 G35 =>
      w_gr G35 y0 0 2 (fun x38 =>
      w_rc G35 x38 1 ∧
      wp_X2_inDoubt E G35 x38 y6 (fun x39 =>
      w_gr G35 y3 1 3 (fun x41 =>
      w_ild E G35 x41 y6 (fun x42 =>
      wp_X1_hashOfSites_6 E post n y0 y3 (((lN 31) * (((lN 31) * (((lN 31) * (((lN 31) * y4) + x32.toInt64)) + x34.toInt64)) + x39.toInt64)) + x42.toInt64) (y6 + (nI 1)) G35 (mc - c36) (ms - t37)
    ))))))))))
def wp_X1_hashOfSites (E : g_E) (G : g_G) (o : Nat) (p1 : Int64) (p2 : Nat) (mc0 ms0 : Nat) (post : Int64 → g_G → Prop) : Prop :=
  ∃ nf : Nat, wp_X1_hashOfSites_6 E post nf o p2 p1 (nI 0) G mc0 ms0
def wp_X1_index_9 (E : g_E) (post : g_G → Prop) (px : String → g_G → Prop) (G : g_G) (mc : Nat) (ms : Nat) : Prop :=
    w_exc E G 13 mc ms (fun G9 => px "java/lang/IndexOutOfBoundsException" G9)
def wp_X1_index (E : g_E) (G : g_G) (p1 : Int32) (p2 : Int32) (mc0 ms0 : Nat) (post : g_G → Prop) (px : String → g_G → Prop) : Prop :=
  (p1 < 0 →
    wp_X1_index_9 E post px G mc0 ms0
  ) ∧ (¬ p1 < 0 →
    (p1 < p2 →
      post G
    ) ∧ (¬ p1 < p2 →
      wp_X1_index_9 E post px G mc0 ms0
    )
  )
def wp_X1_message (E : g_E) (G : g_G) (o : Nat) (p1 : Int32) (mc0 ms0 : Nat) (post : Option Nat → g_G → Prop) (px : String → g_G → Prop) : Prop :=
  ∃ c3 t4 : Nat, c3 ≤ mc0 ∧ t4 ≤ ms0 ∧
  g_px (wp_X1_index E G (if (nI 0) < p1 then (nI 0) else p1) (nI 1) c3 t4) px (fun G2 =>
  w_gr G2 o 0 2 (fun x5 =>
  w_gr G2 x5 1 2 (fun x6 =>
  w_rc G2 x6 9 ∧
  wp_J7_size E G2 x6 (fun x7 =>
  (x7 ≤ p1 →
    post none G2
  ) ∧ (¬ x7 ≤ p1 →
    w_gr G2 o 0 2 (fun x9 =>
    w_gr G2 x9 1 2 (fun x10 =>
    w_rc G2 x10 9 ∧
    wp_J7_get E G2 x10 p1 (fun x11 =>
    w_cc G2 x11 5 (fun z13 =>
    post (some z13) G2
  )))))))))
def wp_X1_kindOf (E : g_E) (G : g_G) (o : Nat) (p1 : Int32) (mc0 ms0 : Nat) (post : Int32 → g_G → Prop) (px : String → g_G → Prop) : Prop :=
  ∃ c3 t4 : Nat, c3 ≤ mc0 ∧ t4 ≤ ms0 ∧
  w_rc G o 0 ∧
  g_px (wp_X1_message E G o p1 c3 t4) px (fun x1 G2 =>
  (¬ x1 = none →
    ∃ z5 : Nat, x1 = some z5 ∧
    w_gr G2 z5 5 0 (fun x6 =>
    w_ord E (some x6) (fun x7 =>
    post x7 G2
  ))) ∧ (x1 = none →
    post (-nI 1) G2
  ))
def wp_X1_transferOf (E : g_E) (G : g_G) (o : Nat) (p1 : Int32) (mc0 ms0 : Nat) (post : Int32 → g_G → Prop) (px : String → g_G → Prop) : Prop :=
  ∃ c3 t4 : Nat, c3 ≤ mc0 ∧ t4 ≤ ms0 ∧
  w_rc G o 0 ∧
  g_px (wp_X1_message E G o p1 c3 t4) px (fun x1 G2 =>
  (¬ x1 = none →
    ∃ z5 : Nat, x1 = some z5 ∧
    w_gi G2 z5 5 1 (fun x6 =>
    post x6 G2
  )) ∧ (x1 = none →
    post (-nI 1) G2
  ))
def wp_X1_storeOf (E : g_E) (G : g_G) (o : Nat) (p1 : Int32) (mc0 ms0 : Nat) (post : Int32 → g_G → Prop) (px : String → g_G → Prop) : Prop :=
  ∃ c3 t4 : Nat, c3 ≤ mc0 ∧ t4 ≤ ms0 ∧
  w_rc G o 0 ∧
  g_px (wp_X1_message E G o p1 c3 t4) px (fun x1 G2 =>
  (¬ x1 = none →
    ∃ z5 : Nat, x1 = some z5 ∧
    w_gi G2 z5 5 2 (fun x6 =>
    post x6 G2
  )) ∧ (x1 = none →
    post (-nI 1) G2
  ))
def wp_X1_wouldSend (E : g_E) (G : g_G) (o : Nat) (p1 : Int32) (mc0 ms0 : Nat) (post : Int32 → g_G → Prop) (px : String → g_G → Prop) : Prop :=
  w_gr G o 0 2 (fun x1 =>
  w_gr G x1 1 2 (fun x2 =>
  w_rc G x2 9 ∧
  wp_J7_size E G x2 (fun x3 =>
  ∃ c7 t8 : Nat, c7 ≤ mc0 ∧ t8 ≤ ms0 ∧
  g_px (wp_X1_index E G p1 x3 c7 t8) px (fun G6 =>
  w_new E G6 1 11 [.null, .null, .null, .null, .null, .null, .null, .int 0, .int 0, .int 0, .int 0] (mc0 - c7) (ms0 - t8) (fun q9 G10 =>
  w_gr G10 o 0 2 (fun x11 =>
  ∃ c14 t15 : Nat, c14 ≤ (mc0 - c7 - 1) ∧ t15 ≤ (ms0 - t8 - 11) ∧
  wp_X2_init_2 E G10 q9 x11 c14 t15 (fun G13 =>
  ∃ c18 t19 : Nat, c18 ≤ (mc0 - c7 - 1 - c14) ∧ t19 ≤ (ms0 - t8 - 11 - t15) ∧
  w_rc G13 q9 1 ∧
  wp_X2_delivers E G13 q9 p1 c18 t19 (fun x16 G17 =>
  (x16 = 0 →
    post (-nI 1) G17
  ) ∧ (¬ x16 = 0 →
    w_gi G17 q9 1 8 (fun x20 =>
    w_gr G17 o 0 2 (fun x21 =>
    w_gi G17 x21 1 8 (fun x22 =>
    post (x20 - x22) G17
  ))))))))))))
def wp_X1_digest_326 (E : g_E) (post : Int64 → g_G → Prop) (px : String → g_G → Prop) : Nat → Nat → Int64 → Int32 → g_G → Nat → Nat → Prop
  | 0 => fun _ _ _ _ _ _ => False
  | n + 1 => fun y0 y3 y5 G mc ms =>
    w_gr G y0 0 0 (fun x62 =>
    w_rc G x62 12 ∧
    wp_J1_length E G x62 (fun x63 =>
    (x63 ≤ y5 →
      post y3 G
    ) ∧ (¬ x63 ≤ y5 →
      w_gr G y0 0 0 (fun x65 =>
      ∃ c68 t69 : Nat, c68 ≤ mc ∧ t69 ≤ ms ∧
      w_rc G x65 12 ∧
      wp_J1_charAt E G x65 y5 c68 t69 (fun x66 G67 =>
      wp_X1_digest_326 E post px n y0 (((lN 31) * y3) + x66.toInt64) (y5 + (nI 1)) G67 (mc - c68) (ms - t69)
    )))))
def wp_X1_digest_310 (E : g_E) (post : Int64 → g_G → Prop) (px : String → g_G → Prop) (y0 : Nat) (s0 : Int32) (s1 : Int64) (s2 : Int64) (G : g_G) (mc : Nat) (ms : Nat) : Prop :=
    w_gr G y0 0 0 (fun x59 =>
    w_rc G x59 12 ∧
    wp_J1_length E G x59 (fun x60 =>
    ∃ nf : Nat, wp_X1_digest_326 E post px nf y0 ((s2 * (s1 + s0.toInt64)) + x60.toInt64) (nI 0) G mc ms))
def wp_X1_digest_112 (E : g_E) (post : Int64 → g_G → Prop) (px : String → g_G → Prop) : Nat → Nat → Int32 → Int64 → Int32 → g_G → Nat → Nat → Prop
  | 0 => fun _ _ _ _ _ _ _ => False
  | n + 1 => fun y0 y2 y3 y5 G mc ms =>
    w_gr G y0 0 2 (fun x32 =>
    w_gr G x32 1 2 (fun x33 =>
    w_rc G x33 9 ∧
    wp_J7_size E G x33 (fun x34 =>
    (x34 ≤ y5 →
      w_gr G y0 0 2 (fun x36 =>
      w_gi G x36 1 8 (fun x37 =>
      w_rc G y0 0 ∧
      wp_X1_sentByAccount E G y0 (fun x38 =>
      w_gr G y0 0 2 (fun x40 =>
      w_gi G x40 1 10 (fun x41 =>
      w_gr G y0 0 2 (fun x42 =>
      w_rc G x42 1 ∧
      wp_X2_greatestSize E G x42 (nI 0) (nI 14) (fun x43 =>
      w_gr G y0 0 1 (fun x45 =>
      w_rc G x45 11 ∧
      wp_J5_size E G x45 (fun x46 =>
      w_rc G y0 0 ∧
      wp_X1_lostShare E G y0 (fun x48 =>
      wp_J25_doubleToLongBits E G x48 (fun x50 =>
      ∃ c54 t55 : Nat, c54 ≤ mc ∧ t55 ≤ ms ∧
      w_rc G y0 0 ∧
      wp_X1_meanSize E G y0 c54 t55 (fun x52 G53 =>
      wp_J26_floatToIntBits E G53 x52 (fun x56 =>
      w_gq G53 y0 0 3 (fun x58 =>
      (¬ x58 = none →
        wp_X1_digest_310 E post px y0 (nI 1) ((lN 31) * (((lN 31) * (((lN 31) * (((lN 31) * (((lN 31) * (((lN 31) * (((lN 31) * (((lN 31) * (((lN 31) * y3) + x37.toInt64)) + x38.toInt64)) + x41.toInt64)) + y2.toInt64)) + x43.toInt64)) + x46.toInt64)) + x50)) + x56.toInt64)) (lN 31) G53 (mc - c54) (ms - t55)
      ) ∧ (x58 = none →
        wp_X1_digest_310 E post px y0 (nI 0) ((lN 31) * (((lN 31) * (((lN 31) * (((lN 31) * (((lN 31) * (((lN 31) * (((lN 31) * (((lN 31) * (((lN 31) * y3) + x37.toInt64)) + x38.toInt64)) + x41.toInt64)) + y2.toInt64)) + x43.toInt64)) + x46.toInt64)) + x50)) + x56.toInt64)) (lN 31) G53 (mc - c54) (ms - t55)
      )
    ))))))))))))))) ∧ (¬ x34 ≤ y5 →
      ∃ c72 t73 : Nat, c72 ≤ mc ∧ t73 ≤ ms ∧
      w_rc G y0 0 ∧
      g_px (wp_X1_kindOf E G y0 y5 c72 t73) px (fun x70 G71 =>
      ∃ c76 t77 : Nat, c76 ≤ (mc - c72) ∧ t77 ≤ (ms - t73) ∧
      w_rc G71 y0 0 ∧
      g_px (wp_X1_transferOf E G71 y0 y5 c76 t77) px (fun x74 G75 =>
      ∃ c80 t81 : Nat, c80 ≤ (mc - c72 - c76) ∧ t81 ≤ (ms - t73 - t77) ∧
      w_rc G75 y0 0 ∧
      g_px (wp_X1_storeOf E G75 y0 y5 c80 t81) px (fun x78 G79 =>
      ∃ c84 t85 : Nat, c84 ≤ (mc - c72 - c76 - c80) ∧ t85 ≤ (ms - t73 - t77 - t81) ∧
      w_rc G79 y0 0 ∧
      g_px (wp_X1_wouldSend E G79 y0 y5 c84 t85) px (fun x82 G83 =>
      wp_X1_digest_112 E post px n y0 y2 (((lN 31) * (((lN 31) * (((lN 31) * (((lN 31) * y3) + x70.toInt64)) + x74.toInt64)) + x78.toInt64)) + x82.toInt64) (y5 + (nI 1)) G83 (mc - c72 - c76 - c80 - c84) (ms - t73 - t77 - t81 - t85)
    ))))))))
def wp_X1_digest_38 (E : g_E) (post : Int64 → g_G → Prop) (px : String → g_G → Prop) : Nat → Nat → Nat → Int32 → Int64 → Int32 → g_G → Nat → Nat → Prop
  | 0 => fun _ _ _ _ _ _ _ _ => False
  | n + 1 => fun y0 y1 y2 y3 y5 G mc ms =>
    w_gr G y0 0 2 (fun x16 =>
    w_gr G x16 1 0 (fun x17 =>
    w_rc G x17 9 ∧
    wp_J7_size E G x17 (fun x18 =>
    (x18 ≤ y5 →
      ∃ c22 t23 : Nat, c22 ≤ mc ∧ t23 ≤ ms ∧
      w_rc G y0 0 ∧
      wp_X1_hashOfSites E G y0 y3 y1 c22 t23 (fun x20 G21 =>
      w_rc G21 y0 0 ∧
      wp_X1_total E G21 y0 (fun x24 =>
      ∃ c28 t29 : Nat, c28 ≤ (mc - c22) ∧ t29 ≤ (ms - t23) ∧
      w_rc G21 y0 0 ∧
      wp_X1_onTheWay E G21 y0 c28 t29 (fun x26 G27 =>
      w_rc G27 y0 0 ∧
      wp_X1_waiting E G27 y0 (fun x30 =>
      ∃ nf : Nat, wp_X1_digest_112 E post px nf y0 y2 (((lN 31) * (((lN 31) * (((lN 31) * x20) + x24.toInt64)) + x26.toInt64)) + x30.toInt64) (nI 0) G27 (mc - c22 - c28) (ms - t23 - t29)
    ))))) ∧ (¬ x18 ≤ y5 →
      ∃ c88 t89 : Nat, c88 ≤ mc ∧ t89 ≤ ms ∧
      w_rc G y0 0 ∧
      wp_X1_hashOfTransfer E G y0 y3 y5 y1 c88 t89 (fun x86 G87 =>
      wp_X1_digest_38 E post px n y0 y1 y2 x86 (y5 + (nI 1)) G87 (mc - c88) (ms - t89)
    )))))
def wp_X1_digest (E : g_E) (G : g_G) (o : Nat) (mc0 ms0 : Nat) (post : Int64 → g_G → Prop) (px : String → g_G → Prop) : Prop :=
  w_new E G 1 11 [.null, .null, .null, .null, .null, .null, .null, .int 0, .int 0, .int 0, .int 0] mc0 ms0 (fun q1 G2 =>
  w_gr G2 o 0 2 (fun x3 =>
  ∃ c6 t7 : Nat, c6 ≤ (mc0 - 1) ∧ t7 ≤ (ms0 - 11) ∧
  wp_X2_init_2 E G2 q1 x3 c6 t7 (fun G5 =>
  ∃ c10 t11 : Nat, c10 ≤ (mc0 - 1 - c6) ∧ t11 ≤ (ms0 - 11 - t7) ∧
  w_rc G5 q1 1 ∧
  wp_X2_settles E G5 q1 c10 t11 (fun x8 G9 =>
  w_gr G9 o 0 2 (fun x12 =>
  w_gr G9 x12 1 0 (fun x13 =>
  w_rc G9 x13 9 ∧
  wp_J7_size E G9 x13 (fun x14 =>
  ∃ nf : Nat, wp_X1_digest_38 E post px nf o q1 x8 ((lN 130789) + x14.toInt64) (nI 0) G9 (mc0 - 1 - c6 - c10) (ms0 - 11 - t7 - t11))))))))
def wp_X1_argument (E : g_E) (G : g_G) (p1 : Int32) (mc0 ms0 : Nat) (post : g_G → Prop) (px : String → g_G → Prop) : Prop :=
  (¬ p1 = 0 →
    post G
  ) ∧ (p1 = 0 →
    w_exc E G 14 mc0 ms0 (fun G9 => px "java/lang/IllegalArgumentException" G9)
  )
def wp_X1_areStores_33 (E : g_E) (post : g_G → Prop) (px : String → g_G → Prop) (s0 : Int32) (G : g_G) (mc : Nat) (ms : Nat) : Prop :=
    ∃ c7 t8 : Nat, c7 ≤ mc ∧ t8 ≤ ms ∧
    g_px (wp_X1_argument E G s0 c7 t8) px (fun G6 =>
    post G6)
def wp_X1_areStores_32 (E : g_E) (post : g_G → Prop) (px : String → g_G → Prop) (B33 : Int32 → g_G → Nat → Nat → Prop) (G : g_G) (mc : Nat) (ms : Nat) : Prop :=
    B33 (nI 0) G mc ms
def wp_X1_areStores (E : g_E) (G : g_G) (p1 : Int32) (p2 : Int32) (p3 : Int32) (mc0 ms0 : Nat) (post : g_G → Prop) (px : String → g_G → Prop) : Prop :=
  ∃ c3 t4 : Nat, c3 ≤ mc0 ∧ t4 ≤ ms0 ∧
  g_px (wp_X1_index E G p1 (nI 4) c3 t4) px (fun G2 =>
  (p2 < (nI 1) →
    wp_X1_areStores_32 E post px (wp_X1_areStores_33 E post px) G2 (mc0 - c3) (ms0 - t4)
  ) ∧ (¬ p2 < (nI 1) →
    ((nI 15) < p2 →
      wp_X1_areStores_32 E post px (wp_X1_areStores_33 E post px) G2 (mc0 - c3) (ms0 - t4)
    ) ∧ (¬ (nI 15) < p2 →
      wp_X1_has E G2 p2 p1 (fun x9 =>
      (¬ x9 = 0 →
        wp_X1_areStores_32 E post px (wp_X1_areStores_33 E post px) G2 (mc0 - c3) (ms0 - t4)
      ) ∧ (x9 = 0 →
        (p3 = 0 →
          wp_X1_areStores_32 E post px (wp_X1_areStores_33 E post px) G2 (mc0 - c3) (ms0 - t4)
        ) ∧ (¬ p3 = 0 →
          wp_X1_areStores_33 E post px (nI 1) G2 (mc0 - c3) (ms0 - t4)
        )
      )
    ))
  ))
def wp_X1_state (E : g_E) (G : g_G) (p1 : Int32) (mc0 ms0 : Nat) (post : g_G → Prop) (px : String → g_G → Prop) : Prop :=
  (¬ p1 = 0 →
    post G
  ) ∧ (p1 = 0 →
    w_exc E G 15 mc0 ms0 (fun G9 => px "java/lang/IllegalStateException" G9)
  )
def wp_X1_begin_18 (E : g_E) (post : Int32 → g_G → Prop) (px : String → g_G → Prop) (y0 : Nat) (y1 : Int32) (y2 : Int32) (y3 : Int32) (s0 : Int32) (s1 : Int32) (s2 : Int32) (G : g_G) (mc : Nat) (ms : Nat) : Prop :=
    ∃ c3 t4 : Nat, c3 ≤ mc ∧ t4 ≤ ms ∧
    g_px (wp_X1_areStores E G s2 s1 s0 c3 t4) px (fun G2 =>
    w_gr G2 y0 0 2 (fun x5 =>
    w_rc G2 x5 1 ∧
    wp_X2_canBegin E G2 x5 (fun x6 =>
    ∃ c10 t11 : Nat, c10 ≤ (mc - c3) ∧ t11 ≤ (ms - t4) ∧
    g_px (wp_X1_state E G2 x6 c10 t11) px (fun G9 =>
    ∃ c14 t15 : Nat, c14 ≤ (mc - c3 - c10) ∧ t15 ≤ (ms - t4 - t11) ∧
    w_rc G9 y0 0 ∧
    wp_X1_saves E G9 y0 c14 t15 (fun G13 =>
    w_gr G13 y0 0 2 (fun x16 =>
    w_new E G13 3 3 [.int 0, .int 0, .int 0] (mc - c3 - c10 - c14) (ms - t4 - t11 - t15) (fun q17 G18 =>
    wp_X4_init E G18 q17 y1 y2 y3 (fun G20 =>
    ∃ c23 t24 : Nat, c23 ≤ (mc - c3 - c10 - c14 - 1) ∧ t24 ≤ (ms - t4 - t11 - t15 - 3) ∧
    w_rc G20 x16 1 ∧
    wp_X2_begins E G20 x16 q17 c23 t24 (fun x21 G22 =>
    post x21 G22)))))))))
def wp_X1_begin_17 (E : g_E) (post : Int32 → g_G → Prop) (px : String → g_G → Prop) (B18 : Nat → Int32 → Int32 → Int32 → Int32 → Int32 → Int32 → g_G → Nat → Nat → Prop) (y0 : Nat) (y1 : Int32) (y2 : Int32) (y3 : Int32) (s0 : Int32) (s1 : Int32) (G : g_G) (mc : Nat) (ms : Nat) : Prop :=
    B18 y0 y1 y2 y3 (nI 0) s0 s1 G mc ms
def wp_X1_begin (E : g_E) (G : g_G) (o : Nat) (p1 : Int32) (p2 : Int32) (p3 : Int32) (mc0 ms0 : Nat) (post : Int32 → g_G → Prop) (px : String → g_G → Prop) : Prop :=
  (p3 < (nI 1) →
    wp_X1_begin_17 E post px (wp_X1_begin_18 E post px) o p1 p2 p3 p2 p1 G mc0 ms0
  ) ∧ (¬ p3 < (nI 1) →
    ((nI 50) < p3 →
      wp_X1_begin_17 E post px (wp_X1_begin_18 E post px) o p1 p2 p3 p2 p1 G mc0 ms0
    ) ∧ (¬ (nI 50) < p3 →
      wp_X1_begin_18 E post px o p1 p2 p3 (nI 1) p2 p1 G mc0 ms0
    )
  )
def wp_X1_giveUp (E : g_E) (G : g_G) (o : Nat) (p1 : Int32) (mc0 ms0 : Nat) (post : Int32 → g_G → Prop) (px : String → g_G → Prop) : Prop :=
  w_gr G o 0 2 (fun x1 =>
  w_gr G x1 1 0 (fun x2 =>
  w_rc G x2 9 ∧
  wp_J7_size E G x2 (fun x3 =>
  ∃ c7 t8 : Nat, c7 ≤ mc0 ∧ t8 ≤ ms0 ∧
  g_px (wp_X1_index E G p1 x3 c7 t8) px (fun G6 =>
  w_gr G6 o 0 2 (fun x9 =>
  ∃ c12 t13 : Nat, c12 ≤ (mc0 - c7) ∧ t13 ≤ (ms0 - t8) ∧
  w_rc G6 x9 1 ∧
  wp_X2_canGiveUp E G6 x9 p1 c12 t13 (fun x10 G11 =>
  ∃ c16 t17 : Nat, c16 ≤ (mc0 - c7 - c12) ∧ t17 ≤ (ms0 - t8 - t13) ∧
  g_px (wp_X1_state E G11 x10 c16 t17) px (fun G15 =>
  ∃ c20 t21 : Nat, c20 ≤ (mc0 - c7 - c12 - c16) ∧ t21 ≤ (ms0 - t8 - t13 - t17) ∧
  w_rc G15 o 0 ∧
  wp_X1_saves E G15 o c20 t21 (fun G19 =>
  w_gr G19 o 0 2 (fun x22 =>
  ∃ c25 t26 : Nat, c25 ≤ (mc0 - c7 - c12 - c16 - c20) ∧ t26 ≤ (ms0 - t8 - t13 - t17 - t21) ∧
  w_rc G19 x22 1 ∧
  wp_X2_givesUp E G19 x22 p1 c25 t26 (fun x23 G24 =>
  post x23 G24))))))))))
def wp_X1_isStoreOf (E : g_E) (G : g_G) (o : Nat) (p1 : Int32) (p2 : Int32) (mc0 ms0 : Nat) (post : g_G → Prop) (px : String → g_G → Prop) : Prop :=
  ∃ c3 t4 : Nat, c3 ≤ mc0 ∧ t4 ≤ ms0 ∧
  g_px (wp_X1_index E G p1 (nI 4) c3 t4) px (fun G2 =>
  w_gr G2 o 0 2 (fun x5 =>
  w_gr G2 x5 1 0 (fun x6 =>
  w_rc G2 x6 9 ∧
  wp_J7_size E G2 x6 (fun x7 =>
  ∃ c11 t12 : Nat, c11 ≤ (mc0 - c3) ∧ t12 ≤ (ms0 - t4) ∧
  g_px (wp_X1_index E G2 p2 x7 c11 t12) px (fun G10 =>
  post G10)))))
def wp_X1_ask (E : g_E) (G : g_G) (o : Nat) (p1 : Int32) (p2 : Int32) (mc0 ms0 : Nat) (post : Int32 → g_G → Prop) (px : String → g_G → Prop) : Prop :=
  ∃ c3 t4 : Nat, c3 ≤ mc0 ∧ t4 ≤ ms0 ∧
  w_rc G o 0 ∧
  g_px (wp_X1_isStoreOf E G o p1 p2 c3 t4) px (fun G2 =>
  w_gr G2 o 0 2 (fun x5 =>
  w_rc G2 x5 1 ∧
  wp_X2_canAsk E G2 x5 p1 p2 (fun x6 =>
  ∃ c10 t11 : Nat, c10 ≤ (mc0 - c3) ∧ t11 ≤ (ms0 - t4) ∧
  g_px (wp_X1_state E G2 x6 c10 t11) px (fun G9 =>
  ∃ c14 t15 : Nat, c14 ≤ (mc0 - c3 - c10) ∧ t15 ≤ (ms0 - t4 - t11) ∧
  w_rc G9 o 0 ∧
  wp_X1_saves E G9 o c14 t15 (fun G13 =>
  w_gr G13 o 0 2 (fun x16 =>
  ∃ c19 t20 : Nat, c19 ≤ (mc0 - c3 - c10 - c14) ∧ t20 ≤ (ms0 - t4 - t11 - t15) ∧
  w_rc G13 x16 1 ∧
  wp_X2_asks E G13 x16 p1 p2 c19 t20 (fun x17 G18 =>
  post x17 G18)))))))
def wp_X1_deliver (E : g_E) (G : g_G) (o : Nat) (p1 : Int32) (mc0 ms0 : Nat) (post : Int32 → g_G → Prop) (px : String → g_G → Prop) : Prop :=
  w_gr G o 0 2 (fun x1 =>
  w_gr G x1 1 2 (fun x2 =>
  w_rc G x2 9 ∧
  wp_J7_size E G x2 (fun x3 =>
  ∃ c7 t8 : Nat, c7 ≤ mc0 ∧ t8 ≤ ms0 ∧
  g_px (wp_X1_index E G p1 x3 c7 t8) px (fun G6 =>
  ∃ c11 t12 : Nat, c11 ≤ (mc0 - c7) ∧ t12 ≤ (ms0 - t8) ∧
  w_rc G6 o 0 ∧
  wp_X1_saves E G6 o c11 t12 (fun G10 =>
  w_gr G10 o 0 2 (fun x13 =>
  ∃ c16 t17 : Nat, c16 ≤ (mc0 - c7 - c11) ∧ t17 ≤ (ms0 - t8 - t12) ∧
  w_rc G10 x13 1 ∧
  wp_X2_delivers E G10 x13 p1 c16 t17 (fun x14 G15 =>
  narrow .boolean (.int x14) = .int x14 ∧ post x14 G15)))))))
def wp_X1_lose (E : g_E) (G : g_G) (o : Nat) (p1 : Int32) (mc0 ms0 : Nat) (post : Int32 → g_G → Prop) (px : String → g_G → Prop) : Prop :=
  w_gr G o 0 2 (fun x1 =>
  w_gr G x1 1 2 (fun x2 =>
  w_rc G x2 9 ∧
  wp_J7_size E G x2 (fun x3 =>
  ∃ c7 t8 : Nat, c7 ≤ mc0 ∧ t8 ≤ ms0 ∧
  g_px (wp_X1_index E G p1 x3 c7 t8) px (fun G6 =>
  ∃ c11 t12 : Nat, c11 ≤ (mc0 - c7) ∧ t12 ≤ (ms0 - t8) ∧
  w_rc G6 o 0 ∧
  wp_X1_saves E G6 o c11 t12 (fun G10 =>
  w_gr G10 o 0 2 (fun x13 =>
  w_rc G10 x13 1 ∧
  wp_X2_loses E G10 x13 p1 (fun x14 G15 =>
  post x14 G15)))))))
def wp_X1_crash (E : g_E) (G : g_G) (o : Nat) (p1 : Int32) (mc0 ms0 : Nat) (post : Int32 → g_G → Prop) (px : String → g_G → Prop) : Prop :=
  ∃ c3 t4 : Nat, c3 ≤ mc0 ∧ t4 ≤ ms0 ∧
  g_px (wp_X1_index E G p1 (nI 5) c3 t4) px (fun G2 =>
  w_gr G2 o 0 2 (fun x5 =>
  w_rc G2 x5 1 ∧
  wp_X2_isUp E G2 x5 p1 (fun x6 =>
  ∃ c10 t11 : Nat, c10 ≤ (mc0 - c3) ∧ t11 ≤ (ms0 - t4) ∧
  g_px (wp_X1_state E G2 x6 c10 t11) px (fun G9 =>
  ∃ c14 t15 : Nat, c14 ≤ (mc0 - c3 - c10) ∧ t15 ≤ (ms0 - t4 - t11) ∧
  w_rc G9 o 0 ∧
  wp_X1_saves E G9 o c14 t15 (fun G13 =>
  w_gr G13 o 0 2 (fun x16 =>
  w_rc G13 x16 1 ∧
  wp_X2_crashes E G13 x16 p1 (fun x17 G18 =>
  post x17 G18)))))))
def wp_X1_recover_21 (E : g_E) (post : Int32 → g_G → Prop) (px : String → g_G → Prop) (y0 : Nat) (y1 : Int32) (s0 : Int32) (G : g_G) (mc : Nat) (ms : Nat) : Prop :=
    ∃ c10 t11 : Nat, c10 ≤ mc ∧ t11 ≤ ms ∧
    g_px (wp_X1_state E G s0 c10 t11) px (fun G9 =>
    ∃ c14 t15 : Nat, c14 ≤ (mc - c10) ∧ t15 ≤ (ms - t11) ∧
    w_rc G9 y0 0 ∧
    wp_X1_saves E G9 y0 c14 t15 (fun G13 =>
    w_gr G13 y0 0 2 (fun x16 =>
    ∃ c19 t20 : Nat, c19 ≤ (mc - c10 - c14) ∧ t20 ≤ (ms - t11 - t15) ∧
    w_rc G13 x16 1 ∧
    wp_X2_recovers E G13 x16 y1 c19 t20 (fun x17 G18 =>
    post x17 G18))))
def wp_X1_recover (E : g_E) (G : g_G) (o : Nat) (p1 : Int32) (mc0 ms0 : Nat) (post : Int32 → g_G → Prop) (px : String → g_G → Prop) : Prop :=
  ∃ c3 t4 : Nat, c3 ≤ mc0 ∧ t4 ≤ ms0 ∧
  g_px (wp_X1_index E G p1 (nI 5) c3 t4) px (fun G2 =>
  w_gr G2 o 0 2 (fun x5 =>
  w_rc G2 x5 1 ∧
  wp_X2_isUp E G2 x5 p1 (fun x6 =>
  (¬ x6 = 0 →
    wp_X1_recover_21 E post px o p1 (nI 0) G2 (mc0 - c3) (ms0 - t4)
  ) ∧ (x6 = 0 →
    wp_X1_recover_21 E post px o p1 (nI 1) G2 (mc0 - c3) (ms0 - t4)
  ))))
def wp_X1_append_37 (E : g_E) (post : Int32 → g_G → Prop) (px : String → g_G → Prop) (y0 : Nat) (y1 : Int32) (s0 : Int32) (G : g_G) (mc : Nat) (ms : Nat) : Prop :=
    ∃ c10 t11 : Nat, c10 ≤ mc ∧ t11 ≤ ms ∧
    g_px (wp_X1_state E G s0 c10 t11) px (fun G9 =>
    w_gr G9 y0 0 0 (fun x12 =>
    ∃ c15 t16 : Nat, c15 ≤ (mc - c10) ∧ t16 ≤ (ms - t11) ∧
    w_rc G9 x12 12 ∧
    wp_J1_append_3 E G9 x12 ((y1.toUInt32 % 65536).toInt32) c15 t16 (fun x13 G14 =>
    w_gr G14 y0 0 0 (fun x17 =>
    w_rc G14 x17 12 ∧
    wp_J1_length E G14 x17 (fun x18 =>
    post x18 G14)))))
def wp_X1_append_17 (E : g_E) (post : Int32 → g_G → Prop) (px : String → g_G → Prop) (y0 : Nat) (y1 : Int32) (s0 : Int32) (G : g_G) (mc : Nat) (ms : Nat) : Prop :=
    ∃ c3 t4 : Nat, c3 ≤ mc ∧ t4 ≤ ms ∧
    g_px (wp_X1_argument E G s0 c3 t4) px (fun G2 =>
    w_gr G2 y0 0 0 (fun x5 =>
    w_rc G2 x5 12 ∧
    wp_J1_length E G2 x5 (fun x6 =>
    ((nI 60) ≤ x6 →
      wp_X1_append_37 E post px y0 y1 (nI 0) G2 (mc - c3) (ms - t4)
    ) ∧ (¬ (nI 60) ≤ x6 →
      wp_X1_append_37 E post px y0 y1 (nI 1) G2 (mc - c3) (ms - t4)
    ))))
def wp_X1_append_16 (E : g_E) (post : Int32 → g_G → Prop) (px : String → g_G → Prop) (B17 : Nat → Int32 → Int32 → g_G → Nat → Nat → Prop) (y0 : Nat) (y1 : Int32) (G : g_G) (mc : Nat) (ms : Nat) : Prop :=
    B17 y0 y1 (nI 0) G mc ms
def wp_X1_append (E : g_E) (G : g_G) (o : Nat) (p1 : Int32) (mc0 ms0 : Nat) (post : Int32 → g_G → Prop) (px : String → g_G → Prop) : Prop :=
  (p1 < (nI 33) →
    wp_X1_append_16 E post px (wp_X1_append_17 E post px) o p1 G mc0 ms0
  ) ∧ (¬ p1 < (nI 33) →
    ((nI 126) < p1 →
      wp_X1_append_16 E post px (wp_X1_append_17 E post px) o p1 G mc0 ms0
    ) ∧ (¬ (nI 126) < p1 →
      wp_X1_append_17 E post px o p1 (nI 1) G mc0 ms0
    )
  )
def wp_X1_isDone (E : g_E) (G : g_G) (o : Nat) (p1 : Nat) (mc0 ms0 : Nat) (post : Int32 → g_G → Prop) : Prop :=
  w_gi G p1 8 1 (fun x1 =>
  w_gi G p1 8 0 (fun x2 =>
  (x2 = nI 99 →
    w_gr G o 0 2 (fun x3 =>
    w_rc G x3 1 ∧
    wp_X2_isUp E G x3 x1 (fun x4 =>
    (x4 = 0 →
      post (nI 0) G
    ) ∧ (¬ x4 = 0 →
      w_gr G o 0 2 (fun x6 =>
      w_rc G x6 1 ∧
      wp_X2_crashes E G x6 x1 (fun x7 G8 =>
      (x7 < 0 →
        post (nI 0) G8
      ) ∧ (¬ x7 < 0 →
        post (nI 1) G8
      )
    )))
  ))) ∧
  (x2 = nI 100 →
    w_gr G o 0 2 (fun x9 =>
    ∃ c12 t13 : Nat, c12 ≤ mc0 ∧ t13 ≤ ms0 ∧
    w_rc G x9 1 ∧
    wp_X2_deliversFirst E G x9 (x1 + (nI 1)) c12 t13 (fun x10 G11 =>
    (x10 < 0 →
      post (nI 0) G11
    ) ∧ (¬ x10 < 0 →
      post (nI 1) G11
    )
  ))) ∧
  (x2 = nI 103 →
    w_gr G o 0 2 (fun x14 =>
    ∃ c17 t18 : Nat, c17 ≤ mc0 ∧ t18 ≤ ms0 ∧
    w_rc G x14 1 ∧
    wp_X2_canGiveUp E G x14 x1 c17 t18 (fun x15 G16 =>
    (x15 = 0 →
      post (nI 0) G16
    ) ∧ (¬ x15 = 0 →
      w_gr G16 o 0 2 (fun x19 =>
      ∃ c22 t23 : Nat, c22 ≤ (mc0 - c17) ∧ t23 ≤ (ms0 - t18) ∧
      w_rc G16 x19 1 ∧
      wp_X2_givesUp E G16 x19 x1 c22 t23 (fun x20 G21 =>
      (x20 < 0 →
        post (nI 0) G21
      ) ∧ (¬ x20 < 0 →
        post (nI 1) G21
      )
    )))
  ))) ∧
  (x2 = nI 108 →
    w_gr G o 0 2 (fun x24 =>
    w_gr G x24 1 2 (fun x25 =>
    w_rc G x25 9 ∧
    wp_J7_size E G x25 (fun x26 =>
    (x26 ≤ x1 →
      post (nI 0) G
    ) ∧ (¬ x26 ≤ x1 →
      w_gr G o 0 2 (fun x28 =>
      w_rc G x28 1 ∧
      wp_X2_loses E G x28 x1 (fun x29 G30 =>
      (x29 < 0 →
        post (nI 0) G30
      ) ∧ (¬ x29 < 0 →
        post (nI 1) G30
      )
    )))
  )))) ∧
  (x2 = nI 114 →
    w_gr G o 0 2 (fun x31 =>
    w_rc G x31 1 ∧
    wp_X2_isUp E G x31 x1 (fun x32 =>
    (¬ x32 = 0 →
      post (nI 0) G
    ) ∧ (x32 = 0 →
      w_gr G o 0 2 (fun x34 =>
      ∃ c37 t38 : Nat, c37 ≤ mc0 ∧ t38 ≤ ms0 ∧
      w_rc G x34 1 ∧
      wp_X2_recovers E G x34 x1 c37 t38 (fun x35 G36 =>
      (x35 < 0 →
        post (nI 0) G36
      ) ∧ (¬ x35 < 0 →
        post (nI 1) G36
      )
    )))
  ))) ∧
  (¬ x2 = nI 99 → ¬ x2 = nI 100 → ¬ x2 = nI 103 → ¬ x2 = nI 108 → ¬ x2 = nI 114 → 
    w_gr G o 0 2 (fun x39 =>
    w_gi G p1 8 2 (fun x40 =>
    w_rc G x39 1 ∧
    wp_X2_canAsk E G x39 x40 x1 (fun x41 =>
    (x41 = 0 →
      post (nI 0) G
    ) ∧ (¬ x41 = 0 →
      w_gr G o 0 2 (fun x43 =>
      w_gi G p1 8 2 (fun x44 =>
      ∃ c47 t48 : Nat, c47 ≤ mc0 ∧ t48 ≤ ms0 ∧
      w_rc G x43 1 ∧
      wp_X2_asks E G x43 x44 x1 c47 t48 (fun x45 G46 =>
      (x45 < 0 →
        post (nI 0) G46
      ) ∧ (¬ x45 < 0 →
        post (nI 1) G46
      )
    ))))
  ))))))
def wp_X1_does (E : g_E) (G : g_G) (o : Nat) (p1 : Nat) (mc0 ms0 : Nat) (post : Int32 → g_G → Prop) : Prop :=
  w_inst G (some p1) 7 8 (fun x1 =>
  (x1 = 0 →
    w_inst G (some p1) 8 7 (fun x2 =>
    (x2 = 0 →
      post (nI 0) G
    ) ∧ (¬ x2 = 0 →
      w_cc G (some p1) 8 (fun z3 =>
      ∃ c6 t7 : Nat, c6 ≤ mc0 ∧ t7 ≤ ms0 ∧
      w_rc G o 0 ∧
      wp_X1_isDone E G o z3 c6 t7 (fun x4 G5 =>
      (x4 = 0 →
        post (nI 0) G5
      ) ∧ (¬ x4 = 0 →
        post (nI 1) G5
      )
    )))
  )) ∧ (¬ x1 = 0 →
    w_cc G (some p1) 7 (fun z8 =>
    w_gr G o 0 2 (fun x9 =>
    w_rc G x9 1 ∧
    wp_X2_canBegin E G x9 (fun x10 =>
    (x10 = 0 →
      post (nI 0) G
    ) ∧ (¬ x10 = 0 →
      w_gr G o 0 2 (fun x12 =>
      w_gr G z8 7 0 (fun x13 =>
      ∃ c16 t17 : Nat, c16 ≤ mc0 ∧ t17 ≤ ms0 ∧
      w_rc G x12 1 ∧
      wp_X2_begins E G x12 x13 c16 t17 (fun x14 G15 =>
      (x14 < 0 →
        post (nI 0) G15
      ) ∧ (¬ x14 < 0 →
        post (nI 1) G15
      )
    ))))
  )))))
def wp_X1_runCourse_33 (E : g_E) (post : Int32 → g_G → Prop) (px : String → g_G → Prop) : Nat → Nat → Option Nat → Int32 → g_G → Nat → Nat → Prop
  | 0 => fun _ _ _ _ _ _ => False
  | n + 1 => fun y0 y1 y2 G mc ms =>
    ∃ z26 : Nat, y1 = some z26 ∧
    w_gr G z26 6 0 (fun x27 =>
    w_rc G x27 9 ∧
    wp_J7_size E G x27 (fun x28 =>
    (x28 ≤ y2 →
      post y2 G
    ) ∧ (¬ x28 ≤ y2 →
      w_gr G z26 6 0 (fun x30 =>
      w_rc G x30 9 ∧
      wp_J7_get E G x30 y2 (fun x31 =>
      w_ccP G x31 (fun z33 =>
      ∃ c36 t37 : Nat, c36 ≤ mc ∧ t37 ≤ ms ∧
      w_rc G y0 0 ∧
      wp_X1_does E G y0 z33 c36 t37 (fun x34 G35 =>
      (x34 = 0 →
        post y2 G35
      ) ∧ (¬ x34 = 0 →
        wp_X1_runCourse_33 E post px n y0 (some z26) (y2 + (nI 1)) G35 (mc - c36) (ms - t37)
      )
    )))))))
def wp_X1_runCourse (E : g_E) (G : g_G) (o : Nat) (mc0 ms0 : Nat) (post : Int32 → g_G → Prop) (px : String → g_G → Prop) : Prop :=
  w_new E G 6 4 [.null, .int 0, .int 0, .null] mc0 ms0 (fun q1 G2 =>
  ∃ c5 t6 : Nat, c5 ≤ (mc0 - 1) ∧ t6 ≤ (ms0 - 4) ∧
  wp_X7_init E G2 q1 o c5 t6 (fun G4 =>
  ∃ c9 t10 : Nat, c9 ≤ (mc0 - 1 - c5) ∧ t10 ≤ (ms0 - 4 - t6) ∧
  w_rc G4 q1 6 ∧
  wp_X7_reads E G4 q1 c9 t10 (fun x7 G8 =>
  ∃ z11 : Nat, x7 = some z11 ∧
  w_gi G8 z11 6 2 (fun x12 =>
  ∃ c15 t16 : Nat, c15 ≤ (mc0 - 1 - c5 - c9) ∧ t16 ≤ (ms0 - 4 - t6 - t10) ∧
  g_px (wp_X1_argument E G8 x12 c15 t16) px (fun G14 =>
  ∃ c19 t20 : Nat, c19 ≤ (mc0 - 1 - c5 - c9 - c15) ∧ t20 ≤ (ms0 - 4 - t6 - t10 - t16) ∧
  w_rc G14 o 0 ∧
  wp_X1_saves E G14 o c19 t20 (fun G18 =>
  w_gr G18 o 0 0 (fun x21 =>
  ∃ c24 t25 : Nat, c24 ≤ (mc0 - 1 - c5 - c9 - c15 - c19) ∧ t25 ≤ (ms0 - 4 - t6 - t10 - t16 - t20) ∧
  w_rc G18 x21 12 ∧
  wp_J1_setLength E G18 x21 (nI 0) c24 t25 (fun G23 =>
  ∃ nf : Nat, wp_X1_runCourse_33 E post px nf o (some z11) (nI 0) G23 (mc0 - 1 - c5 - c9 - c15 - c19 - c24) (ms0 - 4 - t6 - t10 - t16 - t20 - t25)))))))))
def wp_X1_goBack_12 (E : g_E) (post : Int32 → g_G → Prop) (px : String → g_G → Prop) (y0 : Nat) (s0 : Int32) (G : g_G) (mc : Nat) (ms : Nat) : Prop :=
    ∃ c4 t5 : Nat, c4 ≤ mc ∧ t5 ≤ ms ∧
    g_px (wp_X1_state E G s0 c4 t5) px (fun G3 =>
    ∃ c8 t9 : Nat, c8 ≤ (mc - c4) ∧ t9 ≤ (ms - t5) ∧
    w_rc G3 y0 0 ∧
    wp_X1_saves E G3 y0 c8 t9 (fun G7 =>
    w_new E G7 1 11 [.null, .null, .null, .null, .null, .null, .null, .int 0, .int 0, .int 0, .int 0] (mc - c4 - c8) (ms - t5 - t9) (fun q10 G11 =>
    w_gq G11 y0 0 3 (fun x12 =>
    ∃ z13 : Nat, x12 = some z13 ∧
    ∃ c16 t17 : Nat, c16 ≤ (mc - c4 - c8 - 1) ∧ t17 ≤ (ms - t5 - t9 - 11) ∧
    wp_X2_init_2 E G11 q10 z13 c16 t17 (fun G15 =>
    w_put G15 y0 0 2 (.ref q10) (fun G18 =>
    w_gr G18 y0 0 2 (fun x19 =>
    w_gr G18 x19 1 2 (fun x20 =>
    w_rc G18 x20 9 ∧
    wp_J7_size E G18 x20 (fun x21 =>
    post x21 G18)))))))))
def wp_X1_goBack (E : g_E) (G : g_G) (o : Nat) (mc0 ms0 : Nat) (post : Int32 → g_G → Prop) (px : String → g_G → Prop) : Prop :=
  w_gq G o 0 3 (fun x1 =>
  (x1 = none →
    wp_X1_goBack_12 E post px o (nI 0) G mc0 ms0
  ) ∧ (¬ x1 = none →
    wp_X1_goBack_12 E post px o (nI 1) G mc0 ms0
  ))
def wp_X1_undo_15 (E : g_E) (post : Int32 → g_G → Prop) (px : String → g_G → Prop) (y0 : Nat) (s0 : Int32) (G : g_G) (mc : Nat) (ms : Nat) : Prop :=
    ∃ c6 t7 : Nat, c6 ≤ mc ∧ t7 ≤ ms ∧
    g_px (wp_X1_state E G s0 c6 t7) px (fun G5 =>
    w_gr G5 y0 0 1 (fun x8 =>
    ∃ c11 t12 : Nat, c11 ≤ (mc - c6) ∧ t12 ≤ (ms - t7) ∧
    w_rc G5 x8 11 ∧
    wp_J5_removeLast E G5 x8 c11 t12 (fun x9 G10 =>
    w_cc G10 x9 1 (fun z13 =>
    w_put G10 y0 0 2 (.ref z13) (fun G14 =>
    w_gr G14 y0 0 1 (fun x15 =>
    w_rc G14 x15 11 ∧
    wp_J5_size E G14 x15 (fun x16 =>
    post x16 G14)))))))
def wp_X1_undo (E : g_E) (G : g_G) (o : Nat) (mc0 ms0 : Nat) (post : Int32 → g_G → Prop) (px : String → g_G → Prop) : Prop :=
  w_gr G o 0 1 (fun x1 =>
  w_rc G x1 11 ∧
  wp_J5_isEmpty E G x1 (fun x2 =>
  (¬ x2 = 0 →
    wp_X1_undo_15 E post px o (nI 0) G mc0 ms0
  ) ∧ (x2 = 0 →
    wp_X1_undo_15 E post px o (nI 1) G mc0 ms0
  )))
def wp_X1_transfer (E : g_E) (G : g_G) (o : Nat) (p1 : Int32) (mc0 ms0 : Nat) (post : Option Nat → g_G → Prop) (px : String → g_G → Prop) : Prop :=
  w_gr G o 0 2 (fun x1 =>
  w_gr G x1 1 0 (fun x2 =>
  w_rc G x2 9 ∧
  wp_J7_size E G x2 (fun x3 =>
  ∃ c7 t8 : Nat, c7 ≤ mc0 ∧ t8 ≤ ms0 ∧
  g_px (wp_X1_index E G p1 x3 c7 t8) px (fun G6 =>
  w_gr G6 o 0 2 (fun x9 =>
  w_gr G6 x9 1 0 (fun x10 =>
  w_rc G6 x10 9 ∧
  wp_J7_get E G6 x10 p1 (fun x11 =>
  w_cc G6 x11 3 (fun z13 =>
  post (some z13) G6))))))))
def wp_X1_partners (E : g_E) (G : g_G) (o : Nat) (p1 : Int32) (mc0 ms0 : Nat) (post : Int32 → g_G → Prop) (px : String → g_G → Prop) : Prop :=
  ∃ c3 t4 : Nat, c3 ≤ mc0 ∧ t4 ≤ ms0 ∧
  w_rc G o 0 ∧
  g_px (wp_X1_transfer E G o p1 c3 t4) px (fun x1 G2 =>
  ∃ z5 : Nat, x1 = some z5 ∧
  w_rc G2 z5 3 ∧
  wp_X4_partners E G2 z5 (fun x6 =>
  post x6 G2))
def wp_X1_share (E : g_E) (G : g_G) (o : Nat) (p1 : Int32) (p2 : Int32) (mc0 ms0 : Nat) (post : Int32 → g_G → Prop) (px : String → g_G → Prop) : Prop :=
  ∃ c3 t4 : Nat, c3 ≤ mc0 ∧ t4 ≤ ms0 ∧
  w_rc G o 0 ∧
  g_px (wp_X1_isStoreOf E G o p2 p1 c3 t4) px (fun G2 =>
  w_gr G2 o 0 2 (fun x5 =>
  w_gr G2 x5 1 0 (fun x6 =>
  w_rc G2 x6 9 ∧
  wp_J7_get E G2 x6 p1 (fun x7 =>
  w_cc G2 x7 3 (fun z9 =>
  w_rc G2 z9 3 ∧
  wp_X4_share E G2 z9 p2 (fun x10 =>
  post x10 G2))))))
def wp_X1_isUp (E : g_E) (G : g_G) (o : Nat) (p1 : Int32) (mc0 ms0 : Nat) (post : Int32 → g_G → Prop) (px : String → g_G → Prop) : Prop :=
  ∃ c3 t4 : Nat, c3 ≤ mc0 ∧ t4 ≤ ms0 ∧
  g_px (wp_X1_index E G p1 (nI 5) c3 t4) px (fun G2 =>
  w_gr G2 o 0 2 (fun x5 =>
  w_rc G2 x5 1 ∧
  wp_X2_isUp E G2 x5 p1 (fun x6 =>
  narrow .boolean (.int x6) = .int x6 ∧ post x6 G2)))
def wp_X1_amount (E : g_E) (G : g_G) (o : Nat) (p1 : Int32) (mc0 ms0 : Nat) (post : Int32 → g_G → Prop) (px : String → g_G → Prop) : Prop :=
  ∃ c3 t4 : Nat, c3 ≤ mc0 ∧ t4 ≤ ms0 ∧
  g_px (wp_X1_index E G p1 (nI 4) c3 t4) px (fun G2 =>
  w_gr G2 o 0 2 (fun x5 =>
  w_gr G2 x5 1 3 (fun x6 =>
  w_ild E G2 x6 p1 (fun x7 =>
  post x7 G2))))
def wp_X1_amountByLog (E : g_E) (G : g_G) (o : Nat) (p1 : Int32) (mc0 ms0 : Nat) (post : Int32 → g_G → Prop) (px : String → g_G → Prop) : Prop :=
  ∃ c3 t4 : Nat, c3 ≤ mc0 ∧ t4 ≤ ms0 ∧
  g_px (wp_X1_index E G p1 (nI 4) c3 t4) px (fun G2 =>
  w_gr G2 o 0 2 (fun x5 =>
  ∃ c8 t9 : Nat, c8 ≤ (mc0 - c3) ∧ t9 ≤ (ms0 - t4) ∧
  w_rc G2 x5 1 ∧
  wp_X2_amountByLog E G2 x5 p1 c8 t9 (fun x6 G7 =>
  post x6 G7)))
def wp_X1_state_2 (E : g_E) (G : g_G) (o : Nat) (p1 : Int32) (p2 : Int32) (mc0 ms0 : Nat) (post : Int32 → g_G → Prop) (px : String → g_G → Prop) : Prop :=
  ∃ c3 t4 : Nat, c3 ≤ mc0 ∧ t4 ≤ ms0 ∧
  w_rc G o 0 ∧
  g_px (wp_X1_isStoreOf E G o p1 p2 c3 t4) px (fun G2 =>
  w_gr G2 o 0 2 (fun x5 =>
  w_rc G2 x5 1 ∧
  wp_X2_state E G2 x5 p1 p2 (fun x6 =>
  post x6 G2)))
def wp_X1_stateByLog (E : g_E) (G : g_G) (o : Nat) (p1 : Int32) (p2 : Int32) (mc0 ms0 : Nat) (post : Int32 → g_G → Prop) (px : String → g_G → Prop) : Prop :=
  ∃ c3 t4 : Nat, c3 ≤ mc0 ∧ t4 ≤ ms0 ∧
  w_rc G o 0 ∧
  g_px (wp_X1_isStoreOf E G o p1 p2 c3 t4) px (fun G2 =>
  w_gr G2 o 0 2 (fun x5 =>
  ∃ c8 t9 : Nat, c8 ≤ (mc0 - c3) ∧ t9 ≤ (ms0 - t4) ∧
  w_rc G2 x5 1 ∧
  wp_X2_stateByLog E G2 x5 p1 p2 c8 t9 (fun x6 G7 =>
  post x6 G7)))
def wp_X1_inDoubt (E : g_E) (G : g_G) (o : Nat) (p1 : Int32) (mc0 ms0 : Nat) (post : Int32 → g_G → Prop) (px : String → g_G → Prop) : Prop :=
  ∃ c3 t4 : Nat, c3 ≤ mc0 ∧ t4 ≤ ms0 ∧
  g_px (wp_X1_index E G p1 (nI 4) c3 t4) px (fun G2 =>
  w_gr G2 o 0 2 (fun x5 =>
  w_rc G2 x5 1 ∧
  wp_X2_inDoubt E G2 x5 p1 (fun x6 =>
  post x6 G2)))
def wp_X1_outcome (E : g_E) (G : g_G) (o : Nat) (p1 : Int32) (mc0 ms0 : Nat) (post : Int32 → g_G → Prop) (px : String → g_G → Prop) : Prop :=
  w_gr G o 0 2 (fun x1 =>
  w_gr G x1 1 0 (fun x2 =>
  w_rc G x2 9 ∧
  wp_J7_size E G x2 (fun x3 =>
  ∃ c7 t8 : Nat, c7 ≤ mc0 ∧ t8 ≤ ms0 ∧
  g_px (wp_X1_index E G p1 x3 c7 t8) px (fun G6 =>
  w_gr G6 o 0 2 (fun x9 =>
  ∃ c12 t13 : Nat, c12 ≤ (mc0 - c7) ∧ t13 ≤ (ms0 - t8) ∧
  w_rc G6 x9 1 ∧
  wp_X2_outcome E G6 x9 p1 c12 t13 (fun x10 G11 =>
  post x10 G11))))))
def wp_X1_outcomeByStores (E : g_E) (G : g_G) (o : Nat) (p1 : Int32) (mc0 ms0 : Nat) (post : Int32 → g_G → Prop) (px : String → g_G → Prop) : Prop :=
  w_gr G o 0 2 (fun x1 =>
  w_gr G x1 1 0 (fun x2 =>
  w_rc G x2 9 ∧
  wp_J7_size E G x2 (fun x3 =>
  ∃ c7 t8 : Nat, c7 ≤ mc0 ∧ t8 ≤ ms0 ∧
  g_px (wp_X1_index E G p1 x3 c7 t8) px (fun G6 =>
  w_gr G6 o 0 2 (fun x9 =>
  w_rc G6 x9 1 ∧
  wp_X2_outcomeByStores E G6 x9 p1 (fun x10 =>
  post x10 G6))))))
def wp_X1_hasEnded (E : g_E) (G : g_G) (o : Nat) (p1 : Int32) (mc0 ms0 : Nat) (post : Int32 → g_G → Prop) (px : String → g_G → Prop) : Prop :=
  w_gr G o 0 2 (fun x1 =>
  w_gr G x1 1 0 (fun x2 =>
  w_rc G x2 9 ∧
  wp_J7_size E G x2 (fun x3 =>
  ∃ c7 t8 : Nat, c7 ≤ mc0 ∧ t8 ≤ ms0 ∧
  g_px (wp_X1_index E G p1 x3 c7 t8) px (fun G6 =>
  w_gr G6 o 0 2 (fun x9 =>
  ∃ c12 t13 : Nat, c12 ≤ (mc0 - c7) ∧ t13 ≤ (ms0 - t8) ∧
  w_rc G6 x9 1 ∧
  wp_X2_hasEnded E G6 x9 p1 c12 t13 (fun x10 G11 =>
  narrow .boolean (.int x10) = .int x10 ∧ post x10 G11))))))
def wp_X1_saidYes (E : g_E) (G : g_G) (o : Nat) (p1 : Int32) (mc0 ms0 : Nat) (post : Int32 → g_G → Prop) (px : String → g_G → Prop) : Prop :=
  w_gr G o 0 2 (fun x1 =>
  w_gr G x1 1 0 (fun x2 =>
  w_rc G x2 9 ∧
  wp_J7_size E G x2 (fun x3 =>
  ∃ c7 t8 : Nat, c7 ≤ mc0 ∧ t8 ≤ ms0 ∧
  g_px (wp_X1_index E G p1 x3 c7 t8) px (fun G6 =>
  w_gr G6 o 0 2 (fun x9 =>
  w_gr G6 x9 1 5 (fun x10 =>
  w_ild E G6 x10 p1 (fun x11 =>
  post x11 G6)))))))
def wp_X1_saidDone (E : g_E) (G : g_G) (o : Nat) (p1 : Int32) (mc0 ms0 : Nat) (post : Int32 → g_G → Prop) (px : String → g_G → Prop) : Prop :=
  w_gr G o 0 2 (fun x1 =>
  w_gr G x1 1 0 (fun x2 =>
  w_rc G x2 9 ∧
  wp_J7_size E G x2 (fun x3 =>
  ∃ c7 t8 : Nat, c7 ≤ mc0 ∧ t8 ≤ ms0 ∧
  g_px (wp_X1_index E G p1 x3 c7 t8) px (fun G6 =>
  w_gr G6 o 0 2 (fun x9 =>
  w_gr G6 x9 1 6 (fun x10 =>
  w_ild E G6 x10 p1 (fun x11 =>
  post x11 G6)))))))
def wp_X1_records (E : g_E) (G : g_G) (o : Nat) (p1 : Int32) (mc0 ms0 : Nat) (post : Int32 → g_G → Prop) (px : String → g_G → Prop) : Prop :=
  ∃ c3 t4 : Nat, c3 ≤ mc0 ∧ t4 ≤ ms0 ∧
  g_px (wp_X1_index E G p1 (nI 5) c3 t4) px (fun G2 =>
  w_gr G2 o 0 2 (fun x5 =>
  w_gr G2 x5 1 1 (fun x6 =>
  w_rc G2 x6 9 ∧
  wp_J7_get E G2 x6 p1 (fun x7 =>
  w_cc G2 x7 9 (fun z9 =>
  w_rc G2 z9 9 ∧
  wp_J7_size E G2 z9 (fun x10 =>
  post x10 G2))))))
def wp_X1_entry (E : g_E) (G : g_G) (o : Nat) (p1 : Int32) (p2 : Int32) (mc0 ms0 : Nat) (post : Option Nat → g_G → Prop) (px : String → g_G → Prop) : Prop :=
  ∃ c3 t4 : Nat, c3 ≤ mc0 ∧ t4 ≤ ms0 ∧
  g_px (wp_X1_index E G p1 (nI 5) c3 t4) px (fun G2 =>
  ∃ c7 t8 : Nat, c7 ≤ (mc0 - c3) ∧ t8 ≤ (ms0 - t4) ∧
  g_px (wp_X1_index E G2 (if (nI 0) < p2 then (nI 0) else p2) (nI 1) c7 t8) px (fun G6 =>
  w_gr G6 o 0 2 (fun x9 =>
  w_gr G6 x9 1 1 (fun x10 =>
  w_rc G6 x10 9 ∧
  wp_J7_get E G6 x10 p1 (fun x11 =>
  w_cc G6 x11 9 (fun z13 =>
  w_rc G6 z13 9 ∧
  wp_J7_size E G6 z13 (fun x14 =>
  (x14 ≤ p2 →
    post none G6
  ) ∧ (¬ x14 ≤ p2 →
    w_rc G6 z13 9 ∧
    wp_J7_get E G6 z13 p2 (fun x16 =>
    w_cc G6 x16 4 (fun z18 =>
    post (some z18) G6
  ))))))))))
def wp_X1_recordKind (E : g_E) (G : g_G) (o : Nat) (p1 : Int32) (p2 : Int32) (mc0 ms0 : Nat) (post : Int32 → g_G → Prop) (px : String → g_G → Prop) : Prop :=
  ∃ c3 t4 : Nat, c3 ≤ mc0 ∧ t4 ≤ ms0 ∧
  w_rc G o 0 ∧
  g_px (wp_X1_entry E G o p1 p2 c3 t4) px (fun x1 G2 =>
  (¬ x1 = none →
    ∃ z5 : Nat, x1 = some z5 ∧
    w_gi G2 z5 4 0 (fun x6 =>
    post x6 G2
  )) ∧ (x1 = none →
    post (-nI 1) G2
  ))
def wp_X1_recordTransfer (E : g_E) (G : g_G) (o : Nat) (p1 : Int32) (p2 : Int32) (mc0 ms0 : Nat) (post : Int32 → g_G → Prop) (px : String → g_G → Prop) : Prop :=
  ∃ c3 t4 : Nat, c3 ≤ mc0 ∧ t4 ≤ ms0 ∧
  w_rc G o 0 ∧
  g_px (wp_X1_entry E G o p1 p2 c3 t4) px (fun x1 G2 =>
  (¬ x1 = none →
    ∃ z5 : Nat, x1 = some z5 ∧
    w_gi G2 z5 4 1 (fun x6 =>
    post x6 G2
  )) ∧ (x1 = none →
    post (-nI 1) G2
  ))
def wp_X1_settled (E : g_E) (G : g_G) (o : Nat) (mc0 ms0 : Nat) (post : Option Nat → g_G → Prop) : Prop :=
  w_new E G 1 11 [.null, .null, .null, .null, .null, .null, .null, .int 0, .int 0, .int 0, .int 0] mc0 ms0 (fun q1 G2 =>
  w_gr G2 o 0 2 (fun x3 =>
  ∃ c6 t7 : Nat, c6 ≤ (mc0 - 1) ∧ t7 ≤ (ms0 - 11) ∧
  wp_X2_init_2 E G2 q1 x3 c6 t7 (fun G5 =>
  ∃ c10 t11 : Nat, c10 ≤ (mc0 - 1 - c6) ∧ t11 ≤ (ms0 - 11 - t7) ∧
  w_rc G5 q1 1 ∧
  wp_X2_settles E G5 q1 c10 t11 (fun x8 G9 =>
  post (some q1) G9))))
def wp_X1_outcomeIfSettled (E : g_E) (G : g_G) (o : Nat) (p1 : Int32) (mc0 ms0 : Nat) (post : Int32 → g_G → Prop) (px : String → g_G → Prop) : Prop :=
  w_gr G o 0 2 (fun x1 =>
  w_gr G x1 1 0 (fun x2 =>
  w_rc G x2 9 ∧
  wp_J7_size E G x2 (fun x3 =>
  ∃ c7 t8 : Nat, c7 ≤ mc0 ∧ t8 ≤ ms0 ∧
  g_px (wp_X1_index E G p1 x3 c7 t8) px (fun G6 =>
  ∃ c11 t12 : Nat, c11 ≤ (mc0 - c7) ∧ t12 ≤ (ms0 - t8) ∧
  w_rc G6 o 0 ∧
  wp_X1_settled E G6 o c11 t12 (fun x9 G10 =>
  ∃ z13 : Nat, x9 = some z13 ∧
  ∃ c16 t17 : Nat, c16 ≤ (mc0 - c7 - c11) ∧ t17 ≤ (ms0 - t8 - t12) ∧
  w_rc G10 z13 1 ∧
  wp_X2_outcome E G10 z13 p1 c16 t17 (fun x14 G15 =>
  post x14 G15))))))
def wp_X1_amountIfSettled (E : g_E) (G : g_G) (o : Nat) (p1 : Int32) (mc0 ms0 : Nat) (post : Int32 → g_G → Prop) (px : String → g_G → Prop) : Prop :=
  ∃ c3 t4 : Nat, c3 ≤ mc0 ∧ t4 ≤ ms0 ∧
  g_px (wp_X1_index E G p1 (nI 4) c3 t4) px (fun G2 =>
  ∃ c7 t8 : Nat, c7 ≤ (mc0 - c3) ∧ t8 ≤ (ms0 - t4) ∧
  w_rc G2 o 0 ∧
  wp_X1_settled E G2 o c7 t8 (fun x5 G6 =>
  ∃ z9 : Nat, x5 = some z9 ∧
  w_gr G6 z9 1 3 (fun x10 =>
  w_ild E G6 x10 p1 (fun x11 =>
  post x11 G6))))
def wp_X1_greatestSize (E : g_E) (G : g_G) (o : Nat) (p1 : Int32) (p2 : Int32) (mc0 ms0 : Nat) (post : Int32 → g_G → Prop) (px : String → g_G → Prop) : Prop :=
  ∃ c3 t4 : Nat, c3 ≤ mc0 ∧ t4 ≤ ms0 ∧
  g_px (wp_X1_areStores E G p1 p2 (nI 1) c3 t4) px (fun G2 =>
  w_gr G2 o 0 2 (fun x5 =>
  w_rc G2 x5 1 ∧
  wp_X2_greatestSize E G2 x5 p1 p2 (fun x6 =>
  post x6 G2)))
def wp_X0_begin (E : g_E) (G : g_G) (p1 : Nat) (p2 : Int32) (p3 : Int32) (p4 : Int32) (p5 : Nat) (mc0 ms0 : Nat) (post : Int32 → g_G → Prop) : Prop :=
  ∃ c3 t4 : Nat, c3 ≤ mc0 ∧ t4 ≤ ms0 ∧
  w_rc G p1 0 ∧
  g_px (wp_X1_begin E G p1 p2 p3 p4 c3 t4) (fun X9 G9 => (X9 = "java/lang/IndexOutOfBoundsException" ∧ post (nI 1) G9) ∨ (X9 = "java/lang/IllegalArgumentException" ∧ post (nI 2) G9) ∨ (X9 = "java/lang/IllegalStateException" ∧ post (nI 3) G9)) (fun x1 G2 =>
  w_lst E G2 p5 (nI 0) x1.toInt64 (fun G5 =>
  post (nI 0) G5))
def wp_X0_giveUp (E : g_E) (G : g_G) (p1 : Nat) (p2 : Int32) (p3 : Nat) (mc0 ms0 : Nat) (post : Int32 → g_G → Prop) : Prop :=
  ∃ c3 t4 : Nat, c3 ≤ mc0 ∧ t4 ≤ ms0 ∧
  w_rc G p1 0 ∧
  g_px (wp_X1_giveUp E G p1 p2 c3 t4) (fun X9 G9 => (X9 = "java/lang/IndexOutOfBoundsException" ∧ post (nI 1) G9) ∨ (X9 = "java/lang/IllegalStateException" ∧ post (nI 2) G9)) (fun x1 G2 =>
  w_lst E G2 p3 (nI 0) x1.toInt64 (fun G5 =>
  post (nI 0) G5))
def wp_X0_ask (E : g_E) (G : g_G) (p1 : Nat) (p2 : Int32) (p3 : Int32) (p4 : Nat) (mc0 ms0 : Nat) (post : Int32 → g_G → Prop) : Prop :=
  ∃ c3 t4 : Nat, c3 ≤ mc0 ∧ t4 ≤ ms0 ∧
  w_rc G p1 0 ∧
  g_px (wp_X1_ask E G p1 p2 p3 c3 t4) (fun X9 G9 => (X9 = "java/lang/IndexOutOfBoundsException" ∧ post (nI 1) G9) ∨ (X9 = "java/lang/IllegalStateException" ∧ post (nI 2) G9)) (fun x1 G2 =>
  w_lst E G2 p4 (nI 0) x1.toInt64 (fun G5 =>
  post (nI 0) G5))
def wp_X0_deliver_15 (E : g_E) (post : Int32 → g_G → Prop) (s0 : Int64) (s1 : Int32) (s2 : Nat) (G : g_G) (mc : Nat) (ms : Nat) : Prop :=
    w_lst E G s2 s1 s0 (fun G5 =>
    post (nI 0) G5)
def wp_X0_deliver (E : g_E) (G : g_G) (p1 : Nat) (p2 : Int32) (p3 : Nat) (mc0 ms0 : Nat) (post : Int32 → g_G → Prop) : Prop :=
  ∃ c3 t4 : Nat, c3 ≤ mc0 ∧ t4 ≤ ms0 ∧
  w_rc G p1 0 ∧
  g_px (wp_X1_deliver E G p1 p2 c3 t4) (fun X9 G9 => (X9 = "java/lang/IndexOutOfBoundsException" ∧ post (nI 1) G9)) (fun x1 G2 =>
  (x1 = 0 →
    wp_X0_deliver_15 E post (lN 0) (nI 0) p3 G2 (mc0 - c3) (ms0 - t4)
  ) ∧ (¬ x1 = 0 →
    wp_X0_deliver_15 E post (lN 1) (nI 0) p3 G2 (mc0 - c3) (ms0 - t4)
  ))
def wp_X0_lose (E : g_E) (G : g_G) (p1 : Nat) (p2 : Int32) (p3 : Nat) (mc0 ms0 : Nat) (post : Int32 → g_G → Prop) : Prop :=
  ∃ c3 t4 : Nat, c3 ≤ mc0 ∧ t4 ≤ ms0 ∧
  w_rc G p1 0 ∧
  g_px (wp_X1_lose E G p1 p2 c3 t4) (fun X9 G9 => (X9 = "java/lang/IndexOutOfBoundsException" ∧ post (nI 1) G9)) (fun x1 G2 =>
  w_lst E G2 p3 (nI 0) x1.toInt64 (fun G5 =>
  post (nI 0) G5))
def wp_X0_crash (E : g_E) (G : g_G) (p1 : Nat) (p2 : Int32) (p3 : Nat) (mc0 ms0 : Nat) (post : Int32 → g_G → Prop) : Prop :=
  ∃ c3 t4 : Nat, c3 ≤ mc0 ∧ t4 ≤ ms0 ∧
  w_rc G p1 0 ∧
  g_px (wp_X1_crash E G p1 p2 c3 t4) (fun X9 G9 => (X9 = "java/lang/IndexOutOfBoundsException" ∧ post (nI 1) G9) ∨ (X9 = "java/lang/IllegalStateException" ∧ post (nI 2) G9)) (fun x1 G2 =>
  w_lst E G2 p3 (nI 0) x1.toInt64 (fun G5 =>
  post (nI 0) G5))
def wp_X0_recover (E : g_E) (G : g_G) (p1 : Nat) (p2 : Int32) (p3 : Nat) (mc0 ms0 : Nat) (post : Int32 → g_G → Prop) : Prop :=
  ∃ c3 t4 : Nat, c3 ≤ mc0 ∧ t4 ≤ ms0 ∧
  w_rc G p1 0 ∧
  g_px (wp_X1_recover E G p1 p2 c3 t4) (fun X9 G9 => (X9 = "java/lang/IndexOutOfBoundsException" ∧ post (nI 1) G9) ∨ (X9 = "java/lang/IllegalStateException" ∧ post (nI 2) G9)) (fun x1 G2 =>
  w_lst E G2 p3 (nI 0) x1.toInt64 (fun G5 =>
  post (nI 0) G5))
def wp_X0_append (E : g_E) (G : g_G) (p1 : Nat) (p2 : Int32) (p3 : Nat) (mc0 ms0 : Nat) (post : Int32 → g_G → Prop) : Prop :=
  ∃ c3 t4 : Nat, c3 ≤ mc0 ∧ t4 ≤ ms0 ∧
  w_rc G p1 0 ∧
  g_px (wp_X1_append E G p1 p2 c3 t4) (fun X9 G9 => (X9 = "java/lang/IllegalArgumentException" ∧ post (nI 1) G9) ∨ (X9 = "java/lang/IllegalStateException" ∧ post (nI 2) G9)) (fun x1 G2 =>
  w_lst E G2 p3 (nI 0) x1.toInt64 (fun G5 =>
  post (nI 0) G5))
def wp_X0_runCourse (E : g_E) (G : g_G) (p1 : Nat) (p2 : Nat) (mc0 ms0 : Nat) (post : Int32 → g_G → Prop) : Prop :=
  ∃ c3 t4 : Nat, c3 ≤ mc0 ∧ t4 ≤ ms0 ∧
  w_rc G p1 0 ∧
  g_px (wp_X1_runCourse E G p1 c3 t4) (fun X9 G9 => (X9 = "java/lang/IllegalArgumentException" ∧ post (nI 1) G9)) (fun x1 G2 =>
  w_lst E G2 p2 (nI 0) x1.toInt64 (fun G5 =>
  post (nI 0) G5))
def wp_X0_goBack (E : g_E) (G : g_G) (p1 : Nat) (p2 : Nat) (mc0 ms0 : Nat) (post : Int32 → g_G → Prop) : Prop :=
  ∃ c3 t4 : Nat, c3 ≤ mc0 ∧ t4 ≤ ms0 ∧
  w_rc G p1 0 ∧
  g_px (wp_X1_goBack E G p1 c3 t4) (fun X9 G9 => (X9 = "java/lang/IllegalStateException" ∧ post (nI 1) G9)) (fun x1 G2 =>
  w_lst E G2 p2 (nI 0) x1.toInt64 (fun G5 =>
  post (nI 0) G5))
def wp_X0_undo (E : g_E) (G : g_G) (p1 : Nat) (p2 : Nat) (mc0 ms0 : Nat) (post : Int32 → g_G → Prop) : Prop :=
  ∃ c3 t4 : Nat, c3 ≤ mc0 ∧ t4 ≤ ms0 ∧
  w_rc G p1 0 ∧
  g_px (wp_X1_undo E G p1 c3 t4) (fun X9 G9 => (X9 = "java/lang/IllegalStateException" ∧ post (nI 1) G9)) (fun x1 G2 =>
  w_lst E G2 p2 (nI 0) x1.toInt64 (fun G5 =>
  post (nI 0) G5))
def wp_X0_partners (E : g_E) (G : g_G) (p1 : Nat) (p2 : Int32) (p3 : Nat) (mc0 ms0 : Nat) (post : Int32 → g_G → Prop) : Prop :=
  ∃ c3 t4 : Nat, c3 ≤ mc0 ∧ t4 ≤ ms0 ∧
  w_rc G p1 0 ∧
  g_px (wp_X1_partners E G p1 p2 c3 t4) (fun X9 G9 => (X9 = "java/lang/IndexOutOfBoundsException" ∧ post (nI 1) G9)) (fun x1 G2 =>
  w_lst E G2 p3 (nI 0) x1.toInt64 (fun G5 =>
  post (nI 0) G5))
def wp_X0_share (E : g_E) (G : g_G) (p1 : Nat) (p2 : Int32) (p3 : Int32) (p4 : Nat) (mc0 ms0 : Nat) (post : Int32 → g_G → Prop) : Prop :=
  ∃ c3 t4 : Nat, c3 ≤ mc0 ∧ t4 ≤ ms0 ∧
  w_rc G p1 0 ∧
  g_px (wp_X1_share E G p1 p2 p3 c3 t4) (fun X9 G9 => (X9 = "java/lang/IndexOutOfBoundsException" ∧ post (nI 1) G9)) (fun x1 G2 =>
  w_lst E G2 p4 (nI 0) x1.toInt64 (fun G5 =>
  post (nI 0) G5))
def wp_X0_isUp_15 (E : g_E) (post : Int32 → g_G → Prop) (s0 : Int64) (s1 : Int32) (s2 : Nat) (G : g_G) (mc : Nat) (ms : Nat) : Prop :=
    w_lst E G s2 s1 s0 (fun G5 =>
    post (nI 0) G5)
def wp_X0_isUp (E : g_E) (G : g_G) (p1 : Nat) (p2 : Int32) (p3 : Nat) (mc0 ms0 : Nat) (post : Int32 → g_G → Prop) : Prop :=
  ∃ c3 t4 : Nat, c3 ≤ mc0 ∧ t4 ≤ ms0 ∧
  w_rc G p1 0 ∧
  g_px (wp_X1_isUp E G p1 p2 c3 t4) (fun X9 G9 => (X9 = "java/lang/IndexOutOfBoundsException" ∧ post (nI 1) G9)) (fun x1 G2 =>
  (x1 = 0 →
    wp_X0_isUp_15 E post (lN 0) (nI 0) p3 G2 (mc0 - c3) (ms0 - t4)
  ) ∧ (¬ x1 = 0 →
    wp_X0_isUp_15 E post (lN 1) (nI 0) p3 G2 (mc0 - c3) (ms0 - t4)
  ))
def wp_X0_amount (E : g_E) (G : g_G) (p1 : Nat) (p2 : Int32) (p3 : Nat) (mc0 ms0 : Nat) (post : Int32 → g_G → Prop) : Prop :=
  ∃ c3 t4 : Nat, c3 ≤ mc0 ∧ t4 ≤ ms0 ∧
  w_rc G p1 0 ∧
  g_px (wp_X1_amount E G p1 p2 c3 t4) (fun X9 G9 => (X9 = "java/lang/IndexOutOfBoundsException" ∧ post (nI 1) G9)) (fun x1 G2 =>
  w_lst E G2 p3 (nI 0) x1.toInt64 (fun G5 =>
  post (nI 0) G5))
def wp_X0_amountByLog (E : g_E) (G : g_G) (p1 : Nat) (p2 : Int32) (p3 : Nat) (mc0 ms0 : Nat) (post : Int32 → g_G → Prop) : Prop :=
  ∃ c3 t4 : Nat, c3 ≤ mc0 ∧ t4 ≤ ms0 ∧
  w_rc G p1 0 ∧
  g_px (wp_X1_amountByLog E G p1 p2 c3 t4) (fun X9 G9 => (X9 = "java/lang/IndexOutOfBoundsException" ∧ post (nI 1) G9)) (fun x1 G2 =>
  w_lst E G2 p3 (nI 0) x1.toInt64 (fun G5 =>
  post (nI 0) G5))
def wp_X0_state (E : g_E) (G : g_G) (p1 : Nat) (p2 : Int32) (p3 : Int32) (p4 : Nat) (mc0 ms0 : Nat) (post : Int32 → g_G → Prop) : Prop :=
  ∃ c3 t4 : Nat, c3 ≤ mc0 ∧ t4 ≤ ms0 ∧
  w_rc G p1 0 ∧
  g_px (wp_X1_state_2 E G p1 p2 p3 c3 t4) (fun X9 G9 => (X9 = "java/lang/IndexOutOfBoundsException" ∧ post (nI 1) G9)) (fun x1 G2 =>
  w_lst E G2 p4 (nI 0) x1.toInt64 (fun G5 =>
  post (nI 0) G5))
def wp_X0_stateByLog (E : g_E) (G : g_G) (p1 : Nat) (p2 : Int32) (p3 : Int32) (p4 : Nat) (mc0 ms0 : Nat) (post : Int32 → g_G → Prop) : Prop :=
  ∃ c3 t4 : Nat, c3 ≤ mc0 ∧ t4 ≤ ms0 ∧
  w_rc G p1 0 ∧
  g_px (wp_X1_stateByLog E G p1 p2 p3 c3 t4) (fun X9 G9 => (X9 = "java/lang/IndexOutOfBoundsException" ∧ post (nI 1) G9)) (fun x1 G2 =>
  w_lst E G2 p4 (nI 0) x1.toInt64 (fun G5 =>
  post (nI 0) G5))
def wp_X0_inDoubt (E : g_E) (G : g_G) (p1 : Nat) (p2 : Int32) (p3 : Nat) (mc0 ms0 : Nat) (post : Int32 → g_G → Prop) : Prop :=
  ∃ c3 t4 : Nat, c3 ≤ mc0 ∧ t4 ≤ ms0 ∧
  w_rc G p1 0 ∧
  g_px (wp_X1_inDoubt E G p1 p2 c3 t4) (fun X9 G9 => (X9 = "java/lang/IndexOutOfBoundsException" ∧ post (nI 1) G9)) (fun x1 G2 =>
  w_lst E G2 p3 (nI 0) x1.toInt64 (fun G5 =>
  post (nI 0) G5))
def wp_X0_outcome (E : g_E) (G : g_G) (p1 : Nat) (p2 : Int32) (p3 : Nat) (mc0 ms0 : Nat) (post : Int32 → g_G → Prop) : Prop :=
  ∃ c3 t4 : Nat, c3 ≤ mc0 ∧ t4 ≤ ms0 ∧
  w_rc G p1 0 ∧
  g_px (wp_X1_outcome E G p1 p2 c3 t4) (fun X9 G9 => (X9 = "java/lang/IndexOutOfBoundsException" ∧ post (nI 1) G9)) (fun x1 G2 =>
  w_lst E G2 p3 (nI 0) x1.toInt64 (fun G5 =>
  post (nI 0) G5))
def wp_X0_outcomeByStores (E : g_E) (G : g_G) (p1 : Nat) (p2 : Int32) (p3 : Nat) (mc0 ms0 : Nat) (post : Int32 → g_G → Prop) : Prop :=
  ∃ c3 t4 : Nat, c3 ≤ mc0 ∧ t4 ≤ ms0 ∧
  w_rc G p1 0 ∧
  g_px (wp_X1_outcomeByStores E G p1 p2 c3 t4) (fun X9 G9 => (X9 = "java/lang/IndexOutOfBoundsException" ∧ post (nI 1) G9)) (fun x1 G2 =>
  w_lst E G2 p3 (nI 0) x1.toInt64 (fun G5 =>
  post (nI 0) G5))
def wp_X0_hasEnded_15 (E : g_E) (post : Int32 → g_G → Prop) (s0 : Int64) (s1 : Int32) (s2 : Nat) (G : g_G) (mc : Nat) (ms : Nat) : Prop :=
    w_lst E G s2 s1 s0 (fun G5 =>
    post (nI 0) G5)
def wp_X0_hasEnded (E : g_E) (G : g_G) (p1 : Nat) (p2 : Int32) (p3 : Nat) (mc0 ms0 : Nat) (post : Int32 → g_G → Prop) : Prop :=
  ∃ c3 t4 : Nat, c3 ≤ mc0 ∧ t4 ≤ ms0 ∧
  w_rc G p1 0 ∧
  g_px (wp_X1_hasEnded E G p1 p2 c3 t4) (fun X9 G9 => (X9 = "java/lang/IndexOutOfBoundsException" ∧ post (nI 1) G9)) (fun x1 G2 =>
  (x1 = 0 →
    wp_X0_hasEnded_15 E post (lN 0) (nI 0) p3 G2 (mc0 - c3) (ms0 - t4)
  ) ∧ (¬ x1 = 0 →
    wp_X0_hasEnded_15 E post (lN 1) (nI 0) p3 G2 (mc0 - c3) (ms0 - t4)
  ))
def wp_X0_saidYes (E : g_E) (G : g_G) (p1 : Nat) (p2 : Int32) (p3 : Nat) (mc0 ms0 : Nat) (post : Int32 → g_G → Prop) : Prop :=
  ∃ c3 t4 : Nat, c3 ≤ mc0 ∧ t4 ≤ ms0 ∧
  w_rc G p1 0 ∧
  g_px (wp_X1_saidYes E G p1 p2 c3 t4) (fun X9 G9 => (X9 = "java/lang/IndexOutOfBoundsException" ∧ post (nI 1) G9)) (fun x1 G2 =>
  w_lst E G2 p3 (nI 0) x1.toInt64 (fun G5 =>
  post (nI 0) G5))
def wp_X0_saidDone (E : g_E) (G : g_G) (p1 : Nat) (p2 : Int32) (p3 : Nat) (mc0 ms0 : Nat) (post : Int32 → g_G → Prop) : Prop :=
  ∃ c3 t4 : Nat, c3 ≤ mc0 ∧ t4 ≤ ms0 ∧
  w_rc G p1 0 ∧
  g_px (wp_X1_saidDone E G p1 p2 c3 t4) (fun X9 G9 => (X9 = "java/lang/IndexOutOfBoundsException" ∧ post (nI 1) G9)) (fun x1 G2 =>
  w_lst E G2 p3 (nI 0) x1.toInt64 (fun G5 =>
  post (nI 0) G5))
def wp_X0_records (E : g_E) (G : g_G) (p1 : Nat) (p2 : Int32) (p3 : Nat) (mc0 ms0 : Nat) (post : Int32 → g_G → Prop) : Prop :=
  ∃ c3 t4 : Nat, c3 ≤ mc0 ∧ t4 ≤ ms0 ∧
  w_rc G p1 0 ∧
  g_px (wp_X1_records E G p1 p2 c3 t4) (fun X9 G9 => (X9 = "java/lang/IndexOutOfBoundsException" ∧ post (nI 1) G9)) (fun x1 G2 =>
  w_lst E G2 p3 (nI 0) x1.toInt64 (fun G5 =>
  post (nI 0) G5))
def wp_X0_recordKind (E : g_E) (G : g_G) (p1 : Nat) (p2 : Int32) (p3 : Int32) (p4 : Nat) (mc0 ms0 : Nat) (post : Int32 → g_G → Prop) : Prop :=
  ∃ c3 t4 : Nat, c3 ≤ mc0 ∧ t4 ≤ ms0 ∧
  w_rc G p1 0 ∧
  g_px (wp_X1_recordKind E G p1 p2 p3 c3 t4) (fun X9 G9 => (X9 = "java/lang/IndexOutOfBoundsException" ∧ post (nI 1) G9)) (fun x1 G2 =>
  w_lst E G2 p4 (nI 0) x1.toInt64 (fun G5 =>
  post (nI 0) G5))
def wp_X0_recordTransfer (E : g_E) (G : g_G) (p1 : Nat) (p2 : Int32) (p3 : Int32) (p4 : Nat) (mc0 ms0 : Nat) (post : Int32 → g_G → Prop) : Prop :=
  ∃ c3 t4 : Nat, c3 ≤ mc0 ∧ t4 ≤ ms0 ∧
  w_rc G p1 0 ∧
  g_px (wp_X1_recordTransfer E G p1 p2 p3 c3 t4) (fun X9 G9 => (X9 = "java/lang/IndexOutOfBoundsException" ∧ post (nI 1) G9)) (fun x1 G2 =>
  w_lst E G2 p4 (nI 0) x1.toInt64 (fun G5 =>
  post (nI 0) G5))
def wp_X0_kindOf (E : g_E) (G : g_G) (p1 : Nat) (p2 : Int32) (p3 : Nat) (mc0 ms0 : Nat) (post : Int32 → g_G → Prop) : Prop :=
  ∃ c3 t4 : Nat, c3 ≤ mc0 ∧ t4 ≤ ms0 ∧
  w_rc G p1 0 ∧
  g_px (wp_X1_kindOf E G p1 p2 c3 t4) (fun X9 G9 => (X9 = "java/lang/IndexOutOfBoundsException" ∧ post (nI 1) G9)) (fun x1 G2 =>
  w_lst E G2 p3 (nI 0) x1.toInt64 (fun G5 =>
  post (nI 0) G5))
def wp_X0_transferOf (E : g_E) (G : g_G) (p1 : Nat) (p2 : Int32) (p3 : Nat) (mc0 ms0 : Nat) (post : Int32 → g_G → Prop) : Prop :=
  ∃ c3 t4 : Nat, c3 ≤ mc0 ∧ t4 ≤ ms0 ∧
  w_rc G p1 0 ∧
  g_px (wp_X1_transferOf E G p1 p2 c3 t4) (fun X9 G9 => (X9 = "java/lang/IndexOutOfBoundsException" ∧ post (nI 1) G9)) (fun x1 G2 =>
  w_lst E G2 p3 (nI 0) x1.toInt64 (fun G5 =>
  post (nI 0) G5))
def wp_X0_storeOf (E : g_E) (G : g_G) (p1 : Nat) (p2 : Int32) (p3 : Nat) (mc0 ms0 : Nat) (post : Int32 → g_G → Prop) : Prop :=
  ∃ c3 t4 : Nat, c3 ≤ mc0 ∧ t4 ≤ ms0 ∧
  w_rc G p1 0 ∧
  g_px (wp_X1_storeOf E G p1 p2 c3 t4) (fun X9 G9 => (X9 = "java/lang/IndexOutOfBoundsException" ∧ post (nI 1) G9)) (fun x1 G2 =>
  w_lst E G2 p3 (nI 0) x1.toInt64 (fun G5 =>
  post (nI 0) G5))
def wp_X0_wouldSend (E : g_E) (G : g_G) (p1 : Nat) (p2 : Int32) (p3 : Nat) (mc0 ms0 : Nat) (post : Int32 → g_G → Prop) : Prop :=
  ∃ c3 t4 : Nat, c3 ≤ mc0 ∧ t4 ≤ ms0 ∧
  w_rc G p1 0 ∧
  g_px (wp_X1_wouldSend E G p1 p2 c3 t4) (fun X9 G9 => (X9 = "java/lang/IndexOutOfBoundsException" ∧ post (nI 1) G9)) (fun x1 G2 =>
  w_lst E G2 p3 (nI 0) x1.toInt64 (fun G5 =>
  post (nI 0) G5))
def wp_X0_outcomeIfSettled (E : g_E) (G : g_G) (p1 : Nat) (p2 : Int32) (p3 : Nat) (mc0 ms0 : Nat) (post : Int32 → g_G → Prop) : Prop :=
  ∃ c3 t4 : Nat, c3 ≤ mc0 ∧ t4 ≤ ms0 ∧
  w_rc G p1 0 ∧
  g_px (wp_X1_outcomeIfSettled E G p1 p2 c3 t4) (fun X9 G9 => (X9 = "java/lang/IndexOutOfBoundsException" ∧ post (nI 1) G9)) (fun x1 G2 =>
  w_lst E G2 p3 (nI 0) x1.toInt64 (fun G5 =>
  post (nI 0) G5))
def wp_X0_amountIfSettled (E : g_E) (G : g_G) (p1 : Nat) (p2 : Int32) (p3 : Nat) (mc0 ms0 : Nat) (post : Int32 → g_G → Prop) : Prop :=
  ∃ c3 t4 : Nat, c3 ≤ mc0 ∧ t4 ≤ ms0 ∧
  w_rc G p1 0 ∧
  g_px (wp_X1_amountIfSettled E G p1 p2 c3 t4) (fun X9 G9 => (X9 = "java/lang/IndexOutOfBoundsException" ∧ post (nI 1) G9)) (fun x1 G2 =>
  w_lst E G2 p3 (nI 0) x1.toInt64 (fun G5 =>
  post (nI 0) G5))
def wp_X0_greatestSize (E : g_E) (G : g_G) (p1 : Nat) (p2 : Int32) (p3 : Int32) (p4 : Nat) (mc0 ms0 : Nat) (post : Int32 → g_G → Prop) : Prop :=
  ∃ c3 t4 : Nat, c3 ≤ mc0 ∧ t4 ≤ ms0 ∧
  w_rc G p1 0 ∧
  g_px (wp_X1_greatestSize E G p1 p2 p3 c3 t4) (fun X9 G9 => (X9 = "java/lang/IndexOutOfBoundsException" ∧ post (nI 1) G9) ∨ (X9 = "java/lang/IllegalArgumentException" ∧ post (nI 2) G9)) (fun x1 G2 =>
  w_lst E G2 p4 (nI 0) x1.toInt64 (fun G5 =>
  post (nI 0) G5))
