/-! the model's picture -/
abbrev MS : Type := (((((Int32) × (Nat → Int32)) × ((Nat → Int32) × (Nat → Int32))) × (((Int32) × (Nat → Int32)) × (Int32))) × ((((Nat → Int32) × (Int32)) × (Int32)) × (((Int32) × (Nat → Int32)) × (Int32))))
abbrev MS.mk (x0 : Int32) (x1 : Nat → Int32) (x2 : Nat → Int32) (x3 : Nat → Int32) (x4 : Int32) (x5 : Nat → Int32) (x6 : Int32) (x7 : Nat → Int32) (x8 : Int32) (x9 : Int32) (x10 : Int32) (x11 : Nat → Int32) (x12 : Int32) : MS := ((((x0, x1), (x2, x3)), ((x4, x5), x6)), (((x7, x8), x9), ((x10, x11), x12)))
abbrev MS.th (x : MS) : Int32 := x.1.1.1.1
abbrev MS.s (x : MS) : Nat → Int32 := x.1.1.1.2
abbrev MS.aside (x : MS) : Nat → Int32 := x.1.1.2.1
abbrev MS.states (x : MS) : Nat → Int32 := x.1.1.2.2
abbrev MS.sm (x : MS) : Int32 := x.1.2.1.1
abbrev MS.snap (x : MS) : Nat → Int32 := x.1.2.1.2
abbrev MS.hs (x : MS) : Int32 := x.1.2.2
abbrev MS.text (x : MS) : Nat → Int32 := x.2.1.1.1
abbrev MS.len (x : MS) : Int32 := x.2.1.1.2
abbrev MS.at' (x : MS) : Int32 := x.2.1.2
abbrev MS.wl (x : MS) : Int32 := x.2.2.1.1
abbrev MS.rd (x : MS) : Nat → Int32 := x.2.2.1.2
abbrev MS.rm (x : MS) : Int32 := x.2.2.2
abbrev MS.w_th (x : MS) (v : Int32) : MS := ((((v, x.1.1.1.2), x.1.1.2), x.1.2), x.2)
abbrev MS.w_s (x : MS) (v : Nat → Int32) : MS := ((((x.1.1.1.1, v), x.1.1.2), x.1.2), x.2)
abbrev MS.w_aside (x : MS) (v : Nat → Int32) : MS := (((x.1.1.1, (v, x.1.1.2.2)), x.1.2), x.2)
abbrev MS.w_states (x : MS) (v : Nat → Int32) : MS := (((x.1.1.1, (x.1.1.2.1, v)), x.1.2), x.2)
abbrev MS.w_sm (x : MS) (v : Int32) : MS := ((x.1.1, ((v, x.1.2.1.2), x.1.2.2)), x.2)
abbrev MS.w_snap (x : MS) (v : Nat → Int32) : MS := ((x.1.1, ((x.1.2.1.1, v), x.1.2.2)), x.2)
abbrev MS.w_hs (x : MS) (v : Int32) : MS := ((x.1.1, (x.1.2.1, v)), x.2)
abbrev MS.w_text (x : MS) (v : Nat → Int32) : MS := (x.1, (((v, x.2.1.1.2), x.2.1.2), x.2.2))
abbrev MS.w_len (x : MS) (v : Int32) : MS := (x.1, (((x.2.1.1.1, v), x.2.1.2), x.2.2))
abbrev MS.w_at' (x : MS) (v : Int32) : MS := (x.1, ((x.2.1.1, v), x.2.2))
abbrev MS.w_wl (x : MS) (v : Int32) : MS := (x.1, (x.2.1, ((v, x.2.2.1.2), x.2.2.2)))
abbrev MS.w_rd (x : MS) (v : Nat → Int32) : MS := (x.1, (x.2.1, ((x.2.2.1.1, v), x.2.2.2)))
abbrev MS.w_rm (x : MS) (v : Int32) : MS := (x.1, (x.2.1, (x.2.2.1, v)))
def MS.fs (M : MS) (A : Nat → Nat) : List Value := [.int M.th, .ref (A 1), .ref (A 2), .ref (A 3), .int M.sm, .ref (A 5), .int M.hs, .ref (A 7), .int M.len, .int M.at', .int M.wl, .ref (A 11), .int M.rm]
def MP (E : g_E) (G0 G : g_G) (o : Nat) (A : Nat → Nat) (M : MS) : Prop :=
  (G o = some ((o, 0), g_o 2 (M.fs A))) ∧
  (G (A 1) = some ((o, 1), g_i E 256 M.s)) ∧
  (G (A 2) = some ((o, 2), g_i E 256 M.aside)) ∧
  (G (A 3) = some ((o, 3), g_i E 1536 M.states)) ∧
  (G (A 5) = some ((o, 5), g_i E 256 M.snap)) ∧
  (G (A 7) = some ((o, 7), g_i E 60 M.text)) ∧
  (G (A 11) = some ((o, 11), g_i E 124 M.rd)) ∧
  (g_F (fun r => r.1 = o) G0 G) ∧
  (g_M G0 G)
theorem MP.of {E : g_E} {G0 G : g_G} {o : Nat} {A : Nat → Nat} {M : MS} (h9 : (G o = some ((o, 0), g_o 2 (M.fs A))) ∧
  (G (A 1) = some ((o, 1), g_i E 256 M.s)) ∧
  (G (A 2) = some ((o, 2), g_i E 256 M.aside)) ∧
  (G (A 3) = some ((o, 3), g_i E 1536 M.states)) ∧
  (G (A 5) = some ((o, 5), g_i E 256 M.snap)) ∧
  (G (A 7) = some ((o, 7), g_i E 60 M.text)) ∧
  (G (A 11) = some ((o, 11), g_i E 124 M.rd)) ∧
  (g_F (fun r => r.1 = o) G0 G) ∧
  (g_M G0 G)) : MP E G0 G o A M := h9
theorem MP.obj {E : g_E} {G0 G : g_G} {o : Nat} {A : Nat → Nat} {M : MS} (h9 : MP E G0 G o A M) : G o = some ((o, 0), g_o 2 (M.fs A)) := h9.1
theorem MP.a1 {E : g_E} {G0 G : g_G} {o : Nat} {A : Nat → Nat} {M : MS} (h9 : MP E G0 G o A M) : G (A 1) = some ((o, 1), g_i E 256 M.s) := h9.2.1
theorem MP.a2 {E : g_E} {G0 G : g_G} {o : Nat} {A : Nat → Nat} {M : MS} (h9 : MP E G0 G o A M) : G (A 2) = some ((o, 2), g_i E 256 M.aside) := h9.2.2.1
theorem MP.a3 {E : g_E} {G0 G : g_G} {o : Nat} {A : Nat → Nat} {M : MS} (h9 : MP E G0 G o A M) : G (A 3) = some ((o, 3), g_i E 1536 M.states) := h9.2.2.2.1
theorem MP.a5 {E : g_E} {G0 G : g_G} {o : Nat} {A : Nat → Nat} {M : MS} (h9 : MP E G0 G o A M) : G (A 5) = some ((o, 5), g_i E 256 M.snap) := h9.2.2.2.2.1
theorem MP.a7 {E : g_E} {G0 G : g_G} {o : Nat} {A : Nat → Nat} {M : MS} (h9 : MP E G0 G o A M) : G (A 7) = some ((o, 7), g_i E 60 M.text) := h9.2.2.2.2.2.1
theorem MP.a11 {E : g_E} {G0 G : g_G} {o : Nat} {A : Nat → Nat} {M : MS} (h9 : MP E G0 G o A M) : G (A 11) = some ((o, 11), g_i E 124 M.rd) := h9.2.2.2.2.2.2.1
theorem MP.fr {E : g_E} {G0 G : g_G} {o : Nat} {A : Nat → Nat} {M : MS} (h9 : MP E G0 G o A M) : g_F (fun r => r.1 = o) G0 G := h9.2.2.2.2.2.2.2.1
theorem MP.mo {E : g_E} {G0 G : g_G} {o : Nat} {A : Nat → Nat} {M : MS} (h9 : MP E G0 G o A M) : g_M G0 G := h9.2.2.2.2.2.2.2.2
theorem g_tag {o i j : Nat} (h : i ≠ j) : ((o, i) : g_R) ≠ (o, j) := fun e => h (congrArg Prod.snd e)
section MP
variable {E : g_E} {G0 G : g_G} {o : Nat} {A : Nat → Nat} {M : MS} {K : g_G → Prop} {P : Prop}
theorem MP.rc (h : MP E G0 G o A M) (k : P) : w_rc G o 2 ∧ P := ⟨⟨_, _, h.obj⟩, k⟩
theorem MP.gr1 (h : MP E G0 G o A M) {K : Nat → Prop} (k : K (A 1)) : w_gr G o 2 1 K := ⟨_, _, _, h.obj, rfl, k⟩
theorem MP.gr2 (h : MP E G0 G o A M) {K : Nat → Prop} (k : K (A 2)) : w_gr G o 2 2 K := ⟨_, _, _, h.obj, rfl, k⟩
theorem MP.gr3 (h : MP E G0 G o A M) {K : Nat → Prop} (k : K (A 3)) : w_gr G o 2 3 K := ⟨_, _, _, h.obj, rfl, k⟩
theorem MP.gr5 (h : MP E G0 G o A M) {K : Nat → Prop} (k : K (A 5)) : w_gr G o 2 5 K := ⟨_, _, _, h.obj, rfl, k⟩
theorem MP.gr7 (h : MP E G0 G o A M) {K : Nat → Prop} (k : K (A 7)) : w_gr G o 2 7 K := ⟨_, _, _, h.obj, rfl, k⟩
theorem MP.gr11 (h : MP E G0 G o A M) {K : Nat → Prop} (k : K (A 11)) : w_gr G o 2 11 K := ⟨_, _, _, h.obj, rfl, k⟩
theorem MP.gi0 (h : MP E G0 G o A M) {K : Int32 → Prop} (k : K M.th) : w_gi G o 2 0 K := ⟨_, _, _, h.obj, rfl, k⟩
theorem MP.gi4 (h : MP E G0 G o A M) {K : Int32 → Prop} (k : K M.sm) : w_gi G o 2 4 K := ⟨_, _, _, h.obj, rfl, k⟩
theorem MP.gi6 (h : MP E G0 G o A M) {K : Int32 → Prop} (k : K M.hs) : w_gi G o 2 6 K := ⟨_, _, _, h.obj, rfl, k⟩
theorem MP.gi8 (h : MP E G0 G o A M) {K : Int32 → Prop} (k : K M.len) : w_gi G o 2 8 K := ⟨_, _, _, h.obj, rfl, k⟩
theorem MP.gi9 (h : MP E G0 G o A M) {K : Int32 → Prop} (k : K M.at') : w_gi G o 2 9 K := ⟨_, _, _, h.obj, rfl, k⟩
theorem MP.gi10 (h : MP E G0 G o A M) {K : Int32 → Prop} (k : K M.wl) : w_gi G o 2 10 K := ⟨_, _, _, h.obj, rfl, k⟩
theorem MP.gi12 (h : MP E G0 G o A M) {K : Int32 → Prop} (k : K M.rm) : w_gi G o 2 12 K := ⟨_, _, _, h.obj, rfl, k⟩
theorem MP.ld1 (h : MP E G0 G o A M) {K : Int32 → Prop} {i : Int32} (j : Nat) (hi : i = nI j) (hj : j < 256) (k : K (M.s j)) : w_ild E G (A 1) i K := ⟨_, _, _, j, h.a1, hi, hj, by decide, k⟩
theorem MP.ld2 (h : MP E G0 G o A M) {K : Int32 → Prop} {i : Int32} (j : Nat) (hi : i = nI j) (hj : j < 256) (k : K (M.aside j)) : w_ild E G (A 2) i K := ⟨_, _, _, j, h.a2, hi, hj, by decide, k⟩
theorem MP.ld3 (h : MP E G0 G o A M) {K : Int32 → Prop} {i : Int32} (j : Nat) (hi : i = nI j) (hj : j < 1536) (k : K (M.states j)) : w_ild E G (A 3) i K := ⟨_, _, _, j, h.a3, hi, hj, by decide, k⟩
theorem MP.ld5 (h : MP E G0 G o A M) {K : Int32 → Prop} {i : Int32} (j : Nat) (hi : i = nI j) (hj : j < 256) (k : K (M.snap j)) : w_ild E G (A 5) i K := ⟨_, _, _, j, h.a5, hi, hj, by decide, k⟩
theorem MP.ld7 (h : MP E G0 G o A M) {K : Int32 → Prop} {i : Int32} (j : Nat) (hi : i = nI j) (hj : j < 60) (k : K (M.text j)) : w_ild E G (A 7) i K := ⟨_, _, _, j, h.a7, hi, hj, by decide, k⟩
theorem MP.ld11 (h : MP E G0 G o A M) {K : Int32 → Prop} {i : Int32} (j : Nat) (hi : i = nI j) (hj : j < 124) (k : K (M.rd j)) : w_ild E G (A 11) i K := ⟨_, _, _, j, h.a11, hi, hj, by decide, k⟩
theorem MP.st1 (h : MP E G0 G o A M) {i v : Int32} (j : Nat) (hi : i = nI j) (hj : j < 256) (k : ∀ G1, MP E G0 G1 o A (M.w_s (upd M.s j v)) → K G1) : w_ist E G (A 1) i v K :=
  ⟨_, _, _, j, h.a1, hi, hj, by decide, k _ (MP.of ⟨(g_up_n (g_ner h.obj h.a1 (g_tag (i := 0) (j := 1) (by decide)))).trans h.obj, g_up_s, (g_up_n (g_ner h.a2 h.a1 (g_tag (i := 2) (j := 1) (by decide)))).trans h.a2, (g_up_n (g_ner h.a3 h.a1 (g_tag (i := 3) (j := 1) (by decide)))).trans h.a3, (g_up_n (g_ner h.a5 h.a1 (g_tag (i := 5) (j := 1) (by decide)))).trans h.a5, (g_up_n (g_ner h.a7 h.a1 (g_tag (i := 7) (j := 1) (by decide)))).trans h.a7, (g_up_n (g_ner h.a11 h.a1 (g_tag (i := 11) (j := 1) (by decide)))).trans h.a11, h.fr.tr (g_F.up h.a1 rfl), h.mo.tr (g_M.up h.a1)⟩)⟩
theorem MP.st2 (h : MP E G0 G o A M) {i v : Int32} (j : Nat) (hi : i = nI j) (hj : j < 256) (k : ∀ G1, MP E G0 G1 o A (M.w_aside (upd M.aside j v)) → K G1) : w_ist E G (A 2) i v K :=
  ⟨_, _, _, j, h.a2, hi, hj, by decide, k _ (MP.of ⟨(g_up_n (g_ner h.obj h.a2 (g_tag (i := 0) (j := 2) (by decide)))).trans h.obj, (g_up_n (g_ner h.a1 h.a2 (g_tag (i := 1) (j := 2) (by decide)))).trans h.a1, g_up_s, (g_up_n (g_ner h.a3 h.a2 (g_tag (i := 3) (j := 2) (by decide)))).trans h.a3, (g_up_n (g_ner h.a5 h.a2 (g_tag (i := 5) (j := 2) (by decide)))).trans h.a5, (g_up_n (g_ner h.a7 h.a2 (g_tag (i := 7) (j := 2) (by decide)))).trans h.a7, (g_up_n (g_ner h.a11 h.a2 (g_tag (i := 11) (j := 2) (by decide)))).trans h.a11, h.fr.tr (g_F.up h.a2 rfl), h.mo.tr (g_M.up h.a2)⟩)⟩
theorem MP.st3 (h : MP E G0 G o A M) {i v : Int32} (j : Nat) (hi : i = nI j) (hj : j < 1536) (k : ∀ G1, MP E G0 G1 o A (M.w_states (upd M.states j v)) → K G1) : w_ist E G (A 3) i v K :=
  ⟨_, _, _, j, h.a3, hi, hj, by decide, k _ (MP.of ⟨(g_up_n (g_ner h.obj h.a3 (g_tag (i := 0) (j := 3) (by decide)))).trans h.obj, (g_up_n (g_ner h.a1 h.a3 (g_tag (i := 1) (j := 3) (by decide)))).trans h.a1, (g_up_n (g_ner h.a2 h.a3 (g_tag (i := 2) (j := 3) (by decide)))).trans h.a2, g_up_s, (g_up_n (g_ner h.a5 h.a3 (g_tag (i := 5) (j := 3) (by decide)))).trans h.a5, (g_up_n (g_ner h.a7 h.a3 (g_tag (i := 7) (j := 3) (by decide)))).trans h.a7, (g_up_n (g_ner h.a11 h.a3 (g_tag (i := 11) (j := 3) (by decide)))).trans h.a11, h.fr.tr (g_F.up h.a3 rfl), h.mo.tr (g_M.up h.a3)⟩)⟩
theorem MP.st5 (h : MP E G0 G o A M) {i v : Int32} (j : Nat) (hi : i = nI j) (hj : j < 256) (k : ∀ G1, MP E G0 G1 o A (M.w_snap (upd M.snap j v)) → K G1) : w_ist E G (A 5) i v K :=
  ⟨_, _, _, j, h.a5, hi, hj, by decide, k _ (MP.of ⟨(g_up_n (g_ner h.obj h.a5 (g_tag (i := 0) (j := 5) (by decide)))).trans h.obj, (g_up_n (g_ner h.a1 h.a5 (g_tag (i := 1) (j := 5) (by decide)))).trans h.a1, (g_up_n (g_ner h.a2 h.a5 (g_tag (i := 2) (j := 5) (by decide)))).trans h.a2, (g_up_n (g_ner h.a3 h.a5 (g_tag (i := 3) (j := 5) (by decide)))).trans h.a3, g_up_s, (g_up_n (g_ner h.a7 h.a5 (g_tag (i := 7) (j := 5) (by decide)))).trans h.a7, (g_up_n (g_ner h.a11 h.a5 (g_tag (i := 11) (j := 5) (by decide)))).trans h.a11, h.fr.tr (g_F.up h.a5 rfl), h.mo.tr (g_M.up h.a5)⟩)⟩
theorem MP.st7 (h : MP E G0 G o A M) {i v : Int32} (j : Nat) (hi : i = nI j) (hj : j < 60) (k : ∀ G1, MP E G0 G1 o A (M.w_text (upd M.text j v)) → K G1) : w_ist E G (A 7) i v K :=
  ⟨_, _, _, j, h.a7, hi, hj, by decide, k _ (MP.of ⟨(g_up_n (g_ner h.obj h.a7 (g_tag (i := 0) (j := 7) (by decide)))).trans h.obj, (g_up_n (g_ner h.a1 h.a7 (g_tag (i := 1) (j := 7) (by decide)))).trans h.a1, (g_up_n (g_ner h.a2 h.a7 (g_tag (i := 2) (j := 7) (by decide)))).trans h.a2, (g_up_n (g_ner h.a3 h.a7 (g_tag (i := 3) (j := 7) (by decide)))).trans h.a3, (g_up_n (g_ner h.a5 h.a7 (g_tag (i := 5) (j := 7) (by decide)))).trans h.a5, g_up_s, (g_up_n (g_ner h.a11 h.a7 (g_tag (i := 11) (j := 7) (by decide)))).trans h.a11, h.fr.tr (g_F.up h.a7 rfl), h.mo.tr (g_M.up h.a7)⟩)⟩
theorem MP.st11 (h : MP E G0 G o A M) {i v : Int32} (j : Nat) (hi : i = nI j) (hj : j < 124) (k : ∀ G1, MP E G0 G1 o A (M.w_rd (upd M.rd j v)) → K G1) : w_ist E G (A 11) i v K :=
  ⟨_, _, _, j, h.a11, hi, hj, by decide, k _ (MP.of ⟨(g_up_n (g_ner h.obj h.a11 (g_tag (i := 0) (j := 11) (by decide)))).trans h.obj, (g_up_n (g_ner h.a1 h.a11 (g_tag (i := 1) (j := 11) (by decide)))).trans h.a1, (g_up_n (g_ner h.a2 h.a11 (g_tag (i := 2) (j := 11) (by decide)))).trans h.a2, (g_up_n (g_ner h.a3 h.a11 (g_tag (i := 3) (j := 11) (by decide)))).trans h.a3, (g_up_n (g_ner h.a5 h.a11 (g_tag (i := 5) (j := 11) (by decide)))).trans h.a5, (g_up_n (g_ner h.a7 h.a11 (g_tag (i := 7) (j := 11) (by decide)))).trans h.a7, g_up_s, h.fr.tr (g_F.up h.a11 rfl), h.mo.tr (g_M.up h.a11)⟩)⟩
theorem MP.pt0 (h : MP E G0 G o A M) {v : Int32} (k : ∀ G1, MP E G0 G1 o A (M.w_th (v)) → K G1) : w_put G o 2 0 (.int v) K :=
  ⟨_, _, h.obj, by show 0 < 13; decide, k _ (MP.of ⟨g_up_s, (g_up_n (g_ner h.a1 h.obj (g_tag (i := 1) (j := 0) (by decide)))).trans h.a1, (g_up_n (g_ner h.a2 h.obj (g_tag (i := 2) (j := 0) (by decide)))).trans h.a2, (g_up_n (g_ner h.a3 h.obj (g_tag (i := 3) (j := 0) (by decide)))).trans h.a3, (g_up_n (g_ner h.a5 h.obj (g_tag (i := 5) (j := 0) (by decide)))).trans h.a5, (g_up_n (g_ner h.a7 h.obj (g_tag (i := 7) (j := 0) (by decide)))).trans h.a7, (g_up_n (g_ner h.a11 h.obj (g_tag (i := 11) (j := 0) (by decide)))).trans h.a11, h.fr.tr (g_F.up h.obj rfl), h.mo.tr (g_M.up h.obj)⟩)⟩
theorem MP.pt4 (h : MP E G0 G o A M) {v : Int32} (k : ∀ G1, MP E G0 G1 o A (M.w_sm (v)) → K G1) : w_put G o 2 4 (.int v) K :=
  ⟨_, _, h.obj, by show 4 < 13; decide, k _ (MP.of ⟨g_up_s, (g_up_n (g_ner h.a1 h.obj (g_tag (i := 1) (j := 0) (by decide)))).trans h.a1, (g_up_n (g_ner h.a2 h.obj (g_tag (i := 2) (j := 0) (by decide)))).trans h.a2, (g_up_n (g_ner h.a3 h.obj (g_tag (i := 3) (j := 0) (by decide)))).trans h.a3, (g_up_n (g_ner h.a5 h.obj (g_tag (i := 5) (j := 0) (by decide)))).trans h.a5, (g_up_n (g_ner h.a7 h.obj (g_tag (i := 7) (j := 0) (by decide)))).trans h.a7, (g_up_n (g_ner h.a11 h.obj (g_tag (i := 11) (j := 0) (by decide)))).trans h.a11, h.fr.tr (g_F.up h.obj rfl), h.mo.tr (g_M.up h.obj)⟩)⟩
theorem MP.pt6 (h : MP E G0 G o A M) {v : Int32} (k : ∀ G1, MP E G0 G1 o A (M.w_hs (v)) → K G1) : w_put G o 2 6 (.int v) K :=
  ⟨_, _, h.obj, by show 6 < 13; decide, k _ (MP.of ⟨g_up_s, (g_up_n (g_ner h.a1 h.obj (g_tag (i := 1) (j := 0) (by decide)))).trans h.a1, (g_up_n (g_ner h.a2 h.obj (g_tag (i := 2) (j := 0) (by decide)))).trans h.a2, (g_up_n (g_ner h.a3 h.obj (g_tag (i := 3) (j := 0) (by decide)))).trans h.a3, (g_up_n (g_ner h.a5 h.obj (g_tag (i := 5) (j := 0) (by decide)))).trans h.a5, (g_up_n (g_ner h.a7 h.obj (g_tag (i := 7) (j := 0) (by decide)))).trans h.a7, (g_up_n (g_ner h.a11 h.obj (g_tag (i := 11) (j := 0) (by decide)))).trans h.a11, h.fr.tr (g_F.up h.obj rfl), h.mo.tr (g_M.up h.obj)⟩)⟩
theorem MP.pt8 (h : MP E G0 G o A M) {v : Int32} (k : ∀ G1, MP E G0 G1 o A (M.w_len (v)) → K G1) : w_put G o 2 8 (.int v) K :=
  ⟨_, _, h.obj, by show 8 < 13; decide, k _ (MP.of ⟨g_up_s, (g_up_n (g_ner h.a1 h.obj (g_tag (i := 1) (j := 0) (by decide)))).trans h.a1, (g_up_n (g_ner h.a2 h.obj (g_tag (i := 2) (j := 0) (by decide)))).trans h.a2, (g_up_n (g_ner h.a3 h.obj (g_tag (i := 3) (j := 0) (by decide)))).trans h.a3, (g_up_n (g_ner h.a5 h.obj (g_tag (i := 5) (j := 0) (by decide)))).trans h.a5, (g_up_n (g_ner h.a7 h.obj (g_tag (i := 7) (j := 0) (by decide)))).trans h.a7, (g_up_n (g_ner h.a11 h.obj (g_tag (i := 11) (j := 0) (by decide)))).trans h.a11, h.fr.tr (g_F.up h.obj rfl), h.mo.tr (g_M.up h.obj)⟩)⟩
theorem MP.pt9 (h : MP E G0 G o A M) {v : Int32} (k : ∀ G1, MP E G0 G1 o A (M.w_at' (v)) → K G1) : w_put G o 2 9 (.int v) K :=
  ⟨_, _, h.obj, by show 9 < 13; decide, k _ (MP.of ⟨g_up_s, (g_up_n (g_ner h.a1 h.obj (g_tag (i := 1) (j := 0) (by decide)))).trans h.a1, (g_up_n (g_ner h.a2 h.obj (g_tag (i := 2) (j := 0) (by decide)))).trans h.a2, (g_up_n (g_ner h.a3 h.obj (g_tag (i := 3) (j := 0) (by decide)))).trans h.a3, (g_up_n (g_ner h.a5 h.obj (g_tag (i := 5) (j := 0) (by decide)))).trans h.a5, (g_up_n (g_ner h.a7 h.obj (g_tag (i := 7) (j := 0) (by decide)))).trans h.a7, (g_up_n (g_ner h.a11 h.obj (g_tag (i := 11) (j := 0) (by decide)))).trans h.a11, h.fr.tr (g_F.up h.obj rfl), h.mo.tr (g_M.up h.obj)⟩)⟩
theorem MP.pt10 (h : MP E G0 G o A M) {v : Int32} (k : ∀ G1, MP E G0 G1 o A (M.w_wl (v)) → K G1) : w_put G o 2 10 (.int v) K :=
  ⟨_, _, h.obj, by show 10 < 13; decide, k _ (MP.of ⟨g_up_s, (g_up_n (g_ner h.a1 h.obj (g_tag (i := 1) (j := 0) (by decide)))).trans h.a1, (g_up_n (g_ner h.a2 h.obj (g_tag (i := 2) (j := 0) (by decide)))).trans h.a2, (g_up_n (g_ner h.a3 h.obj (g_tag (i := 3) (j := 0) (by decide)))).trans h.a3, (g_up_n (g_ner h.a5 h.obj (g_tag (i := 5) (j := 0) (by decide)))).trans h.a5, (g_up_n (g_ner h.a7 h.obj (g_tag (i := 7) (j := 0) (by decide)))).trans h.a7, (g_up_n (g_ner h.a11 h.obj (g_tag (i := 11) (j := 0) (by decide)))).trans h.a11, h.fr.tr (g_F.up h.obj rfl), h.mo.tr (g_M.up h.obj)⟩)⟩
theorem MP.pt12 (h : MP E G0 G o A M) {v : Int32} (k : ∀ G1, MP E G0 G1 o A (M.w_rm (v)) → K G1) : w_put G o 2 12 (.int v) K :=
  ⟨_, _, h.obj, by show 12 < 13; decide, k _ (MP.of ⟨g_up_s, (g_up_n (g_ner h.a1 h.obj (g_tag (i := 1) (j := 0) (by decide)))).trans h.a1, (g_up_n (g_ner h.a2 h.obj (g_tag (i := 2) (j := 0) (by decide)))).trans h.a2, (g_up_n (g_ner h.a3 h.obj (g_tag (i := 3) (j := 0) (by decide)))).trans h.a3, (g_up_n (g_ner h.a5 h.obj (g_tag (i := 5) (j := 0) (by decide)))).trans h.a5, (g_up_n (g_ner h.a7 h.obj (g_tag (i := 7) (j := 0) (by decide)))).trans h.a7, (g_up_n (g_ner h.a11 h.obj (g_tag (i := 11) (j := 0) (by decide)))).trans h.a11, h.fr.tr (g_F.up h.obj rfl), h.mo.tr (g_M.up h.obj)⟩)⟩
end MP


