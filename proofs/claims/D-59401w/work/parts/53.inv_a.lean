/-! what holds of every town that a run comes to -/
def s8 (f : Nat → Nat) : Nat := f 0 + f 1 + f 2 + f 3 + f 4 + f 5 + f 6 + f 7
theorem lt8 {t : Nat} (h : t < 8) : t = 0 ∨ t = 1 ∨ t = 2 ∨ t = 3 ∨ t = 4 ∨ t = 5 ∨ t = 6 ∨ t = 7 := by omega
theorem lt4 {t : Nat} (h : t < 4) : t = 0 ∨ t = 1 ∨ t = 2 ∨ t = 3 := by omega
theorem lt5 {t : Nat} (h : t < 5) : t = 0 ∨ t = 1 ∨ t = 2 ∨ t = 3 ∨ t = 4 := by omega
theorem s8_one {f g : Nat → Nat} {t : Nat} (ht : t < 8) (h : ∀ i, i ≠ t → g i = f i) : s8 g + f t = s8 f + g t := by
  unfold s8
  have h0 := h 0; have h1 := h 1; have h2 := h 2; have h3 := h 3; have h4 := h 4; have h5 := h 5; have h6 := h 6; have h7 := h 7
  rcases lt8 ht with rfl | rfl | rfl | rfl | rfl | rfl | rfl | rfl <;> simp at h0 h1 h2 h3 h4 h5 h6 h7 <;> omega
def remS (v : Nat) : Nat := if v = 0 then 2 else if v = 1 then 1 else 0
def remC (n : Nat) (ou en : Nat → Nat) (t : Nat) : Nat := if n ≤ t then 3 else if ou t = 0 then 2 else if en t = 0 then 1 else 0
/-- the last kind, of kinds up to some, that a log has of a transfer -/
def lastK (l : List (Nat × Nat)) (t most : Nat) : Int32 := l.foldl (fun a e => if e.2 = t ∧ e.1 ≤ most then nI e.1 else a) (-nI 1)
theorem lastK_snoc (l : List (Nat × Nat)) (k t9 t most : Nat) : lastK (l ++ [(k, t9)]) t most = if t9 = t ∧ k ≤ most then nI k else lastK l t most := by
  unfold lastK
  rw [List.foldl_append]
  rfl
def Core (n : Nat) (fr to sz ys dn ou en : Nat → Nat) (st : Nat → Nat → Nat) (lg : Nat → List (Nat × Nat)) (up : Nat → Nat) : Prop :=
  (n ≤ 8) ∧
  (∀ t, t < n → fr t < 4 ∧ 1 ≤ to t ∧ to t < 16 ∧ bit (to t) (fr t) = 0 ∧ 1 ≤ sz t ∧ sz t ≤ 50) ∧
  (∀ t, ou t ≤ 2) ∧
  (∀ t, en t ≤ 1) ∧
  (∀ t, en t = 1 → ou t ≠ 0) ∧
  (∀ s t, st s t ≤ 3) ∧
  (∀ t, n ≤ t → ou t = 0 ∧ en t = 0 ∧ ys t = 0 ∧ dn t = 0 ∧ ∀ s, st s t = 0) ∧
  (∀ s, s < 4 → ∀ t, st s t ≠ 0 → bit (orbit (to t) (fr t)) s = 1) ∧
  (∀ t, ys t < 16) ∧
  (∀ t, dn t < 16) ∧
  (∀ s, s < 4 → ∀ t, bit (ys t) s = 1 → ou t = 0 → st s t = 1) ∧
  (∀ t, dn t ≠ 0 → ou t ≠ 0) ∧
  (∀ s, s < 4 → ∀ t, ou t = 1 → bit (orbit (to t) (fr t)) s = 1 → st s t = 1 ∨ st s t = 2) ∧
  (∀ s, s < 4 → ∀ t, st s t = 2 → ou t = 1) ∧
  (∀ s, s < 4 → (lg s).length + s8 (fun t => remS (st s t)) ≤ 16) ∧
  ((lg 4).length + s8 (remC n ou en) ≤ 24) ∧
  (∀ i, i < 5 → ∀ e, e ∈ lg i → e.2 < n ∧ (i < 4 → e.1 = 1 ∨ e.1 = 2 ∨ e.1 = 4) ∧ (i = 4 → e.1 ≤ 3)) ∧
  (∀ t, t < n → lastK (lg 4) t 2 = nI (ou t)) ∧
  (∀ t, t < n → lastK (lg 4) t 3 = nI (if en t = 1 then 3 else ou t)) ∧
  (∀ i, up i ≤ 1)
theorem Core.of {n : Nat} {fr to sz ys dn ou en : Nat → Nat} {st : Nat → Nat → Nat} {lg : Nat → List (Nat × Nat)} {up : Nat → Nat} (h9 : (n ≤ 8) ∧
  (∀ t, t < n → fr t < 4 ∧ 1 ≤ to t ∧ to t < 16 ∧ bit (to t) (fr t) = 0 ∧ 1 ≤ sz t ∧ sz t ≤ 50) ∧
  (∀ t, ou t ≤ 2) ∧
  (∀ t, en t ≤ 1) ∧
  (∀ t, en t = 1 → ou t ≠ 0) ∧
  (∀ s t, st s t ≤ 3) ∧
  (∀ t, n ≤ t → ou t = 0 ∧ en t = 0 ∧ ys t = 0 ∧ dn t = 0 ∧ ∀ s, st s t = 0) ∧
  (∀ s, s < 4 → ∀ t, st s t ≠ 0 → bit (orbit (to t) (fr t)) s = 1) ∧
  (∀ t, ys t < 16) ∧
  (∀ t, dn t < 16) ∧
  (∀ s, s < 4 → ∀ t, bit (ys t) s = 1 → ou t = 0 → st s t = 1) ∧
  (∀ t, dn t ≠ 0 → ou t ≠ 0) ∧
  (∀ s, s < 4 → ∀ t, ou t = 1 → bit (orbit (to t) (fr t)) s = 1 → st s t = 1 ∨ st s t = 2) ∧
  (∀ s, s < 4 → ∀ t, st s t = 2 → ou t = 1) ∧
  (∀ s, s < 4 → (lg s).length + s8 (fun t => remS (st s t)) ≤ 16) ∧
  ((lg 4).length + s8 (remC n ou en) ≤ 24) ∧
  (∀ i, i < 5 → ∀ e, e ∈ lg i → e.2 < n ∧ (i < 4 → e.1 = 1 ∨ e.1 = 2 ∨ e.1 = 4) ∧ (i = 4 → e.1 ≤ 3)) ∧
  (∀ t, t < n → lastK (lg 4) t 2 = nI (ou t)) ∧
  (∀ t, t < n → lastK (lg 4) t 3 = nI (if en t = 1 then 3 else ou t)) ∧
  (∀ i, up i ≤ 1)) : Core n fr to sz ys dn ou en st lg up := h9
theorem Core.n8 {n : Nat} {fr to sz ys dn ou en : Nat → Nat} {st : Nat → Nat → Nat} {lg : Nat → List (Nat × Nat)} {up : Nat → Nat} (h9 : Core n fr to sz ys dn ou en st lg up) : n ≤ 8 := h9.1
theorem Core.tr {n : Nat} {fr to sz ys dn ou en : Nat → Nat} {st : Nat → Nat → Nat} {lg : Nat → List (Nat × Nat)} {up : Nat → Nat} (h9 : Core n fr to sz ys dn ou en st lg up) : ∀ t, t < n → fr t < 4 ∧ 1 ≤ to t ∧ to t < 16 ∧ bit (to t) (fr t) = 0 ∧ 1 ≤ sz t ∧ sz t ≤ 50 := h9.2.1
theorem Core.ou3 {n : Nat} {fr to sz ys dn ou en : Nat → Nat} {st : Nat → Nat → Nat} {lg : Nat → List (Nat × Nat)} {up : Nat → Nat} (h9 : Core n fr to sz ys dn ou en st lg up) : ∀ t, ou t ≤ 2 := h9.2.2.1
theorem Core.en1 {n : Nat} {fr to sz ys dn ou en : Nat → Nat} {st : Nat → Nat → Nat} {lg : Nat → List (Nat × Nat)} {up : Nat → Nat} (h9 : Core n fr to sz ys dn ou en st lg up) : ∀ t, en t ≤ 1 := h9.2.2.2.1
theorem Core.eno {n : Nat} {fr to sz ys dn ou en : Nat → Nat} {st : Nat → Nat → Nat} {lg : Nat → List (Nat × Nat)} {up : Nat → Nat} (h9 : Core n fr to sz ys dn ou en st lg up) : ∀ t, en t = 1 → ou t ≠ 0 := h9.2.2.2.2.1
theorem Core.st4 {n : Nat} {fr to sz ys dn ou en : Nat → Nat} {st : Nat → Nat → Nat} {lg : Nat → List (Nat × Nat)} {up : Nat → Nat} (h9 : Core n fr to sz ys dn ou en st lg up) : ∀ s t, st s t ≤ 3 := h9.2.2.2.2.2.1
theorem Core.un {n : Nat} {fr to sz ys dn ou en : Nat → Nat} {st : Nat → Nat → Nat} {lg : Nat → List (Nat × Nat)} {up : Nat → Nat} (h9 : Core n fr to sz ys dn ou en st lg up) : ∀ t, n ≤ t → ou t = 0 ∧ en t = 0 ∧ ys t = 0 ∧ dn t = 0 ∧ ∀ s, st s t = 0 := h9.2.2.2.2.2.2.1
theorem Core.part {n : Nat} {fr to sz ys dn ou en : Nat → Nat} {st : Nat → Nat → Nat} {lg : Nat → List (Nat × Nat)} {up : Nat → Nat} (h9 : Core n fr to sz ys dn ou en st lg up) : ∀ s, s < 4 → ∀ t, st s t ≠ 0 → bit (orbit (to t) (fr t)) s = 1 := h9.2.2.2.2.2.2.2.1
theorem Core.ysl {n : Nat} {fr to sz ys dn ou en : Nat → Nat} {st : Nat → Nat → Nat} {lg : Nat → List (Nat × Nat)} {up : Nat → Nat} (h9 : Core n fr to sz ys dn ou en st lg up) : ∀ t, ys t < 16 := h9.2.2.2.2.2.2.2.2.1
theorem Core.dnl {n : Nat} {fr to sz ys dn ou en : Nat → Nat} {st : Nat → Nat → Nat} {lg : Nat → List (Nat × Nat)} {up : Nat → Nat} (h9 : Core n fr to sz ys dn ou en st lg up) : ∀ t, dn t < 16 := h9.2.2.2.2.2.2.2.2.2.1
theorem Core.ysb {n : Nat} {fr to sz ys dn ou en : Nat → Nat} {st : Nat → Nat → Nat} {lg : Nat → List (Nat × Nat)} {up : Nat → Nat} (h9 : Core n fr to sz ys dn ou en st lg up) : ∀ s, s < 4 → ∀ t, bit (ys t) s = 1 → ou t = 0 → st s t = 1 := h9.2.2.2.2.2.2.2.2.2.2.1
theorem Core.dno {n : Nat} {fr to sz ys dn ou en : Nat → Nat} {st : Nat → Nat → Nat} {lg : Nat → List (Nat × Nat)} {up : Nat → Nat} (h9 : Core n fr to sz ys dn ou en st lg up) : ∀ t, dn t ≠ 0 → ou t ≠ 0 := h9.2.2.2.2.2.2.2.2.2.2.2.1
theorem Core.o1 {n : Nat} {fr to sz ys dn ou en : Nat → Nat} {st : Nat → Nat → Nat} {lg : Nat → List (Nat × Nat)} {up : Nat → Nat} (h9 : Core n fr to sz ys dn ou en st lg up) : ∀ s, s < 4 → ∀ t, ou t = 1 → bit (orbit (to t) (fr t)) s = 1 → st s t = 1 ∨ st s t = 2 := h9.2.2.2.2.2.2.2.2.2.2.2.2.1
theorem Core.s2 {n : Nat} {fr to sz ys dn ou en : Nat → Nat} {st : Nat → Nat → Nat} {lg : Nat → List (Nat × Nat)} {up : Nat → Nat} (h9 : Core n fr to sz ys dn ou en st lg up) : ∀ s, s < 4 → ∀ t, st s t = 2 → ou t = 1 := h9.2.2.2.2.2.2.2.2.2.2.2.2.2.1
theorem Core.lgs {n : Nat} {fr to sz ys dn ou en : Nat → Nat} {st : Nat → Nat → Nat} {lg : Nat → List (Nat × Nat)} {up : Nat → Nat} (h9 : Core n fr to sz ys dn ou en st lg up) : ∀ s, s < 4 → (lg s).length + s8 (fun t => remS (st s t)) ≤ 16 := h9.2.2.2.2.2.2.2.2.2.2.2.2.2.2.1
theorem Core.lgc {n : Nat} {fr to sz ys dn ou en : Nat → Nat} {st : Nat → Nat → Nat} {lg : Nat → List (Nat × Nat)} {up : Nat → Nat} (h9 : Core n fr to sz ys dn ou en st lg up) : (lg 4).length + s8 (remC n ou en) ≤ 24 := h9.2.2.2.2.2.2.2.2.2.2.2.2.2.2.2.1
theorem Core.lge {n : Nat} {fr to sz ys dn ou en : Nat → Nat} {st : Nat → Nat → Nat} {lg : Nat → List (Nat × Nat)} {up : Nat → Nat} (h9 : Core n fr to sz ys dn ou en st lg up) : ∀ i, i < 5 → ∀ e, e ∈ lg i → e.2 < n ∧ (i < 4 → e.1 = 1 ∨ e.1 = 2 ∨ e.1 = 4) ∧ (i = 4 → e.1 ≤ 3) := h9.2.2.2.2.2.2.2.2.2.2.2.2.2.2.2.2.1
theorem Core.lk2 {n : Nat} {fr to sz ys dn ou en : Nat → Nat} {st : Nat → Nat → Nat} {lg : Nat → List (Nat × Nat)} {up : Nat → Nat} (h9 : Core n fr to sz ys dn ou en st lg up) : ∀ t, t < n → lastK (lg 4) t 2 = nI (ou t) := h9.2.2.2.2.2.2.2.2.2.2.2.2.2.2.2.2.2.1
theorem Core.lk3 {n : Nat} {fr to sz ys dn ou en : Nat → Nat} {st : Nat → Nat → Nat} {lg : Nat → List (Nat × Nat)} {up : Nat → Nat} (h9 : Core n fr to sz ys dn ou en st lg up) : ∀ t, t < n → lastK (lg 4) t 3 = nI (if en t = 1 then 3 else ou t) := h9.2.2.2.2.2.2.2.2.2.2.2.2.2.2.2.2.2.2.1
theorem Core.up1 {n : Nat} {fr to sz ys dn ou en : Nat → Nat} {st : Nat → Nat → Nat} {lg : Nat → List (Nat × Nat)} {up : Nat → Nat} (h9 : Core n fr to sz ys dn ou en st lg up) : ∀ i, up i ≤ 1 := h9.2.2.2.2.2.2.2.2.2.2.2.2.2.2.2.2.2.2.2
abbrev Tau.core (τ : Tau) : Prop := Core τ.n τ.fr τ.to τ.sz τ.ys τ.dn τ.ou τ.en τ.st τ.lg τ.up
def Tau.MsgOk (τ : Tau) (m : Nat × Nat × Nat) : Prop :=
  (m.1 < 7) ∧
  (m.2.1 < τ.n) ∧
  (m.2.2 < 4) ∧
  (bit (τ.par m.2.1) m.2.2 = 1) ∧
  (m.1 = 3 → τ.ou m.2.1 = 1) ∧
  (m.1 = 4 → τ.ou m.2.1 = 2) ∧
  (m.1 = 1 → τ.ou m.2.1 = 0 → τ.st m.2.2 m.2.1 = 1) ∧
  (m.1 = 5 → τ.ou m.2.1 ≠ 0)
theorem Tau.MsgOk.of {τ : Tau} {m : Nat × Nat × Nat} (h9 : (m.1 < 7) ∧
  (m.2.1 < τ.n) ∧
  (m.2.2 < 4) ∧
  (bit (τ.par m.2.1) m.2.2 = 1) ∧
  (m.1 = 3 → τ.ou m.2.1 = 1) ∧
  (m.1 = 4 → τ.ou m.2.1 = 2) ∧
  (m.1 = 1 → τ.ou m.2.1 = 0 → τ.st m.2.2 m.2.1 = 1) ∧
  (m.1 = 5 → τ.ou m.2.1 ≠ 0)) : Tau.MsgOk τ m := h9
theorem Tau.MsgOk.k7 {τ : Tau} {m : Nat × Nat × Nat} (h9 : Tau.MsgOk τ m) : m.1 < 7 := h9.1
theorem Tau.MsgOk.t {τ : Tau} {m : Nat × Nat × Nat} (h9 : Tau.MsgOk τ m) : m.2.1 < τ.n := h9.2.1
theorem Tau.MsgOk.s4 {τ : Tau} {m : Nat × Nat × Nat} (h9 : Tau.MsgOk τ m) : m.2.2 < 4 := h9.2.2.1
theorem Tau.MsgOk.p {τ : Tau} {m : Nat × Nat × Nat} (h9 : Tau.MsgOk τ m) : bit (τ.par m.2.1) m.2.2 = 1 := h9.2.2.2.1
theorem Tau.MsgOk.mk {τ : Tau} {m : Nat × Nat × Nat} (h9 : Tau.MsgOk τ m) : m.1 = 3 → τ.ou m.2.1 = 1 := h9.2.2.2.2.1
theorem Tau.MsgOk.dr {τ : Tau} {m : Nat × Nat × Nat} (h9 : Tau.MsgOk τ m) : m.1 = 4 → τ.ou m.2.1 = 2 := h9.2.2.2.2.2.1
theorem Tau.MsgOk.ye {τ : Tau} {m : Nat × Nat × Nat} (h9 : Tau.MsgOk τ m) : m.1 = 1 → τ.ou m.2.1 = 0 → τ.st m.2.2 m.2.1 = 1 := h9.2.2.2.2.2.2.1
theorem Tau.MsgOk.dn {τ : Tau} {m : Nat × Nat × Nat} (h9 : Tau.MsgOk τ m) : m.1 = 5 → τ.ou m.2.1 ≠ 0 := h9.2.2.2.2.2.2.2
def Tau.Inv (τ : Tau) : Prop :=
  (τ.core) ∧
  (τ.row.length ≤ 60) ∧
  (∀ m, m ∈ τ.row → τ.MsgOk m)
theorem Tau.Inv.of {τ : Tau} (h9 : (τ.core) ∧
  (τ.row.length ≤ 60) ∧
  (∀ m, m ∈ τ.row → τ.MsgOk m)) : Tau.Inv τ := h9
theorem Tau.Inv.core {τ : Tau} (h9 : Tau.Inv τ) : τ.core := h9.1
theorem Tau.Inv.row {τ : Tau} (h9 : Tau.Inv τ) : τ.row.length ≤ 60 := h9.2.1
theorem Tau.Inv.ok {τ : Tau} (h9 : Tau.Inv τ) : ∀ m, m ∈ τ.row → τ.MsgOk m := h9.2.2
theorem Tau.core.sz {τ : Tau} (h : τ.core) (hr : τ.row.length ≤ 60) : τ.Sz := Tau.Sz.of ⟨h.n8, hr, fun i hi => by have := h.lgs i hi; omega, by have := h.lgc; omega⟩
theorem Tau.Inv.sz {τ : Tau} (h : τ.Inv) : τ.Sz := Tau.core.sz h.core h.row
def Tau.wk (k : Nat) : Nat := if k = 0 then 2 else if k = 1 then 1 else if k = 2 then 1 else if k = 3 then 2 else if k = 4 then 2 else if k = 5 then 1 else 3
def Tau.wt (l : List (Nat × Nat × Nat)) : Nat := (l.map fun m => Tau.wk m.1).sum
theorem Tau.wk_le (k : Nat) : Tau.wk k ≤ 3 := by
  unfold Tau.wk
  repeat' split
  all_goals omega
theorem Tau.s8_le1 {f : Nat → Nat} (h : ∀ t, f t ≤ 1) : s8 f ≤ 8 := by
  unfold s8
  have := h 0; have := h 1; have := h 2; have := h 3; have := h 4; have := h 5; have := h 6; have := h 7
  omega
theorem Tau.wt_snoc (l : List (Nat × Nat × Nat)) (m : Nat × Nat × Nat) : Tau.wt (l ++ [m]) = Tau.wt l + Tau.wk m.1 := by simp [Tau.wt]
theorem Tau.wt_le (l : List (Nat × Nat × Nat)) : Tau.wt l ≤ 3 * l.length := by
  induction l with
  | nil => simp [Tau.wt]
  | cons m l ih =>
    have := Tau.wk_le m.1
    simp only [Tau.wt, List.map_cons, List.sum_cons, List.length_cons] at ih ⊢
    omega
def Tau.und (n : Nat) (ou : Nat → Nat) : Nat := s8 (fun t => if t < n ∧ ou t = 0 then 1 else 0)
def Tau.pot (τ : Tau) : Nat := Tau.wt τ.row + 8 * Tau.und τ.n τ.ou
theorem Tau.pot_le {τ : Tau} (h : τ.Inv) : τ.pot ≤ 244 := by
  have h1 := Tau.wt_le τ.row
  have h2 := h.row
  have h3 : Tau.und τ.n τ.ou ≤ 8 := by
    exact Tau.s8_le1 fun t => by split <;> omega
  unfold Tau.pot
  omega
/-! sending -/
theorem Tau.send_form (τ : Tau) (k t s : Nat) (hr : τ.row.length ≤ 60) : ∃ r a b, τ.send k t s = (((τ.w_row (r)).w_sent (a)).w_lost (b)) ∧ r.length ≤ 60 ∧ (∀ m, m ∈ r → m ∈ τ.row ∨ m = (k, t, s)) ∧ Tau.wt r ≤ Tau.wt τ.row + Tau.wk k := by
  unfold Tau.send
  split
  · exact ⟨τ.row, _, _, rfl, hr, fun m h => Or.inl h, Nat.le_add_right _ _⟩
  · refine ⟨τ.row ++ [(k, t, s)], _, τ.lost, rfl, by simp; omega, fun m h => ?_, Nat.le_of_eq (Tau.wt_snoc _ _)⟩
    rcases List.mem_append.mp h with h | h
    · exact Or.inl h
    · exact Or.inr (List.mem_singleton.mp h)
theorem Tau.sendFrom_form (k t : Nat) : ∀ (j s : Nat) (τ : Tau), τ.row.length ≤ 60 → ∃ r a b, τ.sendFrom k t j s = (((τ.w_row (r)).w_sent (a)).w_lost (b)) ∧ r.length ≤ 60 ∧ (∀ m, m ∈ r → m ∈ τ.row ∨ (m.1 = k ∧ m.2.1 = t ∧ m.2.2 < s + j ∧ bit (τ.par t) m.2.2 = 1)) ∧ Tau.wt r ≤ Tau.wt τ.row + j * Tau.wk k := by
  intro j
  induction j with
  | zero => intro s τ hr; exact ⟨τ.row, τ.sent, τ.lost, rfl, hr, fun m h => Or.inl h, by omega⟩
  | succ j ih =>
    intro s τ hr
    unfold Tau.sendFrom
    by_cases hb : bit (τ.par t) s = 1
    · rw [if_pos hb]
      obtain ⟨r, a, b, e, h1, h2, h3⟩ := Tau.send_form τ k t s hr
      rw [e]
      obtain ⟨r2, a2, b2, e2, g1, g2, g3⟩ := ih (s + 1) (((τ.w_row (r)).w_sent (a)).w_lost (b)) h1
      refine ⟨r2, a2, b2, e2, g1, fun m hm => ?_, ?_⟩
      · rcases g2 m hm with h | ⟨q1, q2, q3, q4⟩
        · rcases h2 m h with h | h
          · exact Or.inl h
          · subst h; exact Or.inr ⟨rfl, rfl, by show s < s + (j + 1); omega, hb⟩
        · exact Or.inr ⟨q1, q2, by omega, q4⟩
      · have g3' : Tau.wt r2 ≤ Tau.wt r + j * Tau.wk k := g3
        rw [Nat.succ_mul]
        omega
    · rw [if_neg hb]
      obtain ⟨r2, a2, b2, e2, g1, g2, g3⟩ := ih (s + 1) τ hr
      refine ⟨r2, a2, b2, e2, g1, fun m hm => ?_, ?_⟩
      · rcases g2 m hm with h | ⟨q1, q2, q3, q4⟩
        · exact Or.inl h
        · exact Or.inr ⟨q1, q2, by omega, q4⟩
      · rw [Nat.succ_mul]
        omega
theorem Tau.send_inv {τ : Tau} (h : τ.Inv) {k t s : Nat} (hm : τ.MsgOk (k, t, s)) : (τ.send k t s).Inv ∧ (τ.send k t s).pot ≤ τ.pot + Tau.wk k := by
  obtain ⟨r, a, b, e, h1, h2, h3⟩ := Tau.send_form τ k t s h.row
  rw [e]
  refine ⟨Tau.Inv.of ⟨h.core, h1, fun m hm9 => ?_⟩, ?_⟩
  · have ho : τ.MsgOk m := by
      rcases h2 m hm9 with q | q
      · exact h.ok m q
      · rw [q]; exact hm
    exact ho
  · show Tau.wt r + 8 * Tau.und τ.n τ.ou ≤ Tau.wt τ.row + 8 * Tau.und τ.n τ.ou + Tau.wk k
    omega
theorem Tau.sendAll_inv {τ : Tau} (h : τ.Inv) {k t : Nat} (hm : ∀ s, s < 4 → bit (τ.par t) s = 1 → τ.MsgOk (k, t, s)) : (τ.sendAll k t).Inv ∧ (τ.sendAll k t).pot ≤ τ.pot + 4 * Tau.wk k := by
  obtain ⟨r, a, b, e, h1, h2, h3⟩ := Tau.sendFrom_form k t 4 0 τ h.row
  unfold Tau.sendAll
  rw [e]
  refine ⟨Tau.Inv.of ⟨h.core, h1, fun m hm9 => ?_⟩, ?_⟩
  · have ho : τ.MsgOk m := by
      rcases h2 m hm9 with q | ⟨q1, q2, q3, q4⟩
      · exact h.ok m q
      · obtain ⟨m1, m2, m3⟩ := m
        dsimp only at q1 q2 q3 q4
        subst q1; subst q2
        exact hm m3 (by omega) q4
    exact ho
  · show Tau.wt r + 8 * Tau.und τ.n τ.ou ≤ Tau.wt τ.row + 8 * Tau.und τ.n τ.ou + 4 * Tau.wk k
    omega
