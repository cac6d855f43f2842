/-- the town as the model's row of numbers -/
def Flat (f : Nat → Int32) (τ : Tau) : Prop :=
  (∀ i, i < 5 → f i = nI (τ.up i)) ∧
  (∀ i, i < 4 → f (5 + i) = τ.am i) ∧
  (f 9 = nI τ.n) ∧
  (f 10 = τ.sent) ∧
  (f 11 = τ.hand) ∧
  (f 12 = τ.lost) ∧
  (f 13 = nI τ.row.length) ∧
  (∀ t, t < 8 → f (14 + 7 * t + 0) = nI (τ.fr t)) ∧
  (∀ t, t < 8 → f (14 + 7 * t + 1) = nI (τ.to t)) ∧
  (∀ t, t < 8 → f (14 + 7 * t + 2) = nI (τ.sz t)) ∧
  (∀ t, t < 8 → f (14 + 7 * t + 3) = nI (τ.ys t)) ∧
  (∀ t, t < 8 → f (14 + 7 * t + 4) = nI (τ.dn t)) ∧
  (∀ t, t < 8 → f (14 + 7 * t + 5) = nI (τ.ou t)) ∧
  (∀ t, t < 8 → f (14 + 7 * t + 6) = nI (τ.en t)) ∧
  (∀ s, s < 4 → ∀ t, t < 8 → f (70 + 8 * s + t) = nI (τ.st s t)) ∧
  (∀ i, i < 5 → f (102 + i) = nI (τ.lg i).length) ∧
  (∀ i, i < 5 → ∀ k e, (τ.lg i)[k]? = some e → f (107 + 16 * i + k) = nI (8 * e.1 + e.2)) ∧
  (∀ k m, τ.row[k]? = some m → f (195 + k) = nI (32 * m.1 + 4 * m.2.1 + m.2.2))
theorem Flat.of {f : Nat → Int32} {τ : Tau} (h9 : (∀ i, i < 5 → f i = nI (τ.up i)) ∧
  (∀ i, i < 4 → f (5 + i) = τ.am i) ∧
  (f 9 = nI τ.n) ∧
  (f 10 = τ.sent) ∧
  (f 11 = τ.hand) ∧
  (f 12 = τ.lost) ∧
  (f 13 = nI τ.row.length) ∧
  (∀ t, t < 8 → f (14 + 7 * t + 0) = nI (τ.fr t)) ∧
  (∀ t, t < 8 → f (14 + 7 * t + 1) = nI (τ.to t)) ∧
  (∀ t, t < 8 → f (14 + 7 * t + 2) = nI (τ.sz t)) ∧
  (∀ t, t < 8 → f (14 + 7 * t + 3) = nI (τ.ys t)) ∧
  (∀ t, t < 8 → f (14 + 7 * t + 4) = nI (τ.dn t)) ∧
  (∀ t, t < 8 → f (14 + 7 * t + 5) = nI (τ.ou t)) ∧
  (∀ t, t < 8 → f (14 + 7 * t + 6) = nI (τ.en t)) ∧
  (∀ s, s < 4 → ∀ t, t < 8 → f (70 + 8 * s + t) = nI (τ.st s t)) ∧
  (∀ i, i < 5 → f (102 + i) = nI (τ.lg i).length) ∧
  (∀ i, i < 5 → ∀ k e, (τ.lg i)[k]? = some e → f (107 + 16 * i + k) = nI (8 * e.1 + e.2)) ∧
  (∀ k m, τ.row[k]? = some m → f (195 + k) = nI (32 * m.1 + 4 * m.2.1 + m.2.2))) : Flat f τ := h9
theorem Flat.up {f : Nat → Int32} {τ : Tau} (h9 : Flat f τ) : ∀ i, i < 5 → f i = nI (τ.up i) := h9.1
theorem Flat.am {f : Nat → Int32} {τ : Tau} (h9 : Flat f τ) : ∀ i, i < 4 → f (5 + i) = τ.am i := h9.2.1
theorem Flat.n {f : Nat → Int32} {τ : Tau} (h9 : Flat f τ) : f 9 = nI τ.n := h9.2.2.1
theorem Flat.sent {f : Nat → Int32} {τ : Tau} (h9 : Flat f τ) : f 10 = τ.sent := h9.2.2.2.1
theorem Flat.hand {f : Nat → Int32} {τ : Tau} (h9 : Flat f τ) : f 11 = τ.hand := h9.2.2.2.2.1
theorem Flat.lost {f : Nat → Int32} {τ : Tau} (h9 : Flat f τ) : f 12 = τ.lost := h9.2.2.2.2.2.1
theorem Flat.wait {f : Nat → Int32} {τ : Tau} (h9 : Flat f τ) : f 13 = nI τ.row.length := h9.2.2.2.2.2.2.1
theorem Flat.fr {f : Nat → Int32} {τ : Tau} (h9 : Flat f τ) : ∀ t, t < 8 → f (14 + 7 * t + 0) = nI (τ.fr t) := h9.2.2.2.2.2.2.2.1
theorem Flat.to {f : Nat → Int32} {τ : Tau} (h9 : Flat f τ) : ∀ t, t < 8 → f (14 + 7 * t + 1) = nI (τ.to t) := h9.2.2.2.2.2.2.2.2.1
theorem Flat.sz {f : Nat → Int32} {τ : Tau} (h9 : Flat f τ) : ∀ t, t < 8 → f (14 + 7 * t + 2) = nI (τ.sz t) := h9.2.2.2.2.2.2.2.2.2.1
theorem Flat.ys {f : Nat → Int32} {τ : Tau} (h9 : Flat f τ) : ∀ t, t < 8 → f (14 + 7 * t + 3) = nI (τ.ys t) := h9.2.2.2.2.2.2.2.2.2.2.1
theorem Flat.dn {f : Nat → Int32} {τ : Tau} (h9 : Flat f τ) : ∀ t, t < 8 → f (14 + 7 * t + 4) = nI (τ.dn t) := h9.2.2.2.2.2.2.2.2.2.2.2.1
theorem Flat.ou {f : Nat → Int32} {τ : Tau} (h9 : Flat f τ) : ∀ t, t < 8 → f (14 + 7 * t + 5) = nI (τ.ou t) := h9.2.2.2.2.2.2.2.2.2.2.2.2.1
theorem Flat.en {f : Nat → Int32} {τ : Tau} (h9 : Flat f τ) : ∀ t, t < 8 → f (14 + 7 * t + 6) = nI (τ.en t) := h9.2.2.2.2.2.2.2.2.2.2.2.2.2.1
theorem Flat.st {f : Nat → Int32} {τ : Tau} (h9 : Flat f τ) : ∀ s, s < 4 → ∀ t, t < 8 → f (70 + 8 * s + t) = nI (τ.st s t) := h9.2.2.2.2.2.2.2.2.2.2.2.2.2.2.1
theorem Flat.rec {f : Nat → Int32} {τ : Tau} (h9 : Flat f τ) : ∀ i, i < 5 → f (102 + i) = nI (τ.lg i).length := h9.2.2.2.2.2.2.2.2.2.2.2.2.2.2.2.1
theorem Flat.log {f : Nat → Int32} {τ : Tau} (h9 : Flat f τ) : ∀ i, i < 5 → ∀ k e, (τ.lg i)[k]? = some e → f (107 + 16 * i + k) = nI (8 * e.1 + e.2) := h9.2.2.2.2.2.2.2.2.2.2.2.2.2.2.2.2.1
theorem Flat.msg {f : Nat → Int32} {τ : Tau} (h9 : Flat f τ) : ∀ k m, τ.row[k]? = some m → f (195 + k) = nI (32 * m.1 + 4 * m.2.1 + m.2.2) := h9.2.2.2.2.2.2.2.2.2.2.2.2.2.2.2.2.2
/-- how long the lists may be -/
def Tau.Sz (τ : Tau) : Prop :=
  (τ.n ≤ 8) ∧
  (τ.row.length ≤ 60) ∧
  (∀ i, i < 4 → (τ.lg i).length ≤ 16) ∧
  ((τ.lg 4).length ≤ 24)
theorem Tau.Sz.of {τ : Tau} (h9 : (τ.n ≤ 8) ∧
  (τ.row.length ≤ 60) ∧
  (∀ i, i < 4 → (τ.lg i).length ≤ 16) ∧
  ((τ.lg 4).length ≤ 24)) : Tau.Sz τ := h9
theorem Tau.Sz.n {τ : Tau} (h9 : Tau.Sz τ) : τ.n ≤ 8 := h9.1
theorem Tau.Sz.row {τ : Tau} (h9 : Tau.Sz τ) : τ.row.length ≤ 60 := h9.2.1
theorem Tau.Sz.lg {τ : Tau} (h9 : Tau.Sz τ) : ∀ i, i < 4 → (τ.lg i).length ≤ 16 := h9.2.2.1
theorem Tau.Sz.lg4 {τ : Tau} (h9 : Tau.Sz τ) : (τ.lg 4).length ≤ 24 := h9.2.2.2
theorem Tau.Sz.rowAt {τ : Tau} (h : τ.Sz) {k : Nat} {m : Nat × Nat × Nat} (hk : τ.row[k]? = some m) : k < 60 := Nat.lt_of_lt_of_le (List.getElem?_eq_some_iff.mp hk).1 h.row
theorem Tau.Sz.lgAt {τ : Tau} (h : τ.Sz) {i k : Nat} (hi : i < 5) {m : Nat × Nat} (hk : (τ.lg i)[k]? = some m) : 16 * i + k < 88 ∧ (i < 4 → k < 16) := by
  have h1 := (List.getElem?_eq_some_iff.mp hk).1
  by_cases h4 : i = 4
  · subst h4
    have := h.lg4
    omega
  · have := h.lg i (by omega)
    omega
theorem up_k {f : Nat → Int32} {k j : Nat} {v : Int32} (h : j = k) : upd f k v j = v := by rw [h, up_s]

section FL
variable {f : Nat → Int32} {τ : Tau} {v : Int32}

theorem Flat.u_sent (h : Flat f τ) (z : τ.Sz) : Flat (upd f 10 v) (τ.w_sent (v)) := by refine Flat.of ⟨?_, ?_, ?_, ?_, ?_, ?_, ?_, ?_, ?_, ?_, ?_, ?_, ?_, ?_, ?_, ?_, ?_, ?_⟩ <;> first | exact up_s | (intro i hi; rw [up_n (by omega)]; exact h.up i hi) | (intro i hi; rw [up_n (by omega)]; exact h.am i hi) | (rw [up_n (by omega)]; exact h.n) | (rw [up_n (by omega)]; exact h.sent) | (rw [up_n (by omega)]; exact h.hand) | (rw [up_n (by omega)]; exact h.lost) | (rw [up_n (by omega)]; exact h.wait) | (intro t ht; rw [up_n (by omega)]; exact h.fr t ht) | (intro t ht; rw [up_n (by omega)]; exact h.to t ht) | (intro t ht; rw [up_n (by omega)]; exact h.sz t ht) | (intro t ht; rw [up_n (by omega)]; exact h.ys t ht) | (intro t ht; rw [up_n (by omega)]; exact h.dn t ht) | (intro t ht; rw [up_n (by omega)]; exact h.ou t ht) | (intro t ht; rw [up_n (by omega)]; exact h.en t ht) | (intro s hs t ht; rw [up_n (by omega)]; exact h.st s hs t ht) | (intro i hi; rw [up_n (by omega)]; exact h.rec i hi) | (intro i hi k e he; rw [up_n (by have := z.lgAt hi he; omega)]; exact h.log i hi k e he) | (intro k m hm; rw [up_n (by have := z.rowAt hm; omega)]; exact h.msg k m hm) | skip
theorem Flat.u_hand (h : Flat f τ) (z : τ.Sz) : Flat (upd f 11 v) (τ.w_hand (v)) := by refine Flat.of ⟨?_, ?_, ?_, ?_, ?_, ?_, ?_, ?_, ?_, ?_, ?_, ?_, ?_, ?_, ?_, ?_, ?_, ?_⟩ <;> first | exact up_s | (intro i hi; rw [up_n (by omega)]; exact h.up i hi) | (intro i hi; rw [up_n (by omega)]; exact h.am i hi) | (rw [up_n (by omega)]; exact h.n) | (rw [up_n (by omega)]; exact h.sent) | (rw [up_n (by omega)]; exact h.hand) | (rw [up_n (by omega)]; exact h.lost) | (rw [up_n (by omega)]; exact h.wait) | (intro t ht; rw [up_n (by omega)]; exact h.fr t ht) | (intro t ht; rw [up_n (by omega)]; exact h.to t ht) | (intro t ht; rw [up_n (by omega)]; exact h.sz t ht) | (intro t ht; rw [up_n (by omega)]; exact h.ys t ht) | (intro t ht; rw [up_n (by omega)]; exact h.dn t ht) | (intro t ht; rw [up_n (by omega)]; exact h.ou t ht) | (intro t ht; rw [up_n (by omega)]; exact h.en t ht) | (intro s hs t ht; rw [up_n (by omega)]; exact h.st s hs t ht) | (intro i hi; rw [up_n (by omega)]; exact h.rec i hi) | (intro i hi k e he; rw [up_n (by have := z.lgAt hi he; omega)]; exact h.log i hi k e he) | (intro k m hm; rw [up_n (by have := z.rowAt hm; omega)]; exact h.msg k m hm) | skip
theorem Flat.u_lost (h : Flat f τ) (z : τ.Sz) : Flat (upd f 12 v) (τ.w_lost (v)) := by refine Flat.of ⟨?_, ?_, ?_, ?_, ?_, ?_, ?_, ?_, ?_, ?_, ?_, ?_, ?_, ?_, ?_, ?_, ?_, ?_⟩ <;> first | exact up_s | (intro i hi; rw [up_n (by omega)]; exact h.up i hi) | (intro i hi; rw [up_n (by omega)]; exact h.am i hi) | (rw [up_n (by omega)]; exact h.n) | (rw [up_n (by omega)]; exact h.sent) | (rw [up_n (by omega)]; exact h.hand) | (rw [up_n (by omega)]; exact h.lost) | (rw [up_n (by omega)]; exact h.wait) | (intro t ht; rw [up_n (by omega)]; exact h.fr t ht) | (intro t ht; rw [up_n (by omega)]; exact h.to t ht) | (intro t ht; rw [up_n (by omega)]; exact h.sz t ht) | (intro t ht; rw [up_n (by omega)]; exact h.ys t ht) | (intro t ht; rw [up_n (by omega)]; exact h.dn t ht) | (intro t ht; rw [up_n (by omega)]; exact h.ou t ht) | (intro t ht; rw [up_n (by omega)]; exact h.en t ht) | (intro s hs t ht; rw [up_n (by omega)]; exact h.st s hs t ht) | (intro i hi; rw [up_n (by omega)]; exact h.rec i hi) | (intro i hi k e he; rw [up_n (by have := z.lgAt hi he; omega)]; exact h.log i hi k e he) | (intro k m hm; rw [up_n (by have := z.rowAt hm; omega)]; exact h.msg k m hm) | skip
theorem Flat.u_n (h : Flat f τ) (z : τ.Sz) {m : Nat} : Flat (upd f 9 (nI m)) (τ.w_n (m)) := by refine Flat.of ⟨?_, ?_, ?_, ?_, ?_, ?_, ?_, ?_, ?_, ?_, ?_, ?_, ?_, ?_, ?_, ?_, ?_, ?_⟩ <;> first | exact up_s | (intro i hi; rw [up_n (by omega)]; exact h.up i hi) | (intro i hi; rw [up_n (by omega)]; exact h.am i hi) | (rw [up_n (by omega)]; exact h.n) | (rw [up_n (by omega)]; exact h.sent) | (rw [up_n (by omega)]; exact h.hand) | (rw [up_n (by omega)]; exact h.lost) | (rw [up_n (by omega)]; exact h.wait) | (intro t ht; rw [up_n (by omega)]; exact h.fr t ht) | (intro t ht; rw [up_n (by omega)]; exact h.to t ht) | (intro t ht; rw [up_n (by omega)]; exact h.sz t ht) | (intro t ht; rw [up_n (by omega)]; exact h.ys t ht) | (intro t ht; rw [up_n (by omega)]; exact h.dn t ht) | (intro t ht; rw [up_n (by omega)]; exact h.ou t ht) | (intro t ht; rw [up_n (by omega)]; exact h.en t ht) | (intro s hs t ht; rw [up_n (by omega)]; exact h.st s hs t ht) | (intro i hi; rw [up_n (by omega)]; exact h.rec i hi) | (intro i hi k e he; rw [up_n (by have := z.lgAt hi he; omega)]; exact h.log i hi k e he) | (intro k m hm; rw [up_n (by have := z.rowAt hm; omega)]; exact h.msg k m hm) | skip
theorem Flat.u_fr (h : Flat f τ) (z : τ.Sz) {t v : Nat} (ht : t < 8) : Flat (upd f (14 + 7 * t + 0) (nI v)) (τ.w_fr (fu τ.fr t v)) := by
  refine Flat.of ⟨?_, ?_, ?_, ?_, ?_, ?_, ?_, ?_, ?_, ?_, ?_, ?_, ?_, ?_, ?_, ?_, ?_, ?_⟩ <;> first | exact up_s | (intro i hi; rw [up_n (by omega)]; exact h.up i hi) | (intro i hi; rw [up_n (by omega)]; exact h.am i hi) | (rw [up_n (by omega)]; exact h.n) | (rw [up_n (by omega)]; exact h.sent) | (rw [up_n (by omega)]; exact h.hand) | (rw [up_n (by omega)]; exact h.lost) | (rw [up_n (by omega)]; exact h.wait) | (intro t ht; rw [up_n (by omega)]; exact h.fr t ht) | (intro t ht; rw [up_n (by omega)]; exact h.to t ht) | (intro t ht; rw [up_n (by omega)]; exact h.sz t ht) | (intro t ht; rw [up_n (by omega)]; exact h.ys t ht) | (intro t ht; rw [up_n (by omega)]; exact h.dn t ht) | (intro t ht; rw [up_n (by omega)]; exact h.ou t ht) | (intro t ht; rw [up_n (by omega)]; exact h.en t ht) | (intro s hs t ht; rw [up_n (by omega)]; exact h.st s hs t ht) | (intro i hi; rw [up_n (by omega)]; exact h.rec i hi) | (intro i hi k e he; rw [up_n (by have := z.lgAt hi he; omega)]; exact h.log i hi k e he) | (intro k m hm; rw [up_n (by have := z.rowAt hm; omega)]; exact h.msg k m hm) | skip
  intro t9 h9
  by_cases e : t9 = t
  · subst e; rw [up_s]; show _ = nI (fu τ.fr t9 v t9); rw [fu_s]
  · rw [up_n (by omega)]; show _ = nI (fu τ.fr t v t9); rw [fu_n e]; exact h.fr t9 h9
theorem Flat.u_to (h : Flat f τ) (z : τ.Sz) {t v : Nat} (ht : t < 8) : Flat (upd f (14 + 7 * t + 1) (nI v)) (τ.w_to (fu τ.to t v)) := by
  refine Flat.of ⟨?_, ?_, ?_, ?_, ?_, ?_, ?_, ?_, ?_, ?_, ?_, ?_, ?_, ?_, ?_, ?_, ?_, ?_⟩ <;> first | exact up_s | (intro i hi; rw [up_n (by omega)]; exact h.up i hi) | (intro i hi; rw [up_n (by omega)]; exact h.am i hi) | (rw [up_n (by omega)]; exact h.n) | (rw [up_n (by omega)]; exact h.sent) | (rw [up_n (by omega)]; exact h.hand) | (rw [up_n (by omega)]; exact h.lost) | (rw [up_n (by omega)]; exact h.wait) | (intro t ht; rw [up_n (by omega)]; exact h.fr t ht) | (intro t ht; rw [up_n (by omega)]; exact h.to t ht) | (intro t ht; rw [up_n (by omega)]; exact h.sz t ht) | (intro t ht; rw [up_n (by omega)]; exact h.ys t ht) | (intro t ht; rw [up_n (by omega)]; exact h.dn t ht) | (intro t ht; rw [up_n (by omega)]; exact h.ou t ht) | (intro t ht; rw [up_n (by omega)]; exact h.en t ht) | (intro s hs t ht; rw [up_n (by omega)]; exact h.st s hs t ht) | (intro i hi; rw [up_n (by omega)]; exact h.rec i hi) | (intro i hi k e he; rw [up_n (by have := z.lgAt hi he; omega)]; exact h.log i hi k e he) | (intro k m hm; rw [up_n (by have := z.rowAt hm; omega)]; exact h.msg k m hm) | skip
  intro t9 h9
  by_cases e : t9 = t
  · subst e; rw [up_s]; show _ = nI (fu τ.to t9 v t9); rw [fu_s]
  · rw [up_n (by omega)]; show _ = nI (fu τ.to t v t9); rw [fu_n e]; exact h.to t9 h9
theorem Flat.u_sz (h : Flat f τ) (z : τ.Sz) {t v : Nat} (ht : t < 8) : Flat (upd f (14 + 7 * t + 2) (nI v)) (τ.w_sz (fu τ.sz t v)) := by
  refine Flat.of ⟨?_, ?_, ?_, ?_, ?_, ?_, ?_, ?_, ?_, ?_, ?_, ?_, ?_, ?_, ?_, ?_, ?_, ?_⟩ <;> first | exact up_s | (intro i hi; rw [up_n (by omega)]; exact h.up i hi) | (intro i hi; rw [up_n (by omega)]; exact h.am i hi) | (rw [up_n (by omega)]; exact h.n) | (rw [up_n (by omega)]; exact h.sent) | (rw [up_n (by omega)]; exact h.hand) | (rw [up_n (by omega)]; exact h.lost) | (rw [up_n (by omega)]; exact h.wait) | (intro t ht; rw [up_n (by omega)]; exact h.fr t ht) | (intro t ht; rw [up_n (by omega)]; exact h.to t ht) | (intro t ht; rw [up_n (by omega)]; exact h.sz t ht) | (intro t ht; rw [up_n (by omega)]; exact h.ys t ht) | (intro t ht; rw [up_n (by omega)]; exact h.dn t ht) | (intro t ht; rw [up_n (by omega)]; exact h.ou t ht) | (intro t ht; rw [up_n (by omega)]; exact h.en t ht) | (intro s hs t ht; rw [up_n (by omega)]; exact h.st s hs t ht) | (intro i hi; rw [up_n (by omega)]; exact h.rec i hi) | (intro i hi k e he; rw [up_n (by have := z.lgAt hi he; omega)]; exact h.log i hi k e he) | (intro k m hm; rw [up_n (by have := z.rowAt hm; omega)]; exact h.msg k m hm) | skip
  intro t9 h9
  by_cases e : t9 = t
  · subst e; rw [up_s]; show _ = nI (fu τ.sz t9 v t9); rw [fu_s]
  · rw [up_n (by omega)]; show _ = nI (fu τ.sz t v t9); rw [fu_n e]; exact h.sz t9 h9
theorem Flat.u_ys (h : Flat f τ) (z : τ.Sz) {t v : Nat} (ht : t < 8) : Flat (upd f (14 + 7 * t + 3) (nI v)) (τ.w_ys (fu τ.ys t v)) := by
  refine Flat.of ⟨?_, ?_, ?_, ?_, ?_, ?_, ?_, ?_, ?_, ?_, ?_, ?_, ?_, ?_, ?_, ?_, ?_, ?_⟩ <;> first | exact up_s | (intro i hi; rw [up_n (by omega)]; exact h.up i hi) | (intro i hi; rw [up_n (by omega)]; exact h.am i hi) | (rw [up_n (by omega)]; exact h.n) | (rw [up_n (by omega)]; exact h.sent) | (rw [up_n (by omega)]; exact h.hand) | (rw [up_n (by omega)]; exact h.lost) | (rw [up_n (by omega)]; exact h.wait) | (intro t ht; rw [up_n (by omega)]; exact h.fr t ht) | (intro t ht; rw [up_n (by omega)]; exact h.to t ht) | (intro t ht; rw [up_n (by omega)]; exact h.sz t ht) | (intro t ht; rw [up_n (by omega)]; exact h.ys t ht) | (intro t ht; rw [up_n (by omega)]; exact h.dn t ht) | (intro t ht; rw [up_n (by omega)]; exact h.ou t ht) | (intro t ht; rw [up_n (by omega)]; exact h.en t ht) | (intro s hs t ht; rw [up_n (by omega)]; exact h.st s hs t ht) | (intro i hi; rw [up_n (by omega)]; exact h.rec i hi) | (intro i hi k e he; rw [up_n (by have := z.lgAt hi he; omega)]; exact h.log i hi k e he) | (intro k m hm; rw [up_n (by have := z.rowAt hm; omega)]; exact h.msg k m hm) | skip
  intro t9 h9
  by_cases e : t9 = t
  · subst e; rw [up_s]; show _ = nI (fu τ.ys t9 v t9); rw [fu_s]
  · rw [up_n (by omega)]; show _ = nI (fu τ.ys t v t9); rw [fu_n e]; exact h.ys t9 h9
theorem Flat.u_dn (h : Flat f τ) (z : τ.Sz) {t v : Nat} (ht : t < 8) : Flat (upd f (14 + 7 * t + 4) (nI v)) (τ.w_dn (fu τ.dn t v)) := by
  refine Flat.of ⟨?_, ?_, ?_, ?_, ?_, ?_, ?_, ?_, ?_, ?_, ?_, ?_, ?_, ?_, ?_, ?_, ?_, ?_⟩ <;> first | exact up_s | (intro i hi; rw [up_n (by omega)]; exact h.up i hi) | (intro i hi; rw [up_n (by omega)]; exact h.am i hi) | (rw [up_n (by omega)]; exact h.n) | (rw [up_n (by omega)]; exact h.sent) | (rw [up_n (by omega)]; exact h.hand) | (rw [up_n (by omega)]; exact h.lost) | (rw [up_n (by omega)]; exact h.wait) | (intro t ht; rw [up_n (by omega)]; exact h.fr t ht) | (intro t ht; rw [up_n (by omega)]; exact h.to t ht) | (intro t ht; rw [up_n (by omega)]; exact h.sz t ht) | (intro t ht; rw [up_n (by omega)]; exact h.ys t ht) | (intro t ht; rw [up_n (by omega)]; exact h.dn t ht) | (intro t ht; rw [up_n (by omega)]; exact h.ou t ht) | (intro t ht; rw [up_n (by omega)]; exact h.en t ht) | (intro s hs t ht; rw [up_n (by omega)]; exact h.st s hs t ht) | (intro i hi; rw [up_n (by omega)]; exact h.rec i hi) | (intro i hi k e he; rw [up_n (by have := z.lgAt hi he; omega)]; exact h.log i hi k e he) | (intro k m hm; rw [up_n (by have := z.rowAt hm; omega)]; exact h.msg k m hm) | skip
  intro t9 h9
  by_cases e : t9 = t
  · subst e; rw [up_s]; show _ = nI (fu τ.dn t9 v t9); rw [fu_s]
  · rw [up_n (by omega)]; show _ = nI (fu τ.dn t v t9); rw [fu_n e]; exact h.dn t9 h9
theorem Flat.u_ou (h : Flat f τ) (z : τ.Sz) {t v : Nat} (ht : t < 8) : Flat (upd f (14 + 7 * t + 5) (nI v)) (τ.w_ou (fu τ.ou t v)) := by
  refine Flat.of ⟨?_, ?_, ?_, ?_, ?_, ?_, ?_, ?_, ?_, ?_, ?_, ?_, ?_, ?_, ?_, ?_, ?_, ?_⟩ <;> first | exact up_s | (intro i hi; rw [up_n (by omega)]; exact h.up i hi) | (intro i hi; rw [up_n (by omega)]; exact h.am i hi) | (rw [up_n (by omega)]; exact h.n) | (rw [up_n (by omega)]; exact h.sent) | (rw [up_n (by omega)]; exact h.hand) | (rw [up_n (by omega)]; exact h.lost) | (rw [up_n (by omega)]; exact h.wait) | (intro t ht; rw [up_n (by omega)]; exact h.fr t ht) | (intro t ht; rw [up_n (by omega)]; exact h.to t ht) | (intro t ht; rw [up_n (by omega)]; exact h.sz t ht) | (intro t ht; rw [up_n (by omega)]; exact h.ys t ht) | (intro t ht; rw [up_n (by omega)]; exact h.dn t ht) | (intro t ht; rw [up_n (by omega)]; exact h.ou t ht) | (intro t ht; rw [up_n (by omega)]; exact h.en t ht) | (intro s hs t ht; rw [up_n (by omega)]; exact h.st s hs t ht) | (intro i hi; rw [up_n (by omega)]; exact h.rec i hi) | (intro i hi k e he; rw [up_n (by have := z.lgAt hi he; omega)]; exact h.log i hi k e he) | (intro k m hm; rw [up_n (by have := z.rowAt hm; omega)]; exact h.msg k m hm) | skip
  intro t9 h9
  by_cases e : t9 = t
  · subst e; rw [up_s]; show _ = nI (fu τ.ou t9 v t9); rw [fu_s]
  · rw [up_n (by omega)]; show _ = nI (fu τ.ou t v t9); rw [fu_n e]; exact h.ou t9 h9
theorem Flat.u_en (h : Flat f τ) (z : τ.Sz) {t v : Nat} (ht : t < 8) : Flat (upd f (14 + 7 * t + 6) (nI v)) (τ.w_en (fu τ.en t v)) := by
  refine Flat.of ⟨?_, ?_, ?_, ?_, ?_, ?_, ?_, ?_, ?_, ?_, ?_, ?_, ?_, ?_, ?_, ?_, ?_, ?_⟩ <;> first | exact up_s | (intro i hi; rw [up_n (by omega)]; exact h.up i hi) | (intro i hi; rw [up_n (by omega)]; exact h.am i hi) | (rw [up_n (by omega)]; exact h.n) | (rw [up_n (by omega)]; exact h.sent) | (rw [up_n (by omega)]; exact h.hand) | (rw [up_n (by omega)]; exact h.lost) | (rw [up_n (by omega)]; exact h.wait) | (intro t ht; rw [up_n (by omega)]; exact h.fr t ht) | (intro t ht; rw [up_n (by omega)]; exact h.to t ht) | (intro t ht; rw [up_n (by omega)]; exact h.sz t ht) | (intro t ht; rw [up_n (by omega)]; exact h.ys t ht) | (intro t ht; rw [up_n (by omega)]; exact h.dn t ht) | (intro t ht; rw [up_n (by omega)]; exact h.ou t ht) | (intro t ht; rw [up_n (by omega)]; exact h.en t ht) | (intro s hs t ht; rw [up_n (by omega)]; exact h.st s hs t ht) | (intro i hi; rw [up_n (by omega)]; exact h.rec i hi) | (intro i hi k e he; rw [up_n (by have := z.lgAt hi he; omega)]; exact h.log i hi k e he) | (intro k m hm; rw [up_n (by have := z.rowAt hm; omega)]; exact h.msg k m hm) | skip
  intro t9 h9
  by_cases e : t9 = t
  · subst e; rw [up_s]; show _ = nI (fu τ.en t9 v t9); rw [fu_s]
  · rw [up_n (by omega)]; show _ = nI (fu τ.en t v t9); rw [fu_n e]; exact h.en t9 h9
theorem Flat.u_st (h : Flat f τ) (z : τ.Sz) {s t v : Nat} (hs : s < 4) (ht : t < 8) : Flat (upd f (70 + 8 * s + t) (nI v)) (τ.setSt s t v) := by
  unfold Tau.setSt
  refine Flat.of ⟨?_, ?_, ?_, ?_, ?_, ?_, ?_, ?_, ?_, ?_, ?_, ?_, ?_, ?_, ?_, ?_, ?_, ?_⟩ <;> first | exact up_s | (intro i hi; rw [up_n (by omega)]; exact h.up i hi) | (intro i hi; rw [up_n (by omega)]; exact h.am i hi) | (rw [up_n (by omega)]; exact h.n) | (rw [up_n (by omega)]; exact h.sent) | (rw [up_n (by omega)]; exact h.hand) | (rw [up_n (by omega)]; exact h.lost) | (rw [up_n (by omega)]; exact h.wait) | (intro t ht; rw [up_n (by omega)]; exact h.fr t ht) | (intro t ht; rw [up_n (by omega)]; exact h.to t ht) | (intro t ht; rw [up_n (by omega)]; exact h.sz t ht) | (intro t ht; rw [up_n (by omega)]; exact h.ys t ht) | (intro t ht; rw [up_n (by omega)]; exact h.dn t ht) | (intro t ht; rw [up_n (by omega)]; exact h.ou t ht) | (intro t ht; rw [up_n (by omega)]; exact h.en t ht) | (intro s hs t ht; rw [up_n (by omega)]; exact h.st s hs t ht) | (intro i hi; rw [up_n (by omega)]; exact h.rec i hi) | (intro i hi k e he; rw [up_n (by have := z.lgAt hi he; omega)]; exact h.log i hi k e he) | (intro k m hm; rw [up_n (by have := z.rowAt hm; omega)]; exact h.msg k m hm) | skip
  intro s9 h8 t9 h9
  show _ = nI (fu τ.st s (fu (τ.st s) t v) s9 t9)
  by_cases e : s9 = s
  · subst e
    rw [fu_s]
    by_cases e2 : t9 = t
    · subst e2; rw [up_s, fu_s]
    · rw [up_n (by omega), fu_n e2]; exact h.st s9 h8 t9 h9
  · rw [up_n (by omega), fu_n e]; exact h.st s9 h8 t9 h9
theorem Flat.u_up (h : Flat f τ) (z : τ.Sz) {i v : Nat} (hi : i < 5) : Flat (upd f i (nI v)) (τ.w_up (fu τ.up i v)) := by
  refine Flat.of ⟨?_, ?_, ?_, ?_, ?_, ?_, ?_, ?_, ?_, ?_, ?_, ?_, ?_, ?_, ?_, ?_, ?_, ?_⟩ <;> first | exact up_s | (intro i hi; rw [up_n (by omega)]; exact h.up i hi) | (intro i hi; rw [up_n (by omega)]; exact h.am i hi) | (rw [up_n (by omega)]; exact h.n) | (rw [up_n (by omega)]; exact h.sent) | (rw [up_n (by omega)]; exact h.hand) | (rw [up_n (by omega)]; exact h.lost) | (rw [up_n (by omega)]; exact h.wait) | (intro t ht; rw [up_n (by omega)]; exact h.fr t ht) | (intro t ht; rw [up_n (by omega)]; exact h.to t ht) | (intro t ht; rw [up_n (by omega)]; exact h.sz t ht) | (intro t ht; rw [up_n (by omega)]; exact h.ys t ht) | (intro t ht; rw [up_n (by omega)]; exact h.dn t ht) | (intro t ht; rw [up_n (by omega)]; exact h.ou t ht) | (intro t ht; rw [up_n (by omega)]; exact h.en t ht) | (intro s hs t ht; rw [up_n (by omega)]; exact h.st s hs t ht) | (intro i hi; rw [up_n (by omega)]; exact h.rec i hi) | (intro i hi k e he; rw [up_n (by have := z.lgAt hi he; omega)]; exact h.log i hi k e he) | (intro k m hm; rw [up_n (by have := z.rowAt hm; omega)]; exact h.msg k m hm) | skip
  intro i9 h9
  show _ = nI (fu τ.up i v i9)
  by_cases e : i9 = i
  · subst e; rw [fu_s, up_k (by omega)]
  · rw [up_n (by omega), fu_n e]; exact h.up i9 h9
theorem Flat.u_am (h : Flat f τ) (z : τ.Sz) {i : Nat} (hi : i < 4) : Flat (upd f (5 + i) v) (τ.w_am (fu τ.am i v)) := by
  refine Flat.of ⟨?_, ?_, ?_, ?_, ?_, ?_, ?_, ?_, ?_, ?_, ?_, ?_, ?_, ?_, ?_, ?_, ?_, ?_⟩ <;> first | exact up_s | (intro i hi; rw [up_n (by omega)]; exact h.up i hi) | (intro i hi; rw [up_n (by omega)]; exact h.am i hi) | (rw [up_n (by omega)]; exact h.n) | (rw [up_n (by omega)]; exact h.sent) | (rw [up_n (by omega)]; exact h.hand) | (rw [up_n (by omega)]; exact h.lost) | (rw [up_n (by omega)]; exact h.wait) | (intro t ht; rw [up_n (by omega)]; exact h.fr t ht) | (intro t ht; rw [up_n (by omega)]; exact h.to t ht) | (intro t ht; rw [up_n (by omega)]; exact h.sz t ht) | (intro t ht; rw [up_n (by omega)]; exact h.ys t ht) | (intro t ht; rw [up_n (by omega)]; exact h.dn t ht) | (intro t ht; rw [up_n (by omega)]; exact h.ou t ht) | (intro t ht; rw [up_n (by omega)]; exact h.en t ht) | (intro s hs t ht; rw [up_n (by omega)]; exact h.st s hs t ht) | (intro i hi; rw [up_n (by omega)]; exact h.rec i hi) | (intro i hi k e he; rw [up_n (by have := z.lgAt hi he; omega)]; exact h.log i hi k e he) | (intro k m hm; rw [up_n (by have := z.rowAt hm; omega)]; exact h.msg k m hm) | skip
  intro i9 h9
  show _ = fu τ.am i v i9
  by_cases e : i9 = i
  · subst e; rw [fu_s, up_k (by omega)]
  · rw [up_n (by omega), fu_n e]; exact h.am i9 h9
/-- two writes make a record -/
theorem Flat.write (h : Flat f τ) (z : τ.Sz) {i k t : Nat} (hi : i < 5) (hl : (τ.lg i).length < (if i = 4 then 24 else 16)) : Flat (upd (upd f (107 + 16 * i + (τ.lg i).length) (nI (8 * k + t))) (102 + i) (nI ((τ.lg i).length + 1))) (τ.write i k t) := by
  have hl2 : 16 * i + (τ.lg i).length < 88 ∧ (i < 4 → (τ.lg i).length < 16) := by split at hl <;> omega
  have h1 : ∀ j : Nat, (j < 102 ∨ 195 ≤ j) → upd (upd f (107 + 16 * i + (τ.lg i).length) (nI (8 * k + t))) (102 + i) (nI ((τ.lg i).length + 1)) j = f j := fun j hj => by rw [up_n (by omega), up_n (by omega)]
  refine Flat.of ⟨fun a ha => ?_, fun a ha => ?_, ?_, ?_, ?_, ?_, ?_, fun a ha => ?_, fun a ha => ?_, fun a ha => ?_, fun a ha => ?_, fun a ha => ?_, fun a ha => ?_, fun a ha => ?_, fun a ha b hb => ?_, fun a ha => ?_, fun a ha j e he => ?_, fun j m hm => ?_⟩
  · rw [h1 _ (by omega)]; exact h.up a ha
  · rw [h1 _ (by omega)]; exact h.am a ha
  · rw [h1 _ (by omega)]; exact h.n
  · rw [h1 _ (by omega)]; exact h.sent
  · rw [h1 _ (by omega)]; exact h.hand
  · rw [h1 _ (by omega)]; exact h.lost
  · rw [h1 _ (by omega)]; exact h.wait
  · rw [h1 _ (by omega)]; exact h.fr a ha
  · rw [h1 _ (by omega)]; exact h.to a ha
  · rw [h1 _ (by omega)]; exact h.sz a ha
  · rw [h1 _ (by omega)]; exact h.ys a ha
  · rw [h1 _ (by omega)]; exact h.dn a ha
  · rw [h1 _ (by omega)]; exact h.ou a ha
  · rw [h1 _ (by omega)]; exact h.en a ha
  · rw [h1 _ (by omega)]; exact h.st a ha b hb
  · show _ = nI (fu τ.lg i (τ.lg i ++ [(k, t)]) a).length
    by_cases e : a = i
    · subst e; rw [fu_s, up_s]; simp
    · rw [fu_n e, up_n (by omega), up_n (by omega)]; exact h.rec a ha
  · have he2 : (fu τ.lg i (τ.lg i ++ [(k, t)]) a)[j]? = some e := he
    by_cases e9 : a = i
    · subst e9
      rw [fu_s] at he2
      by_cases hj : j < (τ.lg a).length
      · rw [List.getElem?_append_left hj] at he2
        have := z.lgAt ha he2
        rw [up_n (by omega), up_n (by omega)]
        exact h.log a ha j e he2
      · have hj2 : j = (τ.lg a).length := by
          have := (List.getElem?_eq_some_iff.mp he2).1
          simp at this
          omega
        subst hj2
        simp at he2
        subst he2
        rw [up_n (by omega), up_s]
    · rw [fu_n e9] at he2
      have := z.lgAt ha he2
      rw [up_n (by omega), up_n (by omega)]
      exact h.log a ha j e he2
  · have := z.rowAt hm
    rw [h1 _ (by omega)]
    exact h.msg j m hm
/-- two writes make a message -/
theorem Flat.push (h : Flat f τ) (z : τ.Sz) {k t s : Nat} (hl : τ.row.length < 60) : Flat (upd (upd f (195 + τ.row.length) (nI (32 * k + 4 * t + s))) 13 (nI (τ.row.length + 1))) (τ.w_row (τ.row ++ [(k, t, s)])) := by
  have h1 : ∀ j : Nat, j < 195 → j ≠ 13 → upd (upd f (195 + τ.row.length) (nI (32 * k + 4 * t + s))) 13 (nI (τ.row.length + 1)) j = f j := fun j hj h2 => by rw [up_n (by omega), up_n (by omega)]
  refine Flat.of ⟨fun a ha => ?_, fun a ha => ?_, ?_, ?_, ?_, ?_, ?_, fun a ha => ?_, fun a ha => ?_, fun a ha => ?_, fun a ha => ?_, fun a ha => ?_, fun a ha => ?_, fun a ha => ?_, fun a ha b hb => ?_, fun a ha => ?_, fun a ha j e he => ?_, fun j m hm => ?_⟩
  · rw [h1 _ (by omega) (by omega)]; exact h.up a ha
  · rw [h1 _ (by omega) (by omega)]; exact h.am a ha
  · rw [h1 _ (by omega) (by omega)]; exact h.n
  · rw [h1 _ (by omega) (by omega)]; exact h.sent
  · rw [h1 _ (by omega) (by omega)]; exact h.hand
  · rw [h1 _ (by omega) (by omega)]; exact h.lost
  · rw [up_s]; show nI (τ.row.length + 1) = nI (τ.row ++ [(k, t, s)]).length; rw [List.length_append]; rfl
  · rw [h1 _ (by omega) (by omega)]; exact h.fr a ha
  · rw [h1 _ (by omega) (by omega)]; exact h.to a ha
  · rw [h1 _ (by omega) (by omega)]; exact h.sz a ha
  · rw [h1 _ (by omega) (by omega)]; exact h.ys a ha
  · rw [h1 _ (by omega) (by omega)]; exact h.dn a ha
  · rw [h1 _ (by omega) (by omega)]; exact h.ou a ha
  · rw [h1 _ (by omega) (by omega)]; exact h.en a ha
  · rw [h1 _ (by omega) (by omega)]; exact h.st a ha b hb
  · rw [h1 _ (by omega) (by omega)]; exact h.rec a ha
  · have := z.lgAt ha he
    rw [h1 _ (by omega) (by omega)]
    exact h.log a ha j e he
  · have hm2 : (τ.row ++ [(k, t, s)])[j]? = some m := hm
    by_cases hj : j < τ.row.length
    · rw [List.getElem?_append_left hj] at hm2
      rw [up_n (by omega), up_n (by omega)]
      exact h.msg j m hm2
    · have hj2 : j = τ.row.length := by
        have := (List.getElem?_eq_some_iff.mp hm2).1
        simp at this
        omega
      subst hj2
      simp at hm2
      subst hm2
      rw [up_n (by omega), up_s]
/-- a message is taken out: any row of numbers that has the later ones one place ahead -/
theorem Flat.take (h : Flat f τ) (z : τ.Sz) {p : Nat} (hp : p < τ.row.length) {g : Nat → Int32} (h0 : ∀ j : Nat, j < 195 → j ≠ 13 → g j = f j) (h13 : g 13 = nI (τ.row.length - 1)) (hlo : ∀ j : Nat, j < p → g (195 + j) = f (195 + j)) (hhi : ∀ j : Nat, p ≤ j → j + 1 < τ.row.length → g (195 + j) = f (195 + j + 1)) : Flat g (τ.take p) := by
  refine Flat.of ⟨fun a ha => ?_, fun a ha => ?_, ?_, ?_, ?_, ?_, ?_, fun a ha => ?_, fun a ha => ?_, fun a ha => ?_, fun a ha => ?_, fun a ha => ?_, fun a ha => ?_, fun a ha => ?_, fun a ha b hb => ?_, fun a ha => ?_, fun a ha j e he => ?_, fun j m hm => ?_⟩
  · rw [h0 _ (by omega) (by omega)]; exact h.up a ha
  · rw [h0 _ (by omega) (by omega)]; exact h.am a ha
  · rw [h0 _ (by omega) (by omega)]; exact h.n
  · rw [h0 _ (by omega) (by omega)]; exact h.sent
  · rw [h0 _ (by omega) (by omega)]; exact h.hand
  · rw [h0 _ (by omega) (by omega)]; exact h.lost
  · rw [h13]; show _ = nI (τ.row.eraseIdx p).length; rw [List.length_eraseIdx_of_lt hp]
  · rw [h0 _ (by omega) (by omega)]; exact h.fr a ha
  · rw [h0 _ (by omega) (by omega)]; exact h.to a ha
  · rw [h0 _ (by omega) (by omega)]; exact h.sz a ha
  · rw [h0 _ (by omega) (by omega)]; exact h.ys a ha
  · rw [h0 _ (by omega) (by omega)]; exact h.dn a ha
  · rw [h0 _ (by omega) (by omega)]; exact h.ou a ha
  · rw [h0 _ (by omega) (by omega)]; exact h.en a ha
  · rw [h0 _ (by omega) (by omega)]; exact h.st a ha b hb
  · rw [h0 _ (by omega) (by omega)]; exact h.rec a ha
  · have := z.lgAt ha he
    rw [h0 _ (by omega) (by omega)]
    exact h.log a ha j e he
  · have hm2 : (τ.row.eraseIdx p)[j]? = some m := hm
    have hlen := (List.getElem?_eq_some_iff.mp hm2).1
    rw [List.length_eraseIdx_of_lt hp] at hlen
    rw [List.getElem?_eraseIdx] at hm2
    by_cases hj : j < p
    · rw [if_pos hj] at hm2
      rw [hlo j hj]
      exact h.msg j m hm2
    · rw [if_neg hj] at hm2
      rw [hhi j (by omega) (by omega)]
      exact h.msg (j + 1) m hm2
/-- a row that is the same on its 256 places -/
theorem Flat.same (h : Flat f τ) (z : τ.Sz) {g : Nat → Int32} (e : ∀ k, k < 256 → g k = f k) : Flat g τ := by
  have hn := z.n
  refine Flat.of ⟨fun a ha => ?_, fun a ha => ?_, ?_, ?_, ?_, ?_, ?_, fun a ha => ?_, fun a ha => ?_, fun a ha => ?_, fun a ha => ?_, fun a ha => ?_, fun a ha => ?_, fun a ha => ?_, fun a ha b hb => ?_, fun a ha => ?_, fun a ha j x he => ?_, fun j m hm => ?_⟩
  · rw [e _ (by omega)]; exact h.up a ha
  · rw [e _ (by omega)]; exact h.am a ha
  · rw [e _ (by omega)]; exact h.n
  · rw [e _ (by omega)]; exact h.sent
  · rw [e _ (by omega)]; exact h.hand
  · rw [e _ (by omega)]; exact h.lost
  · rw [e _ (by omega)]; exact h.wait
  · rw [e _ (by omega)]; exact h.fr a ha
  · rw [e _ (by omega)]; exact h.to a ha
  · rw [e _ (by omega)]; exact h.sz a ha
  · rw [e _ (by omega)]; exact h.ys a ha
  · rw [e _ (by omega)]; exact h.dn a ha
  · rw [e _ (by omega)]; exact h.ou a ha
  · rw [e _ (by omega)]; exact h.en a ha
  · rw [e _ (by omega)]; exact h.st a ha b hb
  · rw [e _ (by omega)]; exact h.rec a ha
  · have := z.lgAt ha he
    rw [e _ (by omega)]
    exact h.log a ha j x he
  · have := z.rowAt hm
    rw [e _ (by omega)]
    exact h.msg j m hm
end FL
