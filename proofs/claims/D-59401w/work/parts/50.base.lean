/-! THE PURE PART (no program in sight): numbers, the town as numbers and lists, its picture as the model's row of numbers -/
theorem n_and (a b : Nat) : nI a &&& nI b = nI (a &&& b) := by
  apply Int32.toBitVec_inj.1
  show BitVec.ofNat 32 a &&& BitVec.ofNat 32 b = BitVec.ofNat 32 (a &&& b)
  apply BitVec.eq_of_getLsbD_eq
  intro i hi
  simp [hi]
theorem n_or (a b : Nat) : nI a ||| nI b = nI (a ||| b) := by
  apply Int32.toBitVec_inj.1
  show BitVec.ofNat 32 a ||| BitVec.ofNat 32 b = BitVec.ofNat 32 (a ||| b)
  apply BitVec.eq_of_getLsbD_eq
  intro i hi
  simp [hi]
/-- one value of a function is another -/
def fu {α : Type} (f : Nat → α) (k : Nat) (v : α) : Nat → α := fun j => if j = k then v else f j
theorem fu_s {α : Type} {f : Nat → α} {k : Nat} {v : α} : fu f k v k = v := by simp [fu]
theorem fu_n {α : Type} {f : Nat → α} {k j : Nat} {v : α} (h : j ≠ k) : fu f k v j = f j := by simp [fu, h]
theorem up_s {f : Nat → Int32} {k : Nat} {v : Int32} : upd f k v k = v := by simp [upd]
theorem up_n {f : Nat → Int32} {k j : Nat} {v : Int32} (h : j ≠ k) : upd f k v j = f j := by simp [upd, h]
/-- bits of small numbers -/
def bit (m i : Nat) : Nat := m / 2 ^ i % 2
def pop4 (m : Nat) : Nat := bit m 0 + bit m 1 + bit m 2 + bit m 3
theorem n_bit : ∀ m, m < 32 → ∀ i, i < 5 → (nI m >>> (nI i &&& 31)) &&& nI 1 = nI (bit m i) := by decide +kernel
theorem n_one : ∀ i, i < 5 → nI 1 <<< (nI i &&& 31) = nI (2 ^ i) := by decide +kernel
theorem bit_le (m i : Nat) : bit m i ≤ 1 := by unfold bit; omega
def orbit (m i : Nat) : Nat := m ||| 2 ^ i
theorem orbit_lt : ∀ m, m < 16 → ∀ i, i < 4 → orbit m i < 16 := by decide +kernel
theorem orbit_bit : ∀ m, m < 16 → ∀ i, i < 4 → ∀ j, j < 4 → bit (orbit m i) j = if j = i then 1 else bit m j := by decide +kernel
/-! branches on small numbers -/
theorem b_eq {a b : Nat} {A B : Prop} (ha : a < 2 ^ 31) (hb : b < 2 ^ 31) (f : a = b → A) (g : a ≠ b → B) : (nI a = nI b → A) ∧ (¬ nI a = nI b → B) := ⟨fun c => f ((nI_eq ha hb).mp c), fun c => g (fun e => c (by rw [e]))⟩
theorem b_ne {a b : Nat} {A B : Prop} (ha : a < 2 ^ 31) (hb : b < 2 ^ 31) (g : a ≠ b → B) (f : a = b → A) : (¬ nI a = nI b → B) ∧ (nI a = nI b → A) := ⟨fun c => g (fun e => c (by rw [e])), fun c => f ((nI_eq ha hb).mp c)⟩
theorem b_z {a : Nat} {A B : Prop} (ha : a < 2 ^ 31) (f : a = 0 → A) (g : a ≠ 0 → B) : (nI a = 0 → A) ∧ (¬ nI a = 0 → B) := b_eq ha (b := 0) (by decide) f g
theorem b_nz {a : Nat} {A B : Prop} (ha : a < 2 ^ 31) (g : a ≠ 0 → B) (f : a = 0 → A) : (¬ nI a = 0 → B) ∧ (nI a = 0 → A) := b_ne ha (b := 0) (by decide) g f
theorem b_le {a b : Nat} {A B : Prop} (ha : a < 2 ^ 31) (hb : b < 2 ^ 31) (f : a ≤ b → A) (g : b < a → B) : (nI a ≤ nI b → A) ∧ (¬ nI a ≤ nI b → B) := ⟨fun c => f ((nI_leI ha hb).mp c), fun c => g (Nat.lt_of_not_le fun e => c ((nI_leI ha hb).mpr e))⟩
theorem b_lt {a b : Nat} {A B : Prop} (ha : a < 2 ^ 31) (hb : b < 2 ^ 31) (f : a < b → A) (g : b ≤ a → B) : (nI a < nI b → A) ∧ (¬ nI a < nI b → B) := ⟨fun c => f ((nI_ltI ha hb).mp c), fun c => g (Nat.le_of_not_lt fun e => c ((nI_ltI ha hb).mpr e))⟩
theorem b_lez {a : Nat} {A B : Prop} (ha : a < 2 ^ 31) (f : a = 0 → A) (g : 0 < a → B) : (nI a ≤ 0 → A) ∧ (¬ nI a ≤ 0 → B) := b_le ha (b := 0) (by decide) (fun c => f (Nat.le_zero.mp c)) g
theorem b_zlt {a : Nat} {A B : Prop} (ha : a < 2 ^ 31) (f : 0 < a → A) (g : a = 0 → B) : (0 < nI a → A) ∧ (¬ 0 < nI a → B) := b_lt (a := 0) (by decide) ha f (fun c => g (Nat.le_zero.mp c))
theorem b_zle {a : Nat} {A B : Prop} (ha : a < 2 ^ 31) (f : A) : (0 ≤ nI a → A) ∧ (¬ 0 ≤ nI a → B) := ⟨fun _ => f, fun c => absurd (nI_pos' ha) c⟩
theorem b_ltz {a : Nat} {A B : Prop} (ha : a < 2 ^ 31) (g : B) : (nI a < 0 → A) ∧ (¬ nI a < 0 → B) := ⟨fun c => absurd c (nI_pos ha), fun _ => g⟩
theorem n1z : ¬ nI 1 = 0 := by decide +kernel
/-- a yes or no as a number -/
abbrev nB (P : Prop) [Decidable P] : Int32 := nI (if P then 1 else 0)
theorem nB_t {P : Prop} [Decidable P] (h : P) : nB P = nI 1 := by show nI (if P then 1 else 0) = nI 1; rw [if_pos h]
theorem nB_f {P : Prop} [Decidable P] (h : ¬ P) : nB P = nI 0 := by show nI (if P then 1 else 0) = nI 0; rw [if_neg h]
theorem b_B {P : Prop} [Decidable P] {A B : Prop} (f : ¬ P → A) (g : P → B) : (nB P = 0 → A) ∧ (¬ nB P = 0 → B) := by
  by_cases h : P
  · rw [nB_t h]; exact ⟨fun c => absurd c n1z, fun _ => g h⟩
  · rw [nB_f h]; exact ⟨fun _ => f h, fun c => absurd nI_0 c⟩
theorem b_nB {P : Prop} [Decidable P] {A B : Prop} (g : P → B) (f : ¬ P → A) : (¬ nB P = 0 → B) ∧ (nB P = 0 → A) := ⟨(b_B f g).2, (b_B f g).1⟩
theorem nb_B {P : Prop} [Decidable P] : narrow .boolean (.int (nB P)) = .int (nB P) := by
  by_cases h : P
  · rw [nB_t h]; decide +kernel
  · rw [nB_f h]; decide +kernel
/-- a number of the script as a natural one -/
def iN (x : Int32) : Nat := x.toInt.toNat
theorem iN_nI {a : Nat} (h : a < 2 ^ 31) : iN (nI a) = a := by unfold iN; rw [nI_toInt h]; rfl
theorem iN_of {x : Int32} (h : ¬ x < 0) : x = nI (iN x) ∧ iN x < 2 ^ 31 := by
  obtain ⟨j, h1, rfl⟩ := nI_of h
  rw [iN_nI h1]
  exact ⟨rfl, h1⟩
/-- is it one of the first n numbers? -/
abbrev iIn (x : Int32) (n : Nat) : Prop := ¬ x < 0 ∧ iN x < n
theorem iIn_lt {x : Int32} {n : Nat} (hn : n < 2 ^ 31) (h : ¬ x < 0) : x < nI n ↔ iN x < n := by
  obtain ⟨h1, h2⟩ := iN_of h
  conv => lhs; rw [h1]
  exact nI_ltI h2 hn
theorem iIn_nI {a n : Nat} (h : a < 2 ^ 31) : iIn (nI a) n ↔ a < n := by
  unfold iIn
  rw [iN_nI h]
  exact ⟨fun q => q.2, fun q => ⟨nI_pos h, q⟩⟩
/-! the codes of messages and records -/
theorem m_k {k t s : Nat} (hk : k < 7) (ht : t < 8) (hs : s < 4) : nI (32 * k + 4 * t + s) / nI 32 = nI k := by
  rw [pk_div (by omega) (by decide) (by decide)]
  exact congrArg nI (by omega)
theorem m_t {k t s : Nat} (hk : k < 7) (ht : t < 8) (hs : s < 4) : nI (32 * k + 4 * t + s) / nI 4 - nI (32 * k + 4 * t + s) / nI 4 / nI 8 * nI 8 = nI t := by
  rw [pk_div (by omega) (by decide) (by decide), pk_rem (by omega) (by decide) (by decide)]
  exact congrArg nI (by omega)
theorem m_s {k t s : Nat} (hk : k < 7) (ht : t < 8) (hs : s < 4) : nI (32 * k + 4 * t + s) - nI (32 * k + 4 * t + s) / nI 4 * nI 4 = nI s := by
  rw [pk_rem (by omega) (by decide) (by decide)]
  exact congrArg nI (by omega)
theorem e_k {k t : Nat} (hk : k < 5) (ht : t < 8) : nI (8 * k + t) / nI 8 = nI k := by
  rw [pk_div (by omega) (by decide) (by decide)]
  exact congrArg nI (by omega)
theorem e_t {k t : Nat} (hk : k < 5) (ht : t < 8) : nI (8 * k + t) - nI (8 * k + t) / nI 8 * nI 8 = nI t := by
  rw [pk_rem (by omega) (by decide) (by decide)]
  exact congrArg nI (by omega)
theorem up_same {f : Nat → Int32} {k : Nat} {v : Int32} (h : f k = v) : upd f k v = f := by
  funext j
  by_cases e : j = k
  · rw [e, up_s, h]
  · rw [up_n e]
/-- THE TOWN -/
abbrev Tau : Type := (((((Nat) × (Nat → Nat)) × ((Nat → Nat) × (Nat → Nat))) × (((Nat → Nat) × (Nat → Nat)) × ((Nat → Nat) × (Nat → Nat)))) × ((((Nat → Nat → Nat) × (Nat → List (Nat × Nat))) × ((List (Nat × Nat × Nat)) × (Nat → Int32))) × (((Nat → Nat) × (Int32)) × ((Int32) × (Int32)))))
abbrev Tau.mk (x0 : Nat) (x1 : Nat → Nat) (x2 : Nat → Nat) (x3 : Nat → Nat) (x4 : Nat → Nat) (x5 : Nat → Nat) (x6 : Nat → Nat) (x7 : Nat → Nat) (x8 : Nat → Nat → Nat) (x9 : Nat → List (Nat × Nat)) (x10 : List (Nat × Nat × Nat)) (x11 : Nat → Int32) (x12 : Nat → Nat) (x13 : Int32) (x14 : Int32) (x15 : Int32) : Tau := ((((x0, x1), (x2, x3)), ((x4, x5), (x6, x7))), (((x8, x9), (x10, x11)), ((x12, x13), (x14, x15))))
abbrev Tau.n (x : Tau) : Nat := x.1.1.1.1
abbrev Tau.fr (x : Tau) : Nat → Nat := x.1.1.1.2
abbrev Tau.to (x : Tau) : Nat → Nat := x.1.1.2.1
abbrev Tau.sz (x : Tau) : Nat → Nat := x.1.1.2.2
abbrev Tau.ys (x : Tau) : Nat → Nat := x.1.2.1.1
abbrev Tau.dn (x : Tau) : Nat → Nat := x.1.2.1.2
abbrev Tau.ou (x : Tau) : Nat → Nat := x.1.2.2.1
abbrev Tau.en (x : Tau) : Nat → Nat := x.1.2.2.2
abbrev Tau.st (x : Tau) : Nat → Nat → Nat := x.2.1.1.1
abbrev Tau.lg (x : Tau) : Nat → List (Nat × Nat) := x.2.1.1.2
abbrev Tau.row (x : Tau) : List (Nat × Nat × Nat) := x.2.1.2.1
abbrev Tau.am (x : Tau) : Nat → Int32 := x.2.1.2.2
abbrev Tau.up (x : Tau) : Nat → Nat := x.2.2.1.1
abbrev Tau.sent (x : Tau) : Int32 := x.2.2.1.2
abbrev Tau.hand (x : Tau) : Int32 := x.2.2.2.1
abbrev Tau.lost (x : Tau) : Int32 := x.2.2.2.2
abbrev Tau.w_n (x : Tau) (v : Nat) : Tau := ((((v, x.1.1.1.2), x.1.1.2), x.1.2), x.2)
abbrev Tau.w_fr (x : Tau) (v : Nat → Nat) : Tau := ((((x.1.1.1.1, v), x.1.1.2), x.1.2), x.2)
abbrev Tau.w_to (x : Tau) (v : Nat → Nat) : Tau := (((x.1.1.1, (v, x.1.1.2.2)), x.1.2), x.2)
abbrev Tau.w_sz (x : Tau) (v : Nat → Nat) : Tau := (((x.1.1.1, (x.1.1.2.1, v)), x.1.2), x.2)
abbrev Tau.w_ys (x : Tau) (v : Nat → Nat) : Tau := ((x.1.1, ((v, x.1.2.1.2), x.1.2.2)), x.2)
abbrev Tau.w_dn (x : Tau) (v : Nat → Nat) : Tau := ((x.1.1, ((x.1.2.1.1, v), x.1.2.2)), x.2)
abbrev Tau.w_ou (x : Tau) (v : Nat → Nat) : Tau := ((x.1.1, (x.1.2.1, (v, x.1.2.2.2))), x.2)
abbrev Tau.w_en (x : Tau) (v : Nat → Nat) : Tau := ((x.1.1, (x.1.2.1, (x.1.2.2.1, v))), x.2)
abbrev Tau.w_st (x : Tau) (v : Nat → Nat → Nat) : Tau := (x.1, (((v, x.2.1.1.2), x.2.1.2), x.2.2))
abbrev Tau.w_lg (x : Tau) (v : Nat → List (Nat × Nat)) : Tau := (x.1, (((x.2.1.1.1, v), x.2.1.2), x.2.2))
abbrev Tau.w_row (x : Tau) (v : List (Nat × Nat × Nat)) : Tau := (x.1, ((x.2.1.1, (v, x.2.1.2.2)), x.2.2))
abbrev Tau.w_am (x : Tau) (v : Nat → Int32) : Tau := (x.1, ((x.2.1.1, (x.2.1.2.1, v)), x.2.2))
abbrev Tau.w_up (x : Tau) (v : Nat → Nat) : Tau := (x.1, (x.2.1, ((v, x.2.2.1.2), x.2.2.2)))
abbrev Tau.w_sent (x : Tau) (v : Int32) : Tau := (x.1, (x.2.1, ((x.2.2.1.1, v), x.2.2.2)))
abbrev Tau.w_hand (x : Tau) (v : Int32) : Tau := (x.1, (x.2.1, (x.2.2.1, (v, x.2.2.2.2))))
abbrev Tau.w_lost (x : Tau) (v : Int32) : Tau := (x.1, (x.2.1, (x.2.2.1, (x.2.2.2.1, v))))
/-- the partners of a transfer, a share -/
def Tau.par (τ : Tau) (t : Nat) : Nat := orbit (τ.to t) (τ.fr t)
def Tau.shareOf (fr to sz s : Nat) : Int32 := if s = fr then -nI sz * nI (pop4 to) else if bit to s = 1 then nI sz else nI 0
def Tau.share (τ : Tau) (t s : Nat) : Int32 := Tau.shareOf (τ.fr t) (τ.to t) (τ.sz t) s
def Tau.write (τ : Tau) (i k t : Nat) : Tau := (τ.w_lg (fu τ.lg i (τ.lg i ++ [(k, t)])))
def Tau.send (τ : Tau) (k t s : Nat) : Tau := if τ.row.length = 60 then ((τ.w_sent (τ.sent + nI 1)).w_lost (τ.lost + nI 1)) else ((τ.w_sent (τ.sent + nI 1)).w_row (τ.row ++ [(k, t, s)]))
/-- to the partners from store s on, j stores -/
def Tau.sendFrom (τ : Tau) (k t : Nat) : (j s : Nat) → Tau
  | 0, _ => τ
  | j + 1, s => (if bit (τ.par t) s = 1 then τ.send k t s else τ).sendFrom k t j (s + 1)
def Tau.sendAll (τ : Tau) (k t : Nat) : Tau := τ.sendFrom k t 4 0
def Tau.decide' (τ : Tau) (t o : Nat) : Tau := (((τ.w_ou (fu τ.ou t o)) : Tau).write 4 o t).sendAll (2 + o) t
def Tau.setSt (τ : Tau) (s t v : Nat) : Tau := (τ.w_st (fu τ.st s (fu (τ.st s) t v)))
/-- a store is in another state (1: ready, 2: made, 3: dropped), and writes it -/
def Tau.become (τ : Tau) (s t v : Nat) : Tau :=
  let τ1 := (τ.setSt s t v).write s (if v = 1 then 4 else v - 1) t
  if v = 2 then (τ1.w_am (fu τ1.am s (τ1.am s + τ1.share t s))) else τ1
/-- the sum that a store would come to, over the transfers from t on, j of them -/
def Tau.sumFrom (τ : Tau) (s : Nat) (sh : Int32) : (j t : Nat) → Int32 → Int32
  | 0, _, acc => acc
  | j + 1, t, acc => τ.sumFrom s sh j (t + 1) (acc + (if τ.st s t = 1 ∧ ((sh < 0 ∧ τ.share t s < 0) ∨ (0 < sh ∧ 0 < τ.share t s)) then τ.share t s else nI 0))
def Tau.sum (τ : Tau) (s : Nat) (sh : Int32) : Int32 := τ.sumFrom s sh τ.n 0 (τ.am s + sh)
def Tau.can (τ : Tau) (s : Nat) (sh : Int32) : Bool := decide (¬ τ.sum s sh < 0 ∧ ¬ nI 999 < τ.sum s sh)
def Tau.asking (τ : Tau) (t s : Nat) : Tau :=
  let τ1 := if τ.st s t = 0 then τ.become s t (if τ.can s (τ.share t s) then 1 else 3) else τ
  τ1.send (if τ1.st s t = 3 then 2 else 1) t s
def Tau.make (τ : Tau) (t s : Nat) : Tau := (if τ.st s t = 1 then τ.become s t 2 else τ).send 5 t s
def Tau.drop (τ : Tau) (t s : Nat) : Tau := (if τ.st s t < 2 then τ.become s t 3 else τ).send 5 t s
def Tau.yes (τ : Tau) (t s : Nat) : Tau :=
  if τ.ou t = 0 then (if orbit (τ.ys t) s = τ.par t then ((τ.w_ys (fu τ.ys t (orbit (τ.ys t) s))) : Tau).decide' t 1 else (τ.w_ys (fu τ.ys t (orbit (τ.ys t) s)))) else τ
def Tau.no (τ : Tau) (t : Nat) : Tau := if τ.ou t = 0 then τ.decide' t 2 else τ
def Tau.done (τ : Tau) (t s : Nat) : Tau :=
  if orbit (τ.dn t) s = τ.par t ∧ τ.en t = 0 then (((τ.w_dn (fu τ.dn t (orbit (τ.dn t) s))).w_en (fu τ.en t 1)) : Tau).write 4 3 t else (τ.w_dn (fu τ.dn t (orbit (τ.dn t) s)))
def Tau.what (τ : Tau) (t s : Nat) : Tau := if τ.ou t = 0 then τ else τ.send (2 + τ.ou t) t s
/-- a message Tau.comes -/
def Tau.comes (τ : Tau) (k t s : Nat) : Tau :=
  if k = 0 then τ.asking t s else if k = 1 then τ.yes t s else if k = 2 then τ.no t else if k = 3 then τ.make t s else if k = 4 then τ.drop t s else if k = 5 then τ.done t s else τ.what t s
def Tau.toStore (k : Nat) : Bool := k == 0 || k == 3 || k == 4
def Tau.rcv (m : Nat × Nat × Nat) : Nat := if Tau.toStore m.1 then m.2.2 else 4
def Tau.msg (τ : Tau) (p : Nat) : Nat × Nat × Nat := τ.row.getD p (0, 0, 0)
def Tau.isUpFor (τ : Tau) (p : Nat) : Bool := τ.up (Tau.rcv (τ.msg p)) == 1
def Tau.take (τ : Tau) (p : Nat) : Tau := (τ.w_row (τ.row.eraseIdx p))
def Tau.dl0 (τ : Tau) (p : Nat) : Tau := ((τ.take p).w_lost (τ.lost + nI 1))
def Tau.dl1 (τ : Tau) (p : Nat) : Tau := ((τ.take p).w_hand (τ.hand + nI 1))
def Tau.deliver (τ : Tau) (p : Nat) : Tau := if τ.isUpFor p then (τ.dl1 p).comes (τ.msg p).1 (τ.msg p).2.1 (τ.msg p).2.2 else τ.dl0 p
/-- the first message, j times at most -/
def Tau.drain (τ : Tau) : Nat → Tau
  | 0 => τ
  | j + 1 => if τ.row = [] then τ else (τ.deliver 0).drain j
def Tau.drainN (τ : Tau) : Nat → Nat
  | 0 => 0
  | j + 1 => if τ.row = [] then 0 else (τ.deliver 0).drainN j + 1
def Tau.lose (τ : Tau) (p : Nat) : Tau := ((τ.take p).w_lost (τ.lost + nI 1))
def Tau.begin' (τ : Tau) (f o z : Nat) : Tau := ((((((τ.w_n (τ.n + 1)).w_fr (fu τ.fr τ.n f)).w_to (fu τ.to τ.n o)).w_sz (fu τ.sz τ.n z)) : Tau).write 4 0 τ.n).sendAll 0 τ.n
def Tau.crash (τ : Tau) (i : Nat) : Tau :=
  let τ1 := (τ.w_up (fu τ.up i 0))
  if i = 4 then ((τ1.w_ys (fun _ => 0)).w_dn (fun _ => 0)) else τ1
def Tau.recover1 (τ : Tau) (i t : Nat) : Tau :=
  if i = 4 then (if τ.ou t = 0 then τ.decide' t 2 else if τ.en t = 0 then τ.sendAll (2 + τ.ou t) t else τ)
  else if τ.st i t = 1 then τ.send 6 t i else τ
def Tau.recoverFrom (τ : Tau) (i : Nat) : (j t : Nat) → Tau
  | 0, _ => τ
  | j + 1, t => (τ.recover1 i t).recoverFrom i j (t + 1)
def Tau.recover (τ : Tau) (i : Nat) : Tau := ((τ.w_up (fu τ.up i 1)) : Tau).recoverFrom i τ.n 0
def Tau.wake (τ : Tau) (i : Nat) : Tau := if τ.up i = 0 then τ.recover i else τ
def Tau.awake (τ : Tau) : Tau := ((((τ.wake 4).wake 0).wake 1).wake 2).wake 3
def Tau.settle (τ : Tau) : Tau := τ.awake.drain 300
def Tau.settleN (τ : Tau) : Nat := τ.awake.drainN 300
