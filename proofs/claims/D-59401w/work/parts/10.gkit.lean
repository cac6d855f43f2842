/-! GHOST HEAPS: one partial map of cells with region tags; rows of the kit lifted to it. -/
abbrev g_R : Type := Nat × Nat
abbrev g_G : Type := Nat → Option (g_R × va_E)
/-- the ghost's cells below n as a list of the kit's form -/
def g_L (G : g_G) (n : Nat) : va_W := (List.range n).filterMap (fun a => (G a).map (fun x => (a, x.2)))
/-- the heap holds the ghost's cells; none lies below z0; a region's owner is a cell of the ghost (or 0) -/
def g_P (D : va_G) (cl : List vw_C) (z0 : Nat) (G : g_G) (H : Heap) : Prop :=
  ∀ (a : Nat) (r : g_R) (e : va_E), G a = some (r, e) → z0 ≤ a ∧ (r.1 = 0 ∨ G r.1 ≠ none) ∧ va_at D cl (a, e) H
theorem g_L_mem {G : g_G} {n a : Nat} {e : va_E} : (a, e) ∈ g_L G n ↔ a < n ∧ ∃ r, G a = some (r, e) := by
  unfold g_L
  rw [List.mem_filterMap]
  constructor
  · rintro ⟨b, hb, h⟩
    cases hg : G b with
    | none => rw [hg] at h; cases h
    | some x =>
      rw [hg] at h
      cases h
      exact ⟨List.mem_range.mp hb, x.1, hg⟩
  · rintro ⟨h, r, hr⟩
    exact ⟨a, List.mem_range.mpr h, by rw [hr]; rfl⟩
theorem g_L_apart (G : g_G) (n : Nat) : (g_L G n).Pairwise (fun p q => p.1 ≠ q.1) := by
  unfold g_L
  rw [List.pairwise_filterMap]
  refine List.Pairwise.imp ?_ (List.nodup_range (n := n))
  intro a b hab p hp q hq
  cases ha : G a with
  | none => rw [ha] at hp; cases hp
  | some x =>
    cases hb : G b with
    | none => rw [hb] at hq; cases hq
    | some y =>
      rw [ha] at hp
      rw [hb] at hq
      cases hp
      cases hq
      exact hab
theorem g_P.lt {D : va_G} {cl : List vw_C} {z0 : Nat} {G : g_G} {H : Heap} (hG : g_P D cl z0 G H) {a : Nat} {r : g_R} {e : va_E} (h : G a = some (r, e)) : a < H.size := (hG a r e h).2.2.lt
theorem g_P.list {D : va_G} {cl : List vw_C} {z0 : Nat} {G : g_G} {H : Heap} (hG : g_P D cl z0 G H) : va_P D cl (g_L G H.size) H := by
  intro k q hq
  obtain ⟨-, r, h⟩ := g_L_mem.mp (List.mem_of_getElem? hq)
  exact (hG q.1 r q.2 h).2.2
theorem g_P.dist {D : va_G} {cl : List vw_C} {z0 : Nat} {G : g_G} {H : Heap} (hG : g_P D cl z0 G H) : va_D (fun q => z0 ≤ q) (g_L G H.size) := by
  have hp := List.pairwise_iff_getElem.mp (g_L_apart G H.size)
  refine ⟨fun i j p q hi hj hpq => ?_, fun k q hq => ?_⟩
  · obtain ⟨li, rfl⟩ := List.getElem?_eq_some_iff.mp hi
    obtain ⟨lj, rfl⟩ := List.getElem?_eq_some_iff.mp hj
    rcases Nat.lt_trichotomy i j with h | h | h
    · exact absurd hpq (hp i j li lj h)
    · exact h
    · exact absurd hpq.symm (hp j i lj li h)
  · obtain ⟨-, r, h⟩ := g_L_mem.mp (List.mem_of_getElem? hq)
    exact (hG q.1 r q.2 h).1
theorem g_P.pos {D : va_G} {cl : List vw_C} {z0 : Nat} {G : g_G} {H : Heap} (hG : g_P D cl z0 G H) {a : Nat} {r : g_R} {e : va_E} (h : G a = some (r, e)) : ∃ q0 : Nat, (g_L G H.size)[q0]? = some (a, e) :=
  List.getElem?_of_mem (g_L_mem.mpr ⟨hG.lt h, r, h⟩)
theorem g_P.one {D : va_G} {cl : List vw_C} {z0 : Nat} {G : g_G} {H : Heap} (hG : g_P D cl z0 G H) {a : Nat} {r : g_R} {e : va_E} (h : G a = some (r, e)) : va_P D cl [(a, e)] H := by
  intro k q hq
  match k, hq with
  | 0, hq => cases hq; exact (hG a r e h).2.2
theorem g_up_s {G : g_G} {a : Nat} {x : Option (g_R × va_E)} : va_up G a x a = x := by simp [va_up]
theorem g_up_n {G : g_G} {a b : Nat} {x : Option (g_R × va_E)} (h : b ≠ a) : va_up G a x b = G b := by simp [va_up, h]
theorem g_up_in {G : g_G} {a b : Nat} {x : g_R × va_E} (h : G b ≠ none) : va_up G a (some x) b ≠ none := by
  by_cases e : b = a
  · subst e; rw [g_up_s]; exact fun q => by cases q
  · rw [g_up_n e]; exact h
/-- two cells of the ghost that hold different things lie at different places -/
theorem g_ne {G : g_G} {a b : Nat} {x y : g_R × va_E} (ha : G a = some x) (hb : G b = some y) (h : x ≠ y) : a ≠ b := fun e => h (by subst e; rw [ha] at hb; exact Option.some.inj hb)
theorem g_ner {G : g_G} {a b : Nat} {r q : g_R} {x y : va_E} (ha : G a = some (r, x)) (hb : G b = some (q, y)) (h : r ≠ q) : a ≠ b := g_ne ha hb (fun e => h (congrArg Prod.fst e))
theorem g_nen {G : g_G} {a b : Nat} {x : g_R × va_E} (ha : G a = some x) (hb : G b = none) : a ≠ b := fun e => by subst e; rw [ha] at hb; cases hb
theorem g_P.set {D : va_G} {cl : List vw_C} {z0 : Nat} {G : g_G} {H H1 : Heap} (hG : g_P D cl z0 G H) {a q0 : Nat} {r : g_R} {e e' : va_E} (h : G a = some (r, e)) (hq : (g_L G H.size)[q0]? = some (a, e)) (hP : va_P D cl ((g_L G H.size).set q0 (a, e')) H1) : g_P D cl z0 (va_up G a (some (r, e'))) H1 := by
  have hl : q0 < (g_L G H.size).length := (List.getElem?_eq_some_iff.mp hq).1
  have ho : ∀ r : g_R, (r.1 = 0 ∨ G r.1 ≠ none) → (r.1 = 0 ∨ va_up G a (some (r, e')) r.1 ≠ none) := fun r h => h.imp id g_up_in
  intro b rb eb hb
  by_cases hba : b = a
  · subst hba
    rw [g_up_s] at hb
    cases hb
    obtain ⟨h1, h2, -⟩ := hG _ _ _ h
    exact ⟨h1, h2.imp id g_up_in, hP q0 (b, e') (by rw [List.getElem?_set_self hl])⟩
  · rw [g_up_n hba] at hb
    obtain ⟨h1, h2, -⟩ := hG _ _ _ hb
    obtain ⟨j, hj⟩ := hG.pos hb
    have hne : q0 ≠ j := fun z => by
      subst z
      rw [hq] at hj
      cases hj
      exact hba rfl
    exact ⟨h1, h2.imp id g_up_in, hP j (b, eb) (by rw [List.getElem?_set_ne hne]; exact hj)⟩
theorem g_P.fresh {D : va_G} {cl : List vw_C} {z0 : Nat} {G : g_G} {H : Heap} (hG : g_P D cl z0 G H) {q : Nat} {e : va_E} (hD : va_D (fun q => z0 ≤ q) (g_L G H.size ++ [(q, e)])) : G q = none ∧ z0 ≤ q := by
  have hlast : (g_L G H.size ++ [(q, e)])[(g_L G H.size).length]? = some (q, e) := by simp
  refine ⟨?_, hD.2 _ _ hlast⟩
  cases hg : G q with
  | none => rfl
  | some x =>
    obtain ⟨j, hj⟩ := hG.pos (r := x.1) (e := x.2) hg
    have hl : j < (g_L G H.size).length := (List.getElem?_eq_some_iff.mp hj).1
    have := hD.1 j _ (q, x.2) (q, e) (by rw [List.getElem?_append_left hl]; exact hj) hlast rfl
    omega
theorem g_P.push {D : va_G} {cl : List vw_C} {z0 : Nat} {G : g_G} {H H1 : Heap} (hG : g_P D cl z0 G H) {q : Nat} {r : g_R} {e : va_E} (hn : G q = none) (hz : z0 ≤ q) (hr : r.1 = 0 ∨ r.1 = q ∨ G r.1 ≠ none) (hP : va_P D cl (g_L G H.size ++ [(q, e)]) H1) : g_P D cl z0 (va_up G q (some (r, e))) H1 := by
  intro b rb eb hb
  by_cases hbq : b = q
  · subst hbq
    rw [g_up_s] at hb
    cases hb
    refine ⟨hz, ?_, hP (g_L G H.size).length (b, e) (by simp)⟩
    rcases hr with h | h | h
    · exact Or.inl h
    · exact Or.inr (by rw [h, g_up_s]; exact fun q => by cases q)
    · exact Or.inr (g_up_in h)
  · rw [g_up_n hbq] at hb
    obtain ⟨h1, h2, -⟩ := hG _ _ _ hb
    obtain ⟨j, hj⟩ := hG.pos hb
    have hl : j < (g_L G H.size).length := (List.getElem?_eq_some_iff.mp hj).1
    exact ⟨h1, h2.imp id g_up_in, hP j (b, eb) (by rw [List.getElem?_append_left hl]; exact hj)⟩
/-- nothing of a region outside F is changed -/
def g_F (F : g_R → Prop) (G G' : g_G) : Prop := ∀ (a : Nat) (r : g_R) (e : va_E), G a = some (r, e) → ¬ F r → G' a = some (r, e)
/-- no cell of the ghost is lost, nor its region -/
def g_M (G G' : g_G) : Prop := ∀ (a : Nat) (r : g_R) (e : va_E), G a = some (r, e) → ∃ e', G' a = some (r, e')
theorem g_F.rf {F : g_R → Prop} {G : g_G} : g_F F G G := fun _ _ _ h _ => h
theorem g_F.tr {F : g_R → Prop} {G G1 G2 : g_G} (h : g_F F G G1) (h2 : g_F F G1 G2) : g_F F G G2 := fun a r e ha hn => h2 a r e (h a r e ha hn) hn
theorem g_F.wk {F F' : g_R → Prop} {G G1 : g_G} (h : g_F F G G1) (hF : ∀ r, F r → F' r) : g_F F' G G1 := fun a r e ha hn => h a r e ha (fun z => hn (hF r z))
theorem g_F.up {F : g_R → Prop} {G : g_G} {a : Nat} {r : g_R} {e e' : va_E} (h : G a = some (r, e)) (hF : F r) : g_F F G (va_up G a (some (r, e'))) := fun b rb eb hb hn => by
  by_cases z : b = a
  · subst z; rw [h] at hb; cases hb; exact absurd hF hn
  · rw [g_up_n z]; exact hb
theorem g_F.new {F : g_R → Prop} {G : g_G} {a : Nat} {x : g_R × va_E} (h : G a = none) : g_F F G (va_up G a (some x)) := fun b rb eb hb _ => by
  rw [g_up_n (g_nen hb h)]; exact hb
theorem g_M.rf {G : g_G} : g_M G G := fun _ _ e h => ⟨e, h⟩
theorem g_M.tr {G G1 G2 : g_G} (h : g_M G G1) (h2 : g_M G1 G2) : g_M G G2 := fun a r e ha => by
  obtain ⟨e1, h1⟩ := h a r e ha
  exact h2 a r e1 h1
theorem g_M.up {G : g_G} {a : Nat} {r : g_R} {e e' : va_E} (h : G a = some (r, e)) : g_M G (va_up G a (some (r, e'))) := fun b rb eb hb => by
  by_cases z : b = a
  · subst z; rw [h] at hb; cases hb; exact ⟨e', g_up_s⟩
  · exact ⟨eb, by rw [g_up_n z]; exact hb⟩
theorem g_M.new {G : g_G} {a : Nat} {x : g_R × va_E} (h : G a = none) : g_M G (va_up G a (some x)) := fun b rb eb hb => ⟨eb, by rw [g_up_n (g_nen hb h)]; exact hb⟩
/-- the classes whose objects the ghost holds -/
def g_T0 : u_T := fun _ => ("", "", "", false)
def g_cl : List vw_C := [(RX1, TX1, 4), (RX2, TX2, 11), (RX3, TX3, 13), (RX4, TX4, 3), (RX5, TX5, 2), (RX6, TX6, 3), (RX7, TX7, 4), (RX8, TX8, 1), (RX9, TX9, 3), (RJ7, TJ7, 3), (RJ21, TJ21, 4), (RJ5, TJ5, 3), (RJ1, TJ1, 4), (RJ14, g_T0, 0), (RJ16, g_T0, 0), (RJ17, g_T0, 0)]
/-- the environment of a run: class numbers, class numbers of the arrays (int, long, byte, Object), the first cell that is the run's own -/
abbrev g_E : Type := va_G × (Nat → ClassId) × Nat
abbrev g_ty (E : g_E) : List (ClassId × FieldType) := [(E.2.1 0, .int), (E.2.1 1, .long), (E.2.1 2, .byte), (E.2.1 3, .object "java/lang/Object")]
abbrev g_z (E : g_E) : Nat := E.2.2
abbrev g_A (E : g_E) : Nat → Prop := fun q => E.2.2 ≤ q
abbrev g_K (E : g_E) (U : State) : Prop := va_K E.1 g_cl (g_ty E) U
abbrev g_H (E : g_E) (G : g_G) (H : Heap) : Prop := g_P E.1 g_cl E.2.2 G H
/-- cells, by kind -/
abbrev g_o (ci : Nat) (fs : List Value) : va_E := .inr (ci, fs)
abbrev g_i (E : g_E) (n : Nat) (f : Nat → Int32) : va_E := .inl (E.2.1 0, n, .inl f)
abbrev g_b (E : g_E) (n : Nat) (f : Nat → Int32) : va_E := .inl (E.2.1 2, n, .inl f)
abbrev g_l (E : g_E) (n : Nat) (f : Nat → Int64) : va_E := .inl (E.2.1 1, n, .inr (.inl f))
abbrev g_q (E : g_E) (n : Nat) (f : Nat → Option Nat) : va_E := .inl (E.2.1 3, n, .inr (.inr (.inr (.inr f))))
/-- a method's start -/
def g_Pc (E : g_E) (X : State → Prop) (av : List Value) (G : g_G) : Array Value → State → Prop := va_Pc av (fun U => E.2.2 ≤ U.heap.size ∧ X U ∧ g_K E U ∧ g_H E G U.heap)
abbrev g_Bk (E : g_E) (G : g_G) (t : State) : Prop := g_H E G t.heap
abbrev g_MI (E : g_E) (l : Launch) (y : MethodName) (ws : List Cond) (rm : Room) (X : State → Prop) (av : List Value) (G : g_G) (post : Int32 → g_G → Prop) : Prop :=
  Met l y ws rm (g_Pc E X av G) (va_Qi post (g_Bk E) (g_A E)) rm.cells rm.slots (g_A E)
abbrev g_ML (E : g_E) (l : Launch) (y : MethodName) (ws : List Cond) (rm : Room) (X : State → Prop) (av : List Value) (G : g_G) (post : Int64 → g_G → Prop) : Prop :=
  Met l y ws rm (g_Pc E X av G) (va_Ql post (g_Bk E) (g_A E)) rm.cells rm.slots (g_A E)
abbrev g_MF (E : g_E) (l : Launch) (y : MethodName) (ws : List Cond) (rm : Room) (X : State → Prop) (av : List Value) (G : g_G) (post : UInt32 → g_G → Prop) : Prop :=
  Met l y ws rm (g_Pc E X av G) (va_Qf post (g_Bk E) (g_A E)) rm.cells rm.slots (g_A E)
abbrev g_MD (E : g_E) (l : Launch) (y : MethodName) (ws : List Cond) (rm : Room) (X : State → Prop) (av : List Value) (G : g_G) (post : UInt64 → g_G → Prop) : Prop :=
  Met l y ws rm (g_Pc E X av G) (va_Qd post (g_Bk E) (g_A E)) rm.cells rm.slots (g_A E)
abbrev g_MV (E : g_E) (l : Launch) (y : MethodName) (ws : List Cond) (rm : Room) (X : State → Prop) (av : List Value) (G : g_G) (post : g_G → Prop) : Prop :=
  Met l y ws rm (g_Pc E X av G) (va_Qv post (g_Bk E) (g_A E)) rm.cells rm.slots (g_A E)
abbrev g_MQ (E : g_E) (l : Launch) (y : MethodName) (ws : List Cond) (rm : Room) (X : State → Prop) (av : List Value) (G : g_G) (post : Option Nat → g_G → Prop) : Prop :=
  Met l y ws rm (g_Pc E X av G) (va_Qq post (g_Bk E) (g_A E)) rm.cells rm.slots (g_A E)
/-- what is known of the state besides goes along into calls -/
def g_St (E : g_E) (X : State → Prop) : Prop := (∀ s U : State, s.WarmedH U.vm → (∀ q : Nat, q < E.2.2 → U.heap[q]? = s.heap[q]?) → X s → X U) ∧ ∀ (a : Array Value) (U : State) (g : JFrame) (mk : MethodId), X U → X (U.calling g mk a)
theorem g_St0 (E : g_E) : g_St E (fun _ => True) := ⟨fun _ _ _ _ _ => trivial, fun _ _ _ _ _ => trivial⟩
