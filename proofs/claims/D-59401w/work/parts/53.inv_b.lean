/-! a store is in another state -/
theorem Tau.fu2 (st : Nat → Nat → Nat) (s t v s9 t9 : Nat) : fu st s (fu (st s) t v) s9 t9 = if s9 = s ∧ t9 = t then v else st s9 t9 := by
  unfold fu
  by_cases h : s9 = s
  · subst h
    by_cases h2 : t9 = t <;> simp [h2]
  · simp [h]
theorem Tau.become_form (τ : Tau) (s t v : Nat) : ∃ a, τ.become s t v = (((τ.w_st (fu τ.st s (fu (τ.st s) t v))).w_lg (fu τ.lg s (τ.lg s ++ [(if v = 1 then 4 else v - 1, t)]))).w_am (a)) := by
  unfold Tau.become Tau.setSt Tau.write
  dsimp only
  split
  · exact ⟨_, rfl⟩
  · exact ⟨τ.am, rfl⟩
theorem Tau.become_core {τ : Tau} (h : τ.core) {s t v : Nat} (hs : s < 4) (ht : t < τ.n) (hp : bit (τ.par t) s = 1) (hv : (v = 1 ∧ τ.st s t = 0 ∧ τ.ou t ≠ 1) ∨ (v = 3 ∧ τ.st s t < 2 ∧ τ.ou t ≠ 1 ∧ (τ.ou t = 0 → τ.st s t = 0)) ∨ (v = 2 ∧ τ.st s t = 1 ∧ τ.ou t = 1)) : (τ.become s t v).core := by
  obtain ⟨a, e⟩ := Tau.become_form τ s t v
  rw [e]
  have ht8 : t < 8 := Nat.lt_of_lt_of_le ht h.n8
  have hlg4 : fu τ.lg s (τ.lg s ++ [(if v = 1 then 4 else v - 1, t)]) 4 = τ.lg 4 := fu_n (by omega)
  refine Core.of ⟨h.n8, h.tr, h.ou3, h.en1, h.eno, fun s9 t9 => ?_, fun t9 h9 => ?_, fun s9 h9 t9 hne => ?_, h.ysl, h.dnl, fun s9 h9 t9 hb ho => ?_, h.dno, fun s9 h9 t9 ho hb => ?_, fun s9 h9 t9 h2 => ?_, fun s9 h9 => ?_, ?_, fun i hi e9 he => ?_, fun t9 h9 => ?_, fun t9 h9 => ?_, h.up1⟩
  · show fu τ.st s (fu (τ.st s) t v) s9 t9 ≤ 3
    rw [Tau.fu2]
    split
    · omega
    · exact h.st4 s9 t9
  · obtain ⟨q1, q2, q3, q4, q5⟩ := h.un t9 h9
    refine ⟨q1, q2, q3, q4, fun s9 => ?_⟩
    have h9' : τ.n ≤ t9 := h9
    show fu τ.st s (fu (τ.st s) t v) s9 t9 = 0
    rw [Tau.fu2, if_neg (by omega)]
    exact q5 s9
  · have hne2 : fu τ.st s (fu (τ.st s) t v) s9 t9 ≠ 0 := hne
    rw [Tau.fu2] at hne2
    by_cases e9 : s9 = s ∧ t9 = t
    · rw [e9.1, e9.2]; exact hp
    · rw [if_neg e9] at hne2; exact h.part s9 h9 t9 hne2
  · show fu τ.st s (fu (τ.st s) t v) s9 t9 = 1
    rw [Tau.fu2]
    have h1 := h.ysb s9 h9 t9 hb ho
    split
    · next e9 => obtain ⟨rfl, rfl⟩ := e9; have ho' : τ.ou t9 = 0 := ho; omega
    · exact h1
  · show fu τ.st s (fu (τ.st s) t v) s9 t9 = 1 ∨ fu τ.st s (fu (τ.st s) t v) s9 t9 = 2
    rw [Tau.fu2]
    split
    · next e9 => obtain ⟨rfl, rfl⟩ := e9; have ho' : τ.ou t9 = 1 := ho; omega
    · exact h.o1 s9 h9 t9 ho hb
  · have h2' : fu τ.st s (fu (τ.st s) t v) s9 t9 = 2 := h2
    rw [Tau.fu2] at h2'
    by_cases e9 : s9 = s ∧ t9 = t
    · rw [if_pos e9] at h2'
      obtain ⟨rfl, rfl⟩ := e9
      show τ.ou t9 = 1
      omega
    · rw [if_neg e9] at h2'
      exact h.s2 s9 h9 t9 h2'
  · show (fu τ.lg s (τ.lg s ++ [(if v = 1 then 4 else v - 1, t)]) s9).length + s8 (fun t9 => remS (fu τ.st s (fu (τ.st s) t v) s9 t9)) ≤ 16
    by_cases e9 : s9 = s
    · subst e9
      rw [fu_s]
      have h1 := h.lgs s9 h9
      have h2 := s8_one (f := fun t => remS (τ.st s9 t)) (g := fun t9 => remS (fu τ.st s9 (fu (τ.st s9) t v) s9 t9)) ht8 (fun i hi => by show remS _ = remS _; rw [Tau.fu2, if_neg (by omega)])
      simp only [Tau.fu2] at h2 ⊢
      simp only [List.length_append, List.length_cons, List.length_nil]
      have h3 : remS v + 1 ≤ remS (τ.st s9 t) := by
        unfold remS
        repeat' split
        all_goals omega
      simp only [true_and, and_true, and_self, if_true] at h2 ⊢
      omega
    · rw [fu_n e9]
      have : (fun t9 => remS (fu τ.st s (fu (τ.st s) t v) s9 t9)) = fun t9 => remS (τ.st s9 t9) := by
        funext t9
        rw [Tau.fu2, if_neg (by omega)]
      rw [this]
      exact h.lgs s9 h9
  · show (fu τ.lg s (τ.lg s ++ [(if v = 1 then 4 else v - 1, t)]) 4).length + _ ≤ 24
    rw [hlg4]
    exact h.lgc
  · have he2 : e9 ∈ fu τ.lg s (τ.lg s ++ [(if v = 1 then 4 else v - 1, t)]) i := he
    by_cases e8 : i = s
    · subst e8
      rw [fu_s] at he2
      rcases List.mem_append.mp he2 with q | q
      · exact h.lge i hi e9 q
      · rw [List.mem_singleton.mp q]
        refine ⟨ht, fun _ => ?_, fun q => by omega⟩
        show (if v = 1 then 4 else v - 1) = 1 ∨ (if v = 1 then 4 else v - 1) = 2 ∨ (if v = 1 then 4 else v - 1) = 4
        split <;> omega
    · rw [fu_n e8] at he2
      exact h.lge i hi e9 he2
  · show lastK (fu τ.lg s (τ.lg s ++ [(if v = 1 then 4 else v - 1, t)]) 4) t9 2 = _
    rw [hlg4]; exact h.lk2 t9 h9
  · show lastK (fu τ.lg s (τ.lg s ++ [(if v = 1 then 4 else v - 1, t)]) 4) t9 3 = _
    rw [hlg4]; exact h.lk3 t9 h9
theorem Tau.become_inv {τ : Tau} (h : τ.Inv) {s t v : Nat} (hs : s < 4) (ht : t < τ.n) (hp : bit (τ.par t) s = 1) (hv : (v = 1 ∧ τ.st s t = 0 ∧ τ.ou t ≠ 1) ∨ (v = 3 ∧ τ.st s t < 2 ∧ τ.ou t ≠ 1 ∧ (τ.ou t = 0 → τ.st s t = 0)) ∨ (v = 2 ∧ τ.st s t = 1 ∧ τ.ou t = 1)) : (τ.become s t v).Inv ∧ (τ.become s t v).pot = τ.pot := by
  have hc := Tau.become_core h.core hs ht hp hv
  obtain ⟨a, e⟩ := Tau.become_form τ s t v
  rw [e] at hc ⊢
  refine ⟨Tau.Inv.of ⟨hc, h.row, fun m hm => ?_⟩, rfl⟩
  obtain ⟨q1, q2, q3, q4, q5, q6, q7, q8⟩ := h.ok m hm
  refine Tau.MsgOk.of ⟨q1, q2, q3, q4, q5, q6, fun k1 k2 => ?_, q8⟩
  show fu τ.st s (fu (τ.st s) t v) m.2.2 m.2.1 = 1
  have h7 := q7 k1 k2
  rw [Tau.fu2]
  split
  · next e9 => obtain ⟨e8, e9⟩ := e9; rw [e8, e9] at h7; have k3 : τ.ou t = 0 := by rw [← e9]; exact k2
               omega
  · exact h7
