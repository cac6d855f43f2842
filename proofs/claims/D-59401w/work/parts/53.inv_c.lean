/-! the clerk decides -/
theorem Tau.decide_inv {τ : Tau} (h : τ.Inv) {t o : Nat} (ht : t < τ.n) (h0 : τ.ou t = 0) (ho : o = 1 ∨ o = 2) (h1 : o = 1 → ∀ s, s < 4 → bit (τ.par t) s = 1 → τ.st s t = 1) : (τ.decide' t o).Inv ∧ (τ.decide' t o).pot ≤ τ.pot := by
  have hc := h.core
  have ht8 : t < 8 := Nat.lt_of_lt_of_le ht hc.n8
  have hen : τ.en t = 0 := by
    have := hc.en1 t
    have := hc.eno t
    omega
  have hI : (((τ.w_ou (fu τ.ou t o)) : Tau).write 4 o t).Inv := by
    unfold Tau.write
    refine Tau.Inv.of ⟨(Core.of ⟨hc.n8, hc.tr, fun t9 => ?_, hc.en1, fun t9 h9 => ?_, hc.st4, fun t9 h9 => ?_, hc.part, hc.ysl, hc.dnl, fun s9 h9 t9 hb ho9 => ?_, fun t9 h9 => ?_, fun s9 h9 t9 ho9 hb => ?_, fun s9 h9 t9 h2 => ?_, fun s9 h9 => ?_, ?_, fun i hi e9 he => ?_, fun t9 h9 => ?_, fun t9 h9 => ?_, hc.up1⟩), h.row, fun m hm => ?_⟩
    · show fu τ.ou t o t9 ≤ 2
      by_cases e : t9 = t
      · rw [e, fu_s]; omega
      · rw [fu_n e]; exact hc.ou3 t9
    · show fu τ.ou t o t9 ≠ 0
      by_cases e : t9 = t
      · rw [e, fu_s]; omega
      · rw [fu_n e]; exact hc.eno t9 h9
    · obtain ⟨q1, q2, q3, q4, q5⟩ := hc.un t9 h9
      refine ⟨?_, q2, q3, q4, q5⟩
      show fu τ.ou t o t9 = 0
      have h9' : τ.n ≤ t9 := h9
      rw [fu_n (by omega)]; exact q1
    · have ho8 : fu τ.ou t o t9 = 0 := ho9
      by_cases e : t9 = t
      · rw [e, fu_s] at ho8; omega
      · rw [fu_n e] at ho8; exact hc.ysb s9 h9 t9 hb ho8
    · show fu τ.ou t o t9 ≠ 0
      by_cases e : t9 = t
      · rw [e, fu_s]; omega
      · rw [fu_n e]; exact hc.dno t9 h9
    · have ho8 : fu τ.ou t o t9 = 1 := ho9
      by_cases e : t9 = t
      · rw [e, fu_s] at ho8
        rw [e] at hb ⊢
        exact Or.inl (h1 ho8 s9 h9 hb)
      · rw [fu_n e] at ho8; exact hc.o1 s9 h9 t9 ho8 hb
    · show fu τ.ou t o t9 = 1
      have h3 := hc.s2 s9 h9 t9 h2
      by_cases e : t9 = t
      · rw [e] at h3; omega
      · rw [fu_n e]; exact h3
    · show (fu τ.lg 4 _ s9).length + _ ≤ 16
      rw [fu_n (by omega)]
      exact hc.lgs s9 h9
    · show (fu τ.lg 4 (τ.lg 4 ++ [(o, t)]) 4).length + s8 (remC τ.n (fu τ.ou t o) τ.en) ≤ 24
      rw [fu_s]
      have h3 := hc.lgc
      have h4 := s8_one (f := remC τ.n τ.ou τ.en) (g := remC τ.n (fu τ.ou t o) τ.en) ht8 (fun i hi => by unfold remC; rw [fu_n hi])
      have h5 : remC τ.n τ.ou τ.en t = 2 := by unfold remC; rw [if_neg (by omega), if_pos h0]
      have h6 : remC τ.n (fu τ.ou t o) τ.en t = 1 := by unfold remC; rw [if_neg (by omega), fu_s, if_neg (by omega), if_pos hen]
      simp only [List.length_append, List.length_cons, List.length_nil]
      omega
    · have he2 : e9 ∈ fu τ.lg 4 (τ.lg 4 ++ [(o, t)]) i := he
      by_cases e8 : i = 4
      · subst e8
        rw [fu_s] at he2
        rcases List.mem_append.mp he2 with q | q
        · exact hc.lge 4 hi e9 q
        · rw [List.mem_singleton.mp q]
          exact ⟨ht, fun q => by omega, fun _ => by show o ≤ 3; omega⟩
      · rw [fu_n e8] at he2
        exact hc.lge i hi e9 he2
    · show lastK (fu τ.lg 4 (τ.lg 4 ++ [(o, t)]) 4) t9 2 = nI (fu τ.ou t o t9)
      rw [fu_s, lastK_snoc]
      by_cases e : t9 = t
      · rw [e, fu_s, if_pos ⟨rfl, by omega⟩]
      · rw [fu_n e, if_neg (fun q => e q.1.symm)]; exact hc.lk2 t9 h9
    · show lastK (fu τ.lg 4 (τ.lg 4 ++ [(o, t)]) 4) t9 3 = nI (if τ.en t9 = 1 then 3 else fu τ.ou t o t9)
      rw [fu_s, lastK_snoc]
      by_cases e : t9 = t
      · rw [e, fu_s, if_pos ⟨rfl, by omega⟩, if_neg (by omega)]
      · rw [fu_n e, if_neg (fun q => e q.1.symm)]; exact hc.lk3 t9 h9
    · obtain ⟨q1, q2, q3, q4, q5, q6, q7, q8⟩ := h.ok m hm
      have key : m.2.1 = t → fu τ.ou t o m.2.1 = o ∧ τ.ou m.2.1 = 0 := fun e => by rw [e, fu_s]; exact ⟨rfl, h0⟩
      have key2 : m.2.1 ≠ t → fu τ.ou t o m.2.1 = τ.ou m.2.1 := fun e => fu_n e
      refine Tau.MsgOk.of ⟨q1, q2, q3, q4, fun k => ?_, fun k => ?_, fun k k2 => ?_, fun k => ?_⟩
      · show fu τ.ou t o m.2.1 = 1
        have := q5 k
        by_cases e : m.2.1 = t
        · have := key e; omega
        · have := key2 e; omega
      · show fu τ.ou t o m.2.1 = 2
        have := q6 k
        by_cases e : m.2.1 = t
        · have := key e; omega
        · have := key2 e; omega
      · have k3 : fu τ.ou t o m.2.1 = 0 := k2
        by_cases e : m.2.1 = t
        · have := key e; omega
        · have := key2 e; exact q7 k (by omega)
      · show fu τ.ou t o m.2.1 ≠ 0
        have := q8 k
        by_cases e : m.2.1 = t
        · have := key e; omega
        · have := key2 e; omega
  have hp : (((τ.w_ou (fu τ.ou t o)) : Tau).write 4 o t).pot + 8 = τ.pot := by
    show Tau.wt τ.row + 8 * Tau.und τ.n (fu τ.ou t o) + 8 = Tau.wt τ.row + 8 * Tau.und τ.n τ.ou
    have h4 := s8_one (f := fun t => if t < τ.n ∧ τ.ou t = 0 then 1 else 0) (g := fun t9 => if t9 < τ.n ∧ fu τ.ou t o t9 = 0 then 1 else 0) ht8 (fun i hi => by show (if _ then 1 else 0) = (if _ then 1 else 0); rw [fu_n hi])
    simp only [fu_s, ht, h0, true_and, and_self, if_true] at h4
    rw [if_neg (by omega)] at h4
    unfold Tau.und
    omega
  unfold Tau.decide'
  obtain ⟨r1, r2⟩ := Tau.sendAll_inv hI (k := 2 + o) (t := t) (fun s hs hb => by
    have e : ∀ P : Prop, (fu τ.ou t o t = o → P) → P := fun P h => h fu_s
    refine Tau.MsgOk.of ⟨by show 2 + o < 7; omega, ht, hs, hb, fun k => ?_, fun k => ?_, fun k => ?_, fun k => ?_⟩
    · show fu τ.ou t o t = 1; have k : 2 + o = 3 := k; rw [fu_s]; omega
    · show fu τ.ou t o t = 2; have k : 2 + o = 4 := k; rw [fu_s]; omega
    · have k : 2 + o = 1 := k; omega
    · have k : 2 + o = 5 := k; omega)
  refine ⟨r1, ?_⟩
  have h9 : Tau.wk (2 + o) = 2 := by rcases ho with rfl | rfl <;> rfl
  omega
