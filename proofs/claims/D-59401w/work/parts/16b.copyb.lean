/-! arraycopy of bytes -/
def w_copyb (E : g_E) (G : g_G) (a : Nat) (sp : Int32) (b : Nat) (dp n : Int32) (K : g_G → Prop) : Prop := ∃ (r0 r1 : g_R) (n0 n1 : Nat) (f g : Nat → Int32) (i j k : Nat), G a = some (r0, g_b E n0 f) ∧ G b = some (r1, g_b E n1 g) ∧ sp = nI i ∧ dp = nI j ∧ n = nI k ∧ i + k ≤ n0 ∧ j + k ≤ n1 ∧ n0 ≤ 2000000000 ∧ n1 ≤ 2000000000 ∧ (∀ t, t < k → fits .byte (.int (f (i + t))) = true) ∧ K (va_up G b (some (r1, g_b E n1 (va_cpy f g i j k))))
section GXB
variable {p : Program} {l : Launch} {e : Env} {R : Room} {s : State} {m : MethodId} {args : Array Value} {below : List Frame} {meth : Method} {c : Code} {H H0 : Heap} {locs : List Loc} {cells slots : Nat} {Q : State → Prop}
variable {cc : ByteArray} {pc : Nat} {ls : Array Slot} {rest : List Value} {E : g_E} {G : g_G} {a mc ms MC MS : Nat}
theorem gw_copyb (hexec : p.tables.exec = Jvm.exec) (hb : c.code = cc) (hml : c.maxLocals = ls.size) {own : String} {index : Nat} (hown : s.vm.findClass own = some m.cls) (hlink : (Cond.methodLink own index arraycopyName).before args s = true) (hnat : (Cond.native arraycopyName).before args s = true) (hstat : (Cond.static arraycopyName).before args s = true) (hini : (Cond.initialized "java/lang/System").before args s = true)
    (hK : g_K E s) (hG : g_H E G H) (hS : va_S (g_A E) s.heap H locs) {b : Nat} {sp dp n : Int32} {K : g_G → Prop} (hvc : w_copyb E G a sp b dp n K)
    (hframes : 1 ≤ R.frames) (hlocals : (rest.map fun v => v.category).sum + (nativeFrameWords "java/lang/System" "arraycopy" 5 + 11) ≤ R.locals) (hdg : decode cc pc = .ok (.invokestatic index, 3))
    (kk : ∀ (G1 : g_G) (H1 : Heap) (locs1 : List Loc), K G1 → g_H E G1 H1 → va_S (g_A E) s.heap H1 locs1 → W p l e R s m args below meth c H1 locs1 cells slots Q (F0 m (pc + 3) ls rest)) : W p l e R s m args below meth c H locs cells slots Q (F0 m pc ls (.int n :: .int dp :: .ref b :: .int sp :: .ref a :: rest)) := by
  obtain ⟨r0, r1, n0, n1, f, g, i, j, k, ha, hb1, rfl, rfl, rfl, h1, h2, h3, h4, hel, hk9⟩ := hvc
  obtain ⟨qa, hqa⟩ := hG.pos ha
  obtain ⟨qb, hqb⟩ := hG.pos hb1
  have ei := nI_clamp (n := i) (by omega)
  have ej := nI_clamp (n := j) (by omega)
  have ek := nI_clamp (n := k) (by omega)
  refine va_copyi hexec hb hml hown hlink hnat hstat hini hK hG.list hG.dist hS qa qb 2 2 (ty := .byte) hqa hqb rfl rfl rfl (nI_pos (by omega)) (nI_pos (by omega)) (nI_pos (by omega)) (by rw [ei, ek]; exact h1) (by rw [ej, ek]; exact h2) (fun t ht => ?_) hframes hlocals hdg (fun H1 locs1 hP _ hS1 => ?_)
  · rw [ek] at ht
    rw [ei]
    exact hel t ht
  · rw [ei, ej, ek] at hP
    exact kk _ H1 locs1 hk9 (hG.set hb1 hqb hP) hS1
end GXB
