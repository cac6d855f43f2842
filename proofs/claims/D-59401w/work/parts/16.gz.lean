/-! the law's wrappers, that catch: what a state holds besides -/
def g_Z (E : g_E) (U : State) : Prop := g_Y E U ∧ va_Nc "java/lang/IllegalArgumentException" "java/lang/IndexOutOfBoundsException" U ∧ va_Nc "java/lang/IllegalStateException" "java/lang/IndexOutOfBoundsException" U ∧ va_Nc "java/lang/IllegalStateException" "java/lang/IllegalArgumentException" U
theorem g_Z.ai {E : g_E} {U : State} (h : g_Z E U) : va_Nc "java/lang/IllegalArgumentException" "java/lang/IndexOutOfBoundsException" U := h.2.1
theorem g_Z.si {E : g_E} {U : State} (h : g_Z E U) : va_Nc "java/lang/IllegalStateException" "java/lang/IndexOutOfBoundsException" U := h.2.2.1
theorem g_Z.sa {E : g_E} {U : State} (h : g_Z E U) : va_Nc "java/lang/IllegalStateException" "java/lang/IllegalArgumentException" U := h.2.2.2
theorem g_Z.st (E : g_E) : g_St E (g_Z E) := by
  constructor
  · intro s U hW hq hZ
    obtain ⟨h1, h2, h3, h4⟩ := hZ
    have hv := hW.alike
    exact ⟨(g_Y.st E).1 s U hW hq h1, h2.moved hv, h3.moved hv, h4.moved hv⟩
  · intro a U g mk hZ
    have hv : U.vm.Alike (U.calling g mk a).vm := Vm.Alike.refl U.vm
    obtain ⟨h1, h2, h3, h4⟩ := hZ
    exact ⟨(g_Y.st E).2 a U g mk h1, h2.moved hv, h3.moved hv, h4.moved hv⟩
/-- a contract's two ends, the return last -/
abbrev g_px {α β : Sort _} (f : α → β → Prop) (px : β) (post : α) : Prop := f post px
/-- a method's start, of a class that has entries of the machine, the method none -/
theorem g_enterF {l : Launch} {y : MethodName} {rm : Room} {E : g_E} {X : State → Prop} {av : List Value} {G : g_G} {cc : ByteArray} {maxL : Nat} {ret : Option FieldType} {Qc : Array Value → State → Outcome → State → Prop} {free : Addr → Prop} (hy : plainFor y = true) (hle : (lg_sl av).length ≤ maxL)
    (body : ∀ (p : Program) (e : Env) (s : State) (m : MethodId) (below : List Frame) (meth : Method) (c : Code) (ls : Array Slot), p.tables.exec = Jvm.exec → c.code = cc → meth.sig.returnType = ret → (∀ w ∈ lw_all, w.before av.toArray s = true) → s.vm.findClass y.cls = some m.cls → meth.locks = false → c.maxLocals = maxL → meth.name = y.name → E.2.2 ≤ s.heap.size → X s → g_K E s → g_H E G s.heap → va_S (g_A E) s.heap s.heap [] → lv_has ls maxL (lv_args 0 av) →
      W p l e rm s m av.toArray below meth c s.heap [] 0 0 (MQ below Qc av.toArray s rm.cells rm.slots free) (F0 m 0 ls [])) : Met l y (ws_ y cc maxL ret) rm (g_Pc E X av G) Qc rm.cells rm.slots free := by
  refine va_MetF (cc := cc) (maxL := maxL) (ret := ret) hy rfl ?_
  intro p e s m args below meth c s₁ B hml hv
  obtain ⟨rfl, hz, hX, hK, hG⟩ := hv
  have hts := atoms_spec (ws := ws_ y cc maxL ret) B.pre
  rw [lg_entry_eq]
  exact body p e s m below meth c _ B.exec B.bytes B.returns (fun w h => hts w (List.mem_cons_of_mem _ h)) (findClass_of_methodNamed B.named) B.notSynchronized hml (name_of_methodNamed B.named B.method).1 hz hX hK hG va_S.rf (lv_entry av hle)
/-! ### A call of a method whose class isn't known to be initialized (the constants' own classes) -/
/-- the callee's run behind 'doInvoke' -/
theorem g_callNI {p : Program} {l : Launch} {e : Env} {rm : Room} {s : State} {m : MethodId} {args : Array Value} {mid below : List Frame} {acts : List Action} {y : MethodName} {methY : Method} {cY : Code} {maxL mc ms : Nat} {Qc : Array Value → State → Outcome → State → Prop} {free : Addr → Prop}
    (ha : l.admits e) (hc : FairCas e.choices) (hk : FairClock e.choices) (hfr : s.frames = mid ++ below) (hne : s.frames ≠ []) (hy : plainFor y = true)
    (hrun : (s.pushFrame (.invoking m args)).status = .running) (hable : (s.pushFrame (.invoking m args)).curStatus? = some .runnable) (halone : (s.pushFrame (.invoking m args)).alone = true)
    (hname : (s.pushFrame (.invoking m args)).methodNamed? y = some m) (hhears : (s.pushFrame (.invoking m args)).hears m s.frames = true) (hroom : (s.pushFrame (.invoking m args)).hasRoom e.platform rm = true)
    (hmeth : (s.pushFrame (.invoking m args)).vm.method? m = some methY) (hcode : methY.code = some cY) (hml : cY.maxLocals = maxL) (hlocks : methY.locks = false)
    (body : W p l e rm (s.pushFrame (.invoking m args)) m args s.frames methY cY (s.pushFrame (.invoking m args)).heap [] 0 0 (MQ s.frames Qc args (s.pushFrame (.invoking m args)) mc ms free) (entryFrame m args maxL)) :
    ∃ o s₂, Steps p.tables e below (doInvoke e s acts m args).1 s₂ ∧ s₂.status = .running ∧ Ended s₂ s.frames o ∧ Qc args (s.pushFrame (.invoking m args)) o s₂ ∧ ∃ L, FrameEnd (s.pushFrame (.invoking m args)) o s₂ L mc ms ∧ ∀ q ∈ L, free q.base := by
  obtain ⟨f0, r0, hf0⟩ : ∃ f r, s.frames = f :: r := by
    cases h : s.frames with
    | nil => exact absurd h hne
    | cons f r => exact ⟨f, r, rfl⟩
  obtain ⟨t, ht, -⟩ := State.frames_cons hf0
  have hlt : s.cur < s.threads.size := State.cur_lt_of_frames hf0
  have hf' : (s.pushFrame (.invoking m args)).frames = .invoking m args :: s.frames := State.frames_setFrames _ hlt
  have hcur := State.cur_lt_of_frames hf'
  have hf1 : ((s.pushFrame (.invoking m args)).setFrames (.java (entryFrame m args maxL) :: s.frames)).frames = .java (entryFrame m args maxL) :: s.frames := State.frames_setFrames _ hcur
  have ht1 := State.topJava?_of_frames hf1
  have hplain : ((s.pushFrame (.invoking m args)).setFrames (.java (entryFrame m args maxL) :: s.frames)).plainMethod m := State.plainMethod.of_named (s := s.pushFrame (.invoking m args)) hy hname hmeth
  have hAt : At ((s.pushFrame (.invoking m args)).setFrames (.java (entryFrame m args maxL) :: s.frames)) m cY s.frames :=
    ⟨by rw [ht1]; rfl, ⟨[], by rw [hf1]; rfl⟩, hrun, by simpa using hable, by simpa using halone, by rw [State.code?_eq]; simp [State.setFrames, hmeth, hcode], hplain⟩
  have hstep : (stepThread p.tables e (s.pushFrame (.invoking m args))).1 = ((s.pushFrame (.invoking m args)).setFrames (.java (entryFrame m args maxL) :: s.frames)).setTop (entryFrame m args maxL) := by
    have hfull : e.platform.stackFull ((s.pushFrame (.invoking m args)).setFrames s.frames).me ((s.pushFrame (.invoking m args)).setFrames s.frames).frames cY.maxLocals = false := by
      obtain ⟨-, h1, -, h2⟩ := State.hasRoom_stack hroom
      rw [hf', List.length_cons] at h1
      rw [State.localsInUse_invoking hf' hmeth hcode] at h2
      have hw := stackUse_le_stackWeight s.frames
      rw [State.frames_setFrames _ hcur]
      exact Platform.stackFull_eq_false (by rw [State.stackLimits_setFrames]; omega) (by rw [State.stackLimits_setFrames]; omega)
    rw [stepThread_invoking hf', (doInvoke_java (s := (s.pushFrame (.invoking m args)).setFrames s.frames) (e := e) (meth := methY) (code := cY) hmeth hcode hlocks hfull).1, State.setTop_self ht1]
    simp only [State.pushFrame, State.frames_setFrames _ hlt, State.frames_setFrames _ hcur, State.setFrames_setFrames, hml, entryFrame]
  have hstep2 : (stepThread p.tables e (s.pushFrame (.invoking m args))).1 = (doInvoke e s acts m args).1 := by
    rw [stepThread_invoking hf', doInvoke_state e s acts, State.pushFrame, State.setFrames_setFrames, State.setFrames_self ht]
  have hS : Stand p l e rm (s.pushFrame (.invoking m args)) m args s.frames methY cY ((s.pushFrame (.invoking m args)).setFrames (.java (entryFrame m args maxL) :: s.frames)) [] 0 0 := by
    obtain ⟨t9, ht9, -⟩ := State.frames_cons hf'
    refine ⟨ha, hc, hk, hf', hroom, hhears, hmeth, hcode, hAt, by rw [hf1]; rfl, State.WarmedH.refl _, by rw [State.stackLimits_setFrames], by rw [State.stackBytes_setFrames], ?_⟩
    have h := (State.sameButNew.refl (s.pushFrame (.invoking m args)) ht9).setFrames (.java (entryFrame m args maxL) :: s.frames) hcur
    exact h
  obtain ⟨t2, a1, o, b1, b2, b3, b4⟩ := body ((s.pushFrame (.invoking m args)).setFrames (.java (entryFrame m args maxL) :: s.frames)) rfl hS
  refine ⟨o, t2, ?_, b1, b2, b3, b4⟩
  rw [← hstep2, hstep]
  obtain ⟨n, hn, hw⟩ := a1
  exact ⟨n, hn, fun j hj => by
    have key : ∀ X9 : State, Within X9 s.frames → Within X9 below := fun X9 h9 => by rw [hfr] at h9; exact h9.weaken
    exact key _ (hw j hj)⟩
theorem g_backNI {l : Launch} {R rm : Room} {p : Program} {e : Env} {below : List Frame} {s : State} {sargs : Array Value} {y : MethodName} {len Wn mc ms maxL : Nat} {Pc : Array Value → State → Prop} {Qc : Array Value → State → Outcome → State → Prop} {free : Addr → Prop} {bytes : ByteArray} {ret : Option FieldType}
    (hy : plainFor y = true) (hblind : FrameBlind Pc) (hrc : rm.cells = mc) (hrs : rm.slots = ms) (hframes : rm.frames + 1 ≤ R.frames) (hlocals : Wn + (maxL + 11) + rm.locals ≤ R.locals)
    (hcode : ∀ (a' : Array Value) (U : State), s.WarmedH U.vm → (Cond.code y bytes maxL ret).before a' U = true)
    (body : ∀ (U : State) (mk : MethodId) (a : Array Value) (belowY : List Frame) (methY : Method) (cY : Code), s.WarmedH U.vm → U.methodNamed? y = some mk → U.vm.method? mk = some methY → cY.code = bytes → cY.maxLocals = maxL → methY.sig.returnType = ret → methY.locks = false → Pc a U →
      W p l e rm U mk a belowY methY cY U.heap [] 0 0 (MQ belowY Qc a U mc ms free) (entryFrame mk a maxL)) :
    Back l R p e below s sargs y len Wn (PreOf R mc ms Pc) (PostOf Qc mc ms free) := by
  intro m meth c A g ig mk a X hg hsize hdg hW hn hp
  obtain ⟨h4, h5, hPc⟩ := hp
  obtain ⟨U, Ls, c0, s0⟩ := A
  dsimp only [Pt.U, Pt.locs, Pt.cells, Pt.slots] at h4 h5 hPc X hn ⊢
  obtain ⟨methY, cY, hmY, hcY, hbY, hlY, hrY, hkY, -, -⟩ := Cond.code_spec hn (hcode a U X.warmed)
  have h : At U g.method c below := by rw [hg]; exact X.here
  have hroom : (U.calling g mk a).hasRoom e.platform rm = true := X.room_calling (g := g) (R' := rm) hsize hmY hcY hframes (by rw [hlY]; omega) (by rw [hrc]; exact h4) (by rw [hrs]; exact h5)
  obtain ⟨mid, hmid⟩ := h.above
  have hfr : (U.setTop g).frames = (.java g :: mid) ++ below := by rw [State.frames_setTop' g h.top, hmid]; rfl
  have hcode9 : (U.calling g mk a).code? g.method = some c := by
    have := h.code
    rw [State.code?_eq] at this ⊢
    simpa [State.calling, State.pushFrame, State.setFrames] using this
  have hhears : (U.calling g mk a).hears mk (U.setTop g).frames = true := by
    rw [State.frames_setTop' g h.top]
    simp [State.hears, hcode9, hdg, Except.toOption]
  obtain ⟨o, s₂, hsteps, -, hend, hq', L, hfe, hL⟩ := g_callNI (s := U.setTop g) (m := mk) (args := a) (acts := []) (mid := .java g :: mid) (below := below) (Qc := Qc) (free := free) (mc := mc) (ms := ms) X.admits X.cas X.clock hfr (by rw [hfr]; simp) hy
    h.running (by simpa [State.calling] using h.runnable) (by simpa [State.calling] using h.alone) hn hhears hroom hmY hcY hlY hkY
    (body (U.calling g mk a) mk a _ methY cY X.warmed hn hmY hbY hlY hrY hkY (hblind _ _ _ _ hPc))
  rw [State.frames_setTop' g h.top] at hend
  have hq2 : Qc a (U.calling g mk a) o s₂ := hq'
  have hfe2 : FrameEnd (U.calling g mk a) o s₂ L mc ms := hfe
  obtain ⟨⟨v, rfl⟩, hW₂, e2, q2, q3, q4, q5, q6⟩ := id hfe2
  have e3 : s₂ = ({ (U.calling g mk a).setFrames s₂.frames with heap := s₂.heap, slotsUsed := s₂.slotsUsed } : State).setVm s₂.vm := by
    have : s₂ = ({ s₂ with vm := (U.calling g mk a).vm } : State).setVm s₂.vm := rfl
    rw [e2] at this
    exact this
  obtain ⟨c₂, i₂, len₂, hc₂, hd₂, hf₂⟩ := hend
  have hW' : U.WarmedH s₂.vm := hW₂
  have hcc : c₂ = c := by
    have h1 : s₂.code? g.method = U.code? g.method := by rw [State.code?_eq, State.code?_eq, hW'.alike.method?]
    exact Option.some.inj (hc₂.symm.trans (h1.trans h.code))
  subst hcc
  have hlen : len₂ = len := by rw [hdg] at hd₂; cases hd₂; rfl
  subst hlen
  obtain ⟨g₀, hg0⟩ := Option.isSome_iff_exists.mp h.top
  obtain ⟨r, hr⟩ := State.topJava?_eq_some.mp hg0
  have hs₂ : s₂ = (({ U with heap := s₂.heap, slotsUsed := s₂.slotsUsed } : State).setVm s₂.vm).setTop { g with pc := g.pc + len₂, stack := v.toList ++ g.stack } := by
    have hr' : (({ U with heap := s₂.heap, slotsUsed := s₂.slotsUsed } : State).setVm s₂.vm).frames = .java g₀ :: r := hr
    refine e3.trans ?_
    rw [hf₂, State.calling_eq h.top, State.setFrames_setFrames, State.setTop_of_frames _ hr', hr]
    rfl
  have hsame : U.sameButNew ({ U with heap := s₂.heap, slotsUsed := s₂.slotsUsed } : State) L mc ms := by
    refine ⟨?_, q2, q3, q4, q5, q6⟩
    obtain ⟨t, ht, -⟩ := State.frames_cons hr
    show ({ U with heap := s₂.heap, slotsUsed := s₂.slotsUsed } : State) = { U.setFrames U.frames with heap := s₂.heap, slotsUsed := s₂.slotsUsed }
    rw [State.setFrames_self ht]
  subst hg
  refine ⟨v, ⟨(({ U with heap := s₂.heap, slotsUsed := s₂.slotsUsed } : State).setVm s₂.vm), Ls ++ L, c0 + mc, s0 + ms⟩,
    ⟨X.admits, X.cas, X.clock, X.frames, X.room, X.hears, X.method, X.code, (X.here.setHeapUsed s₂.heap s₂.slotsUsed).setVm hW'.alike, X.tail, State.WarmedH.trans X.warmed hW', X.limits, X.bytes, X.same.trans (hsame.setVm s.vm)⟩,
    ⟨g, mk, s₂, L, rfl, rfl, hq2, rfl, hL, rfl, rfl⟩, ?_⟩
  show Steps p.tables e below _ ((({ U with heap := s₂.heap, slotsUsed := s₂.slotsUsed } : State).setVm s₂.vm).setTop { g with pc := g.pc + len₂, stack := v.toList ++ g.stack })
  rw [← hs₂]
  exact hsteps
section NI2
variable {p : Program} {l : Launch} {e : Env} {R : Room} {s : State} {m : MethodId} {args : Array Value} {below : List Frame} {meth : Method} {c : Code} {H : Heap} {locs : List Loc} {cells slots : Nat} {Q : State → Prop}
theorem g_runNI {x y : MethodName} {bytes cc : ByteArray} {maxL nL mc ms n index : Nat} {ret : Option FieldType} {rm : Room} {Pc : Array Value → State → Prop} {Qc : Array Value → State → Outcome → State → Prop} {free : Addr → Prop} {own C : String} {b : Addr} {As rest : List Value} {g : JFrame}
    (S : CallFix p m c cc nL s args lw_all own) (hy : plainFor y = true) (hrc : rm.cells = mc) (hrs : rm.slots = ms) (hR : rm.frames + 1 ≤ R.frames ∧ 8 + (maxL + 11) + rm.locals ≤ R.locals)
    (body : ∀ (U : State) (mk : MethodId) (a : Array Value) (belowY : List Frame) (methY : Method) (cY : Code), (∀ w ∈ lw_all, ∀ a' : Array Value, w.before a' U = true) → U.methodNamed? y = some mk → U.vm.method? mk = some methY → cY.code = bytes → cY.maxLocals = maxL → methY.sig.returnType = ret → methY.locks = false → Pc a U →
      W p l e rm U mk a belowY methY cY U.heap [] 0 0 (MQ belowY Qc a U mc ms free) (entryFrame mk a maxL))
    (hlink : Cond.methodLink own index x ∈ lw_all) (hsame : Cond.sameMethod x.cls x.cls x.name x.desc ∈ lw_all) (hd0 : va_Decl s x) (hnm : x.cls ≠ "java/lang/invoke/MethodHandle" ∧ x.cls ≠ "java/lang/invoke/VarHandle") (hsel : Cond.selects C x y ∈ lw_all) (hinst : Cond.instanceMethod y ∈ lw_all) (hcode : Cond.code y bytes maxL ret ∈ lw_all)
    (hlen : (parseMethodDescriptor x.desc).map (fun d => d.parameters.length) = some n) (hp : PreV s H C b Pc As)
    (hg : g.method = m) (hn : As.length = n) (hsize : g.locals.size = nL) (hstack : g.stack = As.reverse ++ .ref b :: rest) (hW : 2 * g.monitorRoom + (rest.map fun v => v.category).sum ≤ 8) (hdg : decode cc g.pc = .ok (.invokevirtual index, 3)) (hf : cells + mc ≤ R.cells ∧ slots + ms ≤ R.slots) :
    va_Run p l e R s m args below meth c H locs cells slots mc ms g rest (Qc (Value.ref b :: As).toArray) (free) := by
  have hts : ∀ w ∈ lw_all, w.before args s = true := S.2.2.2.2
  have hall : ∀ w ∈ lw_all, ∀ (a' : Array Value) (U : State), s.WarmedH U.vm → w.before a' U = true := pay_in hts lw_self
  have hK : Back l R p e below s args y 3 8 (PreOf R mc ms Pc) (PostOf Qc mc ms free) :=
    g_backNI hy hp.1 hrc hrs hR.1 hR.2 (fun a' U hW => hall _ hcode a' U hW) (fun U mk a belowY methY cY hWm h1 h2 h3 h4 h5 h6 h7 => body U mk a belowY methY cY (fun w hw a' => hall w hw a' U hWm) h1 h2 h3 h4 h5 h6 h7)
  obtain ⟨hx, hb, hml, ho, -⟩ := S
  obtain ⟨-, ⟨cellB, hcB, hoB, hclB⟩, hPc⟩ := hp
  intro T hT X
  obtain ⟨v, vm₁, ⟨U', l2, c2, s2⟩, hW₁, X', ⟨g', mk, t, L, e1, e2, hq, h1, hL, h2, h3⟩, st⟩ := va_callVU X hx (C := C) (owner := x.cls) (bytes := bytes) (maxL := maxL) (ret := ret) ho (hts _ hlink) (hts _ hsame) hd0 hnm (hts _ hsel) (hts _ hinst) (hts _ hcode) hK (by rw [hT]; exact hcB) hoB hclB hg (hsize.trans hml.symm) (argsL := As) (rest := rest)
    (fun sig h => by rw [h] at hlen; exact hn.trans (Option.some.inj hlen).symm) hstack hW (by rw [hb]; exact hdg)
    (fun vm₁ hW₁ => ⟨hf.1, hf.2, hPc (T.setVm vm₁) hT hW₁⟩)
  dsimp only [Pt.U, Pt.locs, Pt.cells, Pt.slots] at X' e1 e2 h1 h2 h3 st
  subst h1; subst h2; subst h3
  exact ⟨v, (T.setVm vm₁).calling g' mk (Value.ref b :: As).toArray, t, U', L, hT, X', hL, e1, e2, hq, st⟩
end NI2
theorem g_decl {args : Array Value} {s : State} {x : MethodName} (h : (Cond.declares x).before args s = true) : va_Decl s x := Cond.declares_spec h
