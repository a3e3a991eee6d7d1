/-! FRAMEWORK 8: calls of methods that throw, by instruction -/
set_option maxRecDepth 100000
/-- the search in a table of one entry that catches -/
theorem catch_find {e : Env} {s : State} {f : JFrame} {a : Addr} {meth : Method} {code : Code} {x : ExceptionTableEntry} {c : ClassId} {cell : Cell} (hm : s.vm.method? f.method = some meth) (hc : meth.code = some code) (hl : code.exceptionTable.toList = [x]) (hx : covers x f.pc = true) (h0 : x.catchType ≠ 0)
    (hlk : s.vm.ClassLinks e.platform f.method.cls x.catchType c) (hcell : s.heap[a]? = some cell) (hobj : ∀ k, cell.vm ≠ .statics k) (hk : ∃ k, s.vm.classes[cell.cls]? = some k) (hcl : ∃ k, s.vm.classes[c]? = some k) (hfit : s.vm.assignable cell.cls c = true)
    (Q : Handler → Pre) (E : CtlPost) (d : Bool) (acts : List Action) : wp (findHandler f a) Q E e d acts s ↔ Q (.found x.handlerPc) d acts (s.setVm (s.vm.noted f.method.cls x.catchType (.cls c))) := by
  rw [W.findHandler_eq hm hc, hl]
  simp only [covers] at hx
  obtain ⟨ha, ht⟩ := (resolveClass_links e.toSetting hlk).op (op := VmOp.resolveClass f.method.cls x.catchType) rfl
  have hal : s.vm.Alike (s.vm.noted f.method.cls x.catchType (.cls c)) := (Vm.Alike.refl s.vm).noted _ _ _
  obtain ⟨k1, hk1⟩ := hk
  obtain ⟨k2, hk2⟩ := hcl
  obtain ⟨k3, hk3, -⟩ := hal.2.2 _ _ hk1
  obtain ⟨k4, hk4, -⟩ := hal.2.2 _ _ hk2
  have hfit2 : (s.vm.noted f.method.cls x.catchType (.cls c)).assignable cell.cls c = true := by rw [hal.assignable]; exact hfit
  simp [findHandler.go, hx, h0, ha, ht, hcell, hobj, hk3, hk4, hfit2, VmOp.dirties, VmOp.acts]
/-- from the throw to the handler's first instruction -/
theorem catch_step {tb : Tables} {e : Env} {s target : State} {g : JFrame} {c : Code} {below : List Frame} {a : Addr} (h : At s g.method c below) {pc : Nat} {vm2 : Vm}
    (hfind : ∀ (Q : Handler → Pre) (E : CtlPost) (d : Bool) (acts : List Action), wp (findHandler g a) Q E e d acts ((s.setTop g).pushFrame (.throwing a)) ↔ Q (.found pc) d acts (((s.setTop g).pushFrame (.throwing a)).setVm vm2)) (hrest : Steps tb e below ((s.setVm vm2).setTop { g with pc := pc, stack := [.ref a] }) target) :
    Steps tb e below ((s.setTop g).pushFrame (.throwing a)) target := by
  obtain ⟨hgo, hw⟩ := h.throwing a
  refine Steps.head hgo hw ?_
  have key : ∀ r : List Frame, (stepThrowing e ((s.setTop g).pushFrame (.throwing a)) a (.java g :: r)).Is ((((s.setTop g).pushFrame (.throwing a)).setVm vm2).setFrames (.java { g with pc := pc, stack := [.ref a] } :: r)) [] := by
    intro r
    simp only [stepThrowing, searchFrame, vmDo]
    generalize hr : Sem.go _ e false [] ((s.setTop g).pushFrame (.throwing a)) = res
    obtain ⟨as, rfl, ha⟩ := Sem.eq_ok_of hr (a := Handler.found pc) (s' := ((s.setTop g).pushFrame (.throwing a)).setVm vm2) (acts' := []) (by simp [hfind _ _ _ _])
    exact ⟨rfl, ha⟩
  rw [stepThread_throwing (frames_entered h.top _), (key _).1]
  obtain ⟨g0, hg⟩ := Option.isSome_iff_exists.mp h.top
  obtain ⟨r, hr⟩ := State.topJava?_eq_some.mp hg
  have hr2 : (s.setVm vm2).frames = .java g0 :: r := hr
  have hvf : ∀ (u : State) (F G : List Frame), ((u.setFrames F).setVm vm2).setFrames G = (u.setVm vm2).setFrames G := by
    intro u F G
    have h1 : (u.setFrames F).setVm vm2 = (u.setVm vm2).setFrames F := rfl
    rw [h1, State.setFrames_setFrames]
  rw [State.setTop_of_frames _ hr2] at hrest
  rw [hr, List.tail_cons, State.pushFrame, hvf, State.setTop_of_frames _ hr, hvf]
  exact hrest
section VT3
variable {Γ : GX} {k n : Nat} {hp : AH} {pc n' : Nat} {L : List (Option Value)} {st : List Value} {cc : ByteArray} {own : String} {ret : Option FieldType} {l l' c c' s s' : Nat}
  {y : MethodName} {b : ByteArray} {nL2 : Nat} {ret2 : Option FieldType} {As : List Value} {postx : Nat → AH → Prop} {i : Nat}
theorem vt_callV (h : Ok0 cc own ret (rmK l' c' s') Γ) {a ci N : Nat} {T : u_T} {fs : List Value} (hM : CtT (gD Γ).2.2.1 y b nL2 ret2 (rmK l c s) (.ref a :: As) hp postx) (hc : CL[ci]? = some (y.cls, T, N)) (he : hp a = some (.inr (ci, fs))) (hw : GoodIn lw_all (wsV own i y.cls y (ws_ y b nL2 ret2))) (hcode : Cond.code y b nL2 ret2 ∈ lw_all) (hini : Cond.initialized y.cls ∈ lw_all)
    (hd : y.cls ≠ "java/lang/invoke/MethodHandle" ∧ y.cls ≠ "java/lang/invoke/VarHandle" ∧ (parseMethodDescriptor y.desc).map (fun d => d.parameters.length) = some As.length) (hR : l + 1 ≤ l' ∧ nL2 ≤ 41) (hf : k + c ≤ c' ∧ n + s ≤ s') (hst : (st.map fun v => v.category).sum ≤ 8) (d : decode cc pc = .ok (.invokevirtual i, 3))
    (kk : ∀ x hp', postx x hp' → VT Γ (k + c) (n + s) hp' pc L st x) {st0 : List Value} (hs0 : st0 = As.reverse ++ .ref a :: st) : V Γ k n hp pc L st0 := fun H locs ls a1 a2 a3 a4 => by
  subst hs0
  have hts := h.2.2.2.2.2.1
  have hRR := h.2.2.2.2.2.2.2.2.2
  obtain ⟨⟨-, -, -, -, -, -, hcd, -, hy, hlen, hl⟩, hin, hse⟩ := cwV (R := rmK l' c' s') (rm := rmK l c s) As.length hts hw rfl rfl rfl ⟨rfl, hd⟩ (lvK (c := c) (s := s) (c' := c') (s' := s') hR)
  obtain ⟨cellB, hcB, hoB, hclB⟩ := v_recv h a1 hc he
  intro T0 hT X
  obtain ⟨mk, methM, hnamed, hmethM, hstM, habM⟩ := Cond.instanceMethod_spec hin
  obtain ⟨methM', cM, hmethM', -, -, -, -, -, -, hsigM⟩ := Cond.code_spec hnamed hcd
  cases hmethM.symm.trans hmethM'
  obtain ⟨c2, r2, m2, q1, q2, q3, q4, kP, hkP, hkPi⟩ := Cond.selects_spec hse
  cases hclB.symm.trans q1
  cases (State.methodFound?_of_named hnamed hy).symm.trans q2
  cases hnamed.symm.trans q3
  have hselP : selectMethod (gE Γ).platform (gS Γ).vm cellB.cls mk = .method mk := by rw [Launch.admits_selectMethod X.admits]; exact q4
  obtain ⟨vm₁, X₁, hstep₁⟩ := X.invokevirtual h.1 h.2.2.2.2.1 hl hnamed hmethM hstM hkP hkPi hy (a := a) (cell := cellB) (by rw [hT]; exact hcB)
    (fun z h => by rw [h] at hoB; cases hoB) hselP hmethM habM hkP hkPi (g := F0 (gM Γ) pc ls (As.reverse ++ .ref a :: st)) rfl (argsL := As) (rest := st) (hlen _ hsigM) rfl (by rw [h.2.1]; exact d)
  obtain ⟨t, t1, t2⟩ := vt_goes (As := .ref a :: As) h (fun sz => hM (gD Γ) rfl (gL Γ) sz) hcode hini hR hf hst d kk a1 a2 a3 a4 (T := T0.setVm vm₁) hT X₁ (X₁.named hnamed)
  exact ⟨t, hstep₁ _ fun acts => by rw [doInvoke_state]; exact t1, t2⟩
theorem VT.widen {k2 n2 x : Nat} (h1 : k ≤ k2) (h2 : n ≤ n2) (kk : VT Γ k2 n2 hp pc L st x) : VT Γ k n hp pc L st x := fun H locs ls a1 a2 a3 a4 T hT X => kk H locs ls a1 a2 a3 a4 T hT (stand_widen X h1 h2)
/-- thrown where one handler covers: the handler's code -/
theorem VT.into {R : Room} (h : Ok0 cc own ret R Γ) {x ci N : Nat} {C : String} {T : u_T} {fs : List Value} {p0 p1 p2 ct : Nat} (hx : (gC Γ).exceptionTable.toList.map (fun h => (h.startPc, h.endPc, h.handlerPc, h.catchType)) = [(p0, p1, p2, ct)]) (hpc : p0 ≤ pc ∧ pc < p1) (h0 : ct ≠ 0)
    (hlink : Cond.classLink own ct C ∈ lw_all) (hc : CL[ci]? = some (C, T, N)) (he : hp x = some (.inr (ci, fs))) (hcast : Cond.castable C C ∈ lw_tbl) (kk : V Γ k n hp p2 L [.ref x]) : VT Γ k n hp pc L st x := by
  intro H locs ls a1 a2 a3 a4 T0 hT X
  obtain ⟨cellB, hcB, hoB, hclB⟩ := v_recv h a1 hc he
  cases hl : (gC Γ).exceptionTable.toList with
  | nil => rw [hl] at hx; cases hx
  | cons y ys =>
    rw [hl] at hx
    cases ys with
    | cons y2 ys => simp at hx
    | nil =>
      simp only [List.map_cons, List.map_nil, List.cons.injEq, Prod.mk.injEq, and_true] at hx
      obtain ⟨e1, e2, e3, e4⟩ := hx
      obtain ⟨c3, cT, hc3, hcT, hasg⟩ := Cond.castable_spec (va_Nw.use (A := gArgs Γ) rfl (h.2.2.2.2.2.2.1.2.1 _ hcast rfl))
      cases hclB.symm.trans hc3
      obtain rfl : cellB.cls = cT := Option.some.inj (hc3.symm.trans hcT)
      have hpl : (gE Γ).platform.magicAccessors = ({} : Platform).magicAccessors := by rw [X.admits.platform]
      obtain ⟨c9, hc9, hcl⟩ := Cond.classLink_spec h.2.2.2.2.1 (h.2.2.2.2.2.1 _ hlink) (gE Γ).platform hpl
      cases hcT.symm.trans hc9
      obtain ⟨dk, _, _, kt, hd, _, _, _, _, hkt, _, hopen⟩ := hcl.here
      have hcl0 := X.warmed.classLinks hcl
      have hal := X.warmed.alike
      obtain ⟨kt2, hkt2, -⟩ := hal.2.2 _ _ hkt
      have hfit2 : T0.vm.assignable cellB.cls cellB.cls = true := by rw [hal.assignable]; exact hasg
      have XV := X.noted (X.warmed.noted hd hopen (State.rightAt_cls hcl))
      obtain ⟨t, t1, t2⟩ := kk H locs ls a1 a2 a3 a4 (T0.setVm (T0.vm.noted (gM Γ).cls ct (.cls cellB.cls))) hT XV
      refine ⟨t, ?_, t2⟩
      refine catch_step (g := F0 (gM Γ) pc ls st) (pc := p2) (vm2 := T0.vm.noted (gM Γ).cls ct (.cls cellB.cls)) X.here (fun Q E d acts => ?_) t1
      have q := catch_find (s := (T0.setTop (F0 (gM Γ) pc ls st)).pushFrame (.throwing x)) (f := F0 (gM Γ) pc ls st) (a := x) (x := y) (c := cellB.cls) (cell := cellB) (e := gE Γ) (meth := gMt Γ) (code := gC Γ) X.method' X.code hl (by unfold covers; rw [e1, e2]; simp only [Bool.and_eq_true, decide_eq_true_eq]; exact hpc) (by rw [e4]; exact h0) (by rw [e4]; exact hcl0) (by show T0.heap[x]? = _; rw [hT]; exact hcB) (VmData.ne_statics_of hoB) ⟨kt2, hkt2⟩ ⟨kt2, hkt2⟩ hfit2 Q E d acts
      rw [e3, e4] at q
      exact q
/-- a static field that no one changes -/
theorem v_getsQ {R : Room} (h : Ok0 cc own ret R Γ) {i : Nat} (hw : Cond.fieldLink own i "java/lang/Throwable" "UNASSIGNED_STACK" "[Ljava/lang/StackTraceElement;" ∈ lw_all) (d : decode cc pc = .ok (.getstatic i, 3)) (hn : pc + 3 = n') (kk : ∀ o : Option Nat, V Γ k n hp n' L (va_rf o :: st)) : V Γ k n hp pc L st := fun H locs ls a1 a2 a3 a4 => by
  subst hn
  rcases h.2.2.2.2.2.2.1.2.2.2.2.2.2.2.1 with hz | ⟨t, hz⟩
  · exact va_gets h.1 h.2.1 hz a3 h.2.2.2.2.1 (h.2.2.2.2.2.1 _ hw) (fun x hx => hx) d (kk none H locs ls a1 a2 a3 a4)
  · exact va_gets h.1 h.2.1 hz a3 h.2.2.2.2.1 (h.2.2.2.2.2.1 _ hw) (fun x hx => hx) d (kk (some t) H locs ls a1 a2 a3 a4)
theorem v_getsP {R : Room} (h : Ok0 cc own ret R Γ) {i : Nat} (hw : Cond.fieldLink own i "java/lang/Throwable" "SUPPRESSED_SENTINEL" "Ljava/util/List;" ∈ lw_all) (d : decode cc pc = .ok (.getstatic i, 3)) (hn : pc + 3 = n') (kk : ∀ o : Option Nat, V Γ k n hp n' L (va_rf o :: st)) : V Γ k n hp pc L st := fun H locs ls a1 a2 a3 a4 => by
  subst hn
  rcases h.2.2.2.2.2.2.1.2.2.2.2.2.2.2.2 with hz | ⟨t, hz⟩
  · exact va_gets h.1 h.2.1 hz a3 h.2.2.2.2.1 (h.2.2.2.2.2.1 _ hw) (fun x hx => hx) d (kk none H locs ls a1 a2 a3 a4)
  · exact va_gets h.1 h.2.1 hz a3 h.2.2.2.2.1 (h.2.2.2.2.2.1 _ hw) (fun x hx => hx) d (kk (some t) H locs ls a1 a2 a3 a4)
end VT3
/-! methods with handlers -/
abbrev HL := List (Nat × Nat × Nat × Nat)
def CtW (de : Nat) (y : MethodName) (b : ByteArray) (nL : Nat) (ret : Option FieldType) (hh : HL) (rm : Room) (As : List Value) (hp : AH) (post : Option Value → AH → Prop) : Prop :=
  ∀ D : DD, D.2.2.1 = de → ∀ (l : Launch) (sz : Nat), Met l y (wsW_ y b nL ret hh) rm (va_Pc As (fun U => U.heap.size = sz ∧ HW D hp U.heap ∧ EE D (AA hp sz) U)) (QG D post (AA hp sz)) rm.cells rm.slots (AA hp sz)
theorem CtW.of {de : Nat} {y : MethodName} {b : ByteArray} {nL : Nat} {ret : Option FieldType} {hh : HL} {As : List Value} {hp : AH} {post : Option Value → AH → Prop} {L : List (Option Value)} {l c s : Nat} (hy : plainName y.cls = true) (hL : EL As nL L)
    (body : ∀ Γ : GX, Ok0 b y.cls ret (rmK l c s) Γ → Rt post c s Γ → (gMt Γ).name = y.name → (gD Γ).2.2.1 = de → (gC Γ).exceptionTable.toList.map (fun h => (h.startPc, h.endPc, h.handlerPc, h.catchType)) = hh → V Γ 0 0 hp 0 L []) : CtW de y b nL ret hh (rmK l c s) As hp post := by
  intro D hD l0 sz
  refine va_MetW (cc := b) (maxL := nL) (ret := ret) (hh := hh) hy rfl ?_
  intro p e s0 m args below meth cd s₁ B hml hv
  obtain ⟨rfl, hsz, hP, hE⟩ := hv
  subst hsz
  have hts0 := atoms_spec (ws := wsW_ y b nL ret hh) B.pre
  have hts : ∀ w ∈ lw_all, w.before As.toArray s0 = true := fun w h => hts0 w (List.mem_cons_of_mem _ h)
  have hx : cd.exceptionTable.toList.map (fun h => (h.startPc, h.endPc, h.handlerPc, h.catchType)) = hh := by
    obtain ⟨m9, meth9, c9, hn9, h1, h2, -, -, h3, -⟩ := Cond.codeWith_spec (hts0 _ List.mem_cons_self)
    cases B.named.symm.trans hn9
    cases B.method.symm.trans h1
    cases (Stand.of_body B).code.symm.trans h2
    exact h3
  rw [lg_entry_eq]
  exact body (p, l0, e, rmK l c s, s0, m, As.toArray, below, meth, cd, D, AA hp s0.heap.size, nL, MQ below (QG D post (AA hp s0.heap.size)) As.toArray s0 (rmK l c s).cells (rmK l c s).slots (AA hp s0.heap.size))
    ⟨B.exec, B.bytes, hml, B.returns, findClass_of_methodNamed B.named, hts, hE, fun q h => Or.inr h, B.notSynchronized, rfl⟩ rfl (name_of_methodNamed B.named B.method).1 hD hx s0.heap [] _ hP (fun a h => Or.inl h) va_S.rf hL.lh
section VRW
variable {p : Program} {l : Launch} {e : Env} {R : Room} {s : State} {m : MethodId} {args : Array Value} {below : List Frame} {meth : Method} {c : Code} {H : Heap} {locs : List Loc} {cells slots : Nat} {Q : State → Prop}
variable {y : MethodName} {bytes cc : ByteArray} {maxL nL mc ms n index : Nat} {ret : Option FieldType} {hh : HL} {ws : List Cond} {rm : Room} {Pc : Array Value → State → Prop} {Qc : Array Value → State → Outcome → State → Prop} {free : Addr → Prop} {Ts : List Cond} {own C : String} {b : Addr} {As rest : List Value} {g : JFrame}
theorem v_runVW (S : CallFix p m c cc nL s args lw_all own) (hM : Met l y (wsW_ y bytes maxL ret hh) rm Pc Qc mc ms free) (hl : Cond.methodLink own index y ∈ lw_all) (hinst : Cond.instanceMethod y ∈ lw_all) (hsel : Cond.selects C y y ∈ lw_all) (hini : Cond.initialized y.cls ∈ lw_all) (hcode : Cond.codeWith y bytes maxL ret hh ∈ lw_all) (hrc : rm.cells = mc) (hrs : rm.slots = ms)
    (hd : y.cls ≠ "java/lang/invoke/MethodHandle" ∧ y.cls ≠ "java/lang/invoke/VarHandle" ∧ (parseMethodDescriptor y.desc).map (fun d => d.parameters.length) = some As.length) (hR : rm.frames + 1 ≤ R.frames ∧ 8 + (maxL + 11) + rm.locals ≤ R.locals) (hp : PreV s H C b Pc As)
    (hg : g.method = m) (hsize : g.locals.size = nL) (hstack : g.stack = As.reverse ++ .ref b :: rest) (hW : 2 * g.monitorRoom + (rest.map fun v => v.category).sum ≤ 8) (hdg : decode cc g.pc = .ok (.invokevirtual index, 3)) (hf : cells + mc ≤ R.cells ∧ slots + ms ≤ R.slots) :
    va_Run p l e R s m args below meth c H locs cells slots mc ms g rest (Qc (Value.ref b :: As).toArray) (free) := by
  obtain ⟨hx, hb, hml, ho, hts⟩ := S
  have hK : Back l R p e below s args y 3 8 (PreOf R mc ms Pc) (PostOf Qc mc ms free) := va_backW (hh := hh) (bytes := bytes) (maxL := maxL) (ret := ret) hM hp.1 hrc hrs hR.1 hR.2 (pay_in hts (lw_methW hcode)) List.mem_cons_self (fun a' U hW => word_at hW (Or.inl (by first | rfl | simp [Cond.onTables, Cond.keeps, Cond.steady])) (hts _ hini))
  obtain ⟨-, ⟨cellB, hcB, hoB, hclB⟩, hPc⟩ := hp
  intro T hT X
  obtain ⟨mk, methM, hnamed, hmethM, hstM, habM⟩ := Cond.instanceMethod_spec (hts _ hinst)
  obtain ⟨m9, methM', cM, hn9, hmethM', -, -, -, -, -, -, hsigM⟩ := Cond.codeWith_spec (hts _ hcode)
  cases hnamed.symm.trans hn9
  cases hmethM.symm.trans hmethM'
  obtain ⟨c2, r2, m2, q1, q2, q3, q4, kP, hkP, hkPi⟩ := Cond.selects_spec (hts _ hsel)
  cases hclB.symm.trans q1
  cases (State.methodFound?_of_named hnamed ⟨hd.1, hd.2.1⟩).symm.trans q2
  cases hnamed.symm.trans q3
  have hselP : selectMethod e.platform s.vm cellB.cls mk = .method mk := by rw [Launch.admits_selectMethod X.admits]; exact q4
  have hlen : As.length = methM.sig.parameters.length := by
    have h2 := hd.2.2
    rw [hsigM] at h2
    exact (Option.some.inj h2).symm
  obtain ⟨vm₁, X₁, hstep₁⟩ := X.invokevirtual hx ho (hts _ hl) hnamed hmethM hstM hkP hkPi ⟨hd.1, hd.2.1⟩ (a := b) (cell := cellB) (by rw [hT]; exact hcB)
    (fun z h => by rw [h] at hoB; cases hoB) hselP hmethM habM hkP hkPi (g := g) hg (argsL := As) (rest := rest) hlen hstack (by rw [hb]; exact hdg)
  obtain ⟨v, ⟨U', l2, c2, s2⟩, X', ⟨g', mk', t, L, e1, e2, hq, h1, hL, h2, h3⟩, hsteps⟩ := hK m meth c ⟨T.setVm vm₁, locs, cells, slots⟩ { g with stack := rest } (.invokevirtual index) mk (Value.ref b :: As).toArray X₁ hg (hsize.trans hml.symm) (by rw [hb]; exact hdg) hW (X₁.named hnamed) ⟨hf.1, hf.2, hPc (T.setVm vm₁) hT X₁.warmed⟩
  dsimp only [Pt.U, Pt.locs, Pt.cells, Pt.slots] at X' e1 e2 h1 h2 h3 hsteps
  subst h1; subst h2; subst h3
  exact ⟨v, (T.setVm vm₁).calling g' mk' (Value.ref b :: As).toArray, t, U', L, hT, X', hL, e1, e2, hq, fun target h => hstep₁ _ fun acts => by rw [doInvoke_state]; exact hsteps.trans h⟩
end VRW
